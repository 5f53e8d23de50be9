/-! walks of the twin (printed by gen/walk.py) -/
set_option maxRecDepth 100000
def m_X3_in_18 (f : Nat) (y0 : Int32) : Option Int32 := gd (zb y0) <|
    some y0
def m_X3_in_17 (f : Nat)  : Option Int32 := m_X3_in_18 f (0 : Int32)
def m_X3_in (f : Nat) (x0 : Int64) (x2 : Int64) (x4 : Int64) : Option Int32 := if x0 < x2 then
    m_X3_in_17 f 
    else if x4 < x0 then
    m_X3_in_17 f 
    else m_X3_in_18 f (1 : Int32)
abbrev rm_X3_in : Room := { frames := 0, cells := 0, slots := 0, locals := 0 }
theorem cw_X3_in {R : Room} {s : State} {args : Array Value} {own : String} {idx : Nat} (hts : ∀ w ∈ lw_all, w.before args s = true) (hl : Cond.methodLink own idx yX3_in ∈ lw_all) (hR : rm_X3_in.frames + 1 ≤ R.frames ∧ 8 + (6 + 11) + rm_X3_in.locals ≤ R.locals) : CallB R s args own idx yX3_in cX3_in 6 (Option.some Jvm.ClassFile.FieldType.boolean) (ws_ yX3_in cX3_in 6 (Option.some Jvm.ClassFile.FieldType.boolean)) rm_X3_in 0 0 3 ∧ (Cond.static yX3_in).before args s = true := va_cwS 3 hts (lw_S hl q1696 q125 q1697) rfl rfl rfl (by decide +kernel) hR
set_option maxHeartbeats 4000000 in
set_option maxRecDepth 100000 in
theorem w_X3_in (l : Launch) {f : Nat} {x0 : Int64} {x2 : Int64} {x4 : Int64} {r0 : Int32} (hm : m_X3_in f x0 x2 x4 = some r0) : Met l yX3_in (ws_ yX3_in cX3_in 6 (Option.some Jvm.ClassFile.FieldType.boolean)) rm_X3_in (va_Pc [.long x0, .long x2, .long x4] (fun _ => True)) (vp_Si (fun r => r = r0)) 0 0 (fun _ => False) := by
  refine Met.ofW (cc := cX3_in) (maxL := 6) (ret := (Option.some Jvm.ClassFile.FieldType.boolean)) (by decide) rfl ?_
  intro p e s m args below meth c s₁ B hml hv
  have hx := B.exec
  have hb := B.bytes
  have hr := B.returns
  have hts := atoms_spec (ws := (ws_ yX3_in cX3_in 6 (Option.some Jvm.ClassFile.FieldType.boolean))) B.pre
  have hts : ∀ w ∈ lw_all, w.before args s = true := fun w h => hts w (List.mem_cons_of_mem _ h)
  have hown : s.vm.findClass RX3 = some m.cls := findClass_of_methodNamed B.named
  have hlocks := B.notSynchronized
  obtain ⟨hav, hv⟩ := hv
  generalize hQ : MQ below (vp_Si (fun r => r = r0)) args s 0 0 (fun _ => False) = QQ
  have hent := lg_entry_eq m [.long x0, .long x2, .long x4] 6
  rw [← hav] at hent
  rw [hent]
  have hl := lv_entry ([.long x0, .long x2, .long x4]) (n := 6) (Nat.le_of_ble_eq_true rfl)
  generalize (lg_sl ([.long x0, .long x2, .long x4]) ++ List.replicate (6 - (lg_sl ([.long x0, .long x2, .long x4])).length) Slot.unset).toArray = ls at hl ⊢
  have hl : lv_has ls 6 [(0, .long x0), (2, .long x2), (4, .long x4)] := hl
  change W p l e rm_X3_in s m args below meth c s.heap [] 0 0 QQ (F0 m 0 ls [])
  have hB18 : ∀ (y0 : Int32) (ls : Array Slot), m_X3_in_18 f y0 = some r0 → lv_has ls 6 [] → W p l e rm_X3_in s m args below meth c s.heap [] 0 0 QQ (F0 m 18 ls [.int y0]) := by
    intro y0 ls hm hl
    rw [m_X3_in_18] at hm
    obtain ⟨g1, hm⟩ := gdE hm
    rw [← hQ]
    exact W.zret (v := y0) hx hb hr (zb_nar g1) (fun t ht hW => ⟨y0, rfl, ret1 hm, ht⟩) (fun q h => absurd h List.not_mem_nil) dX3_in_18
  have hB17 : ∀  (ls : Array Slot), m_X3_in_17 f  = some r0 → lv_has ls 6 [] → W p l e rm_X3_in s m args below meth c s.heap [] 0 0 QQ (F0 m 17 ls []) := by
    intro ls hm hl
    rw [m_X3_in_17] at hm
    refine lv_iconst (v := 0) hx hb dX3_in_17 (by decide) ?_
    exact hB18 (0 : Int32) _ hm (lv_sub hl [] rfl)
  rw [m_X3_in] at hm
  refine lv_lload_n hx hb dX3_in_0 rfl (lv_at hl 0 rfl) ?_
  refine lv_lload_n hx hb dX3_in_1 rfl (lv_at hl 1 rfl) ?_
  refine lc_lt (tgt := 17) hx hb dX3_in_2 dX3_in_3 (by decide) (fun c1 => ?_) (fun c1 => ?_)
  · have hm := ifT hm c1
    exact hB17  _ hm (lv_sub hl [] rfl)
  · have hm := ifF hm c1
    refine lv_lload_n hx hb dX3_in_6 rfl (lv_at hl 0 rfl) ?_
    refine lv_lload hx hb dX3_in_7 (lv_at hl 2 rfl) ?_
    refine lc_gt (tgt := 17) hx hb dX3_in_9 dX3_in_10 (by decide) (fun c2 => ?_) (fun c2 => ?_)
    · have hm := ifT hm c2
      exact hB17  _ hm (lv_sub hl [] rfl)
    · have hm := ifF hm c2
      refine lv_iconst (v := 1) hx hb dX3_in_13 (by decide) ?_
      refine lv_goto (tgt := 18) hx hb dX3_in_14 (by decide) ?_
      exact hB18 (1 : Int32) _ hm (lv_sub hl [] rfl)
def m_X3_end (f : Nat) (u : TS) (x1 : Int32) : Option (Int32 × TS) := bd (m_X3_in f (Int32.toInt64 x1) (0 : Int64) (Int32.toInt64 (tI u 4))) fun r1 =>
    if ¬ r1 = 0 then
    nmv (sI u 4 x1) fun u3 =>
    some (x1, u3)
    else some ((-1 : Int32), u)
abbrev rm_X3_end : Room := { frames := 1, cells := 0, slots := 0, locals := 25 }
theorem cw_X3_end {R : Room} {s : State} {args : Array Value} {own : String} {idx : Nat} (hts : ∀ w ∈ lw_all, w.before args s = true) (hl : Cond.methodLink own idx yX3_end ∈ lw_all) (hR : rm_X3_end.frames + 1 ≤ R.frames ∧ 8 + (2 + 11) + rm_X3_end.locals ≤ R.locals) : CallW R s args own RX3 idx yX3_end cX3_end 2 (Option.some Jvm.ClassFile.FieldType.int) (ws_ yX3_end cX3_end 2 (Option.some Jvm.ClassFile.FieldType.int)) rm_X3_end 0 0 1 := cwV 1 hts (lw_V hl q1692 q1693 q125 q1694) rfl rfl rfl (by decide +kernel) hR
set_option maxHeartbeats 4000000 in
set_option maxRecDepth 100000 in
theorem w_X3_end (l : Launch) {D : va_G} {ad : Nat → Nat} {dI dJ : ClassId} {A : Nat → Prop} {f : Nat} {u u9 : TS} {r0 : Int32} {x1 : Int32} (hm : m_X3_end f u x1 = some (r0, u9)) : Met l yX3_end (ws_ yX3_end cX3_end 2 (Option.some Jvm.ClassFile.FieldType.int)) rm_X3_end (va_Pc [.ref (ad 40), .int x1] (TPre D ad dI dJ A u)) (va_Qi (fun r u => r = r0 ∧ u = u9) (TPost D ad dI dJ A) A) 0 0 A := by
  refine Met.ofW (cc := cX3_end) (maxL := 2) (ret := (Option.some Jvm.ClassFile.FieldType.int)) (by decide) rfl ?_
  intro p e s m args below meth c s₁ B hml hv
  have hx := B.exec
  have hb := B.bytes
  have hr := B.returns
  have hts := atoms_spec (ws := (ws_ yX3_end cX3_end 2 (Option.some Jvm.ClassFile.FieldType.int))) B.pre
  have hts : ∀ w ∈ lw_all, w.before args s = true := fun w h => hts w (List.mem_cons_of_mem _ h)
  have hown : s.vm.findClass RX3 = some m.cls := findClass_of_methodNamed B.named
  have hlocks := B.notSynchronized
  obtain ⟨hav, hv⟩ := hv
  have C : TC p s m args c cX3_end D dI dJ := ⟨hx, hb, hown, hts, hv.2.1⟩
  have hw : TH D ad dI dJ A s.heap u s.heap [] := ⟨hv.1, hv.2.2.1, va_S.rf, hv.2.2.2⟩
  generalize hQ : MQ below (va_Qi (fun r u => r = r0 ∧ u = u9) (TPost D ad dI dJ A) A) args s 0 0 A = QQ
  have hent := lg_entry_eq m [.ref (ad 40), .int x1] 2
  rw [← hav] at hent
  rw [hent]
  have hl := lv_entry ([.ref (ad 40), .int x1]) (n := 2) (Nat.le_of_ble_eq_true rfl)
  generalize (lg_sl ([.ref (ad 40), .int x1]) ++ List.replicate (2 - (lg_sl ([.ref (ad 40), .int x1])).length) Slot.unset).toArray = ls at hl ⊢
  have hl : lv_has ls 2 [(0, .ref (ad 40)), (1, .int x1)] := hl
  change W p l e rm_X3_end s m args below meth c s.heap [] 0 0 QQ (F0 m 0 ls [])
  rw [m_X3_end] at hm
  refine lv_iload_n hx hb dX3_end_0 rfl (lv_at hl 1 rfl) ?_
  refine lv_i2l hx hb dX3_end_1 rfl ?_
  refine lv_lconst (v := 0) hx hb dX3_end_2 (by decide) ?_
  refine lv_aload_n hx hb dX3_end_3 rfl (lv_at hl 0 rfl) ?_
  refine tg_get C hw 4 (by decide) q1570 rfl dX3_end_4 ?_
  refine lv_i2l hx hb dX3_end_7 rfl ?_
  obtain ⟨r1, er1, hm⟩ := bdE hm
  refine sci (va_runS (As := [.long (Int32.toInt64 x1), .long (0 : Int64), .long (Int32.toInt64 (tI u 4))]) (rest := []) ⟨hx, hb, hml, hown, hts⟩ (w_X3_in l er1) (cw_X3_in hts q1695 ⟨Nat.le_of_ble_eq_true rfl, Nat.le_of_ble_eq_true rfl⟩) (pre_s _) rfl rfl hl.1 rfl (lv_room (Nat.le_of_ble_eq_true rfl)) dX3_end_8 ⟨Nat.le_of_ble_eq_true rfl, Nat.le_of_ble_eq_true rfl⟩) ?_
  refine lv_if_ne (tgt := 16) hx hb dX3_end_11 (by decide) (fun c2 => ?_) (fun c2 => ?_)
  · have hm := ifT hm c2
    refine lv_aload_n hx hb dX3_end_16 rfl (lv_at hl 0 rfl) ?_
    refine lv_iload_n hx hb dX3_end_17 rfl (lv_at hl 1 rfl) ?_
    refine tg_put C hw 4 (by decide) q1570 rfl rfl rfl (ts_4 ad dI dJ u x1) dX3_end_18 (fun H locs hw => ?_)
    obtain ⟨u3, eu3, hm⟩ := nmE hm
    rw [← eu3] at hw
    refine lv_iload_n hx hb dX3_end_21 rfl (lv_at hl 1 rfl) ?_
    rw [← hQ]
    exact W.iret (v := x1) hx hb hr (fun t ht hW => ⟨⟨x1, u3, rfl, retE hm, by rw [ht]; exact hw.1, hw.2.1⟩, hw.2.2.1.F ht⟩) hw.2.2.1.2.2 dX3_end_22
  · have hm := ifT' hm c2
    refine lv_iconst (v := -1) hx hb dX3_end_14 (by decide) ?_
    rw [← hQ]
    exact W.iret (v := (-1 : Int32)) hx hb hr (fun t ht hW => ⟨⟨(-1 : Int32), u, rfl, retE hm, by rw [ht]; exact hw.1, hw.2.1⟩, hw.2.2.1.F ht⟩) hw.2.2.1.2.2 dX3_end_15
def m_X3_isAt_36 (f : Nat) (u : TS) (y0 : Int32) : Option (Int32 × TS) := gd (zb y0) <|
    some (y0, u)
def m_X3_isAt_35 (f : Nat) (u : TS) : Option (Int32 × TS) := m_X3_isAt_36 f u (0 : Int32)
def m_X3_isAt (f : Nat) (u : TS) (x1 : Int32) (x2 : Int32) : Option (Int32 × TS) := if (tI u 4) ≤ (tI u 11) then
    m_X3_isAt_35 f u
    else gd (ix (tI u 11) 500) <|
    bd (m_X3_in f (Int32.toInt64 (tA u 3 (Int32.toNatClampNeg (tI u 11)))) (Int32.toInt64 x1) (Int32.toInt64 x2)) fun r3 =>
    if r3 = 0 then
    m_X3_isAt_35 f u
    else m_X3_isAt_36 f u (1 : Int32)
abbrev rm_X3_isAt : Room := { frames := 1, cells := 0, slots := 0, locals := 25 }
theorem cw_X3_isAt {R : Room} {s : State} {args : Array Value} {own : String} {idx : Nat} (hts : ∀ w ∈ lw_all, w.before args s = true) (hl : Cond.methodLink own idx yX3_isAt ∈ lw_all) (hR : rm_X3_isAt.frames + 1 ≤ R.frames ∧ 8 + (3 + 11) + rm_X3_isAt.locals ≤ R.locals) : CallW R s args own RX3 idx yX3_isAt cX3_isAt 3 (Option.some Jvm.ClassFile.FieldType.boolean) (ws_ yX3_isAt cX3_isAt 3 (Option.some Jvm.ClassFile.FieldType.boolean)) rm_X3_isAt 0 0 2 := cwV 2 hts (lw_V hl q1708 qs55 q125 q1709) rfl rfl rfl (by decide +kernel) hR
set_option maxHeartbeats 4000000 in
set_option maxRecDepth 100000 in
theorem w_X3_isAt (l : Launch) {D : va_G} {ad : Nat → Nat} {dI dJ : ClassId} {A : Nat → Prop} {f : Nat} {u u9 : TS} {r0 : Int32} {x1 : Int32} {x2 : Int32} (hm : m_X3_isAt f u x1 x2 = some (r0, u9)) : Met l yX3_isAt (ws_ yX3_isAt cX3_isAt 3 (Option.some Jvm.ClassFile.FieldType.boolean)) rm_X3_isAt (va_Pc [.ref (ad 40), .int x1, .int x2] (TPre D ad dI dJ A u)) (va_Qi (fun r u => r = r0 ∧ u = u9) (TPost D ad dI dJ A) A) 0 0 A := by
  refine Met.ofW (cc := cX3_isAt) (maxL := 3) (ret := (Option.some Jvm.ClassFile.FieldType.boolean)) (by decide) rfl ?_
  intro p e s m args below meth c s₁ B hml hv
  have hx := B.exec
  have hb := B.bytes
  have hr := B.returns
  have hts := atoms_spec (ws := (ws_ yX3_isAt cX3_isAt 3 (Option.some Jvm.ClassFile.FieldType.boolean))) B.pre
  have hts : ∀ w ∈ lw_all, w.before args s = true := fun w h => hts w (List.mem_cons_of_mem _ h)
  have hown : s.vm.findClass RX3 = some m.cls := findClass_of_methodNamed B.named
  have hlocks := B.notSynchronized
  obtain ⟨hav, hv⟩ := hv
  have C : TC p s m args c cX3_isAt D dI dJ := ⟨hx, hb, hown, hts, hv.2.1⟩
  have hw : TH D ad dI dJ A s.heap u s.heap [] := ⟨hv.1, hv.2.2.1, va_S.rf, hv.2.2.2⟩
  generalize hQ : MQ below (va_Qi (fun r u => r = r0 ∧ u = u9) (TPost D ad dI dJ A) A) args s 0 0 A = QQ
  have hent := lg_entry_eq m [.ref (ad 40), .int x1, .int x2] 3
  rw [← hav] at hent
  rw [hent]
  have hl := lv_entry ([.ref (ad 40), .int x1, .int x2]) (n := 3) (Nat.le_of_ble_eq_true rfl)
  generalize (lg_sl ([.ref (ad 40), .int x1, .int x2]) ++ List.replicate (3 - (lg_sl ([.ref (ad 40), .int x1, .int x2])).length) Slot.unset).toArray = ls at hl ⊢
  have hl : lv_has ls 3 [(0, .ref (ad 40)), (1, .int x1), (2, .int x2)] := hl
  change W p l e rm_X3_isAt s m args below meth c s.heap [] 0 0 QQ (F0 m 0 ls [])
  have hB36 : ∀ (u : TS) (y0 : Int32) (H : Heap) (locs : List Loc) (ls : Array Slot), m_X3_isAt_36 f u y0 = some (r0, u9) → TH D ad dI dJ A s.heap u H locs → lv_has ls 3 [] → W p l e rm_X3_isAt s m args below meth c H locs 0 0 QQ (F0 m 36 ls [.int y0]) := by
    intro u y0 H locs ls hm hw hl
    rw [m_X3_isAt_36] at hm
    obtain ⟨g1, hm⟩ := gdE hm
    rw [← hQ]
    exact W.zret (v := y0) hx hb hr (zb_nar g1) (fun t ht hW => ⟨⟨y0, u, rfl, retE hm, by rw [ht]; exact hw.1, hw.2.1⟩, hw.2.2.1.F ht⟩) hw.2.2.1.2.2 dX3_isAt_36
  have hB35 : ∀ (u : TS) (H : Heap) (locs : List Loc) (ls : Array Slot), m_X3_isAt_35 f u = some (r0, u9) → TH D ad dI dJ A s.heap u H locs → lv_has ls 3 [] → W p l e rm_X3_isAt s m args below meth c H locs 0 0 QQ (F0 m 35 ls []) := by
    intro u H locs ls hm hw hl
    rw [m_X3_isAt_35] at hm
    refine lv_iconst (v := 0) hx hb dX3_isAt_35 (by decide) ?_
    exact hB36 u (0 : Int32) _ _ _ hm hw (lv_sub hl [] rfl)
  rw [m_X3_isAt] at hm
  refine lv_aload_n hx hb dX3_isAt_0 rfl (lv_at hl 0 rfl) ?_
  refine tg_get C hw 11 (by decide) q1577 rfl dX3_isAt_1 ?_
  refine lv_aload_n hx hb dX3_isAt_4 rfl (lv_at hl 0 rfl) ?_
  refine tg_get C hw 4 (by decide) q1570 rfl dX3_isAt_5 ?_
  refine lv_icmp_ge (tgt := 35) hx hb dX3_isAt_8 (by decide) (fun c1 => ?_) (fun c1 => ?_)
  · have hm := ifT hm c1
    exact hB35 u _ _ _ hm hw (lv_sub hl [] rfl)
  · have hm := ifF hm c1
    refine lv_aload_n hx hb dX3_isAt_11 rfl (lv_at hl 0 rfl) ?_
    refine tg_get C hw 3 (by decide) q1569 rfl dX3_isAt_12 ?_
    refine lv_aload_n hx hb dX3_isAt_15 rfl (lv_at hl 0 rfl) ?_
    refine tg_get C hw 11 (by decide) q1577 rfl dX3_isAt_16 ?_
    obtain ⟨g2, hm⟩ := gdE hm
    refine tg_iald C hw (tp_3 ad dI dJ u) g2 dX3_isAt_19 ?_
    refine lv_i2l hx hb dX3_isAt_20 rfl ?_
    refine lv_iload_n hx hb dX3_isAt_21 rfl (lv_at hl 1 rfl) ?_
    refine lv_i2l hx hb dX3_isAt_22 rfl ?_
    refine lv_iload_n hx hb dX3_isAt_23 rfl (lv_at hl 2 rfl) ?_
    refine lv_i2l hx hb dX3_isAt_24 rfl ?_
    obtain ⟨r3, er3, hm⟩ := bdE hm
    refine sci (va_runS (As := [.long (Int32.toInt64 (tA u 3 (Int32.toNatClampNeg (tI u 11)))), .long (Int32.toInt64 x1), .long (Int32.toInt64 x2)]) (rest := []) ⟨hx, hb, hml, hown, hts⟩ (w_X3_in l er3) (cw_X3_in hts q1695 ⟨Nat.le_of_ble_eq_true rfl, Nat.le_of_ble_eq_true rfl⟩) (pre_s _) rfl rfl hl.1 rfl (lv_room (Nat.le_of_ble_eq_true rfl)) dX3_isAt_25 ⟨Nat.le_of_ble_eq_true rfl, Nat.le_of_ble_eq_true rfl⟩) ?_
    refine lv_if_eq (tgt := 35) hx hb dX3_isAt_28 (by decide) (fun c4 => ?_) (fun c4 => ?_)
    · have hm := ifT hm c4
      exact hB35 u _ _ _ hm hw (lv_sub hl [] rfl)
    · have hm := ifF hm c4
      refine lv_iconst (v := 1) hx hb dX3_isAt_31 (by decide) ?_
      refine lv_goto (tgt := 36) hx hb dX3_isAt_32 (by decide) ?_
      exact hB36 u (1 : Int32) _ _ _ hm hw (lv_sub hl [] rfl)
def m_J9_min_10 (f : Nat) (y0 : Int32) : Option Int32 := some y0
def m_J9_min (f : Nat) (x0 : Int32) (x1 : Int32) : Option Int32 := if x1 < x0 then
    m_J9_min_10 f x1
    else m_J9_min_10 f x0
abbrev rm_J9_min : Room := { frames := 0, cells := 0, slots := 0, locals := 0 }
theorem cw_J9_min {R : Room} {s : State} {args : Array Value} {own : String} {idx : Nat} (hts : ∀ w ∈ lw_all, w.before args s = true) (hl : Cond.methodLink own idx yJ9_min ∈ lw_all) (hR : rm_J9_min.frames + 1 ≤ R.frames ∧ 8 + (2 + 11) + rm_J9_min.locals ≤ R.locals) : CallB R s args own idx yJ9_min cJ9_min 2 (Option.some Jvm.ClassFile.FieldType.int) (ws_ yJ9_min cJ9_min 2 (Option.some Jvm.ClassFile.FieldType.int)) rm_J9_min 0 0 2 ∧ (Cond.static yJ9_min).before args s = true := va_cwS 2 hts (lw_S hl q432 q134 q433) rfl rfl rfl (by decide +kernel) hR
set_option maxHeartbeats 4000000 in
set_option maxRecDepth 100000 in
theorem w_J9_min (l : Launch) {f : Nat} {x0 : Int32} {x1 : Int32} {r0 : Int32} (hm : m_J9_min f x0 x1 = some r0) : Met l yJ9_min (ws_ yJ9_min cJ9_min 2 (Option.some Jvm.ClassFile.FieldType.int)) rm_J9_min (va_Pc [.int x0, .int x1] (fun _ => True)) (vp_Si (fun r => r = r0)) 0 0 (fun _ => False) := by
  refine metOfWF (cc := cJ9_min) (maxL := 2) (ret := (Option.some Jvm.ClassFile.FieldType.int)) (by decide +kernel) rfl ?_
  intro p e s m args below meth c s₁ B hml hv
  have hx := B.exec
  have hb := B.bytes
  have hr := B.returns
  have hts := atoms_spec (ws := (ws_ yJ9_min cJ9_min 2 (Option.some Jvm.ClassFile.FieldType.int))) B.pre
  have hts : ∀ w ∈ lw_all, w.before args s = true := fun w h => hts w (List.mem_cons_of_mem _ h)
  have hown : s.vm.findClass RJ9 = some m.cls := findClass_of_methodNamed B.named
  have hlocks := B.notSynchronized
  obtain ⟨hav, hv⟩ := hv
  generalize hQ : MQ below (vp_Si (fun r => r = r0)) args s 0 0 (fun _ => False) = QQ
  have hent := lg_entry_eq m [.int x0, .int x1] 2
  rw [← hav] at hent
  rw [hent]
  have hl := lv_entry ([.int x0, .int x1]) (n := 2) (Nat.le_of_ble_eq_true rfl)
  generalize (lg_sl ([.int x0, .int x1]) ++ List.replicate (2 - (lg_sl ([.int x0, .int x1])).length) Slot.unset).toArray = ls at hl ⊢
  have hl : lv_has ls 2 [(0, .int x0), (1, .int x1)] := hl
  change W p l e rm_J9_min s m args below meth c s.heap [] 0 0 QQ (F0 m 0 ls [])
  have hB10 : ∀ (y0 : Int32) (ls : Array Slot), m_J9_min_10 f y0 = some r0 → lv_has ls 2 [] → W p l e rm_J9_min s m args below meth c s.heap [] 0 0 QQ (F0 m 10 ls [.int y0]) := by
    intro y0 ls hm hl
    rw [m_J9_min_10] at hm
    rw [← hQ]
    exact W.iret (v := y0) hx hb hr (fun t ht hW => ⟨y0, rfl, ret1 hm, ht⟩) (fun q h => absurd h List.not_mem_nil) dJ9_min_10
  rw [m_J9_min] at hm
  refine lv_iload_n hx hb dJ9_min_0 rfl (lv_at hl 0 rfl) ?_
  refine lv_iload_n hx hb dJ9_min_1 rfl (lv_at hl 1 rfl) ?_
  refine lv_icmp_gt (tgt := 9) hx hb dJ9_min_2 (by decide) (fun c1 => ?_) (fun c1 => ?_)
  · have hm := ifT hm c1
    refine lv_iload_n hx hb dJ9_min_9 rfl (lv_at hl 1 rfl) ?_
    exact hB10 x1 _ hm (lv_sub hl [] rfl)
  · have hm := ifF hm c1
    refine lv_iload_n hx hb dJ9_min_5 rfl (lv_at hl 0 rfl) ?_
    refine lv_goto (tgt := 10) hx hb dJ9_min_6 (by decide) ?_
    exact hB10 x0 _ hm (lv_sub hl [] rfl)
def m_X3_next_22 (f : Nat) (k0 : TS → Option TS) (u : TS) : Option TS := nmv (sI u 11 ((tI u 11) + (1 : Int32))) fun u1 =>
    k0 u1
def m_X3_next_217 (f : Nat) (u : TS) : Option TS := some u
def m_X3_next_204 (f : Nat) (u : TS) (y1 : Int32) : Option TS := nmv (sI u 13 y1) fun u1 =>
    nmv (sI u1 11 ((tI u1 11) + (1 : Int32))) fun u2 =>
    m_X3_next_217 f u2
def m_X3_next_199 (f : Nat) (u : TS) : Option TS := m_X3_next_204 f u (3 : Int32)
def m_X3_next_123 (f : Nat) : Nat → TS → Option TS
  | 0, _ => none
  | n123 + 1, u => bd2 (m_X3_isAt f u (48 : Int32) (57 : Int32)) fun r2 u1 =>
    if r2 = 0 then
    m_X3_next_217 f u1
    else gd (ix (tI u1 11) 500) <|
    bd (m_J9_min f (99999 : Int32) ((((10 : Int32) * (tI u1 14)) + (tA u1 3 (Int32.toNatClampNeg (tI u1 11)))) - (48 : Int32))) fun r5 =>
    nmv (sI u1 14 r5) fun u6 =>
    nmv (sI u6 11 ((tI u6 11) + (1 : Int32))) fun u7 =>
    m_X3_next_123 f n123 u7
def m_X3_next_83 (f : Nat) : Nat → TS → Option TS
  | 0, _ => none
  | n83 + 1, u => bd2 (m_X3_isAt f u (97 : Int32) (122 : Int32)) fun r2 u1 =>
    if r2 = 0 then
    m_X3_next_217 f u1
    else nmv (sI u1 11 ((tI u1 11) + (1 : Int32))) fun u4 =>
    m_X3_next_83 f n83 u4
def m_X3_next_35 (f : Nat) (u : TS) : Option TS := nmv (sI u 12 (tI u 11)) fun u1 =>
    nmv (sI u1 14 (0 : Int32)) fun u2 =>
    if ¬ (tI u2 11) = (tI u2 4) then
    bd2 (m_X3_isAt f u2 (97 : Int32) (122 : Int32)) fun r5 u4 =>
    if r5 = 0 then
    bd2 (m_X3_isAt f u4 (48 : Int32) (57 : Int32)) fun r8 u7 =>
    if r8 = 0 then
    bd2 (m_X3_isAt f u7 (59 : Int32) (59 : Int32)) fun r11 u10 =>
    if ¬ r11 = 0 then
    m_X3_next_199 f u10
    else bd2 (m_X3_isAt f u10 (45 : Int32) (45 : Int32)) fun r14 u13 =>
    if r14 = 0 then
    m_X3_next_204 f u13 (4 : Int32)
    else m_X3_next_199 f u13
    else nmv (sI u7 13 (2 : Int32)) fun u16 =>
    m_X3_next_123 f f u16
    else nmv (sI u4 13 (1 : Int32)) fun u17 =>
    m_X3_next_83 f f u17
    else nmv (sI u2 13 (0 : Int32)) fun u18 =>
    m_X3_next_217 f u18
def m_X3_next_0 (f : Nat) : Nat → TS → Option TS
  | 0, _ => none
  | n0 + 1, u => bd2 (m_X3_isAt f u (32 : Int32) (32 : Int32)) fun r2 u1 =>
    if ¬ r2 = 0 then
    m_X3_next_22 f (m_X3_next_0 f n0) u1
    else bd2 (m_X3_isAt f u1 (10 : Int32) (10 : Int32)) fun r5 u4 =>
    if r5 = 0 then
    m_X3_next_35 f u4
    else m_X3_next_22 f (m_X3_next_0 f n0) u4
def m_X3_next (f : Nat) (u : TS) : Option TS := m_X3_next_0 f f u
abbrev rm_X3_next : Room := { frames := 2, cells := 0, slots := 0, locals := 47 }
theorem cw_X3_next {R : Room} {s : State} {args : Array Value} {own : String} {idx : Nat} (hts : ∀ w ∈ lw_all, w.before args s = true) (hl : Cond.methodLink own idx yX3_next ∈ lw_all) (hR : rm_X3_next.frames + 1 ≤ R.frames ∧ 8 + (1 + 11) + rm_X3_next.locals ≤ R.locals) : CallW R s args own RX3 idx yX3_next cX3_next 1 (Option.none : Option Jvm.ClassFile.FieldType) (ws_ yX3_next cX3_next 1 (Option.none : Option Jvm.ClassFile.FieldType)) rm_X3_next 0 0 0 := cwV 0 hts (lw_V hl q1704 qs54 q125 q1705) rfl rfl rfl (by decide +kernel) hR
set_option maxHeartbeats 4000000 in
set_option maxRecDepth 100000 in
theorem w_X3_next (l : Launch) {D : va_G} {ad : Nat → Nat} {dI dJ : ClassId} {A : Nat → Prop} {f : Nat} {u u9 : TS}  (hm : m_X3_next f u = some u9) : Met l yX3_next (ws_ yX3_next cX3_next 1 (Option.none : Option Jvm.ClassFile.FieldType)) rm_X3_next (va_Pc [.ref (ad 40)] (TPre D ad dI dJ A u)) (va_Qv (fun u => u = u9) (TPost D ad dI dJ A) A) 0 0 A := by
  refine Met.ofW (cc := cX3_next) (maxL := 1) (ret := (Option.none : Option Jvm.ClassFile.FieldType)) (by decide) rfl ?_
  intro p e s m args below meth c s₁ B hml hv
  have hx := B.exec
  have hb := B.bytes
  have hr := B.returns
  have hts := atoms_spec (ws := (ws_ yX3_next cX3_next 1 (Option.none : Option Jvm.ClassFile.FieldType))) B.pre
  have hts : ∀ w ∈ lw_all, w.before args s = true := fun w h => hts w (List.mem_cons_of_mem _ h)
  have hown : s.vm.findClass RX3 = some m.cls := findClass_of_methodNamed B.named
  have hlocks := B.notSynchronized
  obtain ⟨hav, hv⟩ := hv
  have C : TC p s m args c cX3_next D dI dJ := ⟨hx, hb, hown, hts, hv.2.1⟩
  have hw : TH D ad dI dJ A s.heap u s.heap [] := ⟨hv.1, hv.2.2.1, va_S.rf, hv.2.2.2⟩
  generalize hQ : MQ below (va_Qv (fun u => u = u9) (TPost D ad dI dJ A) A) args s 0 0 A = QQ
  have hent := lg_entry_eq m [.ref (ad 40)] 1
  rw [← hav] at hent
  rw [hent]
  have hl := lv_entry ([.ref (ad 40)]) (n := 1) (Nat.le_of_ble_eq_true rfl)
  generalize (lg_sl ([.ref (ad 40)]) ++ List.replicate (1 - (lg_sl ([.ref (ad 40)])).length) Slot.unset).toArray = ls at hl ⊢
  have hl : lv_has ls 1 [(0, .ref (ad 40))] := hl
  change W p l e rm_X3_next s m args below meth c s.heap [] 0 0 QQ (F0 m 0 ls [])
  have hB217 : ∀ (u : TS) (H : Heap) (locs : List Loc) (ls : Array Slot), m_X3_next_217 f u = some u9 → TH D ad dI dJ A s.heap u H locs → lv_has ls 1 [] → W p l e rm_X3_next s m args below meth c H locs 0 0 QQ (F0 m 217 ls []) := by
    intro u H locs ls hm hw hl
    rw [m_X3_next_217] at hm
    rw [← hQ]
    exact W.vret hx hb hr (fun t ht hW => ⟨⟨u, rfl, ret1 hm, by rw [ht]; exact hw.1, hw.2.1⟩, hw.2.2.1.F ht⟩) hw.2.2.1.2.2 dX3_next_217
  have hB204 : ∀ (u : TS) (y1 : Int32) (H : Heap) (locs : List Loc) (ls : Array Slot), m_X3_next_204 f u y1 = some u9 → TH D ad dI dJ A s.heap u H locs → lv_has ls 1 [(0, .ref (ad 40))] → W p l e rm_X3_next s m args below meth c H locs 0 0 QQ (F0 m 204 ls [.int y1, .ref (ad 40)]) := by
    intro u y1 H locs ls hm hw hl
    rw [m_X3_next_204] at hm
    refine tg_put C hw 13 (by decide) q1579 rfl rfl rfl (ts_13 ad dI dJ u y1) dX3_next_204 (fun H locs hw => ?_)
    obtain ⟨u1, eu1, hm⟩ := nmE hm
    rw [← eu1] at hw
    refine lv_aload_n hx hb dX3_next_207 rfl (lv_at hl 0 rfl) ?_
    refine lv_dup hx hb dX3_next_208 rfl ?_
    refine tg_get C hw 11 (by decide) q1577 rfl dX3_next_209 ?_
    refine lv_iconst (v := 1) hx hb dX3_next_212 (by decide) ?_
    refine lv_iadd hx hb dX3_next_213 ?_
    refine tg_put C hw 11 (by decide) q1577 rfl rfl rfl (ts_11 ad dI dJ u1 ((tI u1 11) + (1 : Int32))) dX3_next_214 (fun H locs hw => ?_)
    obtain ⟨u2, eu2, hm⟩ := nmE hm
    rw [← eu2] at hw
    exact hB217 u2 _ _ _ hm hw (lv_sub hl [] rfl)
  have hB199 : ∀ (u : TS) (H : Heap) (locs : List Loc) (ls : Array Slot), m_X3_next_199 f u = some u9 → TH D ad dI dJ A s.heap u H locs → lv_has ls 1 [(0, .ref (ad 40))] → W p l e rm_X3_next s m args below meth c H locs 0 0 QQ (F0 m 199 ls [.ref (ad 40)]) := by
    intro u H locs ls hm hw hl
    rw [m_X3_next_199] at hm
    refine lv_iconst (v := 3) hx hb dX3_next_199 (by decide) ?_
    refine lv_goto (tgt := 204) hx hb dX3_next_200 (by decide) ?_
    exact hB204 u (3 : Int32) _ _ _ hm hw (lv_sub hl [0] rfl)
  have hB123 : ∀ (n123 : Nat), ∀ (u : TS) (H : Heap) (locs : List Loc) (ls : Array Slot), m_X3_next_123 f n123 u = some u9 → TH D ad dI dJ A s.heap u H locs → lv_has ls 1 [(0, .ref (ad 40))] → W p l e rm_X3_next s m args below meth c H locs 0 0 QQ (F0 m 123 ls []) := by
    intro n123
    induction n123 with
    | zero => intro u H locs ls hm hw hl; rw [m_X3_next_123] at hm; exact noE hm
    | succ n123 ih123 =>
      intro u H locs ls hm hw hl
      rw [m_X3_next_123] at hm
      refine lv_aload_n hx hb dX3_next_123 rfl (lv_at hl 0 rfl) ?_
      refine lv_bipush (v := 48) hx hb dX3_next_124 (by decide) ?_
      refine lv_bipush (v := 57) hx hb dX3_next_126 (by decide) ?_
      obtain ⟨r2, u1, er2, hm⟩ := bd2E hm
      refine tg_calli hw (va_runV (As := [.int (48 : Int32), .int (57 : Int32)]) (rest := []) ⟨hx, hb, hml, hown, hts⟩ (w_X3_isAt l er2) (cw_X3_isAt hts q1706 ⟨Nat.le_of_ble_eq_true rfl, Nat.le_of_ble_eq_true rfl⟩) (tg_pre C hw _) rfl rfl hl.1 rfl (lv_room (Nat.le_of_ble_eq_true rfl)) dX3_next_128 ⟨Nat.le_of_ble_eq_true rfl, Nat.le_of_ble_eq_true rfl⟩) (fun H locs hw => ?_)
      refine lv_if_eq (tgt := 217) hx hb dX3_next_131 (by decide) (fun c3 => ?_) (fun c3 => ?_)
      · have hm := ifT hm c3
        exact hB217 u1 _ _ _ hm hw (lv_sub hl [] rfl)
      · have hm := ifF hm c3
        refine lv_aload_n hx hb dX3_next_134 rfl (lv_at hl 0 rfl) ?_
        refine lv_ldc hx hb hown (hts _ q1710) dX3_next_135 ?_
        refine lv_bipush (v := 10) hx hb dX3_next_137 (by decide) ?_
        refine lv_aload_n hx hb dX3_next_139 rfl (lv_at hl 0 rfl) ?_
        refine tg_get C hw 14 (by decide) q1580 rfl dX3_next_140 ?_
        refine lv_imul hx hb dX3_next_143 ?_
        refine lv_aload_n hx hb dX3_next_144 rfl (lv_at hl 0 rfl) ?_
        refine tg_get C hw 3 (by decide) q1569 rfl dX3_next_145 ?_
        refine lv_aload_n hx hb dX3_next_148 rfl (lv_at hl 0 rfl) ?_
        refine tg_get C hw 11 (by decide) q1577 rfl dX3_next_149 ?_
        obtain ⟨g4, hm⟩ := gdE hm
        refine tg_iald C hw (tp_3 ad dI dJ u1) g4 dX3_next_152 ?_
        refine lv_iadd hx hb dX3_next_153 ?_
        refine lv_bipush (v := 48) hx hb dX3_next_154 (by decide) ?_
        refine lv_isub hx hb dX3_next_156 ?_
        obtain ⟨r5, er5, hm⟩ := bdE hm
        refine sci (va_runS (As := [.int (99999 : Int32), .int ((((10 : Int32) * (tI u1 14)) + (tA u1 3 (Int32.toNatClampNeg (tI u1 11)))) - (48 : Int32))]) (rest := [.ref (ad 40)]) ⟨hx, hb, hml, hown, hts⟩ (w_J9_min l er5) (cw_J9_min hts q1711 ⟨Nat.le_of_ble_eq_true rfl, Nat.le_of_ble_eq_true rfl⟩) (pre_s _) rfl rfl hl.1 rfl (lv_room (Nat.le_of_ble_eq_true rfl)) dX3_next_157 ⟨Nat.le_of_ble_eq_true rfl, Nat.le_of_ble_eq_true rfl⟩) ?_
        refine tg_put C hw 14 (by decide) q1580 rfl rfl rfl (ts_14 ad dI dJ u1 r5) dX3_next_160 (fun H locs hw => ?_)
        obtain ⟨u6, eu6, hm⟩ := nmE hm
        rw [← eu6] at hw
        refine lv_aload_n hx hb dX3_next_163 rfl (lv_at hl 0 rfl) ?_
        refine lv_dup hx hb dX3_next_164 rfl ?_
        refine tg_get C hw 11 (by decide) q1577 rfl dX3_next_165 ?_
        refine lv_iconst (v := 1) hx hb dX3_next_168 (by decide) ?_
        refine lv_iadd hx hb dX3_next_169 ?_
        refine tg_put C hw 11 (by decide) q1577 rfl rfl rfl (ts_11 ad dI dJ u6 ((tI u6 11) + (1 : Int32))) dX3_next_170 (fun H locs hw => ?_)
        obtain ⟨u7, eu7, hm⟩ := nmE hm
        rw [← eu7] at hw
        refine lv_goto (tgt := 123) hx hb dX3_next_173 (by decide) ?_
        exact ih123 u7 _ _ _ hm hw (lv_sub hl [0] rfl)
  have hB83 : ∀ (n83 : Nat), ∀ (u : TS) (H : Heap) (locs : List Loc) (ls : Array Slot), m_X3_next_83 f n83 u = some u9 → TH D ad dI dJ A s.heap u H locs → lv_has ls 1 [(0, .ref (ad 40))] → W p l e rm_X3_next s m args below meth c H locs 0 0 QQ (F0 m 83 ls []) := by
    intro n83
    induction n83 with
    | zero => intro u H locs ls hm hw hl; rw [m_X3_next_83] at hm; exact noE hm
    | succ n83 ih83 =>
      intro u H locs ls hm hw hl
      rw [m_X3_next_83] at hm
      refine lv_aload_n hx hb dX3_next_83 rfl (lv_at hl 0 rfl) ?_
      refine lv_bipush (v := 97) hx hb dX3_next_84 (by decide) ?_
      refine lv_bipush (v := 122) hx hb dX3_next_86 (by decide) ?_
      obtain ⟨r2, u1, er2, hm⟩ := bd2E hm
      refine tg_calli hw (va_runV (As := [.int (97 : Int32), .int (122 : Int32)]) (rest := []) ⟨hx, hb, hml, hown, hts⟩ (w_X3_isAt l er2) (cw_X3_isAt hts q1706 ⟨Nat.le_of_ble_eq_true rfl, Nat.le_of_ble_eq_true rfl⟩) (tg_pre C hw _) rfl rfl hl.1 rfl (lv_room (Nat.le_of_ble_eq_true rfl)) dX3_next_88 ⟨Nat.le_of_ble_eq_true rfl, Nat.le_of_ble_eq_true rfl⟩) (fun H locs hw => ?_)
      refine lv_if_eq (tgt := 217) hx hb dX3_next_91 (by decide) (fun c3 => ?_) (fun c3 => ?_)
      · have hm := ifT hm c3
        exact hB217 u1 _ _ _ hm hw (lv_sub hl [] rfl)
      · have hm := ifF hm c3
        refine lv_aload_n hx hb dX3_next_94 rfl (lv_at hl 0 rfl) ?_
        refine lv_dup hx hb dX3_next_95 rfl ?_
        refine tg_get C hw 11 (by decide) q1577 rfl dX3_next_96 ?_
        refine lv_iconst (v := 1) hx hb dX3_next_99 (by decide) ?_
        refine lv_iadd hx hb dX3_next_100 ?_
        refine tg_put C hw 11 (by decide) q1577 rfl rfl rfl (ts_11 ad dI dJ u1 ((tI u1 11) + (1 : Int32))) dX3_next_101 (fun H locs hw => ?_)
        obtain ⟨u4, eu4, hm⟩ := nmE hm
        rw [← eu4] at hw
        refine lv_goto (tgt := 83) hx hb dX3_next_104 (by decide) ?_
        exact ih83 u4 _ _ _ hm hw (lv_sub hl [0] rfl)
  have hB35 : ∀ (u : TS) (H : Heap) (locs : List Loc) (ls : Array Slot), m_X3_next_35 f u = some u9 → TH D ad dI dJ A s.heap u H locs → lv_has ls 1 [(0, .ref (ad 40))] → W p l e rm_X3_next s m args below meth c H locs 0 0 QQ (F0 m 35 ls []) := by
    intro u H locs ls hm hw hl
    rw [m_X3_next_35] at hm
    refine lv_aload_n hx hb dX3_next_35 rfl (lv_at hl 0 rfl) ?_
    refine lv_aload_n hx hb dX3_next_36 rfl (lv_at hl 0 rfl) ?_
    refine tg_get C hw 11 (by decide) q1577 rfl dX3_next_37 ?_
    refine tg_put C hw 12 (by decide) q1578 rfl rfl rfl (ts_12 ad dI dJ u (tI u 11)) dX3_next_40 (fun H locs hw => ?_)
    obtain ⟨u1, eu1, hm⟩ := nmE hm
    rw [← eu1] at hw
    refine lv_aload_n hx hb dX3_next_43 rfl (lv_at hl 0 rfl) ?_
    refine lv_iconst (v := 0) hx hb dX3_next_44 (by decide) ?_
    refine tg_put C hw 14 (by decide) q1580 rfl rfl rfl (ts_14 ad dI dJ u1 (0 : Int32)) dX3_next_45 (fun H locs hw => ?_)
    obtain ⟨u2, eu2, hm⟩ := nmE hm
    rw [← eu2] at hw
    refine lv_aload_n hx hb dX3_next_48 rfl (lv_at hl 0 rfl) ?_
    refine tg_get C hw 11 (by decide) q1577 rfl dX3_next_49 ?_
    refine lv_aload_n hx hb dX3_next_52 rfl (lv_at hl 0 rfl) ?_
    refine tg_get C hw 4 (by decide) q1570 rfl dX3_next_53 ?_
    refine lv_icmp_ne (tgt := 67) hx hb dX3_next_56 (by decide) (fun c3 => ?_) (fun c3 => ?_)
    · have hm := ifT hm c3
      refine lv_aload_n hx hb dX3_next_67 rfl (lv_at hl 0 rfl) ?_
      refine lv_bipush (v := 97) hx hb dX3_next_68 (by decide) ?_
      refine lv_bipush (v := 122) hx hb dX3_next_70 (by decide) ?_
      obtain ⟨r5, u4, er5, hm⟩ := bd2E hm
      refine tg_calli hw (va_runV (As := [.int (97 : Int32), .int (122 : Int32)]) (rest := []) ⟨hx, hb, hml, hown, hts⟩ (w_X3_isAt l er5) (cw_X3_isAt hts q1706 ⟨Nat.le_of_ble_eq_true rfl, Nat.le_of_ble_eq_true rfl⟩) (tg_pre C hw _) rfl rfl hl.1 rfl (lv_room (Nat.le_of_ble_eq_true rfl)) dX3_next_72 ⟨Nat.le_of_ble_eq_true rfl, Nat.le_of_ble_eq_true rfl⟩) (fun H locs hw => ?_)
      refine lv_if_eq (tgt := 107) hx hb dX3_next_75 (by decide) (fun c6 => ?_) (fun c6 => ?_)
      · have hm := ifT hm c6
        refine lv_aload_n hx hb dX3_next_107 rfl (lv_at hl 0 rfl) ?_
        refine lv_bipush (v := 48) hx hb dX3_next_108 (by decide) ?_
        refine lv_bipush (v := 57) hx hb dX3_next_110 (by decide) ?_
        obtain ⟨r8, u7, er8, hm⟩ := bd2E hm
        refine tg_calli hw (va_runV (As := [.int (48 : Int32), .int (57 : Int32)]) (rest := []) ⟨hx, hb, hml, hown, hts⟩ (w_X3_isAt l er8) (cw_X3_isAt hts q1706 ⟨Nat.le_of_ble_eq_true rfl, Nat.le_of_ble_eq_true rfl⟩) (tg_pre C hw _) rfl rfl hl.1 rfl (lv_room (Nat.le_of_ble_eq_true rfl)) dX3_next_112 ⟨Nat.le_of_ble_eq_true rfl, Nat.le_of_ble_eq_true rfl⟩) (fun H locs hw => ?_)
        refine lv_if_eq (tgt := 176) hx hb dX3_next_115 (by decide) (fun c9 => ?_) (fun c9 => ?_)
        · have hm := ifT hm c9
          refine lv_aload_n hx hb dX3_next_176 rfl (lv_at hl 0 rfl) ?_
          refine lv_aload_n hx hb dX3_next_177 rfl (lv_at hl 0 rfl) ?_
          refine lv_bipush (v := 59) hx hb dX3_next_178 (by decide) ?_
          refine lv_bipush (v := 59) hx hb dX3_next_180 (by decide) ?_
          obtain ⟨r11, u10, er11, hm⟩ := bd2E hm
          refine tg_calli hw (va_runV (As := [.int (59 : Int32), .int (59 : Int32)]) (rest := [.ref (ad 40)]) ⟨hx, hb, hml, hown, hts⟩ (w_X3_isAt l er11) (cw_X3_isAt hts q1706 ⟨Nat.le_of_ble_eq_true rfl, Nat.le_of_ble_eq_true rfl⟩) (tg_pre C hw _) rfl rfl hl.1 rfl (lv_room (Nat.le_of_ble_eq_true rfl)) dX3_next_182 ⟨Nat.le_of_ble_eq_true rfl, Nat.le_of_ble_eq_true rfl⟩) (fun H locs hw => ?_)
          refine lv_if_ne (tgt := 199) hx hb dX3_next_185 (by decide) (fun c12 => ?_) (fun c12 => ?_)
          · have hm := ifT hm c12
            exact hB199 u10 _ _ _ hm hw (lv_sub hl [0] rfl)
          · have hm := ifT' hm c12
            refine lv_aload_n hx hb dX3_next_188 rfl (lv_at hl 0 rfl) ?_
            refine lv_bipush (v := 45) hx hb dX3_next_189 (by decide) ?_
            refine lv_bipush (v := 45) hx hb dX3_next_191 (by decide) ?_
            obtain ⟨r14, u13, er14, hm⟩ := bd2E hm
            refine tg_calli hw (va_runV (As := [.int (45 : Int32), .int (45 : Int32)]) (rest := [.ref (ad 40)]) ⟨hx, hb, hml, hown, hts⟩ (w_X3_isAt l er14) (cw_X3_isAt hts q1706 ⟨Nat.le_of_ble_eq_true rfl, Nat.le_of_ble_eq_true rfl⟩) (tg_pre C hw _) rfl rfl hl.1 rfl (lv_room (Nat.le_of_ble_eq_true rfl)) dX3_next_193 ⟨Nat.le_of_ble_eq_true rfl, Nat.le_of_ble_eq_true rfl⟩) (fun H locs hw => ?_)
            refine lv_if_eq (tgt := 203) hx hb dX3_next_196 (by decide) (fun c15 => ?_) (fun c15 => ?_)
            · have hm := ifT hm c15
              refine lv_iconst (v := 4) hx hb dX3_next_203 (by decide) ?_
              exact hB204 u13 (4 : Int32) _ _ _ hm hw (lv_sub hl [0] rfl)
            · have hm := ifF hm c15
              exact hB199 u13 _ _ _ hm hw (lv_sub hl [0] rfl)
        · have hm := ifF hm c9
          refine lv_aload_n hx hb dX3_next_118 rfl (lv_at hl 0 rfl) ?_
          refine lv_iconst (v := 2) hx hb dX3_next_119 (by decide) ?_
          refine tg_put C hw 13 (by decide) q1579 rfl rfl rfl (ts_13 ad dI dJ u7 (2 : Int32)) dX3_next_120 (fun H locs hw => ?_)
          obtain ⟨u16, eu16, hm⟩ := nmE hm
          rw [← eu16] at hw
          exact hB123 f u16 _ _ _ hm hw (lv_sub hl [0] rfl)
      · have hm := ifF hm c6
        refine lv_aload_n hx hb dX3_next_78 rfl (lv_at hl 0 rfl) ?_
        refine lv_iconst (v := 1) hx hb dX3_next_79 (by decide) ?_
        refine tg_put C hw 13 (by decide) q1579 rfl rfl rfl (ts_13 ad dI dJ u4 (1 : Int32)) dX3_next_80 (fun H locs hw => ?_)
        obtain ⟨u17, eu17, hm⟩ := nmE hm
        rw [← eu17] at hw
        exact hB83 f u17 _ _ _ hm hw (lv_sub hl [0] rfl)
    · have hm := ifT' hm c3
      refine lv_aload_n hx hb dX3_next_59 rfl (lv_at hl 0 rfl) ?_
      refine lv_iconst (v := 0) hx hb dX3_next_60 (by decide) ?_
      refine tg_put C hw 13 (by decide) q1579 rfl rfl rfl (ts_13 ad dI dJ u2 (0 : Int32)) dX3_next_61 (fun H locs hw => ?_)
      obtain ⟨u18, eu18, hm⟩ := nmE hm
      rw [← eu18] at hw
      refine lv_goto (tgt := 217) hx hb dX3_next_64 (by decide) ?_
      exact hB217 u18 _ _ _ hm hw (lv_sub hl [] rfl)
  have hB0 : ∀ (n0 : Nat), ∀ (u : TS) (H : Heap) (locs : List Loc) (ls : Array Slot), m_X3_next_0 f n0 u = some u9 → TH D ad dI dJ A s.heap u H locs → lv_has ls 1 [(0, .ref (ad 40))] → W p l e rm_X3_next s m args below meth c H locs 0 0 QQ (F0 m 0 ls []) := by
    intro n0
    induction n0 with
    | zero => intro u H locs ls hm hw hl; rw [m_X3_next_0] at hm; exact noE hm
    | succ n0 ih0 =>
      have hB22 : ∀ (u : TS) (H : Heap) (locs : List Loc) (ls : Array Slot), m_X3_next_22 f (m_X3_next_0 f n0) u = some u9 → TH D ad dI dJ A s.heap u H locs → lv_has ls 1 [(0, .ref (ad 40))] → W p l e rm_X3_next s m args below meth c H locs 0 0 QQ (F0 m 22 ls []) := by
        intro u H locs ls hm hw hl
        rw [m_X3_next_22] at hm
        refine lv_aload_n hx hb dX3_next_22 rfl (lv_at hl 0 rfl) ?_
        refine lv_dup hx hb dX3_next_23 rfl ?_
        refine tg_get C hw 11 (by decide) q1577 rfl dX3_next_24 ?_
        refine lv_iconst (v := 1) hx hb dX3_next_27 (by decide) ?_
        refine lv_iadd hx hb dX3_next_28 ?_
        refine tg_put C hw 11 (by decide) q1577 rfl rfl rfl (ts_11 ad dI dJ u ((tI u 11) + (1 : Int32))) dX3_next_29 (fun H locs hw => ?_)
        obtain ⟨u1, eu1, hm⟩ := nmE hm
        rw [← eu1] at hw
        refine lv_goto (tgt := 0) hx hb dX3_next_32 (by decide) ?_
        exact ih0 u1 _ _ _ hm hw (lv_sub hl [0] rfl)
      intro u H locs ls hm hw hl
      rw [m_X3_next_0] at hm
      refine lv_aload_n hx hb dX3_next_0 rfl (lv_at hl 0 rfl) ?_
      refine lv_bipush (v := 32) hx hb dX3_next_1 (by decide) ?_
      refine lv_bipush (v := 32) hx hb dX3_next_3 (by decide) ?_
      obtain ⟨r2, u1, er2, hm⟩ := bd2E hm
      refine tg_calli hw (va_runV (As := [.int (32 : Int32), .int (32 : Int32)]) (rest := []) ⟨hx, hb, hml, hown, hts⟩ (w_X3_isAt l er2) (cw_X3_isAt hts q1706 ⟨Nat.le_of_ble_eq_true rfl, Nat.le_of_ble_eq_true rfl⟩) (tg_pre C hw _) rfl rfl hl.1 rfl (lv_room (Nat.le_of_ble_eq_true rfl)) dX3_next_5 ⟨Nat.le_of_ble_eq_true rfl, Nat.le_of_ble_eq_true rfl⟩) (fun H locs hw => ?_)
      refine lv_if_ne (tgt := 22) hx hb dX3_next_8 (by decide) (fun c3 => ?_) (fun c3 => ?_)
      · have hm := ifT hm c3
        exact hB22 u1 _ _ _ hm hw (lv_sub hl [0] rfl)
      · have hm := ifT' hm c3
        refine lv_aload_n hx hb dX3_next_11 rfl (lv_at hl 0 rfl) ?_
        refine lv_bipush (v := 10) hx hb dX3_next_12 (by decide) ?_
        refine lv_bipush (v := 10) hx hb dX3_next_14 (by decide) ?_
        obtain ⟨r5, u4, er5, hm⟩ := bd2E hm
        refine tg_calli hw (va_runV (As := [.int (10 : Int32), .int (10 : Int32)]) (rest := []) ⟨hx, hb, hml, hown, hts⟩ (w_X3_isAt l er5) (cw_X3_isAt hts q1706 ⟨Nat.le_of_ble_eq_true rfl, Nat.le_of_ble_eq_true rfl⟩) (tg_pre C hw _) rfl rfl hl.1 rfl (lv_room (Nat.le_of_ble_eq_true rfl)) dX3_next_16 ⟨Nat.le_of_ble_eq_true rfl, Nat.le_of_ble_eq_true rfl⟩) (fun H locs hw => ?_)
        refine lv_if_eq (tgt := 35) hx hb dX3_next_19 (by decide) (fun c6 => ?_) (fun c6 => ?_)
        · have hm := ifT hm c6
          exact hB35 u4 _ _ _ hm hw (lv_sub hl [0] rfl)
        · have hm := ifF hm c6
          exact hB22 u4 _ _ _ hm hw (lv_sub hl [0] rfl)
  rw [m_X3_next] at hm
  exact hB0 f u _ _ _ hm hw (lv_sub hl [0] rfl)
def m_X3_faults_25 (f : Nat) (u : TS) : Option TS := some u
def m_X3_faults (f : Nat) (u : TS) (x1 : Int32) : Option TS := if ¬ (tI u 15) = 0 then
    m_X3_faults_25 f u
    else nmv (sI u 15 (1 : Int32)) fun u2 =>
    nmv (sI u2 5 x1) fun u3 =>
    nmv (sI u3 6 (tI u3 12)) fun u4 =>
    m_X3_faults_25 f u4
abbrev rm_X3_faults : Room := { frames := 0, cells := 0, slots := 0, locals := 0 }
theorem cw_X3_faults {R : Room} {s : State} {args : Array Value} {own : String} {idx : Nat} (hts : ∀ w ∈ lw_all, w.before args s = true) (hl : Cond.methodLink own idx yX3_faults ∈ lw_all) (hR : rm_X3_faults.frames + 1 ≤ R.frames ∧ 8 + (2 + 11) + rm_X3_faults.locals ≤ R.locals) : CallW R s args own RX3 idx yX3_faults cX3_faults 2 (Option.none : Option Jvm.ClassFile.FieldType) (ws_ yX3_faults cX3_faults 2 (Option.none : Option Jvm.ClassFile.FieldType)) rm_X3_faults 0 0 1 := cwV 1 hts (lw_V hl q1743 qs59 q125 q1744) rfl rfl rfl (by decide +kernel) hR
set_option maxHeartbeats 4000000 in
set_option maxRecDepth 100000 in
theorem w_X3_faults (l : Launch) {D : va_G} {ad : Nat → Nat} {dI dJ : ClassId} {A : Nat → Prop} {f : Nat} {u u9 : TS} {x1 : Int32} (hm : m_X3_faults f u x1 = some u9) : Met l yX3_faults (ws_ yX3_faults cX3_faults 2 (Option.none : Option Jvm.ClassFile.FieldType)) rm_X3_faults (va_Pc [.ref (ad 40), .int x1] (TPre D ad dI dJ A u)) (va_Qv (fun u => u = u9) (TPost D ad dI dJ A) A) 0 0 A := by
  refine Met.ofW (cc := cX3_faults) (maxL := 2) (ret := (Option.none : Option Jvm.ClassFile.FieldType)) (by decide) rfl ?_
  intro p e s m args below meth c s₁ B hml hv
  have hx := B.exec
  have hb := B.bytes
  have hr := B.returns
  have hts := atoms_spec (ws := (ws_ yX3_faults cX3_faults 2 (Option.none : Option Jvm.ClassFile.FieldType))) B.pre
  have hts : ∀ w ∈ lw_all, w.before args s = true := fun w h => hts w (List.mem_cons_of_mem _ h)
  have hown : s.vm.findClass RX3 = some m.cls := findClass_of_methodNamed B.named
  have hlocks := B.notSynchronized
  obtain ⟨hav, hv⟩ := hv
  have C : TC p s m args c cX3_faults D dI dJ := ⟨hx, hb, hown, hts, hv.2.1⟩
  have hw : TH D ad dI dJ A s.heap u s.heap [] := ⟨hv.1, hv.2.2.1, va_S.rf, hv.2.2.2⟩
  generalize hQ : MQ below (va_Qv (fun u => u = u9) (TPost D ad dI dJ A) A) args s 0 0 A = QQ
  have hent := lg_entry_eq m [.ref (ad 40), .int x1] 2
  rw [← hav] at hent
  rw [hent]
  have hl := lv_entry ([.ref (ad 40), .int x1]) (n := 2) (Nat.le_of_ble_eq_true rfl)
  generalize (lg_sl ([.ref (ad 40), .int x1]) ++ List.replicate (2 - (lg_sl ([.ref (ad 40), .int x1])).length) Slot.unset).toArray = ls at hl ⊢
  have hl : lv_has ls 2 [(0, .ref (ad 40)), (1, .int x1)] := hl
  change W p l e rm_X3_faults s m args below meth c s.heap [] 0 0 QQ (F0 m 0 ls [])
  have hB25 : ∀ (u : TS) (H : Heap) (locs : List Loc) (ls : Array Slot), m_X3_faults_25 f u = some u9 → TH D ad dI dJ A s.heap u H locs → lv_has ls 2 [] → W p l e rm_X3_faults s m args below meth c H locs 0 0 QQ (F0 m 25 ls []) := by
    intro u H locs ls hm hw hl
    rw [m_X3_faults_25] at hm
    rw [← hQ]
    exact W.vret hx hb hr (fun t ht hW => ⟨⟨u, rfl, ret1 hm, by rw [ht]; exact hw.1, hw.2.1⟩, hw.2.2.1.F ht⟩) hw.2.2.1.2.2 dX3_faults_25
  rw [m_X3_faults] at hm
  refine lv_aload_n hx hb dX3_faults_0 rfl (lv_at hl 0 rfl) ?_
  refine tg_get C hw 15 (by decide) q1581 rfl dX3_faults_1 ?_
  refine lv_if_ne (tgt := 25) hx hb dX3_faults_4 (by decide) (fun c1 => ?_) (fun c1 => ?_)
  · have hm := ifT hm c1
    exact hB25 u _ _ _ hm hw (lv_sub hl [] rfl)
  · have hm := ifT' hm c1
    refine lv_aload_n hx hb dX3_faults_7 rfl (lv_at hl 0 rfl) ?_
    refine lv_iconst (v := 1) hx hb dX3_faults_8 (by decide) ?_
    refine tg_put C hw 15 (by decide) q1581 rfl rfl rfl (ts_15 ad dI dJ u (1 : Int32)) dX3_faults_9 (fun H locs hw => ?_)
    obtain ⟨u2, eu2, hm⟩ := nmE hm
    rw [← eu2] at hw
    refine lv_aload_n hx hb dX3_faults_12 rfl (lv_at hl 0 rfl) ?_
    refine lv_iload_n hx hb dX3_faults_13 rfl (lv_at hl 1 rfl) ?_
    refine tg_put C hw 5 (by decide) q1571 rfl rfl rfl (ts_5 ad dI dJ u2 x1) dX3_faults_14 (fun H locs hw => ?_)
    obtain ⟨u3, eu3, hm⟩ := nmE hm
    rw [← eu3] at hw
    refine lv_aload_n hx hb dX3_faults_17 rfl (lv_at hl 0 rfl) ?_
    refine lv_aload_n hx hb dX3_faults_18 rfl (lv_at hl 0 rfl) ?_
    refine tg_get C hw 12 (by decide) q1578 rfl dX3_faults_19 ?_
    refine tg_put C hw 6 (by decide) q1572 rfl rfl rfl (ts_6 ad dI dJ u3 (tI u3 12)) dX3_faults_22 (fun H locs hw => ?_)
    obtain ⟨u4, eu4, hm⟩ := nmE hm
    rw [← eu4] at hw
    exact hB25 u4 _ _ _ hm hw (lv_sub hl [] rfl)
def m_X3_passes_20 (f : Nat) (u : TS) : Option TS := some u
def m_X3_passes_9 (f : Nat) (u : TS) : Option TS := if ¬ (tI u 15) = 0 then
    m_X3_passes_20 f u
    else bd (m_X3_next f u) fun u2 =>
    m_X3_passes_20 f u2
def m_X3_passes (f : Nat) (u : TS) (x1 : Int32) : Option TS := if ¬ x1 = 0 then
    m_X3_passes_9 f u
    else bd (m_X3_faults f u (1 : Int32)) fun u2 =>
    m_X3_passes_9 f u2
abbrev rm_X3_passes : Room := { frames := 3, cells := 0, slots := 0, locals := 67 }
theorem cw_X3_passes {R : Room} {s : State} {args : Array Value} {own : String} {idx : Nat} (hts : ∀ w ∈ lw_all, w.before args s = true) (hl : Cond.methodLink own idx yX3_passes ∈ lw_all) (hR : rm_X3_passes.frames + 1 ≤ R.frames ∧ 8 + (2 + 11) + rm_X3_passes.locals ≤ R.locals) : CallW R s args own RX3 idx yX3_passes cX3_passes 2 (Option.none : Option Jvm.ClassFile.FieldType) (ws_ yX3_passes cX3_passes 2 (Option.none : Option Jvm.ClassFile.FieldType)) rm_X3_passes 0 0 1 := cwV 1 hts (lw_V hl q1747 qs60 q125 q1748) rfl rfl rfl (by decide +kernel) hR
set_option maxHeartbeats 4000000 in
set_option maxRecDepth 100000 in
theorem w_X3_passes (l : Launch) {D : va_G} {ad : Nat → Nat} {dI dJ : ClassId} {A : Nat → Prop} {f : Nat} {u u9 : TS} {x1 : Int32} (hm : m_X3_passes f u x1 = some u9) : Met l yX3_passes (ws_ yX3_passes cX3_passes 2 (Option.none : Option Jvm.ClassFile.FieldType)) rm_X3_passes (va_Pc [.ref (ad 40), .int x1] (TPre D ad dI dJ A u)) (va_Qv (fun u => u = u9) (TPost D ad dI dJ A) A) 0 0 A := by
  refine Met.ofW (cc := cX3_passes) (maxL := 2) (ret := (Option.none : Option Jvm.ClassFile.FieldType)) (by decide) rfl ?_
  intro p e s m args below meth c s₁ B hml hv
  have hx := B.exec
  have hb := B.bytes
  have hr := B.returns
  have hts := atoms_spec (ws := (ws_ yX3_passes cX3_passes 2 (Option.none : Option Jvm.ClassFile.FieldType))) B.pre
  have hts : ∀ w ∈ lw_all, w.before args s = true := fun w h => hts w (List.mem_cons_of_mem _ h)
  have hown : s.vm.findClass RX3 = some m.cls := findClass_of_methodNamed B.named
  have hlocks := B.notSynchronized
  obtain ⟨hav, hv⟩ := hv
  have C : TC p s m args c cX3_passes D dI dJ := ⟨hx, hb, hown, hts, hv.2.1⟩
  have hw : TH D ad dI dJ A s.heap u s.heap [] := ⟨hv.1, hv.2.2.1, va_S.rf, hv.2.2.2⟩
  generalize hQ : MQ below (va_Qv (fun u => u = u9) (TPost D ad dI dJ A) A) args s 0 0 A = QQ
  have hent := lg_entry_eq m [.ref (ad 40), .int x1] 2
  rw [← hav] at hent
  rw [hent]
  have hl := lv_entry ([.ref (ad 40), .int x1]) (n := 2) (Nat.le_of_ble_eq_true rfl)
  generalize (lg_sl ([.ref (ad 40), .int x1]) ++ List.replicate (2 - (lg_sl ([.ref (ad 40), .int x1])).length) Slot.unset).toArray = ls at hl ⊢
  have hl : lv_has ls 2 [(0, .ref (ad 40)), (1, .int x1)] := hl
  change W p l e rm_X3_passes s m args below meth c s.heap [] 0 0 QQ (F0 m 0 ls [])
  have hB20 : ∀ (u : TS) (H : Heap) (locs : List Loc) (ls : Array Slot), m_X3_passes_20 f u = some u9 → TH D ad dI dJ A s.heap u H locs → lv_has ls 2 [] → W p l e rm_X3_passes s m args below meth c H locs 0 0 QQ (F0 m 20 ls []) := by
    intro u H locs ls hm hw hl
    rw [m_X3_passes_20] at hm
    rw [← hQ]
    exact W.vret hx hb hr (fun t ht hW => ⟨⟨u, rfl, ret1 hm, by rw [ht]; exact hw.1, hw.2.1⟩, hw.2.2.1.F ht⟩) hw.2.2.1.2.2 dX3_passes_20
  have hB9 : ∀ (u : TS) (H : Heap) (locs : List Loc) (ls : Array Slot), m_X3_passes_9 f u = some u9 → TH D ad dI dJ A s.heap u H locs → lv_has ls 2 [(0, .ref (ad 40))] → W p l e rm_X3_passes s m args below meth c H locs 0 0 QQ (F0 m 9 ls []) := by
    intro u H locs ls hm hw hl
    rw [m_X3_passes_9] at hm
    refine lv_aload_n hx hb dX3_passes_9 rfl (lv_at hl 0 rfl) ?_
    refine tg_get C hw 15 (by decide) q1581 rfl dX3_passes_10 ?_
    refine lv_if_ne (tgt := 20) hx hb dX3_passes_13 (by decide) (fun c1 => ?_) (fun c1 => ?_)
    · have hm := ifT hm c1
      exact hB20 u _ _ _ hm hw (lv_sub hl [] rfl)
    · have hm := ifT' hm c1
      refine lv_aload_n hx hb dX3_passes_16 rfl (lv_at hl 0 rfl) ?_
      obtain ⟨u2, eu2, hm⟩ := bdE hm
      refine tg_callv hw (va_runV (As := []) (rest := []) ⟨hx, hb, hml, hown, hts⟩ (w_X3_next l eu2) (cw_X3_next hts q1702 ⟨Nat.le_of_ble_eq_true rfl, Nat.le_of_ble_eq_true rfl⟩) (tg_pre C hw _) rfl rfl hl.1 rfl (lv_room (Nat.le_of_ble_eq_true rfl)) dX3_passes_17 ⟨Nat.le_of_ble_eq_true rfl, Nat.le_of_ble_eq_true rfl⟩) (fun H locs hw => ?_)
      exact hB20 u2 _ _ _ hm hw (lv_sub hl [] rfl)
  rw [m_X3_passes] at hm
  refine lv_iload_n hx hb dX3_passes_0 rfl (lv_at hl 1 rfl) ?_
  refine lv_if_ne (tgt := 9) hx hb dX3_passes_1 (by decide) (fun c1 => ?_) (fun c1 => ?_)
  · have hm := ifT hm c1
    exact hB9 u _ _ _ hm hw (lv_sub hl [0] rfl)
  · have hm := ifT' hm c1
    refine lv_aload_n hx hb dX3_passes_4 rfl (lv_at hl 0 rfl) ?_
    refine lv_iconst (v := 1) hx hb dX3_passes_5 (by decide) ?_
    obtain ⟨u2, eu2, hm⟩ := bdE hm
    refine tg_callv hw (va_runV (As := [.int (1 : Int32)]) (rest := []) ⟨hx, hb, hml, hown, hts⟩ (w_X3_faults l eu2) (cw_X3_faults hts q1741 ⟨Nat.le_of_ble_eq_true rfl, Nat.le_of_ble_eq_true rfl⟩) (tg_pre C hw _) rfl rfl hl.1 rfl (lv_room (Nat.le_of_ble_eq_true rfl)) dX3_passes_6 ⟨Nat.le_of_ble_eq_true rfl, Nat.le_of_ble_eq_true rfl⟩) (fun H locs hw => ?_)
    exact hB9 u2 _ _ _ hm hw (lv_sub hl [0] rfl)
def m_X3_named_103 (f : Nat) (u : TS) : Option (Int32 × TS) := some ((-1 : Int32), u)
def m_X3_named_95 (f : Nat) (u : TS) (x1 : Int32) : Option (Int32 × TS) := some (x1, u)
def m_X3_named_91 (f : Nat) (k2 : TS → Int32 → Option (Int32 × TS)) (u : TS) (x1 : Int32) (x2 : Int32) : Option (Int32 × TS) := if x2 = 0 then
    nmv ((x1 + 1) : Int32) fun v2 =>
    k2 u v2
    else m_X3_named_95 f u x1
def m_X3_named_84 (f : Nat) (k2 : TS → Int32 → Option (Int32 × TS)) (k38 : TS → Int32 → Int32 → Int32 → Option (Int32 × TS)) (u : TS) (x1 : Int32) (x3 : Int32) (y0 : Int32) : Option (Int32 × TS) := nmv ((x3 + 1) : Int32) fun v1 =>
    k38 u x1 y0 v1
def m_X3_named_38 (f : Nat) (k2 : TS → Int32 → Option (Int32 × TS)) : Nat → TS → Int32 → Int32 → Int32 → Option (Int32 × TS)
  | 0, _, _, _, _ => none
  | n38 + 1, u, x1, x2, x3 => gd (ix x1 5) <|
    if (tA u 17 (Int32.toNatClampNeg x1)) ≤ x3 then
    m_X3_named_91 f k2 u x1 x2
    else if x2 = 0 then
    m_X3_named_91 f k2 u x1 x2
    else gd (ix x1 5) <|
    gd (ix ((tA u 16 (Int32.toNatClampNeg x1)) + x3) 500) <|
    gd (ix ((tI u 12) + x3) 500) <|
    if ¬ (tA u 3 (Int32.toNatClampNeg ((tA u 16 (Int32.toNatClampNeg x1)) + x3))) = (tA u 3 (Int32.toNatClampNeg ((tI u 12) + x3))) then
    m_X3_named_84 f k2 (m_X3_named_38 f k2 n38) u x1 x3 (0 : Int32)
    else m_X3_named_84 f k2 (m_X3_named_38 f k2 n38) u x1 x3 (1 : Int32)
def m_X3_named_35 (f : Nat) (k2 : TS → Int32 → Option (Int32 × TS)) (u : TS) (x1 : Int32) (y0 : Int32) : Option (Int32 × TS) := m_X3_named_38 f k2 f u x1 y0 (0 : Int32)
def m_X3_named_2 (f : Nat) : Nat → TS → Int32 → Option (Int32 × TS)
  | 0, _, _ => none
  | n2 + 1, u, x1 => if (tA u 0 (Int32.toNatClampNeg (0 : Int32))) ≤ x1 then
    m_X3_named_103 f u
    else gd (ix x1 5) <|
    if ¬ (tA u 17 (Int32.toNatClampNeg x1)) = ((tI u 11) - (tI u 12)) then
    m_X3_named_35 f (m_X3_named_2 f n2) u x1 (0 : Int32)
    else m_X3_named_35 f (m_X3_named_2 f n2) u x1 (1 : Int32)
def m_X3_named (f : Nat) (u : TS) : Option (Int32 × TS) := m_X3_named_2 f f u (0 : Int32)
abbrev rm_X3_named : Room := { frames := 0, cells := 0, slots := 0, locals := 0 }
theorem cw_X3_named {R : Room} {s : State} {args : Array Value} {own : String} {idx : Nat} (hts : ∀ w ∈ lw_all, w.before args s = true) (hl : Cond.methodLink own idx yX3_named ∈ lw_all) (hR : rm_X3_named.frames + 1 ≤ R.frames ∧ 8 + (4 + 11) + rm_X3_named.locals ≤ R.locals) : CallW R s args own RX3 idx yX3_named cX3_named 4 (Option.some Jvm.ClassFile.FieldType.int) (ws_ yX3_named cX3_named 4 (Option.some Jvm.ClassFile.FieldType.int)) rm_X3_named 0 0 0 := cwV 0 hts (lw_V hl q1758 qs62 q125 q1759) rfl rfl rfl (by decide +kernel) hR
set_option maxHeartbeats 4000000 in
set_option maxRecDepth 100000 in
theorem w_X3_named (l : Launch) {D : va_G} {ad : Nat → Nat} {dI dJ : ClassId} {A : Nat → Prop} {f : Nat} {u u9 : TS} {r0 : Int32}  (hm : m_X3_named f u = some (r0, u9)) : Met l yX3_named (ws_ yX3_named cX3_named 4 (Option.some Jvm.ClassFile.FieldType.int)) rm_X3_named (va_Pc [.ref (ad 40)] (TPre D ad dI dJ A u)) (va_Qi (fun r u => r = r0 ∧ u = u9) (TPost D ad dI dJ A) A) 0 0 A := by
  refine Met.ofW (cc := cX3_named) (maxL := 4) (ret := (Option.some Jvm.ClassFile.FieldType.int)) (by decide) rfl ?_
  intro p e s m args below meth c s₁ B hml hv
  have hx := B.exec
  have hb := B.bytes
  have hr := B.returns
  have hts := atoms_spec (ws := (ws_ yX3_named cX3_named 4 (Option.some Jvm.ClassFile.FieldType.int))) B.pre
  have hts : ∀ w ∈ lw_all, w.before args s = true := fun w h => hts w (List.mem_cons_of_mem _ h)
  have hown : s.vm.findClass RX3 = some m.cls := findClass_of_methodNamed B.named
  have hlocks := B.notSynchronized
  obtain ⟨hav, hv⟩ := hv
  have C : TC p s m args c cX3_named D dI dJ := ⟨hx, hb, hown, hts, hv.2.1⟩
  have hw : TH D ad dI dJ A s.heap u s.heap [] := ⟨hv.1, hv.2.2.1, va_S.rf, hv.2.2.2⟩
  generalize hQ : MQ below (va_Qi (fun r u => r = r0 ∧ u = u9) (TPost D ad dI dJ A) A) args s 0 0 A = QQ
  have hent := lg_entry_eq m [.ref (ad 40)] 4
  rw [← hav] at hent
  rw [hent]
  have hl := lv_entry ([.ref (ad 40)]) (n := 4) (Nat.le_of_ble_eq_true rfl)
  generalize (lg_sl ([.ref (ad 40)]) ++ List.replicate (4 - (lg_sl ([.ref (ad 40)])).length) Slot.unset).toArray = ls at hl ⊢
  have hl : lv_has ls 4 [(0, .ref (ad 40))] := hl
  change W p l e rm_X3_named s m args below meth c s.heap [] 0 0 QQ (F0 m 0 ls [])
  have hB103 : ∀ (u : TS) (H : Heap) (locs : List Loc) (ls : Array Slot), m_X3_named_103 f u = some (r0, u9) → TH D ad dI dJ A s.heap u H locs → lv_has ls 4 [] → W p l e rm_X3_named s m args below meth c H locs 0 0 QQ (F0 m 103 ls []) := by
    intro u H locs ls hm hw hl
    rw [m_X3_named_103] at hm
    refine lv_iconst (v := -1) hx hb dX3_named_103 (by decide) ?_
    rw [← hQ]
    exact W.iret (v := (-1 : Int32)) hx hb hr (fun t ht hW => ⟨⟨(-1 : Int32), u, rfl, retE hm, by rw [ht]; exact hw.1, hw.2.1⟩, hw.2.2.1.F ht⟩) hw.2.2.1.2.2 dX3_named_104
  have hB95 : ∀ (u : TS) (x1 : Int32) (H : Heap) (locs : List Loc) (ls : Array Slot), m_X3_named_95 f u x1 = some (r0, u9) → TH D ad dI dJ A s.heap u H locs → lv_has ls 4 [(1, .int x1)] → W p l e rm_X3_named s m args below meth c H locs 0 0 QQ (F0 m 95 ls []) := by
    intro u x1 H locs ls hm hw hl
    rw [m_X3_named_95] at hm
    refine lv_iload_n hx hb dX3_named_95 rfl (lv_at hl 0 rfl) ?_
    rw [← hQ]
    exact W.iret (v := x1) hx hb hr (fun t ht hW => ⟨⟨x1, u, rfl, retE hm, by rw [ht]; exact hw.1, hw.2.1⟩, hw.2.2.1.F ht⟩) hw.2.2.1.2.2 dX3_named_96
  have hB2 : ∀ (n2 : Nat), ∀ (u : TS) (x1 : Int32) (H : Heap) (locs : List Loc) (ls : Array Slot), m_X3_named_2 f n2 u x1 = some (r0, u9) → TH D ad dI dJ A s.heap u H locs → lv_has ls 4 [(0, .ref (ad 40)), (1, .int x1)] → W p l e rm_X3_named s m args below meth c H locs 0 0 QQ (F0 m 2 ls []) := by
    intro n2
    induction n2 with
    | zero => intro u x1 H locs ls hm hw hl; rw [m_X3_named_2] at hm; exact noE hm
    | succ n2 ih2 =>
      have hB91 : ∀ (u : TS) (x1 : Int32) (x2 : Int32) (H : Heap) (locs : List Loc) (ls : Array Slot), m_X3_named_91 f (m_X3_named_2 f n2) u x1 x2 = some (r0, u9) → TH D ad dI dJ A s.heap u H locs → lv_has ls 4 [(0, .ref (ad 40)), (1, .int x1), (2, .int x2)] → W p l e rm_X3_named s m args below meth c H locs 0 0 QQ (F0 m 91 ls []) := by
        intro u x1 x2 H locs ls hm hw hl
        rw [m_X3_named_91] at hm
        refine lv_iload_n hx hb dX3_named_91 rfl (lv_at hl 2 rfl) ?_
        refine lv_if_eq (tgt := 97) hx hb dX3_named_92 (by decide) (fun c1 => ?_) (fun c1 => ?_)
        · have hm := ifT hm c1
          obtain ⟨v2, ev2, hm⟩ := nmE hm
          refine lv_iinc (v := v2) (lv' := [(1, .int v2), (0, .ref (ad 40)), (2, .int x2)]) hx hb dX3_named_97 hl (k := 1) rfl (by rw [ev2]; rfl) (by decide) rfl (fun ls hl => ?_)
          refine lv_goto (tgt := 2) hx hb dX3_named_100 (by decide) ?_
          exact ih2 u v2 _ _ _ hm hw (lv_sub hl [1, 0] rfl)
        · have hm := ifF hm c1
          exact hB95 u x1 _ _ _ hm hw (lv_sub hl [1] rfl)
      have hB38 : ∀ (n38 : Nat), ∀ (u : TS) (x1 : Int32) (x2 : Int32) (x3 : Int32) (H : Heap) (locs : List Loc) (ls : Array Slot), m_X3_named_38 f (m_X3_named_2 f n2) n38 u x1 x2 x3 = some (r0, u9) → TH D ad dI dJ A s.heap u H locs → lv_has ls 4 [(0, .ref (ad 40)), (1, .int x1), (2, .int x2), (3, .int x3)] → W p l e rm_X3_named s m args below meth c H locs 0 0 QQ (F0 m 38 ls []) := by
        intro n38
        induction n38 with
        | zero => intro u x1 x2 x3 H locs ls hm hw hl; rw [m_X3_named_38] at hm; exact noE hm
        | succ n38 ih38 =>
          have hB84 : ∀ (u : TS) (x1 : Int32) (x3 : Int32) (y0 : Int32) (H : Heap) (locs : List Loc) (ls : Array Slot), m_X3_named_84 f (m_X3_named_2 f n2) (m_X3_named_38 f (m_X3_named_2 f n2) n38) u x1 x3 y0 = some (r0, u9) → TH D ad dI dJ A s.heap u H locs → lv_has ls 4 [(0, .ref (ad 40)), (1, .int x1), (3, .int x3)] → W p l e rm_X3_named s m args below meth c H locs 0 0 QQ (F0 m 84 ls [.int y0]) := by
            intro u x1 x3 y0 H locs ls hm hw hl
            rw [m_X3_named_84] at hm
            refine lv_istore_n (lv' := [(2, .int y0), (0, .ref (ad 40)), (1, .int x1), (3, .int x3)]) hx hb dX3_named_84 rfl hl (by decide) rfl (fun ls hl => ?_)
            obtain ⟨v1, ev1, hm⟩ := nmE hm
            refine lv_iinc (v := v1) (lv' := [(3, .int v1), (2, .int y0), (0, .ref (ad 40)), (1, .int x1)]) hx hb dX3_named_85 hl (k := 3) rfl (by rw [ev1]; rfl) (by decide) rfl (fun ls hl => ?_)
            refine lv_goto (tgt := 38) hx hb dX3_named_88 (by decide) ?_
            exact ih38 u x1 y0 v1 _ _ _ hm hw (lv_sub hl [2, 3, 1, 0] rfl)
          intro u x1 x2 x3 H locs ls hm hw hl
          rw [m_X3_named_38] at hm
          refine lv_iload_n hx hb dX3_named_38 rfl (lv_at hl 3 rfl) ?_
          refine lv_aload_n hx hb dX3_named_39 rfl (lv_at hl 0 rfl) ?_
          refine tg_get C hw 17 (by decide) q1583 rfl dX3_named_40 ?_
          refine lv_iload_n hx hb dX3_named_43 rfl (lv_at hl 1 rfl) ?_
          obtain ⟨g1, hm⟩ := gdE hm
          refine tg_iald C hw (tp_17 ad dI dJ u) g1 dX3_named_44 ?_
          refine lv_icmp_ge (tgt := 91) hx hb dX3_named_45 (by decide) (fun c2 => ?_) (fun c2 => ?_)
          · have hm := ifT hm c2
            exact hB91 u x1 x2 _ _ _ hm hw (lv_sub hl [0, 1, 2] rfl)
          · have hm := ifF hm c2
            refine lv_iload_n hx hb dX3_named_48 rfl (lv_at hl 2 rfl) ?_
            refine lv_if_eq (tgt := 91) hx hb dX3_named_49 (by decide) (fun c3 => ?_) (fun c3 => ?_)
            · have hm := ifT hm c3
              exact hB91 u x1 x2 _ _ _ hm hw (lv_sub hl [0, 1, 2] rfl)
            · have hm := ifF hm c3
              refine lv_aload_n hx hb dX3_named_52 rfl (lv_at hl 0 rfl) ?_
              refine tg_get C hw 3 (by decide) q1569 rfl dX3_named_53 ?_
              refine lv_aload_n hx hb dX3_named_56 rfl (lv_at hl 0 rfl) ?_
              refine tg_get C hw 16 (by decide) q1582 rfl dX3_named_57 ?_
              refine lv_iload_n hx hb dX3_named_60 rfl (lv_at hl 1 rfl) ?_
              obtain ⟨g4, hm⟩ := gdE hm
              refine tg_iald C hw (tp_16 ad dI dJ u) g4 dX3_named_61 ?_
              refine lv_iload_n hx hb dX3_named_62 rfl (lv_at hl 3 rfl) ?_
              refine lv_iadd hx hb dX3_named_63 ?_
              obtain ⟨g5, hm⟩ := gdE hm
              refine tg_iald C hw (tp_3 ad dI dJ u) g5 dX3_named_64 ?_
              refine lv_aload_n hx hb dX3_named_65 rfl (lv_at hl 0 rfl) ?_
              refine tg_get C hw 3 (by decide) q1569 rfl dX3_named_66 ?_
              refine lv_aload_n hx hb dX3_named_69 rfl (lv_at hl 0 rfl) ?_
              refine tg_get C hw 12 (by decide) q1578 rfl dX3_named_70 ?_
              refine lv_iload_n hx hb dX3_named_73 rfl (lv_at hl 3 rfl) ?_
              refine lv_iadd hx hb dX3_named_74 ?_
              obtain ⟨g6, hm⟩ := gdE hm
              refine tg_iald C hw (tp_3 ad dI dJ u) g6 dX3_named_75 ?_
              refine lv_icmp_ne (tgt := 83) hx hb dX3_named_76 (by decide) (fun c7 => ?_) (fun c7 => ?_)
              · have hm := ifT hm c7
                refine lv_iconst (v := 0) hx hb dX3_named_83 (by decide) ?_
                exact hB84 u x1 x3 (0 : Int32) _ _ _ hm hw (lv_sub hl [0, 1, 3] rfl)
              · have hm := ifT' hm c7
                refine lv_iconst (v := 1) hx hb dX3_named_79 (by decide) ?_
                refine lv_goto (tgt := 84) hx hb dX3_named_80 (by decide) ?_
                exact hB84 u x1 x3 (1 : Int32) _ _ _ hm hw (lv_sub hl [0, 1, 3] rfl)
      have hB35 : ∀ (u : TS) (x1 : Int32) (y0 : Int32) (H : Heap) (locs : List Loc) (ls : Array Slot), m_X3_named_35 f (m_X3_named_2 f n2) u x1 y0 = some (r0, u9) → TH D ad dI dJ A s.heap u H locs → lv_has ls 4 [(0, .ref (ad 40)), (1, .int x1)] → W p l e rm_X3_named s m args below meth c H locs 0 0 QQ (F0 m 35 ls [.int y0]) := by
        intro u x1 y0 H locs ls hm hw hl
        rw [m_X3_named_35] at hm
        refine lv_istore_n (lv' := [(2, .int y0), (0, .ref (ad 40)), (1, .int x1)]) hx hb dX3_named_35 rfl hl (by decide) rfl (fun ls hl => ?_)
        refine lv_iconst (v := 0) hx hb dX3_named_36 (by decide) ?_
        refine lv_istore_n (lv' := [(3, .int (0 : Int32)), (2, .int y0), (0, .ref (ad 40)), (1, .int x1)]) hx hb dX3_named_37 rfl hl (by decide) rfl (fun ls hl => ?_)
        exact hB38 f u x1 y0 (0 : Int32) _ _ _ hm hw (lv_sub hl [2, 3, 1, 0] rfl)
      intro u x1 H locs ls hm hw hl
      rw [m_X3_named_2] at hm
      refine lv_iload_n hx hb dX3_named_2 rfl (lv_at hl 1 rfl) ?_
      refine lv_aload_n hx hb dX3_named_3 rfl (lv_at hl 0 rfl) ?_
      refine tg_get C hw 0 (by decide) q1566 rfl dX3_named_4 ?_
      refine lv_iconst (v := 0) hx hb dX3_named_7 (by decide) ?_
      refine tg_iald C hw (tp_0 ad dI dJ u) (by decide) dX3_named_8 ?_
      refine lv_icmp_ge (tgt := 103) hx hb dX3_named_9 (by decide) (fun c1 => ?_) (fun c1 => ?_)
      · have hm := ifT hm c1
        exact hB103 u _ _ _ hm hw (lv_sub hl [] rfl)
      · have hm := ifF hm c1
        refine lv_aload_n hx hb dX3_named_12 rfl (lv_at hl 0 rfl) ?_
        refine tg_get C hw 17 (by decide) q1583 rfl dX3_named_13 ?_
        refine lv_iload_n hx hb dX3_named_16 rfl (lv_at hl 1 rfl) ?_
        obtain ⟨g2, hm⟩ := gdE hm
        refine tg_iald C hw (tp_17 ad dI dJ u) g2 dX3_named_17 ?_
        refine lv_aload_n hx hb dX3_named_18 rfl (lv_at hl 0 rfl) ?_
        refine tg_get C hw 11 (by decide) q1577 rfl dX3_named_19 ?_
        refine lv_aload_n hx hb dX3_named_22 rfl (lv_at hl 0 rfl) ?_
        refine tg_get C hw 12 (by decide) q1578 rfl dX3_named_23 ?_
        refine lv_isub hx hb dX3_named_26 ?_
        refine lv_icmp_ne (tgt := 34) hx hb dX3_named_27 (by decide) (fun c3 => ?_) (fun c3 => ?_)
        · have hm := ifT hm c3
          refine lv_iconst (v := 0) hx hb dX3_named_34 (by decide) ?_
          exact hB35 u x1 (0 : Int32) _ _ _ hm hw (lv_sub hl [0, 1] rfl)
        · have hm := ifT' hm c3
          refine lv_iconst (v := 1) hx hb dX3_named_30 (by decide) ?_
          refine lv_goto (tgt := 35) hx hb dX3_named_31 (by decide) ?_
          exact hB35 u x1 (1 : Int32) _ _ _ hm hw (lv_sub hl [0, 1] rfl)
  rw [m_X3_named] at hm
  refine lv_iconst (v := 0) hx hb dX3_named_0 (by decide) ?_
  refine lv_istore_n (lv' := [(1, .int (0 : Int32)), (0, .ref (ad 40))]) hx hb dX3_named_1 rfl hl (by decide) rfl (fun ls hl => ?_)
  exact hB2 f u (0 : Int32) _ _ _ hm hw (lv_sub hl [1, 0] rfl)
def m_X3_isSign_26 (f : Nat) (u : TS) (y0 : Int32) : Option (Int32 × TS) := gd (zb y0) <|
    some (y0, u)
def m_X3_isSign_25 (f : Nat) (u : TS) : Option (Int32 × TS) := m_X3_isSign_26 f u (0 : Int32)
def m_X3_isSign (f : Nat) (u : TS) (x1 : Int32) : Option (Int32 × TS) := if ¬ (tI u 13) = (3 : Int32) then
    m_X3_isSign_25 f u
    else gd (ix (tI u 12) 500) <|
    if ¬ (tA u 3 (Int32.toNatClampNeg (tI u 12))) = x1 then
    m_X3_isSign_25 f u
    else m_X3_isSign_26 f u (1 : Int32)
abbrev rm_X3_isSign : Room := { frames := 0, cells := 0, slots := 0, locals := 0 }
theorem cw_X3_isSign {R : Room} {s : State} {args : Array Value} {own : String} {idx : Nat} (hts : ∀ w ∈ lw_all, w.before args s = true) (hl : Cond.methodLink own idx yX3_isSign ∈ lw_all) (hR : rm_X3_isSign.frames + 1 ≤ R.frames ∧ 8 + (2 + 11) + rm_X3_isSign.locals ≤ R.locals) : CallW R s args own RX3 idx yX3_isSign cX3_isSign 2 (Option.some Jvm.ClassFile.FieldType.boolean) (ws_ yX3_isSign cX3_isSign 2 (Option.some Jvm.ClassFile.FieldType.boolean)) rm_X3_isSign 0 0 1 := cwV 1 hts (lw_V hl q1766 qs64 q125 q1767) rfl rfl rfl (by decide +kernel) hR
set_option maxHeartbeats 4000000 in
set_option maxRecDepth 100000 in
theorem w_X3_isSign (l : Launch) {D : va_G} {ad : Nat → Nat} {dI dJ : ClassId} {A : Nat → Prop} {f : Nat} {u u9 : TS} {r0 : Int32} {x1 : Int32} (hm : m_X3_isSign f u x1 = some (r0, u9)) : Met l yX3_isSign (ws_ yX3_isSign cX3_isSign 2 (Option.some Jvm.ClassFile.FieldType.boolean)) rm_X3_isSign (va_Pc [.ref (ad 40), .int x1] (TPre D ad dI dJ A u)) (va_Qi (fun r u => r = r0 ∧ u = u9) (TPost D ad dI dJ A) A) 0 0 A := by
  refine Met.ofW (cc := cX3_isSign) (maxL := 2) (ret := (Option.some Jvm.ClassFile.FieldType.boolean)) (by decide) rfl ?_
  intro p e s m args below meth c s₁ B hml hv
  have hx := B.exec
  have hb := B.bytes
  have hr := B.returns
  have hts := atoms_spec (ws := (ws_ yX3_isSign cX3_isSign 2 (Option.some Jvm.ClassFile.FieldType.boolean))) B.pre
  have hts : ∀ w ∈ lw_all, w.before args s = true := fun w h => hts w (List.mem_cons_of_mem _ h)
  have hown : s.vm.findClass RX3 = some m.cls := findClass_of_methodNamed B.named
  have hlocks := B.notSynchronized
  obtain ⟨hav, hv⟩ := hv
  have C : TC p s m args c cX3_isSign D dI dJ := ⟨hx, hb, hown, hts, hv.2.1⟩
  have hw : TH D ad dI dJ A s.heap u s.heap [] := ⟨hv.1, hv.2.2.1, va_S.rf, hv.2.2.2⟩
  generalize hQ : MQ below (va_Qi (fun r u => r = r0 ∧ u = u9) (TPost D ad dI dJ A) A) args s 0 0 A = QQ
  have hent := lg_entry_eq m [.ref (ad 40), .int x1] 2
  rw [← hav] at hent
  rw [hent]
  have hl := lv_entry ([.ref (ad 40), .int x1]) (n := 2) (Nat.le_of_ble_eq_true rfl)
  generalize (lg_sl ([.ref (ad 40), .int x1]) ++ List.replicate (2 - (lg_sl ([.ref (ad 40), .int x1])).length) Slot.unset).toArray = ls at hl ⊢
  have hl : lv_has ls 2 [(0, .ref (ad 40)), (1, .int x1)] := hl
  change W p l e rm_X3_isSign s m args below meth c s.heap [] 0 0 QQ (F0 m 0 ls [])
  have hB26 : ∀ (u : TS) (y0 : Int32) (H : Heap) (locs : List Loc) (ls : Array Slot), m_X3_isSign_26 f u y0 = some (r0, u9) → TH D ad dI dJ A s.heap u H locs → lv_has ls 2 [] → W p l e rm_X3_isSign s m args below meth c H locs 0 0 QQ (F0 m 26 ls [.int y0]) := by
    intro u y0 H locs ls hm hw hl
    rw [m_X3_isSign_26] at hm
    obtain ⟨g1, hm⟩ := gdE hm
    rw [← hQ]
    exact W.zret (v := y0) hx hb hr (zb_nar g1) (fun t ht hW => ⟨⟨y0, u, rfl, retE hm, by rw [ht]; exact hw.1, hw.2.1⟩, hw.2.2.1.F ht⟩) hw.2.2.1.2.2 dX3_isSign_26
  have hB25 : ∀ (u : TS) (H : Heap) (locs : List Loc) (ls : Array Slot), m_X3_isSign_25 f u = some (r0, u9) → TH D ad dI dJ A s.heap u H locs → lv_has ls 2 [] → W p l e rm_X3_isSign s m args below meth c H locs 0 0 QQ (F0 m 25 ls []) := by
    intro u H locs ls hm hw hl
    rw [m_X3_isSign_25] at hm
    refine lv_iconst (v := 0) hx hb dX3_isSign_25 (by decide) ?_
    exact hB26 u (0 : Int32) _ _ _ hm hw (lv_sub hl [] rfl)
  rw [m_X3_isSign] at hm
  refine lv_aload_n hx hb dX3_isSign_0 rfl (lv_at hl 0 rfl) ?_
  refine tg_get C hw 13 (by decide) q1579 rfl dX3_isSign_1 ?_
  refine lv_iconst (v := 3) hx hb dX3_isSign_4 (by decide) ?_
  refine lv_icmp_ne (tgt := 25) hx hb dX3_isSign_5 (by decide) (fun c1 => ?_) (fun c1 => ?_)
  · have hm := ifT hm c1
    exact hB25 u _ _ _ hm hw (lv_sub hl [] rfl)
  · have hm := ifT' hm c1
    refine lv_aload_n hx hb dX3_isSign_8 rfl (lv_at hl 0 rfl) ?_
    refine tg_get C hw 3 (by decide) q1569 rfl dX3_isSign_9 ?_
    refine lv_aload_n hx hb dX3_isSign_12 rfl (lv_at hl 0 rfl) ?_
    refine tg_get C hw 12 (by decide) q1578 rfl dX3_isSign_13 ?_
    obtain ⟨g2, hm⟩ := gdE hm
    refine tg_iald C hw (tp_3 ad dI dJ u) g2 dX3_isSign_16 ?_
    refine lv_iload_n hx hb dX3_isSign_17 rfl (lv_at hl 1 rfl) ?_
    refine lv_icmp_ne (tgt := 25) hx hb dX3_isSign_18 (by decide) (fun c3 => ?_) (fun c3 => ?_)
    · have hm := ifT hm c3
      exact hB25 u _ _ _ hm hw (lv_sub hl [] rfl)
    · have hm := ifT' hm c3
      refine lv_iconst (v := 1) hx hb dX3_isSign_21 (by decide) ?_
      refine lv_goto (tgt := 26) hx hb dX3_isSign_22 (by decide) ?_
      exact hB26 u (1 : Int32) _ _ _ hm hw (lv_sub hl [] rfl)
def m_X3_sees_69 (f : Nat) (u : TS) (y0 : Int32) : Option (Int32 × TS) := some (y0, u)
def m_X3_sees_53 (f : Nat) (u : TS) (x2 : Int32) : Option (Int32 × TS) := if x2 = 0 then
    m_X3_sees_69 f u (tI u 14)
    else m_X3_sees_69 f u (-(tI u 14))
def m_X3_sees_24 (f : Nat) (u : TS) (x1 : Int32) (x2 : Int32) : Option (Int32 × TS) := if (tI u 13) = (2 : Int32) then
    if (tI u 14) ≤ x1 then
    m_X3_sees_53 f u x2
    else bd (m_X3_faults f u (2 : Int32)) fun u3 =>
    m_X3_sees_53 f u3 x2
    else bd (m_X3_faults f u (1 : Int32)) fun u4 =>
    m_X3_sees_53 f u4 x2
def m_X3_sees (f : Nat) (u : TS) (x1 : Int32) : Option (Int32 × TS) := if (tI u 15) = 0 then
    bd2 (m_X3_isSign f u (45 : Int32)) fun r3 u2 =>
    if r3 = 0 then
    m_X3_sees_24 f u2 x1 r3
    else bd (m_X3_next f u2) fun u5 =>
    m_X3_sees_24 f u5 x1 r3
    else some ((0 : Int32), u)
abbrev rm_X3_sees : Room := { frames := 3, cells := 0, slots := 0, locals := 67 }
theorem cw_X3_sees {R : Room} {s : State} {args : Array Value} {own : String} {idx : Nat} (hts : ∀ w ∈ lw_all, w.before args s = true) (hl : Cond.methodLink own idx yX3_sees ∈ lw_all) (hR : rm_X3_sees.frames + 1 ≤ R.frames ∧ 8 + (3 + 11) + rm_X3_sees.locals ≤ R.locals) : CallW R s args own RX3 idx yX3_sees cX3_sees 3 (Option.some Jvm.ClassFile.FieldType.int) (ws_ yX3_sees cX3_sees 3 (Option.some Jvm.ClassFile.FieldType.int)) rm_X3_sees 0 0 1 := cwV 1 hts (lw_V hl q1762 qs63 q125 q1763) rfl rfl rfl (by decide +kernel) hR
set_option maxHeartbeats 4000000 in
set_option maxRecDepth 100000 in
theorem w_X3_sees (l : Launch) {D : va_G} {ad : Nat → Nat} {dI dJ : ClassId} {A : Nat → Prop} {f : Nat} {u u9 : TS} {r0 : Int32} {x1 : Int32} (hm : m_X3_sees f u x1 = some (r0, u9)) : Met l yX3_sees (ws_ yX3_sees cX3_sees 3 (Option.some Jvm.ClassFile.FieldType.int)) rm_X3_sees (va_Pc [.ref (ad 40), .int x1] (TPre D ad dI dJ A u)) (va_Qi (fun r u => r = r0 ∧ u = u9) (TPost D ad dI dJ A) A) 0 0 A := by
  refine Met.ofW (cc := cX3_sees) (maxL := 3) (ret := (Option.some Jvm.ClassFile.FieldType.int)) (by decide) rfl ?_
  intro p e s m args below meth c s₁ B hml hv
  have hx := B.exec
  have hb := B.bytes
  have hr := B.returns
  have hts := atoms_spec (ws := (ws_ yX3_sees cX3_sees 3 (Option.some Jvm.ClassFile.FieldType.int))) B.pre
  have hts : ∀ w ∈ lw_all, w.before args s = true := fun w h => hts w (List.mem_cons_of_mem _ h)
  have hown : s.vm.findClass RX3 = some m.cls := findClass_of_methodNamed B.named
  have hlocks := B.notSynchronized
  obtain ⟨hav, hv⟩ := hv
  have C : TC p s m args c cX3_sees D dI dJ := ⟨hx, hb, hown, hts, hv.2.1⟩
  have hw : TH D ad dI dJ A s.heap u s.heap [] := ⟨hv.1, hv.2.2.1, va_S.rf, hv.2.2.2⟩
  generalize hQ : MQ below (va_Qi (fun r u => r = r0 ∧ u = u9) (TPost D ad dI dJ A) A) args s 0 0 A = QQ
  have hent := lg_entry_eq m [.ref (ad 40), .int x1] 3
  rw [← hav] at hent
  rw [hent]
  have hl := lv_entry ([.ref (ad 40), .int x1]) (n := 3) (Nat.le_of_ble_eq_true rfl)
  generalize (lg_sl ([.ref (ad 40), .int x1]) ++ List.replicate (3 - (lg_sl ([.ref (ad 40), .int x1])).length) Slot.unset).toArray = ls at hl ⊢
  have hl : lv_has ls 3 [(0, .ref (ad 40)), (1, .int x1)] := hl
  change W p l e rm_X3_sees s m args below meth c s.heap [] 0 0 QQ (F0 m 0 ls [])
  have hB69 : ∀ (u : TS) (y0 : Int32) (H : Heap) (locs : List Loc) (ls : Array Slot), m_X3_sees_69 f u y0 = some (r0, u9) → TH D ad dI dJ A s.heap u H locs → lv_has ls 3 [] → W p l e rm_X3_sees s m args below meth c H locs 0 0 QQ (F0 m 69 ls [.int y0]) := by
    intro u y0 H locs ls hm hw hl
    rw [m_X3_sees_69] at hm
    rw [← hQ]
    exact W.iret (v := y0) hx hb hr (fun t ht hW => ⟨⟨y0, u, rfl, retE hm, by rw [ht]; exact hw.1, hw.2.1⟩, hw.2.2.1.F ht⟩) hw.2.2.1.2.2 dX3_sees_69
  have hB53 : ∀ (u : TS) (x2 : Int32) (H : Heap) (locs : List Loc) (ls : Array Slot), m_X3_sees_53 f u x2 = some (r0, u9) → TH D ad dI dJ A s.heap u H locs → lv_has ls 3 [(0, .ref (ad 40)), (2, .int x2)] → W p l e rm_X3_sees s m args below meth c H locs 0 0 QQ (F0 m 53 ls []) := by
    intro u x2 H locs ls hm hw hl
    rw [m_X3_sees_53] at hm
    refine lv_iload_n hx hb dX3_sees_53 rfl (lv_at hl 1 rfl) ?_
    refine lv_if_eq (tgt := 65) hx hb dX3_sees_54 (by decide) (fun c1 => ?_) (fun c1 => ?_)
    · have hm := ifT hm c1
      refine lv_aload_n hx hb dX3_sees_65 rfl (lv_at hl 0 rfl) ?_
      refine tg_get C hw 14 (by decide) q1580 rfl dX3_sees_66 ?_
      exact hB69 u (tI u 14) _ _ _ hm hw (lv_sub hl [] rfl)
    · have hm := ifF hm c1
      refine lv_aload_n hx hb dX3_sees_57 rfl (lv_at hl 0 rfl) ?_
      refine tg_get C hw 14 (by decide) q1580 rfl dX3_sees_58 ?_
      refine lv_ineg hx hb dX3_sees_61 ?_
      refine lv_goto (tgt := 69) hx hb dX3_sees_62 (by decide) ?_
      exact hB69 u (-(tI u 14)) _ _ _ hm hw (lv_sub hl [] rfl)
  have hB24 : ∀ (u : TS) (x1 : Int32) (x2 : Int32) (H : Heap) (locs : List Loc) (ls : Array Slot), m_X3_sees_24 f u x1 x2 = some (r0, u9) → TH D ad dI dJ A s.heap u H locs → lv_has ls 3 [(0, .ref (ad 40)), (1, .int x1), (2, .int x2)] → W p l e rm_X3_sees s m args below meth c H locs 0 0 QQ (F0 m 24 ls []) := by
    intro u x1 x2 H locs ls hm hw hl
    rw [m_X3_sees_24] at hm
    refine lv_aload_n hx hb dX3_sees_24 rfl (lv_at hl 0 rfl) ?_
    refine tg_get C hw 13 (by decide) q1579 rfl dX3_sees_25 ?_
    refine lv_iconst (v := 2) hx hb dX3_sees_28 (by decide) ?_
    refine lv_icmp_eq (tgt := 40) hx hb dX3_sees_29 (by decide) (fun c1 => ?_) (fun c1 => ?_)
    · have hm := ifT hm c1
      refine lv_aload_n hx hb dX3_sees_40 rfl (lv_at hl 0 rfl) ?_
      refine tg_get C hw 14 (by decide) q1580 rfl dX3_sees_41 ?_
      refine lv_iload_n hx hb dX3_sees_44 rfl (lv_at hl 1 rfl) ?_
      refine lv_icmp_le (tgt := 53) hx hb dX3_sees_45 (by decide) (fun c2 => ?_) (fun c2 => ?_)
      · have hm := ifT hm c2
        exact hB53 u x2 _ _ _ hm hw (lv_sub hl [0, 2] rfl)
      · have hm := ifF hm c2
        refine lv_aload_n hx hb dX3_sees_48 rfl (lv_at hl 0 rfl) ?_
        refine lv_iconst (v := 2) hx hb dX3_sees_49 (by decide) ?_
        obtain ⟨u3, eu3, hm⟩ := bdE hm
        refine tg_callv hw (va_runV (As := [.int (2 : Int32)]) (rest := []) ⟨hx, hb, hml, hown, hts⟩ (w_X3_faults l eu3) (cw_X3_faults hts q1741 ⟨Nat.le_of_ble_eq_true rfl, Nat.le_of_ble_eq_true rfl⟩) (tg_pre C hw _) rfl rfl hl.1 rfl (lv_room (Nat.le_of_ble_eq_true rfl)) dX3_sees_50 ⟨Nat.le_of_ble_eq_true rfl, Nat.le_of_ble_eq_true rfl⟩) (fun H locs hw => ?_)
        exact hB53 u3 x2 _ _ _ hm hw (lv_sub hl [0, 2] rfl)
    · have hm := ifF hm c1
      refine lv_aload_n hx hb dX3_sees_32 rfl (lv_at hl 0 rfl) ?_
      refine lv_iconst (v := 1) hx hb dX3_sees_33 (by decide) ?_
      obtain ⟨u4, eu4, hm⟩ := bdE hm
      refine tg_callv hw (va_runV (As := [.int (1 : Int32)]) (rest := []) ⟨hx, hb, hml, hown, hts⟩ (w_X3_faults l eu4) (cw_X3_faults hts q1741 ⟨Nat.le_of_ble_eq_true rfl, Nat.le_of_ble_eq_true rfl⟩) (tg_pre C hw _) rfl rfl hl.1 rfl (lv_room (Nat.le_of_ble_eq_true rfl)) dX3_sees_34 ⟨Nat.le_of_ble_eq_true rfl, Nat.le_of_ble_eq_true rfl⟩) (fun H locs hw => ?_)
      refine lv_goto (tgt := 53) hx hb dX3_sees_37 (by decide) ?_
      exact hB53 u4 x2 _ _ _ hm hw (lv_sub hl [0, 2] rfl)
  rw [m_X3_sees] at hm
  refine lv_aload_n hx hb dX3_sees_0 rfl (lv_at hl 0 rfl) ?_
  refine tg_get C hw 15 (by decide) q1581 rfl dX3_sees_1 ?_
  refine lv_if_eq (tgt := 9) hx hb dX3_sees_4 (by decide) (fun c1 => ?_) (fun c1 => ?_)
  · have hm := ifT hm c1
    refine lv_aload_n hx hb dX3_sees_9 rfl (lv_at hl 0 rfl) ?_
    refine lv_bipush (v := 45) hx hb dX3_sees_10 (by decide) ?_
    obtain ⟨r3, u2, er3, hm⟩ := bd2E hm
    refine tg_calli hw (va_runV (As := [.int (45 : Int32)]) (rest := []) ⟨hx, hb, hml, hown, hts⟩ (w_X3_isSign l er3) (cw_X3_isSign hts q1764 ⟨Nat.le_of_ble_eq_true rfl, Nat.le_of_ble_eq_true rfl⟩) (tg_pre C hw _) rfl rfl hl.1 rfl (lv_room (Nat.le_of_ble_eq_true rfl)) dX3_sees_12 ⟨Nat.le_of_ble_eq_true rfl, Nat.le_of_ble_eq_true rfl⟩) (fun H locs hw => ?_)
    refine lv_istore_n (lv' := [(2, .int r3), (0, .ref (ad 40)), (1, .int x1)]) hx hb dX3_sees_15 rfl hl (by decide) rfl (fun ls hl => ?_)
    refine lv_iload_n hx hb dX3_sees_16 rfl (lv_at hl 0 rfl) ?_
    refine lv_if_eq (tgt := 24) hx hb dX3_sees_17 (by decide) (fun c4 => ?_) (fun c4 => ?_)
    · have hm := ifT hm c4
      exact hB24 u2 x1 r3 _ _ _ hm hw (lv_sub hl [1, 2, 0] rfl)
    · have hm := ifF hm c4
      refine lv_aload_n hx hb dX3_sees_20 rfl (lv_at hl 1 rfl) ?_
      obtain ⟨u5, eu5, hm⟩ := bdE hm
      refine tg_callv hw (va_runV (As := []) (rest := []) ⟨hx, hb, hml, hown, hts⟩ (w_X3_next l eu5) (cw_X3_next hts q1702 ⟨Nat.le_of_ble_eq_true rfl, Nat.le_of_ble_eq_true rfl⟩) (tg_pre C hw _) rfl rfl hl.1 rfl (lv_room (Nat.le_of_ble_eq_true rfl)) dX3_sees_21 ⟨Nat.le_of_ble_eq_true rfl, Nat.le_of_ble_eq_true rfl⟩) (fun H locs hw => ?_)
      exact hB24 u5 x1 r3 _ _ _ hm hw (lv_sub hl [1, 2, 0] rfl)
  · have hm := ifF hm c1
    refine lv_iconst (v := 0) hx hb dX3_sees_7 (by decide) ?_
    rw [← hQ]
    exact W.iret (v := (0 : Int32)) hx hb hr (fun t ht hW => ⟨⟨(0 : Int32), u, rfl, retE hm, by rw [ht]; exact hw.1, hw.2.1⟩, hw.2.2.1.F ht⟩) hw.2.2.1.2.2 dX3_sees_8
def m_X3_detOf_97 (f : Nat) (u : TS) (x2 : Int64) : Option (Int64 × TS) := some (x2, u)
def m_X3_detOf_5 (f : Nat) : Nat → TS → Int32 → Int64 → Int32 → Option (Int64 × TS)
  | 0, _, _, _, _ => none
  | n5 + 1, u, x1, x2, x4 => if (3 : Int32) ≤ x4 then
    m_X3_detOf_97 f u x2
    else gd (ix (x1 + x4) 73) <|
    gd (ix ((x1 + (3 : Int32)) + (rmI (x4 + (1 : Int32)) (3 : Int32))) 73) <|
    gd (ix ((x1 + (6 : Int32)) + (rmI (x4 + (2 : Int32)) (3 : Int32))) 73) <|
    gd (ix ((x1 + (3 : Int32)) + (rmI (x4 + (2 : Int32)) (3 : Int32))) 73) <|
    gd (ix ((x1 + (6 : Int32)) + (rmI (x4 + (1 : Int32)) (3 : Int32))) 73) <|
    nmv ((x2 + ((Int32.toInt64 (tA u 0 (Int32.toNatClampNeg (x1 + x4)))) * (Int32.toInt64 (((tA u 0 (Int32.toNatClampNeg ((x1 + (3 : Int32)) + (rmI (x4 + (1 : Int32)) (3 : Int32))))) * (tA u 0 (Int32.toNatClampNeg ((x1 + (6 : Int32)) + (rmI (x4 + (2 : Int32)) (3 : Int32)))))) - ((tA u 0 (Int32.toNatClampNeg ((x1 + (3 : Int32)) + (rmI (x4 + (2 : Int32)) (3 : Int32))))) * (tA u 0 (Int32.toNatClampNeg ((x1 + (6 : Int32)) + (rmI (x4 + (1 : Int32)) (3 : Int32)))))))))) : Int64) fun v7 =>
    nmv ((x4 + 1) : Int32) fun v8 =>
    m_X3_detOf_5 f n5 u x1 v7 v8
def m_X3_detOf (f : Nat) (u : TS) (x1 : Int32) : Option (Int64 × TS) := m_X3_detOf_5 f f u x1 (0 : Int64) (0 : Int32)
abbrev rm_X3_detOf : Room := { frames := 0, cells := 0, slots := 0, locals := 0 }
theorem cw_X3_detOf {R : Room} {s : State} {args : Array Value} {own : String} {idx : Nat} (hts : ∀ w ∈ lw_all, w.before args s = true) (hl : Cond.methodLink own idx yX3_detOf ∈ lw_all) (hR : rm_X3_detOf.frames + 1 ≤ R.frames ∧ 8 + (5 + 11) + rm_X3_detOf.locals ≤ R.locals) : CallW R s args own RX3 idx yX3_detOf cX3_detOf 5 (Option.some Jvm.ClassFile.FieldType.long) (ws_ yX3_detOf cX3_detOf 5 (Option.some Jvm.ClassFile.FieldType.long)) rm_X3_detOf 0 0 1 := cwV 1 hts (lw_V hl q1770 qs65 q125 q1771) rfl rfl rfl (by decide +kernel) hR
set_option maxHeartbeats 4000000 in
set_option maxRecDepth 100000 in
theorem w_X3_detOf (l : Launch) {D : va_G} {ad : Nat → Nat} {dI dJ : ClassId} {A : Nat → Prop} {f : Nat} {u u9 : TS} {r0 : Int64} {x1 : Int32} (hm : m_X3_detOf f u x1 = some (r0, u9)) : Met l yX3_detOf (ws_ yX3_detOf cX3_detOf 5 (Option.some Jvm.ClassFile.FieldType.long)) rm_X3_detOf (va_Pc [.ref (ad 40), .int x1] (TPre D ad dI dJ A u)) (va_Ql (fun r u => r = r0 ∧ u = u9) (TPost D ad dI dJ A) A) 0 0 A := by
  refine Met.ofW (cc := cX3_detOf) (maxL := 5) (ret := (Option.some Jvm.ClassFile.FieldType.long)) (by decide) rfl ?_
  intro p e s m args below meth c s₁ B hml hv
  have hx := B.exec
  have hb := B.bytes
  have hr := B.returns
  have hts := atoms_spec (ws := (ws_ yX3_detOf cX3_detOf 5 (Option.some Jvm.ClassFile.FieldType.long))) B.pre
  have hts : ∀ w ∈ lw_all, w.before args s = true := fun w h => hts w (List.mem_cons_of_mem _ h)
  have hown : s.vm.findClass RX3 = some m.cls := findClass_of_methodNamed B.named
  have hlocks := B.notSynchronized
  obtain ⟨hav, hv⟩ := hv
  have C : TC p s m args c cX3_detOf D dI dJ := ⟨hx, hb, hown, hts, hv.2.1⟩
  have hw : TH D ad dI dJ A s.heap u s.heap [] := ⟨hv.1, hv.2.2.1, va_S.rf, hv.2.2.2⟩
  generalize hQ : MQ below (va_Ql (fun r u => r = r0 ∧ u = u9) (TPost D ad dI dJ A) A) args s 0 0 A = QQ
  have hent := lg_entry_eq m [.ref (ad 40), .int x1] 5
  rw [← hav] at hent
  rw [hent]
  have hl := lv_entry ([.ref (ad 40), .int x1]) (n := 5) (Nat.le_of_ble_eq_true rfl)
  generalize (lg_sl ([.ref (ad 40), .int x1]) ++ List.replicate (5 - (lg_sl ([.ref (ad 40), .int x1])).length) Slot.unset).toArray = ls at hl ⊢
  have hl : lv_has ls 5 [(0, .ref (ad 40)), (1, .int x1)] := hl
  change W p l e rm_X3_detOf s m args below meth c s.heap [] 0 0 QQ (F0 m 0 ls [])
  have hB97 : ∀ (u : TS) (x2 : Int64) (H : Heap) (locs : List Loc) (ls : Array Slot), m_X3_detOf_97 f u x2 = some (r0, u9) → TH D ad dI dJ A s.heap u H locs → lv_has ls 5 [(2, .long x2)] → W p l e rm_X3_detOf s m args below meth c H locs 0 0 QQ (F0 m 97 ls []) := by
    intro u x2 H locs ls hm hw hl
    rw [m_X3_detOf_97] at hm
    refine lv_lload_n hx hb dX3_detOf_97 rfl (lv_at hl 0 rfl) ?_
    rw [← hQ]
    exact W.lret (v := x2) hx hb hr (fun t ht hW => ⟨⟨x2, u, rfl, retE hm, by rw [ht]; exact hw.1, hw.2.1⟩, hw.2.2.1.F ht⟩) hw.2.2.1.2.2 dX3_detOf_98
  have hB5 : ∀ (n5 : Nat), ∀ (u : TS) (x1 : Int32) (x2 : Int64) (x4 : Int32) (H : Heap) (locs : List Loc) (ls : Array Slot), m_X3_detOf_5 f n5 u x1 x2 x4 = some (r0, u9) → TH D ad dI dJ A s.heap u H locs → lv_has ls 5 [(0, .ref (ad 40)), (1, .int x1), (2, .long x2), (4, .int x4)] → W p l e rm_X3_detOf s m args below meth c H locs 0 0 QQ (F0 m 5 ls []) := by
    intro n5
    induction n5 with
    | zero => intro u x1 x2 x4 H locs ls hm hw hl; rw [m_X3_detOf_5] at hm; exact noE hm
    | succ n5 ih5 =>
      intro u x1 x2 x4 H locs ls hm hw hl
      rw [m_X3_detOf_5] at hm
      refine lv_iload hx hb dX3_detOf_5 (lv_at hl 3 rfl) ?_
      refine lv_iconst (v := 3) hx hb dX3_detOf_7 (by decide) ?_
      refine lv_icmp_ge (tgt := 97) hx hb dX3_detOf_8 (by decide) (fun c1 => ?_) (fun c1 => ?_)
      · have hm := ifT hm c1
        exact hB97 u x2 _ _ _ hm hw (lv_sub hl [2] rfl)
      · have hm := ifF hm c1
        refine lv_lload_n hx hb dX3_detOf_11 rfl (lv_at hl 2 rfl) ?_
        refine lv_aload_n hx hb dX3_detOf_12 rfl (lv_at hl 0 rfl) ?_
        refine tg_get C hw 0 (by decide) q1566 rfl dX3_detOf_13 ?_
        refine lv_iload_n hx hb dX3_detOf_16 rfl (lv_at hl 1 rfl) ?_
        refine lv_iload hx hb dX3_detOf_17 (lv_at hl 3 rfl) ?_
        refine lv_iadd hx hb dX3_detOf_19 ?_
        obtain ⟨g2, hm⟩ := gdE hm
        refine tg_iald C hw (tp_0 ad dI dJ u) g2 dX3_detOf_20 ?_
        refine lv_i2l hx hb dX3_detOf_21 rfl ?_
        refine lv_aload_n hx hb dX3_detOf_22 rfl (lv_at hl 0 rfl) ?_
        refine tg_get C hw 0 (by decide) q1566 rfl dX3_detOf_23 ?_
        refine lv_iload_n hx hb dX3_detOf_26 rfl (lv_at hl 1 rfl) ?_
        refine lv_iconst (v := 3) hx hb dX3_detOf_27 (by decide) ?_
        refine lv_iadd hx hb dX3_detOf_28 ?_
        refine lv_iload hx hb dX3_detOf_29 (lv_at hl 3 rfl) ?_
        refine lv_iconst (v := 1) hx hb dX3_detOf_31 (by decide) ?_
        refine lv_iadd hx hb dX3_detOf_32 ?_
        refine lv_iconst (v := 3) hx hb dX3_detOf_33 (by decide) ?_
        refine w_irem hx hb dX3_detOf_34 (by decide) ?_
        refine lv_iadd hx hb dX3_detOf_35 ?_
        obtain ⟨g3, hm⟩ := gdE hm
        refine tg_iald C hw (tp_0 ad dI dJ u) g3 dX3_detOf_36 ?_
        refine lv_aload_n hx hb dX3_detOf_37 rfl (lv_at hl 0 rfl) ?_
        refine tg_get C hw 0 (by decide) q1566 rfl dX3_detOf_38 ?_
        refine lv_iload_n hx hb dX3_detOf_41 rfl (lv_at hl 1 rfl) ?_
        refine lv_bipush (v := 6) hx hb dX3_detOf_42 (by decide) ?_
        refine lv_iadd hx hb dX3_detOf_44 ?_
        refine lv_iload hx hb dX3_detOf_45 (lv_at hl 3 rfl) ?_
        refine lv_iconst (v := 2) hx hb dX3_detOf_47 (by decide) ?_
        refine lv_iadd hx hb dX3_detOf_48 ?_
        refine lv_iconst (v := 3) hx hb dX3_detOf_49 (by decide) ?_
        refine w_irem hx hb dX3_detOf_50 (by decide) ?_
        refine lv_iadd hx hb dX3_detOf_51 ?_
        obtain ⟨g4, hm⟩ := gdE hm
        refine tg_iald C hw (tp_0 ad dI dJ u) g4 dX3_detOf_52 ?_
        refine lv_imul hx hb dX3_detOf_53 ?_
        refine lv_aload_n hx hb dX3_detOf_54 rfl (lv_at hl 0 rfl) ?_
        refine tg_get C hw 0 (by decide) q1566 rfl dX3_detOf_55 ?_
        refine lv_iload_n hx hb dX3_detOf_58 rfl (lv_at hl 1 rfl) ?_
        refine lv_iconst (v := 3) hx hb dX3_detOf_59 (by decide) ?_
        refine lv_iadd hx hb dX3_detOf_60 ?_
        refine lv_iload hx hb dX3_detOf_61 (lv_at hl 3 rfl) ?_
        refine lv_iconst (v := 2) hx hb dX3_detOf_63 (by decide) ?_
        refine lv_iadd hx hb dX3_detOf_64 ?_
        refine lv_iconst (v := 3) hx hb dX3_detOf_65 (by decide) ?_
        refine w_irem hx hb dX3_detOf_66 (by decide) ?_
        refine lv_iadd hx hb dX3_detOf_67 ?_
        obtain ⟨g5, hm⟩ := gdE hm
        refine tg_iald C hw (tp_0 ad dI dJ u) g5 dX3_detOf_68 ?_
        refine lv_aload_n hx hb dX3_detOf_69 rfl (lv_at hl 0 rfl) ?_
        refine tg_get C hw 0 (by decide) q1566 rfl dX3_detOf_70 ?_
        refine lv_iload_n hx hb dX3_detOf_73 rfl (lv_at hl 1 rfl) ?_
        refine lv_bipush (v := 6) hx hb dX3_detOf_74 (by decide) ?_
        refine lv_iadd hx hb dX3_detOf_76 ?_
        refine lv_iload hx hb dX3_detOf_77 (lv_at hl 3 rfl) ?_
        refine lv_iconst (v := 1) hx hb dX3_detOf_79 (by decide) ?_
        refine lv_iadd hx hb dX3_detOf_80 ?_
        refine lv_iconst (v := 3) hx hb dX3_detOf_81 (by decide) ?_
        refine w_irem hx hb dX3_detOf_82 (by decide) ?_
        refine lv_iadd hx hb dX3_detOf_83 ?_
        obtain ⟨g6, hm⟩ := gdE hm
        refine tg_iald C hw (tp_0 ad dI dJ u) g6 dX3_detOf_84 ?_
        refine lv_imul hx hb dX3_detOf_85 ?_
        refine lv_isub hx hb dX3_detOf_86 ?_
        refine lv_i2l hx hb dX3_detOf_87 rfl ?_
        refine lv_lmul hx hb dX3_detOf_88 ?_
        refine lv_ladd hx hb dX3_detOf_89 ?_
        refine lv_topl (fun v7 ev7 => ?_)
        have hm := nmK hm ev7
        refine lv_lstore_n (lv' := [(2, .long v7), (0, .ref (ad 40)), (1, .int x1), (4, .int x4)]) hx hb dX3_detOf_90 rfl hl (by decide) rfl (fun ls hl => ?_)
        obtain ⟨v8, ev8, hm⟩ := nmE hm
        refine lv_iinc (v := v8) (lv' := [(4, .int v8), (2, .long v7), (0, .ref (ad 40)), (1, .int x1)]) hx hb dX3_detOf_91 hl (k := 3) rfl (by rw [ev8]; rfl) (by decide) rfl (fun ls hl => ?_)
        refine lv_goto (tgt := 5) hx hb dX3_detOf_94 (by decide) ?_
        exact ih5 u x1 v7 v8 _ _ _ hm hw (lv_sub hl [2, 3, 1, 0] rfl)
  rw [m_X3_detOf] at hm
  refine lv_lconst (v := 0) hx hb dX3_detOf_0 (by decide) ?_
  refine lv_lstore_n (lv' := [(2, .long (0 : Int64)), (0, .ref (ad 40)), (1, .int x1)]) hx hb dX3_detOf_1 rfl hl (by decide) rfl (fun ls hl => ?_)
  refine lv_iconst (v := 0) hx hb dX3_detOf_2 (by decide) ?_
  refine lv_istore (lv' := [(4, .int (0 : Int32)), (2, .long (0 : Int64)), (0, .ref (ad 40)), (1, .int x1)]) hx hb dX3_detOf_3 hl (by decide) rfl (fun ls hl => ?_)
  exact hB5 f u x1 (0 : Int64) (0 : Int32) _ _ _ hm hw (lv_sub hl [2, 3, 1, 0] rfl)
def m_X3_sized_12 (f : Nat) (y0 : Int64) : Option Int64 := some y0
def m_X3_sized (f : Nat) (x0 : Int64) : Option Int64 := if (0 : Int64) ≤ x0 then
    m_X3_sized_12 f x0
    else m_X3_sized_12 f (-x0)
abbrev rm_X3_sized : Room := { frames := 0, cells := 0, slots := 0, locals := 0 }
theorem cw_X3_sized {R : Room} {s : State} {args : Array Value} {own : String} {idx : Nat} (hts : ∀ w ∈ lw_all, w.before args s = true) (hl : Cond.methodLink own idx yX3_sized ∈ lw_all) (hR : rm_X3_sized.frames + 1 ≤ R.frames ∧ 8 + (2 + 11) + rm_X3_sized.locals ≤ R.locals) : CallB R s args own idx yX3_sized cX3_sized 2 (Option.some Jvm.ClassFile.FieldType.long) (ws_ yX3_sized cX3_sized 2 (Option.some Jvm.ClassFile.FieldType.long)) rm_X3_sized 0 0 1 ∧ (Cond.static yX3_sized).before args s = true := va_cwS 1 hts (lw_S hl q1773 q125 q1774) rfl rfl rfl (by decide +kernel) hR
set_option maxHeartbeats 4000000 in
set_option maxRecDepth 100000 in
theorem w_X3_sized (l : Launch) {f : Nat} {x0 : Int64} {r0 : Int64} (hm : m_X3_sized f x0 = some r0) : Met l yX3_sized (ws_ yX3_sized cX3_sized 2 (Option.some Jvm.ClassFile.FieldType.long)) rm_X3_sized (va_Pc [.long x0] (fun _ => True)) (vp_Sl (fun r => r = r0)) 0 0 (fun _ => False) := by
  refine Met.ofW (cc := cX3_sized) (maxL := 2) (ret := (Option.some Jvm.ClassFile.FieldType.long)) (by decide) rfl ?_
  intro p e s m args below meth c s₁ B hml hv
  have hx := B.exec
  have hb := B.bytes
  have hr := B.returns
  have hts := atoms_spec (ws := (ws_ yX3_sized cX3_sized 2 (Option.some Jvm.ClassFile.FieldType.long))) B.pre
  have hts : ∀ w ∈ lw_all, w.before args s = true := fun w h => hts w (List.mem_cons_of_mem _ h)
  have hown : s.vm.findClass RX3 = some m.cls := findClass_of_methodNamed B.named
  have hlocks := B.notSynchronized
  obtain ⟨hav, hv⟩ := hv
  generalize hQ : MQ below (vp_Sl (fun r => r = r0)) args s 0 0 (fun _ => False) = QQ
  have hent := lg_entry_eq m [.long x0] 2
  rw [← hav] at hent
  rw [hent]
  have hl := lv_entry ([.long x0]) (n := 2) (Nat.le_of_ble_eq_true rfl)
  generalize (lg_sl ([.long x0]) ++ List.replicate (2 - (lg_sl ([.long x0])).length) Slot.unset).toArray = ls at hl ⊢
  have hl : lv_has ls 2 [(0, .long x0)] := hl
  change W p l e rm_X3_sized s m args below meth c s.heap [] 0 0 QQ (F0 m 0 ls [])
  have hB12 : ∀ (y0 : Int64) (ls : Array Slot), m_X3_sized_12 f y0 = some r0 → lv_has ls 2 [] → W p l e rm_X3_sized s m args below meth c s.heap [] 0 0 QQ (F0 m 12 ls [.long y0]) := by
    intro y0 ls hm hl
    rw [m_X3_sized_12] at hm
    rw [← hQ]
    exact W.lret (v := y0) hx hb hr (fun t ht hW => ⟨y0, rfl, ret1 hm, ht⟩) (fun q h => absurd h List.not_mem_nil) dX3_sized_12
  rw [m_X3_sized] at hm
  refine lv_lload_n hx hb dX3_sized_0 rfl (lv_at hl 0 rfl) ?_
  refine lv_lconst (v := 0) hx hb dX3_sized_1 (by decide) ?_
  refine lc_ge (tgt := 11) hx hb dX3_sized_2 dX3_sized_3 (by decide) (fun c1 => ?_) (fun c1 => ?_)
  · have hm := ifT hm c1
    refine lv_lload_n hx hb dX3_sized_11 rfl (lv_at hl 0 rfl) ?_
    exact hB12 x0 _ hm (lv_sub hl [] rfl)
  · have hm := ifF hm c1
    refine lv_lload_n hx hb dX3_sized_6 rfl (lv_at hl 0 rfl) ?_
    refine lv_lneg hx hb dX3_sized_7 ?_
    refine lv_goto (tgt := 12) hx hb dX3_sized_8 (by decide) ?_
    exact hB12 (-x0) _ hm (lv_sub hl [] rfl)
def m_X3_fault_24 (f : Nat) (u : TS) (y0 : Int32) : Option (Int32 × TS) := some (y0, u)
def m_X3_fault (f : Nat) (u : TS) (x1 : Int32) : Option (Int32 × TS) := if ¬ x1 = 0 then
    if ¬ x1 = (1 : Int32) then
    m_X3_fault_24 f u (-1 : Int32)
    else m_X3_fault_24 f u (tI u 6)
    else m_X3_fault_24 f u (tI u 5)
abbrev rm_X3_fault : Room := { frames := 0, cells := 0, slots := 0, locals := 0 }
theorem cw_X3_fault {R : Room} {s : State} {args : Array Value} {own : String} {idx : Nat} (hts : ∀ w ∈ lw_all, w.before args s = true) (hl : Cond.methodLink own idx yX3_fault ∈ lw_all) (hR : rm_X3_fault.frames + 1 ≤ R.frames ∧ 8 + (2 + 11) + rm_X3_fault.locals ≤ R.locals) : CallW R s args own RX3 idx yX3_fault cX3_fault 2 (Option.some Jvm.ClassFile.FieldType.int) (ws_ yX3_fault cX3_fault 2 (Option.some Jvm.ClassFile.FieldType.int)) rm_X3_fault 0 0 1 := cwV 1 hts (lw_V hl q1781 q1782 q125 q1783) rfl rfl rfl (by decide +kernel) hR
set_option maxHeartbeats 4000000 in
set_option maxRecDepth 100000 in
theorem w_X3_fault (l : Launch) {D : va_G} {ad : Nat → Nat} {dI dJ : ClassId} {A : Nat → Prop} {f : Nat} {u u9 : TS} {r0 : Int32} {x1 : Int32} (hm : m_X3_fault f u x1 = some (r0, u9)) : Met l yX3_fault (ws_ yX3_fault cX3_fault 2 (Option.some Jvm.ClassFile.FieldType.int)) rm_X3_fault (va_Pc [.ref (ad 40), .int x1] (TPre D ad dI dJ A u)) (va_Qi (fun r u => r = r0 ∧ u = u9) (TPost D ad dI dJ A) A) 0 0 A := by
  refine Met.ofW (cc := cX3_fault) (maxL := 2) (ret := (Option.some Jvm.ClassFile.FieldType.int)) (by decide) rfl ?_
  intro p e s m args below meth c s₁ B hml hv
  have hx := B.exec
  have hb := B.bytes
  have hr := B.returns
  have hts := atoms_spec (ws := (ws_ yX3_fault cX3_fault 2 (Option.some Jvm.ClassFile.FieldType.int))) B.pre
  have hts : ∀ w ∈ lw_all, w.before args s = true := fun w h => hts w (List.mem_cons_of_mem _ h)
  have hown : s.vm.findClass RX3 = some m.cls := findClass_of_methodNamed B.named
  have hlocks := B.notSynchronized
  obtain ⟨hav, hv⟩ := hv
  have C : TC p s m args c cX3_fault D dI dJ := ⟨hx, hb, hown, hts, hv.2.1⟩
  have hw : TH D ad dI dJ A s.heap u s.heap [] := ⟨hv.1, hv.2.2.1, va_S.rf, hv.2.2.2⟩
  generalize hQ : MQ below (va_Qi (fun r u => r = r0 ∧ u = u9) (TPost D ad dI dJ A) A) args s 0 0 A = QQ
  have hent := lg_entry_eq m [.ref (ad 40), .int x1] 2
  rw [← hav] at hent
  rw [hent]
  have hl := lv_entry ([.ref (ad 40), .int x1]) (n := 2) (Nat.le_of_ble_eq_true rfl)
  generalize (lg_sl ([.ref (ad 40), .int x1]) ++ List.replicate (2 - (lg_sl ([.ref (ad 40), .int x1])).length) Slot.unset).toArray = ls at hl ⊢
  have hl : lv_has ls 2 [(0, .ref (ad 40)), (1, .int x1)] := hl
  change W p l e rm_X3_fault s m args below meth c s.heap [] 0 0 QQ (F0 m 0 ls [])
  have hB24 : ∀ (u : TS) (y0 : Int32) (H : Heap) (locs : List Loc) (ls : Array Slot), m_X3_fault_24 f u y0 = some (r0, u9) → TH D ad dI dJ A s.heap u H locs → lv_has ls 2 [] → W p l e rm_X3_fault s m args below meth c H locs 0 0 QQ (F0 m 24 ls [.int y0]) := by
    intro u y0 H locs ls hm hw hl
    rw [m_X3_fault_24] at hm
    rw [← hQ]
    exact W.iret (v := y0) hx hb hr (fun t ht hW => ⟨⟨y0, u, rfl, retE hm, by rw [ht]; exact hw.1, hw.2.1⟩, hw.2.2.1.F ht⟩) hw.2.2.1.2.2 dX3_fault_24
  rw [m_X3_fault] at hm
  refine lv_iload_n hx hb dX3_fault_0 rfl (lv_at hl 1 rfl) ?_
  refine lv_if_ne (tgt := 11) hx hb dX3_fault_1 (by decide) (fun c1 => ?_) (fun c1 => ?_)
  · have hm := ifT hm c1
    refine lv_iload_n hx hb dX3_fault_11 rfl (lv_at hl 1 rfl) ?_
    refine lv_iconst (v := 1) hx hb dX3_fault_12 (by decide) ?_
    refine lv_icmp_ne (tgt := 23) hx hb dX3_fault_13 (by decide) (fun c2 => ?_) (fun c2 => ?_)
    · have hm := ifT hm c2
      refine lv_iconst (v := -1) hx hb dX3_fault_23 (by decide) ?_
      exact hB24 u (-1 : Int32) _ _ _ hm hw (lv_sub hl [] rfl)
    · have hm := ifT' hm c2
      refine lv_aload_n hx hb dX3_fault_16 rfl (lv_at hl 0 rfl) ?_
      refine tg_get C hw 6 (by decide) q1572 rfl dX3_fault_17 ?_
      refine lv_goto (tgt := 24) hx hb dX3_fault_20 (by decide) ?_
      exact hB24 u (tI u 6) _ _ _ hm hw (lv_sub hl [] rfl)
  · have hm := ifT' hm c1
    refine lv_aload_n hx hb dX3_fault_4 rfl (lv_at hl 0 rfl) ?_
    refine tg_get C hw 5 (by decide) q1571 rfl dX3_fault_5 ?_
    refine lv_goto (tgt := 24) hx hb dX3_fault_8 (by decide) ?_
    exact hB24 u (tI u 5) _ _ _ hm hw (lv_sub hl [] rfl)
def m_X3_isTurned_17 (f : Nat) (u : TS) (y0 : Int32) : Option (Int32 × TS) := gd (zb y0) <|
    some (y0, u)
def m_X3_isTurned (f : Nat) (u : TS) (x1 : Int32) : Option (Int32 × TS) := gd (ix ((3 : Int32) + x1) 73) <|
    if (tA u 0 (Int32.toNatClampNeg ((3 : Int32) + x1))) = (-1 : Int32) then
    m_X3_isTurned_17 f u (0 : Int32)
    else m_X3_isTurned_17 f u (1 : Int32)
abbrev rm_X3_isTurned : Room := { frames := 0, cells := 0, slots := 0, locals := 0 }
theorem cw_X3_isTurned {R : Room} {s : State} {args : Array Value} {own : String} {idx : Nat} (hts : ∀ w ∈ lw_all, w.before args s = true) (hl : Cond.methodLink own idx yX3_isTurned ∈ lw_all) (hR : rm_X3_isTurned.frames + 1 ≤ R.frames ∧ 8 + (2 + 11) + rm_X3_isTurned.locals ≤ R.locals) : CallW R s args own RX3 idx yX3_isTurned cX3_isTurned 2 (Option.some Jvm.ClassFile.FieldType.boolean) (ws_ yX3_isTurned cX3_isTurned 2 (Option.some Jvm.ClassFile.FieldType.boolean)) rm_X3_isTurned 0 0 1 := cwV 1 hts (lw_V hl q1790 qs67 q125 q1791) rfl rfl rfl (by decide +kernel) hR
set_option maxHeartbeats 4000000 in
set_option maxRecDepth 100000 in
theorem w_X3_isTurned (l : Launch) {D : va_G} {ad : Nat → Nat} {dI dJ : ClassId} {A : Nat → Prop} {f : Nat} {u u9 : TS} {r0 : Int32} {x1 : Int32} (hm : m_X3_isTurned f u x1 = some (r0, u9)) : Met l yX3_isTurned (ws_ yX3_isTurned cX3_isTurned 2 (Option.some Jvm.ClassFile.FieldType.boolean)) rm_X3_isTurned (va_Pc [.ref (ad 40), .int x1] (TPre D ad dI dJ A u)) (va_Qi (fun r u => r = r0 ∧ u = u9) (TPost D ad dI dJ A) A) 0 0 A := by
  refine Met.ofW (cc := cX3_isTurned) (maxL := 2) (ret := (Option.some Jvm.ClassFile.FieldType.boolean)) (by decide) rfl ?_
  intro p e s m args below meth c s₁ B hml hv
  have hx := B.exec
  have hb := B.bytes
  have hr := B.returns
  have hts := atoms_spec (ws := (ws_ yX3_isTurned cX3_isTurned 2 (Option.some Jvm.ClassFile.FieldType.boolean))) B.pre
  have hts : ∀ w ∈ lw_all, w.before args s = true := fun w h => hts w (List.mem_cons_of_mem _ h)
  have hown : s.vm.findClass RX3 = some m.cls := findClass_of_methodNamed B.named
  have hlocks := B.notSynchronized
  obtain ⟨hav, hv⟩ := hv
  have C : TC p s m args c cX3_isTurned D dI dJ := ⟨hx, hb, hown, hts, hv.2.1⟩
  have hw : TH D ad dI dJ A s.heap u s.heap [] := ⟨hv.1, hv.2.2.1, va_S.rf, hv.2.2.2⟩
  generalize hQ : MQ below (va_Qi (fun r u => r = r0 ∧ u = u9) (TPost D ad dI dJ A) A) args s 0 0 A = QQ
  have hent := lg_entry_eq m [.ref (ad 40), .int x1] 2
  rw [← hav] at hent
  rw [hent]
  have hl := lv_entry ([.ref (ad 40), .int x1]) (n := 2) (Nat.le_of_ble_eq_true rfl)
  generalize (lg_sl ([.ref (ad 40), .int x1]) ++ List.replicate (2 - (lg_sl ([.ref (ad 40), .int x1])).length) Slot.unset).toArray = ls at hl ⊢
  have hl : lv_has ls 2 [(0, .ref (ad 40)), (1, .int x1)] := hl
  change W p l e rm_X3_isTurned s m args below meth c s.heap [] 0 0 QQ (F0 m 0 ls [])
  have hB17 : ∀ (u : TS) (y0 : Int32) (H : Heap) (locs : List Loc) (ls : Array Slot), m_X3_isTurned_17 f u y0 = some (r0, u9) → TH D ad dI dJ A s.heap u H locs → lv_has ls 2 [] → W p l e rm_X3_isTurned s m args below meth c H locs 0 0 QQ (F0 m 17 ls [.int y0]) := by
    intro u y0 H locs ls hm hw hl
    rw [m_X3_isTurned_17] at hm
    obtain ⟨g1, hm⟩ := gdE hm
    rw [← hQ]
    exact W.zret (v := y0) hx hb hr (zb_nar g1) (fun t ht hW => ⟨⟨y0, u, rfl, retE hm, by rw [ht]; exact hw.1, hw.2.1⟩, hw.2.2.1.F ht⟩) hw.2.2.1.2.2 dX3_isTurned_17
  rw [m_X3_isTurned] at hm
  refine lv_aload_n hx hb dX3_isTurned_0 rfl (lv_at hl 0 rfl) ?_
  refine tg_get C hw 0 (by decide) q1566 rfl dX3_isTurned_1 ?_
  refine lv_iconst (v := 3) hx hb dX3_isTurned_4 (by decide) ?_
  refine lv_iload_n hx hb dX3_isTurned_5 rfl (lv_at hl 1 rfl) ?_
  refine lv_iadd hx hb dX3_isTurned_6 ?_
  obtain ⟨g1, hm⟩ := gdE hm
  refine tg_iald C hw (tp_0 ad dI dJ u) g1 dX3_isTurned_7 ?_
  refine lv_iconst (v := -1) hx hb dX3_isTurned_8 (by decide) ?_
  refine lv_icmp_eq (tgt := 16) hx hb dX3_isTurned_9 (by decide) (fun c2 => ?_) (fun c2 => ?_)
  · have hm := ifT hm c2
    refine lv_iconst (v := 0) hx hb dX3_isTurned_16 (by decide) ?_
    exact hB17 u (0 : Int32) _ _ _ hm hw (lv_sub hl [] rfl)
  · have hm := ifF hm c2
    refine lv_iconst (v := 1) hx hb dX3_isTurned_12 (by decide) ?_
    refine lv_goto (tgt := 17) hx hb dX3_isTurned_13 (by decide) ?_
    exact hB17 u (1 : Int32) _ _ _ hm hw (lv_sub hl [] rfl)
def m_X3_count_36 (f : Nat) (u : TS) (x1 : Int32) (x2 : Int32) : Option (Int32 × TS) := if x1 = (0 : Int32) then
    some ((tA u 0 (Int32.toNatClampNeg (0 : Int32))), u)
    else if x1 = (1 : Int32) then
    some (x2, u)
    else if x1 = (2 : Int32) then
    some ((tA u 0 (Int32.toNatClampNeg (2 : Int32))), u)
    else if x1 = (3 : Int32) then
    some ((tA u 0 (Int32.toNatClampNeg (1 : Int32))), u)
    else if x1 = (4 : Int32) then
    some ((tI u 4), u)
    else some ((-1 : Int32), u)
def m_X3_count_28 (f : Nat) (k4 : TS → Int32 → Int32 → Int32 → Option (Int32 × TS)) (u : TS) (x1 : Int32) (x3 : Int32) (y0 : Int32) (y1 : Int32) : Option (Int32 × TS) := nmv ((y0 + y1) : Int32) fun v1 =>
    nmv ((x3 + 1) : Int32) fun v2 =>
    k4 u x1 v1 v2
def m_X3_count_4 (f : Nat) : Nat → TS → Int32 → Int32 → Int32 → Option (Int32 × TS)
  | 0, _, _, _, _ => none
  | n4 + 1, u, x1, x2, x3 => if (tA u 0 (Int32.toNatClampNeg (0 : Int32))) ≤ x3 then
    m_X3_count_36 f u x1 x2
    else bd2 (m_X3_isTurned f u x3) fun r3 u2 =>
    if r3 = 0 then
    m_X3_count_28 f (m_X3_count_4 f n4) u2 x1 x3 x2 (0 : Int32)
    else m_X3_count_28 f (m_X3_count_4 f n4) u2 x1 x3 x2 (1 : Int32)
def m_X3_count (f : Nat) (u : TS) (x1 : Int32) : Option (Int32 × TS) := m_X3_count_4 f f u x1 (0 : Int32) (0 : Int32)
abbrev rm_X3_count : Room := { frames := 1, cells := 0, slots := 0, locals := 21 }
theorem cw_X3_count {R : Room} {s : State} {args : Array Value} {own : String} {idx : Nat} (hts : ∀ w ∈ lw_all, w.before args s = true) (hl : Cond.methodLink own idx yX3_count ∈ lw_all) (hR : rm_X3_count.frames + 1 ≤ R.frames ∧ 8 + (4 + 11) + rm_X3_count.locals ≤ R.locals) : CallW R s args own RX3 idx yX3_count cX3_count 4 (Option.some Jvm.ClassFile.FieldType.int) (ws_ yX3_count cX3_count 4 (Option.some Jvm.ClassFile.FieldType.int)) rm_X3_count 0 0 1 := cwV 1 hts (lw_V hl q1785 q1786 q125 q1787) rfl rfl rfl (by decide +kernel) hR
set_option maxHeartbeats 4000000 in
set_option maxRecDepth 100000 in
theorem w_X3_count (l : Launch) {D : va_G} {ad : Nat → Nat} {dI dJ : ClassId} {A : Nat → Prop} {f : Nat} {u u9 : TS} {r0 : Int32} {x1 : Int32} (hm : m_X3_count f u x1 = some (r0, u9)) : Met l yX3_count (ws_ yX3_count cX3_count 4 (Option.some Jvm.ClassFile.FieldType.int)) rm_X3_count (va_Pc [.ref (ad 40), .int x1] (TPre D ad dI dJ A u)) (va_Qi (fun r u => r = r0 ∧ u = u9) (TPost D ad dI dJ A) A) 0 0 A := by
  refine Met.ofW (cc := cX3_count) (maxL := 4) (ret := (Option.some Jvm.ClassFile.FieldType.int)) (by decide) rfl ?_
  intro p e s m args below meth c s₁ B hml hv
  have hx := B.exec
  have hb := B.bytes
  have hr := B.returns
  have hts := atoms_spec (ws := (ws_ yX3_count cX3_count 4 (Option.some Jvm.ClassFile.FieldType.int))) B.pre
  have hts : ∀ w ∈ lw_all, w.before args s = true := fun w h => hts w (List.mem_cons_of_mem _ h)
  have hown : s.vm.findClass RX3 = some m.cls := findClass_of_methodNamed B.named
  have hlocks := B.notSynchronized
  obtain ⟨hav, hv⟩ := hv
  have C : TC p s m args c cX3_count D dI dJ := ⟨hx, hb, hown, hts, hv.2.1⟩
  have hw : TH D ad dI dJ A s.heap u s.heap [] := ⟨hv.1, hv.2.2.1, va_S.rf, hv.2.2.2⟩
  generalize hQ : MQ below (va_Qi (fun r u => r = r0 ∧ u = u9) (TPost D ad dI dJ A) A) args s 0 0 A = QQ
  have hent := lg_entry_eq m [.ref (ad 40), .int x1] 4
  rw [← hav] at hent
  rw [hent]
  have hl := lv_entry ([.ref (ad 40), .int x1]) (n := 4) (Nat.le_of_ble_eq_true rfl)
  generalize (lg_sl ([.ref (ad 40), .int x1]) ++ List.replicate (4 - (lg_sl ([.ref (ad 40), .int x1])).length) Slot.unset).toArray = ls at hl ⊢
  have hl : lv_has ls 4 [(0, .ref (ad 40)), (1, .int x1)] := hl
  change W p l e rm_X3_count s m args below meth c s.heap [] 0 0 QQ (F0 m 0 ls [])
  have hB36 : ∀ (u : TS) (x1 : Int32) (x2 : Int32) (H : Heap) (locs : List Loc) (ls : Array Slot), m_X3_count_36 f u x1 x2 = some (r0, u9) → TH D ad dI dJ A s.heap u H locs → lv_has ls 4 [(0, .ref (ad 40)), (1, .int x1), (2, .int x2)] → W p l e rm_X3_count s m args below meth c H locs 0 0 QQ (F0 m 36 ls []) := by
    intro u x1 x2 H locs ls hm hw hl
    rw [m_X3_count_36] at hm
    refine lv_iload_n hx hb dX3_count_36 rfl (lv_at hl 1 rfl) ?_
    by_cases c1 : x1 = (0 : Int32)
    · have hm := ifT hm c1
      rw [c1]
      refine lv_tableIn (tgt := 72) (off := 35) hx hb dX3_count_37 (by decide) (by decide) (by decide) (by decide) ?_
      refine lv_aload_n hx hb dX3_count_72 rfl (lv_at hl 0 rfl) ?_
      refine tg_get C hw 0 (by decide) q1566 rfl dX3_count_73 ?_
      refine lv_iconst (v := 0) hx hb dX3_count_76 (by decide) ?_
      refine tg_iald C hw (tp_0 ad dI dJ u) (by decide) dX3_count_77 ?_
      rw [← hQ]
      exact W.iret (v := (tA u 0 (Int32.toNatClampNeg (0 : Int32)))) hx hb hr (fun t ht hW => ⟨⟨(tA u 0 (Int32.toNatClampNeg (0 : Int32))), u, rfl, retE hm, by rw [ht]; exact hw.1, hw.2.1⟩, hw.2.2.1.F ht⟩) hw.2.2.1.2.2 dX3_count_78
    · have hm := ifF hm c1
      by_cases c2 : x1 = (1 : Int32)
      · have hm := ifT hm c2
        rw [c2]
        refine lv_tableIn (tgt := 79) (off := 42) hx hb dX3_count_37 (by decide) (by decide) (by decide) (by decide) ?_
        refine lv_iload_n hx hb dX3_count_79 rfl (lv_at hl 2 rfl) ?_
        rw [← hQ]
        exact W.iret (v := x2) hx hb hr (fun t ht hW => ⟨⟨x2, u, rfl, retE hm, by rw [ht]; exact hw.1, hw.2.1⟩, hw.2.2.1.F ht⟩) hw.2.2.1.2.2 dX3_count_80
      · have hm := ifF hm c2
        by_cases c3 : x1 = (2 : Int32)
        · have hm := ifT hm c3
          rw [c3]
          refine lv_tableIn (tgt := 81) (off := 44) hx hb dX3_count_37 (by decide) (by decide) (by decide) (by decide) ?_
          refine lv_aload_n hx hb dX3_count_81 rfl (lv_at hl 0 rfl) ?_
          refine tg_get C hw 0 (by decide) q1566 rfl dX3_count_82 ?_
          refine lv_iconst (v := 2) hx hb dX3_count_85 (by decide) ?_
          refine tg_iald C hw (tp_0 ad dI dJ u) (by decide) dX3_count_86 ?_
          rw [← hQ]
          exact W.iret (v := (tA u 0 (Int32.toNatClampNeg (2 : Int32)))) hx hb hr (fun t ht hW => ⟨⟨(tA u 0 (Int32.toNatClampNeg (2 : Int32))), u, rfl, retE hm, by rw [ht]; exact hw.1, hw.2.1⟩, hw.2.2.1.F ht⟩) hw.2.2.1.2.2 dX3_count_87
        · have hm := ifF hm c3
          by_cases c4 : x1 = (3 : Int32)
          · have hm := ifT hm c4
            rw [c4]
            refine lv_tableIn (tgt := 88) (off := 51) hx hb dX3_count_37 (by decide) (by decide) (by decide) (by decide) ?_
            refine lv_aload_n hx hb dX3_count_88 rfl (lv_at hl 0 rfl) ?_
            refine tg_get C hw 0 (by decide) q1566 rfl dX3_count_89 ?_
            refine lv_iconst (v := 1) hx hb dX3_count_92 (by decide) ?_
            refine tg_iald C hw (tp_0 ad dI dJ u) (by decide) dX3_count_93 ?_
            rw [← hQ]
            exact W.iret (v := (tA u 0 (Int32.toNatClampNeg (1 : Int32)))) hx hb hr (fun t ht hW => ⟨⟨(tA u 0 (Int32.toNatClampNeg (1 : Int32))), u, rfl, retE hm, by rw [ht]; exact hw.1, hw.2.1⟩, hw.2.2.1.F ht⟩) hw.2.2.1.2.2 dX3_count_94
          · have hm := ifF hm c4
            by_cases c5 : x1 = (4 : Int32)
            · have hm := ifT hm c5
              rw [c5]
              refine lv_tableIn (tgt := 95) (off := 58) hx hb dX3_count_37 (by decide) (by decide) (by decide) (by decide) ?_
              refine lv_aload_n hx hb dX3_count_95 rfl (lv_at hl 0 rfl) ?_
              refine tg_get C hw 4 (by decide) q1570 rfl dX3_count_96 ?_
              rw [← hQ]
              exact W.iret (v := (tI u 4)) hx hb hr (fun t ht hW => ⟨⟨(tI u 4), u, rfl, retE hm, by rw [ht]; exact hw.1, hw.2.1⟩, hw.2.2.1.F ht⟩) hw.2.2.1.2.2 dX3_count_99
            · have hm := ifF hm c5
              have c6 : Int32.toInt x1 < 0 ∨ 4 < Int32.toInt x1 := by
                rcases Int.lt_or_le (Int32.toInt x1) 0 with h | h
                · exact Or.inl h
                · rcases Int.lt_or_le 4 (Int32.toInt x1) with h2 | h2
                  · exact Or.inr h2
                  · rcases (show Int32.toInt x1 = 0 ∨ Int32.toInt x1 = 1 ∨ Int32.toInt x1 = 2 ∨ Int32.toInt x1 = 3 ∨ Int32.toInt x1 = 4 by omega) with h3 | h3 | h3 | h3 | h3
                    · exact absurd (i32_of_toInt _ h3) c1
                    · exact absurd (i32_of_toInt _ h3) c2
                    · exact absurd (i32_of_toInt _ h3) c3
                    · exact absurd (i32_of_toInt _ h3) c4
                    · exact absurd (i32_of_toInt _ h3) c5
              refine lv_tableOut (tgt := 100) hx hb dX3_count_37 c6 (by decide) ?_
              refine lv_iconst (v := -1) hx hb dX3_count_100 (by decide) ?_
              rw [← hQ]
              exact W.iret (v := (-1 : Int32)) hx hb hr (fun t ht hW => ⟨⟨(-1 : Int32), u, rfl, retE hm, by rw [ht]; exact hw.1, hw.2.1⟩, hw.2.2.1.F ht⟩) hw.2.2.1.2.2 dX3_count_101
  have hB4 : ∀ (n4 : Nat), ∀ (u : TS) (x1 : Int32) (x2 : Int32) (x3 : Int32) (H : Heap) (locs : List Loc) (ls : Array Slot), m_X3_count_4 f n4 u x1 x2 x3 = some (r0, u9) → TH D ad dI dJ A s.heap u H locs → lv_has ls 4 [(0, .ref (ad 40)), (1, .int x1), (2, .int x2), (3, .int x3)] → W p l e rm_X3_count s m args below meth c H locs 0 0 QQ (F0 m 4 ls []) := by
    intro n4
    induction n4 with
    | zero => intro u x1 x2 x3 H locs ls hm hw hl; rw [m_X3_count_4] at hm; exact noE hm
    | succ n4 ih4 =>
      have hB28 : ∀ (u : TS) (x1 : Int32) (x3 : Int32) (y0 : Int32) (y1 : Int32) (H : Heap) (locs : List Loc) (ls : Array Slot), m_X3_count_28 f (m_X3_count_4 f n4) u x1 x3 y0 y1 = some (r0, u9) → TH D ad dI dJ A s.heap u H locs → lv_has ls 4 [(0, .ref (ad 40)), (1, .int x1), (3, .int x3)] → W p l e rm_X3_count s m args below meth c H locs 0 0 QQ (F0 m 28 ls [.int y1, .int y0]) := by
        intro u x1 x3 y0 y1 H locs ls hm hw hl
        rw [m_X3_count_28] at hm
        refine lv_iadd hx hb dX3_count_28 ?_
        refine lv_topi (fun v1 ev1 => ?_)
        have hm := nmK hm ev1
        refine lv_istore_n (lv' := [(2, .int v1), (0, .ref (ad 40)), (1, .int x1), (3, .int x3)]) hx hb dX3_count_29 rfl hl (by decide) rfl (fun ls hl => ?_)
        obtain ⟨v2, ev2, hm⟩ := nmE hm
        refine lv_iinc (v := v2) (lv' := [(3, .int v2), (2, .int v1), (0, .ref (ad 40)), (1, .int x1)]) hx hb dX3_count_30 hl (k := 3) rfl (by rw [ev2]; rfl) (by decide) rfl (fun ls hl => ?_)
        refine lv_goto (tgt := 4) hx hb dX3_count_33 (by decide) ?_
        exact ih4 u x1 v1 v2 _ _ _ hm hw (lv_sub hl [2, 3, 1, 0] rfl)
      intro u x1 x2 x3 H locs ls hm hw hl
      rw [m_X3_count_4] at hm
      refine lv_iload_n hx hb dX3_count_4 rfl (lv_at hl 3 rfl) ?_
      refine lv_aload_n hx hb dX3_count_5 rfl (lv_at hl 0 rfl) ?_
      refine tg_get C hw 0 (by decide) q1566 rfl dX3_count_6 ?_
      refine lv_iconst (v := 0) hx hb dX3_count_9 (by decide) ?_
      refine tg_iald C hw (tp_0 ad dI dJ u) (by decide) dX3_count_10 ?_
      refine lv_icmp_ge (tgt := 36) hx hb dX3_count_11 (by decide) (fun c1 => ?_) (fun c1 => ?_)
      · have hm := ifT hm c1
        exact hB36 u x1 x2 _ _ _ hm hw (lv_sub hl [0, 1, 2] rfl)
      · have hm := ifF hm c1
        refine lv_iload_n hx hb dX3_count_14 rfl (lv_at hl 2 rfl) ?_
        refine lv_aload_n hx hb dX3_count_15 rfl (lv_at hl 0 rfl) ?_
        refine lv_iload_n hx hb dX3_count_16 rfl (lv_at hl 3 rfl) ?_
        obtain ⟨r3, u2, er3, hm⟩ := bd2E hm
        refine tg_calli hw (va_runV (As := [.int x3]) (rest := [.int x2]) ⟨hx, hb, hml, hown, hts⟩ (w_X3_isTurned l er3) (cw_X3_isTurned hts q1788 ⟨Nat.le_of_ble_eq_true rfl, Nat.le_of_ble_eq_true rfl⟩) (tg_pre C hw _) rfl rfl hl.1 rfl (lv_room (Nat.le_of_ble_eq_true rfl)) dX3_count_17 ⟨Nat.le_of_ble_eq_true rfl, Nat.le_of_ble_eq_true rfl⟩) (fun H locs hw => ?_)
        refine lv_if_eq (tgt := 27) hx hb dX3_count_20 (by decide) (fun c4 => ?_) (fun c4 => ?_)
        · have hm := ifT hm c4
          refine lv_iconst (v := 0) hx hb dX3_count_27 (by decide) ?_
          exact hB28 u2 x1 x3 x2 (0 : Int32) _ _ _ hm hw (lv_sub hl [0, 1, 3] rfl)
        · have hm := ifF hm c4
          refine lv_iconst (v := 1) hx hb dX3_count_23 (by decide) ?_
          refine lv_goto (tgt := 28) hx hb dX3_count_24 (by decide) ?_
          exact hB28 u2 x1 x3 x2 (1 : Int32) _ _ _ hm hw (lv_sub hl [0, 1, 3] rfl)
  rw [m_X3_count] at hm
  refine lv_iconst (v := 0) hx hb dX3_count_0 (by decide) ?_
  refine lv_istore_n (lv' := [(2, .int (0 : Int32)), (0, .ref (ad 40)), (1, .int x1)]) hx hb dX3_count_1 rfl hl (by decide) rfl (fun ls hl => ?_)
  refine lv_iconst (v := 0) hx hb dX3_count_2 (by decide) ?_
  refine lv_istore_n (lv' := [(3, .int (0 : Int32)), (2, .int (0 : Int32)), (0, .ref (ad 40)), (1, .int x1)]) hx hb dX3_count_3 rfl hl (by decide) rfl (fun ls hl => ?_)
  exact hB4 f u x1 (0 : Int32) (0 : Int32) _ _ _ hm hw (lv_sub hl [2, 3, 1, 0] rfl)
def m_X3_isLattice (f : Nat) (u : TS) (x1 : Int32) : Option (Int32 × TS) := bd (m_X3_in f (Int32.toInt64 x1) (0 : Int64) (Int32.toInt64 ((tA u 0 (Int32.toNatClampNeg (0 : Int32))) - (1 : Int32)))) fun r1 =>
    gd (zb r1) <|
    some (r1, u)
abbrev rm_X3_isLattice : Room := { frames := 1, cells := 0, slots := 0, locals := 25 }
theorem cw_X3_isLattice {R : Room} {s : State} {args : Array Value} {own : String} {idx : Nat} (hts : ∀ w ∈ lw_all, w.before args s = true) (hl : Cond.methodLink own idx yX3_isLattice ∈ lw_all) (hR : rm_X3_isLattice.frames + 1 ≤ R.frames ∧ 8 + (2 + 11) + rm_X3_isLattice.locals ≤ R.locals) : CallW R s args own RX3 idx yX3_isLattice cX3_isLattice 2 (Option.some Jvm.ClassFile.FieldType.boolean) (ws_ yX3_isLattice cX3_isLattice 2 (Option.some Jvm.ClassFile.FieldType.boolean)) rm_X3_isLattice 0 0 1 := cwV 1 hts (lw_V hl q1798 qs68 q125 q1799) rfl rfl rfl (by decide +kernel) hR
set_option maxHeartbeats 4000000 in
set_option maxRecDepth 100000 in
theorem w_X3_isLattice (l : Launch) {D : va_G} {ad : Nat → Nat} {dI dJ : ClassId} {A : Nat → Prop} {f : Nat} {u u9 : TS} {r0 : Int32} {x1 : Int32} (hm : m_X3_isLattice f u x1 = some (r0, u9)) : Met l yX3_isLattice (ws_ yX3_isLattice cX3_isLattice 2 (Option.some Jvm.ClassFile.FieldType.boolean)) rm_X3_isLattice (va_Pc [.ref (ad 40), .int x1] (TPre D ad dI dJ A u)) (va_Qi (fun r u => r = r0 ∧ u = u9) (TPost D ad dI dJ A) A) 0 0 A := by
  refine Met.ofW (cc := cX3_isLattice) (maxL := 2) (ret := (Option.some Jvm.ClassFile.FieldType.boolean)) (by decide) rfl ?_
  intro p e s m args below meth c s₁ B hml hv
  have hx := B.exec
  have hb := B.bytes
  have hr := B.returns
  have hts := atoms_spec (ws := (ws_ yX3_isLattice cX3_isLattice 2 (Option.some Jvm.ClassFile.FieldType.boolean))) B.pre
  have hts : ∀ w ∈ lw_all, w.before args s = true := fun w h => hts w (List.mem_cons_of_mem _ h)
  have hown : s.vm.findClass RX3 = some m.cls := findClass_of_methodNamed B.named
  have hlocks := B.notSynchronized
  obtain ⟨hav, hv⟩ := hv
  have C : TC p s m args c cX3_isLattice D dI dJ := ⟨hx, hb, hown, hts, hv.2.1⟩
  have hw : TH D ad dI dJ A s.heap u s.heap [] := ⟨hv.1, hv.2.2.1, va_S.rf, hv.2.2.2⟩
  generalize hQ : MQ below (va_Qi (fun r u => r = r0 ∧ u = u9) (TPost D ad dI dJ A) A) args s 0 0 A = QQ
  have hent := lg_entry_eq m [.ref (ad 40), .int x1] 2
  rw [← hav] at hent
  rw [hent]
  have hl := lv_entry ([.ref (ad 40), .int x1]) (n := 2) (Nat.le_of_ble_eq_true rfl)
  generalize (lg_sl ([.ref (ad 40), .int x1]) ++ List.replicate (2 - (lg_sl ([.ref (ad 40), .int x1])).length) Slot.unset).toArray = ls at hl ⊢
  have hl : lv_has ls 2 [(0, .ref (ad 40)), (1, .int x1)] := hl
  change W p l e rm_X3_isLattice s m args below meth c s.heap [] 0 0 QQ (F0 m 0 ls [])
  rw [m_X3_isLattice] at hm
  refine lv_iload_n hx hb dX3_isLattice_0 rfl (lv_at hl 1 rfl) ?_
  refine lv_i2l hx hb dX3_isLattice_1 rfl ?_
  refine lv_lconst (v := 0) hx hb dX3_isLattice_2 (by decide) ?_
  refine lv_aload_n hx hb dX3_isLattice_3 rfl (lv_at hl 0 rfl) ?_
  refine tg_get C hw 0 (by decide) q1566 rfl dX3_isLattice_4 ?_
  refine lv_iconst (v := 0) hx hb dX3_isLattice_7 (by decide) ?_
  refine tg_iald C hw (tp_0 ad dI dJ u) (by decide) dX3_isLattice_8 ?_
  refine lv_iconst (v := 1) hx hb dX3_isLattice_9 (by decide) ?_
  refine lv_isub hx hb dX3_isLattice_10 ?_
  refine lv_i2l hx hb dX3_isLattice_11 rfl ?_
  obtain ⟨r1, er1, hm⟩ := bdE hm
  refine sci (va_runS (As := [.long (Int32.toInt64 x1), .long (0 : Int64), .long (Int32.toInt64 ((tA u 0 (Int32.toNatClampNeg (0 : Int32))) - (1 : Int32)))]) (rest := []) ⟨hx, hb, hml, hown, hts⟩ (w_X3_in l er1) (cw_X3_in hts q1695 ⟨Nat.le_of_ble_eq_true rfl, Nat.le_of_ble_eq_true rfl⟩) (pre_s _) rfl rfl hl.1 rfl (lv_room (Nat.le_of_ble_eq_true rfl)) dX3_isLattice_12 ⟨Nat.le_of_ble_eq_true rfl, Nat.le_of_ble_eq_true rfl⟩) ?_
  obtain ⟨g2, hm⟩ := gdE hm
  rw [← hQ]
  exact W.zret (v := r1) hx hb hr (zb_nar g2) (fun t ht hW => ⟨⟨r1, u, rfl, retE hm, by rw [ht]; exact hw.1, hw.2.1⟩, hw.2.2.1.F ht⟩) hw.2.2.1.2.2 dX3_isLattice_15
def m_X3_isAt2_29 (f : Nat) (y0 : Int32) : Option Int32 := gd (zb y0) <|
    some y0
def m_X3_isAt2_28 (f : Nat)  : Option Int32 := m_X3_isAt2_29 f (0 : Int32)
def m_X3_isAt2 (f : Nat) (x0 : Int32) (x1 : Int32) : Option Int32 := bd (m_X3_in f (Int32.toInt64 x0) (0 : Int64) (2 : Int64)) fun r1 =>
    if r1 = 0 then
    m_X3_isAt2_28 f 
    else bd (m_X3_in f (Int32.toInt64 x1) (0 : Int64) (2 : Int64)) fun r3 =>
    if r3 = 0 then
    m_X3_isAt2_28 f 
    else m_X3_isAt2_29 f (1 : Int32)
abbrev rm_X3_isAt2 : Room := { frames := 1, cells := 0, slots := 0, locals := 25 }
theorem cw_X3_isAt2 {R : Room} {s : State} {args : Array Value} {own : String} {idx : Nat} (hts : ∀ w ∈ lw_all, w.before args s = true) (hl : Cond.methodLink own idx yX3_isAt2 ∈ lw_all) (hR : rm_X3_isAt2.frames + 1 ≤ R.frames ∧ 8 + (2 + 11) + rm_X3_isAt2.locals ≤ R.locals) : CallB R s args own idx yX3_isAt2 cX3_isAt2 2 (Option.some Jvm.ClassFile.FieldType.boolean) (ws_ yX3_isAt2 cX3_isAt2 2 (Option.some Jvm.ClassFile.FieldType.boolean)) rm_X3_isAt2 0 0 2 ∧ (Cond.static yX3_isAt2).before args s = true := va_cwS 2 hts (lw_S hl q1801 q125 q1802) rfl rfl rfl (by decide +kernel) hR
set_option maxHeartbeats 4000000 in
set_option maxRecDepth 100000 in
theorem w_X3_isAt2 (l : Launch) {f : Nat} {x0 : Int32} {x1 : Int32} {r0 : Int32} (hm : m_X3_isAt2 f x0 x1 = some r0) : Met l yX3_isAt2 (ws_ yX3_isAt2 cX3_isAt2 2 (Option.some Jvm.ClassFile.FieldType.boolean)) rm_X3_isAt2 (va_Pc [.int x0, .int x1] (fun _ => True)) (vp_Si (fun r => r = r0)) 0 0 (fun _ => False) := by
  refine Met.ofW (cc := cX3_isAt2) (maxL := 2) (ret := (Option.some Jvm.ClassFile.FieldType.boolean)) (by decide) rfl ?_
  intro p e s m args below meth c s₁ B hml hv
  have hx := B.exec
  have hb := B.bytes
  have hr := B.returns
  have hts := atoms_spec (ws := (ws_ yX3_isAt2 cX3_isAt2 2 (Option.some Jvm.ClassFile.FieldType.boolean))) B.pre
  have hts : ∀ w ∈ lw_all, w.before args s = true := fun w h => hts w (List.mem_cons_of_mem _ h)
  have hown : s.vm.findClass RX3 = some m.cls := findClass_of_methodNamed B.named
  have hlocks := B.notSynchronized
  obtain ⟨hav, hv⟩ := hv
  generalize hQ : MQ below (vp_Si (fun r => r = r0)) args s 0 0 (fun _ => False) = QQ
  have hent := lg_entry_eq m [.int x0, .int x1] 2
  rw [← hav] at hent
  rw [hent]
  have hl := lv_entry ([.int x0, .int x1]) (n := 2) (Nat.le_of_ble_eq_true rfl)
  generalize (lg_sl ([.int x0, .int x1]) ++ List.replicate (2 - (lg_sl ([.int x0, .int x1])).length) Slot.unset).toArray = ls at hl ⊢
  have hl : lv_has ls 2 [(0, .int x0), (1, .int x1)] := hl
  change W p l e rm_X3_isAt2 s m args below meth c s.heap [] 0 0 QQ (F0 m 0 ls [])
  have hB29 : ∀ (y0 : Int32) (ls : Array Slot), m_X3_isAt2_29 f y0 = some r0 → lv_has ls 2 [] → W p l e rm_X3_isAt2 s m args below meth c s.heap [] 0 0 QQ (F0 m 29 ls [.int y0]) := by
    intro y0 ls hm hl
    rw [m_X3_isAt2_29] at hm
    obtain ⟨g1, hm⟩ := gdE hm
    rw [← hQ]
    exact W.zret (v := y0) hx hb hr (zb_nar g1) (fun t ht hW => ⟨y0, rfl, ret1 hm, ht⟩) (fun q h => absurd h List.not_mem_nil) dX3_isAt2_29
  have hB28 : ∀  (ls : Array Slot), m_X3_isAt2_28 f  = some r0 → lv_has ls 2 [] → W p l e rm_X3_isAt2 s m args below meth c s.heap [] 0 0 QQ (F0 m 28 ls []) := by
    intro ls hm hl
    rw [m_X3_isAt2_28] at hm
    refine lv_iconst (v := 0) hx hb dX3_isAt2_28 (by decide) ?_
    exact hB29 (0 : Int32) _ hm (lv_sub hl [] rfl)
  rw [m_X3_isAt2] at hm
  refine lv_iload_n hx hb dX3_isAt2_0 rfl (lv_at hl 0 rfl) ?_
  refine lv_i2l hx hb dX3_isAt2_1 rfl ?_
  refine lv_lconst (v := 0) hx hb dX3_isAt2_2 (by decide) ?_
  refine lv_ldc2 hx hb hown (hts _ q1803) dX3_isAt2_3 ?_
  obtain ⟨r1, er1, hm⟩ := bdE hm
  refine sci (va_runS (As := [.long (Int32.toInt64 x0), .long (0 : Int64), .long (2 : Int64)]) (rest := []) ⟨hx, hb, hml, hown, hts⟩ (w_X3_in l er1) (cw_X3_in hts q1695 ⟨Nat.le_of_ble_eq_true rfl, Nat.le_of_ble_eq_true rfl⟩) (pre_s _) rfl rfl hl.1 rfl (lv_room (Nat.le_of_ble_eq_true rfl)) dX3_isAt2_6 ⟨Nat.le_of_ble_eq_true rfl, Nat.le_of_ble_eq_true rfl⟩) ?_
  refine lv_if_eq (tgt := 28) hx hb dX3_isAt2_9 (by decide) (fun c2 => ?_) (fun c2 => ?_)
  · have hm := ifT hm c2
    exact hB28  _ hm (lv_sub hl [] rfl)
  · have hm := ifF hm c2
    refine lv_iload_n hx hb dX3_isAt2_12 rfl (lv_at hl 1 rfl) ?_
    refine lv_i2l hx hb dX3_isAt2_13 rfl ?_
    refine lv_lconst (v := 0) hx hb dX3_isAt2_14 (by decide) ?_
    refine lv_ldc2 hx hb hown (hts _ q1803) dX3_isAt2_15 ?_
    obtain ⟨r3, er3, hm⟩ := bdE hm
    refine sci (va_runS (As := [.long (Int32.toInt64 x1), .long (0 : Int64), .long (2 : Int64)]) (rest := []) ⟨hx, hb, hml, hown, hts⟩ (w_X3_in l er3) (cw_X3_in hts q1695 ⟨Nat.le_of_ble_eq_true rfl, Nat.le_of_ble_eq_true rfl⟩) (pre_s _) rfl rfl hl.1 rfl (lv_room (Nat.le_of_ble_eq_true rfl)) dX3_isAt2_18 ⟨Nat.le_of_ble_eq_true rfl, Nat.le_of_ble_eq_true rfl⟩) ?_
    refine lv_if_eq (tgt := 28) hx hb dX3_isAt2_21 (by decide) (fun c4 => ?_) (fun c4 => ?_)
    · have hm := ifT hm c4
      exact hB28  _ hm (lv_sub hl [] rfl)
    · have hm := ifF hm c4
      refine lv_iconst (v := 1) hx hb dX3_isAt2_24 (by decide) ?_
      refine lv_goto (tgt := 29) hx hb dX3_isAt2_25 (by decide) ?_
      exact hB29 (1 : Int32) _ hm (lv_sub hl [] rfl)
def m_X3_laysTurn (f : Nat) (u : TS) (x1 : Int64) (x3 : Int64) (x5 : Int64) (x7 : Int64) : Option TS := nmv (sL u 19 ((((x1 * x1) + (x3 * x3)) + (x5 * x5)) + (x7 * x7))) fun u1 =>
    nmv (sB u1 20 (Int32.toNatClampNeg (0 : Int32)) ((((x1 * x1) + (x3 * x3)) - (x5 * x5)) - (x7 * x7))) fun u2 =>
    nmv (sB u2 20 (Int32.toNatClampNeg (1 : Int32)) ((2 : Int64) * ((x3 * x5) - (x1 * x7)))) fun u3 =>
    nmv (sB u3 20 (Int32.toNatClampNeg (2 : Int32)) ((2 : Int64) * ((x3 * x7) + (x1 * x5)))) fun u4 =>
    nmv (sB u4 20 (Int32.toNatClampNeg (3 : Int32)) ((2 : Int64) * ((x3 * x5) + (x1 * x7)))) fun u5 =>
    nmv (sB u5 20 (Int32.toNatClampNeg (4 : Int32)) ((((x1 * x1) - (x3 * x3)) + (x5 * x5)) - (x7 * x7))) fun u6 =>
    nmv (sB u6 20 (Int32.toNatClampNeg (5 : Int32)) ((2 : Int64) * ((x5 * x7) - (x1 * x3)))) fun u7 =>
    nmv (sB u7 20 (Int32.toNatClampNeg (6 : Int32)) ((2 : Int64) * ((x3 * x7) - (x1 * x5)))) fun u8 =>
    nmv (sB u8 20 (Int32.toNatClampNeg (7 : Int32)) ((2 : Int64) * ((x5 * x7) + (x1 * x3)))) fun u9 =>
    nmv (sB u9 20 (Int32.toNatClampNeg (8 : Int32)) ((((x1 * x1) - (x3 * x3)) - (x5 * x5)) + (x7 * x7))) fun u10 =>
    some u10
abbrev rm_X3_laysTurn : Room := { frames := 0, cells := 0, slots := 0, locals := 0 }
theorem cw_X3_laysTurn {R : Room} {s : State} {args : Array Value} {own : String} {idx : Nat} (hts : ∀ w ∈ lw_all, w.before args s = true) (hl : Cond.methodLink own idx yX3_laysTurn ∈ lw_all) (hR : rm_X3_laysTurn.frames + 1 ≤ R.frames ∧ 8 + (9 + 11) + rm_X3_laysTurn.locals ≤ R.locals) : CallW R s args own RX3 idx yX3_laysTurn cX3_laysTurn 9 (Option.none : Option Jvm.ClassFile.FieldType) (ws_ yX3_laysTurn cX3_laysTurn 9 (Option.none : Option Jvm.ClassFile.FieldType)) rm_X3_laysTurn 0 0 4 := cwV 4 hts (lw_V hl q1810 qs70 q125 q1811) rfl rfl rfl (by decide +kernel) hR
set_option maxHeartbeats 4000000 in
set_option maxRecDepth 100000 in
theorem w_X3_laysTurn (l : Launch) {D : va_G} {ad : Nat → Nat} {dI dJ : ClassId} {A : Nat → Prop} {f : Nat} {u u9 : TS} {x1 : Int64} {x3 : Int64} {x5 : Int64} {x7 : Int64} (hm : m_X3_laysTurn f u x1 x3 x5 x7 = some u9) : Met l yX3_laysTurn (ws_ yX3_laysTurn cX3_laysTurn 9 (Option.none : Option Jvm.ClassFile.FieldType)) rm_X3_laysTurn (va_Pc [.ref (ad 40), .long x1, .long x3, .long x5, .long x7] (TPre D ad dI dJ A u)) (va_Qv (fun u => u = u9) (TPost D ad dI dJ A) A) 0 0 A := by
  refine Met.ofW (cc := cX3_laysTurn) (maxL := 9) (ret := (Option.none : Option Jvm.ClassFile.FieldType)) (by decide) rfl ?_
  intro p e s m args below meth c s₁ B hml hv
  have hx := B.exec
  have hb := B.bytes
  have hr := B.returns
  have hts := atoms_spec (ws := (ws_ yX3_laysTurn cX3_laysTurn 9 (Option.none : Option Jvm.ClassFile.FieldType))) B.pre
  have hts : ∀ w ∈ lw_all, w.before args s = true := fun w h => hts w (List.mem_cons_of_mem _ h)
  have hown : s.vm.findClass RX3 = some m.cls := findClass_of_methodNamed B.named
  have hlocks := B.notSynchronized
  obtain ⟨hav, hv⟩ := hv
  have C : TC p s m args c cX3_laysTurn D dI dJ := ⟨hx, hb, hown, hts, hv.2.1⟩
  have hw : TH D ad dI dJ A s.heap u s.heap [] := ⟨hv.1, hv.2.2.1, va_S.rf, hv.2.2.2⟩
  generalize hQ : MQ below (va_Qv (fun u => u = u9) (TPost D ad dI dJ A) A) args s 0 0 A = QQ
  have hent := lg_entry_eq m [.ref (ad 40), .long x1, .long x3, .long x5, .long x7] 9
  rw [← hav] at hent
  rw [hent]
  have hl := lv_entry ([.ref (ad 40), .long x1, .long x3, .long x5, .long x7]) (n := 9) (Nat.le_of_ble_eq_true rfl)
  generalize (lg_sl ([.ref (ad 40), .long x1, .long x3, .long x5, .long x7]) ++ List.replicate (9 - (lg_sl ([.ref (ad 40), .long x1, .long x3, .long x5, .long x7])).length) Slot.unset).toArray = ls at hl ⊢
  have hl : lv_has ls 9 [(0, .ref (ad 40)), (1, .long x1), (3, .long x3), (5, .long x5), (7, .long x7)] := hl
  change W p l e rm_X3_laysTurn s m args below meth c s.heap [] 0 0 QQ (F0 m 0 ls [])
  rw [m_X3_laysTurn] at hm
  refine lv_aload_n hx hb dX3_laysTurn_0 rfl (lv_at hl 0 rfl) ?_
  refine lv_lload_n hx hb dX3_laysTurn_1 rfl (lv_at hl 1 rfl) ?_
  refine lv_lload_n hx hb dX3_laysTurn_2 rfl (lv_at hl 1 rfl) ?_
  refine lv_lmul hx hb dX3_laysTurn_3 ?_
  refine lv_lload_n hx hb dX3_laysTurn_4 rfl (lv_at hl 2 rfl) ?_
  refine lv_lload_n hx hb dX3_laysTurn_5 rfl (lv_at hl 2 rfl) ?_
  refine lv_lmul hx hb dX3_laysTurn_6 ?_
  refine lv_ladd hx hb dX3_laysTurn_7 ?_
  refine lv_lload hx hb dX3_laysTurn_8 (lv_at hl 3 rfl) ?_
  refine lv_lload hx hb dX3_laysTurn_10 (lv_at hl 3 rfl) ?_
  refine lv_lmul hx hb dX3_laysTurn_12 ?_
  refine lv_ladd hx hb dX3_laysTurn_13 ?_
  refine lv_lload hx hb dX3_laysTurn_14 (lv_at hl 4 rfl) ?_
  refine lv_lload hx hb dX3_laysTurn_16 (lv_at hl 4 rfl) ?_
  refine lv_lmul hx hb dX3_laysTurn_18 ?_
  refine lv_ladd hx hb dX3_laysTurn_19 ?_
  refine tg_put C hw 19 (by decide) q1585 rfl rfl rfl (ts_19 ad dI dJ u ((((x1 * x1) + (x3 * x3)) + (x5 * x5)) + (x7 * x7))) dX3_laysTurn_20 (fun H locs hw => ?_)
  obtain ⟨u1, eu1, hm⟩ := nmE hm
  rw [← eu1] at hw
  refine lv_aload_n hx hb dX3_laysTurn_23 rfl (lv_at hl 0 rfl) ?_
  refine tg_get C hw 20 (by decide) q1586 rfl dX3_laysTurn_24 ?_
  refine lv_iconst (v := 0) hx hb dX3_laysTurn_27 (by decide) ?_
  refine lv_lload_n hx hb dX3_laysTurn_28 rfl (lv_at hl 1 rfl) ?_
  refine lv_lload_n hx hb dX3_laysTurn_29 rfl (lv_at hl 1 rfl) ?_
  refine lv_lmul hx hb dX3_laysTurn_30 ?_
  refine lv_lload_n hx hb dX3_laysTurn_31 rfl (lv_at hl 2 rfl) ?_
  refine lv_lload_n hx hb dX3_laysTurn_32 rfl (lv_at hl 2 rfl) ?_
  refine lv_lmul hx hb dX3_laysTurn_33 ?_
  refine lv_ladd hx hb dX3_laysTurn_34 ?_
  refine lv_lload hx hb dX3_laysTurn_35 (lv_at hl 3 rfl) ?_
  refine lv_lload hx hb dX3_laysTurn_37 (lv_at hl 3 rfl) ?_
  refine lv_lmul hx hb dX3_laysTurn_39 ?_
  refine lv_lsub hx hb dX3_laysTurn_40 ?_
  refine lv_lload hx hb dX3_laysTurn_41 (lv_at hl 4 rfl) ?_
  refine lv_lload hx hb dX3_laysTurn_43 (lv_at hl 4 rfl) ?_
  refine lv_lmul hx hb dX3_laysTurn_45 ?_
  refine lv_lsub hx hb dX3_laysTurn_46 ?_
  refine tg_last C hw (tp_20 ad dI dJ u1) (by decide) (ts_20 ad dI dJ u1 _ _) dX3_laysTurn_47 (fun H locs hw => ?_)
  obtain ⟨u2, eu2, hm⟩ := nmE hm
  rw [← eu2] at hw
  refine lv_aload_n hx hb dX3_laysTurn_48 rfl (lv_at hl 0 rfl) ?_
  refine tg_get C hw 20 (by decide) q1586 rfl dX3_laysTurn_49 ?_
  refine lv_iconst (v := 1) hx hb dX3_laysTurn_52 (by decide) ?_
  refine lv_ldc2 hx hb hown (hts _ q1803) dX3_laysTurn_53 ?_
  refine lv_lload_n hx hb dX3_laysTurn_56 rfl (lv_at hl 2 rfl) ?_
  refine lv_lload hx hb dX3_laysTurn_57 (lv_at hl 3 rfl) ?_
  refine lv_lmul hx hb dX3_laysTurn_59 ?_
  refine lv_lload_n hx hb dX3_laysTurn_60 rfl (lv_at hl 1 rfl) ?_
  refine lv_lload hx hb dX3_laysTurn_61 (lv_at hl 4 rfl) ?_
  refine lv_lmul hx hb dX3_laysTurn_63 ?_
  refine lv_lsub hx hb dX3_laysTurn_64 ?_
  refine lv_lmul hx hb dX3_laysTurn_65 ?_
  refine tg_last C hw (tp_20 ad dI dJ u2) (by decide) (ts_20 ad dI dJ u2 _ _) dX3_laysTurn_66 (fun H locs hw => ?_)
  obtain ⟨u3, eu3, hm⟩ := nmE hm
  rw [← eu3] at hw
  refine lv_aload_n hx hb dX3_laysTurn_67 rfl (lv_at hl 0 rfl) ?_
  refine tg_get C hw 20 (by decide) q1586 rfl dX3_laysTurn_68 ?_
  refine lv_iconst (v := 2) hx hb dX3_laysTurn_71 (by decide) ?_
  refine lv_ldc2 hx hb hown (hts _ q1803) dX3_laysTurn_72 ?_
  refine lv_lload_n hx hb dX3_laysTurn_75 rfl (lv_at hl 2 rfl) ?_
  refine lv_lload hx hb dX3_laysTurn_76 (lv_at hl 4 rfl) ?_
  refine lv_lmul hx hb dX3_laysTurn_78 ?_
  refine lv_lload_n hx hb dX3_laysTurn_79 rfl (lv_at hl 1 rfl) ?_
  refine lv_lload hx hb dX3_laysTurn_80 (lv_at hl 3 rfl) ?_
  refine lv_lmul hx hb dX3_laysTurn_82 ?_
  refine lv_ladd hx hb dX3_laysTurn_83 ?_
  refine lv_lmul hx hb dX3_laysTurn_84 ?_
  refine tg_last C hw (tp_20 ad dI dJ u3) (by decide) (ts_20 ad dI dJ u3 _ _) dX3_laysTurn_85 (fun H locs hw => ?_)
  obtain ⟨u4, eu4, hm⟩ := nmE hm
  rw [← eu4] at hw
  refine lv_aload_n hx hb dX3_laysTurn_86 rfl (lv_at hl 0 rfl) ?_
  refine tg_get C hw 20 (by decide) q1586 rfl dX3_laysTurn_87 ?_
  refine lv_iconst (v := 3) hx hb dX3_laysTurn_90 (by decide) ?_
  refine lv_ldc2 hx hb hown (hts _ q1803) dX3_laysTurn_91 ?_
  refine lv_lload_n hx hb dX3_laysTurn_94 rfl (lv_at hl 2 rfl) ?_
  refine lv_lload hx hb dX3_laysTurn_95 (lv_at hl 3 rfl) ?_
  refine lv_lmul hx hb dX3_laysTurn_97 ?_
  refine lv_lload_n hx hb dX3_laysTurn_98 rfl (lv_at hl 1 rfl) ?_
  refine lv_lload hx hb dX3_laysTurn_99 (lv_at hl 4 rfl) ?_
  refine lv_lmul hx hb dX3_laysTurn_101 ?_
  refine lv_ladd hx hb dX3_laysTurn_102 ?_
  refine lv_lmul hx hb dX3_laysTurn_103 ?_
  refine tg_last C hw (tp_20 ad dI dJ u4) (by decide) (ts_20 ad dI dJ u4 _ _) dX3_laysTurn_104 (fun H locs hw => ?_)
  obtain ⟨u5, eu5, hm⟩ := nmE hm
  rw [← eu5] at hw
  refine lv_aload_n hx hb dX3_laysTurn_105 rfl (lv_at hl 0 rfl) ?_
  refine tg_get C hw 20 (by decide) q1586 rfl dX3_laysTurn_106 ?_
  refine lv_iconst (v := 4) hx hb dX3_laysTurn_109 (by decide) ?_
  refine lv_lload_n hx hb dX3_laysTurn_110 rfl (lv_at hl 1 rfl) ?_
  refine lv_lload_n hx hb dX3_laysTurn_111 rfl (lv_at hl 1 rfl) ?_
  refine lv_lmul hx hb dX3_laysTurn_112 ?_
  refine lv_lload_n hx hb dX3_laysTurn_113 rfl (lv_at hl 2 rfl) ?_
  refine lv_lload_n hx hb dX3_laysTurn_114 rfl (lv_at hl 2 rfl) ?_
  refine lv_lmul hx hb dX3_laysTurn_115 ?_
  refine lv_lsub hx hb dX3_laysTurn_116 ?_
  refine lv_lload hx hb dX3_laysTurn_117 (lv_at hl 3 rfl) ?_
  refine lv_lload hx hb dX3_laysTurn_119 (lv_at hl 3 rfl) ?_
  refine lv_lmul hx hb dX3_laysTurn_121 ?_
  refine lv_ladd hx hb dX3_laysTurn_122 ?_
  refine lv_lload hx hb dX3_laysTurn_123 (lv_at hl 4 rfl) ?_
  refine lv_lload hx hb dX3_laysTurn_125 (lv_at hl 4 rfl) ?_
  refine lv_lmul hx hb dX3_laysTurn_127 ?_
  refine lv_lsub hx hb dX3_laysTurn_128 ?_
  refine tg_last C hw (tp_20 ad dI dJ u5) (by decide) (ts_20 ad dI dJ u5 _ _) dX3_laysTurn_129 (fun H locs hw => ?_)
  obtain ⟨u6, eu6, hm⟩ := nmE hm
  rw [← eu6] at hw
  refine lv_aload_n hx hb dX3_laysTurn_130 rfl (lv_at hl 0 rfl) ?_
  refine tg_get C hw 20 (by decide) q1586 rfl dX3_laysTurn_131 ?_
  refine lv_iconst (v := 5) hx hb dX3_laysTurn_134 (by decide) ?_
  refine lv_ldc2 hx hb hown (hts _ q1803) dX3_laysTurn_135 ?_
  refine lv_lload hx hb dX3_laysTurn_138 (lv_at hl 3 rfl) ?_
  refine lv_lload hx hb dX3_laysTurn_140 (lv_at hl 4 rfl) ?_
  refine lv_lmul hx hb dX3_laysTurn_142 ?_
  refine lv_lload_n hx hb dX3_laysTurn_143 rfl (lv_at hl 1 rfl) ?_
  refine lv_lload_n hx hb dX3_laysTurn_144 rfl (lv_at hl 2 rfl) ?_
  refine lv_lmul hx hb dX3_laysTurn_145 ?_
  refine lv_lsub hx hb dX3_laysTurn_146 ?_
  refine lv_lmul hx hb dX3_laysTurn_147 ?_
  refine tg_last C hw (tp_20 ad dI dJ u6) (by decide) (ts_20 ad dI dJ u6 _ _) dX3_laysTurn_148 (fun H locs hw => ?_)
  obtain ⟨u7, eu7, hm⟩ := nmE hm
  rw [← eu7] at hw
  refine lv_aload_n hx hb dX3_laysTurn_149 rfl (lv_at hl 0 rfl) ?_
  refine tg_get C hw 20 (by decide) q1586 rfl dX3_laysTurn_150 ?_
  refine lv_bipush (v := 6) hx hb dX3_laysTurn_153 (by decide) ?_
  refine lv_ldc2 hx hb hown (hts _ q1803) dX3_laysTurn_155 ?_
  refine lv_lload_n hx hb dX3_laysTurn_158 rfl (lv_at hl 2 rfl) ?_
  refine lv_lload hx hb dX3_laysTurn_159 (lv_at hl 4 rfl) ?_
  refine lv_lmul hx hb dX3_laysTurn_161 ?_
  refine lv_lload_n hx hb dX3_laysTurn_162 rfl (lv_at hl 1 rfl) ?_
  refine lv_lload hx hb dX3_laysTurn_163 (lv_at hl 3 rfl) ?_
  refine lv_lmul hx hb dX3_laysTurn_165 ?_
  refine lv_lsub hx hb dX3_laysTurn_166 ?_
  refine lv_lmul hx hb dX3_laysTurn_167 ?_
  refine tg_last C hw (tp_20 ad dI dJ u7) (by decide) (ts_20 ad dI dJ u7 _ _) dX3_laysTurn_168 (fun H locs hw => ?_)
  obtain ⟨u8, eu8, hm⟩ := nmE hm
  rw [← eu8] at hw
  refine lv_aload_n hx hb dX3_laysTurn_169 rfl (lv_at hl 0 rfl) ?_
  refine tg_get C hw 20 (by decide) q1586 rfl dX3_laysTurn_170 ?_
  refine lv_bipush (v := 7) hx hb dX3_laysTurn_173 (by decide) ?_
  refine lv_ldc2 hx hb hown (hts _ q1803) dX3_laysTurn_175 ?_
  refine lv_lload hx hb dX3_laysTurn_178 (lv_at hl 3 rfl) ?_
  refine lv_lload hx hb dX3_laysTurn_180 (lv_at hl 4 rfl) ?_
  refine lv_lmul hx hb dX3_laysTurn_182 ?_
  refine lv_lload_n hx hb dX3_laysTurn_183 rfl (lv_at hl 1 rfl) ?_
  refine lv_lload_n hx hb dX3_laysTurn_184 rfl (lv_at hl 2 rfl) ?_
  refine lv_lmul hx hb dX3_laysTurn_185 ?_
  refine lv_ladd hx hb dX3_laysTurn_186 ?_
  refine lv_lmul hx hb dX3_laysTurn_187 ?_
  refine tg_last C hw (tp_20 ad dI dJ u8) (by decide) (ts_20 ad dI dJ u8 _ _) dX3_laysTurn_188 (fun H locs hw => ?_)
  obtain ⟨u9, eu9, hm⟩ := nmE hm
  rw [← eu9] at hw
  refine lv_aload_n hx hb dX3_laysTurn_189 rfl (lv_at hl 0 rfl) ?_
  refine tg_get C hw 20 (by decide) q1586 rfl dX3_laysTurn_190 ?_
  refine lv_bipush (v := 8) hx hb dX3_laysTurn_193 (by decide) ?_
  refine lv_lload_n hx hb dX3_laysTurn_195 rfl (lv_at hl 1 rfl) ?_
  refine lv_lload_n hx hb dX3_laysTurn_196 rfl (lv_at hl 1 rfl) ?_
  refine lv_lmul hx hb dX3_laysTurn_197 ?_
  refine lv_lload_n hx hb dX3_laysTurn_198 rfl (lv_at hl 2 rfl) ?_
  refine lv_lload_n hx hb dX3_laysTurn_199 rfl (lv_at hl 2 rfl) ?_
  refine lv_lmul hx hb dX3_laysTurn_200 ?_
  refine lv_lsub hx hb dX3_laysTurn_201 ?_
  refine lv_lload hx hb dX3_laysTurn_202 (lv_at hl 3 rfl) ?_
  refine lv_lload hx hb dX3_laysTurn_204 (lv_at hl 3 rfl) ?_
  refine lv_lmul hx hb dX3_laysTurn_206 ?_
  refine lv_lsub hx hb dX3_laysTurn_207 ?_
  refine lv_lload hx hb dX3_laysTurn_208 (lv_at hl 4 rfl) ?_
  refine lv_lload hx hb dX3_laysTurn_210 (lv_at hl 4 rfl) ?_
  refine lv_lmul hx hb dX3_laysTurn_212 ?_
  refine lv_ladd hx hb dX3_laysTurn_213 ?_
  refine tg_last C hw (tp_20 ad dI dJ u9) (by decide) (ts_20 ad dI dJ u9 _ _) dX3_laysTurn_214 (fun H locs hw => ?_)
  obtain ⟨u10, eu10, hm⟩ := nmE hm
  rw [← eu10] at hw
  rw [← hQ]
  exact W.vret hx hb hr (fun t ht hW => ⟨⟨u10, rfl, ret1 hm, by rw [ht]; exact hw.1, hw.2.1⟩, hw.2.2.1.F ht⟩) hw.2.2.1.2.2 dX3_laysTurn_215
def m_X3_common_37 (f : Nat) (x4 : Int64) : Option Int64 := some x4
def m_X3_common_12 (f : Nat) : Nat → Int64 → Int64 → Option Int64
  | 0, _, _ => none
  | n12 + 1, x4, x6 => if x6 = (0 : Int64) then
    m_X3_common_37 f x4
    else gd (nzL x6) <|
    nmv ((rmL x4 x6) : Int64) fun v3 =>
    m_X3_common_12 f n12 x6 v3
def m_X3_common (f : Nat) (x0 : Int64) (x2 : Int64) : Option Int64 := bd (m_X3_sized f x0) fun r1 =>
    bd (m_X3_sized f x2) fun r2 =>
    m_X3_common_12 f f r1 r2
abbrev rm_X3_common : Room := { frames := 1, cells := 0, slots := 0, locals := 21 }
theorem cw_X3_common {R : Room} {s : State} {args : Array Value} {own : String} {idx : Nat} (hts : ∀ w ∈ lw_all, w.before args s = true) (hl : Cond.methodLink own idx yX3_common ∈ lw_all) (hR : rm_X3_common.frames + 1 ≤ R.frames ∧ 8 + (10 + 11) + rm_X3_common.locals ≤ R.locals) : CallB R s args own idx yX3_common cX3_common 10 (Option.some Jvm.ClassFile.FieldType.long) (ws_ yX3_common cX3_common 10 (Option.some Jvm.ClassFile.FieldType.long)) rm_X3_common 0 0 2 ∧ (Cond.static yX3_common).before args s = true := va_cwS 2 hts (lw_S hl q1821 q125 q1822) rfl rfl rfl (by decide +kernel) hR
set_option maxHeartbeats 4000000 in
set_option maxRecDepth 100000 in
theorem w_X3_common (l : Launch) {f : Nat} {x0 : Int64} {x2 : Int64} {r0 : Int64} (hm : m_X3_common f x0 x2 = some r0) : Met l yX3_common (ws_ yX3_common cX3_common 10 (Option.some Jvm.ClassFile.FieldType.long)) rm_X3_common (va_Pc [.long x0, .long x2] (fun _ => True)) (vp_Sl (fun r => r = r0)) 0 0 (fun _ => False) := by
  refine Met.ofW (cc := cX3_common) (maxL := 10) (ret := (Option.some Jvm.ClassFile.FieldType.long)) (by decide) rfl ?_
  intro p e s m args below meth c s₁ B hml hv
  have hx := B.exec
  have hb := B.bytes
  have hr := B.returns
  have hts := atoms_spec (ws := (ws_ yX3_common cX3_common 10 (Option.some Jvm.ClassFile.FieldType.long))) B.pre
  have hts : ∀ w ∈ lw_all, w.before args s = true := fun w h => hts w (List.mem_cons_of_mem _ h)
  have hown : s.vm.findClass RX3 = some m.cls := findClass_of_methodNamed B.named
  have hlocks := B.notSynchronized
  obtain ⟨hav, hv⟩ := hv
  generalize hQ : MQ below (vp_Sl (fun r => r = r0)) args s 0 0 (fun _ => False) = QQ
  have hent := lg_entry_eq m [.long x0, .long x2] 10
  rw [← hav] at hent
  rw [hent]
  have hl := lv_entry ([.long x0, .long x2]) (n := 10) (Nat.le_of_ble_eq_true rfl)
  generalize (lg_sl ([.long x0, .long x2]) ++ List.replicate (10 - (lg_sl ([.long x0, .long x2])).length) Slot.unset).toArray = ls at hl ⊢
  have hl : lv_has ls 10 [(0, .long x0), (2, .long x2)] := hl
  change W p l e rm_X3_common s m args below meth c s.heap [] 0 0 QQ (F0 m 0 ls [])
  have hB37 : ∀ (x4 : Int64) (ls : Array Slot), m_X3_common_37 f x4 = some r0 → lv_has ls 10 [(4, .long x4)] → W p l e rm_X3_common s m args below meth c s.heap [] 0 0 QQ (F0 m 37 ls []) := by
    intro x4 ls hm hl
    rw [m_X3_common_37] at hm
    refine lv_lload hx hb dX3_common_37 (lv_at hl 0 rfl) ?_
    rw [← hQ]
    exact W.lret (v := x4) hx hb hr (fun t ht hW => ⟨x4, rfl, ret1 hm, ht⟩) (fun q h => absurd h List.not_mem_nil) dX3_common_39
  have hB12 : ∀ (n12 : Nat), ∀ (x4 : Int64) (x6 : Int64) (ls : Array Slot), m_X3_common_12 f n12 x4 x6 = some r0 → lv_has ls 10 [(4, .long x4), (6, .long x6)] → W p l e rm_X3_common s m args below meth c s.heap [] 0 0 QQ (F0 m 12 ls []) := by
    intro n12
    induction n12 with
    | zero => intro x4 x6 ls hm hl; rw [m_X3_common_12] at hm; exact noE hm
    | succ n12 ih12 =>
      intro x4 x6 ls hm hl
      rw [m_X3_common_12] at hm
      refine lv_lload hx hb dX3_common_12 (lv_at hl 1 rfl) ?_
      refine lv_lconst (v := 0) hx hb dX3_common_14 (by decide) ?_
      refine lc_eq (tgt := 37) hx hb dX3_common_15 dX3_common_16 (by decide) (fun c1 => ?_) (fun c1 => ?_)
      · have hm := ifT hm c1
        exact hB37 x4 _ hm (lv_sub hl [0] rfl)
      · have hm := ifF hm c1
        refine lv_lload hx hb dX3_common_19 (lv_at hl 0 rfl) ?_
        refine lv_lload hx hb dX3_common_21 (lv_at hl 1 rfl) ?_
        obtain ⟨g2, hm⟩ := gdE hm
        refine w_lrem hx hb dX3_common_23 (nzL_ne g2) ?_
        refine lv_topl (fun v3 ev3 => ?_)
        have hm := nmK hm ev3
        refine lv_lstore (lv' := [(8, .long v3), (4, .long x4), (6, .long x6)]) hx hb dX3_common_24 hl (by decide) rfl (fun ls hl => ?_)
        refine lv_lload hx hb dX3_common_26 (lv_at hl 2 rfl) ?_
        refine lv_lstore (lv' := [(4, .long x6), (8, .long v3), (6, .long x6)]) hx hb dX3_common_28 hl (by decide) rfl (fun ls hl => ?_)
        refine lv_lload hx hb dX3_common_30 (lv_at hl 1 rfl) ?_
        refine lv_lstore (lv' := [(6, .long v3), (4, .long x6), (8, .long v3)]) hx hb dX3_common_32 hl (by decide) rfl (fun ls hl => ?_)
        refine lv_goto (tgt := 12) hx hb dX3_common_34 (by decide) ?_
        exact ih12 x6 v3 _ hm (lv_sub hl [1, 0] rfl)
  rw [m_X3_common] at hm
  refine lv_lload_n hx hb dX3_common_0 rfl (lv_at hl 0 rfl) ?_
  obtain ⟨r1, er1, hm⟩ := bdE hm
  refine scl (va_runS (As := [.long x0]) (rest := []) ⟨hx, hb, hml, hown, hts⟩ (w_X3_sized l er1) (cw_X3_sized hts q1772 ⟨Nat.le_of_ble_eq_true rfl, Nat.le_of_ble_eq_true rfl⟩) (pre_s _) rfl rfl hl.1 rfl (lv_room (Nat.le_of_ble_eq_true rfl)) dX3_common_1 ⟨Nat.le_of_ble_eq_true rfl, Nat.le_of_ble_eq_true rfl⟩) ?_
  refine lv_lstore (lv' := [(4, .long r1), (0, .long x0), (2, .long x2)]) hx hb dX3_common_4 hl (by decide) rfl (fun ls hl => ?_)
  refine lv_lload_n hx hb dX3_common_6 rfl (lv_at hl 2 rfl) ?_
  obtain ⟨r2, er2, hm⟩ := bdE hm
  refine scl (va_runS (As := [.long x2]) (rest := []) ⟨hx, hb, hml, hown, hts⟩ (w_X3_sized l er2) (cw_X3_sized hts q1772 ⟨Nat.le_of_ble_eq_true rfl, Nat.le_of_ble_eq_true rfl⟩) (pre_s _) rfl rfl hl.1 rfl (lv_room (Nat.le_of_ble_eq_true rfl)) dX3_common_7 ⟨Nat.le_of_ble_eq_true rfl, Nat.le_of_ble_eq_true rfl⟩) ?_
  refine lv_lstore (lv' := [(6, .long r2), (4, .long r1), (0, .long x0), (2, .long x2)]) hx hb dX3_common_10 hl (by decide) rfl (fun ls hl => ?_)
  exact hB12 f r1 r2 _ hm (lv_sub hl [1, 0] rfl)
def m_X3_lessens_54 (f : Nat) (u : TS) (x1 : Int64) : Option TS := gd (nzL x1) <|
    nmv (sL u 19 ((tL u 19) / x1)) fun u2 =>
    some u2
def m_X3_lessens_32 (f : Nat) : Nat → TS → Int64 → Int32 → Option TS
  | 0, _, _, _ => none
  | n32 + 1, u, x1, x3 => if (9 : Int32) ≤ x3 then
    m_X3_lessens_54 f u x1
    else gd (ix x3 9) <|
    gd (nzL x1) <|
    gd (ix x3 9) <|
    nmv (sB u 18 (Int32.toNatClampNeg x3) ((tB u 18 (Int32.toNatClampNeg x3)) / x1)) fun u5 =>
    nmv ((x3 + 1) : Int32) fun v6 =>
    m_X3_lessens_32 f n32 u5 x1 v6
def m_X3_lessens_30 (f : Nat) (u : TS) (x1 : Int64) : Option TS := m_X3_lessens_32 f f u x1 (0 : Int32)
def m_X3_lessens_7 (f : Nat) : Nat → TS → Int64 → Int32 → Option TS
  | 0, _, _, _ => none
  | n7 + 1, u, x1, x3 => if (9 : Int32) ≤ x3 then
    m_X3_lessens_30 f u x1
    else gd (ix x3 9) <|
    bd (m_X3_common f x1 (tB u 18 (Int32.toNatClampNeg x3))) fun r3 =>
    nmv ((x3 + 1) : Int32) fun v4 =>
    m_X3_lessens_7 f n7 u r3 v4
def m_X3_lessens (f : Nat) (u : TS) : Option TS := nmv ((tL u 19) : Int64) fun v1 =>
    m_X3_lessens_7 f f u v1 (0 : Int32)
abbrev rm_X3_lessens : Room := { frames := 2, cells := 0, slots := 0, locals := 50 }
theorem cw_X3_lessens {R : Room} {s : State} {args : Array Value} {own : String} {idx : Nat} (hts : ∀ w ∈ lw_all, w.before args s = true) (hl : Cond.methodLink own idx yX3_lessens ∈ lw_all) (hR : rm_X3_lessens.frames + 1 ≤ R.frames ∧ 8 + (4 + 11) + rm_X3_lessens.locals ≤ R.locals) : CallW R s args own RX3 idx yX3_lessens cX3_lessens 4 (Option.none : Option Jvm.ClassFile.FieldType) (ws_ yX3_lessens cX3_lessens 4 (Option.none : Option Jvm.ClassFile.FieldType)) rm_X3_lessens 0 0 0 := cwV 0 hts (lw_V hl q1818 qs72 q125 q1819) rfl rfl rfl (by decide +kernel) hR
set_option maxHeartbeats 4000000 in
set_option maxRecDepth 100000 in
theorem w_X3_lessens (l : Launch) {D : va_G} {ad : Nat → Nat} {dI dJ : ClassId} {A : Nat → Prop} {f : Nat} {u u9 : TS}  (hm : m_X3_lessens f u = some u9) : Met l yX3_lessens (ws_ yX3_lessens cX3_lessens 4 (Option.none : Option Jvm.ClassFile.FieldType)) rm_X3_lessens (va_Pc [.ref (ad 40)] (TPre D ad dI dJ A u)) (va_Qv (fun u => u = u9) (TPost D ad dI dJ A) A) 0 0 A := by
  refine Met.ofW (cc := cX3_lessens) (maxL := 4) (ret := (Option.none : Option Jvm.ClassFile.FieldType)) (by decide) rfl ?_
  intro p e s m args below meth c s₁ B hml hv
  have hx := B.exec
  have hb := B.bytes
  have hr := B.returns
  have hts := atoms_spec (ws := (ws_ yX3_lessens cX3_lessens 4 (Option.none : Option Jvm.ClassFile.FieldType))) B.pre
  have hts : ∀ w ∈ lw_all, w.before args s = true := fun w h => hts w (List.mem_cons_of_mem _ h)
  have hown : s.vm.findClass RX3 = some m.cls := findClass_of_methodNamed B.named
  have hlocks := B.notSynchronized
  obtain ⟨hav, hv⟩ := hv
  have C : TC p s m args c cX3_lessens D dI dJ := ⟨hx, hb, hown, hts, hv.2.1⟩
  have hw : TH D ad dI dJ A s.heap u s.heap [] := ⟨hv.1, hv.2.2.1, va_S.rf, hv.2.2.2⟩
  generalize hQ : MQ below (va_Qv (fun u => u = u9) (TPost D ad dI dJ A) A) args s 0 0 A = QQ
  have hent := lg_entry_eq m [.ref (ad 40)] 4
  rw [← hav] at hent
  rw [hent]
  have hl := lv_entry ([.ref (ad 40)]) (n := 4) (Nat.le_of_ble_eq_true rfl)
  generalize (lg_sl ([.ref (ad 40)]) ++ List.replicate (4 - (lg_sl ([.ref (ad 40)])).length) Slot.unset).toArray = ls at hl ⊢
  have hl : lv_has ls 4 [(0, .ref (ad 40))] := hl
  change W p l e rm_X3_lessens s m args below meth c s.heap [] 0 0 QQ (F0 m 0 ls [])
  have hB54 : ∀ (u : TS) (x1 : Int64) (H : Heap) (locs : List Loc) (ls : Array Slot), m_X3_lessens_54 f u x1 = some u9 → TH D ad dI dJ A s.heap u H locs → lv_has ls 4 [(0, .ref (ad 40)), (1, .long x1)] → W p l e rm_X3_lessens s m args below meth c H locs 0 0 QQ (F0 m 54 ls []) := by
    intro u x1 H locs ls hm hw hl
    rw [m_X3_lessens_54] at hm
    refine lv_aload_n hx hb dX3_lessens_54 rfl (lv_at hl 0 rfl) ?_
    refine lv_dup hx hb dX3_lessens_55 rfl ?_
    refine tg_get C hw 19 (by decide) q1585 rfl dX3_lessens_56 ?_
    refine lv_lload_n hx hb dX3_lessens_59 rfl (lv_at hl 1 rfl) ?_
    obtain ⟨g1, hm⟩ := gdE hm
    refine lv_ldiv hx hb dX3_lessens_60 (nzL_ne g1) ?_
    refine tg_put C hw 19 (by decide) q1585 rfl rfl rfl (ts_19 ad dI dJ u ((tL u 19) / x1)) dX3_lessens_61 (fun H locs hw => ?_)
    obtain ⟨u2, eu2, hm⟩ := nmE hm
    rw [← eu2] at hw
    rw [← hQ]
    exact W.vret hx hb hr (fun t ht hW => ⟨⟨u2, rfl, ret1 hm, by rw [ht]; exact hw.1, hw.2.1⟩, hw.2.2.1.F ht⟩) hw.2.2.1.2.2 dX3_lessens_64
  have hB32 : ∀ (n32 : Nat), ∀ (u : TS) (x1 : Int64) (x3 : Int32) (H : Heap) (locs : List Loc) (ls : Array Slot), m_X3_lessens_32 f n32 u x1 x3 = some u9 → TH D ad dI dJ A s.heap u H locs → lv_has ls 4 [(0, .ref (ad 40)), (1, .long x1), (3, .int x3)] → W p l e rm_X3_lessens s m args below meth c H locs 0 0 QQ (F0 m 32 ls []) := by
    intro n32
    induction n32 with
    | zero => intro u x1 x3 H locs ls hm hw hl; rw [m_X3_lessens_32] at hm; exact noE hm
    | succ n32 ih32 =>
      intro u x1 x3 H locs ls hm hw hl
      rw [m_X3_lessens_32] at hm
      refine lv_iload_n hx hb dX3_lessens_32 rfl (lv_at hl 2 rfl) ?_
      refine lv_bipush (v := 9) hx hb dX3_lessens_33 (by decide) ?_
      refine lv_icmp_ge (tgt := 54) hx hb dX3_lessens_35 (by decide) (fun c1 => ?_) (fun c1 => ?_)
      · have hm := ifT hm c1
        exact hB54 u x1 _ _ _ hm hw (lv_sub hl [0, 1] rfl)
      · have hm := ifF hm c1
        refine lv_aload_n hx hb dX3_lessens_38 rfl (lv_at hl 0 rfl) ?_
        refine tg_get C hw 18 (by decide) q1584 rfl dX3_lessens_39 ?_
        refine lv_iload_n hx hb dX3_lessens_42 rfl (lv_at hl 2 rfl) ?_
        refine lv_dup2_11 hx hb dX3_lessens_43 rfl rfl ?_
        obtain ⟨g2, hm⟩ := gdE hm
        refine tg_lald C hw (tp_18 ad dI dJ u) g2 dX3_lessens_44 ?_
        refine lv_lload_n hx hb dX3_lessens_45 rfl (lv_at hl 1 rfl) ?_
        obtain ⟨g3, hm⟩ := gdE hm
        refine lv_ldiv hx hb dX3_lessens_46 (nzL_ne g3) ?_
        obtain ⟨g4, hm⟩ := gdE hm
        refine tg_last C hw (tp_18 ad dI dJ u) g4 (ts_18 ad dI dJ u _ _) dX3_lessens_47 (fun H locs hw => ?_)
        obtain ⟨u5, eu5, hm⟩ := nmE hm
        rw [← eu5] at hw
        obtain ⟨v6, ev6, hm⟩ := nmE hm
        refine lv_iinc (v := v6) (lv' := [(3, .int v6), (0, .ref (ad 40)), (1, .long x1)]) hx hb dX3_lessens_48 hl (k := 2) rfl (by rw [ev6]; rfl) (by decide) rfl (fun ls hl => ?_)
        refine lv_goto (tgt := 32) hx hb dX3_lessens_51 (by decide) ?_
        exact ih32 u5 x1 v6 _ _ _ hm hw (lv_sub hl [1, 2, 0] rfl)
  have hB30 : ∀ (u : TS) (x1 : Int64) (H : Heap) (locs : List Loc) (ls : Array Slot), m_X3_lessens_30 f u x1 = some u9 → TH D ad dI dJ A s.heap u H locs → lv_has ls 4 [(0, .ref (ad 40)), (1, .long x1)] → W p l e rm_X3_lessens s m args below meth c H locs 0 0 QQ (F0 m 30 ls []) := by
    intro u x1 H locs ls hm hw hl
    rw [m_X3_lessens_30] at hm
    refine lv_iconst (v := 0) hx hb dX3_lessens_30 (by decide) ?_
    refine lv_istore_n (lv' := [(3, .int (0 : Int32)), (0, .ref (ad 40)), (1, .long x1)]) hx hb dX3_lessens_31 rfl hl (by decide) rfl (fun ls hl => ?_)
    exact hB32 f u x1 (0 : Int32) _ _ _ hm hw (lv_sub hl [1, 2, 0] rfl)
  have hB7 : ∀ (n7 : Nat), ∀ (u : TS) (x1 : Int64) (x3 : Int32) (H : Heap) (locs : List Loc) (ls : Array Slot), m_X3_lessens_7 f n7 u x1 x3 = some u9 → TH D ad dI dJ A s.heap u H locs → lv_has ls 4 [(0, .ref (ad 40)), (1, .long x1), (3, .int x3)] → W p l e rm_X3_lessens s m args below meth c H locs 0 0 QQ (F0 m 7 ls []) := by
    intro n7
    induction n7 with
    | zero => intro u x1 x3 H locs ls hm hw hl; rw [m_X3_lessens_7] at hm; exact noE hm
    | succ n7 ih7 =>
      intro u x1 x3 H locs ls hm hw hl
      rw [m_X3_lessens_7] at hm
      refine lv_iload_n hx hb dX3_lessens_7 rfl (lv_at hl 2 rfl) ?_
      refine lv_bipush (v := 9) hx hb dX3_lessens_8 (by decide) ?_
      refine lv_icmp_ge (tgt := 30) hx hb dX3_lessens_10 (by decide) (fun c1 => ?_) (fun c1 => ?_)
      · have hm := ifT hm c1
        exact hB30 u x1 _ _ _ hm hw (lv_sub hl [0, 1] rfl)
      · have hm := ifF hm c1
        refine lv_lload_n hx hb dX3_lessens_13 rfl (lv_at hl 1 rfl) ?_
        refine lv_aload_n hx hb dX3_lessens_14 rfl (lv_at hl 0 rfl) ?_
        refine tg_get C hw 18 (by decide) q1584 rfl dX3_lessens_15 ?_
        refine lv_iload_n hx hb dX3_lessens_18 rfl (lv_at hl 2 rfl) ?_
        obtain ⟨g2, hm⟩ := gdE hm
        refine tg_lald C hw (tp_18 ad dI dJ u) g2 dX3_lessens_19 ?_
        obtain ⟨r3, er3, hm⟩ := bdE hm
        refine scl (va_runS (As := [.long x1, .long (tB u 18 (Int32.toNatClampNeg x3))]) (rest := []) ⟨hx, hb, hml, hown, hts⟩ (w_X3_common l er3) (cw_X3_common hts q1820 ⟨Nat.le_of_ble_eq_true rfl, Nat.le_of_ble_eq_true rfl⟩) (pre_s _) rfl rfl hl.1 rfl (lv_room (Nat.le_of_ble_eq_true rfl)) dX3_lessens_20 ⟨Nat.le_of_ble_eq_true rfl, Nat.le_of_ble_eq_true rfl⟩) ?_
        refine lv_lstore_n (lv' := [(1, .long r3), (0, .ref (ad 40)), (3, .int x3)]) hx hb dX3_lessens_23 rfl hl (by decide) rfl (fun ls hl => ?_)
        obtain ⟨v4, ev4, hm⟩ := nmE hm
        refine lv_iinc (v := v4) (lv' := [(3, .int v4), (1, .long r3), (0, .ref (ad 40))]) hx hb dX3_lessens_24 hl (k := 2) rfl (by rw [ev4]; rfl) (by decide) rfl (fun ls hl => ?_)
        refine lv_goto (tgt := 7) hx hb dX3_lessens_27 (by decide) ?_
        exact ih7 u r3 v4 _ _ _ hm hw (lv_sub hl [2, 1, 0] rfl)
  rw [m_X3_lessens] at hm
  refine lv_aload_n hx hb dX3_lessens_0 rfl (lv_at hl 0 rfl) ?_
  refine tg_get C hw 19 (by decide) q1585 rfl dX3_lessens_1 ?_
  refine lv_topl (fun v1 ev1 => ?_)
  have hm := nmK hm ev1
  refine lv_lstore_n (lv' := [(1, .long v1), (0, .ref (ad 40))]) hx hb dX3_lessens_4 rfl hl (by decide) rfl (fun ls hl => ?_)
  refine lv_iconst (v := 0) hx hb dX3_lessens_5 (by decide) ?_
  refine lv_istore_n (lv' := [(3, .int (0 : Int32)), (1, .long v1), (0, .ref (ad 40))]) hx hb dX3_lessens_6 rfl hl (by decide) rfl (fun ls hl => ?_)
  exact hB7 f u v1 (0 : Int32) _ _ _ hm hw (lv_sub hl [2, 1, 0] rfl)
def m_X3_turns_113 (f : Nat) (u : TS) : Option TS := bd (m_X3_lessens f u) fun u1 =>
    some u1
def m_X3_turns_107 (f : Nat) (k2 : TS → Int32 → Option TS) (u : TS) (x1 : Int32) : Option TS := nmv ((x1 + 1) : Int32) fun v1 =>
    k2 u v1
def m_X3_turns_43 (f : Nat) (k2 : TS → Int32 → Option TS) : Nat → TS → Int32 → Int64 → Int64 → Int64 → Int32 → Option TS
  | 0, _, _, _, _, _, _ => none
  | n43 + 1, u, x1, x2, x4, x6, x8 => if (3 : Int32) ≤ x8 then
    m_X3_turns_107 f k2 u x1
    else gd (ix ((3 : Int32) * x8) 9) <|
    gd (ix (((3 : Int32) * x8) + (1 : Int32)) 9) <|
    gd (ix (((3 : Int32) * x8) + (2 : Int32)) 9) <|
    gd (ix (((3 : Int32) * x1) + x8) 9) <|
    nmv (sB u 18 (Int32.toNatClampNeg (((3 : Int32) * x1) + x8)) ((((tB u 20 (Int32.toNatClampNeg ((3 : Int32) * x8))) * x2) + ((tB u 20 (Int32.toNatClampNeg (((3 : Int32) * x8) + (1 : Int32)))) * x4)) + ((tB u 20 (Int32.toNatClampNeg (((3 : Int32) * x8) + (2 : Int32)))) * x6))) fun u6 =>
    nmv ((x8 + 1) : Int32) fun v7 =>
    m_X3_turns_43 f k2 n43 u6 x1 x2 x4 x6 v7
def m_X3_turns_2 (f : Nat) : Nat → TS → Int32 → Option TS
  | 0, _, _ => none
  | n2 + 1, u, x1 => if (3 : Int32) ≤ x1 then
    m_X3_turns_113 f u
    else gd (ix ((3 : Int32) * x1) 9) <|
    nmv ((tB u 18 (Int32.toNatClampNeg ((3 : Int32) * x1))) : Int64) fun v3 =>
    gd (ix (((3 : Int32) * x1) + (1 : Int32)) 9) <|
    nmv ((tB u 18 (Int32.toNatClampNeg (((3 : Int32) * x1) + (1 : Int32)))) : Int64) fun v5 =>
    gd (ix (((3 : Int32) * x1) + (2 : Int32)) 9) <|
    nmv ((tB u 18 (Int32.toNatClampNeg (((3 : Int32) * x1) + (2 : Int32)))) : Int64) fun v7 =>
    m_X3_turns_43 f (m_X3_turns_2 f n2) f u x1 v3 v5 v7 (0 : Int32)
def m_X3_turns (f : Nat) (u : TS) : Option TS := m_X3_turns_2 f f u (0 : Int32)
abbrev rm_X3_turns : Room := { frames := 3, cells := 0, slots := 0, locals := 73 }
theorem cw_X3_turns {R : Room} {s : State} {args : Array Value} {own : String} {idx : Nat} (hts : ∀ w ∈ lw_all, w.before args s = true) (hl : Cond.methodLink own idx yX3_turns ∈ lw_all) (hR : rm_X3_turns.frames + 1 ≤ R.frames ∧ 8 + (9 + 11) + rm_X3_turns.locals ≤ R.locals) : CallW R s args own RX3 idx yX3_turns cX3_turns 9 (Option.none : Option Jvm.ClassFile.FieldType) (ws_ yX3_turns cX3_turns 9 (Option.none : Option Jvm.ClassFile.FieldType)) rm_X3_turns 0 0 0 := cwV 0 hts (lw_V hl q1814 qs71 q125 q1815) rfl rfl rfl (by decide +kernel) hR
set_option maxHeartbeats 4000000 in
set_option maxRecDepth 100000 in
theorem w_X3_turns (l : Launch) {D : va_G} {ad : Nat → Nat} {dI dJ : ClassId} {A : Nat → Prop} {f : Nat} {u u9 : TS}  (hm : m_X3_turns f u = some u9) : Met l yX3_turns (ws_ yX3_turns cX3_turns 9 (Option.none : Option Jvm.ClassFile.FieldType)) rm_X3_turns (va_Pc [.ref (ad 40)] (TPre D ad dI dJ A u)) (va_Qv (fun u => u = u9) (TPost D ad dI dJ A) A) 0 0 A := by
  refine Met.ofW (cc := cX3_turns) (maxL := 9) (ret := (Option.none : Option Jvm.ClassFile.FieldType)) (by decide) rfl ?_
  intro p e s m args below meth c s₁ B hml hv
  have hx := B.exec
  have hb := B.bytes
  have hr := B.returns
  have hts := atoms_spec (ws := (ws_ yX3_turns cX3_turns 9 (Option.none : Option Jvm.ClassFile.FieldType))) B.pre
  have hts : ∀ w ∈ lw_all, w.before args s = true := fun w h => hts w (List.mem_cons_of_mem _ h)
  have hown : s.vm.findClass RX3 = some m.cls := findClass_of_methodNamed B.named
  have hlocks := B.notSynchronized
  obtain ⟨hav, hv⟩ := hv
  have C : TC p s m args c cX3_turns D dI dJ := ⟨hx, hb, hown, hts, hv.2.1⟩
  have hw : TH D ad dI dJ A s.heap u s.heap [] := ⟨hv.1, hv.2.2.1, va_S.rf, hv.2.2.2⟩
  generalize hQ : MQ below (va_Qv (fun u => u = u9) (TPost D ad dI dJ A) A) args s 0 0 A = QQ
  have hent := lg_entry_eq m [.ref (ad 40)] 9
  rw [← hav] at hent
  rw [hent]
  have hl := lv_entry ([.ref (ad 40)]) (n := 9) (Nat.le_of_ble_eq_true rfl)
  generalize (lg_sl ([.ref (ad 40)]) ++ List.replicate (9 - (lg_sl ([.ref (ad 40)])).length) Slot.unset).toArray = ls at hl ⊢
  have hl : lv_has ls 9 [(0, .ref (ad 40))] := hl
  change W p l e rm_X3_turns s m args below meth c s.heap [] 0 0 QQ (F0 m 0 ls [])
  have hB113 : ∀ (u : TS) (H : Heap) (locs : List Loc) (ls : Array Slot), m_X3_turns_113 f u = some u9 → TH D ad dI dJ A s.heap u H locs → lv_has ls 9 [(0, .ref (ad 40))] → W p l e rm_X3_turns s m args below meth c H locs 0 0 QQ (F0 m 113 ls []) := by
    intro u H locs ls hm hw hl
    rw [m_X3_turns_113] at hm
    refine lv_aload_n hx hb dX3_turns_113 rfl (lv_at hl 0 rfl) ?_
    obtain ⟨u1, eu1, hm⟩ := bdE hm
    refine tg_callv hw (va_runV (As := []) (rest := []) ⟨hx, hb, hml, hown, hts⟩ (w_X3_lessens l eu1) (cw_X3_lessens hts q1816 ⟨Nat.le_of_ble_eq_true rfl, Nat.le_of_ble_eq_true rfl⟩) (tg_pre C hw _) rfl rfl hl.1 rfl (lv_room (Nat.le_of_ble_eq_true rfl)) dX3_turns_114 ⟨Nat.le_of_ble_eq_true rfl, Nat.le_of_ble_eq_true rfl⟩) (fun H locs hw => ?_)
    rw [← hQ]
    exact W.vret hx hb hr (fun t ht hW => ⟨⟨u1, rfl, ret1 hm, by rw [ht]; exact hw.1, hw.2.1⟩, hw.2.2.1.F ht⟩) hw.2.2.1.2.2 dX3_turns_117
  have hB2 : ∀ (n2 : Nat), ∀ (u : TS) (x1 : Int32) (H : Heap) (locs : List Loc) (ls : Array Slot), m_X3_turns_2 f n2 u x1 = some u9 → TH D ad dI dJ A s.heap u H locs → lv_has ls 9 [(0, .ref (ad 40)), (1, .int x1)] → W p l e rm_X3_turns s m args below meth c H locs 0 0 QQ (F0 m 2 ls []) := by
    intro n2
    induction n2 with
    | zero => intro u x1 H locs ls hm hw hl; rw [m_X3_turns_2] at hm; exact noE hm
    | succ n2 ih2 =>
      have hB107 : ∀ (u : TS) (x1 : Int32) (H : Heap) (locs : List Loc) (ls : Array Slot), m_X3_turns_107 f (m_X3_turns_2 f n2) u x1 = some u9 → TH D ad dI dJ A s.heap u H locs → lv_has ls 9 [(0, .ref (ad 40)), (1, .int x1)] → W p l e rm_X3_turns s m args below meth c H locs 0 0 QQ (F0 m 107 ls []) := by
        intro u x1 H locs ls hm hw hl
        rw [m_X3_turns_107] at hm
        obtain ⟨v1, ev1, hm⟩ := nmE hm
        refine lv_iinc (v := v1) (lv' := [(1, .int v1), (0, .ref (ad 40))]) hx hb dX3_turns_107 hl (k := 1) rfl (by rw [ev1]; rfl) (by decide) rfl (fun ls hl => ?_)
        refine lv_goto (tgt := 2) hx hb dX3_turns_110 (by decide) ?_
        exact ih2 u v1 _ _ _ hm hw (lv_sub hl [1, 0] rfl)
      have hB43 : ∀ (n43 : Nat), ∀ (u : TS) (x1 : Int32) (x2 : Int64) (x4 : Int64) (x6 : Int64) (x8 : Int32) (H : Heap) (locs : List Loc) (ls : Array Slot), m_X3_turns_43 f (m_X3_turns_2 f n2) n43 u x1 x2 x4 x6 x8 = some u9 → TH D ad dI dJ A s.heap u H locs → lv_has ls 9 [(0, .ref (ad 40)), (1, .int x1), (2, .long x2), (4, .long x4), (6, .long x6), (8, .int x8)] → W p l e rm_X3_turns s m args below meth c H locs 0 0 QQ (F0 m 43 ls []) := by
        intro n43
        induction n43 with
        | zero => intro u x1 x2 x4 x6 x8 H locs ls hm hw hl; rw [m_X3_turns_43] at hm; exact noE hm
        | succ n43 ih43 =>
          intro u x1 x2 x4 x6 x8 H locs ls hm hw hl
          rw [m_X3_turns_43] at hm
          refine lv_iload hx hb dX3_turns_43 (lv_at hl 5 rfl) ?_
          refine lv_iconst (v := 3) hx hb dX3_turns_45 (by decide) ?_
          refine lv_icmp_ge (tgt := 107) hx hb dX3_turns_46 (by decide) (fun c1 => ?_) (fun c1 => ?_)
          · have hm := ifT hm c1
            exact hB107 u x1 _ _ _ hm hw (lv_sub hl [0, 1] rfl)
          · have hm := ifF hm c1
            refine lv_aload_n hx hb dX3_turns_49 rfl (lv_at hl 0 rfl) ?_
            refine tg_get C hw 18 (by decide) q1584 rfl dX3_turns_50 ?_
            refine lv_iconst (v := 3) hx hb dX3_turns_53 (by decide) ?_
            refine lv_iload_n hx hb dX3_turns_54 rfl (lv_at hl 1 rfl) ?_
            refine lv_imul hx hb dX3_turns_55 ?_
            refine lv_iload hx hb dX3_turns_56 (lv_at hl 5 rfl) ?_
            refine lv_iadd hx hb dX3_turns_58 ?_
            refine lv_aload_n hx hb dX3_turns_59 rfl (lv_at hl 0 rfl) ?_
            refine tg_get C hw 20 (by decide) q1586 rfl dX3_turns_60 ?_
            refine lv_iconst (v := 3) hx hb dX3_turns_63 (by decide) ?_
            refine lv_iload hx hb dX3_turns_64 (lv_at hl 5 rfl) ?_
            refine lv_imul hx hb dX3_turns_66 ?_
            obtain ⟨g2, hm⟩ := gdE hm
            refine tg_lald C hw (tp_20 ad dI dJ u) g2 dX3_turns_67 ?_
            refine lv_lload_n hx hb dX3_turns_68 rfl (lv_at hl 2 rfl) ?_
            refine lv_lmul hx hb dX3_turns_69 ?_
            refine lv_aload_n hx hb dX3_turns_70 rfl (lv_at hl 0 rfl) ?_
            refine tg_get C hw 20 (by decide) q1586 rfl dX3_turns_71 ?_
            refine lv_iconst (v := 3) hx hb dX3_turns_74 (by decide) ?_
            refine lv_iload hx hb dX3_turns_75 (lv_at hl 5 rfl) ?_
            refine lv_imul hx hb dX3_turns_77 ?_
            refine lv_iconst (v := 1) hx hb dX3_turns_78 (by decide) ?_
            refine lv_iadd hx hb dX3_turns_79 ?_
            obtain ⟨g3, hm⟩ := gdE hm
            refine tg_lald C hw (tp_20 ad dI dJ u) g3 dX3_turns_80 ?_
            refine lv_lload hx hb dX3_turns_81 (lv_at hl 3 rfl) ?_
            refine lv_lmul hx hb dX3_turns_83 ?_
            refine lv_ladd hx hb dX3_turns_84 ?_
            refine lv_aload_n hx hb dX3_turns_85 rfl (lv_at hl 0 rfl) ?_
            refine tg_get C hw 20 (by decide) q1586 rfl dX3_turns_86 ?_
            refine lv_iconst (v := 3) hx hb dX3_turns_89 (by decide) ?_
            refine lv_iload hx hb dX3_turns_90 (lv_at hl 5 rfl) ?_
            refine lv_imul hx hb dX3_turns_92 ?_
            refine lv_iconst (v := 2) hx hb dX3_turns_93 (by decide) ?_
            refine lv_iadd hx hb dX3_turns_94 ?_
            obtain ⟨g4, hm⟩ := gdE hm
            refine tg_lald C hw (tp_20 ad dI dJ u) g4 dX3_turns_95 ?_
            refine lv_lload hx hb dX3_turns_96 (lv_at hl 4 rfl) ?_
            refine lv_lmul hx hb dX3_turns_98 ?_
            refine lv_ladd hx hb dX3_turns_99 ?_
            obtain ⟨g5, hm⟩ := gdE hm
            refine tg_last C hw (tp_18 ad dI dJ u) g5 (ts_18 ad dI dJ u _ _) dX3_turns_100 (fun H locs hw => ?_)
            obtain ⟨u6, eu6, hm⟩ := nmE hm
            rw [← eu6] at hw
            obtain ⟨v7, ev7, hm⟩ := nmE hm
            refine lv_iinc (v := v7) (lv' := [(8, .int v7), (0, .ref (ad 40)), (1, .int x1), (2, .long x2), (4, .long x4), (6, .long x6)]) hx hb dX3_turns_101 hl (k := 5) rfl (by rw [ev7]; rfl) (by decide) rfl (fun ls hl => ?_)
            refine lv_goto (tgt := 43) hx hb dX3_turns_104 (by decide) ?_
            exact ih43 u6 x1 x2 x4 x6 v7 _ _ _ hm hw (lv_sub hl [1, 2, 3, 4, 5, 0] rfl)
      intro u x1 H locs ls hm hw hl
      rw [m_X3_turns_2] at hm
      refine lv_iload_n hx hb dX3_turns_2 rfl (lv_at hl 1 rfl) ?_
      refine lv_iconst (v := 3) hx hb dX3_turns_3 (by decide) ?_
      refine lv_icmp_ge (tgt := 113) hx hb dX3_turns_4 (by decide) (fun c1 => ?_) (fun c1 => ?_)
      · have hm := ifT hm c1
        exact hB113 u _ _ _ hm hw (lv_sub hl [0] rfl)
      · have hm := ifF hm c1
        refine lv_aload_n hx hb dX3_turns_7 rfl (lv_at hl 0 rfl) ?_
        refine tg_get C hw 18 (by decide) q1584 rfl dX3_turns_8 ?_
        refine lv_iconst (v := 3) hx hb dX3_turns_11 (by decide) ?_
        refine lv_iload_n hx hb dX3_turns_12 rfl (lv_at hl 1 rfl) ?_
        refine lv_imul hx hb dX3_turns_13 ?_
        obtain ⟨g2, hm⟩ := gdE hm
        refine tg_lald C hw (tp_18 ad dI dJ u) g2 dX3_turns_14 ?_
        refine lv_topl (fun v3 ev3 => ?_)
        have hm := nmK hm ev3
        refine lv_lstore_n (lv' := [(2, .long v3), (0, .ref (ad 40)), (1, .int x1)]) hx hb dX3_turns_15 rfl hl (by decide) rfl (fun ls hl => ?_)
        refine lv_aload_n hx hb dX3_turns_16 rfl (lv_at hl 1 rfl) ?_
        refine tg_get C hw 18 (by decide) q1584 rfl dX3_turns_17 ?_
        refine lv_iconst (v := 3) hx hb dX3_turns_20 (by decide) ?_
        refine lv_iload_n hx hb dX3_turns_21 rfl (lv_at hl 2 rfl) ?_
        refine lv_imul hx hb dX3_turns_22 ?_
        refine lv_iconst (v := 1) hx hb dX3_turns_23 (by decide) ?_
        refine lv_iadd hx hb dX3_turns_24 ?_
        obtain ⟨g4, hm⟩ := gdE hm
        refine tg_lald C hw (tp_18 ad dI dJ u) g4 dX3_turns_25 ?_
        refine lv_topl (fun v5 ev5 => ?_)
        have hm := nmK hm ev5
        refine lv_lstore (lv' := [(4, .long v5), (2, .long v3), (0, .ref (ad 40)), (1, .int x1)]) hx hb dX3_turns_26 hl (by decide) rfl (fun ls hl => ?_)
        refine lv_aload_n hx hb dX3_turns_28 rfl (lv_at hl 2 rfl) ?_
        refine tg_get C hw 18 (by decide) q1584 rfl dX3_turns_29 ?_
        refine lv_iconst (v := 3) hx hb dX3_turns_32 (by decide) ?_
        refine lv_iload_n hx hb dX3_turns_33 rfl (lv_at hl 3 rfl) ?_
        refine lv_imul hx hb dX3_turns_34 ?_
        refine lv_iconst (v := 2) hx hb dX3_turns_35 (by decide) ?_
        refine lv_iadd hx hb dX3_turns_36 ?_
        obtain ⟨g6, hm⟩ := gdE hm
        refine tg_lald C hw (tp_18 ad dI dJ u) g6 dX3_turns_37 ?_
        refine lv_topl (fun v7 ev7 => ?_)
        have hm := nmK hm ev7
        refine lv_lstore (lv' := [(6, .long v7), (4, .long v5), (2, .long v3), (0, .ref (ad 40)), (1, .int x1)]) hx hb dX3_turns_38 hl (by decide) rfl (fun ls hl => ?_)
        refine lv_iconst (v := 0) hx hb dX3_turns_40 (by decide) ?_
        refine lv_istore (lv' := [(8, .int (0 : Int32)), (6, .long v7), (4, .long v5), (2, .long v3), (0, .ref (ad 40)), (1, .int x1)]) hx hb dX3_turns_41 hl (by decide) rfl (fun ls hl => ?_)
        exact hB43 f u x1 v3 v5 v7 (0 : Int32) _ _ _ hm hw (lv_sub hl [4, 5, 3, 2, 1, 0] rfl)
  rw [m_X3_turns] at hm
  refine lv_iconst (v := 0) hx hb dX3_turns_0 (by decide) ?_
  refine lv_istore_n (lv' := [(1, .int (0 : Int32)), (0, .ref (ad 40))]) hx hb dX3_turns_1 rfl hl (by decide) rfl (fun ls hl => ?_)
  exact hB2 f u (0 : Int32) _ _ _ hm hw (lv_sub hl [1, 0] rfl)
def m_X3_lays_131 (f : Nat) (u : TS) : Option TS := some u
def m_X3_lays_56 (f : Nat) (u : TS) (x1 : Int32) : Option TS := nmv (sL u 19 (1 : Int64)) fun u1 =>
    bd2 (m_X3_isTurned f u1 x1) fun r3 u2 =>
    if r3 = 0 then
    m_X3_lays_131 f u2
    else gd (ix ((8 : Int32) + ((4 : Int32) * x1)) 73) <|
    gd (ix (((8 : Int32) + ((4 : Int32) * x1)) + (1 : Int32)) 73) <|
    gd (ix (((8 : Int32) + ((4 : Int32) * x1)) + (2 : Int32)) 73) <|
    gd (ix (((8 : Int32) + ((4 : Int32) * x1)) + (3 : Int32)) 73) <|
    bd (m_X3_laysTurn f u2 (Int32.toInt64 (tA u2 0 (Int32.toNatClampNeg ((8 : Int32) + ((4 : Int32) * x1))))) (Int32.toInt64 (tA u2 0 (Int32.toNatClampNeg (((8 : Int32) + ((4 : Int32) * x1)) + (1 : Int32))))) (Int32.toInt64 (tA u2 0 (Int32.toNatClampNeg (((8 : Int32) + ((4 : Int32) * x1)) + (2 : Int32))))) (Int32.toInt64 (tA u2 0 (Int32.toNatClampNeg (((8 : Int32) + ((4 : Int32) * x1)) + (3 : Int32)))))) fun u9 =>
    bd (m_X3_turns f u9) fun u10 =>
    m_X3_lays_131 f u10
def m_X3_lays_23 (f : Nat) : Nat → TS → Int32 → Int32 → Int32 → Option TS
  | 0, _, _, _, _ => none
  | n23 + 1, u, x1, x2, x3 => if (9 : Int32) ≤ x3 then
    m_X3_lays_56 f u x1
    else gd (ix (((28 : Int32) + ((9 : Int32) * x2)) + x3) 73) <|
    gd (ix x3 9) <|
    nmv (sB u 18 (Int32.toNatClampNeg x3) (Int32.toInt64 (tA u 0 (Int32.toNatClampNeg (((28 : Int32) + ((9 : Int32) * x2)) + x3))))) fun u4 =>
    nmv ((x3 + 1) : Int32) fun v5 =>
    m_X3_lays_23 f n23 u4 x1 x2 v5
def m_X3_lays_20 (f : Nat) (u : TS) (x1 : Int32) (y0 : Int32) : Option TS := m_X3_lays_23 f f u x1 y0 (0 : Int32)
def m_X3_lays (f : Nat) (u : TS) (x1 : Int32) : Option TS := bd2 (m_X3_isTurned f u x1) fun r2 u1 =>
    if r2 = 0 then
    m_X3_lays_20 f u1 x1 x1
    else gd (ix ((3 : Int32) + x1) 73) <|
    m_X3_lays_20 f u1 x1 (tA u1 0 (Int32.toNatClampNeg ((3 : Int32) + x1)))
abbrev rm_X3_lays : Room := { frames := 4, cells := 0, slots := 0, locals := 101 }
theorem cw_X3_lays {R : Room} {s : State} {args : Array Value} {own : String} {idx : Nat} (hts : ∀ w ∈ lw_all, w.before args s = true) (hl : Cond.methodLink own idx yX3_lays ∈ lw_all) (hR : rm_X3_lays.frames + 1 ≤ R.frames ∧ 8 + (4 + 11) + rm_X3_lays.locals ≤ R.locals) : CallW R s args own RX3 idx yX3_lays cX3_lays 4 (Option.none : Option Jvm.ClassFile.FieldType) (ws_ yX3_lays cX3_lays 4 (Option.none : Option Jvm.ClassFile.FieldType)) rm_X3_lays 0 0 1 := cwV 1 hts (lw_V hl q1806 qs69 q125 q1807) rfl rfl rfl (by decide +kernel) hR
set_option maxHeartbeats 4000000 in
set_option maxRecDepth 100000 in
theorem w_X3_lays (l : Launch) {D : va_G} {ad : Nat → Nat} {dI dJ : ClassId} {A : Nat → Prop} {f : Nat} {u u9 : TS} {x1 : Int32} (hm : m_X3_lays f u x1 = some u9) : Met l yX3_lays (ws_ yX3_lays cX3_lays 4 (Option.none : Option Jvm.ClassFile.FieldType)) rm_X3_lays (va_Pc [.ref (ad 40), .int x1] (TPre D ad dI dJ A u)) (va_Qv (fun u => u = u9) (TPost D ad dI dJ A) A) 0 0 A := by
  refine Met.ofW (cc := cX3_lays) (maxL := 4) (ret := (Option.none : Option Jvm.ClassFile.FieldType)) (by decide) rfl ?_
  intro p e s m args below meth c s₁ B hml hv
  have hx := B.exec
  have hb := B.bytes
  have hr := B.returns
  have hts := atoms_spec (ws := (ws_ yX3_lays cX3_lays 4 (Option.none : Option Jvm.ClassFile.FieldType))) B.pre
  have hts : ∀ w ∈ lw_all, w.before args s = true := fun w h => hts w (List.mem_cons_of_mem _ h)
  have hown : s.vm.findClass RX3 = some m.cls := findClass_of_methodNamed B.named
  have hlocks := B.notSynchronized
  obtain ⟨hav, hv⟩ := hv
  have C : TC p s m args c cX3_lays D dI dJ := ⟨hx, hb, hown, hts, hv.2.1⟩
  have hw : TH D ad dI dJ A s.heap u s.heap [] := ⟨hv.1, hv.2.2.1, va_S.rf, hv.2.2.2⟩
  generalize hQ : MQ below (va_Qv (fun u => u = u9) (TPost D ad dI dJ A) A) args s 0 0 A = QQ
  have hent := lg_entry_eq m [.ref (ad 40), .int x1] 4
  rw [← hav] at hent
  rw [hent]
  have hl := lv_entry ([.ref (ad 40), .int x1]) (n := 4) (Nat.le_of_ble_eq_true rfl)
  generalize (lg_sl ([.ref (ad 40), .int x1]) ++ List.replicate (4 - (lg_sl ([.ref (ad 40), .int x1])).length) Slot.unset).toArray = ls at hl ⊢
  have hl : lv_has ls 4 [(0, .ref (ad 40)), (1, .int x1)] := hl
  change W p l e rm_X3_lays s m args below meth c s.heap [] 0 0 QQ (F0 m 0 ls [])
  have hB131 : ∀ (u : TS) (H : Heap) (locs : List Loc) (ls : Array Slot), m_X3_lays_131 f u = some u9 → TH D ad dI dJ A s.heap u H locs → lv_has ls 4 [] → W p l e rm_X3_lays s m args below meth c H locs 0 0 QQ (F0 m 131 ls []) := by
    intro u H locs ls hm hw hl
    rw [m_X3_lays_131] at hm
    rw [← hQ]
    exact W.vret hx hb hr (fun t ht hW => ⟨⟨u, rfl, ret1 hm, by rw [ht]; exact hw.1, hw.2.1⟩, hw.2.2.1.F ht⟩) hw.2.2.1.2.2 dX3_lays_131
  have hB56 : ∀ (u : TS) (x1 : Int32) (H : Heap) (locs : List Loc) (ls : Array Slot), m_X3_lays_56 f u x1 = some u9 → TH D ad dI dJ A s.heap u H locs → lv_has ls 4 [(0, .ref (ad 40)), (1, .int x1)] → W p l e rm_X3_lays s m args below meth c H locs 0 0 QQ (F0 m 56 ls []) := by
    intro u x1 H locs ls hm hw hl
    rw [m_X3_lays_56] at hm
    refine lv_aload_n hx hb dX3_lays_56 rfl (lv_at hl 0 rfl) ?_
    refine lv_lconst (v := 1) hx hb dX3_lays_57 (by decide) ?_
    refine tg_put C hw 19 (by decide) q1585 rfl rfl rfl (ts_19 ad dI dJ u (1 : Int64)) dX3_lays_58 (fun H locs hw => ?_)
    obtain ⟨u1, eu1, hm⟩ := nmE hm
    rw [← eu1] at hw
    refine lv_aload_n hx hb dX3_lays_61 rfl (lv_at hl 0 rfl) ?_
    refine lv_iload_n hx hb dX3_lays_62 rfl (lv_at hl 1 rfl) ?_
    obtain ⟨r3, u2, er3, hm⟩ := bd2E hm
    refine tg_calli hw (va_runV (As := [.int x1]) (rest := []) ⟨hx, hb, hml, hown, hts⟩ (w_X3_isTurned l er3) (cw_X3_isTurned hts q1788 ⟨Nat.le_of_ble_eq_true rfl, Nat.le_of_ble_eq_true rfl⟩) (tg_pre C hw _) rfl rfl hl.1 rfl (lv_room (Nat.le_of_ble_eq_true rfl)) dX3_lays_63 ⟨Nat.le_of_ble_eq_true rfl, Nat.le_of_ble_eq_true rfl⟩) (fun H locs hw => ?_)
    refine lv_if_eq (tgt := 131) hx hb dX3_lays_66 (by decide) (fun c4 => ?_) (fun c4 => ?_)
    · have hm := ifT hm c4
      exact hB131 u2 _ _ _ hm hw (lv_sub hl [] rfl)
    · have hm := ifF hm c4
      refine lv_aload_n hx hb dX3_lays_69 rfl (lv_at hl 0 rfl) ?_
      refine lv_aload_n hx hb dX3_lays_70 rfl (lv_at hl 0 rfl) ?_
      refine tg_get C hw 0 (by decide) q1566 rfl dX3_lays_71 ?_
      refine lv_bipush (v := 8) hx hb dX3_lays_74 (by decide) ?_
      refine lv_iconst (v := 4) hx hb dX3_lays_76 (by decide) ?_
      refine lv_iload_n hx hb dX3_lays_77 rfl (lv_at hl 1 rfl) ?_
      refine lv_imul hx hb dX3_lays_78 ?_
      refine lv_iadd hx hb dX3_lays_79 ?_
      obtain ⟨g5, hm⟩ := gdE hm
      refine tg_iald C hw (tp_0 ad dI dJ u2) g5 dX3_lays_80 ?_
      refine lv_i2l hx hb dX3_lays_81 rfl ?_
      refine lv_aload_n hx hb dX3_lays_82 rfl (lv_at hl 0 rfl) ?_
      refine tg_get C hw 0 (by decide) q1566 rfl dX3_lays_83 ?_
      refine lv_bipush (v := 8) hx hb dX3_lays_86 (by decide) ?_
      refine lv_iconst (v := 4) hx hb dX3_lays_88 (by decide) ?_
      refine lv_iload_n hx hb dX3_lays_89 rfl (lv_at hl 1 rfl) ?_
      refine lv_imul hx hb dX3_lays_90 ?_
      refine lv_iadd hx hb dX3_lays_91 ?_
      refine lv_iconst (v := 1) hx hb dX3_lays_92 (by decide) ?_
      refine lv_iadd hx hb dX3_lays_93 ?_
      obtain ⟨g6, hm⟩ := gdE hm
      refine tg_iald C hw (tp_0 ad dI dJ u2) g6 dX3_lays_94 ?_
      refine lv_i2l hx hb dX3_lays_95 rfl ?_
      refine lv_aload_n hx hb dX3_lays_96 rfl (lv_at hl 0 rfl) ?_
      refine tg_get C hw 0 (by decide) q1566 rfl dX3_lays_97 ?_
      refine lv_bipush (v := 8) hx hb dX3_lays_100 (by decide) ?_
      refine lv_iconst (v := 4) hx hb dX3_lays_102 (by decide) ?_
      refine lv_iload_n hx hb dX3_lays_103 rfl (lv_at hl 1 rfl) ?_
      refine lv_imul hx hb dX3_lays_104 ?_
      refine lv_iadd hx hb dX3_lays_105 ?_
      refine lv_iconst (v := 2) hx hb dX3_lays_106 (by decide) ?_
      refine lv_iadd hx hb dX3_lays_107 ?_
      obtain ⟨g7, hm⟩ := gdE hm
      refine tg_iald C hw (tp_0 ad dI dJ u2) g7 dX3_lays_108 ?_
      refine lv_i2l hx hb dX3_lays_109 rfl ?_
      refine lv_aload_n hx hb dX3_lays_110 rfl (lv_at hl 0 rfl) ?_
      refine tg_get C hw 0 (by decide) q1566 rfl dX3_lays_111 ?_
      refine lv_bipush (v := 8) hx hb dX3_lays_114 (by decide) ?_
      refine lv_iconst (v := 4) hx hb dX3_lays_116 (by decide) ?_
      refine lv_iload_n hx hb dX3_lays_117 rfl (lv_at hl 1 rfl) ?_
      refine lv_imul hx hb dX3_lays_118 ?_
      refine lv_iadd hx hb dX3_lays_119 ?_
      refine lv_iconst (v := 3) hx hb dX3_lays_120 (by decide) ?_
      refine lv_iadd hx hb dX3_lays_121 ?_
      obtain ⟨g8, hm⟩ := gdE hm
      refine tg_iald C hw (tp_0 ad dI dJ u2) g8 dX3_lays_122 ?_
      refine lv_i2l hx hb dX3_lays_123 rfl ?_
      obtain ⟨u9, eu9, hm⟩ := bdE hm
      refine tg_callv hw (va_runV (As := [.long (Int32.toInt64 (tA u2 0 (Int32.toNatClampNeg ((8 : Int32) + ((4 : Int32) * x1))))), .long (Int32.toInt64 (tA u2 0 (Int32.toNatClampNeg (((8 : Int32) + ((4 : Int32) * x1)) + (1 : Int32))))), .long (Int32.toInt64 (tA u2 0 (Int32.toNatClampNeg (((8 : Int32) + ((4 : Int32) * x1)) + (2 : Int32))))), .long (Int32.toInt64 (tA u2 0 (Int32.toNatClampNeg (((8 : Int32) + ((4 : Int32) * x1)) + (3 : Int32)))))]) (rest := []) ⟨hx, hb, hml, hown, hts⟩ (w_X3_laysTurn l eu9) (cw_X3_laysTurn hts q1808 ⟨Nat.le_of_ble_eq_true rfl, Nat.le_of_ble_eq_true rfl⟩) (tg_pre C hw _) rfl rfl hl.1 rfl (lv_room (Nat.le_of_ble_eq_true rfl)) dX3_lays_124 ⟨Nat.le_of_ble_eq_true rfl, Nat.le_of_ble_eq_true rfl⟩) (fun H locs hw => ?_)
      refine lv_aload_n hx hb dX3_lays_127 rfl (lv_at hl 0 rfl) ?_
      obtain ⟨u10, eu10, hm⟩ := bdE hm
      refine tg_callv hw (va_runV (As := []) (rest := []) ⟨hx, hb, hml, hown, hts⟩ (w_X3_turns l eu10) (cw_X3_turns hts q1812 ⟨Nat.le_of_ble_eq_true rfl, Nat.le_of_ble_eq_true rfl⟩) (tg_pre C hw _) rfl rfl hl.1 rfl (lv_room (Nat.le_of_ble_eq_true rfl)) dX3_lays_128 ⟨Nat.le_of_ble_eq_true rfl, Nat.le_of_ble_eq_true rfl⟩) (fun H locs hw => ?_)
      exact hB131 u10 _ _ _ hm hw (lv_sub hl [] rfl)
  have hB23 : ∀ (n23 : Nat), ∀ (u : TS) (x1 : Int32) (x2 : Int32) (x3 : Int32) (H : Heap) (locs : List Loc) (ls : Array Slot), m_X3_lays_23 f n23 u x1 x2 x3 = some u9 → TH D ad dI dJ A s.heap u H locs → lv_has ls 4 [(0, .ref (ad 40)), (1, .int x1), (2, .int x2), (3, .int x3)] → W p l e rm_X3_lays s m args below meth c H locs 0 0 QQ (F0 m 23 ls []) := by
    intro n23
    induction n23 with
    | zero => intro u x1 x2 x3 H locs ls hm hw hl; rw [m_X3_lays_23] at hm; exact noE hm
    | succ n23 ih23 =>
      intro u x1 x2 x3 H locs ls hm hw hl
      rw [m_X3_lays_23] at hm
      refine lv_iload_n hx hb dX3_lays_23 rfl (lv_at hl 3 rfl) ?_
      refine lv_bipush (v := 9) hx hb dX3_lays_24 (by decide) ?_
      refine lv_icmp_ge (tgt := 56) hx hb dX3_lays_26 (by decide) (fun c1 => ?_) (fun c1 => ?_)
      · have hm := ifT hm c1
        exact hB56 u x1 _ _ _ hm hw (lv_sub hl [0, 1] rfl)
      · have hm := ifF hm c1
        refine lv_aload_n hx hb dX3_lays_29 rfl (lv_at hl 0 rfl) ?_
        refine tg_get C hw 18 (by decide) q1584 rfl dX3_lays_30 ?_
        refine lv_iload_n hx hb dX3_lays_33 rfl (lv_at hl 3 rfl) ?_
        refine lv_aload_n hx hb dX3_lays_34 rfl (lv_at hl 0 rfl) ?_
        refine tg_get C hw 0 (by decide) q1566 rfl dX3_lays_35 ?_
        refine lv_bipush (v := 28) hx hb dX3_lays_38 (by decide) ?_
        refine lv_bipush (v := 9) hx hb dX3_lays_40 (by decide) ?_
        refine lv_iload_n hx hb dX3_lays_42 rfl (lv_at hl 2 rfl) ?_
        refine lv_imul hx hb dX3_lays_43 ?_
        refine lv_iadd hx hb dX3_lays_44 ?_
        refine lv_iload_n hx hb dX3_lays_45 rfl (lv_at hl 3 rfl) ?_
        refine lv_iadd hx hb dX3_lays_46 ?_
        obtain ⟨g2, hm⟩ := gdE hm
        refine tg_iald C hw (tp_0 ad dI dJ u) g2 dX3_lays_47 ?_
        refine lv_i2l hx hb dX3_lays_48 rfl ?_
        obtain ⟨g3, hm⟩ := gdE hm
        refine tg_last C hw (tp_18 ad dI dJ u) g3 (ts_18 ad dI dJ u _ _) dX3_lays_49 (fun H locs hw => ?_)
        obtain ⟨u4, eu4, hm⟩ := nmE hm
        rw [← eu4] at hw
        obtain ⟨v5, ev5, hm⟩ := nmE hm
        refine lv_iinc (v := v5) (lv' := [(3, .int v5), (0, .ref (ad 40)), (1, .int x1), (2, .int x2)]) hx hb dX3_lays_50 hl (k := 3) rfl (by rw [ev5]; rfl) (by decide) rfl (fun ls hl => ?_)
        refine lv_goto (tgt := 23) hx hb dX3_lays_53 (by decide) ?_
        exact ih23 u4 x1 x2 v5 _ _ _ hm hw (lv_sub hl [1, 2, 3, 0] rfl)
  have hB20 : ∀ (u : TS) (x1 : Int32) (y0 : Int32) (H : Heap) (locs : List Loc) (ls : Array Slot), m_X3_lays_20 f u x1 y0 = some u9 → TH D ad dI dJ A s.heap u H locs → lv_has ls 4 [(0, .ref (ad 40)), (1, .int x1)] → W p l e rm_X3_lays s m args below meth c H locs 0 0 QQ (F0 m 20 ls [.int y0]) := by
    intro u x1 y0 H locs ls hm hw hl
    rw [m_X3_lays_20] at hm
    refine lv_istore_n (lv' := [(2, .int y0), (0, .ref (ad 40)), (1, .int x1)]) hx hb dX3_lays_20 rfl hl (by decide) rfl (fun ls hl => ?_)
    refine lv_iconst (v := 0) hx hb dX3_lays_21 (by decide) ?_
    refine lv_istore_n (lv' := [(3, .int (0 : Int32)), (2, .int y0), (0, .ref (ad 40)), (1, .int x1)]) hx hb dX3_lays_22 rfl hl (by decide) rfl (fun ls hl => ?_)
    exact hB23 f u x1 y0 (0 : Int32) _ _ _ hm hw (lv_sub hl [2, 3, 1, 0] rfl)
  rw [m_X3_lays] at hm
  refine lv_aload_n hx hb dX3_lays_0 rfl (lv_at hl 0 rfl) ?_
  refine lv_iload_n hx hb dX3_lays_1 rfl (lv_at hl 1 rfl) ?_
  obtain ⟨r2, u1, er2, hm⟩ := bd2E hm
  refine tg_calli hw (va_runV (As := [.int x1]) (rest := []) ⟨hx, hb, hml, hown, hts⟩ (w_X3_isTurned l er2) (cw_X3_isTurned hts q1788 ⟨Nat.le_of_ble_eq_true rfl, Nat.le_of_ble_eq_true rfl⟩) (tg_pre C hw _) rfl rfl hl.1 rfl (lv_room (Nat.le_of_ble_eq_true rfl)) dX3_lays_2 ⟨Nat.le_of_ble_eq_true rfl, Nat.le_of_ble_eq_true rfl⟩) (fun H locs hw => ?_)
  refine lv_if_eq (tgt := 19) hx hb dX3_lays_5 (by decide) (fun c3 => ?_) (fun c3 => ?_)
  · have hm := ifT hm c3
    refine lv_iload_n hx hb dX3_lays_19 rfl (lv_at hl 1 rfl) ?_
    exact hB20 u1 x1 x1 _ _ _ hm hw (lv_sub hl [0, 1] rfl)
  · have hm := ifF hm c3
    refine lv_aload_n hx hb dX3_lays_8 rfl (lv_at hl 0 rfl) ?_
    refine tg_get C hw 0 (by decide) q1566 rfl dX3_lays_9 ?_
    refine lv_iconst (v := 3) hx hb dX3_lays_12 (by decide) ?_
    refine lv_iload_n hx hb dX3_lays_13 rfl (lv_at hl 1 rfl) ?_
    refine lv_iadd hx hb dX3_lays_14 ?_
    obtain ⟨g4, hm⟩ := gdE hm
    refine tg_iald C hw (tp_0 ad dI dJ u1) g4 dX3_lays_15 ?_
    refine lv_goto (tgt := 20) hx hb dX3_lays_16 (by decide) ?_
    exact hB20 u1 x1 (tA u1 0 (Int32.toNatClampNeg ((3 : Int32) + x1))) _ _ _ hm hw (lv_sub hl [0, 1] rfl)
def m_X3_row_16 (f : Nat) (u : TS) : Option (Int32 × TS) := some ((-1000 : Int32), u)
def m_X3_row (f : Nat) (u : TS) (x1 : Int32) (x2 : Int32) (x3 : Int32) : Option (Int32 × TS) := bd2 (m_X3_isLattice f u x1) fun r2 u1 =>
    if r2 = 0 then
    m_X3_row_16 f u1
    else bd (m_X3_isAt2 f x2 x3) fun r4 =>
    if ¬ r4 = 0 then
    bd (m_X3_lays f u1 x1) fun u6 =>
    gd (ix (((3 : Int32) * x2) + x3) 9) <|
    some ((Int64.toInt32 (tB u6 18 (Int32.toNatClampNeg (((3 : Int32) * x2) + x3)))), u6)
    else m_X3_row_16 f u1
abbrev rm_X3_row : Room := { frames := 5, cells := 0, slots := 0, locals := 124 }
theorem cw_X3_row {R : Room} {s : State} {args : Array Value} {own : String} {idx : Nat} (hts : ∀ w ∈ lw_all, w.before args s = true) (hl : Cond.methodLink own idx yX3_row ∈ lw_all) (hR : rm_X3_row.frames + 1 ≤ R.frames ∧ 8 + (4 + 11) + rm_X3_row.locals ≤ R.locals) : CallW R s args own RX3 idx yX3_row cX3_row 4 (Option.some Jvm.ClassFile.FieldType.int) (ws_ yX3_row cX3_row 4 (Option.some Jvm.ClassFile.FieldType.int)) rm_X3_row 0 0 3 := cwV 3 hts (lw_V hl q1793 q1794 q125 q1795) rfl rfl rfl (by decide +kernel) hR
set_option maxHeartbeats 4000000 in
set_option maxRecDepth 100000 in
theorem w_X3_row (l : Launch) {D : va_G} {ad : Nat → Nat} {dI dJ : ClassId} {A : Nat → Prop} {f : Nat} {u u9 : TS} {r0 : Int32} {x1 : Int32} {x2 : Int32} {x3 : Int32} (hm : m_X3_row f u x1 x2 x3 = some (r0, u9)) : Met l yX3_row (ws_ yX3_row cX3_row 4 (Option.some Jvm.ClassFile.FieldType.int)) rm_X3_row (va_Pc [.ref (ad 40), .int x1, .int x2, .int x3] (TPre D ad dI dJ A u)) (va_Qi (fun r u => r = r0 ∧ u = u9) (TPost D ad dI dJ A) A) 0 0 A := by
  refine Met.ofW (cc := cX3_row) (maxL := 4) (ret := (Option.some Jvm.ClassFile.FieldType.int)) (by decide) rfl ?_
  intro p e s m args below meth c s₁ B hml hv
  have hx := B.exec
  have hb := B.bytes
  have hr := B.returns
  have hts := atoms_spec (ws := (ws_ yX3_row cX3_row 4 (Option.some Jvm.ClassFile.FieldType.int))) B.pre
  have hts : ∀ w ∈ lw_all, w.before args s = true := fun w h => hts w (List.mem_cons_of_mem _ h)
  have hown : s.vm.findClass RX3 = some m.cls := findClass_of_methodNamed B.named
  have hlocks := B.notSynchronized
  obtain ⟨hav, hv⟩ := hv
  have C : TC p s m args c cX3_row D dI dJ := ⟨hx, hb, hown, hts, hv.2.1⟩
  have hw : TH D ad dI dJ A s.heap u s.heap [] := ⟨hv.1, hv.2.2.1, va_S.rf, hv.2.2.2⟩
  generalize hQ : MQ below (va_Qi (fun r u => r = r0 ∧ u = u9) (TPost D ad dI dJ A) A) args s 0 0 A = QQ
  have hent := lg_entry_eq m [.ref (ad 40), .int x1, .int x2, .int x3] 4
  rw [← hav] at hent
  rw [hent]
  have hl := lv_entry ([.ref (ad 40), .int x1, .int x2, .int x3]) (n := 4) (Nat.le_of_ble_eq_true rfl)
  generalize (lg_sl ([.ref (ad 40), .int x1, .int x2, .int x3]) ++ List.replicate (4 - (lg_sl ([.ref (ad 40), .int x1, .int x2, .int x3])).length) Slot.unset).toArray = ls at hl ⊢
  have hl : lv_has ls 4 [(0, .ref (ad 40)), (1, .int x1), (2, .int x2), (3, .int x3)] := hl
  change W p l e rm_X3_row s m args below meth c s.heap [] 0 0 QQ (F0 m 0 ls [])
  have hB16 : ∀ (u : TS) (H : Heap) (locs : List Loc) (ls : Array Slot), m_X3_row_16 f u = some (r0, u9) → TH D ad dI dJ A s.heap u H locs → lv_has ls 4 [] → W p l e rm_X3_row s m args below meth c H locs 0 0 QQ (F0 m 16 ls []) := by
    intro u H locs ls hm hw hl
    rw [m_X3_row_16] at hm
    refine lv_sipush (v := -1000) hx hb dX3_row_16 (by decide) ?_
    rw [← hQ]
    exact W.iret (v := (-1000 : Int32)) hx hb hr (fun t ht hW => ⟨⟨(-1000 : Int32), u, rfl, retE hm, by rw [ht]; exact hw.1, hw.2.1⟩, hw.2.2.1.F ht⟩) hw.2.2.1.2.2 dX3_row_19
  rw [m_X3_row] at hm
  refine lv_aload_n hx hb dX3_row_0 rfl (lv_at hl 0 rfl) ?_
  refine lv_iload_n hx hb dX3_row_1 rfl (lv_at hl 1 rfl) ?_
  obtain ⟨r2, u1, er2, hm⟩ := bd2E hm
  refine tg_calli hw (va_runV (As := [.int x1]) (rest := []) ⟨hx, hb, hml, hown, hts⟩ (w_X3_isLattice l er2) (cw_X3_isLattice hts q1796 ⟨Nat.le_of_ble_eq_true rfl, Nat.le_of_ble_eq_true rfl⟩) (tg_pre C hw _) rfl rfl hl.1 rfl (lv_room (Nat.le_of_ble_eq_true rfl)) dX3_row_2 ⟨Nat.le_of_ble_eq_true rfl, Nat.le_of_ble_eq_true rfl⟩) (fun H locs hw => ?_)
  refine lv_if_eq (tgt := 16) hx hb dX3_row_5 (by decide) (fun c3 => ?_) (fun c3 => ?_)
  · have hm := ifT hm c3
    exact hB16 u1 _ _ _ hm hw (lv_sub hl [] rfl)
  · have hm := ifF hm c3
    refine lv_iload_n hx hb dX3_row_8 rfl (lv_at hl 2 rfl) ?_
    refine lv_iload_n hx hb dX3_row_9 rfl (lv_at hl 3 rfl) ?_
    obtain ⟨r4, er4, hm⟩ := bdE hm
    refine sci (va_runS (As := [.int x2, .int x3]) (rest := []) ⟨hx, hb, hml, hown, hts⟩ (w_X3_isAt2 l er4) (cw_X3_isAt2 hts q1800 ⟨Nat.le_of_ble_eq_true rfl, Nat.le_of_ble_eq_true rfl⟩) (pre_s _) rfl rfl hl.1 rfl (lv_room (Nat.le_of_ble_eq_true rfl)) dX3_row_10 ⟨Nat.le_of_ble_eq_true rfl, Nat.le_of_ble_eq_true rfl⟩) ?_
    refine lv_if_ne (tgt := 20) hx hb dX3_row_13 (by decide) (fun c5 => ?_) (fun c5 => ?_)
    · have hm := ifT hm c5
      refine lv_aload_n hx hb dX3_row_20 rfl (lv_at hl 0 rfl) ?_
      refine lv_iload_n hx hb dX3_row_21 rfl (lv_at hl 1 rfl) ?_
      obtain ⟨u6, eu6, hm⟩ := bdE hm
      refine tg_callv hw (va_runV (As := [.int x1]) (rest := []) ⟨hx, hb, hml, hown, hts⟩ (w_X3_lays l eu6) (cw_X3_lays hts q1804 ⟨Nat.le_of_ble_eq_true rfl, Nat.le_of_ble_eq_true rfl⟩) (tg_pre C hw _) rfl rfl hl.1 rfl (lv_room (Nat.le_of_ble_eq_true rfl)) dX3_row_22 ⟨Nat.le_of_ble_eq_true rfl, Nat.le_of_ble_eq_true rfl⟩) (fun H locs hw => ?_)
      refine lv_aload_n hx hb dX3_row_25 rfl (lv_at hl 0 rfl) ?_
      refine tg_get C hw 18 (by decide) q1584 rfl dX3_row_26 ?_
      refine lv_iconst (v := 3) hx hb dX3_row_29 (by decide) ?_
      refine lv_iload_n hx hb dX3_row_30 rfl (lv_at hl 2 rfl) ?_
      refine lv_imul hx hb dX3_row_31 ?_
      refine lv_iload_n hx hb dX3_row_32 rfl (lv_at hl 3 rfl) ?_
      refine lv_iadd hx hb dX3_row_33 ?_
      obtain ⟨g7, hm⟩ := gdE hm
      refine tg_lald C hw (tp_18 ad dI dJ u6) g7 dX3_row_34 ?_
      refine lv_l2i hx hb dX3_row_35 rfl ?_
      rw [← hQ]
      exact W.iret (v := (Int64.toInt32 (tB u6 18 (Int32.toNatClampNeg (((3 : Int32) * x2) + x3))))) hx hb hr (fun t ht hW => ⟨⟨(Int64.toInt32 (tB u6 18 (Int32.toNatClampNeg (((3 : Int32) * x2) + x3)))), u6, rfl, retE hm, by rw [ht]; exact hw.1, hw.2.1⟩, hw.2.2.1.F ht⟩) hw.2.2.1.2.2 dX3_row_36
    · have hm := ifT' hm c5
      exact hB16 u1 _ _ _ hm hw (lv_sub hl [] rfl)
def m_X3_over (f : Nat) (u : TS) (x1 : Int32) : Option (Int32 × TS) := bd2 (m_X3_isLattice f u x1) fun r2 u1 =>
    if ¬ r2 = 0 then
    bd (m_X3_lays f u1 x1) fun u4 =>
    some ((Int64.toInt32 (tL u4 19)), u4)
    else some ((-2 : Int32), u1)
abbrev rm_X3_over : Room := { frames := 5, cells := 0, slots := 0, locals := 124 }
theorem cw_X3_over {R : Room} {s : State} {args : Array Value} {own : String} {idx : Nat} (hts : ∀ w ∈ lw_all, w.before args s = true) (hl : Cond.methodLink own idx yX3_over ∈ lw_all) (hR : rm_X3_over.frames + 1 ≤ R.frames ∧ 8 + (2 + 11) + rm_X3_over.locals ≤ R.locals) : CallW R s args own RX3 idx yX3_over cX3_over 2 (Option.some Jvm.ClassFile.FieldType.int) (ws_ yX3_over cX3_over 2 (Option.some Jvm.ClassFile.FieldType.int)) rm_X3_over 0 0 1 := cwV 1 hts (lw_V hl q1824 q1825 q125 q1826) rfl rfl rfl (by decide +kernel) hR
set_option maxHeartbeats 4000000 in
set_option maxRecDepth 100000 in
theorem w_X3_over (l : Launch) {D : va_G} {ad : Nat → Nat} {dI dJ : ClassId} {A : Nat → Prop} {f : Nat} {u u9 : TS} {r0 : Int32} {x1 : Int32} (hm : m_X3_over f u x1 = some (r0, u9)) : Met l yX3_over (ws_ yX3_over cX3_over 2 (Option.some Jvm.ClassFile.FieldType.int)) rm_X3_over (va_Pc [.ref (ad 40), .int x1] (TPre D ad dI dJ A u)) (va_Qi (fun r u => r = r0 ∧ u = u9) (TPost D ad dI dJ A) A) 0 0 A := by
  refine Met.ofW (cc := cX3_over) (maxL := 2) (ret := (Option.some Jvm.ClassFile.FieldType.int)) (by decide) rfl ?_
  intro p e s m args below meth c s₁ B hml hv
  have hx := B.exec
  have hb := B.bytes
  have hr := B.returns
  have hts := atoms_spec (ws := (ws_ yX3_over cX3_over 2 (Option.some Jvm.ClassFile.FieldType.int))) B.pre
  have hts : ∀ w ∈ lw_all, w.before args s = true := fun w h => hts w (List.mem_cons_of_mem _ h)
  have hown : s.vm.findClass RX3 = some m.cls := findClass_of_methodNamed B.named
  have hlocks := B.notSynchronized
  obtain ⟨hav, hv⟩ := hv
  have C : TC p s m args c cX3_over D dI dJ := ⟨hx, hb, hown, hts, hv.2.1⟩
  have hw : TH D ad dI dJ A s.heap u s.heap [] := ⟨hv.1, hv.2.2.1, va_S.rf, hv.2.2.2⟩
  generalize hQ : MQ below (va_Qi (fun r u => r = r0 ∧ u = u9) (TPost D ad dI dJ A) A) args s 0 0 A = QQ
  have hent := lg_entry_eq m [.ref (ad 40), .int x1] 2
  rw [← hav] at hent
  rw [hent]
  have hl := lv_entry ([.ref (ad 40), .int x1]) (n := 2) (Nat.le_of_ble_eq_true rfl)
  generalize (lg_sl ([.ref (ad 40), .int x1]) ++ List.replicate (2 - (lg_sl ([.ref (ad 40), .int x1])).length) Slot.unset).toArray = ls at hl ⊢
  have hl : lv_has ls 2 [(0, .ref (ad 40)), (1, .int x1)] := hl
  change W p l e rm_X3_over s m args below meth c s.heap [] 0 0 QQ (F0 m 0 ls [])
  rw [m_X3_over] at hm
  refine lv_aload_n hx hb dX3_over_0 rfl (lv_at hl 0 rfl) ?_
  refine lv_iload_n hx hb dX3_over_1 rfl (lv_at hl 1 rfl) ?_
  obtain ⟨r2, u1, er2, hm⟩ := bd2E hm
  refine tg_calli hw (va_runV (As := [.int x1]) (rest := []) ⟨hx, hb, hml, hown, hts⟩ (w_X3_isLattice l er2) (cw_X3_isLattice hts q1796 ⟨Nat.le_of_ble_eq_true rfl, Nat.le_of_ble_eq_true rfl⟩) (tg_pre C hw _) rfl rfl hl.1 rfl (lv_room (Nat.le_of_ble_eq_true rfl)) dX3_over_2 ⟨Nat.le_of_ble_eq_true rfl, Nat.le_of_ble_eq_true rfl⟩) (fun H locs hw => ?_)
  refine lv_if_ne (tgt := 11) hx hb dX3_over_5 (by decide) (fun c3 => ?_) (fun c3 => ?_)
  · have hm := ifT hm c3
    refine lv_aload_n hx hb dX3_over_11 rfl (lv_at hl 0 rfl) ?_
    refine lv_iload_n hx hb dX3_over_12 rfl (lv_at hl 1 rfl) ?_
    obtain ⟨u4, eu4, hm⟩ := bdE hm
    refine tg_callv hw (va_runV (As := [.int x1]) (rest := []) ⟨hx, hb, hml, hown, hts⟩ (w_X3_lays l eu4) (cw_X3_lays hts q1804 ⟨Nat.le_of_ble_eq_true rfl, Nat.le_of_ble_eq_true rfl⟩) (tg_pre C hw _) rfl rfl hl.1 rfl (lv_room (Nat.le_of_ble_eq_true rfl)) dX3_over_13 ⟨Nat.le_of_ble_eq_true rfl, Nat.le_of_ble_eq_true rfl⟩) (fun H locs hw => ?_)
    refine lv_aload_n hx hb dX3_over_16 rfl (lv_at hl 0 rfl) ?_
    refine tg_get C hw 19 (by decide) q1585 rfl dX3_over_17 ?_
    refine lv_l2i hx hb dX3_over_20 rfl ?_
    rw [← hQ]
    exact W.iret (v := (Int64.toInt32 (tL u4 19))) hx hb hr (fun t ht hW => ⟨⟨(Int64.toInt32 (tL u4 19)), u4, rfl, retE hm, by rw [ht]; exact hw.1, hw.2.1⟩, hw.2.2.1.F ht⟩) hw.2.2.1.2.2 dX3_over_21
  · have hm := ifT' hm c3
    refine lv_bipush (v := -2) hx hb dX3_over_8 (by decide) ?_
    rw [← hQ]
    exact W.iret (v := (-2 : Int32)) hx hb hr (fun t ht hW => ⟨⟨(-2 : Int32), u1, rfl, retE hm, by rw [ht]; exact hw.1, hw.2.1⟩, hw.2.2.1.F ht⟩) hw.2.2.1.2.2 dX3_over_10
