/-! walks of the twin (printed by gen/walk.py) -/
set_option maxRecDepth 100000
def m_X3_laysShort (f : Nat) (u : TS) (x1 : Int32) : Option TS := bd (m_X3_lays f u x1) fun u1 =>
    bd (m_X3_forms f u1) fun u2 =>
    bd (m_X3_shortens f u2) fun u3 =>
    some u3
abbrev rm_X3_laysShort : Room := { frames := 5, cells := 0, slots := 0, locals := 124 }
theorem cw_X3_laysShort {R : Room} {s : State} {args : Array Value} {own : String} {idx : Nat} (hts : ∀ w ∈ lw_all, w.before args s = true) (hl : Cond.methodLink own idx yX3_laysShort ∈ lw_all) (hR : rm_X3_laysShort.frames + 1 ≤ R.frames ∧ 8 + (2 + 11) + rm_X3_laysShort.locals ≤ R.locals) : CallW R s args own RX3 idx yX3_laysShort cX3_laysShort 2 (Option.none : Option Jvm.ClassFile.FieldType) (ws_ yX3_laysShort cX3_laysShort 2 (Option.none : Option Jvm.ClassFile.FieldType)) rm_X3_laysShort 0 0 1 := cwV 1 hts (lw_V hl q2045 qs101 q125 q2046) rfl rfl rfl (by decide +kernel) hR
set_option maxHeartbeats 4000000 in
set_option maxRecDepth 100000 in
theorem w_X3_laysShort (l : Launch) {D : va_G} {ad : Nat → Nat} {dI dJ : ClassId} {A : Nat → Prop} {f : Nat} {u u9 : TS} {x1 : Int32} (hm : m_X3_laysShort f u x1 = some u9) : Met l yX3_laysShort (ws_ yX3_laysShort cX3_laysShort 2 (Option.none : Option Jvm.ClassFile.FieldType)) rm_X3_laysShort (va_Pc [.ref (ad 40), .int x1] (TPre D ad dI dJ A u)) (va_Qv (fun u => u = u9) (TPost D ad dI dJ A) A) 0 0 A := by
  refine Met.ofW (cc := cX3_laysShort) (maxL := 2) (ret := (Option.none : Option Jvm.ClassFile.FieldType)) (by decide) rfl ?_
  intro p e s m args below meth c s₁ B hml hv
  have hx := B.exec
  have hb := B.bytes
  have hr := B.returns
  have hts := atoms_spec (ws := (ws_ yX3_laysShort cX3_laysShort 2 (Option.none : Option Jvm.ClassFile.FieldType))) B.pre
  have hts : ∀ w ∈ lw_all, w.before args s = true := fun w h => hts w (List.mem_cons_of_mem _ h)
  have hown : s.vm.findClass RX3 = some m.cls := findClass_of_methodNamed B.named
  have hlocks := B.notSynchronized
  obtain ⟨hav, hv⟩ := hv
  have C : TC p s m args c cX3_laysShort D dI dJ := ⟨hx, hb, hown, hts, hv.2.1⟩
  have hw : TH D ad dI dJ A s.heap u s.heap [] := ⟨hv.1, hv.2.2.1, va_S.rf, hv.2.2.2⟩
  generalize hQ : MQ below (va_Qv (fun u => u = u9) (TPost D ad dI dJ A) A) args s 0 0 A = QQ
  have hent := lg_entry_eq m [.ref (ad 40), .int x1] 2
  rw [← hav] at hent
  rw [hent]
  have hl := lv_entry ([.ref (ad 40), .int x1]) (n := 2) (Nat.le_of_ble_eq_true rfl)
  generalize (lg_sl ([.ref (ad 40), .int x1]) ++ List.replicate (2 - (lg_sl ([.ref (ad 40), .int x1])).length) Slot.unset).toArray = ls at hl ⊢
  have hl : lv_has ls 2 [(0, .ref (ad 40)), (1, .int x1)] := hl
  change W p l e rm_X3_laysShort s m args below meth c s.heap [] 0 0 QQ (F0 m 0 ls [])
  rw [m_X3_laysShort] at hm
  refine lv_aload_n hx hb dX3_laysShort_0 rfl (lv_at hl 0 rfl) ?_
  refine lv_iload_n hx hb dX3_laysShort_1 rfl (lv_at hl 1 rfl) ?_
  obtain ⟨u1, eu1, hm⟩ := bdE hm
  refine tg_callv hw (va_runV (As := [.int x1]) (rest := []) ⟨hx, hb, hml, hown, hts⟩ (w_X3_lays l eu1) (cw_X3_lays hts q1804 ⟨Nat.le_of_ble_eq_true rfl, Nat.le_of_ble_eq_true rfl⟩) (tg_pre C hw _) rfl rfl hl.1 rfl (lv_room (Nat.le_of_ble_eq_true rfl)) dX3_laysShort_2 ⟨Nat.le_of_ble_eq_true rfl, Nat.le_of_ble_eq_true rfl⟩) (fun H locs hw => ?_)
  refine lv_aload_n hx hb dX3_laysShort_5 rfl (lv_at hl 0 rfl) ?_
  obtain ⟨u2, eu2, hm⟩ := bdE hm
  refine tg_callv hw (va_runV (As := []) (rest := []) ⟨hx, hb, hml, hown, hts⟩ (w_X3_forms l eu2) (cw_X3_forms hts q1832 ⟨Nat.le_of_ble_eq_true rfl, Nat.le_of_ble_eq_true rfl⟩) (tg_pre C hw _) rfl rfl hl.1 rfl (lv_room (Nat.le_of_ble_eq_true rfl)) dX3_laysShort_6 ⟨Nat.le_of_ble_eq_true rfl, Nat.le_of_ble_eq_true rfl⟩) (fun H locs hw => ?_)
  refine lv_aload_n hx hb dX3_laysShort_9 rfl (lv_at hl 0 rfl) ?_
  obtain ⟨u3, eu3, hm⟩ := bdE hm
  refine tg_callv hw (va_runV (As := []) (rest := []) ⟨hx, hb, hml, hown, hts⟩ (w_X3_shortens l eu3) (cw_X3_shortens hts q2047 ⟨Nat.le_of_ble_eq_true rfl, Nat.le_of_ble_eq_true rfl⟩) (tg_pre C hw _) rfl rfl hl.1 rfl (lv_room (Nat.le_of_ble_eq_true rfl)) dX3_laysShort_10 ⟨Nat.le_of_ble_eq_true rfl, Nat.le_of_ble_eq_true rfl⟩) (fun H locs hw => ?_)
  rw [← hQ]
  exact W.vret hx hb hr (fun t ht hW => ⟨⟨u3, rfl, ret1 hm, by rw [ht]; exact hw.1, hw.2.1⟩, hw.2.2.1.F ht⟩) hw.2.2.1.2.2 dX3_laysShort_13
def m_X3_reduced_16 (f : Nat) (u : TS) : Option (Int32 × TS) := some ((-1000000 : Int32), u)
def m_X3_reduced (f : Nat) (u : TS) (x1 : Int32) (x2 : Int32) (x3 : Int32) : Option (Int32 × TS) := bd2 (m_X3_isLattice f u x1) fun r2 u1 =>
    if r2 = 0 then
    m_X3_reduced_16 f u1
    else bd (m_X3_isAt2 f x2 x3) fun r4 =>
    if ¬ r4 = 0 then
    bd (m_X3_laysShort f u1 x1) fun u6 =>
    gd (ix (((3 : Int32) * x2) + x3) 9) <|
    some ((Int64.toInt32 (tB u6 18 (Int32.toNatClampNeg (((3 : Int32) * x2) + x3)))), u6)
    else m_X3_reduced_16 f u1
abbrev rm_X3_reduced : Room := { frames := 6, cells := 0, slots := 0, locals := 145 }
theorem cw_X3_reduced {R : Room} {s : State} {args : Array Value} {own : String} {idx : Nat} (hts : ∀ w ∈ lw_all, w.before args s = true) (hl : Cond.methodLink own idx yX3_reduced ∈ lw_all) (hR : rm_X3_reduced.frames + 1 ≤ R.frames ∧ 8 + (4 + 11) + rm_X3_reduced.locals ≤ R.locals) : CallW R s args own RX3 idx yX3_reduced cX3_reduced 4 (Option.some Jvm.ClassFile.FieldType.int) (ws_ yX3_reduced cX3_reduced 4 (Option.some Jvm.ClassFile.FieldType.int)) rm_X3_reduced 0 0 3 := cwV 3 hts (lw_V hl q2040 q2041 q125 q2042) rfl rfl rfl (by decide +kernel) hR
set_option maxHeartbeats 4000000 in
set_option maxRecDepth 100000 in
theorem w_X3_reduced (l : Launch) {D : va_G} {ad : Nat → Nat} {dI dJ : ClassId} {A : Nat → Prop} {f : Nat} {u u9 : TS} {r0 : Int32} {x1 : Int32} {x2 : Int32} {x3 : Int32} (hm : m_X3_reduced f u x1 x2 x3 = some (r0, u9)) : Met l yX3_reduced (ws_ yX3_reduced cX3_reduced 4 (Option.some Jvm.ClassFile.FieldType.int)) rm_X3_reduced (va_Pc [.ref (ad 40), .int x1, .int x2, .int x3] (TPre D ad dI dJ A u)) (va_Qi (fun r u => r = r0 ∧ u = u9) (TPost D ad dI dJ A) A) 0 0 A := by
  refine Met.ofW (cc := cX3_reduced) (maxL := 4) (ret := (Option.some Jvm.ClassFile.FieldType.int)) (by decide) rfl ?_
  intro p e s m args below meth c s₁ B hml hv
  have hx := B.exec
  have hb := B.bytes
  have hr := B.returns
  have hts := atoms_spec (ws := (ws_ yX3_reduced cX3_reduced 4 (Option.some Jvm.ClassFile.FieldType.int))) B.pre
  have hts : ∀ w ∈ lw_all, w.before args s = true := fun w h => hts w (List.mem_cons_of_mem _ h)
  have hown : s.vm.findClass RX3 = some m.cls := findClass_of_methodNamed B.named
  have hlocks := B.notSynchronized
  obtain ⟨hav, hv⟩ := hv
  have C : TC p s m args c cX3_reduced D dI dJ := ⟨hx, hb, hown, hts, hv.2.1⟩
  have hw : TH D ad dI dJ A s.heap u s.heap [] := ⟨hv.1, hv.2.2.1, va_S.rf, hv.2.2.2⟩
  generalize hQ : MQ below (va_Qi (fun r u => r = r0 ∧ u = u9) (TPost D ad dI dJ A) A) args s 0 0 A = QQ
  have hent := lg_entry_eq m [.ref (ad 40), .int x1, .int x2, .int x3] 4
  rw [← hav] at hent
  rw [hent]
  have hl := lv_entry ([.ref (ad 40), .int x1, .int x2, .int x3]) (n := 4) (Nat.le_of_ble_eq_true rfl)
  generalize (lg_sl ([.ref (ad 40), .int x1, .int x2, .int x3]) ++ List.replicate (4 - (lg_sl ([.ref (ad 40), .int x1, .int x2, .int x3])).length) Slot.unset).toArray = ls at hl ⊢
  have hl : lv_has ls 4 [(0, .ref (ad 40)), (1, .int x1), (2, .int x2), (3, .int x3)] := hl
  change W p l e rm_X3_reduced s m args below meth c s.heap [] 0 0 QQ (F0 m 0 ls [])
  have hB16 : ∀ (u : TS) (H : Heap) (locs : List Loc) (ls : Array Slot), m_X3_reduced_16 f u = some (r0, u9) → TH D ad dI dJ A s.heap u H locs → lv_has ls 4 [] → W p l e rm_X3_reduced s m args below meth c H locs 0 0 QQ (F0 m 16 ls []) := by
    intro u H locs ls hm hw hl
    rw [m_X3_reduced_16] at hm
    refine lv_ldc hx hb hown (hts _ q1866) dX3_reduced_16 ?_
    rw [← hQ]
    exact W.iret (v := (-1000000 : Int32)) hx hb hr (fun t ht hW => ⟨⟨(-1000000 : Int32), u, rfl, retE hm, by rw [ht]; exact hw.1, hw.2.1⟩, hw.2.2.1.F ht⟩) hw.2.2.1.2.2 dX3_reduced_18
  rw [m_X3_reduced] at hm
  refine lv_aload_n hx hb dX3_reduced_0 rfl (lv_at hl 0 rfl) ?_
  refine lv_iload_n hx hb dX3_reduced_1 rfl (lv_at hl 1 rfl) ?_
  obtain ⟨r2, u1, er2, hm⟩ := bd2E hm
  refine tg_calli hw (va_runV (As := [.int x1]) (rest := []) ⟨hx, hb, hml, hown, hts⟩ (w_X3_isLattice l er2) (cw_X3_isLattice hts q1796 ⟨Nat.le_of_ble_eq_true rfl, Nat.le_of_ble_eq_true rfl⟩) (tg_pre C hw _) rfl rfl hl.1 rfl (lv_room (Nat.le_of_ble_eq_true rfl)) dX3_reduced_2 ⟨Nat.le_of_ble_eq_true rfl, Nat.le_of_ble_eq_true rfl⟩) (fun H locs hw => ?_)
  refine lv_if_eq (tgt := 16) hx hb dX3_reduced_5 (by decide) (fun c3 => ?_) (fun c3 => ?_)
  · have hm := ifT hm c3
    exact hB16 u1 _ _ _ hm hw (lv_sub hl [] rfl)
  · have hm := ifF hm c3
    refine lv_iload_n hx hb dX3_reduced_8 rfl (lv_at hl 2 rfl) ?_
    refine lv_iload_n hx hb dX3_reduced_9 rfl (lv_at hl 3 rfl) ?_
    obtain ⟨r4, er4, hm⟩ := bdE hm
    refine sci (va_runS (As := [.int x2, .int x3]) (rest := []) ⟨hx, hb, hml, hown, hts⟩ (w_X3_isAt2 l er4) (cw_X3_isAt2 hts q1800 ⟨Nat.le_of_ble_eq_true rfl, Nat.le_of_ble_eq_true rfl⟩) (pre_s _) rfl rfl hl.1 rfl (lv_room (Nat.le_of_ble_eq_true rfl)) dX3_reduced_10 ⟨Nat.le_of_ble_eq_true rfl, Nat.le_of_ble_eq_true rfl⟩) ?_
    refine lv_if_ne (tgt := 19) hx hb dX3_reduced_13 (by decide) (fun c5 => ?_) (fun c5 => ?_)
    · have hm := ifT hm c5
      refine lv_aload_n hx hb dX3_reduced_19 rfl (lv_at hl 0 rfl) ?_
      refine lv_iload_n hx hb dX3_reduced_20 rfl (lv_at hl 1 rfl) ?_
      obtain ⟨u6, eu6, hm⟩ := bdE hm
      refine tg_callv hw (va_runV (As := [.int x1]) (rest := []) ⟨hx, hb, hml, hown, hts⟩ (w_X3_laysShort l eu6) (cw_X3_laysShort hts q2043 ⟨Nat.le_of_ble_eq_true rfl, Nat.le_of_ble_eq_true rfl⟩) (tg_pre C hw _) rfl rfl hl.1 rfl (lv_room (Nat.le_of_ble_eq_true rfl)) dX3_reduced_21 ⟨Nat.le_of_ble_eq_true rfl, Nat.le_of_ble_eq_true rfl⟩) (fun H locs hw => ?_)
      refine lv_aload_n hx hb dX3_reduced_24 rfl (lv_at hl 0 rfl) ?_
      refine tg_get C hw 18 (by decide) q1584 rfl dX3_reduced_25 ?_
      refine lv_iconst (v := 3) hx hb dX3_reduced_28 (by decide) ?_
      refine lv_iload_n hx hb dX3_reduced_29 rfl (lv_at hl 2 rfl) ?_
      refine lv_imul hx hb dX3_reduced_30 ?_
      refine lv_iload_n hx hb dX3_reduced_31 rfl (lv_at hl 3 rfl) ?_
      refine lv_iadd hx hb dX3_reduced_32 ?_
      obtain ⟨g7, hm⟩ := gdE hm
      refine tg_lald C hw (tp_18 ad dI dJ u6) g7 dX3_reduced_33 ?_
      refine lv_l2i hx hb dX3_reduced_34 rfl ?_
      rw [← hQ]
      exact W.iret (v := (Int64.toInt32 (tB u6 18 (Int32.toNatClampNeg (((3 : Int32) * x2) + x3))))) hx hb hr (fun t ht hW => ⟨⟨(Int64.toInt32 (tB u6 18 (Int32.toNatClampNeg (((3 : Int32) * x2) + x3)))), u6, rfl, retE hm, by rw [ht]; exact hw.1, hw.2.1⟩, hw.2.2.1.F ht⟩) hw.2.2.1.2.2 dX3_reduced_35
    · have hm := ifT' hm c5
      exact hB16 u1 _ _ _ hm hw (lv_sub hl [] rfl)
def m_X3_bettered (f : Nat) (u : TS) (x1 : Int32) : Option (Int32 × TS) := bd2 (m_X3_isLattice f u x1) fun r2 u1 =>
    if ¬ r2 = 0 then
    bd (m_X3_laysShort f u1 x1) fun u4 =>
    some ((tI u4 35), u4)
    else some ((-2 : Int32), u1)
abbrev rm_X3_bettered : Room := { frames := 6, cells := 0, slots := 0, locals := 145 }
theorem cw_X3_bettered {R : Room} {s : State} {args : Array Value} {own : String} {idx : Nat} (hts : ∀ w ∈ lw_all, w.before args s = true) (hl : Cond.methodLink own idx yX3_bettered ∈ lw_all) (hR : rm_X3_bettered.frames + 1 ≤ R.frames ∧ 8 + (2 + 11) + rm_X3_bettered.locals ≤ R.locals) : CallW R s args own RX3 idx yX3_bettered cX3_bettered 2 (Option.some Jvm.ClassFile.FieldType.int) (ws_ yX3_bettered cX3_bettered 2 (Option.some Jvm.ClassFile.FieldType.int)) rm_X3_bettered 0 0 1 := cwV 1 hts (lw_V hl q2068 q2069 q125 q2070) rfl rfl rfl (by decide +kernel) hR
set_option maxHeartbeats 4000000 in
set_option maxRecDepth 100000 in
theorem w_X3_bettered (l : Launch) {D : va_G} {ad : Nat → Nat} {dI dJ : ClassId} {A : Nat → Prop} {f : Nat} {u u9 : TS} {r0 : Int32} {x1 : Int32} (hm : m_X3_bettered f u x1 = some (r0, u9)) : Met l yX3_bettered (ws_ yX3_bettered cX3_bettered 2 (Option.some Jvm.ClassFile.FieldType.int)) rm_X3_bettered (va_Pc [.ref (ad 40), .int x1] (TPre D ad dI dJ A u)) (va_Qi (fun r u => r = r0 ∧ u = u9) (TPost D ad dI dJ A) A) 0 0 A := by
  refine Met.ofW (cc := cX3_bettered) (maxL := 2) (ret := (Option.some Jvm.ClassFile.FieldType.int)) (by decide) rfl ?_
  intro p e s m args below meth c s₁ B hml hv
  have hx := B.exec
  have hb := B.bytes
  have hr := B.returns
  have hts := atoms_spec (ws := (ws_ yX3_bettered cX3_bettered 2 (Option.some Jvm.ClassFile.FieldType.int))) B.pre
  have hts : ∀ w ∈ lw_all, w.before args s = true := fun w h => hts w (List.mem_cons_of_mem _ h)
  have hown : s.vm.findClass RX3 = some m.cls := findClass_of_methodNamed B.named
  have hlocks := B.notSynchronized
  obtain ⟨hav, hv⟩ := hv
  have C : TC p s m args c cX3_bettered D dI dJ := ⟨hx, hb, hown, hts, hv.2.1⟩
  have hw : TH D ad dI dJ A s.heap u s.heap [] := ⟨hv.1, hv.2.2.1, va_S.rf, hv.2.2.2⟩
  generalize hQ : MQ below (va_Qi (fun r u => r = r0 ∧ u = u9) (TPost D ad dI dJ A) A) args s 0 0 A = QQ
  have hent := lg_entry_eq m [.ref (ad 40), .int x1] 2
  rw [← hav] at hent
  rw [hent]
  have hl := lv_entry ([.ref (ad 40), .int x1]) (n := 2) (Nat.le_of_ble_eq_true rfl)
  generalize (lg_sl ([.ref (ad 40), .int x1]) ++ List.replicate (2 - (lg_sl ([.ref (ad 40), .int x1])).length) Slot.unset).toArray = ls at hl ⊢
  have hl : lv_has ls 2 [(0, .ref (ad 40)), (1, .int x1)] := hl
  change W p l e rm_X3_bettered s m args below meth c s.heap [] 0 0 QQ (F0 m 0 ls [])
  rw [m_X3_bettered] at hm
  refine lv_aload_n hx hb dX3_bettered_0 rfl (lv_at hl 0 rfl) ?_
  refine lv_iload_n hx hb dX3_bettered_1 rfl (lv_at hl 1 rfl) ?_
  obtain ⟨r2, u1, er2, hm⟩ := bd2E hm
  refine tg_calli hw (va_runV (As := [.int x1]) (rest := []) ⟨hx, hb, hml, hown, hts⟩ (w_X3_isLattice l er2) (cw_X3_isLattice hts q1796 ⟨Nat.le_of_ble_eq_true rfl, Nat.le_of_ble_eq_true rfl⟩) (tg_pre C hw _) rfl rfl hl.1 rfl (lv_room (Nat.le_of_ble_eq_true rfl)) dX3_bettered_2 ⟨Nat.le_of_ble_eq_true rfl, Nat.le_of_ble_eq_true rfl⟩) (fun H locs hw => ?_)
  refine lv_if_ne (tgt := 11) hx hb dX3_bettered_5 (by decide) (fun c3 => ?_) (fun c3 => ?_)
  · have hm := ifT hm c3
    refine lv_aload_n hx hb dX3_bettered_11 rfl (lv_at hl 0 rfl) ?_
    refine lv_iload_n hx hb dX3_bettered_12 rfl (lv_at hl 1 rfl) ?_
    obtain ⟨u4, eu4, hm⟩ := bdE hm
    refine tg_callv hw (va_runV (As := [.int x1]) (rest := []) ⟨hx, hb, hml, hown, hts⟩ (w_X3_laysShort l eu4) (cw_X3_laysShort hts q2043 ⟨Nat.le_of_ble_eq_true rfl, Nat.le_of_ble_eq_true rfl⟩) (tg_pre C hw _) rfl rfl hl.1 rfl (lv_room (Nat.le_of_ble_eq_true rfl)) dX3_bettered_13 ⟨Nat.le_of_ble_eq_true rfl, Nat.le_of_ble_eq_true rfl⟩) (fun H locs hw => ?_)
    refine lv_aload_n hx hb dX3_bettered_16 rfl (lv_at hl 0 rfl) ?_
    refine tg_get C hw 35 (by decide) q1601 rfl dX3_bettered_17 ?_
    rw [← hQ]
    exact W.iret (v := (tI u4 35)) hx hb hr (fun t ht hW => ⟨⟨(tI u4 35), u4, rfl, retE hm, by rw [ht]; exact hw.1, hw.2.1⟩, hw.2.2.1.F ht⟩) hw.2.2.1.2.2 dX3_bettered_20
  · have hm := ifT' hm c3
    refine lv_bipush (v := -2) hx hb dX3_bettered_8 (by decide) ?_
    rw [← hQ]
    exact W.iret (v := (-2 : Int32)) hx hb hr (fun t ht hW => ⟨⟨(-2 : Int32), u1, rfl, retE hm, by rw [ht]; exact hw.1, hw.2.1⟩, hw.2.2.1.F ht⟩) hw.2.2.1.2.2 dX3_bettered_10
def m_X3_length_30 (f : Nat) (u : TS) : Option (Int64 × TS) := some ((-2 : Int64), u)
def m_X3_length (f : Nat) (u : TS) (x1 : Int32) (x2 : Int32) (x3 : Int32) : Option (Int64 × TS) := bd2 (m_X3_isLattice f u x1) fun r2 u1 =>
    if r2 = 0 then
    m_X3_length_30 f u1
    else bd (m_X3_in f (Int32.toInt64 x2) (0 : Int64) (2 : Int64)) fun r4 =>
    if r4 = 0 then
    m_X3_length_30 f u1
    else bd (m_X3_in f (Int32.toInt64 x3) (0 : Int64) (1 : Int64)) fun r6 =>
    if ¬ r6 = 0 then
    bd (m_X3_laysShort f u1 x1) fun u8 =>
    bd2 (m_X3_lengthOf f u8 x2) fun r10 u9 =>
    bd (m_X3_part f r10 ((tL u9 19) * (tL u9 19)) x3) fun r11 =>
    some (r11, u9)
    else m_X3_length_30 f u1
abbrev rm_X3_length : Room := { frames := 6, cells := 0, slots := 0, locals := 145 }
theorem cw_X3_length {R : Room} {s : State} {args : Array Value} {own : String} {idx : Nat} (hts : ∀ w ∈ lw_all, w.before args s = true) (hl : Cond.methodLink own idx yX3_length ∈ lw_all) (hR : rm_X3_length.frames + 1 ≤ R.frames ∧ 8 + (4 + 11) + rm_X3_length.locals ≤ R.locals) : CallW R s args own RX3 idx yX3_length cX3_length 4 (Option.some Jvm.ClassFile.FieldType.long) (ws_ yX3_length cX3_length 4 (Option.some Jvm.ClassFile.FieldType.long)) rm_X3_length 0 0 3 := cwV 3 hts (lw_V hl q2072 q2073 q125 q2074) rfl rfl rfl (by decide +kernel) hR
set_option maxHeartbeats 4000000 in
set_option maxRecDepth 100000 in
theorem w_X3_length (l : Launch) {D : va_G} {ad : Nat → Nat} {dI dJ : ClassId} {A : Nat → Prop} {f : Nat} {u u9 : TS} {r0 : Int64} {x1 : Int32} {x2 : Int32} {x3 : Int32} (hm : m_X3_length f u x1 x2 x3 = some (r0, u9)) : Met l yX3_length (ws_ yX3_length cX3_length 4 (Option.some Jvm.ClassFile.FieldType.long)) rm_X3_length (va_Pc [.ref (ad 40), .int x1, .int x2, .int x3] (TPre D ad dI dJ A u)) (va_Ql (fun r u => r = r0 ∧ u = u9) (TPost D ad dI dJ A) A) 0 0 A := by
  refine Met.ofW (cc := cX3_length) (maxL := 4) (ret := (Option.some Jvm.ClassFile.FieldType.long)) (by decide) rfl ?_
  intro p e s m args below meth c s₁ B hml hv
  have hx := B.exec
  have hb := B.bytes
  have hr := B.returns
  have hts := atoms_spec (ws := (ws_ yX3_length cX3_length 4 (Option.some Jvm.ClassFile.FieldType.long))) B.pre
  have hts : ∀ w ∈ lw_all, w.before args s = true := fun w h => hts w (List.mem_cons_of_mem _ h)
  have hown : s.vm.findClass RX3 = some m.cls := findClass_of_methodNamed B.named
  have hlocks := B.notSynchronized
  obtain ⟨hav, hv⟩ := hv
  have C : TC p s m args c cX3_length D dI dJ := ⟨hx, hb, hown, hts, hv.2.1⟩
  have hw : TH D ad dI dJ A s.heap u s.heap [] := ⟨hv.1, hv.2.2.1, va_S.rf, hv.2.2.2⟩
  generalize hQ : MQ below (va_Ql (fun r u => r = r0 ∧ u = u9) (TPost D ad dI dJ A) A) args s 0 0 A = QQ
  have hent := lg_entry_eq m [.ref (ad 40), .int x1, .int x2, .int x3] 4
  rw [← hav] at hent
  rw [hent]
  have hl := lv_entry ([.ref (ad 40), .int x1, .int x2, .int x3]) (n := 4) (Nat.le_of_ble_eq_true rfl)
  generalize (lg_sl ([.ref (ad 40), .int x1, .int x2, .int x3]) ++ List.replicate (4 - (lg_sl ([.ref (ad 40), .int x1, .int x2, .int x3])).length) Slot.unset).toArray = ls at hl ⊢
  have hl : lv_has ls 4 [(0, .ref (ad 40)), (1, .int x1), (2, .int x2), (3, .int x3)] := hl
  change W p l e rm_X3_length s m args below meth c s.heap [] 0 0 QQ (F0 m 0 ls [])
  have hB30 : ∀ (u : TS) (H : Heap) (locs : List Loc) (ls : Array Slot), m_X3_length_30 f u = some (r0, u9) → TH D ad dI dJ A s.heap u H locs → lv_has ls 4 [] → W p l e rm_X3_length s m args below meth c H locs 0 0 QQ (F0 m 30 ls []) := by
    intro u H locs ls hm hw hl
    rw [m_X3_length_30] at hm
    refine lv_ldc2 hx hb hown (hts _ q1871) dX3_length_30 ?_
    rw [← hQ]
    exact W.lret (v := (-2 : Int64)) hx hb hr (fun t ht hW => ⟨⟨(-2 : Int64), u, rfl, retE hm, by rw [ht]; exact hw.1, hw.2.1⟩, hw.2.2.1.F ht⟩) hw.2.2.1.2.2 dX3_length_33
  rw [m_X3_length] at hm
  refine lv_aload_n hx hb dX3_length_0 rfl (lv_at hl 0 rfl) ?_
  refine lv_iload_n hx hb dX3_length_1 rfl (lv_at hl 1 rfl) ?_
  obtain ⟨r2, u1, er2, hm⟩ := bd2E hm
  refine tg_calli hw (va_runV (As := [.int x1]) (rest := []) ⟨hx, hb, hml, hown, hts⟩ (w_X3_isLattice l er2) (cw_X3_isLattice hts q1796 ⟨Nat.le_of_ble_eq_true rfl, Nat.le_of_ble_eq_true rfl⟩) (tg_pre C hw _) rfl rfl hl.1 rfl (lv_room (Nat.le_of_ble_eq_true rfl)) dX3_length_2 ⟨Nat.le_of_ble_eq_true rfl, Nat.le_of_ble_eq_true rfl⟩) (fun H locs hw => ?_)
  refine lv_if_eq (tgt := 30) hx hb dX3_length_5 (by decide) (fun c3 => ?_) (fun c3 => ?_)
  · have hm := ifT hm c3
    exact hB30 u1 _ _ _ hm hw (lv_sub hl [] rfl)
  · have hm := ifF hm c3
    refine lv_iload_n hx hb dX3_length_8 rfl (lv_at hl 2 rfl) ?_
    refine lv_i2l hx hb dX3_length_9 rfl ?_
    refine lv_lconst (v := 0) hx hb dX3_length_10 (by decide) ?_
    refine lv_ldc2 hx hb hown (hts _ q1803) dX3_length_11 ?_
    obtain ⟨r4, er4, hm⟩ := bdE hm
    refine sci (va_runS (As := [.long (Int32.toInt64 x2), .long (0 : Int64), .long (2 : Int64)]) (rest := []) ⟨hx, hb, hml, hown, hts⟩ (w_X3_in l er4) (cw_X3_in hts q1695 ⟨Nat.le_of_ble_eq_true rfl, Nat.le_of_ble_eq_true rfl⟩) (pre_s _) rfl rfl hl.1 rfl (lv_room (Nat.le_of_ble_eq_true rfl)) dX3_length_14 ⟨Nat.le_of_ble_eq_true rfl, Nat.le_of_ble_eq_true rfl⟩) ?_
    refine lv_if_eq (tgt := 30) hx hb dX3_length_17 (by decide) (fun c5 => ?_) (fun c5 => ?_)
    · have hm := ifT hm c5
      exact hB30 u1 _ _ _ hm hw (lv_sub hl [] rfl)
    · have hm := ifF hm c5
      refine lv_iload_n hx hb dX3_length_20 rfl (lv_at hl 3 rfl) ?_
      refine lv_i2l hx hb dX3_length_21 rfl ?_
      refine lv_lconst (v := 0) hx hb dX3_length_22 (by decide) ?_
      refine lv_lconst (v := 1) hx hb dX3_length_23 (by decide) ?_
      obtain ⟨r6, er6, hm⟩ := bdE hm
      refine sci (va_runS (As := [.long (Int32.toInt64 x3), .long (0 : Int64), .long (1 : Int64)]) (rest := []) ⟨hx, hb, hml, hown, hts⟩ (w_X3_in l er6) (cw_X3_in hts q1695 ⟨Nat.le_of_ble_eq_true rfl, Nat.le_of_ble_eq_true rfl⟩) (pre_s _) rfl rfl hl.1 rfl (lv_room (Nat.le_of_ble_eq_true rfl)) dX3_length_24 ⟨Nat.le_of_ble_eq_true rfl, Nat.le_of_ble_eq_true rfl⟩) ?_
      refine lv_if_ne (tgt := 34) hx hb dX3_length_27 (by decide) (fun c7 => ?_) (fun c7 => ?_)
      · have hm := ifT hm c7
        refine lv_aload_n hx hb dX3_length_34 rfl (lv_at hl 0 rfl) ?_
        refine lv_iload_n hx hb dX3_length_35 rfl (lv_at hl 1 rfl) ?_
        obtain ⟨u8, eu8, hm⟩ := bdE hm
        refine tg_callv hw (va_runV (As := [.int x1]) (rest := []) ⟨hx, hb, hml, hown, hts⟩ (w_X3_laysShort l eu8) (cw_X3_laysShort hts q2043 ⟨Nat.le_of_ble_eq_true rfl, Nat.le_of_ble_eq_true rfl⟩) (tg_pre C hw _) rfl rfl hl.1 rfl (lv_room (Nat.le_of_ble_eq_true rfl)) dX3_length_36 ⟨Nat.le_of_ble_eq_true rfl, Nat.le_of_ble_eq_true rfl⟩) (fun H locs hw => ?_)
        refine lv_aload_n hx hb dX3_length_39 rfl (lv_at hl 0 rfl) ?_
        refine lv_iload_n hx hb dX3_length_40 rfl (lv_at hl 2 rfl) ?_
        obtain ⟨r10, u9, er10, hm⟩ := bd2E hm
        refine tg_calll hw (va_runV (As := [.int x2]) (rest := []) ⟨hx, hb, hml, hown, hts⟩ (w_X3_lengthOf l er10) (cw_X3_lengthOf hts q2059 ⟨Nat.le_of_ble_eq_true rfl, Nat.le_of_ble_eq_true rfl⟩) (tg_pre C hw _) rfl rfl hl.1 rfl (lv_room (Nat.le_of_ble_eq_true rfl)) dX3_length_41 ⟨Nat.le_of_ble_eq_true rfl, Nat.le_of_ble_eq_true rfl⟩) (fun H locs hw => ?_)
        refine lv_aload_n hx hb dX3_length_44 rfl (lv_at hl 0 rfl) ?_
        refine tg_get C hw 19 (by decide) q1585 rfl dX3_length_45 ?_
        refine lv_aload_n hx hb dX3_length_48 rfl (lv_at hl 0 rfl) ?_
        refine tg_get C hw 19 (by decide) q1585 rfl dX3_length_49 ?_
        refine lv_lmul hx hb dX3_length_52 ?_
        refine lv_iload_n hx hb dX3_length_53 rfl (lv_at hl 3 rfl) ?_
        obtain ⟨r11, er11, hm⟩ := bdE hm
        refine scl (va_runS (As := [.long r10, .long ((tL u9 19) * (tL u9 19)), .int x3]) (rest := []) ⟨hx, hb, hml, hown, hts⟩ (w_X3_part l er11) (cw_X3_part hts q1876 ⟨Nat.le_of_ble_eq_true rfl, Nat.le_of_ble_eq_true rfl⟩) (pre_s _) rfl rfl hl.1 rfl (lv_room (Nat.le_of_ble_eq_true rfl)) dX3_length_54 ⟨Nat.le_of_ble_eq_true rfl, Nat.le_of_ble_eq_true rfl⟩) ?_
        rw [← hQ]
        exact W.lret (v := r11) hx hb hr (fun t ht hW => ⟨⟨r11, u9, rfl, retE hm, by rw [ht]; exact hw.1, hw.2.1⟩, hw.2.2.1.F ht⟩) hw.2.2.1.2.2 dX3_length_57
      · have hm := ifT' hm c7
        exact hB30 u1 _ _ _ hm hw (lv_sub hl [] rfl)
def m_X3_sumLength_79 (f : Nat) (u : TS) (x2 : Int64) : Option (Int64 × TS) := some (x2, u)
def m_X3_sumLength_5 (f : Nat) : Nat → TS → Int32 → Int64 → Int32 → Option (Int64 × TS)
  | 0, _, _, _, _ => none
  | n5 + 1, u, x1, x2, x4 => if (3 : Int32) ≤ x4 then
    m_X3_sumLength_79 f u x2
    else gd (ix x4 9) <|
    gd (ix ((3 : Int32) + x4) 9) <|
    gd (ix ((6 : Int32) + x4) 9) <|
    nmv (((((Int32.toInt64 ((x1 / (9 : Int32)) - (1 : Int32))) * (tB u 18 (Int32.toNatClampNeg x4))) + ((Int32.toInt64 ((rmI (x1 / (3 : Int32)) (3 : Int32)) - (1 : Int32))) * (tB u 18 (Int32.toNatClampNeg ((3 : Int32) + x4))))) + ((Int32.toInt64 ((rmI x1 (3 : Int32)) - (1 : Int32))) * (tB u 18 (Int32.toNatClampNeg ((6 : Int32) + x4))))) : Int64) fun v5 =>
    nmv ((x2 + (v5 * v5)) : Int64) fun v6 =>
    nmv ((x4 + 1) : Int32) fun v7 =>
    m_X3_sumLength_5 f n5 u x1 v6 v7
def m_X3_sumLength (f : Nat) (u : TS) (x1 : Int32) : Option (Int64 × TS) := m_X3_sumLength_5 f f u x1 (0 : Int64) (0 : Int32)
abbrev rm_X3_sumLength : Room := { frames := 0, cells := 0, slots := 0, locals := 0 }
theorem cw_X3_sumLength {R : Room} {s : State} {args : Array Value} {own : String} {idx : Nat} (hts : ∀ w ∈ lw_all, w.before args s = true) (hl : Cond.methodLink own idx yX3_sumLength ∈ lw_all) (hR : rm_X3_sumLength.frames + 1 ≤ R.frames ∧ 8 + (7 + 11) + rm_X3_sumLength.locals ≤ R.locals) : CallW R s args own RX3 idx yX3_sumLength cX3_sumLength 7 (Option.some Jvm.ClassFile.FieldType.long) (ws_ yX3_sumLength cX3_sumLength 7 (Option.some Jvm.ClassFile.FieldType.long)) rm_X3_sumLength 0 0 1 := cwV 1 hts (lw_V hl q2085 qs108 q125 q2086) rfl rfl rfl (by decide +kernel) hR
set_option maxHeartbeats 4000000 in
set_option maxRecDepth 100000 in
theorem w_X3_sumLength (l : Launch) {D : va_G} {ad : Nat → Nat} {dI dJ : ClassId} {A : Nat → Prop} {f : Nat} {u u9 : TS} {r0 : Int64} {x1 : Int32} (hm : m_X3_sumLength f u x1 = some (r0, u9)) : Met l yX3_sumLength (ws_ yX3_sumLength cX3_sumLength 7 (Option.some Jvm.ClassFile.FieldType.long)) rm_X3_sumLength (va_Pc [.ref (ad 40), .int x1] (TPre D ad dI dJ A u)) (va_Ql (fun r u => r = r0 ∧ u = u9) (TPost D ad dI dJ A) A) 0 0 A := by
  refine Met.ofW (cc := cX3_sumLength) (maxL := 7) (ret := (Option.some Jvm.ClassFile.FieldType.long)) (by decide) rfl ?_
  intro p e s m args below meth c s₁ B hml hv
  have hx := B.exec
  have hb := B.bytes
  have hr := B.returns
  have hts := atoms_spec (ws := (ws_ yX3_sumLength cX3_sumLength 7 (Option.some Jvm.ClassFile.FieldType.long))) B.pre
  have hts : ∀ w ∈ lw_all, w.before args s = true := fun w h => hts w (List.mem_cons_of_mem _ h)
  have hown : s.vm.findClass RX3 = some m.cls := findClass_of_methodNamed B.named
  have hlocks := B.notSynchronized
  obtain ⟨hav, hv⟩ := hv
  have C : TC p s m args c cX3_sumLength D dI dJ := ⟨hx, hb, hown, hts, hv.2.1⟩
  have hw : TH D ad dI dJ A s.heap u s.heap [] := ⟨hv.1, hv.2.2.1, va_S.rf, hv.2.2.2⟩
  generalize hQ : MQ below (va_Ql (fun r u => r = r0 ∧ u = u9) (TPost D ad dI dJ A) A) args s 0 0 A = QQ
  have hent := lg_entry_eq m [.ref (ad 40), .int x1] 7
  rw [← hav] at hent
  rw [hent]
  have hl := lv_entry ([.ref (ad 40), .int x1]) (n := 7) (Nat.le_of_ble_eq_true rfl)
  generalize (lg_sl ([.ref (ad 40), .int x1]) ++ List.replicate (7 - (lg_sl ([.ref (ad 40), .int x1])).length) Slot.unset).toArray = ls at hl ⊢
  have hl : lv_has ls 7 [(0, .ref (ad 40)), (1, .int x1)] := hl
  change W p l e rm_X3_sumLength s m args below meth c s.heap [] 0 0 QQ (F0 m 0 ls [])
  have hB79 : ∀ (u : TS) (x2 : Int64) (H : Heap) (locs : List Loc) (ls : Array Slot), m_X3_sumLength_79 f u x2 = some (r0, u9) → TH D ad dI dJ A s.heap u H locs → lv_has ls 7 [(2, .long x2)] → W p l e rm_X3_sumLength s m args below meth c H locs 0 0 QQ (F0 m 79 ls []) := by
    intro u x2 H locs ls hm hw hl
    rw [m_X3_sumLength_79] at hm
    refine lv_lload_n hx hb dX3_sumLength_79 rfl (lv_at hl 0 rfl) ?_
    rw [← hQ]
    exact W.lret (v := x2) hx hb hr (fun t ht hW => ⟨⟨x2, u, rfl, retE hm, by rw [ht]; exact hw.1, hw.2.1⟩, hw.2.2.1.F ht⟩) hw.2.2.1.2.2 dX3_sumLength_80
  have hB5 : ∀ (n5 : Nat), ∀ (u : TS) (x1 : Int32) (x2 : Int64) (x4 : Int32) (H : Heap) (locs : List Loc) (ls : Array Slot), m_X3_sumLength_5 f n5 u x1 x2 x4 = some (r0, u9) → TH D ad dI dJ A s.heap u H locs → lv_has ls 7 [(0, .ref (ad 40)), (1, .int x1), (2, .long x2), (4, .int x4)] → W p l e rm_X3_sumLength s m args below meth c H locs 0 0 QQ (F0 m 5 ls []) := by
    intro n5
    induction n5 with
    | zero => intro u x1 x2 x4 H locs ls hm hw hl; rw [m_X3_sumLength_5] at hm; exact noE hm
    | succ n5 ih5 =>
      intro u x1 x2 x4 H locs ls hm hw hl
      rw [m_X3_sumLength_5] at hm
      refine lv_iload hx hb dX3_sumLength_5 (lv_at hl 3 rfl) ?_
      refine lv_iconst (v := 3) hx hb dX3_sumLength_7 (by decide) ?_
      refine lv_icmp_ge (tgt := 79) hx hb dX3_sumLength_8 (by decide) (fun c1 => ?_) (fun c1 => ?_)
      · have hm := ifT hm c1
        exact hB79 u x2 _ _ _ hm hw (lv_sub hl [2] rfl)
      · have hm := ifF hm c1
        refine lv_iload_n hx hb dX3_sumLength_11 rfl (lv_at hl 1 rfl) ?_
        refine lv_bipush (v := 9) hx hb dX3_sumLength_12 (by decide) ?_
        refine lv_idiv hx hb dX3_sumLength_14 (by decide) ?_
        refine lv_iconst (v := 1) hx hb dX3_sumLength_15 (by decide) ?_
        refine lv_isub hx hb dX3_sumLength_16 ?_
        refine lv_i2l hx hb dX3_sumLength_17 rfl ?_
        refine lv_aload_n hx hb dX3_sumLength_18 rfl (lv_at hl 0 rfl) ?_
        refine tg_get C hw 18 (by decide) q1584 rfl dX3_sumLength_19 ?_
        refine lv_iload hx hb dX3_sumLength_22 (lv_at hl 3 rfl) ?_
        obtain ⟨g2, hm⟩ := gdE hm
        refine tg_lald C hw (tp_18 ad dI dJ u) g2 dX3_sumLength_24 ?_
        refine lv_lmul hx hb dX3_sumLength_25 ?_
        refine lv_iload_n hx hb dX3_sumLength_26 rfl (lv_at hl 1 rfl) ?_
        refine lv_iconst (v := 3) hx hb dX3_sumLength_27 (by decide) ?_
        refine lv_idiv hx hb dX3_sumLength_28 (by decide) ?_
        refine lv_iconst (v := 3) hx hb dX3_sumLength_29 (by decide) ?_
        refine w_irem hx hb dX3_sumLength_30 (by decide) ?_
        refine lv_iconst (v := 1) hx hb dX3_sumLength_31 (by decide) ?_
        refine lv_isub hx hb dX3_sumLength_32 ?_
        refine lv_i2l hx hb dX3_sumLength_33 rfl ?_
        refine lv_aload_n hx hb dX3_sumLength_34 rfl (lv_at hl 0 rfl) ?_
        refine tg_get C hw 18 (by decide) q1584 rfl dX3_sumLength_35 ?_
        refine lv_iconst (v := 3) hx hb dX3_sumLength_38 (by decide) ?_
        refine lv_iload hx hb dX3_sumLength_39 (lv_at hl 3 rfl) ?_
        refine lv_iadd hx hb dX3_sumLength_41 ?_
        obtain ⟨g3, hm⟩ := gdE hm
        refine tg_lald C hw (tp_18 ad dI dJ u) g3 dX3_sumLength_42 ?_
        refine lv_lmul hx hb dX3_sumLength_43 ?_
        refine lv_ladd hx hb dX3_sumLength_44 ?_
        refine lv_iload_n hx hb dX3_sumLength_45 rfl (lv_at hl 1 rfl) ?_
        refine lv_iconst (v := 3) hx hb dX3_sumLength_46 (by decide) ?_
        refine w_irem hx hb dX3_sumLength_47 (by decide) ?_
        refine lv_iconst (v := 1) hx hb dX3_sumLength_48 (by decide) ?_
        refine lv_isub hx hb dX3_sumLength_49 ?_
        refine lv_i2l hx hb dX3_sumLength_50 rfl ?_
        refine lv_aload_n hx hb dX3_sumLength_51 rfl (lv_at hl 0 rfl) ?_
        refine tg_get C hw 18 (by decide) q1584 rfl dX3_sumLength_52 ?_
        refine lv_bipush (v := 6) hx hb dX3_sumLength_55 (by decide) ?_
        refine lv_iload hx hb dX3_sumLength_57 (lv_at hl 3 rfl) ?_
        refine lv_iadd hx hb dX3_sumLength_59 ?_
        obtain ⟨g4, hm⟩ := gdE hm
        refine tg_lald C hw (tp_18 ad dI dJ u) g4 dX3_sumLength_60 ?_
        refine lv_lmul hx hb dX3_sumLength_61 ?_
        refine lv_ladd hx hb dX3_sumLength_62 ?_
        refine lv_topl (fun v5 ev5 => ?_)
        have hm := nmK hm ev5
        refine lv_lstore (lv' := [(5, .long v5), (0, .ref (ad 40)), (1, .int x1), (2, .long x2), (4, .int x4)]) hx hb dX3_sumLength_63 hl (by decide) rfl (fun ls hl => ?_)
        refine lv_lload_n hx hb dX3_sumLength_65 rfl (lv_at hl 3 rfl) ?_
        refine lv_lload hx hb dX3_sumLength_66 (lv_at hl 0 rfl) ?_
        refine lv_lload hx hb dX3_sumLength_68 (lv_at hl 0 rfl) ?_
        refine lv_lmul hx hb dX3_sumLength_70 ?_
        refine lv_ladd hx hb dX3_sumLength_71 ?_
        refine lv_topl (fun v6 ev6 => ?_)
        have hm := nmK hm ev6
        refine lv_lstore_n (lv' := [(2, .long v6), (5, .long v5), (0, .ref (ad 40)), (1, .int x1), (4, .int x4)]) hx hb dX3_sumLength_72 rfl hl (by decide) rfl (fun ls hl => ?_)
        obtain ⟨v7, ev7, hm⟩ := nmE hm
        refine lv_iinc (v := v7) (lv' := [(4, .int v7), (2, .long v6), (5, .long v5), (0, .ref (ad 40)), (1, .int x1)]) hx hb dX3_sumLength_73 hl (k := 4) rfl (by rw [ev7]; rfl) (by decide) rfl (fun ls hl => ?_)
        refine lv_goto (tgt := 5) hx hb dX3_sumLength_76 (by decide) ?_
        exact ih5 u x1 v6 v7 _ _ _ hm hw (lv_sub hl [3, 4, 1, 0] rfl)
  rw [m_X3_sumLength] at hm
  refine lv_lconst (v := 0) hx hb dX3_sumLength_0 (by decide) ?_
  refine lv_lstore_n (lv' := [(2, .long (0 : Int64)), (0, .ref (ad 40)), (1, .int x1)]) hx hb dX3_sumLength_1 rfl hl (by decide) rfl (fun ls hl => ?_)
  refine lv_iconst (v := 0) hx hb dX3_sumLength_2 (by decide) ?_
  refine lv_istore (lv' := [(4, .int (0 : Int32)), (2, .long (0 : Int64)), (0, .ref (ad 40)), (1, .int x1)]) hx hb dX3_sumLength_3 hl (by decide) rfl (fun ls hl => ?_)
  exact hB5 f u x1 (0 : Int64) (0 : Int32) _ _ _ hm hw (lv_sub hl [2, 3, 1, 0] rfl)
def m_X3_leastLength_50 (f : Nat) (u : TS) (x1 : Int64) : Option (Int64 × TS) := some (x1, u)
def m_X3_leastLength_43 (f : Nat) (k4 : TS → Int64 → Int32 → Option (Int64 × TS)) (u : TS) (x3 : Int32) (y0 : Int64) : Option (Int64 × TS) := nmv ((x3 + 1) : Int32) fun v1 =>
    k4 u y0 v1
def m_X3_leastLength_42 (f : Nat) (k4 : TS → Int64 → Int32 → Option (Int64 × TS)) (u : TS) (x1 : Int64) (x3 : Int32) : Option (Int64 × TS) := m_X3_leastLength_43 f k4 u x3 x1
def m_X3_leastLength_37 (f : Nat) (k4 : TS → Int64 → Int32 → Option (Int64 × TS)) (u : TS) (x3 : Int32) (x4 : Int64) : Option (Int64 × TS) := m_X3_leastLength_43 f k4 u x3 x4
def m_X3_leastLength_4 (f : Nat) : Nat → TS → Int64 → Int32 → Option (Int64 × TS)
  | 0, _, _, _ => none
  | n4 + 1, u, x1, x3 => if (27 : Int32) ≤ x3 then
    m_X3_leastLength_50 f u x1
    else bd2 (m_X3_sumLength f u x3) fun r3 u2 =>
    if r3 ≤ (0 : Int64) then
    m_X3_leastLength_42 f (m_X3_leastLength_4 f n4) u2 x1 x3
    else if x1 = (0 : Int64) then
    m_X3_leastLength_37 f (m_X3_leastLength_4 f n4) u2 x3 r3
    else if x1 ≤ r3 then
    m_X3_leastLength_42 f (m_X3_leastLength_4 f n4) u2 x1 x3
    else m_X3_leastLength_37 f (m_X3_leastLength_4 f n4) u2 x3 r3
def m_X3_leastLength (f : Nat) (u : TS) : Option (Int64 × TS) := m_X3_leastLength_4 f f u (0 : Int64) (0 : Int32)
abbrev rm_X3_leastLength : Room := { frames := 1, cells := 0, slots := 0, locals := 26 }
theorem cw_X3_leastLength {R : Room} {s : State} {args : Array Value} {own : String} {idx : Nat} (hts : ∀ w ∈ lw_all, w.before args s = true) (hl : Cond.methodLink own idx yX3_leastLength ∈ lw_all) (hR : rm_X3_leastLength.frames + 1 ≤ R.frames ∧ 8 + (6 + 11) + rm_X3_leastLength.locals ≤ R.locals) : CallW R s args own RX3 idx yX3_leastLength cX3_leastLength 6 (Option.some Jvm.ClassFile.FieldType.long) (ws_ yX3_leastLength cX3_leastLength 6 (Option.some Jvm.ClassFile.FieldType.long)) rm_X3_leastLength 0 0 0 := cwV 0 hts (lw_V hl q2081 qs107 q125 q2082) rfl rfl rfl (by decide +kernel) hR
set_option maxHeartbeats 4000000 in
set_option maxRecDepth 100000 in
theorem w_X3_leastLength (l : Launch) {D : va_G} {ad : Nat → Nat} {dI dJ : ClassId} {A : Nat → Prop} {f : Nat} {u u9 : TS} {r0 : Int64}  (hm : m_X3_leastLength f u = some (r0, u9)) : Met l yX3_leastLength (ws_ yX3_leastLength cX3_leastLength 6 (Option.some Jvm.ClassFile.FieldType.long)) rm_X3_leastLength (va_Pc [.ref (ad 40)] (TPre D ad dI dJ A u)) (va_Ql (fun r u => r = r0 ∧ u = u9) (TPost D ad dI dJ A) A) 0 0 A := by
  refine Met.ofW (cc := cX3_leastLength) (maxL := 6) (ret := (Option.some Jvm.ClassFile.FieldType.long)) (by decide) rfl ?_
  intro p e s m args below meth c s₁ B hml hv
  have hx := B.exec
  have hb := B.bytes
  have hr := B.returns
  have hts := atoms_spec (ws := (ws_ yX3_leastLength cX3_leastLength 6 (Option.some Jvm.ClassFile.FieldType.long))) B.pre
  have hts : ∀ w ∈ lw_all, w.before args s = true := fun w h => hts w (List.mem_cons_of_mem _ h)
  have hown : s.vm.findClass RX3 = some m.cls := findClass_of_methodNamed B.named
  have hlocks := B.notSynchronized
  obtain ⟨hav, hv⟩ := hv
  have C : TC p s m args c cX3_leastLength D dI dJ := ⟨hx, hb, hown, hts, hv.2.1⟩
  have hw : TH D ad dI dJ A s.heap u s.heap [] := ⟨hv.1, hv.2.2.1, va_S.rf, hv.2.2.2⟩
  generalize hQ : MQ below (va_Ql (fun r u => r = r0 ∧ u = u9) (TPost D ad dI dJ A) A) args s 0 0 A = QQ
  have hent := lg_entry_eq m [.ref (ad 40)] 6
  rw [← hav] at hent
  rw [hent]
  have hl := lv_entry ([.ref (ad 40)]) (n := 6) (Nat.le_of_ble_eq_true rfl)
  generalize (lg_sl ([.ref (ad 40)]) ++ List.replicate (6 - (lg_sl ([.ref (ad 40)])).length) Slot.unset).toArray = ls at hl ⊢
  have hl : lv_has ls 6 [(0, .ref (ad 40))] := hl
  change W p l e rm_X3_leastLength s m args below meth c s.heap [] 0 0 QQ (F0 m 0 ls [])
  have hB50 : ∀ (u : TS) (x1 : Int64) (H : Heap) (locs : List Loc) (ls : Array Slot), m_X3_leastLength_50 f u x1 = some (r0, u9) → TH D ad dI dJ A s.heap u H locs → lv_has ls 6 [(1, .long x1)] → W p l e rm_X3_leastLength s m args below meth c H locs 0 0 QQ (F0 m 50 ls []) := by
    intro u x1 H locs ls hm hw hl
    rw [m_X3_leastLength_50] at hm
    refine lv_lload_n hx hb dX3_leastLength_50 rfl (lv_at hl 0 rfl) ?_
    rw [← hQ]
    exact W.lret (v := x1) hx hb hr (fun t ht hW => ⟨⟨x1, u, rfl, retE hm, by rw [ht]; exact hw.1, hw.2.1⟩, hw.2.2.1.F ht⟩) hw.2.2.1.2.2 dX3_leastLength_51
  have hB4 : ∀ (n4 : Nat), ∀ (u : TS) (x1 : Int64) (x3 : Int32) (H : Heap) (locs : List Loc) (ls : Array Slot), m_X3_leastLength_4 f n4 u x1 x3 = some (r0, u9) → TH D ad dI dJ A s.heap u H locs → lv_has ls 6 [(0, .ref (ad 40)), (1, .long x1), (3, .int x3)] → W p l e rm_X3_leastLength s m args below meth c H locs 0 0 QQ (F0 m 4 ls []) := by
    intro n4
    induction n4 with
    | zero => intro u x1 x3 H locs ls hm hw hl; rw [m_X3_leastLength_4] at hm; exact noE hm
    | succ n4 ih4 =>
      have hB43 : ∀ (u : TS) (x3 : Int32) (y0 : Int64) (H : Heap) (locs : List Loc) (ls : Array Slot), m_X3_leastLength_43 f (m_X3_leastLength_4 f n4) u x3 y0 = some (r0, u9) → TH D ad dI dJ A s.heap u H locs → lv_has ls 6 [(0, .ref (ad 40)), (3, .int x3)] → W p l e rm_X3_leastLength s m args below meth c H locs 0 0 QQ (F0 m 43 ls [.long y0]) := by
        intro u x3 y0 H locs ls hm hw hl
        rw [m_X3_leastLength_43] at hm
        refine lv_lstore_n (lv' := [(1, .long y0), (0, .ref (ad 40)), (3, .int x3)]) hx hb dX3_leastLength_43 rfl hl (by decide) rfl (fun ls hl => ?_)
        obtain ⟨v1, ev1, hm⟩ := nmE hm
        refine lv_iinc (v := v1) (lv' := [(3, .int v1), (1, .long y0), (0, .ref (ad 40))]) hx hb dX3_leastLength_44 hl (k := 2) rfl (by rw [ev1]; rfl) (by decide) rfl (fun ls hl => ?_)
        refine lv_goto (tgt := 4) hx hb dX3_leastLength_47 (by decide) ?_
        exact ih4 u y0 v1 _ _ _ hm hw (lv_sub hl [2, 1, 0] rfl)
      have hB42 : ∀ (u : TS) (x1 : Int64) (x3 : Int32) (H : Heap) (locs : List Loc) (ls : Array Slot), m_X3_leastLength_42 f (m_X3_leastLength_4 f n4) u x1 x3 = some (r0, u9) → TH D ad dI dJ A s.heap u H locs → lv_has ls 6 [(0, .ref (ad 40)), (1, .long x1), (3, .int x3)] → W p l e rm_X3_leastLength s m args below meth c H locs 0 0 QQ (F0 m 42 ls []) := by
        intro u x1 x3 H locs ls hm hw hl
        rw [m_X3_leastLength_42] at hm
        refine lv_lload_n hx hb dX3_leastLength_42 rfl (lv_at hl 1 rfl) ?_
        exact hB43 u x3 x1 _ _ _ hm hw (lv_sub hl [0, 2] rfl)
      have hB37 : ∀ (u : TS) (x3 : Int32) (x4 : Int64) (H : Heap) (locs : List Loc) (ls : Array Slot), m_X3_leastLength_37 f (m_X3_leastLength_4 f n4) u x3 x4 = some (r0, u9) → TH D ad dI dJ A s.heap u H locs → lv_has ls 6 [(0, .ref (ad 40)), (3, .int x3), (4, .long x4)] → W p l e rm_X3_leastLength s m args below meth c H locs 0 0 QQ (F0 m 37 ls []) := by
        intro u x3 x4 H locs ls hm hw hl
        rw [m_X3_leastLength_37] at hm
        refine lv_lload hx hb dX3_leastLength_37 (lv_at hl 2 rfl) ?_
        refine lv_goto (tgt := 43) hx hb dX3_leastLength_39 (by decide) ?_
        exact hB43 u x3 x4 _ _ _ hm hw (lv_sub hl [0, 1] rfl)
      intro u x1 x3 H locs ls hm hw hl
      rw [m_X3_leastLength_4] at hm
      refine lv_iload_n hx hb dX3_leastLength_4 rfl (lv_at hl 2 rfl) ?_
      refine lv_bipush (v := 27) hx hb dX3_leastLength_5 (by decide) ?_
      refine lv_icmp_ge (tgt := 50) hx hb dX3_leastLength_7 (by decide) (fun c1 => ?_) (fun c1 => ?_)
      · have hm := ifT hm c1
        exact hB50 u x1 _ _ _ hm hw (lv_sub hl [1] rfl)
      · have hm := ifF hm c1
        refine lv_aload_n hx hb dX3_leastLength_10 rfl (lv_at hl 0 rfl) ?_
        refine lv_iload_n hx hb dX3_leastLength_11 rfl (lv_at hl 2 rfl) ?_
        obtain ⟨r3, u2, er3, hm⟩ := bd2E hm
        refine tg_calll hw (va_runV (As := [.int x3]) (rest := []) ⟨hx, hb, hml, hown, hts⟩ (w_X3_sumLength l er3) (cw_X3_sumLength hts q2083 ⟨Nat.le_of_ble_eq_true rfl, Nat.le_of_ble_eq_true rfl⟩) (tg_pre C hw _) rfl rfl hl.1 rfl (lv_room (Nat.le_of_ble_eq_true rfl)) dX3_leastLength_12 ⟨Nat.le_of_ble_eq_true rfl, Nat.le_of_ble_eq_true rfl⟩) (fun H locs hw => ?_)
        refine lv_lstore (lv' := [(4, .long r3), (0, .ref (ad 40)), (1, .long x1), (3, .int x3)]) hx hb dX3_leastLength_15 hl (by decide) rfl (fun ls hl => ?_)
        refine lv_lload hx hb dX3_leastLength_17 (lv_at hl 0 rfl) ?_
        refine lv_lconst (v := 0) hx hb dX3_leastLength_19 (by decide) ?_
        refine lc_le (tgt := 42) hx hb dX3_leastLength_20 dX3_leastLength_21 (by decide) (fun c4 => ?_) (fun c4 => ?_)
        · have hm := ifT hm c4
          exact hB42 u2 x1 x3 _ _ _ hm hw (lv_sub hl [1, 2, 3] rfl)
        · have hm := ifF hm c4
          refine lv_lload_n hx hb dX3_leastLength_24 rfl (lv_at hl 2 rfl) ?_
          refine lv_lconst (v := 0) hx hb dX3_leastLength_25 (by decide) ?_
          refine lc_eq (tgt := 37) hx hb dX3_leastLength_26 dX3_leastLength_27 (by decide) (fun c5 => ?_) (fun c5 => ?_)
          · have hm := ifT hm c5
            exact hB37 u2 x3 r3 _ _ _ hm hw (lv_sub hl [1, 3, 0] rfl)
          · have hm := ifF hm c5
            refine lv_lload hx hb dX3_leastLength_30 (lv_at hl 0 rfl) ?_
            refine lv_lload_n hx hb dX3_leastLength_32 rfl (lv_at hl 2 rfl) ?_
            refine lc_ge (tgt := 42) hx hb dX3_leastLength_33 dX3_leastLength_34 (by decide) (fun c6 => ?_) (fun c6 => ?_)
            · have hm := ifT hm c6
              exact hB42 u2 x1 x3 _ _ _ hm hw (lv_sub hl [1, 2, 3] rfl)
            · have hm := ifF hm c6
              exact hB37 u2 x3 r3 _ _ _ hm hw (lv_sub hl [1, 3, 0] rfl)
  rw [m_X3_leastLength] at hm
  refine lv_lconst (v := 0) hx hb dX3_leastLength_0 (by decide) ?_
  refine lv_lstore_n (lv' := [(1, .long (0 : Int64)), (0, .ref (ad 40))]) hx hb dX3_leastLength_1 rfl hl (by decide) rfl (fun ls hl => ?_)
  refine lv_iconst (v := 0) hx hb dX3_leastLength_2 (by decide) ?_
  refine lv_istore_n (lv' := [(3, .int (0 : Int32)), (1, .long (0 : Int64)), (0, .ref (ad 40))]) hx hb dX3_leastLength_3 rfl hl (by decide) rfl (fun ls hl => ?_)
  exact hB4 f u (0 : Int64) (0 : Int32) _ _ _ hm hw (lv_sub hl [2, 1, 0] rfl)
def m_X3_kiss_61 (f : Nat) (u : TS) (x4 : Int32) : Option (Int32 × TS) := some (x4, u)
def m_X3_kiss_52 (f : Nat) (k27 : TS → Int64 → Int32 → Int32 → Option (Int32 × TS)) (u : TS) (x2 : Int64) (x5 : Int32) (y0 : Int32) (y1 : Int32) : Option (Int32 × TS) := nmv ((y0 + y1) : Int32) fun v1 =>
    nmv ((x5 + 1) : Int32) fun v2 =>
    k27 u x2 v1 v2
def m_X3_kiss_27 (f : Nat) : Nat → TS → Int64 → Int32 → Int32 → Option (Int32 × TS)
  | 0, _, _, _, _ => none
  | n27 + 1, u, x2, x4, x5 => if (27 : Int32) ≤ x5 then
    m_X3_kiss_61 f u x4
    else bd2 (m_X3_sumLength f u x5) fun r3 u2 =>
    if ¬ r3 = x2 then
    m_X3_kiss_52 f (m_X3_kiss_27 f n27) u2 x2 x5 x4 (0 : Int32)
    else m_X3_kiss_52 f (m_X3_kiss_27 f n27) u2 x2 x5 x4 (1 : Int32)
def m_X3_kiss (f : Nat) (u : TS) (x1 : Int32) : Option (Int32 × TS) := bd2 (m_X3_isLattice f u x1) fun r2 u1 =>
    if ¬ r2 = 0 then
    bd (m_X3_laysShort f u1 x1) fun u4 =>
    bd2 (m_X3_leastLength f u4) fun r6 u5 =>
    m_X3_kiss_27 f f u5 r6 (0 : Int32) (0 : Int32)
    else some ((-2 : Int32), u1)
abbrev rm_X3_kiss : Room := { frames := 6, cells := 0, slots := 0, locals := 145 }
theorem cw_X3_kiss {R : Room} {s : State} {args : Array Value} {own : String} {idx : Nat} (hts : ∀ w ∈ lw_all, w.before args s = true) (hl : Cond.methodLink own idx yX3_kiss ∈ lw_all) (hR : rm_X3_kiss.frames + 1 ≤ R.frames ∧ 8 + (6 + 11) + rm_X3_kiss.locals ≤ R.locals) : CallW R s args own RX3 idx yX3_kiss cX3_kiss 6 (Option.some Jvm.ClassFile.FieldType.int) (ws_ yX3_kiss cX3_kiss 6 (Option.some Jvm.ClassFile.FieldType.int)) rm_X3_kiss 0 0 1 := cwV 1 hts (lw_V hl q2076 q2077 q125 q2078) rfl rfl rfl (by decide +kernel) hR
set_option maxHeartbeats 4000000 in
set_option maxRecDepth 100000 in
theorem w_X3_kiss (l : Launch) {D : va_G} {ad : Nat → Nat} {dI dJ : ClassId} {A : Nat → Prop} {f : Nat} {u u9 : TS} {r0 : Int32} {x1 : Int32} (hm : m_X3_kiss f u x1 = some (r0, u9)) : Met l yX3_kiss (ws_ yX3_kiss cX3_kiss 6 (Option.some Jvm.ClassFile.FieldType.int)) rm_X3_kiss (va_Pc [.ref (ad 40), .int x1] (TPre D ad dI dJ A u)) (va_Qi (fun r u => r = r0 ∧ u = u9) (TPost D ad dI dJ A) A) 0 0 A := by
  refine Met.ofW (cc := cX3_kiss) (maxL := 6) (ret := (Option.some Jvm.ClassFile.FieldType.int)) (by decide) rfl ?_
  intro p e s m args below meth c s₁ B hml hv
  have hx := B.exec
  have hb := B.bytes
  have hr := B.returns
  have hts := atoms_spec (ws := (ws_ yX3_kiss cX3_kiss 6 (Option.some Jvm.ClassFile.FieldType.int))) B.pre
  have hts : ∀ w ∈ lw_all, w.before args s = true := fun w h => hts w (List.mem_cons_of_mem _ h)
  have hown : s.vm.findClass RX3 = some m.cls := findClass_of_methodNamed B.named
  have hlocks := B.notSynchronized
  obtain ⟨hav, hv⟩ := hv
  have C : TC p s m args c cX3_kiss D dI dJ := ⟨hx, hb, hown, hts, hv.2.1⟩
  have hw : TH D ad dI dJ A s.heap u s.heap [] := ⟨hv.1, hv.2.2.1, va_S.rf, hv.2.2.2⟩
  generalize hQ : MQ below (va_Qi (fun r u => r = r0 ∧ u = u9) (TPost D ad dI dJ A) A) args s 0 0 A = QQ
  have hent := lg_entry_eq m [.ref (ad 40), .int x1] 6
  rw [← hav] at hent
  rw [hent]
  have hl := lv_entry ([.ref (ad 40), .int x1]) (n := 6) (Nat.le_of_ble_eq_true rfl)
  generalize (lg_sl ([.ref (ad 40), .int x1]) ++ List.replicate (6 - (lg_sl ([.ref (ad 40), .int x1])).length) Slot.unset).toArray = ls at hl ⊢
  have hl : lv_has ls 6 [(0, .ref (ad 40)), (1, .int x1)] := hl
  change W p l e rm_X3_kiss s m args below meth c s.heap [] 0 0 QQ (F0 m 0 ls [])
  have hB61 : ∀ (u : TS) (x4 : Int32) (H : Heap) (locs : List Loc) (ls : Array Slot), m_X3_kiss_61 f u x4 = some (r0, u9) → TH D ad dI dJ A s.heap u H locs → lv_has ls 6 [(4, .int x4)] → W p l e rm_X3_kiss s m args below meth c H locs 0 0 QQ (F0 m 61 ls []) := by
    intro u x4 H locs ls hm hw hl
    rw [m_X3_kiss_61] at hm
    refine lv_iload hx hb dX3_kiss_61 (lv_at hl 0 rfl) ?_
    rw [← hQ]
    exact W.iret (v := x4) hx hb hr (fun t ht hW => ⟨⟨x4, u, rfl, retE hm, by rw [ht]; exact hw.1, hw.2.1⟩, hw.2.2.1.F ht⟩) hw.2.2.1.2.2 dX3_kiss_63
  have hB27 : ∀ (n27 : Nat), ∀ (u : TS) (x2 : Int64) (x4 : Int32) (x5 : Int32) (H : Heap) (locs : List Loc) (ls : Array Slot), m_X3_kiss_27 f n27 u x2 x4 x5 = some (r0, u9) → TH D ad dI dJ A s.heap u H locs → lv_has ls 6 [(0, .ref (ad 40)), (2, .long x2), (4, .int x4), (5, .int x5)] → W p l e rm_X3_kiss s m args below meth c H locs 0 0 QQ (F0 m 27 ls []) := by
    intro n27
    induction n27 with
    | zero => intro u x2 x4 x5 H locs ls hm hw hl; rw [m_X3_kiss_27] at hm; exact noE hm
    | succ n27 ih27 =>
      have hB52 : ∀ (u : TS) (x2 : Int64) (x5 : Int32) (y0 : Int32) (y1 : Int32) (H : Heap) (locs : List Loc) (ls : Array Slot), m_X3_kiss_52 f (m_X3_kiss_27 f n27) u x2 x5 y0 y1 = some (r0, u9) → TH D ad dI dJ A s.heap u H locs → lv_has ls 6 [(0, .ref (ad 40)), (2, .long x2), (5, .int x5)] → W p l e rm_X3_kiss s m args below meth c H locs 0 0 QQ (F0 m 52 ls [.int y1, .int y0]) := by
        intro u x2 x5 y0 y1 H locs ls hm hw hl
        rw [m_X3_kiss_52] at hm
        refine lv_iadd hx hb dX3_kiss_52 ?_
        refine lv_topi (fun v1 ev1 => ?_)
        have hm := nmK hm ev1
        refine lv_istore (lv' := [(4, .int v1), (0, .ref (ad 40)), (2, .long x2), (5, .int x5)]) hx hb dX3_kiss_53 hl (by decide) rfl (fun ls hl => ?_)
        obtain ⟨v2, ev2, hm⟩ := nmE hm
        refine lv_iinc (v := v2) (lv' := [(5, .int v2), (4, .int v1), (0, .ref (ad 40)), (2, .long x2)]) hx hb dX3_kiss_55 hl (k := 3) rfl (by rw [ev2]; rfl) (by decide) rfl (fun ls hl => ?_)
        refine lv_goto (tgt := 27) hx hb dX3_kiss_58 (by decide) ?_
        exact ih27 u x2 v1 v2 _ _ _ hm hw (lv_sub hl [2, 3, 1, 0] rfl)
      intro u x2 x4 x5 H locs ls hm hw hl
      rw [m_X3_kiss_27] at hm
      refine lv_iload hx hb dX3_kiss_27 (lv_at hl 3 rfl) ?_
      refine lv_bipush (v := 27) hx hb dX3_kiss_29 (by decide) ?_
      refine lv_icmp_ge (tgt := 61) hx hb dX3_kiss_31 (by decide) (fun c1 => ?_) (fun c1 => ?_)
      · have hm := ifT hm c1
        exact hB61 u x4 _ _ _ hm hw (lv_sub hl [2] rfl)
      · have hm := ifF hm c1
        refine lv_iload hx hb dX3_kiss_34 (lv_at hl 2 rfl) ?_
        refine lv_aload_n hx hb dX3_kiss_36 rfl (lv_at hl 0 rfl) ?_
        refine lv_iload hx hb dX3_kiss_37 (lv_at hl 3 rfl) ?_
        obtain ⟨r3, u2, er3, hm⟩ := bd2E hm
        refine tg_calll hw (va_runV (As := [.int x5]) (rest := [.int x4]) ⟨hx, hb, hml, hown, hts⟩ (w_X3_sumLength l er3) (cw_X3_sumLength hts q2083 ⟨Nat.le_of_ble_eq_true rfl, Nat.le_of_ble_eq_true rfl⟩) (tg_pre C hw _) rfl rfl hl.1 rfl (lv_room (Nat.le_of_ble_eq_true rfl)) dX3_kiss_39 ⟨Nat.le_of_ble_eq_true rfl, Nat.le_of_ble_eq_true rfl⟩) (fun H locs hw => ?_)
        refine lv_lload_n hx hb dX3_kiss_42 rfl (lv_at hl 1 rfl) ?_
        refine lc_ne (tgt := 51) hx hb dX3_kiss_43 dX3_kiss_44 (by decide) (fun c4 => ?_) (fun c4 => ?_)
        · have hm := ifT hm c4
          refine lv_iconst (v := 0) hx hb dX3_kiss_51 (by decide) ?_
          exact hB52 u2 x2 x5 x4 (0 : Int32) _ _ _ hm hw (lv_sub hl [0, 1, 3] rfl)
        · have hm := ifT' hm c4
          refine lv_iconst (v := 1) hx hb dX3_kiss_47 (by decide) ?_
          refine lv_goto (tgt := 52) hx hb dX3_kiss_48 (by decide) ?_
          exact hB52 u2 x2 x5 x4 (1 : Int32) _ _ _ hm hw (lv_sub hl [0, 1, 3] rfl)
  rw [m_X3_kiss] at hm
  refine lv_aload_n hx hb dX3_kiss_0 rfl (lv_at hl 0 rfl) ?_
  refine lv_iload_n hx hb dX3_kiss_1 rfl (lv_at hl 1 rfl) ?_
  obtain ⟨r2, u1, er2, hm⟩ := bd2E hm
  refine tg_calli hw (va_runV (As := [.int x1]) (rest := []) ⟨hx, hb, hml, hown, hts⟩ (w_X3_isLattice l er2) (cw_X3_isLattice hts q1796 ⟨Nat.le_of_ble_eq_true rfl, Nat.le_of_ble_eq_true rfl⟩) (tg_pre C hw _) rfl rfl hl.1 rfl (lv_room (Nat.le_of_ble_eq_true rfl)) dX3_kiss_2 ⟨Nat.le_of_ble_eq_true rfl, Nat.le_of_ble_eq_true rfl⟩) (fun H locs hw => ?_)
  refine lv_if_ne (tgt := 11) hx hb dX3_kiss_5 (by decide) (fun c3 => ?_) (fun c3 => ?_)
  · have hm := ifT hm c3
    refine lv_aload_n hx hb dX3_kiss_11 rfl (lv_at hl 0 rfl) ?_
    refine lv_iload_n hx hb dX3_kiss_12 rfl (lv_at hl 1 rfl) ?_
    obtain ⟨u4, eu4, hm⟩ := bdE hm
    refine tg_callv hw (va_runV (As := [.int x1]) (rest := []) ⟨hx, hb, hml, hown, hts⟩ (w_X3_laysShort l eu4) (cw_X3_laysShort hts q2043 ⟨Nat.le_of_ble_eq_true rfl, Nat.le_of_ble_eq_true rfl⟩) (tg_pre C hw _) rfl rfl hl.1 rfl (lv_room (Nat.le_of_ble_eq_true rfl)) dX3_kiss_13 ⟨Nat.le_of_ble_eq_true rfl, Nat.le_of_ble_eq_true rfl⟩) (fun H locs hw => ?_)
    refine lv_aload_n hx hb dX3_kiss_16 rfl (lv_at hl 0 rfl) ?_
    obtain ⟨r6, u5, er6, hm⟩ := bd2E hm
    refine tg_calll hw (va_runV (As := []) (rest := []) ⟨hx, hb, hml, hown, hts⟩ (w_X3_leastLength l er6) (cw_X3_leastLength hts q2079 ⟨Nat.le_of_ble_eq_true rfl, Nat.le_of_ble_eq_true rfl⟩) (tg_pre C hw _) rfl rfl hl.1 rfl (lv_room (Nat.le_of_ble_eq_true rfl)) dX3_kiss_17 ⟨Nat.le_of_ble_eq_true rfl, Nat.le_of_ble_eq_true rfl⟩) (fun H locs hw => ?_)
    refine lv_lstore_n (lv' := [(2, .long r6), (0, .ref (ad 40)), (1, .int x1)]) hx hb dX3_kiss_20 rfl hl (by decide) rfl (fun ls hl => ?_)
    refine lv_iconst (v := 0) hx hb dX3_kiss_21 (by decide) ?_
    refine lv_istore (lv' := [(4, .int (0 : Int32)), (2, .long r6), (0, .ref (ad 40)), (1, .int x1)]) hx hb dX3_kiss_22 hl (by decide) rfl (fun ls hl => ?_)
    refine lv_iconst (v := 0) hx hb dX3_kiss_24 (by decide) ?_
    refine lv_istore (lv' := [(5, .int (0 : Int32)), (4, .int (0 : Int32)), (2, .long r6), (0, .ref (ad 40)), (1, .int x1)]) hx hb dX3_kiss_25 hl (by decide) rfl (fun ls hl => ?_)
    exact hB27 f u5 r6 (0 : Int32) (0 : Int32) _ _ _ hm hw (lv_sub hl [3, 2, 1, 0] rfl)
  · have hm := ifT' hm c3
    refine lv_bipush (v := -2) hx hb dX3_kiss_8 (by decide) ?_
    rw [← hQ]
    exact W.iret (v := (-2 : Int32)) hx hb hr (fun t ht hW => ⟨⟨(-2 : Int32), u1, rfl, retE hm, by rw [ht]; exact hw.1, hw.2.1⟩, hw.2.2.1.F ht⟩) hw.2.2.1.2.2 dX3_kiss_10
def m_X3_meetLength_25 (f : Nat) (u : TS) : Option (Int64 × TS) := some ((-2 : Int64), u)
def m_X3_meetLength (f : Nat) (u : TS) (x1 : Int32) (x2 : Int32) (x3 : Int32) : Option (Int64 × TS) := bd2 (m_X3_whyNot f u x1 x2) fun r2 u1 =>
    if r2 = (-2 : Int32) then
    m_X3_meetLength_25 f u1
    else bd (m_X3_in f (Int32.toInt64 x3) (0 : Int64) (1 : Int64)) fun r4 =>
    if ¬ r4 = 0 then
    if 0 ≤ r2 then
    bd (m_X3_meets f u1 x1 x2) fun u7 =>
    bd (m_X3_shortens f u7) fun u8 =>
    bd2 (m_X3_leastLength f u8) fun r10 u9 =>
    bd (m_X3_part f r10 ((tL u9 19) * (tL u9 19)) x3) fun r11 =>
    some (r11, u9)
    else some ((Int32.toInt64 r2), u1)
    else m_X3_meetLength_25 f u1
abbrev rm_X3_meetLength : Room := { frames := 8, cells := 0, slots := 0, locals := 195 }
theorem cw_X3_meetLength {R : Room} {s : State} {args : Array Value} {own : String} {idx : Nat} (hts : ∀ w ∈ lw_all, w.before args s = true) (hl : Cond.methodLink own idx yX3_meetLength ∈ lw_all) (hR : rm_X3_meetLength.frames + 1 ≤ R.frames ∧ 8 + (5 + 11) + rm_X3_meetLength.locals ≤ R.locals) : CallW R s args own RX3 idx yX3_meetLength cX3_meetLength 5 (Option.some Jvm.ClassFile.FieldType.long) (ws_ yX3_meetLength cX3_meetLength 5 (Option.some Jvm.ClassFile.FieldType.long)) rm_X3_meetLength 0 0 3 := cwV 3 hts (lw_V hl q2088 q2089 q125 q2090) rfl rfl rfl (by decide +kernel) hR
set_option maxHeartbeats 4000000 in
set_option maxRecDepth 100000 in
theorem w_X3_meetLength (l : Launch) {D : va_G} {ad : Nat → Nat} {dI dJ : ClassId} {A : Nat → Prop} {f : Nat} {u u9 : TS} {r0 : Int64} {x1 : Int32} {x2 : Int32} {x3 : Int32} (hm : m_X3_meetLength f u x1 x2 x3 = some (r0, u9)) : Met l yX3_meetLength (ws_ yX3_meetLength cX3_meetLength 5 (Option.some Jvm.ClassFile.FieldType.long)) rm_X3_meetLength (va_Pc [.ref (ad 40), .int x1, .int x2, .int x3] (TPre D ad dI dJ A u)) (va_Ql (fun r u => r = r0 ∧ u = u9) (TPost D ad dI dJ A) A) 0 0 A := by
  refine Met.ofW (cc := cX3_meetLength) (maxL := 5) (ret := (Option.some Jvm.ClassFile.FieldType.long)) (by decide) rfl ?_
  intro p e s m args below meth c s₁ B hml hv
  have hx := B.exec
  have hb := B.bytes
  have hr := B.returns
  have hts := atoms_spec (ws := (ws_ yX3_meetLength cX3_meetLength 5 (Option.some Jvm.ClassFile.FieldType.long))) B.pre
  have hts : ∀ w ∈ lw_all, w.before args s = true := fun w h => hts w (List.mem_cons_of_mem _ h)
  have hown : s.vm.findClass RX3 = some m.cls := findClass_of_methodNamed B.named
  have hlocks := B.notSynchronized
  obtain ⟨hav, hv⟩ := hv
  have C : TC p s m args c cX3_meetLength D dI dJ := ⟨hx, hb, hown, hts, hv.2.1⟩
  have hw : TH D ad dI dJ A s.heap u s.heap [] := ⟨hv.1, hv.2.2.1, va_S.rf, hv.2.2.2⟩
  generalize hQ : MQ below (va_Ql (fun r u => r = r0 ∧ u = u9) (TPost D ad dI dJ A) A) args s 0 0 A = QQ
  have hent := lg_entry_eq m [.ref (ad 40), .int x1, .int x2, .int x3] 5
  rw [← hav] at hent
  rw [hent]
  have hl := lv_entry ([.ref (ad 40), .int x1, .int x2, .int x3]) (n := 5) (Nat.le_of_ble_eq_true rfl)
  generalize (lg_sl ([.ref (ad 40), .int x1, .int x2, .int x3]) ++ List.replicate (5 - (lg_sl ([.ref (ad 40), .int x1, .int x2, .int x3])).length) Slot.unset).toArray = ls at hl ⊢
  have hl : lv_has ls 5 [(0, .ref (ad 40)), (1, .int x1), (2, .int x2), (3, .int x3)] := hl
  change W p l e rm_X3_meetLength s m args below meth c s.heap [] 0 0 QQ (F0 m 0 ls [])
  have hB25 : ∀ (u : TS) (H : Heap) (locs : List Loc) (ls : Array Slot), m_X3_meetLength_25 f u = some (r0, u9) → TH D ad dI dJ A s.heap u H locs → lv_has ls 5 [] → W p l e rm_X3_meetLength s m args below meth c H locs 0 0 QQ (F0 m 25 ls []) := by
    intro u H locs ls hm hw hl
    rw [m_X3_meetLength_25] at hm
    refine lv_ldc2 hx hb hown (hts _ q1871) dX3_meetLength_25 ?_
    rw [← hQ]
    exact W.lret (v := (-2 : Int64)) hx hb hr (fun t ht hW => ⟨⟨(-2 : Int64), u, rfl, retE hm, by rw [ht]; exact hw.1, hw.2.1⟩, hw.2.2.1.F ht⟩) hw.2.2.1.2.2 dX3_meetLength_28
  rw [m_X3_meetLength] at hm
  refine lv_aload_n hx hb dX3_meetLength_0 rfl (lv_at hl 0 rfl) ?_
  refine lv_iload_n hx hb dX3_meetLength_1 rfl (lv_at hl 1 rfl) ?_
  refine lv_iload_n hx hb dX3_meetLength_2 rfl (lv_at hl 2 rfl) ?_
  obtain ⟨r2, u1, er2, hm⟩ := bd2E hm
  refine tg_calli hw (va_runV (As := [.int x1, .int x2]) (rest := []) ⟨hx, hb, hml, hown, hts⟩ (w_X3_whyNot l er2) (cw_X3_whyNot hts q1909 ⟨Nat.le_of_ble_eq_true rfl, Nat.le_of_ble_eq_true rfl⟩) (tg_pre C hw _) rfl rfl hl.1 rfl (lv_room (Nat.le_of_ble_eq_true rfl)) dX3_meetLength_3 ⟨Nat.le_of_ble_eq_true rfl, Nat.le_of_ble_eq_true rfl⟩) (fun H locs hw => ?_)
  refine lv_istore (lv' := [(4, .int r2), (0, .ref (ad 40)), (1, .int x1), (2, .int x2), (3, .int x3)]) hx hb dX3_meetLength_6 hl (by decide) rfl (fun ls hl => ?_)
  refine lv_iload hx hb dX3_meetLength_8 (lv_at hl 0 rfl) ?_
  refine lv_bipush (v := -2) hx hb dX3_meetLength_10 (by decide) ?_
  refine lv_icmp_eq (tgt := 25) hx hb dX3_meetLength_12 (by decide) (fun c3 => ?_) (fun c3 => ?_)
  · have hm := ifT hm c3
    exact hB25 u1 _ _ _ hm hw (lv_sub hl [] rfl)
  · have hm := ifF hm c3
    refine lv_iload_n hx hb dX3_meetLength_15 rfl (lv_at hl 4 rfl) ?_
    refine lv_i2l hx hb dX3_meetLength_16 rfl ?_
    refine lv_lconst (v := 0) hx hb dX3_meetLength_17 (by decide) ?_
    refine lv_lconst (v := 1) hx hb dX3_meetLength_18 (by decide) ?_
    obtain ⟨r4, er4, hm⟩ := bdE hm
    refine sci (va_runS (As := [.long (Int32.toInt64 x3), .long (0 : Int64), .long (1 : Int64)]) (rest := []) ⟨hx, hb, hml, hown, hts⟩ (w_X3_in l er4) (cw_X3_in hts q1695 ⟨Nat.le_of_ble_eq_true rfl, Nat.le_of_ble_eq_true rfl⟩) (pre_s _) rfl rfl hl.1 rfl (lv_room (Nat.le_of_ble_eq_true rfl)) dX3_meetLength_19 ⟨Nat.le_of_ble_eq_true rfl, Nat.le_of_ble_eq_true rfl⟩) ?_
    refine lv_if_ne (tgt := 29) hx hb dX3_meetLength_22 (by decide) (fun c5 => ?_) (fun c5 => ?_)
    · have hm := ifT hm c5
      refine lv_iload hx hb dX3_meetLength_29 (lv_at hl 0 rfl) ?_
      refine lv_if_ge (tgt := 38) hx hb dX3_meetLength_31 (by decide) (fun c6 => ?_) (fun c6 => ?_)
      · have hm := ifT hm c6
        refine lv_aload_n hx hb dX3_meetLength_38 rfl (lv_at hl 1 rfl) ?_
        refine lv_iload_n hx hb dX3_meetLength_39 rfl (lv_at hl 2 rfl) ?_
        refine lv_iload_n hx hb dX3_meetLength_40 rfl (lv_at hl 3 rfl) ?_
        obtain ⟨u7, eu7, hm⟩ := bdE hm
        refine tg_callv hw (va_runV (As := [.int x1, .int x2]) (rest := []) ⟨hx, hb, hml, hown, hts⟩ (w_X3_meets l eu7) (cw_X3_meets hts q1929 ⟨Nat.le_of_ble_eq_true rfl, Nat.le_of_ble_eq_true rfl⟩) (tg_pre C hw _) rfl rfl hl.1 rfl (lv_room (Nat.le_of_ble_eq_true rfl)) dX3_meetLength_41 ⟨Nat.le_of_ble_eq_true rfl, Nat.le_of_ble_eq_true rfl⟩) (fun H locs hw => ?_)
        refine lv_aload_n hx hb dX3_meetLength_44 rfl (lv_at hl 1 rfl) ?_
        obtain ⟨u8, eu8, hm⟩ := bdE hm
        refine tg_callv hw (va_runV (As := []) (rest := []) ⟨hx, hb, hml, hown, hts⟩ (w_X3_shortens l eu8) (cw_X3_shortens hts q2047 ⟨Nat.le_of_ble_eq_true rfl, Nat.le_of_ble_eq_true rfl⟩) (tg_pre C hw _) rfl rfl hl.1 rfl (lv_room (Nat.le_of_ble_eq_true rfl)) dX3_meetLength_45 ⟨Nat.le_of_ble_eq_true rfl, Nat.le_of_ble_eq_true rfl⟩) (fun H locs hw => ?_)
        refine lv_aload_n hx hb dX3_meetLength_48 rfl (lv_at hl 1 rfl) ?_
        obtain ⟨r10, u9, er10, hm⟩ := bd2E hm
        refine tg_calll hw (va_runV (As := []) (rest := []) ⟨hx, hb, hml, hown, hts⟩ (w_X3_leastLength l er10) (cw_X3_leastLength hts q2079 ⟨Nat.le_of_ble_eq_true rfl, Nat.le_of_ble_eq_true rfl⟩) (tg_pre C hw _) rfl rfl hl.1 rfl (lv_room (Nat.le_of_ble_eq_true rfl)) dX3_meetLength_49 ⟨Nat.le_of_ble_eq_true rfl, Nat.le_of_ble_eq_true rfl⟩) (fun H locs hw => ?_)
        refine lv_aload_n hx hb dX3_meetLength_52 rfl (lv_at hl 1 rfl) ?_
        refine tg_get C hw 19 (by decide) q1585 rfl dX3_meetLength_53 ?_
        refine lv_aload_n hx hb dX3_meetLength_56 rfl (lv_at hl 1 rfl) ?_
        refine tg_get C hw 19 (by decide) q1585 rfl dX3_meetLength_57 ?_
        refine lv_lmul hx hb dX3_meetLength_60 ?_
        refine lv_iload_n hx hb dX3_meetLength_61 rfl (lv_at hl 4 rfl) ?_
        obtain ⟨r11, er11, hm⟩ := bdE hm
        refine scl (va_runS (As := [.long r10, .long ((tL u9 19) * (tL u9 19)), .int x3]) (rest := []) ⟨hx, hb, hml, hown, hts⟩ (w_X3_part l er11) (cw_X3_part hts q1876 ⟨Nat.le_of_ble_eq_true rfl, Nat.le_of_ble_eq_true rfl⟩) (pre_s _) rfl rfl hl.1 rfl (lv_room (Nat.le_of_ble_eq_true rfl)) dX3_meetLength_62 ⟨Nat.le_of_ble_eq_true rfl, Nat.le_of_ble_eq_true rfl⟩) ?_
        rw [← hQ]
        exact W.lret (v := r11) hx hb hr (fun t ht hW => ⟨⟨r11, u9, rfl, retE hm, by rw [ht]; exact hw.1, hw.2.1⟩, hw.2.2.1.F ht⟩) hw.2.2.1.2.2 dX3_meetLength_65
      · have hm := ifF hm c6
        refine lv_iload hx hb dX3_meetLength_34 (lv_at hl 0 rfl) ?_
        refine lv_i2l hx hb dX3_meetLength_36 rfl ?_
        rw [← hQ]
        exact W.lret (v := (Int32.toInt64 r2)) hx hb hr (fun t ht hW => ⟨⟨(Int32.toInt64 r2), u1, rfl, retE hm, by rw [ht]; exact hw.1, hw.2.1⟩, hw.2.2.1.F ht⟩) hw.2.2.1.2.2 dX3_meetLength_37
    · have hm := ifT' hm c5
      exact hB25 u1 _ _ _ hm hw (lv_sub hl [] rfl)
def m_X3_isPlane_59 (f : Nat) (y0 : Int32) : Option Int32 := gd (zb y0) <|
    some y0
def m_X3_isPlane_58 (f : Nat)  : Option Int32 := m_X3_isPlane_59 f (0 : Int32)
def m_X3_isPlane_54 (f : Nat)  : Option Int32 := m_X3_isPlane_59 f (1 : Int32)
def m_X3_isPlane (f : Nat) (x0 : Int32) (x1 : Int32) (x2 : Int32) : Option Int32 := bd (m_X3_in f (Int32.toInt64 x0) (-9 : Int64) (9 : Int64)) fun r1 =>
    if r1 = 0 then
    m_X3_isPlane_58 f 
    else bd (m_X3_in f (Int32.toInt64 x1) (-9 : Int64) (9 : Int64)) fun r3 =>
    if r3 = 0 then
    m_X3_isPlane_58 f 
    else bd (m_X3_in f (Int32.toInt64 x2) (-9 : Int64) (9 : Int64)) fun r5 =>
    if r5 = 0 then
    m_X3_isPlane_58 f 
    else if ¬ x0 = 0 then
    m_X3_isPlane_54 f 
    else if ¬ x1 = 0 then
    m_X3_isPlane_54 f 
    else if x2 = 0 then
    m_X3_isPlane_58 f 
    else m_X3_isPlane_54 f 
abbrev rm_X3_isPlane : Room := { frames := 1, cells := 0, slots := 0, locals := 25 }
theorem cw_X3_isPlane {R : Room} {s : State} {args : Array Value} {own : String} {idx : Nat} (hts : ∀ w ∈ lw_all, w.before args s = true) (hl : Cond.methodLink own idx yX3_isPlane ∈ lw_all) (hR : rm_X3_isPlane.frames + 1 ≤ R.frames ∧ 8 + (3 + 11) + rm_X3_isPlane.locals ≤ R.locals) : CallB R s args own idx yX3_isPlane cX3_isPlane 3 (Option.some Jvm.ClassFile.FieldType.boolean) (ws_ yX3_isPlane cX3_isPlane 3 (Option.some Jvm.ClassFile.FieldType.boolean)) rm_X3_isPlane 0 0 3 ∧ (Cond.static yX3_isPlane).before args s = true := va_cwS 3 hts (lw_S hl q2096 q125 q2097) rfl rfl rfl (by decide +kernel) hR
set_option maxHeartbeats 4000000 in
set_option maxRecDepth 100000 in
theorem w_X3_isPlane (l : Launch) {f : Nat} {x0 : Int32} {x1 : Int32} {x2 : Int32} {r0 : Int32} (hm : m_X3_isPlane f x0 x1 x2 = some r0) : Met l yX3_isPlane (ws_ yX3_isPlane cX3_isPlane 3 (Option.some Jvm.ClassFile.FieldType.boolean)) rm_X3_isPlane (va_Pc [.int x0, .int x1, .int x2] (fun _ => True)) (vp_Si (fun r => r = r0)) 0 0 (fun _ => False) := by
  refine Met.ofW (cc := cX3_isPlane) (maxL := 3) (ret := (Option.some Jvm.ClassFile.FieldType.boolean)) (by decide) rfl ?_
  intro p e s m args below meth c s₁ B hml hv
  have hx := B.exec
  have hb := B.bytes
  have hr := B.returns
  have hts := atoms_spec (ws := (ws_ yX3_isPlane cX3_isPlane 3 (Option.some Jvm.ClassFile.FieldType.boolean))) B.pre
  have hts : ∀ w ∈ lw_all, w.before args s = true := fun w h => hts w (List.mem_cons_of_mem _ h)
  have hown : s.vm.findClass RX3 = some m.cls := findClass_of_methodNamed B.named
  have hlocks := B.notSynchronized
  obtain ⟨hav, hv⟩ := hv
  generalize hQ : MQ below (vp_Si (fun r => r = r0)) args s 0 0 (fun _ => False) = QQ
  have hent := lg_entry_eq m [.int x0, .int x1, .int x2] 3
  rw [← hav] at hent
  rw [hent]
  have hl := lv_entry ([.int x0, .int x1, .int x2]) (n := 3) (Nat.le_of_ble_eq_true rfl)
  generalize (lg_sl ([.int x0, .int x1, .int x2]) ++ List.replicate (3 - (lg_sl ([.int x0, .int x1, .int x2])).length) Slot.unset).toArray = ls at hl ⊢
  have hl : lv_has ls 3 [(0, .int x0), (1, .int x1), (2, .int x2)] := hl
  change W p l e rm_X3_isPlane s m args below meth c s.heap [] 0 0 QQ (F0 m 0 ls [])
  have hB59 : ∀ (y0 : Int32) (ls : Array Slot), m_X3_isPlane_59 f y0 = some r0 → lv_has ls 3 [] → W p l e rm_X3_isPlane s m args below meth c s.heap [] 0 0 QQ (F0 m 59 ls [.int y0]) := by
    intro y0 ls hm hl
    rw [m_X3_isPlane_59] at hm
    obtain ⟨g1, hm⟩ := gdE hm
    rw [← hQ]
    exact W.zret (v := y0) hx hb hr (zb_nar g1) (fun t ht hW => ⟨y0, rfl, ret1 hm, ht⟩) (fun q h => absurd h List.not_mem_nil) dX3_isPlane_59
  have hB58 : ∀  (ls : Array Slot), m_X3_isPlane_58 f  = some r0 → lv_has ls 3 [] → W p l e rm_X3_isPlane s m args below meth c s.heap [] 0 0 QQ (F0 m 58 ls []) := by
    intro ls hm hl
    rw [m_X3_isPlane_58] at hm
    refine lv_iconst (v := 0) hx hb dX3_isPlane_58 (by decide) ?_
    exact hB59 (0 : Int32) _ hm (lv_sub hl [] rfl)
  have hB54 : ∀  (ls : Array Slot), m_X3_isPlane_54 f  = some r0 → lv_has ls 3 [] → W p l e rm_X3_isPlane s m args below meth c s.heap [] 0 0 QQ (F0 m 54 ls []) := by
    intro ls hm hl
    rw [m_X3_isPlane_54] at hm
    refine lv_iconst (v := 1) hx hb dX3_isPlane_54 (by decide) ?_
    refine lv_goto (tgt := 59) hx hb dX3_isPlane_55 (by decide) ?_
    exact hB59 (1 : Int32) _ hm (lv_sub hl [] rfl)
  rw [m_X3_isPlane] at hm
  refine lv_iload_n hx hb dX3_isPlane_0 rfl (lv_at hl 0 rfl) ?_
  refine lv_i2l hx hb dX3_isPlane_1 rfl ?_
  refine lv_ldc2 hx hb hown (hts _ q2098) dX3_isPlane_2 ?_
  refine lv_ldc2 hx hb hown (hts _ q2099) dX3_isPlane_5 ?_
  obtain ⟨r1, er1, hm⟩ := bdE hm
  refine sci (va_runS (As := [.long (Int32.toInt64 x0), .long (-9 : Int64), .long (9 : Int64)]) (rest := []) ⟨hx, hb, hml, hown, hts⟩ (w_X3_in l er1) (cw_X3_in hts q1695 ⟨Nat.le_of_ble_eq_true rfl, Nat.le_of_ble_eq_true rfl⟩) (pre_s _) rfl rfl hl.1 rfl (lv_room (Nat.le_of_ble_eq_true rfl)) dX3_isPlane_8 ⟨Nat.le_of_ble_eq_true rfl, Nat.le_of_ble_eq_true rfl⟩) ?_
  refine lv_if_eq (tgt := 58) hx hb dX3_isPlane_11 (by decide) (fun c2 => ?_) (fun c2 => ?_)
  · have hm := ifT hm c2
    exact hB58  _ hm (lv_sub hl [] rfl)
  · have hm := ifF hm c2
    refine lv_iload_n hx hb dX3_isPlane_14 rfl (lv_at hl 1 rfl) ?_
    refine lv_i2l hx hb dX3_isPlane_15 rfl ?_
    refine lv_ldc2 hx hb hown (hts _ q2098) dX3_isPlane_16 ?_
    refine lv_ldc2 hx hb hown (hts _ q2099) dX3_isPlane_19 ?_
    obtain ⟨r3, er3, hm⟩ := bdE hm
    refine sci (va_runS (As := [.long (Int32.toInt64 x1), .long (-9 : Int64), .long (9 : Int64)]) (rest := []) ⟨hx, hb, hml, hown, hts⟩ (w_X3_in l er3) (cw_X3_in hts q1695 ⟨Nat.le_of_ble_eq_true rfl, Nat.le_of_ble_eq_true rfl⟩) (pre_s _) rfl rfl hl.1 rfl (lv_room (Nat.le_of_ble_eq_true rfl)) dX3_isPlane_22 ⟨Nat.le_of_ble_eq_true rfl, Nat.le_of_ble_eq_true rfl⟩) ?_
    refine lv_if_eq (tgt := 58) hx hb dX3_isPlane_25 (by decide) (fun c4 => ?_) (fun c4 => ?_)
    · have hm := ifT hm c4
      exact hB58  _ hm (lv_sub hl [] rfl)
    · have hm := ifF hm c4
      refine lv_iload_n hx hb dX3_isPlane_28 rfl (lv_at hl 2 rfl) ?_
      refine lv_i2l hx hb dX3_isPlane_29 rfl ?_
      refine lv_ldc2 hx hb hown (hts _ q2098) dX3_isPlane_30 ?_
      refine lv_ldc2 hx hb hown (hts _ q2099) dX3_isPlane_33 ?_
      obtain ⟨r5, er5, hm⟩ := bdE hm
      refine sci (va_runS (As := [.long (Int32.toInt64 x2), .long (-9 : Int64), .long (9 : Int64)]) (rest := []) ⟨hx, hb, hml, hown, hts⟩ (w_X3_in l er5) (cw_X3_in hts q1695 ⟨Nat.le_of_ble_eq_true rfl, Nat.le_of_ble_eq_true rfl⟩) (pre_s _) rfl rfl hl.1 rfl (lv_room (Nat.le_of_ble_eq_true rfl)) dX3_isPlane_36 ⟨Nat.le_of_ble_eq_true rfl, Nat.le_of_ble_eq_true rfl⟩) ?_
      refine lv_if_eq (tgt := 58) hx hb dX3_isPlane_39 (by decide) (fun c6 => ?_) (fun c6 => ?_)
      · have hm := ifT hm c6
        exact hB58  _ hm (lv_sub hl [] rfl)
      · have hm := ifF hm c6
        refine lv_iload_n hx hb dX3_isPlane_42 rfl (lv_at hl 0 rfl) ?_
        refine lv_if_ne (tgt := 54) hx hb dX3_isPlane_43 (by decide) (fun c7 => ?_) (fun c7 => ?_)
        · have hm := ifT hm c7
          exact hB54  _ hm (lv_sub hl [] rfl)
        · have hm := ifT' hm c7
          refine lv_iload_n hx hb dX3_isPlane_46 rfl (lv_at hl 1 rfl) ?_
          refine lv_if_ne (tgt := 54) hx hb dX3_isPlane_47 (by decide) (fun c8 => ?_) (fun c8 => ?_)
          · have hm := ifT hm c8
            exact hB54  _ hm (lv_sub hl [] rfl)
          · have hm := ifT' hm c8
            refine lv_iload_n hx hb dX3_isPlane_50 rfl (lv_at hl 2 rfl) ?_
            refine lv_if_eq (tgt := 58) hx hb dX3_isPlane_51 (by decide) (fun c9 => ?_) (fun c9 => ?_)
            · have hm := ifT hm c9
              exact hB58  _ hm (lv_sub hl [] rfl)
            · have hm := ifF hm c9
              exact hB54  _ hm (lv_sub hl [] rfl)
def m_X3_crosses_394 (f : Nat) (u : TS) : Option TS := some u
def m_X3_crosses_316 (f : Nat) : Nat → TS → Int32 → Int32 → Int32 → Option TS
  | 0, _, _, _, _ => none
  | n316 + 1, u, x6, x7, x8 => if (3 : Int32) ≤ x8 then
    m_X3_crosses_394 f u
    else gd (ix (x6 + (rmI (x8 + (1 : Int32)) (3 : Int32))) 9) <|
    gd (ix (x7 + (rmI (x8 + (2 : Int32)) (3 : Int32))) 9) <|
    gd (ix (x6 + (rmI (x8 + (2 : Int32)) (3 : Int32))) 9) <|
    gd (ix (x7 + (rmI (x8 + (1 : Int32)) (3 : Int32))) 9) <|
    gd (ix x8 3) <|
    nmv (sB u 38 (Int32.toNatClampNeg x8) (((tB u 18 (Int32.toNatClampNeg (x6 + (rmI (x8 + (1 : Int32)) (3 : Int32))))) * (tB u 18 (Int32.toNatClampNeg (x7 + (rmI (x8 + (2 : Int32)) (3 : Int32)))))) - ((tB u 18 (Int32.toNatClampNeg (x6 + (rmI (x8 + (2 : Int32)) (3 : Int32))))) * (tB u 18 (Int32.toNatClampNeg (x7 + (rmI (x8 + (1 : Int32)) (3 : Int32)))))))) fun u7 =>
    nmv ((x8 + 1) : Int32) fun v8 =>
    m_X3_crosses_316 f n316 u7 x6 x7 v8
def m_X3_crosses_293 (f : Nat) (u : TS) (x5 : Int32) : Option TS := nmv (((3 : Int32) * (rmI (x5 + (1 : Int32)) (3 : Int32))) : Int32) fun v1 =>
    nmv (((3 : Int32) * (rmI (x5 + (2 : Int32)) (3 : Int32))) : Int32) fun v2 =>
    m_X3_crosses_316 f f u v1 v2 (0 : Int32)
def m_X3_crosses_290 (f : Nat) (k70 : TS → Int32 → Int32 → Option TS) (u : TS) (x4 : Int32) (x5 : Int32) : Option TS := k70 u x4 x5
def m_X3_crosses_284 (f : Nat) (k70 : TS → Int32 → Int32 → Option TS) (k150 : TS → Int32 → Int32 → Int32 → Option TS) (u : TS) (x4 : Int32) (x5 : Int32) (x6 : Int32) : Option TS := nmv ((x6 + 1) : Int32) fun v1 =>
    k150 u x4 x5 v1
def m_X3_crosses_282 (f : Nat) (k70 : TS → Int32 → Int32 → Option TS) (k150 : TS → Int32 → Int32 → Int32 → Option TS) (u : TS) (x5 : Int32) (x6 : Int32) (y0 : Int32) : Option TS := m_X3_crosses_284 f k70 k150 u y0 x5 x6
def m_X3_crosses_277 (f : Nat) (k70 : TS → Int32 → Int32 → Option TS) (k150 : TS → Int32 → Int32 → Int32 → Option TS) (u : TS) (x5 : Int32) (x6 : Int32) : Option TS := m_X3_crosses_282 f k70 k150 u x5 x6 (1 : Int32)
def m_X3_crosses_260 (f : Nat) (k70 : TS → Int32 → Int32 → Option TS) (k150 : TS → Int32 → Int32 → Int32 → Option TS) (u : TS) (x4 : Int32) (x5 : Int32) (x6 : Int32) : Option TS := if ¬ x4 = 0 then
    m_X3_crosses_277 f k70 k150 u x5 x6
    else gd (ix x6 3) <|
    if (tB u 39 (Int32.toNatClampNeg x6)) = (0 : Int64) then
    m_X3_crosses_282 f k70 k150 u x5 x6 (0 : Int32)
    else m_X3_crosses_277 f k70 k150 u x5 x6
def m_X3_crosses_218 (f : Nat) (k70 : TS → Int32 → Int32 → Option TS) (k150 : TS → Int32 → Int32 → Int32 → Option TS) : Nat → TS → Int32 → Int32 → Int32 → Int64 → Int32 → Option TS
  | 0, _, _, _, _, _, _ => none
  | n218 + 1, u, x4, x5, x6, x7, x9 => if (3 : Int32) ≤ x9 then
    m_X3_crosses_260 f k70 k150 u x4 x5 x6
    else gd (ix (((3 : Int32) * x6) + x9) 9) <|
    gd (ix (((3 : Int32) * x5) + x9) 9) <|
    gd (ix (((3 : Int32) * x6) + x9) 9) <|
    nmv (sB u 18 (Int32.toNatClampNeg (((3 : Int32) * x6) + x9)) ((tB u 18 (Int32.toNatClampNeg (((3 : Int32) * x6) + x9))) - (x7 * (tB u 18 (Int32.toNatClampNeg (((3 : Int32) * x5) + x9)))))) fun u5 =>
    nmv ((x9 + 1) : Int32) fun v6 =>
    m_X3_crosses_218 f k70 k150 n218 u5 x4 x5 x6 x7 v6
def m_X3_crosses_150 (f : Nat) (k70 : TS → Int32 → Int32 → Option TS) : Nat → TS → Int32 → Int32 → Int32 → Option TS
  | 0, _, _, _, _ => none
  | n150 + 1, u, x4, x5, x6 => if (3 : Int32) ≤ x6 then
    m_X3_crosses_290 f k70 u x4 x5
    else if x6 = x5 then
    m_X3_crosses_284 f k70 (m_X3_crosses_150 f k70 n150) u x4 x5 x6
    else gd (ix x6 3) <|
    if ¬ (tB u 39 (Int32.toNatClampNeg x6)) = (0 : Int64) then
    gd (ix x6 3) <|
    gd (ix x5 3) <|
    gd (nzL (tB u 39 (Int32.toNatClampNeg x5))) <|
    nmv (((tB u 39 (Int32.toNatClampNeg x6)) / (tB u 39 (Int32.toNatClampNeg x5))) : Int64) fun v8 =>
    gd (ix x6 3) <|
    gd (ix x5 3) <|
    gd (ix x6 3) <|
    nmv (sB u 39 (Int32.toNatClampNeg x6) ((tB u 39 (Int32.toNatClampNeg x6)) - (v8 * (tB u 39 (Int32.toNatClampNeg x5))))) fun u12 =>
    m_X3_crosses_218 f k70 (m_X3_crosses_150 f k70 n150) f u12 x4 x5 x6 v8 (0 : Int32)
    else m_X3_crosses_284 f k70 (m_X3_crosses_150 f k70 n150) u x4 x5 x6
def m_X3_crosses_144 (f : Nat) (k70 : TS → Int32 → Int32 → Option TS) (u : TS) (x5 : Int32) : Option TS := m_X3_crosses_150 f k70 f u (0 : Int32) x5 (0 : Int32)
def m_X3_crosses_136 (f : Nat) (k70 : TS → Int32 → Int32 → Option TS) (k81 : TS → Int32 → Int32 → Option TS) (u : TS) (x6 : Int32) (y0 : Int32) : Option TS := nmv ((x6 + 1) : Int32) fun v1 =>
    k81 u y0 v1
def m_X3_crosses_134 (f : Nat) (k70 : TS → Int32 → Int32 → Option TS) (k81 : TS → Int32 → Int32 → Option TS) (u : TS) (x5 : Int32) (x6 : Int32) : Option TS := m_X3_crosses_136 f k70 k81 u x6 x5
def m_X3_crosses_129 (f : Nat) (k70 : TS → Int32 → Int32 → Option TS) (k81 : TS → Int32 → Int32 → Option TS) (u : TS) (x6 : Int32) : Option TS := m_X3_crosses_136 f k70 k81 u x6 x6
def m_X3_crosses_81 (f : Nat) (k70 : TS → Int32 → Int32 → Option TS) : Nat → TS → Int32 → Int32 → Option TS
  | 0, _, _, _ => none
  | n81 + 1, u, x5, x6 => if (3 : Int32) ≤ x6 then
    m_X3_crosses_144 f k70 u x5
    else gd (ix x6 3) <|
    if (tB u 39 (Int32.toNatClampNeg x6)) = (0 : Int64) then
    m_X3_crosses_134 f k70 (m_X3_crosses_81 f k70 n81) u x5 x6
    else if x5 = (-1 : Int32) then
    m_X3_crosses_129 f k70 (m_X3_crosses_81 f k70 n81) u x6
    else gd (ix x6 3) <|
    bd (m_X3_sized f (tB u 39 (Int32.toNatClampNeg x6))) fun r6 =>
    gd (ix x5 3) <|
    bd (m_X3_sized f (tB u 39 (Int32.toNatClampNeg x5))) fun r8 =>
    if r8 ≤ r6 then
    m_X3_crosses_134 f k70 (m_X3_crosses_81 f k70 n81) u x5 x6
    else m_X3_crosses_129 f k70 (m_X3_crosses_81 f k70 n81) u x6
def m_X3_crosses_70 (f : Nat) : Nat → TS → Int32 → Int32 → Option TS
  | 0, _, _, _ => none
  | n70 + 1, u, x4, x5 => if x4 = 0 then
    m_X3_crosses_293 f u x5
    else m_X3_crosses_81 f (m_X3_crosses_70 f n70) f u (-1 : Int32) (0 : Int32)
def m_X3_crosses_64 (f : Nat) (u : TS) : Option TS := m_X3_crosses_70 f f u (1 : Int32) (-1 : Int32)
def m_X3_crosses_3 (f : Nat) : Nat → TS → Int32 → Int32 → Int32 → Int32 → Option TS
  | 0, _, _, _, _, _ => none
  | n3 + 1, u, x1, x2, x3, x4 => if (3 : Int32) ≤ x4 then
    m_X3_crosses_64 f u
    else gd (ix ((3 : Int32) * x4) 9) <|
    gd (ix (((3 : Int32) * x4) + (1 : Int32)) 9) <|
    gd (ix (((3 : Int32) * x4) + (2 : Int32)) 9) <|
    gd (ix x4 3) <|
    nmv (sB u 39 (Int32.toNatClampNeg x4) ((((Int32.toInt64 x1) * (tB u 18 (Int32.toNatClampNeg ((3 : Int32) * x4)))) + ((Int32.toInt64 x2) * (tB u 18 (Int32.toNatClampNeg (((3 : Int32) * x4) + (1 : Int32)))))) + ((Int32.toInt64 x3) * (tB u 18 (Int32.toNatClampNeg (((3 : Int32) * x4) + (2 : Int32))))))) fun u6 =>
    nmv ((x4 + 1) : Int32) fun v7 =>
    m_X3_crosses_3 f n3 u6 x1 x2 x3 v7
def m_X3_crosses (f : Nat) (u : TS) (x1 : Int32) (x2 : Int32) (x3 : Int32) : Option TS := m_X3_crosses_3 f f u x1 x2 x3 (0 : Int32)
abbrev rm_X3_crosses : Room := { frames := 1, cells := 0, slots := 0, locals := 21 }
theorem cw_X3_crosses {R : Room} {s : State} {args : Array Value} {own : String} {idx : Nat} (hts : ∀ w ∈ lw_all, w.before args s = true) (hl : Cond.methodLink own idx yX3_crosses ∈ lw_all) (hR : rm_X3_crosses.frames + 1 ≤ R.frames ∧ 8 + (10 + 11) + rm_X3_crosses.locals ≤ R.locals) : CallW R s args own RX3 idx yX3_crosses cX3_crosses 10 (Option.none : Option Jvm.ClassFile.FieldType) (ws_ yX3_crosses cX3_crosses 10 (Option.none : Option Jvm.ClassFile.FieldType)) rm_X3_crosses 0 0 3 := cwV 3 hts (lw_V hl q2102 qs109 q125 q2103) rfl rfl rfl (by decide +kernel) hR
set_option maxHeartbeats 4000000 in
set_option maxRecDepth 100000 in
theorem w_X3_crosses (l : Launch) {D : va_G} {ad : Nat → Nat} {dI dJ : ClassId} {A : Nat → Prop} {f : Nat} {u u9 : TS} {x1 : Int32} {x2 : Int32} {x3 : Int32} (hm : m_X3_crosses f u x1 x2 x3 = some u9) : Met l yX3_crosses (ws_ yX3_crosses cX3_crosses 10 (Option.none : Option Jvm.ClassFile.FieldType)) rm_X3_crosses (va_Pc [.ref (ad 40), .int x1, .int x2, .int x3] (TPre D ad dI dJ A u)) (va_Qv (fun u => u = u9) (TPost D ad dI dJ A) A) 0 0 A := by
  refine Met.ofW (cc := cX3_crosses) (maxL := 10) (ret := (Option.none : Option Jvm.ClassFile.FieldType)) (by decide) rfl ?_
  intro p e s m args below meth c s₁ B hml hv
  have hx := B.exec
  have hb := B.bytes
  have hr := B.returns
  have hts := atoms_spec (ws := (ws_ yX3_crosses cX3_crosses 10 (Option.none : Option Jvm.ClassFile.FieldType))) B.pre
  have hts : ∀ w ∈ lw_all, w.before args s = true := fun w h => hts w (List.mem_cons_of_mem _ h)
  have hown : s.vm.findClass RX3 = some m.cls := findClass_of_methodNamed B.named
  have hlocks := B.notSynchronized
  obtain ⟨hav, hv⟩ := hv
  have C : TC p s m args c cX3_crosses D dI dJ := ⟨hx, hb, hown, hts, hv.2.1⟩
  have hw : TH D ad dI dJ A s.heap u s.heap [] := ⟨hv.1, hv.2.2.1, va_S.rf, hv.2.2.2⟩
  generalize hQ : MQ below (va_Qv (fun u => u = u9) (TPost D ad dI dJ A) A) args s 0 0 A = QQ
  have hent := lg_entry_eq m [.ref (ad 40), .int x1, .int x2, .int x3] 10
  rw [← hav] at hent
  rw [hent]
  have hl := lv_entry ([.ref (ad 40), .int x1, .int x2, .int x3]) (n := 10) (Nat.le_of_ble_eq_true rfl)
  generalize (lg_sl ([.ref (ad 40), .int x1, .int x2, .int x3]) ++ List.replicate (10 - (lg_sl ([.ref (ad 40), .int x1, .int x2, .int x3])).length) Slot.unset).toArray = ls at hl ⊢
  have hl : lv_has ls 10 [(0, .ref (ad 40)), (1, .int x1), (2, .int x2), (3, .int x3)] := hl
  change W p l e rm_X3_crosses s m args below meth c s.heap [] 0 0 QQ (F0 m 0 ls [])
  have hB394 : ∀ (u : TS) (H : Heap) (locs : List Loc) (ls : Array Slot), m_X3_crosses_394 f u = some u9 → TH D ad dI dJ A s.heap u H locs → lv_has ls 10 [] → W p l e rm_X3_crosses s m args below meth c H locs 0 0 QQ (F0 m 394 ls []) := by
    intro u H locs ls hm hw hl
    rw [m_X3_crosses_394] at hm
    rw [← hQ]
    exact W.vret hx hb hr (fun t ht hW => ⟨⟨u, rfl, ret1 hm, by rw [ht]; exact hw.1, hw.2.1⟩, hw.2.2.1.F ht⟩) hw.2.2.1.2.2 dX3_crosses_394
  have hB316 : ∀ (n316 : Nat), ∀ (u : TS) (x6 : Int32) (x7 : Int32) (x8 : Int32) (H : Heap) (locs : List Loc) (ls : Array Slot), m_X3_crosses_316 f n316 u x6 x7 x8 = some u9 → TH D ad dI dJ A s.heap u H locs → lv_has ls 10 [(0, .ref (ad 40)), (6, .int x6), (7, .int x7), (8, .int x8)] → W p l e rm_X3_crosses s m args below meth c H locs 0 0 QQ (F0 m 316 ls []) := by
    intro n316
    induction n316 with
    | zero => intro u x6 x7 x8 H locs ls hm hw hl; rw [m_X3_crosses_316] at hm; exact noE hm
    | succ n316 ih316 =>
      intro u x6 x7 x8 H locs ls hm hw hl
      rw [m_X3_crosses_316] at hm
      refine lv_iload hx hb dX3_crosses_316 (lv_at hl 3 rfl) ?_
      refine lv_iconst (v := 3) hx hb dX3_crosses_318 (by decide) ?_
      refine lv_icmp_ge (tgt := 394) hx hb dX3_crosses_319 (by decide) (fun c1 => ?_) (fun c1 => ?_)
      · have hm := ifT hm c1
        exact hB394 u _ _ _ hm hw (lv_sub hl [] rfl)
      · have hm := ifF hm c1
        refine lv_aload_n hx hb dX3_crosses_322 rfl (lv_at hl 0 rfl) ?_
        refine tg_get C hw 38 (by decide) q1604 rfl dX3_crosses_323 ?_
        refine lv_iload hx hb dX3_crosses_326 (lv_at hl 3 rfl) ?_
        refine lv_aload_n hx hb dX3_crosses_328 rfl (lv_at hl 0 rfl) ?_
        refine tg_get C hw 18 (by decide) q1584 rfl dX3_crosses_329 ?_
        refine lv_iload hx hb dX3_crosses_332 (lv_at hl 1 rfl) ?_
        refine lv_iload hx hb dX3_crosses_334 (lv_at hl 3 rfl) ?_
        refine lv_iconst (v := 1) hx hb dX3_crosses_336 (by decide) ?_
        refine lv_iadd hx hb dX3_crosses_337 ?_
        refine lv_iconst (v := 3) hx hb dX3_crosses_338 (by decide) ?_
        refine w_irem hx hb dX3_crosses_339 (by decide) ?_
        refine lv_iadd hx hb dX3_crosses_340 ?_
        obtain ⟨g2, hm⟩ := gdE hm
        refine tg_lald C hw (tp_18 ad dI dJ u) g2 dX3_crosses_341 ?_
        refine lv_aload_n hx hb dX3_crosses_342 rfl (lv_at hl 0 rfl) ?_
        refine tg_get C hw 18 (by decide) q1584 rfl dX3_crosses_343 ?_
        refine lv_iload hx hb dX3_crosses_346 (lv_at hl 2 rfl) ?_
        refine lv_iload hx hb dX3_crosses_348 (lv_at hl 3 rfl) ?_
        refine lv_iconst (v := 2) hx hb dX3_crosses_350 (by decide) ?_
        refine lv_iadd hx hb dX3_crosses_351 ?_
        refine lv_iconst (v := 3) hx hb dX3_crosses_352 (by decide) ?_
        refine w_irem hx hb dX3_crosses_353 (by decide) ?_
        refine lv_iadd hx hb dX3_crosses_354 ?_
        obtain ⟨g3, hm⟩ := gdE hm
        refine tg_lald C hw (tp_18 ad dI dJ u) g3 dX3_crosses_355 ?_
        refine lv_lmul hx hb dX3_crosses_356 ?_
        refine lv_aload_n hx hb dX3_crosses_357 rfl (lv_at hl 0 rfl) ?_
        refine tg_get C hw 18 (by decide) q1584 rfl dX3_crosses_358 ?_
        refine lv_iload hx hb dX3_crosses_361 (lv_at hl 1 rfl) ?_
        refine lv_iload hx hb dX3_crosses_363 (lv_at hl 3 rfl) ?_
        refine lv_iconst (v := 2) hx hb dX3_crosses_365 (by decide) ?_
        refine lv_iadd hx hb dX3_crosses_366 ?_
        refine lv_iconst (v := 3) hx hb dX3_crosses_367 (by decide) ?_
        refine w_irem hx hb dX3_crosses_368 (by decide) ?_
        refine lv_iadd hx hb dX3_crosses_369 ?_
        obtain ⟨g4, hm⟩ := gdE hm
        refine tg_lald C hw (tp_18 ad dI dJ u) g4 dX3_crosses_370 ?_
        refine lv_aload_n hx hb dX3_crosses_371 rfl (lv_at hl 0 rfl) ?_
        refine tg_get C hw 18 (by decide) q1584 rfl dX3_crosses_372 ?_
        refine lv_iload hx hb dX3_crosses_375 (lv_at hl 2 rfl) ?_
        refine lv_iload hx hb dX3_crosses_377 (lv_at hl 3 rfl) ?_
        refine lv_iconst (v := 1) hx hb dX3_crosses_379 (by decide) ?_
        refine lv_iadd hx hb dX3_crosses_380 ?_
        refine lv_iconst (v := 3) hx hb dX3_crosses_381 (by decide) ?_
        refine w_irem hx hb dX3_crosses_382 (by decide) ?_
        refine lv_iadd hx hb dX3_crosses_383 ?_
        obtain ⟨g5, hm⟩ := gdE hm
        refine tg_lald C hw (tp_18 ad dI dJ u) g5 dX3_crosses_384 ?_
        refine lv_lmul hx hb dX3_crosses_385 ?_
        refine lv_lsub hx hb dX3_crosses_386 ?_
        obtain ⟨g6, hm⟩ := gdE hm
        refine tg_last C hw (tp_38 ad dI dJ u) g6 (ts_38 ad dI dJ u _ _) dX3_crosses_387 (fun H locs hw => ?_)
        obtain ⟨u7, eu7, hm⟩ := nmE hm
        rw [← eu7] at hw
        obtain ⟨v8, ev8, hm⟩ := nmE hm
        refine lv_iinc (v := v8) (lv' := [(8, .int v8), (0, .ref (ad 40)), (6, .int x6), (7, .int x7)]) hx hb dX3_crosses_388 hl (k := 3) rfl (by rw [ev8]; rfl) (by decide) rfl (fun ls hl => ?_)
        refine lv_goto (tgt := 316) hx hb dX3_crosses_391 (by decide) ?_
        exact ih316 u7 x6 x7 v8 _ _ _ hm hw (lv_sub hl [1, 2, 3, 0] rfl)
  have hB293 : ∀ (u : TS) (x5 : Int32) (H : Heap) (locs : List Loc) (ls : Array Slot), m_X3_crosses_293 f u x5 = some u9 → TH D ad dI dJ A s.heap u H locs → lv_has ls 10 [(0, .ref (ad 40)), (5, .int x5)] → W p l e rm_X3_crosses s m args below meth c H locs 0 0 QQ (F0 m 293 ls []) := by
    intro u x5 H locs ls hm hw hl
    rw [m_X3_crosses_293] at hm
    refine lv_iconst (v := 3) hx hb dX3_crosses_293 (by decide) ?_
    refine lv_iload hx hb dX3_crosses_294 (lv_at hl 1 rfl) ?_
    refine lv_iconst (v := 1) hx hb dX3_crosses_296 (by decide) ?_
    refine lv_iadd hx hb dX3_crosses_297 ?_
    refine lv_iconst (v := 3) hx hb dX3_crosses_298 (by decide) ?_
    refine w_irem hx hb dX3_crosses_299 (by decide) ?_
    refine lv_imul hx hb dX3_crosses_300 ?_
    refine lv_topi (fun v1 ev1 => ?_)
    have hm := nmK hm ev1
    refine lv_istore (lv' := [(6, .int v1), (0, .ref (ad 40)), (5, .int x5)]) hx hb dX3_crosses_301 hl (by decide) rfl (fun ls hl => ?_)
    refine lv_iconst (v := 3) hx hb dX3_crosses_303 (by decide) ?_
    refine lv_iload hx hb dX3_crosses_304 (lv_at hl 2 rfl) ?_
    refine lv_iconst (v := 2) hx hb dX3_crosses_306 (by decide) ?_
    refine lv_iadd hx hb dX3_crosses_307 ?_
    refine lv_iconst (v := 3) hx hb dX3_crosses_308 (by decide) ?_
    refine w_irem hx hb dX3_crosses_309 (by decide) ?_
    refine lv_imul hx hb dX3_crosses_310 ?_
    refine lv_topi (fun v2 ev2 => ?_)
    have hm := nmK hm ev2
    refine lv_istore (lv' := [(7, .int v2), (6, .int v1), (0, .ref (ad 40)), (5, .int x5)]) hx hb dX3_crosses_311 hl (by decide) rfl (fun ls hl => ?_)
    refine lv_iconst (v := 0) hx hb dX3_crosses_313 (by decide) ?_
    refine lv_istore (lv' := [(8, .int (0 : Int32)), (7, .int v2), (6, .int v1), (0, .ref (ad 40)), (5, .int x5)]) hx hb dX3_crosses_314 hl (by decide) rfl (fun ls hl => ?_)
    exact hB316 f u v1 v2 (0 : Int32) _ _ _ hm hw (lv_sub hl [3, 2, 1, 0] rfl)
  have hB70 : ∀ (n70 : Nat), ∀ (u : TS) (x4 : Int32) (x5 : Int32) (H : Heap) (locs : List Loc) (ls : Array Slot), m_X3_crosses_70 f n70 u x4 x5 = some u9 → TH D ad dI dJ A s.heap u H locs → lv_has ls 10 [(0, .ref (ad 40)), (4, .int x4), (5, .int x5)] → W p l e rm_X3_crosses s m args below meth c H locs 0 0 QQ (F0 m 70 ls []) := by
    intro n70
    induction n70 with
    | zero => intro u x4 x5 H locs ls hm hw hl; rw [m_X3_crosses_70] at hm; exact noE hm
    | succ n70 ih70 =>
      have hB290 : ∀ (u : TS) (x4 : Int32) (x5 : Int32) (H : Heap) (locs : List Loc) (ls : Array Slot), m_X3_crosses_290 f (m_X3_crosses_70 f n70) u x4 x5 = some u9 → TH D ad dI dJ A s.heap u H locs → lv_has ls 10 [(0, .ref (ad 40)), (4, .int x4), (5, .int x5)] → W p l e rm_X3_crosses s m args below meth c H locs 0 0 QQ (F0 m 290 ls []) := by
        intro u x4 x5 H locs ls hm hw hl
        rw [m_X3_crosses_290] at hm
        refine lv_goto (tgt := 70) hx hb dX3_crosses_290 (by decide) ?_
        exact ih70 u x4 x5 _ _ _ hm hw (lv_sub hl [0, 1, 2] rfl)
      have hB150 : ∀ (n150 : Nat), ∀ (u : TS) (x4 : Int32) (x5 : Int32) (x6 : Int32) (H : Heap) (locs : List Loc) (ls : Array Slot), m_X3_crosses_150 f (m_X3_crosses_70 f n70) n150 u x4 x5 x6 = some u9 → TH D ad dI dJ A s.heap u H locs → lv_has ls 10 [(0, .ref (ad 40)), (4, .int x4), (5, .int x5), (6, .int x6)] → W p l e rm_X3_crosses s m args below meth c H locs 0 0 QQ (F0 m 150 ls []) := by
        intro n150
        induction n150 with
        | zero => intro u x4 x5 x6 H locs ls hm hw hl; rw [m_X3_crosses_150] at hm; exact noE hm
        | succ n150 ih150 =>
          have hB284 : ∀ (u : TS) (x4 : Int32) (x5 : Int32) (x6 : Int32) (H : Heap) (locs : List Loc) (ls : Array Slot), m_X3_crosses_284 f (m_X3_crosses_70 f n70) (m_X3_crosses_150 f (m_X3_crosses_70 f n70) n150) u x4 x5 x6 = some u9 → TH D ad dI dJ A s.heap u H locs → lv_has ls 10 [(0, .ref (ad 40)), (4, .int x4), (5, .int x5), (6, .int x6)] → W p l e rm_X3_crosses s m args below meth c H locs 0 0 QQ (F0 m 284 ls []) := by
            intro u x4 x5 x6 H locs ls hm hw hl
            rw [m_X3_crosses_284] at hm
            obtain ⟨v1, ev1, hm⟩ := nmE hm
            refine lv_iinc (v := v1) (lv' := [(6, .int v1), (0, .ref (ad 40)), (4, .int x4), (5, .int x5)]) hx hb dX3_crosses_284 hl (k := 3) rfl (by rw [ev1]; rfl) (by decide) rfl (fun ls hl => ?_)
            refine lv_goto (tgt := 150) hx hb dX3_crosses_287 (by decide) ?_
            exact ih150 u x4 x5 v1 _ _ _ hm hw (lv_sub hl [1, 2, 3, 0] rfl)
          have hB282 : ∀ (u : TS) (x5 : Int32) (x6 : Int32) (y0 : Int32) (H : Heap) (locs : List Loc) (ls : Array Slot), m_X3_crosses_282 f (m_X3_crosses_70 f n70) (m_X3_crosses_150 f (m_X3_crosses_70 f n70) n150) u x5 x6 y0 = some u9 → TH D ad dI dJ A s.heap u H locs → lv_has ls 10 [(0, .ref (ad 40)), (5, .int x5), (6, .int x6)] → W p l e rm_X3_crosses s m args below meth c H locs 0 0 QQ (F0 m 282 ls [.int y0]) := by
            intro u x5 x6 y0 H locs ls hm hw hl
            rw [m_X3_crosses_282] at hm
            refine lv_istore (lv' := [(4, .int y0), (0, .ref (ad 40)), (5, .int x5), (6, .int x6)]) hx hb dX3_crosses_282 hl (by decide) rfl (fun ls hl => ?_)
            exact hB284 u y0 x5 x6 _ _ _ hm hw (lv_sub hl [1, 0, 2, 3] rfl)
          have hB277 : ∀ (u : TS) (x5 : Int32) (x6 : Int32) (H : Heap) (locs : List Loc) (ls : Array Slot), m_X3_crosses_277 f (m_X3_crosses_70 f n70) (m_X3_crosses_150 f (m_X3_crosses_70 f n70) n150) u x5 x6 = some u9 → TH D ad dI dJ A s.heap u H locs → lv_has ls 10 [(0, .ref (ad 40)), (5, .int x5), (6, .int x6)] → W p l e rm_X3_crosses s m args below meth c H locs 0 0 QQ (F0 m 277 ls []) := by
            intro u x5 x6 H locs ls hm hw hl
            rw [m_X3_crosses_277] at hm
            refine lv_iconst (v := 1) hx hb dX3_crosses_277 (by decide) ?_
            refine lv_goto (tgt := 282) hx hb dX3_crosses_278 (by decide) ?_
            exact hB282 u x5 x6 (1 : Int32) _ _ _ hm hw (lv_sub hl [0, 1, 2] rfl)
          have hB260 : ∀ (u : TS) (x4 : Int32) (x5 : Int32) (x6 : Int32) (H : Heap) (locs : List Loc) (ls : Array Slot), m_X3_crosses_260 f (m_X3_crosses_70 f n70) (m_X3_crosses_150 f (m_X3_crosses_70 f n70) n150) u x4 x5 x6 = some u9 → TH D ad dI dJ A s.heap u H locs → lv_has ls 10 [(0, .ref (ad 40)), (4, .int x4), (5, .int x5), (6, .int x6)] → W p l e rm_X3_crosses s m args below meth c H locs 0 0 QQ (F0 m 260 ls []) := by
            intro u x4 x5 x6 H locs ls hm hw hl
            rw [m_X3_crosses_260] at hm
            refine lv_iload hx hb dX3_crosses_260 (lv_at hl 1 rfl) ?_
            refine lv_if_ne (tgt := 277) hx hb dX3_crosses_262 (by decide) (fun c1 => ?_) (fun c1 => ?_)
            · have hm := ifT hm c1
              exact hB277 u x5 x6 _ _ _ hm hw (lv_sub hl [0, 2, 3] rfl)
            · have hm := ifT' hm c1
              refine lv_aload_n hx hb dX3_crosses_265 rfl (lv_at hl 0 rfl) ?_
              refine tg_get C hw 39 (by decide) q1605 rfl dX3_crosses_266 ?_
              refine lv_iload hx hb dX3_crosses_269 (lv_at hl 3 rfl) ?_
              obtain ⟨g2, hm⟩ := gdE hm
              refine tg_lald C hw (tp_39 ad dI dJ u) g2 dX3_crosses_271 ?_
              refine lv_lconst (v := 0) hx hb dX3_crosses_272 (by decide) ?_
              refine lc_eq (tgt := 281) hx hb dX3_crosses_273 dX3_crosses_274 (by decide) (fun c3 => ?_) (fun c3 => ?_)
              · have hm := ifT hm c3
                refine lv_iconst (v := 0) hx hb dX3_crosses_281 (by decide) ?_
                exact hB282 u x5 x6 (0 : Int32) _ _ _ hm hw (lv_sub hl [0, 2, 3] rfl)
              · have hm := ifF hm c3
                exact hB277 u x5 x6 _ _ _ hm hw (lv_sub hl [0, 2, 3] rfl)
          have hB218 : ∀ (n218 : Nat), ∀ (u : TS) (x4 : Int32) (x5 : Int32) (x6 : Int32) (x7 : Int64) (x9 : Int32) (H : Heap) (locs : List Loc) (ls : Array Slot), m_X3_crosses_218 f (m_X3_crosses_70 f n70) (m_X3_crosses_150 f (m_X3_crosses_70 f n70) n150) n218 u x4 x5 x6 x7 x9 = some u9 → TH D ad dI dJ A s.heap u H locs → lv_has ls 10 [(0, .ref (ad 40)), (4, .int x4), (5, .int x5), (6, .int x6), (7, .long x7), (9, .int x9)] → W p l e rm_X3_crosses s m args below meth c H locs 0 0 QQ (F0 m 218 ls []) := by
            intro n218
            induction n218 with
            | zero => intro u x4 x5 x6 x7 x9 H locs ls hm hw hl; rw [m_X3_crosses_218] at hm; exact noE hm
            | succ n218 ih218 =>
              intro u x4 x5 x6 x7 x9 H locs ls hm hw hl
              rw [m_X3_crosses_218] at hm
              refine lv_iload hx hb dX3_crosses_218 (lv_at hl 5 rfl) ?_
              refine lv_iconst (v := 3) hx hb dX3_crosses_220 (by decide) ?_
              refine lv_icmp_ge (tgt := 260) hx hb dX3_crosses_221 (by decide) (fun c1 => ?_) (fun c1 => ?_)
              · have hm := ifT hm c1
                exact hB260 u x4 x5 x6 _ _ _ hm hw (lv_sub hl [0, 1, 2, 3] rfl)
              · have hm := ifF hm c1
                refine lv_aload_n hx hb dX3_crosses_224 rfl (lv_at hl 0 rfl) ?_
                refine tg_get C hw 18 (by decide) q1584 rfl dX3_crosses_225 ?_
                refine lv_iconst (v := 3) hx hb dX3_crosses_228 (by decide) ?_
                refine lv_iload hx hb dX3_crosses_229 (lv_at hl 3 rfl) ?_
                refine lv_imul hx hb dX3_crosses_231 ?_
                refine lv_iload hx hb dX3_crosses_232 (lv_at hl 5 rfl) ?_
                refine lv_iadd hx hb dX3_crosses_234 ?_
                refine lv_dup2_11 hx hb dX3_crosses_235 rfl rfl ?_
                obtain ⟨g2, hm⟩ := gdE hm
                refine tg_lald C hw (tp_18 ad dI dJ u) g2 dX3_crosses_236 ?_
                refine lv_lload hx hb dX3_crosses_237 (lv_at hl 4 rfl) ?_
                refine lv_aload_n hx hb dX3_crosses_239 rfl (lv_at hl 0 rfl) ?_
                refine tg_get C hw 18 (by decide) q1584 rfl dX3_crosses_240 ?_
                refine lv_iconst (v := 3) hx hb dX3_crosses_243 (by decide) ?_
                refine lv_iload hx hb dX3_crosses_244 (lv_at hl 2 rfl) ?_
                refine lv_imul hx hb dX3_crosses_246 ?_
                refine lv_iload hx hb dX3_crosses_247 (lv_at hl 5 rfl) ?_
                refine lv_iadd hx hb dX3_crosses_249 ?_
                obtain ⟨g3, hm⟩ := gdE hm
                refine tg_lald C hw (tp_18 ad dI dJ u) g3 dX3_crosses_250 ?_
                refine lv_lmul hx hb dX3_crosses_251 ?_
                refine lv_lsub hx hb dX3_crosses_252 ?_
                obtain ⟨g4, hm⟩ := gdE hm
                refine tg_last C hw (tp_18 ad dI dJ u) g4 (ts_18 ad dI dJ u _ _) dX3_crosses_253 (fun H locs hw => ?_)
                obtain ⟨u5, eu5, hm⟩ := nmE hm
                rw [← eu5] at hw
                obtain ⟨v6, ev6, hm⟩ := nmE hm
                refine lv_iinc (v := v6) (lv' := [(9, .int v6), (0, .ref (ad 40)), (4, .int x4), (5, .int x5), (6, .int x6), (7, .long x7)]) hx hb dX3_crosses_254 hl (k := 5) rfl (by rw [ev6]; rfl) (by decide) rfl (fun ls hl => ?_)
                refine lv_goto (tgt := 218) hx hb dX3_crosses_257 (by decide) ?_
                exact ih218 u5 x4 x5 x6 x7 v6 _ _ _ hm hw (lv_sub hl [1, 2, 3, 4, 5, 0] rfl)
          intro u x4 x5 x6 H locs ls hm hw hl
          rw [m_X3_crosses_150] at hm
          refine lv_iload hx hb dX3_crosses_150 (lv_at hl 3 rfl) ?_
          refine lv_iconst (v := 3) hx hb dX3_crosses_152 (by decide) ?_
          refine lv_icmp_ge (tgt := 290) hx hb dX3_crosses_153 (by decide) (fun c1 => ?_) (fun c1 => ?_)
          · have hm := ifT hm c1
            exact hB290 u x4 x5 _ _ _ hm hw (lv_sub hl [0, 1, 2] rfl)
          · have hm := ifF hm c1
            refine lv_iload hx hb dX3_crosses_156 (lv_at hl 3 rfl) ?_
            refine lv_iload hx hb dX3_crosses_158 (lv_at hl 2 rfl) ?_
            refine lv_icmp_eq (tgt := 284) hx hb dX3_crosses_160 (by decide) (fun c2 => ?_) (fun c2 => ?_)
            · have hm := ifT hm c2
              exact hB284 u x4 x5 x6 _ _ _ hm hw (lv_sub hl [0, 1, 2, 3] rfl)
            · have hm := ifF hm c2
              refine lv_aload_n hx hb dX3_crosses_163 rfl (lv_at hl 0 rfl) ?_
              refine tg_get C hw 39 (by decide) q1605 rfl dX3_crosses_164 ?_
              refine lv_iload hx hb dX3_crosses_167 (lv_at hl 3 rfl) ?_
              obtain ⟨g3, hm⟩ := gdE hm
              refine tg_lald C hw (tp_39 ad dI dJ u) g3 dX3_crosses_169 ?_
              refine lv_lconst (v := 0) hx hb dX3_crosses_170 (by decide) ?_
              refine lc_ne (tgt := 178) hx hb dX3_crosses_171 dX3_crosses_172 (by decide) (fun c4 => ?_) (fun c4 => ?_)
              · have hm := ifT hm c4
                refine lv_aload_n hx hb dX3_crosses_178 rfl (lv_at hl 0 rfl) ?_
                refine tg_get C hw 39 (by decide) q1605 rfl dX3_crosses_179 ?_
                refine lv_iload hx hb dX3_crosses_182 (lv_at hl 3 rfl) ?_
                obtain ⟨g5, hm⟩ := gdE hm
                refine tg_lald C hw (tp_39 ad dI dJ u) g5 dX3_crosses_184 ?_
                refine lv_aload_n hx hb dX3_crosses_185 rfl (lv_at hl 0 rfl) ?_
                refine tg_get C hw 39 (by decide) q1605 rfl dX3_crosses_186 ?_
                refine lv_iload hx hb dX3_crosses_189 (lv_at hl 2 rfl) ?_
                obtain ⟨g6, hm⟩ := gdE hm
                refine tg_lald C hw (tp_39 ad dI dJ u) g6 dX3_crosses_191 ?_
                obtain ⟨g7, hm⟩ := gdE hm
                refine lv_ldiv hx hb dX3_crosses_192 (nzL_ne g7) ?_
                refine lv_topl (fun v8 ev8 => ?_)
                have hm := nmK hm ev8
                refine lv_lstore (lv' := [(7, .long v8), (0, .ref (ad 40)), (4, .int x4), (5, .int x5), (6, .int x6)]) hx hb dX3_crosses_193 hl (by decide) rfl (fun ls hl => ?_)
                refine lv_aload_n hx hb dX3_crosses_195 rfl (lv_at hl 1 rfl) ?_
                refine tg_get C hw 39 (by decide) q1605 rfl dX3_crosses_196 ?_
                refine lv_iload hx hb dX3_crosses_199 (lv_at hl 4 rfl) ?_
                refine lv_dup2_11 hx hb dX3_crosses_201 rfl rfl ?_
                obtain ⟨g9, hm⟩ := gdE hm
                refine tg_lald C hw (tp_39 ad dI dJ u) g9 dX3_crosses_202 ?_
                refine lv_lload hx hb dX3_crosses_203 (lv_at hl 0 rfl) ?_
                refine lv_aload_n hx hb dX3_crosses_205 rfl (lv_at hl 1 rfl) ?_
                refine tg_get C hw 39 (by decide) q1605 rfl dX3_crosses_206 ?_
                refine lv_iload hx hb dX3_crosses_209 (lv_at hl 3 rfl) ?_
                obtain ⟨g10, hm⟩ := gdE hm
                refine tg_lald C hw (tp_39 ad dI dJ u) g10 dX3_crosses_211 ?_
                refine lv_lmul hx hb dX3_crosses_212 ?_
                refine lv_lsub hx hb dX3_crosses_213 ?_
                obtain ⟨g11, hm⟩ := gdE hm
                refine tg_last C hw (tp_39 ad dI dJ u) g11 (ts_39 ad dI dJ u _ _) dX3_crosses_214 (fun H locs hw => ?_)
                obtain ⟨u12, eu12, hm⟩ := nmE hm
                rw [← eu12] at hw
                refine lv_iconst (v := 0) hx hb dX3_crosses_215 (by decide) ?_
                refine lv_istore (lv' := [(9, .int (0 : Int32)), (7, .long v8), (0, .ref (ad 40)), (4, .int x4), (5, .int x5), (6, .int x6)]) hx hb dX3_crosses_216 hl (by decide) rfl (fun ls hl => ?_)
                exact hB218 f u12 x4 x5 x6 v8 (0 : Int32) _ _ _ hm hw (lv_sub hl [2, 3, 4, 5, 1, 0] rfl)
              · have hm := ifT' hm c4
                refine lv_goto (tgt := 284) hx hb dX3_crosses_175 (by decide) ?_
                exact hB284 u x4 x5 x6 _ _ _ hm hw (lv_sub hl [0, 1, 2, 3] rfl)
      have hB144 : ∀ (u : TS) (x5 : Int32) (H : Heap) (locs : List Loc) (ls : Array Slot), m_X3_crosses_144 f (m_X3_crosses_70 f n70) u x5 = some u9 → TH D ad dI dJ A s.heap u H locs → lv_has ls 10 [(0, .ref (ad 40)), (5, .int x5)] → W p l e rm_X3_crosses s m args below meth c H locs 0 0 QQ (F0 m 144 ls []) := by
        intro u x5 H locs ls hm hw hl
        rw [m_X3_crosses_144] at hm
        refine lv_iconst (v := 0) hx hb dX3_crosses_144 (by decide) ?_
        refine lv_istore (lv' := [(4, .int (0 : Int32)), (0, .ref (ad 40)), (5, .int x5)]) hx hb dX3_crosses_145 hl (by decide) rfl (fun ls hl => ?_)
        refine lv_iconst (v := 0) hx hb dX3_crosses_147 (by decide) ?_
        refine lv_istore (lv' := [(6, .int (0 : Int32)), (4, .int (0 : Int32)), (0, .ref (ad 40)), (5, .int x5)]) hx hb dX3_crosses_148 hl (by decide) rfl (fun ls hl => ?_)
        exact hB150 f u (0 : Int32) x5 (0 : Int32) _ _ _ hm hw (lv_sub hl [2, 1, 3, 0] rfl)
      have hB81 : ∀ (n81 : Nat), ∀ (u : TS) (x5 : Int32) (x6 : Int32) (H : Heap) (locs : List Loc) (ls : Array Slot), m_X3_crosses_81 f (m_X3_crosses_70 f n70) n81 u x5 x6 = some u9 → TH D ad dI dJ A s.heap u H locs → lv_has ls 10 [(0, .ref (ad 40)), (5, .int x5), (6, .int x6)] → W p l e rm_X3_crosses s m args below meth c H locs 0 0 QQ (F0 m 81 ls []) := by
        intro n81
        induction n81 with
        | zero => intro u x5 x6 H locs ls hm hw hl; rw [m_X3_crosses_81] at hm; exact noE hm
        | succ n81 ih81 =>
          have hB136 : ∀ (u : TS) (x6 : Int32) (y0 : Int32) (H : Heap) (locs : List Loc) (ls : Array Slot), m_X3_crosses_136 f (m_X3_crosses_70 f n70) (m_X3_crosses_81 f (m_X3_crosses_70 f n70) n81) u x6 y0 = some u9 → TH D ad dI dJ A s.heap u H locs → lv_has ls 10 [(0, .ref (ad 40)), (6, .int x6)] → W p l e rm_X3_crosses s m args below meth c H locs 0 0 QQ (F0 m 136 ls [.int y0]) := by
            intro u x6 y0 H locs ls hm hw hl
            rw [m_X3_crosses_136] at hm
            refine lv_istore (lv' := [(5, .int y0), (0, .ref (ad 40)), (6, .int x6)]) hx hb dX3_crosses_136 hl (by decide) rfl (fun ls hl => ?_)
            obtain ⟨v1, ev1, hm⟩ := nmE hm
            refine lv_iinc (v := v1) (lv' := [(6, .int v1), (5, .int y0), (0, .ref (ad 40))]) hx hb dX3_crosses_138 hl (k := 2) rfl (by rw [ev1]; rfl) (by decide) rfl (fun ls hl => ?_)
            refine lv_goto (tgt := 81) hx hb dX3_crosses_141 (by decide) ?_
            exact ih81 u y0 v1 _ _ _ hm hw (lv_sub hl [2, 1, 0] rfl)
          have hB134 : ∀ (u : TS) (x5 : Int32) (x6 : Int32) (H : Heap) (locs : List Loc) (ls : Array Slot), m_X3_crosses_134 f (m_X3_crosses_70 f n70) (m_X3_crosses_81 f (m_X3_crosses_70 f n70) n81) u x5 x6 = some u9 → TH D ad dI dJ A s.heap u H locs → lv_has ls 10 [(0, .ref (ad 40)), (5, .int x5), (6, .int x6)] → W p l e rm_X3_crosses s m args below meth c H locs 0 0 QQ (F0 m 134 ls []) := by
            intro u x5 x6 H locs ls hm hw hl
            rw [m_X3_crosses_134] at hm
            refine lv_iload hx hb dX3_crosses_134 (lv_at hl 1 rfl) ?_
            exact hB136 u x6 x5 _ _ _ hm hw (lv_sub hl [0, 2] rfl)
          have hB129 : ∀ (u : TS) (x6 : Int32) (H : Heap) (locs : List Loc) (ls : Array Slot), m_X3_crosses_129 f (m_X3_crosses_70 f n70) (m_X3_crosses_81 f (m_X3_crosses_70 f n70) n81) u x6 = some u9 → TH D ad dI dJ A s.heap u H locs → lv_has ls 10 [(0, .ref (ad 40)), (6, .int x6)] → W p l e rm_X3_crosses s m args below meth c H locs 0 0 QQ (F0 m 129 ls []) := by
            intro u x6 H locs ls hm hw hl
            rw [m_X3_crosses_129] at hm
            refine lv_iload hx hb dX3_crosses_129 (lv_at hl 1 rfl) ?_
            refine lv_goto (tgt := 136) hx hb dX3_crosses_131 (by decide) ?_
            exact hB136 u x6 x6 _ _ _ hm hw (lv_sub hl [0, 1] rfl)
          intro u x5 x6 H locs ls hm hw hl
          rw [m_X3_crosses_81] at hm
          refine lv_iload hx hb dX3_crosses_81 (lv_at hl 2 rfl) ?_
          refine lv_iconst (v := 3) hx hb dX3_crosses_83 (by decide) ?_
          refine lv_icmp_ge (tgt := 144) hx hb dX3_crosses_84 (by decide) (fun c1 => ?_) (fun c1 => ?_)
          · have hm := ifT hm c1
            exact hB144 u x5 _ _ _ hm hw (lv_sub hl [0, 1] rfl)
          · have hm := ifF hm c1
            refine lv_aload_n hx hb dX3_crosses_87 rfl (lv_at hl 0 rfl) ?_
            refine tg_get C hw 39 (by decide) q1605 rfl dX3_crosses_88 ?_
            refine lv_iload hx hb dX3_crosses_91 (lv_at hl 2 rfl) ?_
            obtain ⟨g2, hm⟩ := gdE hm
            refine tg_lald C hw (tp_39 ad dI dJ u) g2 dX3_crosses_93 ?_
            refine lv_lconst (v := 0) hx hb dX3_crosses_94 (by decide) ?_
            refine lc_eq (tgt := 134) hx hb dX3_crosses_95 dX3_crosses_96 (by decide) (fun c3 => ?_) (fun c3 => ?_)
            · have hm := ifT hm c3
              exact hB134 u x5 x6 _ _ _ hm hw (lv_sub hl [0, 1, 2] rfl)
            · have hm := ifF hm c3
              refine lv_iload hx hb dX3_crosses_99 (lv_at hl 1 rfl) ?_
              refine lv_iconst (v := -1) hx hb dX3_crosses_101 (by decide) ?_
              refine lv_icmp_eq (tgt := 129) hx hb dX3_crosses_102 (by decide) (fun c4 => ?_) (fun c4 => ?_)
              · have hm := ifT hm c4
                exact hB129 u x6 _ _ _ hm hw (lv_sub hl [0, 2] rfl)
              · have hm := ifF hm c4
                refine lv_aload_n hx hb dX3_crosses_105 rfl (lv_at hl 0 rfl) ?_
                refine tg_get C hw 39 (by decide) q1605 rfl dX3_crosses_106 ?_
                refine lv_iload hx hb dX3_crosses_109 (lv_at hl 2 rfl) ?_
                obtain ⟨g5, hm⟩ := gdE hm
                refine tg_lald C hw (tp_39 ad dI dJ u) g5 dX3_crosses_111 ?_
                obtain ⟨r6, er6, hm⟩ := bdE hm
                refine scl (va_runS (As := [.long (tB u 39 (Int32.toNatClampNeg x6))]) (rest := []) ⟨hx, hb, hml, hown, hts⟩ (w_X3_sized l er6) (cw_X3_sized hts q1772 ⟨Nat.le_of_ble_eq_true rfl, Nat.le_of_ble_eq_true rfl⟩) (pre_s _) rfl rfl hl.1 rfl (lv_room (Nat.le_of_ble_eq_true rfl)) dX3_crosses_112 ⟨Nat.le_of_ble_eq_true rfl, Nat.le_of_ble_eq_true rfl⟩) ?_
                refine lv_aload_n hx hb dX3_crosses_115 rfl (lv_at hl 0 rfl) ?_
                refine tg_get C hw 39 (by decide) q1605 rfl dX3_crosses_116 ?_
                refine lv_iload hx hb dX3_crosses_119 (lv_at hl 1 rfl) ?_
                obtain ⟨g7, hm⟩ := gdE hm
                refine tg_lald C hw (tp_39 ad dI dJ u) g7 dX3_crosses_121 ?_
                obtain ⟨r8, er8, hm⟩ := bdE hm
                refine scl (va_runS (As := [.long (tB u 39 (Int32.toNatClampNeg x5))]) (rest := [.long r6]) ⟨hx, hb, hml, hown, hts⟩ (w_X3_sized l er8) (cw_X3_sized hts q1772 ⟨Nat.le_of_ble_eq_true rfl, Nat.le_of_ble_eq_true rfl⟩) (pre_s _) rfl rfl hl.1 rfl (lv_room (Nat.le_of_ble_eq_true rfl)) dX3_crosses_122 ⟨Nat.le_of_ble_eq_true rfl, Nat.le_of_ble_eq_true rfl⟩) ?_
                refine lc_ge (tgt := 134) hx hb dX3_crosses_125 dX3_crosses_126 (by decide) (fun c9 => ?_) (fun c9 => ?_)
                · have hm := ifT hm c9
                  exact hB134 u x5 x6 _ _ _ hm hw (lv_sub hl [0, 1, 2] rfl)
                · have hm := ifF hm c9
                  exact hB129 u x6 _ _ _ hm hw (lv_sub hl [0, 2] rfl)
      intro u x4 x5 H locs ls hm hw hl
      rw [m_X3_crosses_70] at hm
      refine lv_iload hx hb dX3_crosses_70 (lv_at hl 1 rfl) ?_
      refine lv_if_eq (tgt := 293) hx hb dX3_crosses_72 (by decide) (fun c1 => ?_) (fun c1 => ?_)
      · have hm := ifT hm c1
        exact hB293 u x5 _ _ _ hm hw (lv_sub hl [0, 2] rfl)
      · have hm := ifF hm c1
        refine lv_iconst (v := -1) hx hb dX3_crosses_75 (by decide) ?_
        refine lv_istore (lv' := [(5, .int (-1 : Int32)), (0, .ref (ad 40)), (4, .int x4)]) hx hb dX3_crosses_76 hl (by decide) rfl (fun ls hl => ?_)
        refine lv_iconst (v := 0) hx hb dX3_crosses_78 (by decide) ?_
        refine lv_istore (lv' := [(6, .int (0 : Int32)), (5, .int (-1 : Int32)), (0, .ref (ad 40)), (4, .int x4)]) hx hb dX3_crosses_79 hl (by decide) rfl (fun ls hl => ?_)
        exact hB81 f u (-1 : Int32) (0 : Int32) _ _ _ hm hw (lv_sub hl [2, 1, 0] rfl)
  have hB64 : ∀ (u : TS) (H : Heap) (locs : List Loc) (ls : Array Slot), m_X3_crosses_64 f u = some u9 → TH D ad dI dJ A s.heap u H locs → lv_has ls 10 [(0, .ref (ad 40))] → W p l e rm_X3_crosses s m args below meth c H locs 0 0 QQ (F0 m 64 ls []) := by
    intro u H locs ls hm hw hl
    rw [m_X3_crosses_64] at hm
    refine lv_iconst (v := 1) hx hb dX3_crosses_64 (by decide) ?_
    refine lv_istore (lv' := [(4, .int (1 : Int32)), (0, .ref (ad 40))]) hx hb dX3_crosses_65 hl (by decide) rfl (fun ls hl => ?_)
    refine lv_iconst (v := -1) hx hb dX3_crosses_67 (by decide) ?_
    refine lv_istore (lv' := [(5, .int (-1 : Int32)), (4, .int (1 : Int32)), (0, .ref (ad 40))]) hx hb dX3_crosses_68 hl (by decide) rfl (fun ls hl => ?_)
    exact hB70 f u (1 : Int32) (-1 : Int32) _ _ _ hm hw (lv_sub hl [2, 1, 0] rfl)
  have hB3 : ∀ (n3 : Nat), ∀ (u : TS) (x1 : Int32) (x2 : Int32) (x3 : Int32) (x4 : Int32) (H : Heap) (locs : List Loc) (ls : Array Slot), m_X3_crosses_3 f n3 u x1 x2 x3 x4 = some u9 → TH D ad dI dJ A s.heap u H locs → lv_has ls 10 [(0, .ref (ad 40)), (1, .int x1), (2, .int x2), (3, .int x3), (4, .int x4)] → W p l e rm_X3_crosses s m args below meth c H locs 0 0 QQ (F0 m 3 ls []) := by
    intro n3
    induction n3 with
    | zero => intro u x1 x2 x3 x4 H locs ls hm hw hl; rw [m_X3_crosses_3] at hm; exact noE hm
    | succ n3 ih3 =>
      intro u x1 x2 x3 x4 H locs ls hm hw hl
      rw [m_X3_crosses_3] at hm
      refine lv_iload hx hb dX3_crosses_3 (lv_at hl 4 rfl) ?_
      refine lv_iconst (v := 3) hx hb dX3_crosses_5 (by decide) ?_
      refine lv_icmp_ge (tgt := 64) hx hb dX3_crosses_6 (by decide) (fun c1 => ?_) (fun c1 => ?_)
      · have hm := ifT hm c1
        exact hB64 u _ _ _ hm hw (lv_sub hl [0] rfl)
      · have hm := ifF hm c1
        refine lv_aload_n hx hb dX3_crosses_9 rfl (lv_at hl 0 rfl) ?_
        refine tg_get C hw 39 (by decide) q1605 rfl dX3_crosses_10 ?_
        refine lv_iload hx hb dX3_crosses_13 (lv_at hl 4 rfl) ?_
        refine lv_iload_n hx hb dX3_crosses_15 rfl (lv_at hl 1 rfl) ?_
        refine lv_i2l hx hb dX3_crosses_16 rfl ?_
        refine lv_aload_n hx hb dX3_crosses_17 rfl (lv_at hl 0 rfl) ?_
        refine tg_get C hw 18 (by decide) q1584 rfl dX3_crosses_18 ?_
        refine lv_iconst (v := 3) hx hb dX3_crosses_21 (by decide) ?_
        refine lv_iload hx hb dX3_crosses_22 (lv_at hl 4 rfl) ?_
        refine lv_imul hx hb dX3_crosses_24 ?_
        obtain ⟨g2, hm⟩ := gdE hm
        refine tg_lald C hw (tp_18 ad dI dJ u) g2 dX3_crosses_25 ?_
        refine lv_lmul hx hb dX3_crosses_26 ?_
        refine lv_iload_n hx hb dX3_crosses_27 rfl (lv_at hl 2 rfl) ?_
        refine lv_i2l hx hb dX3_crosses_28 rfl ?_
        refine lv_aload_n hx hb dX3_crosses_29 rfl (lv_at hl 0 rfl) ?_
        refine tg_get C hw 18 (by decide) q1584 rfl dX3_crosses_30 ?_
        refine lv_iconst (v := 3) hx hb dX3_crosses_33 (by decide) ?_
        refine lv_iload hx hb dX3_crosses_34 (lv_at hl 4 rfl) ?_
        refine lv_imul hx hb dX3_crosses_36 ?_
        refine lv_iconst (v := 1) hx hb dX3_crosses_37 (by decide) ?_
        refine lv_iadd hx hb dX3_crosses_38 ?_
        obtain ⟨g3, hm⟩ := gdE hm
        refine tg_lald C hw (tp_18 ad dI dJ u) g3 dX3_crosses_39 ?_
        refine lv_lmul hx hb dX3_crosses_40 ?_
        refine lv_ladd hx hb dX3_crosses_41 ?_
        refine lv_iload_n hx hb dX3_crosses_42 rfl (lv_at hl 3 rfl) ?_
        refine lv_i2l hx hb dX3_crosses_43 rfl ?_
        refine lv_aload_n hx hb dX3_crosses_44 rfl (lv_at hl 0 rfl) ?_
        refine tg_get C hw 18 (by decide) q1584 rfl dX3_crosses_45 ?_
        refine lv_iconst (v := 3) hx hb dX3_crosses_48 (by decide) ?_
        refine lv_iload hx hb dX3_crosses_49 (lv_at hl 4 rfl) ?_
        refine lv_imul hx hb dX3_crosses_51 ?_
        refine lv_iconst (v := 2) hx hb dX3_crosses_52 (by decide) ?_
        refine lv_iadd hx hb dX3_crosses_53 ?_
        obtain ⟨g4, hm⟩ := gdE hm
        refine tg_lald C hw (tp_18 ad dI dJ u) g4 dX3_crosses_54 ?_
        refine lv_lmul hx hb dX3_crosses_55 ?_
        refine lv_ladd hx hb dX3_crosses_56 ?_
        obtain ⟨g5, hm⟩ := gdE hm
        refine tg_last C hw (tp_39 ad dI dJ u) g5 (ts_39 ad dI dJ u _ _) dX3_crosses_57 (fun H locs hw => ?_)
        obtain ⟨u6, eu6, hm⟩ := nmE hm
        rw [← eu6] at hw
        obtain ⟨v7, ev7, hm⟩ := nmE hm
        refine lv_iinc (v := v7) (lv' := [(4, .int v7), (0, .ref (ad 40)), (1, .int x1), (2, .int x2), (3, .int x3)]) hx hb dX3_crosses_58 hl (k := 4) rfl (by rw [ev7]; rfl) (by decide) rfl (fun ls hl => ?_)
        refine lv_goto (tgt := 3) hx hb dX3_crosses_61 (by decide) ?_
        exact ih3 u6 x1 x2 x3 v7 _ _ _ hm hw (lv_sub hl [1, 2, 3, 4, 0] rfl)
  rw [m_X3_crosses] at hm
  refine lv_iconst (v := 0) hx hb dX3_crosses_0 (by decide) ?_
  refine lv_istore (lv' := [(4, .int (0 : Int32)), (0, .ref (ad 40)), (1, .int x1), (2, .int x2), (3, .int x3)]) hx hb dX3_crosses_1 hl (by decide) rfl (fun ls hl => ?_)
  exact hB3 f u x1 x2 x3 (0 : Int32) _ _ _ hm hw (lv_sub hl [1, 2, 3, 4, 0] rfl)
def m_X3_area_29 (f : Nat) (u : TS) : Option (Int64 × TS) := some ((-2 : Int64), u)
def m_X3_area (f : Nat) (u : TS) (x1 : Int32) (x2 : Int32) (x3 : Int32) (x4 : Int32) (x5 : Int32) : Option (Int64 × TS) := bd2 (m_X3_isLattice f u x1) fun r2 u1 =>
    if r2 = 0 then
    m_X3_area_29 f u1
    else bd (m_X3_isPlane f x2 x3 x4) fun r4 =>
    if r4 = 0 then
    m_X3_area_29 f u1
    else bd (m_X3_in f (Int32.toInt64 x5) (0 : Int64) (1 : Int64)) fun r6 =>
    if ¬ r6 = 0 then
    bd (m_X3_laysShort f u1 x1) fun u8 =>
    nmv (((tL u8 19) * (tL u8 19)) : Int64) fun v9 =>
    bd (m_X3_crosses f u8 x2 x3 x4) fun u10 =>
    nmv (((((tB u10 38 (Int32.toNatClampNeg (0 : Int32))) * (tB u10 38 (Int32.toNatClampNeg (0 : Int32)))) + ((tB u10 38 (Int32.toNatClampNeg (1 : Int32))) * (tB u10 38 (Int32.toNatClampNeg (1 : Int32))))) + ((tB u10 38 (Int32.toNatClampNeg (2 : Int32))) * (tB u10 38 (Int32.toNatClampNeg (2 : Int32))))) : Int64) fun v11 =>
    bd (m_X3_part f v11 (v9 * v9) x5) fun r12 =>
    some (r12, u10)
    else m_X3_area_29 f u1
abbrev rm_X3_area : Room := { frames := 6, cells := 0, slots := 0, locals := 145 }
theorem cw_X3_area {R : Room} {s : State} {args : Array Value} {own : String} {idx : Nat} (hts : ∀ w ∈ lw_all, w.before args s = true) (hl : Cond.methodLink own idx yX3_area ∈ lw_all) (hR : rm_X3_area.frames + 1 ≤ R.frames ∧ 8 + (10 + 11) + rm_X3_area.locals ≤ R.locals) : CallW R s args own RX3 idx yX3_area cX3_area 10 (Option.some Jvm.ClassFile.FieldType.long) (ws_ yX3_area cX3_area 10 (Option.some Jvm.ClassFile.FieldType.long)) rm_X3_area 0 0 5 := cwV 5 hts (lw_V hl q2092 q2093 q125 q2094) rfl rfl rfl (by decide +kernel) hR
set_option maxHeartbeats 4000000 in
set_option maxRecDepth 100000 in
theorem w_X3_area (l : Launch) {D : va_G} {ad : Nat → Nat} {dI dJ : ClassId} {A : Nat → Prop} {f : Nat} {u u9 : TS} {r0 : Int64} {x1 : Int32} {x2 : Int32} {x3 : Int32} {x4 : Int32} {x5 : Int32} (hm : m_X3_area f u x1 x2 x3 x4 x5 = some (r0, u9)) : Met l yX3_area (ws_ yX3_area cX3_area 10 (Option.some Jvm.ClassFile.FieldType.long)) rm_X3_area (va_Pc [.ref (ad 40), .int x1, .int x2, .int x3, .int x4, .int x5] (TPre D ad dI dJ A u)) (va_Ql (fun r u => r = r0 ∧ u = u9) (TPost D ad dI dJ A) A) 0 0 A := by
  refine Met.ofW (cc := cX3_area) (maxL := 10) (ret := (Option.some Jvm.ClassFile.FieldType.long)) (by decide) rfl ?_
  intro p e s m args below meth c s₁ B hml hv
  have hx := B.exec
  have hb := B.bytes
  have hr := B.returns
  have hts := atoms_spec (ws := (ws_ yX3_area cX3_area 10 (Option.some Jvm.ClassFile.FieldType.long))) B.pre
  have hts : ∀ w ∈ lw_all, w.before args s = true := fun w h => hts w (List.mem_cons_of_mem _ h)
  have hown : s.vm.findClass RX3 = some m.cls := findClass_of_methodNamed B.named
  have hlocks := B.notSynchronized
  obtain ⟨hav, hv⟩ := hv
  have C : TC p s m args c cX3_area D dI dJ := ⟨hx, hb, hown, hts, hv.2.1⟩
  have hw : TH D ad dI dJ A s.heap u s.heap [] := ⟨hv.1, hv.2.2.1, va_S.rf, hv.2.2.2⟩
  generalize hQ : MQ below (va_Ql (fun r u => r = r0 ∧ u = u9) (TPost D ad dI dJ A) A) args s 0 0 A = QQ
  have hent := lg_entry_eq m [.ref (ad 40), .int x1, .int x2, .int x3, .int x4, .int x5] 10
  rw [← hav] at hent
  rw [hent]
  have hl := lv_entry ([.ref (ad 40), .int x1, .int x2, .int x3, .int x4, .int x5]) (n := 10) (Nat.le_of_ble_eq_true rfl)
  generalize (lg_sl ([.ref (ad 40), .int x1, .int x2, .int x3, .int x4, .int x5]) ++ List.replicate (10 - (lg_sl ([.ref (ad 40), .int x1, .int x2, .int x3, .int x4, .int x5])).length) Slot.unset).toArray = ls at hl ⊢
  have hl : lv_has ls 10 [(0, .ref (ad 40)), (1, .int x1), (2, .int x2), (3, .int x3), (4, .int x4), (5, .int x5)] := hl
  change W p l e rm_X3_area s m args below meth c s.heap [] 0 0 QQ (F0 m 0 ls [])
  have hB29 : ∀ (u : TS) (H : Heap) (locs : List Loc) (ls : Array Slot), m_X3_area_29 f u = some (r0, u9) → TH D ad dI dJ A s.heap u H locs → lv_has ls 10 [] → W p l e rm_X3_area s m args below meth c H locs 0 0 QQ (F0 m 29 ls []) := by
    intro u H locs ls hm hw hl
    rw [m_X3_area_29] at hm
    refine lv_ldc2 hx hb hown (hts _ q1871) dX3_area_29 ?_
    rw [← hQ]
    exact W.lret (v := (-2 : Int64)) hx hb hr (fun t ht hW => ⟨⟨(-2 : Int64), u, rfl, retE hm, by rw [ht]; exact hw.1, hw.2.1⟩, hw.2.2.1.F ht⟩) hw.2.2.1.2.2 dX3_area_32
  rw [m_X3_area] at hm
  refine lv_aload_n hx hb dX3_area_0 rfl (lv_at hl 0 rfl) ?_
  refine lv_iload_n hx hb dX3_area_1 rfl (lv_at hl 1 rfl) ?_
  obtain ⟨r2, u1, er2, hm⟩ := bd2E hm
  refine tg_calli hw (va_runV (As := [.int x1]) (rest := []) ⟨hx, hb, hml, hown, hts⟩ (w_X3_isLattice l er2) (cw_X3_isLattice hts q1796 ⟨Nat.le_of_ble_eq_true rfl, Nat.le_of_ble_eq_true rfl⟩) (tg_pre C hw _) rfl rfl hl.1 rfl (lv_room (Nat.le_of_ble_eq_true rfl)) dX3_area_2 ⟨Nat.le_of_ble_eq_true rfl, Nat.le_of_ble_eq_true rfl⟩) (fun H locs hw => ?_)
  refine lv_if_eq (tgt := 29) hx hb dX3_area_5 (by decide) (fun c3 => ?_) (fun c3 => ?_)
  · have hm := ifT hm c3
    exact hB29 u1 _ _ _ hm hw (lv_sub hl [] rfl)
  · have hm := ifF hm c3
    refine lv_iload_n hx hb dX3_area_8 rfl (lv_at hl 2 rfl) ?_
    refine lv_iload_n hx hb dX3_area_9 rfl (lv_at hl 3 rfl) ?_
    refine lv_iload hx hb dX3_area_10 (lv_at hl 4 rfl) ?_
    obtain ⟨r4, er4, hm⟩ := bdE hm
    refine sci (va_runS (As := [.int x2, .int x3, .int x4]) (rest := []) ⟨hx, hb, hml, hown, hts⟩ (w_X3_isPlane l er4) (cw_X3_isPlane hts q2095 ⟨Nat.le_of_ble_eq_true rfl, Nat.le_of_ble_eq_true rfl⟩) (pre_s _) rfl rfl hl.1 rfl (lv_room (Nat.le_of_ble_eq_true rfl)) dX3_area_12 ⟨Nat.le_of_ble_eq_true rfl, Nat.le_of_ble_eq_true rfl⟩) ?_
    refine lv_if_eq (tgt := 29) hx hb dX3_area_15 (by decide) (fun c5 => ?_) (fun c5 => ?_)
    · have hm := ifT hm c5
      exact hB29 u1 _ _ _ hm hw (lv_sub hl [] rfl)
    · have hm := ifF hm c5
      refine lv_iload hx hb dX3_area_18 (lv_at hl 5 rfl) ?_
      refine lv_i2l hx hb dX3_area_20 rfl ?_
      refine lv_lconst (v := 0) hx hb dX3_area_21 (by decide) ?_
      refine lv_lconst (v := 1) hx hb dX3_area_22 (by decide) ?_
      obtain ⟨r6, er6, hm⟩ := bdE hm
      refine sci (va_runS (As := [.long (Int32.toInt64 x5), .long (0 : Int64), .long (1 : Int64)]) (rest := []) ⟨hx, hb, hml, hown, hts⟩ (w_X3_in l er6) (cw_X3_in hts q1695 ⟨Nat.le_of_ble_eq_true rfl, Nat.le_of_ble_eq_true rfl⟩) (pre_s _) rfl rfl hl.1 rfl (lv_room (Nat.le_of_ble_eq_true rfl)) dX3_area_23 ⟨Nat.le_of_ble_eq_true rfl, Nat.le_of_ble_eq_true rfl⟩) ?_
      refine lv_if_ne (tgt := 33) hx hb dX3_area_26 (by decide) (fun c7 => ?_) (fun c7 => ?_)
      · have hm := ifT hm c7
        refine lv_aload_n hx hb dX3_area_33 rfl (lv_at hl 0 rfl) ?_
        refine lv_iload_n hx hb dX3_area_34 rfl (lv_at hl 1 rfl) ?_
        obtain ⟨u8, eu8, hm⟩ := bdE hm
        refine tg_callv hw (va_runV (As := [.int x1]) (rest := []) ⟨hx, hb, hml, hown, hts⟩ (w_X3_laysShort l eu8) (cw_X3_laysShort hts q2043 ⟨Nat.le_of_ble_eq_true rfl, Nat.le_of_ble_eq_true rfl⟩) (tg_pre C hw _) rfl rfl hl.1 rfl (lv_room (Nat.le_of_ble_eq_true rfl)) dX3_area_35 ⟨Nat.le_of_ble_eq_true rfl, Nat.le_of_ble_eq_true rfl⟩) (fun H locs hw => ?_)
        refine lv_aload_n hx hb dX3_area_38 rfl (lv_at hl 0 rfl) ?_
        refine tg_get C hw 19 (by decide) q1585 rfl dX3_area_39 ?_
        refine lv_aload_n hx hb dX3_area_42 rfl (lv_at hl 0 rfl) ?_
        refine tg_get C hw 19 (by decide) q1585 rfl dX3_area_43 ?_
        refine lv_lmul hx hb dX3_area_46 ?_
        refine lv_topl (fun v9 ev9 => ?_)
        have hm := nmK hm ev9
        refine lv_lstore (lv' := [(6, .long v9), (0, .ref (ad 40)), (1, .int x1), (2, .int x2), (3, .int x3), (4, .int x4), (5, .int x5)]) hx hb dX3_area_47 hl (by decide) rfl (fun ls hl => ?_)
        refine lv_aload_n hx hb dX3_area_49 rfl (lv_at hl 1 rfl) ?_
        refine lv_iload_n hx hb dX3_area_50 rfl (lv_at hl 3 rfl) ?_
        refine lv_iload_n hx hb dX3_area_51 rfl (lv_at hl 4 rfl) ?_
        refine lv_iload hx hb dX3_area_52 (lv_at hl 5 rfl) ?_
        obtain ⟨u10, eu10, hm⟩ := bdE hm
        refine tg_callv hw (va_runV (As := [.int x2, .int x3, .int x4]) (rest := []) ⟨hx, hb, hml, hown, hts⟩ (w_X3_crosses l eu10) (cw_X3_crosses hts q2100 ⟨Nat.le_of_ble_eq_true rfl, Nat.le_of_ble_eq_true rfl⟩) (tg_pre C hw _) rfl rfl hl.1 rfl (lv_room (Nat.le_of_ble_eq_true rfl)) dX3_area_54 ⟨Nat.le_of_ble_eq_true rfl, Nat.le_of_ble_eq_true rfl⟩) (fun H locs hw => ?_)
        refine lv_aload_n hx hb dX3_area_57 rfl (lv_at hl 1 rfl) ?_
        refine tg_get C hw 38 (by decide) q1604 rfl dX3_area_58 ?_
        refine lv_iconst (v := 0) hx hb dX3_area_61 (by decide) ?_
        refine tg_lald C hw (tp_38 ad dI dJ u10) (by decide) dX3_area_62 ?_
        refine lv_aload_n hx hb dX3_area_63 rfl (lv_at hl 1 rfl) ?_
        refine tg_get C hw 38 (by decide) q1604 rfl dX3_area_64 ?_
        refine lv_iconst (v := 0) hx hb dX3_area_67 (by decide) ?_
        refine tg_lald C hw (tp_38 ad dI dJ u10) (by decide) dX3_area_68 ?_
        refine lv_lmul hx hb dX3_area_69 ?_
        refine lv_aload_n hx hb dX3_area_70 rfl (lv_at hl 1 rfl) ?_
        refine tg_get C hw 38 (by decide) q1604 rfl dX3_area_71 ?_
        refine lv_iconst (v := 1) hx hb dX3_area_74 (by decide) ?_
        refine tg_lald C hw (tp_38 ad dI dJ u10) (by decide) dX3_area_75 ?_
        refine lv_aload_n hx hb dX3_area_76 rfl (lv_at hl 1 rfl) ?_
        refine tg_get C hw 38 (by decide) q1604 rfl dX3_area_77 ?_
        refine lv_iconst (v := 1) hx hb dX3_area_80 (by decide) ?_
        refine tg_lald C hw (tp_38 ad dI dJ u10) (by decide) dX3_area_81 ?_
        refine lv_lmul hx hb dX3_area_82 ?_
        refine lv_ladd hx hb dX3_area_83 ?_
        refine lv_aload_n hx hb dX3_area_84 rfl (lv_at hl 1 rfl) ?_
        refine tg_get C hw 38 (by decide) q1604 rfl dX3_area_85 ?_
        refine lv_iconst (v := 2) hx hb dX3_area_88 (by decide) ?_
        refine tg_lald C hw (tp_38 ad dI dJ u10) (by decide) dX3_area_89 ?_
        refine lv_aload_n hx hb dX3_area_90 rfl (lv_at hl 1 rfl) ?_
        refine tg_get C hw 38 (by decide) q1604 rfl dX3_area_91 ?_
        refine lv_iconst (v := 2) hx hb dX3_area_94 (by decide) ?_
        refine tg_lald C hw (tp_38 ad dI dJ u10) (by decide) dX3_area_95 ?_
        refine lv_lmul hx hb dX3_area_96 ?_
        refine lv_ladd hx hb dX3_area_97 ?_
        refine lv_topl (fun v11 ev11 => ?_)
        have hm := nmK hm ev11
        refine lv_lstore (lv' := [(8, .long v11), (6, .long v9), (0, .ref (ad 40)), (1, .int x1), (2, .int x2), (3, .int x3), (4, .int x4), (5, .int x5)]) hx hb dX3_area_98 hl (by decide) rfl (fun ls hl => ?_)
        refine lv_lload hx hb dX3_area_100 (lv_at hl 0 rfl) ?_
        refine lv_lload hx hb dX3_area_102 (lv_at hl 1 rfl) ?_
        refine lv_lload hx hb dX3_area_104 (lv_at hl 1 rfl) ?_
        refine lv_lmul hx hb dX3_area_106 ?_
        refine lv_iload hx hb dX3_area_107 (lv_at hl 7 rfl) ?_
        obtain ⟨r12, er12, hm⟩ := bdE hm
        refine scl (va_runS (As := [.long v11, .long (v9 * v9), .int x5]) (rest := []) ⟨hx, hb, hml, hown, hts⟩ (w_X3_part l er12) (cw_X3_part hts q1876 ⟨Nat.le_of_ble_eq_true rfl, Nat.le_of_ble_eq_true rfl⟩) (pre_s _) rfl rfl hl.1 rfl (lv_room (Nat.le_of_ble_eq_true rfl)) dX3_area_109 ⟨Nat.le_of_ble_eq_true rfl, Nat.le_of_ble_eq_true rfl⟩) ?_
        rw [← hQ]
        exact W.lret (v := r12) hx hb hr (fun t ht hW => ⟨⟨r12, u10, rfl, retE hm, by rw [ht]; exact hw.1, hw.2.1⟩, hw.2.2.1.F ht⟩) hw.2.2.1.2.2 dX3_area_112
      · have hm := ifT' hm c7
        exact hB29 u1 _ _ _ hm hw (lv_sub hl [] rfl)
def m_X3_whyNoPlane_33 (f : Nat) (u : TS) (y0 : Int32) : Option (Int32 × TS) := some (y0, u)
def m_X3_whyNoPlane_26 (f : Nat) (u : TS) : Option (Int32 × TS) := m_X3_whyNoPlane_33 f u (-2 : Int32)
def m_X3_whyNoPlane (f : Nat) (u : TS) (x1 : Int32) (x2 : Int32) (x3 : Int32) (x4 : Int32) (x5 : Int32) : Option (Int32 × TS) := bd2 (m_X3_whyNot f u x1 x2) fun r2 u1 =>
    if r2 = (-2 : Int32) then
    m_X3_whyNoPlane_26 f u1
    else bd (m_X3_isPlane f x3 x4 x5) fun r4 =>
    if ¬ r4 = 0 then
    m_X3_whyNoPlane_33 f u1 r2
    else m_X3_whyNoPlane_26 f u1
abbrev rm_X3_whyNoPlane : Room := { frames := 3, cells := 0, slots := 0, locals := 68 }
theorem cw_X3_whyNoPlane {R : Room} {s : State} {args : Array Value} {own : String} {idx : Nat} (hts : ∀ w ∈ lw_all, w.before args s = true) (hl : Cond.methodLink own idx yX3_whyNoPlane ∈ lw_all) (hR : rm_X3_whyNoPlane.frames + 1 ≤ R.frames ∧ 8 + (7 + 11) + rm_X3_whyNoPlane.locals ≤ R.locals) : CallW R s args own RX3 idx yX3_whyNoPlane cX3_whyNoPlane 7 (Option.some Jvm.ClassFile.FieldType.int) (ws_ yX3_whyNoPlane cX3_whyNoPlane 7 (Option.some Jvm.ClassFile.FieldType.int)) rm_X3_whyNoPlane 0 0 5 := cwV 5 hts (lw_V hl q2110 qs110 q125 q2111) rfl rfl rfl (by decide +kernel) hR
set_option maxHeartbeats 4000000 in
set_option maxRecDepth 100000 in
theorem w_X3_whyNoPlane (l : Launch) {D : va_G} {ad : Nat → Nat} {dI dJ : ClassId} {A : Nat → Prop} {f : Nat} {u u9 : TS} {r0 : Int32} {x1 : Int32} {x2 : Int32} {x3 : Int32} {x4 : Int32} {x5 : Int32} (hm : m_X3_whyNoPlane f u x1 x2 x3 x4 x5 = some (r0, u9)) : Met l yX3_whyNoPlane (ws_ yX3_whyNoPlane cX3_whyNoPlane 7 (Option.some Jvm.ClassFile.FieldType.int)) rm_X3_whyNoPlane (va_Pc [.ref (ad 40), .int x1, .int x2, .int x3, .int x4, .int x5] (TPre D ad dI dJ A u)) (va_Qi (fun r u => r = r0 ∧ u = u9) (TPost D ad dI dJ A) A) 0 0 A := by
  refine Met.ofW (cc := cX3_whyNoPlane) (maxL := 7) (ret := (Option.some Jvm.ClassFile.FieldType.int)) (by decide) rfl ?_
  intro p e s m args below meth c s₁ B hml hv
  have hx := B.exec
  have hb := B.bytes
  have hr := B.returns
  have hts := atoms_spec (ws := (ws_ yX3_whyNoPlane cX3_whyNoPlane 7 (Option.some Jvm.ClassFile.FieldType.int))) B.pre
  have hts : ∀ w ∈ lw_all, w.before args s = true := fun w h => hts w (List.mem_cons_of_mem _ h)
  have hown : s.vm.findClass RX3 = some m.cls := findClass_of_methodNamed B.named
  have hlocks := B.notSynchronized
  obtain ⟨hav, hv⟩ := hv
  have C : TC p s m args c cX3_whyNoPlane D dI dJ := ⟨hx, hb, hown, hts, hv.2.1⟩
  have hw : TH D ad dI dJ A s.heap u s.heap [] := ⟨hv.1, hv.2.2.1, va_S.rf, hv.2.2.2⟩
  generalize hQ : MQ below (va_Qi (fun r u => r = r0 ∧ u = u9) (TPost D ad dI dJ A) A) args s 0 0 A = QQ
  have hent := lg_entry_eq m [.ref (ad 40), .int x1, .int x2, .int x3, .int x4, .int x5] 7
  rw [← hav] at hent
  rw [hent]
  have hl := lv_entry ([.ref (ad 40), .int x1, .int x2, .int x3, .int x4, .int x5]) (n := 7) (Nat.le_of_ble_eq_true rfl)
  generalize (lg_sl ([.ref (ad 40), .int x1, .int x2, .int x3, .int x4, .int x5]) ++ List.replicate (7 - (lg_sl ([.ref (ad 40), .int x1, .int x2, .int x3, .int x4, .int x5])).length) Slot.unset).toArray = ls at hl ⊢
  have hl : lv_has ls 7 [(0, .ref (ad 40)), (1, .int x1), (2, .int x2), (3, .int x3), (4, .int x4), (5, .int x5)] := hl
  change W p l e rm_X3_whyNoPlane s m args below meth c s.heap [] 0 0 QQ (F0 m 0 ls [])
  have hB33 : ∀ (u : TS) (y0 : Int32) (H : Heap) (locs : List Loc) (ls : Array Slot), m_X3_whyNoPlane_33 f u y0 = some (r0, u9) → TH D ad dI dJ A s.heap u H locs → lv_has ls 7 [] → W p l e rm_X3_whyNoPlane s m args below meth c H locs 0 0 QQ (F0 m 33 ls [.int y0]) := by
    intro u y0 H locs ls hm hw hl
    rw [m_X3_whyNoPlane_33] at hm
    rw [← hQ]
    exact W.iret (v := y0) hx hb hr (fun t ht hW => ⟨⟨y0, u, rfl, retE hm, by rw [ht]; exact hw.1, hw.2.1⟩, hw.2.2.1.F ht⟩) hw.2.2.1.2.2 dX3_whyNoPlane_33
  have hB26 : ∀ (u : TS) (H : Heap) (locs : List Loc) (ls : Array Slot), m_X3_whyNoPlane_26 f u = some (r0, u9) → TH D ad dI dJ A s.heap u H locs → lv_has ls 7 [] → W p l e rm_X3_whyNoPlane s m args below meth c H locs 0 0 QQ (F0 m 26 ls []) := by
    intro u H locs ls hm hw hl
    rw [m_X3_whyNoPlane_26] at hm
    refine lv_bipush (v := -2) hx hb dX3_whyNoPlane_26 (by decide) ?_
    refine lv_goto (tgt := 33) hx hb dX3_whyNoPlane_28 (by decide) ?_
    exact hB33 u (-2 : Int32) _ _ _ hm hw (lv_sub hl [] rfl)
  rw [m_X3_whyNoPlane] at hm
  refine lv_aload_n hx hb dX3_whyNoPlane_0 rfl (lv_at hl 0 rfl) ?_
  refine lv_iload_n hx hb dX3_whyNoPlane_1 rfl (lv_at hl 1 rfl) ?_
  refine lv_iload_n hx hb dX3_whyNoPlane_2 rfl (lv_at hl 2 rfl) ?_
  obtain ⟨r2, u1, er2, hm⟩ := bd2E hm
  refine tg_calli hw (va_runV (As := [.int x1, .int x2]) (rest := []) ⟨hx, hb, hml, hown, hts⟩ (w_X3_whyNot l er2) (cw_X3_whyNot hts q1909 ⟨Nat.le_of_ble_eq_true rfl, Nat.le_of_ble_eq_true rfl⟩) (tg_pre C hw _) rfl rfl hl.1 rfl (lv_room (Nat.le_of_ble_eq_true rfl)) dX3_whyNoPlane_3 ⟨Nat.le_of_ble_eq_true rfl, Nat.le_of_ble_eq_true rfl⟩) (fun H locs hw => ?_)
  refine lv_istore (lv' := [(6, .int r2), (0, .ref (ad 40)), (1, .int x1), (2, .int x2), (3, .int x3), (4, .int x4), (5, .int x5)]) hx hb dX3_whyNoPlane_6 hl (by decide) rfl (fun ls hl => ?_)
  refine lv_iload hx hb dX3_whyNoPlane_8 (lv_at hl 0 rfl) ?_
  refine lv_bipush (v := -2) hx hb dX3_whyNoPlane_10 (by decide) ?_
  refine lv_icmp_eq (tgt := 26) hx hb dX3_whyNoPlane_12 (by decide) (fun c3 => ?_) (fun c3 => ?_)
  · have hm := ifT hm c3
    exact hB26 u1 _ _ _ hm hw (lv_sub hl [] rfl)
  · have hm := ifF hm c3
    refine lv_iload_n hx hb dX3_whyNoPlane_15 rfl (lv_at hl 4 rfl) ?_
    refine lv_iload hx hb dX3_whyNoPlane_16 (lv_at hl 5 rfl) ?_
    refine lv_iload hx hb dX3_whyNoPlane_18 (lv_at hl 6 rfl) ?_
    obtain ⟨r4, er4, hm⟩ := bdE hm
    refine sci (va_runS (As := [.int x3, .int x4, .int x5]) (rest := []) ⟨hx, hb, hml, hown, hts⟩ (w_X3_isPlane l er4) (cw_X3_isPlane hts q2095 ⟨Nat.le_of_ble_eq_true rfl, Nat.le_of_ble_eq_true rfl⟩) (pre_s _) rfl rfl hl.1 rfl (lv_room (Nat.le_of_ble_eq_true rfl)) dX3_whyNoPlane_20 ⟨Nat.le_of_ble_eq_true rfl, Nat.le_of_ble_eq_true rfl⟩) ?_
    refine lv_if_ne (tgt := 31) hx hb dX3_whyNoPlane_23 (by decide) (fun c5 => ?_) (fun c5 => ?_)
    · have hm := ifT hm c5
      refine lv_iload hx hb dX3_whyNoPlane_31 (lv_at hl 0 rfl) ?_
      exact hB33 u1 r2 _ _ _ hm hw (lv_sub hl [] rfl)
    · have hm := ifT' hm c5
      exact hB26 u1 _ _ _ hm hw (lv_sub hl [] rfl)
def m_X3_someCrossed (f : Nat) (u : TS) (x1 : Int32) : Option (Int64 × TS) := gd (ix x1 3) <|
    bd (m_X3_sized f (tB u 38 (Int32.toNatClampNeg x1))) fun r2 =>
    some (r2, u)
abbrev rm_X3_someCrossed : Room := { frames := 1, cells := 0, slots := 0, locals := 21 }
theorem cw_X3_someCrossed {R : Room} {s : State} {args : Array Value} {own : String} {idx : Nat} (hts : ∀ w ∈ lw_all, w.before args s = true) (hl : Cond.methodLink own idx yX3_someCrossed ∈ lw_all) (hR : rm_X3_someCrossed.frames + 1 ≤ R.frames ∧ 8 + (2 + 11) + rm_X3_someCrossed.locals ≤ R.locals) : CallW R s args own RX3 idx yX3_someCrossed cX3_someCrossed 2 (Option.some Jvm.ClassFile.FieldType.long) (ws_ yX3_someCrossed cX3_someCrossed 2 (Option.some Jvm.ClassFile.FieldType.long)) rm_X3_someCrossed 0 0 1 := cwV 1 hts (lw_V hl q2118 qs112 q125 q2119) rfl rfl rfl (by decide +kernel) hR
set_option maxHeartbeats 4000000 in
set_option maxRecDepth 100000 in
theorem w_X3_someCrossed (l : Launch) {D : va_G} {ad : Nat → Nat} {dI dJ : ClassId} {A : Nat → Prop} {f : Nat} {u u9 : TS} {r0 : Int64} {x1 : Int32} (hm : m_X3_someCrossed f u x1 = some (r0, u9)) : Met l yX3_someCrossed (ws_ yX3_someCrossed cX3_someCrossed 2 (Option.some Jvm.ClassFile.FieldType.long)) rm_X3_someCrossed (va_Pc [.ref (ad 40), .int x1] (TPre D ad dI dJ A u)) (va_Ql (fun r u => r = r0 ∧ u = u9) (TPost D ad dI dJ A) A) 0 0 A := by
  refine Met.ofW (cc := cX3_someCrossed) (maxL := 2) (ret := (Option.some Jvm.ClassFile.FieldType.long)) (by decide) rfl ?_
  intro p e s m args below meth c s₁ B hml hv
  have hx := B.exec
  have hb := B.bytes
  have hr := B.returns
  have hts := atoms_spec (ws := (ws_ yX3_someCrossed cX3_someCrossed 2 (Option.some Jvm.ClassFile.FieldType.long))) B.pre
  have hts : ∀ w ∈ lw_all, w.before args s = true := fun w h => hts w (List.mem_cons_of_mem _ h)
  have hown : s.vm.findClass RX3 = some m.cls := findClass_of_methodNamed B.named
  have hlocks := B.notSynchronized
  obtain ⟨hav, hv⟩ := hv
  have C : TC p s m args c cX3_someCrossed D dI dJ := ⟨hx, hb, hown, hts, hv.2.1⟩
  have hw : TH D ad dI dJ A s.heap u s.heap [] := ⟨hv.1, hv.2.2.1, va_S.rf, hv.2.2.2⟩
  generalize hQ : MQ below (va_Ql (fun r u => r = r0 ∧ u = u9) (TPost D ad dI dJ A) A) args s 0 0 A = QQ
  have hent := lg_entry_eq m [.ref (ad 40), .int x1] 2
  rw [← hav] at hent
  rw [hent]
  have hl := lv_entry ([.ref (ad 40), .int x1]) (n := 2) (Nat.le_of_ble_eq_true rfl)
  generalize (lg_sl ([.ref (ad 40), .int x1]) ++ List.replicate (2 - (lg_sl ([.ref (ad 40), .int x1])).length) Slot.unset).toArray = ls at hl ⊢
  have hl : lv_has ls 2 [(0, .ref (ad 40)), (1, .int x1)] := hl
  change W p l e rm_X3_someCrossed s m args below meth c s.heap [] 0 0 QQ (F0 m 0 ls [])
  rw [m_X3_someCrossed] at hm
  refine lv_aload_n hx hb dX3_someCrossed_0 rfl (lv_at hl 0 rfl) ?_
  refine tg_get C hw 38 (by decide) q1604 rfl dX3_someCrossed_1 ?_
  refine lv_iload_n hx hb dX3_someCrossed_4 rfl (lv_at hl 1 rfl) ?_
  obtain ⟨g1, hm⟩ := gdE hm
  refine tg_lald C hw (tp_38 ad dI dJ u) g1 dX3_someCrossed_5 ?_
  obtain ⟨r2, er2, hm⟩ := bdE hm
  refine scl (va_runS (As := [.long (tB u 38 (Int32.toNatClampNeg x1))]) (rest := []) ⟨hx, hb, hml, hown, hts⟩ (w_X3_sized l er2) (cw_X3_sized hts q1772 ⟨Nat.le_of_ble_eq_true rfl, Nat.le_of_ble_eq_true rfl⟩) (pre_s _) rfl rfl hl.1 rfl (lv_room (Nat.le_of_ble_eq_true rfl)) dX3_someCrossed_6 ⟨Nat.le_of_ble_eq_true rfl, Nat.le_of_ble_eq_true rfl⟩) ?_
  rw [← hQ]
  exact W.lret (v := r2) hx hb hr (fun t ht hW => ⟨⟨r2, u, rfl, retE hm, by rw [ht]; exact hw.1, hw.2.1⟩, hw.2.2.1.F ht⟩) hw.2.2.1.2.2 dX3_someCrossed_9
def m_X3_planarOf_35 (f : Nat) (u : TS) (x1 : Int32) (x2 : Int32) (x3 : Int32) (x4 : Int32) (x5 : Int32) (x6 : Int32) : Option (Int64 × TS) := bd2 (m_X3_someCrossed f u x6) fun r2 u1 =>
    nmv (((tL u1 19) * (tL u1 19)) : Int64) fun v3 =>
    bd (m_X3_meets f u1 x1 x2) fun u4 =>
    bd (m_X3_shortens f u4) fun u5 =>
    bd (m_X3_crosses f u5 x3 x4 x5) fun u6 =>
    bd2 (m_X3_someCrossed f u6 x6) fun r8 u7 =>
    nmv ((r8 * v3) : Int64) fun v9 =>
    nmv (((r2 * (tL u7 19)) * (tL u7 19)) : Int64) fun v10 =>
    gd (nzL v10) <|
    some ((v9 / v10), u7)
def m_X3_planarOf_17 (f : Nat) : Nat → TS → Int32 → Int32 → Int32 → Int32 → Int32 → Int32 → Option (Int64 × TS)
  | 0, _, _, _, _, _, _, _ => none
  | n17 + 1, u, x1, x2, x3, x4, x5, x6 => gd (ix x6 3) <|
    if ¬ (tB u 38 (Int32.toNatClampNeg x6)) = (0 : Int64) then
    m_X3_planarOf_35 f u x1 x2 x3 x4 x5 x6
    else nmv ((x6 + 1) : Int32) fun v3 =>
    m_X3_planarOf_17 f n17 u x1 x2 x3 x4 x5 v3
def m_X3_planarOf (f : Nat) (u : TS) (x1 : Int32) (x2 : Int32) (x3 : Int32) (x4 : Int32) (x5 : Int32) : Option (Int64 × TS) := bd (m_X3_laysShort f u x1) fun u1 =>
    bd (m_X3_crosses f u1 x3 x4 x5) fun u2 =>
    m_X3_planarOf_17 f f u2 x1 x2 x3 x4 x5 (0 : Int32)
abbrev rm_X3_planarOf : Room := { frames := 8, cells := 0, slots := 0, locals := 195 }
theorem cw_X3_planarOf {R : Room} {s : State} {args : Array Value} {own : String} {idx : Nat} (hts : ∀ w ∈ lw_all, w.before args s = true) (hl : Cond.methodLink own idx yX3_planarOf ∈ lw_all) (hR : rm_X3_planarOf.frames + 1 ≤ R.frames ∧ 8 + (15 + 11) + rm_X3_planarOf.locals ≤ R.locals) : CallW R s args own RX3 idx yX3_planarOf cX3_planarOf 15 (Option.some Jvm.ClassFile.FieldType.long) (ws_ yX3_planarOf cX3_planarOf 15 (Option.some Jvm.ClassFile.FieldType.long)) rm_X3_planarOf 0 0 5 := cwV 5 hts (lw_V hl q2114 qs111 q125 q2115) rfl rfl rfl (by decide +kernel) hR
set_option maxHeartbeats 4000000 in
set_option maxRecDepth 100000 in
theorem w_X3_planarOf (l : Launch) {D : va_G} {ad : Nat → Nat} {dI dJ : ClassId} {A : Nat → Prop} {f : Nat} {u u9 : TS} {r0 : Int64} {x1 : Int32} {x2 : Int32} {x3 : Int32} {x4 : Int32} {x5 : Int32} (hm : m_X3_planarOf f u x1 x2 x3 x4 x5 = some (r0, u9)) : Met l yX3_planarOf (ws_ yX3_planarOf cX3_planarOf 15 (Option.some Jvm.ClassFile.FieldType.long)) rm_X3_planarOf (va_Pc [.ref (ad 40), .int x1, .int x2, .int x3, .int x4, .int x5] (TPre D ad dI dJ A u)) (va_Ql (fun r u => r = r0 ∧ u = u9) (TPost D ad dI dJ A) A) 0 0 A := by
  refine Met.ofW (cc := cX3_planarOf) (maxL := 15) (ret := (Option.some Jvm.ClassFile.FieldType.long)) (by decide) rfl ?_
  intro p e s m args below meth c s₁ B hml hv
  have hx := B.exec
  have hb := B.bytes
  have hr := B.returns
  have hts := atoms_spec (ws := (ws_ yX3_planarOf cX3_planarOf 15 (Option.some Jvm.ClassFile.FieldType.long))) B.pre
  have hts : ∀ w ∈ lw_all, w.before args s = true := fun w h => hts w (List.mem_cons_of_mem _ h)
  have hown : s.vm.findClass RX3 = some m.cls := findClass_of_methodNamed B.named
  have hlocks := B.notSynchronized
  obtain ⟨hav, hv⟩ := hv
  have C : TC p s m args c cX3_planarOf D dI dJ := ⟨hx, hb, hown, hts, hv.2.1⟩
  have hw : TH D ad dI dJ A s.heap u s.heap [] := ⟨hv.1, hv.2.2.1, va_S.rf, hv.2.2.2⟩
  generalize hQ : MQ below (va_Ql (fun r u => r = r0 ∧ u = u9) (TPost D ad dI dJ A) A) args s 0 0 A = QQ
  have hent := lg_entry_eq m [.ref (ad 40), .int x1, .int x2, .int x3, .int x4, .int x5] 15
  rw [← hav] at hent
  rw [hent]
  have hl := lv_entry ([.ref (ad 40), .int x1, .int x2, .int x3, .int x4, .int x5]) (n := 15) (Nat.le_of_ble_eq_true rfl)
  generalize (lg_sl ([.ref (ad 40), .int x1, .int x2, .int x3, .int x4, .int x5]) ++ List.replicate (15 - (lg_sl ([.ref (ad 40), .int x1, .int x2, .int x3, .int x4, .int x5])).length) Slot.unset).toArray = ls at hl ⊢
  have hl : lv_has ls 15 [(0, .ref (ad 40)), (1, .int x1), (2, .int x2), (3, .int x3), (4, .int x4), (5, .int x5)] := hl
  change W p l e rm_X3_planarOf s m args below meth c s.heap [] 0 0 QQ (F0 m 0 ls [])
  have hB35 : ∀ (u : TS) (x1 : Int32) (x2 : Int32) (x3 : Int32) (x4 : Int32) (x5 : Int32) (x6 : Int32) (H : Heap) (locs : List Loc) (ls : Array Slot), m_X3_planarOf_35 f u x1 x2 x3 x4 x5 x6 = some (r0, u9) → TH D ad dI dJ A s.heap u H locs → lv_has ls 15 [(0, .ref (ad 40)), (1, .int x1), (2, .int x2), (3, .int x3), (4, .int x4), (5, .int x5), (6, .int x6)] → W p l e rm_X3_planarOf s m args below meth c H locs 0 0 QQ (F0 m 35 ls []) := by
    intro u x1 x2 x3 x4 x5 x6 H locs ls hm hw hl
    rw [m_X3_planarOf_35] at hm
    refine lv_aload_n hx hb dX3_planarOf_35 rfl (lv_at hl 0 rfl) ?_
    refine lv_iload hx hb dX3_planarOf_36 (lv_at hl 6 rfl) ?_
    obtain ⟨r2, u1, er2, hm⟩ := bd2E hm
    refine tg_calll hw (va_runV (As := [.int x6]) (rest := []) ⟨hx, hb, hml, hown, hts⟩ (w_X3_someCrossed l er2) (cw_X3_someCrossed hts q2116 ⟨Nat.le_of_ble_eq_true rfl, Nat.le_of_ble_eq_true rfl⟩) (tg_pre C hw _) rfl rfl hl.1 rfl (lv_room (Nat.le_of_ble_eq_true rfl)) dX3_planarOf_38 ⟨Nat.le_of_ble_eq_true rfl, Nat.le_of_ble_eq_true rfl⟩) (fun H locs hw => ?_)
    refine lv_lstore (lv' := [(7, .long r2), (0, .ref (ad 40)), (1, .int x1), (2, .int x2), (3, .int x3), (4, .int x4), (5, .int x5), (6, .int x6)]) hx hb dX3_planarOf_41 hl (by decide) rfl (fun ls hl => ?_)
    refine lv_aload_n hx hb dX3_planarOf_43 rfl (lv_at hl 1 rfl) ?_
    refine tg_get C hw 19 (by decide) q1585 rfl dX3_planarOf_44 ?_
    refine lv_aload_n hx hb dX3_planarOf_47 rfl (lv_at hl 1 rfl) ?_
    refine tg_get C hw 19 (by decide) q1585 rfl dX3_planarOf_48 ?_
    refine lv_lmul hx hb dX3_planarOf_51 ?_
    refine lv_topl (fun v3 ev3 => ?_)
    have hm := nmK hm ev3
    refine lv_lstore (lv' := [(9, .long v3), (7, .long r2), (0, .ref (ad 40)), (1, .int x1), (2, .int x2), (3, .int x3), (4, .int x4), (5, .int x5), (6, .int x6)]) hx hb dX3_planarOf_52 hl (by decide) rfl (fun ls hl => ?_)
    refine lv_aload_n hx hb dX3_planarOf_54 rfl (lv_at hl 2 rfl) ?_
    refine lv_iload_n hx hb dX3_planarOf_55 rfl (lv_at hl 3 rfl) ?_
    refine lv_iload_n hx hb dX3_planarOf_56 rfl (lv_at hl 4 rfl) ?_
    obtain ⟨u4, eu4, hm⟩ := bdE hm
    refine tg_callv hw (va_runV (As := [.int x1, .int x2]) (rest := []) ⟨hx, hb, hml, hown, hts⟩ (w_X3_meets l eu4) (cw_X3_meets hts q1929 ⟨Nat.le_of_ble_eq_true rfl, Nat.le_of_ble_eq_true rfl⟩) (tg_pre C hw _) rfl rfl hl.1 rfl (lv_room (Nat.le_of_ble_eq_true rfl)) dX3_planarOf_57 ⟨Nat.le_of_ble_eq_true rfl, Nat.le_of_ble_eq_true rfl⟩) (fun H locs hw => ?_)
    refine lv_aload_n hx hb dX3_planarOf_60 rfl (lv_at hl 2 rfl) ?_
    obtain ⟨u5, eu5, hm⟩ := bdE hm
    refine tg_callv hw (va_runV (As := []) (rest := []) ⟨hx, hb, hml, hown, hts⟩ (w_X3_shortens l eu5) (cw_X3_shortens hts q2047 ⟨Nat.le_of_ble_eq_true rfl, Nat.le_of_ble_eq_true rfl⟩) (tg_pre C hw _) rfl rfl hl.1 rfl (lv_room (Nat.le_of_ble_eq_true rfl)) dX3_planarOf_61 ⟨Nat.le_of_ble_eq_true rfl, Nat.le_of_ble_eq_true rfl⟩) (fun H locs hw => ?_)
    refine lv_aload_n hx hb dX3_planarOf_64 rfl (lv_at hl 2 rfl) ?_
    refine lv_iload_n hx hb dX3_planarOf_65 rfl (lv_at hl 5 rfl) ?_
    refine lv_iload hx hb dX3_planarOf_66 (lv_at hl 6 rfl) ?_
    refine lv_iload hx hb dX3_planarOf_68 (lv_at hl 7 rfl) ?_
    obtain ⟨u6, eu6, hm⟩ := bdE hm
    refine tg_callv hw (va_runV (As := [.int x3, .int x4, .int x5]) (rest := []) ⟨hx, hb, hml, hown, hts⟩ (w_X3_crosses l eu6) (cw_X3_crosses hts q2100 ⟨Nat.le_of_ble_eq_true rfl, Nat.le_of_ble_eq_true rfl⟩) (tg_pre C hw _) rfl rfl hl.1 rfl (lv_room (Nat.le_of_ble_eq_true rfl)) dX3_planarOf_70 ⟨Nat.le_of_ble_eq_true rfl, Nat.le_of_ble_eq_true rfl⟩) (fun H locs hw => ?_)
    refine lv_aload_n hx hb dX3_planarOf_73 rfl (lv_at hl 2 rfl) ?_
    refine lv_iload hx hb dX3_planarOf_74 (lv_at hl 8 rfl) ?_
    obtain ⟨r8, u7, er8, hm⟩ := bd2E hm
    refine tg_calll hw (va_runV (As := [.int x6]) (rest := []) ⟨hx, hb, hml, hown, hts⟩ (w_X3_someCrossed l er8) (cw_X3_someCrossed hts q2116 ⟨Nat.le_of_ble_eq_true rfl, Nat.le_of_ble_eq_true rfl⟩) (tg_pre C hw _) rfl rfl hl.1 rfl (lv_room (Nat.le_of_ble_eq_true rfl)) dX3_planarOf_76 ⟨Nat.le_of_ble_eq_true rfl, Nat.le_of_ble_eq_true rfl⟩) (fun H locs hw => ?_)
    refine lv_lload hx hb dX3_planarOf_79 (lv_at hl 0 rfl) ?_
    refine lv_lmul hx hb dX3_planarOf_81 ?_
    refine lv_topl (fun v9 ev9 => ?_)
    have hm := nmK hm ev9
    refine lv_lstore (lv' := [(11, .long v9), (9, .long v3), (7, .long r2), (0, .ref (ad 40)), (1, .int x1), (2, .int x2), (3, .int x3), (4, .int x4), (5, .int x5), (6, .int x6)]) hx hb dX3_planarOf_82 hl (by decide) rfl (fun ls hl => ?_)
    refine lv_lload hx hb dX3_planarOf_84 (lv_at hl 2 rfl) ?_
    refine lv_aload_n hx hb dX3_planarOf_86 rfl (lv_at hl 3 rfl) ?_
    refine tg_get C hw 19 (by decide) q1585 rfl dX3_planarOf_87 ?_
    refine lv_lmul hx hb dX3_planarOf_90 ?_
    refine lv_aload_n hx hb dX3_planarOf_91 rfl (lv_at hl 3 rfl) ?_
    refine tg_get C hw 19 (by decide) q1585 rfl dX3_planarOf_92 ?_
    refine lv_lmul hx hb dX3_planarOf_95 ?_
    refine lv_topl (fun v10 ev10 => ?_)
    have hm := nmK hm ev10
    refine lv_lstore (lv' := [(13, .long v10), (11, .long v9), (9, .long v3), (7, .long r2), (0, .ref (ad 40)), (1, .int x1), (2, .int x2), (3, .int x3), (4, .int x4), (5, .int x5), (6, .int x6)]) hx hb dX3_planarOf_96 hl (by decide) rfl (fun ls hl => ?_)
    refine lv_lload hx hb dX3_planarOf_98 (lv_at hl 1 rfl) ?_
    refine lv_lload hx hb dX3_planarOf_100 (lv_at hl 0 rfl) ?_
    obtain ⟨g11, hm⟩ := gdE hm
    refine lv_ldiv hx hb dX3_planarOf_102 (nzL_ne g11) ?_
    rw [← hQ]
    exact W.lret (v := (v9 / v10)) hx hb hr (fun t ht hW => ⟨⟨(v9 / v10), u7, rfl, retE hm, by rw [ht]; exact hw.1, hw.2.1⟩, hw.2.2.1.F ht⟩) hw.2.2.1.2.2 dX3_planarOf_103
  have hB17 : ∀ (n17 : Nat), ∀ (u : TS) (x1 : Int32) (x2 : Int32) (x3 : Int32) (x4 : Int32) (x5 : Int32) (x6 : Int32) (H : Heap) (locs : List Loc) (ls : Array Slot), m_X3_planarOf_17 f n17 u x1 x2 x3 x4 x5 x6 = some (r0, u9) → TH D ad dI dJ A s.heap u H locs → lv_has ls 15 [(0, .ref (ad 40)), (1, .int x1), (2, .int x2), (3, .int x3), (4, .int x4), (5, .int x5), (6, .int x6)] → W p l e rm_X3_planarOf s m args below meth c H locs 0 0 QQ (F0 m 17 ls []) := by
    intro n17
    induction n17 with
    | zero => intro u x1 x2 x3 x4 x5 x6 H locs ls hm hw hl; rw [m_X3_planarOf_17] at hm; exact noE hm
    | succ n17 ih17 =>
      intro u x1 x2 x3 x4 x5 x6 H locs ls hm hw hl
      rw [m_X3_planarOf_17] at hm
      refine lv_aload_n hx hb dX3_planarOf_17 rfl (lv_at hl 0 rfl) ?_
      refine tg_get C hw 38 (by decide) q1604 rfl dX3_planarOf_18 ?_
      refine lv_iload hx hb dX3_planarOf_21 (lv_at hl 6 rfl) ?_
      obtain ⟨g1, hm⟩ := gdE hm
      refine tg_lald C hw (tp_38 ad dI dJ u) g1 dX3_planarOf_23 ?_
      refine lv_lconst (v := 0) hx hb dX3_planarOf_24 (by decide) ?_
      refine lc_ne (tgt := 35) hx hb dX3_planarOf_25 dX3_planarOf_26 (by decide) (fun c2 => ?_) (fun c2 => ?_)
      · have hm := ifT hm c2
        exact hB35 u x1 x2 x3 x4 x5 x6 _ _ _ hm hw (lv_sub hl [0, 1, 2, 3, 4, 5, 6] rfl)
      · have hm := ifT' hm c2
        obtain ⟨v3, ev3, hm⟩ := nmE hm
        refine lv_iinc (v := v3) (lv' := [(6, .int v3), (0, .ref (ad 40)), (1, .int x1), (2, .int x2), (3, .int x3), (4, .int x4), (5, .int x5)]) hx hb dX3_planarOf_29 hl (k := 6) rfl (by rw [ev3]; rfl) (by decide) rfl (fun ls hl => ?_)
        refine lv_goto (tgt := 17) hx hb dX3_planarOf_32 (by decide) ?_
        exact ih17 u x1 x2 x3 x4 x5 v3 _ _ _ hm hw (lv_sub hl [1, 2, 3, 4, 5, 6, 0] rfl)
  rw [m_X3_planarOf] at hm
  refine lv_aload_n hx hb dX3_planarOf_0 rfl (lv_at hl 0 rfl) ?_
  refine lv_iload_n hx hb dX3_planarOf_1 rfl (lv_at hl 1 rfl) ?_
  obtain ⟨u1, eu1, hm⟩ := bdE hm
  refine tg_callv hw (va_runV (As := [.int x1]) (rest := []) ⟨hx, hb, hml, hown, hts⟩ (w_X3_laysShort l eu1) (cw_X3_laysShort hts q2043 ⟨Nat.le_of_ble_eq_true rfl, Nat.le_of_ble_eq_true rfl⟩) (tg_pre C hw _) rfl rfl hl.1 rfl (lv_room (Nat.le_of_ble_eq_true rfl)) dX3_planarOf_2 ⟨Nat.le_of_ble_eq_true rfl, Nat.le_of_ble_eq_true rfl⟩) (fun H locs hw => ?_)
  refine lv_aload_n hx hb dX3_planarOf_5 rfl (lv_at hl 0 rfl) ?_
  refine lv_iload_n hx hb dX3_planarOf_6 rfl (lv_at hl 3 rfl) ?_
  refine lv_iload hx hb dX3_planarOf_7 (lv_at hl 4 rfl) ?_
  refine lv_iload hx hb dX3_planarOf_9 (lv_at hl 5 rfl) ?_
  obtain ⟨u2, eu2, hm⟩ := bdE hm
  refine tg_callv hw (va_runV (As := [.int x3, .int x4, .int x5]) (rest := []) ⟨hx, hb, hml, hown, hts⟩ (w_X3_crosses l eu2) (cw_X3_crosses hts q2100 ⟨Nat.le_of_ble_eq_true rfl, Nat.le_of_ble_eq_true rfl⟩) (tg_pre C hw _) rfl rfl hl.1 rfl (lv_room (Nat.le_of_ble_eq_true rfl)) dX3_planarOf_11 ⟨Nat.le_of_ble_eq_true rfl, Nat.le_of_ble_eq_true rfl⟩) (fun H locs hw => ?_)
  refine lv_iconst (v := 0) hx hb dX3_planarOf_14 (by decide) ?_
  refine lv_istore (lv' := [(6, .int (0 : Int32)), (0, .ref (ad 40)), (1, .int x1), (2, .int x2), (3, .int x3), (4, .int x4), (5, .int x5)]) hx hb dX3_planarOf_15 hl (by decide) rfl (fun ls hl => ?_)
  exact hB17 f u2 x1 x2 x3 x4 x5 (0 : Int32) _ _ _ hm hw (lv_sub hl [1, 2, 3, 4, 5, 6, 0] rfl)
def m_X3_layers (f : Nat) (u : TS) (x1 : Int32) (x2 : Int32) (x3 : Int32) (x4 : Int32) (x5 : Int32) : Option (Int64 × TS) := bd2 (m_X3_whyNoPlane f u x1 x2 x3 x4 x5) fun r2 u1 =>
    if 0 ≤ r2 then
    bd2 (m_X3_planarOf f u1 x1 x2 x3 x4 x5) fun r5 u4 =>
    bd2 (m_X3_index f u4 x1 x2) fun r7 u6 =>
    gd (nzL r5) <|
    some ((r7 / r5), u6)
    else some ((Int32.toInt64 r2), u1)
abbrev rm_X3_layers : Room := { frames := 9, cells := 0, slots := 0, locals := 229 }
theorem cw_X3_layers {R : Room} {s : State} {args : Array Value} {own : String} {idx : Nat} (hts : ∀ w ∈ lw_all, w.before args s = true) (hl : Cond.methodLink own idx yX3_layers ∈ lw_all) (hR : rm_X3_layers.frames + 1 ≤ R.frames ∧ 8 + (9 + 11) + rm_X3_layers.locals ≤ R.locals) : CallW R s args own RX3 idx yX3_layers cX3_layers 9 (Option.some Jvm.ClassFile.FieldType.long) (ws_ yX3_layers cX3_layers 9 (Option.some Jvm.ClassFile.FieldType.long)) rm_X3_layers 0 0 5 := cwV 5 hts (lw_V hl q2105 q2106 q125 q2107) rfl rfl rfl (by decide +kernel) hR
set_option maxHeartbeats 4000000 in
set_option maxRecDepth 100000 in
theorem w_X3_layers (l : Launch) {D : va_G} {ad : Nat → Nat} {dI dJ : ClassId} {A : Nat → Prop} {f : Nat} {u u9 : TS} {r0 : Int64} {x1 : Int32} {x2 : Int32} {x3 : Int32} {x4 : Int32} {x5 : Int32} (hm : m_X3_layers f u x1 x2 x3 x4 x5 = some (r0, u9)) : Met l yX3_layers (ws_ yX3_layers cX3_layers 9 (Option.some Jvm.ClassFile.FieldType.long)) rm_X3_layers (va_Pc [.ref (ad 40), .int x1, .int x2, .int x3, .int x4, .int x5] (TPre D ad dI dJ A u)) (va_Ql (fun r u => r = r0 ∧ u = u9) (TPost D ad dI dJ A) A) 0 0 A := by
  refine Met.ofW (cc := cX3_layers) (maxL := 9) (ret := (Option.some Jvm.ClassFile.FieldType.long)) (by decide) rfl ?_
  intro p e s m args below meth c s₁ B hml hv
  have hx := B.exec
  have hb := B.bytes
  have hr := B.returns
  have hts := atoms_spec (ws := (ws_ yX3_layers cX3_layers 9 (Option.some Jvm.ClassFile.FieldType.long))) B.pre
  have hts : ∀ w ∈ lw_all, w.before args s = true := fun w h => hts w (List.mem_cons_of_mem _ h)
  have hown : s.vm.findClass RX3 = some m.cls := findClass_of_methodNamed B.named
  have hlocks := B.notSynchronized
  obtain ⟨hav, hv⟩ := hv
  have C : TC p s m args c cX3_layers D dI dJ := ⟨hx, hb, hown, hts, hv.2.1⟩
  have hw : TH D ad dI dJ A s.heap u s.heap [] := ⟨hv.1, hv.2.2.1, va_S.rf, hv.2.2.2⟩
  generalize hQ : MQ below (va_Ql (fun r u => r = r0 ∧ u = u9) (TPost D ad dI dJ A) A) args s 0 0 A = QQ
  have hent := lg_entry_eq m [.ref (ad 40), .int x1, .int x2, .int x3, .int x4, .int x5] 9
  rw [← hav] at hent
  rw [hent]
  have hl := lv_entry ([.ref (ad 40), .int x1, .int x2, .int x3, .int x4, .int x5]) (n := 9) (Nat.le_of_ble_eq_true rfl)
  generalize (lg_sl ([.ref (ad 40), .int x1, .int x2, .int x3, .int x4, .int x5]) ++ List.replicate (9 - (lg_sl ([.ref (ad 40), .int x1, .int x2, .int x3, .int x4, .int x5])).length) Slot.unset).toArray = ls at hl ⊢
  have hl : lv_has ls 9 [(0, .ref (ad 40)), (1, .int x1), (2, .int x2), (3, .int x3), (4, .int x4), (5, .int x5)] := hl
  change W p l e rm_X3_layers s m args below meth c s.heap [] 0 0 QQ (F0 m 0 ls [])
  rw [m_X3_layers] at hm
  refine lv_aload_n hx hb dX3_layers_0 rfl (lv_at hl 0 rfl) ?_
  refine lv_iload_n hx hb dX3_layers_1 rfl (lv_at hl 1 rfl) ?_
  refine lv_iload_n hx hb dX3_layers_2 rfl (lv_at hl 2 rfl) ?_
  refine lv_iload_n hx hb dX3_layers_3 rfl (lv_at hl 3 rfl) ?_
  refine lv_iload hx hb dX3_layers_4 (lv_at hl 4 rfl) ?_
  refine lv_iload hx hb dX3_layers_6 (lv_at hl 5 rfl) ?_
  obtain ⟨r2, u1, er2, hm⟩ := bd2E hm
  refine tg_calli hw (va_runV (As := [.int x1, .int x2, .int x3, .int x4, .int x5]) (rest := []) ⟨hx, hb, hml, hown, hts⟩ (w_X3_whyNoPlane l er2) (cw_X3_whyNoPlane hts q2108 ⟨Nat.le_of_ble_eq_true rfl, Nat.le_of_ble_eq_true rfl⟩) (tg_pre C hw _) rfl rfl hl.1 rfl (lv_room (Nat.le_of_ble_eq_true rfl)) dX3_layers_8 ⟨Nat.le_of_ble_eq_true rfl, Nat.le_of_ble_eq_true rfl⟩) (fun H locs hw => ?_)
  refine lv_istore (lv' := [(6, .int r2), (0, .ref (ad 40)), (1, .int x1), (2, .int x2), (3, .int x3), (4, .int x4), (5, .int x5)]) hx hb dX3_layers_11 hl (by decide) rfl (fun ls hl => ?_)
  refine lv_iload hx hb dX3_layers_13 (lv_at hl 0 rfl) ?_
  refine lv_if_ge (tgt := 22) hx hb dX3_layers_15 (by decide) (fun c3 => ?_) (fun c3 => ?_)
  · have hm := ifT hm c3
    refine lv_aload_n hx hb dX3_layers_22 rfl (lv_at hl 1 rfl) ?_
    refine lv_iload_n hx hb dX3_layers_23 rfl (lv_at hl 2 rfl) ?_
    refine lv_iload_n hx hb dX3_layers_24 rfl (lv_at hl 3 rfl) ?_
    refine lv_iload_n hx hb dX3_layers_25 rfl (lv_at hl 4 rfl) ?_
    refine lv_iload hx hb dX3_layers_26 (lv_at hl 5 rfl) ?_
    refine lv_iload hx hb dX3_layers_28 (lv_at hl 6 rfl) ?_
    obtain ⟨r5, u4, er5, hm⟩ := bd2E hm
    refine tg_calll hw (va_runV (As := [.int x1, .int x2, .int x3, .int x4, .int x5]) (rest := []) ⟨hx, hb, hml, hown, hts⟩ (w_X3_planarOf l er5) (cw_X3_planarOf hts q2112 ⟨Nat.le_of_ble_eq_true rfl, Nat.le_of_ble_eq_true rfl⟩) (tg_pre C hw _) rfl rfl hl.1 rfl (lv_room (Nat.le_of_ble_eq_true rfl)) dX3_layers_30 ⟨Nat.le_of_ble_eq_true rfl, Nat.le_of_ble_eq_true rfl⟩) (fun H locs hw => ?_)
    refine lv_lstore (lv' := [(7, .long r5), (6, .int r2), (0, .ref (ad 40)), (1, .int x1), (2, .int x2), (3, .int x3), (4, .int x4), (5, .int x5)]) hx hb dX3_layers_33 hl (by decide) rfl (fun ls hl => ?_)
    refine lv_aload_n hx hb dX3_layers_35 rfl (lv_at hl 2 rfl) ?_
    refine lv_iload_n hx hb dX3_layers_36 rfl (lv_at hl 3 rfl) ?_
    refine lv_iload_n hx hb dX3_layers_37 rfl (lv_at hl 4 rfl) ?_
    obtain ⟨r7, u6, er7, hm⟩ := bd2E hm
    refine tg_calll hw (va_runV (As := [.int x1, .int x2]) (rest := []) ⟨hx, hb, hml, hown, hts⟩ (w_X3_index l er7) (cw_X3_index hts q2120 ⟨Nat.le_of_ble_eq_true rfl, Nat.le_of_ble_eq_true rfl⟩) (tg_pre C hw _) rfl rfl hl.1 rfl (lv_room (Nat.le_of_ble_eq_true rfl)) dX3_layers_38 ⟨Nat.le_of_ble_eq_true rfl, Nat.le_of_ble_eq_true rfl⟩) (fun H locs hw => ?_)
    refine lv_lload hx hb dX3_layers_41 (lv_at hl 0 rfl) ?_
    obtain ⟨g8, hm⟩ := gdE hm
    refine lv_ldiv hx hb dX3_layers_43 (nzL_ne g8) ?_
    rw [← hQ]
    exact W.lret (v := (r7 / r5)) hx hb hr (fun t ht hW => ⟨⟨(r7 / r5), u6, rfl, retE hm, by rw [ht]; exact hw.1, hw.2.1⟩, hw.2.2.1.F ht⟩) hw.2.2.1.2.2 dX3_layers_44
  · have hm := ifF hm c3
    refine lv_iload hx hb dX3_layers_18 (lv_at hl 0 rfl) ?_
    refine lv_i2l hx hb dX3_layers_20 rfl ?_
    rw [← hQ]
    exact W.lret (v := (Int32.toInt64 r2)) hx hb hr (fun t ht hW => ⟨⟨(Int32.toInt64 r2), u1, rfl, retE hm, by rw [ht]; exact hw.1, hw.2.1⟩, hw.2.2.1.F ht⟩) hw.2.2.1.2.2 dX3_layers_21
def m_X3_planar_35 (f : Nat) (u : TS) (y0 : Int64) : Option (Int64 × TS) := some (y0, u)
def m_X3_planar (f : Nat) (u : TS) (x1 : Int32) (x2 : Int32) (x3 : Int32) (x4 : Int32) (x5 : Int32) : Option (Int64 × TS) := bd2 (m_X3_whyNoPlane f u x1 x2 x3 x4 x5) fun r2 u1 =>
    if 0 ≤ r2 then
    bd2 (m_X3_planarOf f u1 x1 x2 x3 x4 x5) fun r5 u4 =>
    m_X3_planar_35 f u4 r5
    else m_X3_planar_35 f u1 (Int32.toInt64 r2)
abbrev rm_X3_planar : Room := { frames := 9, cells := 0, slots := 0, locals := 229 }
theorem cw_X3_planar {R : Room} {s : State} {args : Array Value} {own : String} {idx : Nat} (hts : ∀ w ∈ lw_all, w.before args s = true) (hl : Cond.methodLink own idx yX3_planar ∈ lw_all) (hR : rm_X3_planar.frames + 1 ≤ R.frames ∧ 8 + (7 + 11) + rm_X3_planar.locals ≤ R.locals) : CallW R s args own RX3 idx yX3_planar cX3_planar 7 (Option.some Jvm.ClassFile.FieldType.long) (ws_ yX3_planar cX3_planar 7 (Option.some Jvm.ClassFile.FieldType.long)) rm_X3_planar 0 0 5 := cwV 5 hts (lw_V hl q2122 q2123 q125 q2124) rfl rfl rfl (by decide +kernel) hR
set_option maxHeartbeats 4000000 in
set_option maxRecDepth 100000 in
theorem w_X3_planar (l : Launch) {D : va_G} {ad : Nat → Nat} {dI dJ : ClassId} {A : Nat → Prop} {f : Nat} {u u9 : TS} {r0 : Int64} {x1 : Int32} {x2 : Int32} {x3 : Int32} {x4 : Int32} {x5 : Int32} (hm : m_X3_planar f u x1 x2 x3 x4 x5 = some (r0, u9)) : Met l yX3_planar (ws_ yX3_planar cX3_planar 7 (Option.some Jvm.ClassFile.FieldType.long)) rm_X3_planar (va_Pc [.ref (ad 40), .int x1, .int x2, .int x3, .int x4, .int x5] (TPre D ad dI dJ A u)) (va_Ql (fun r u => r = r0 ∧ u = u9) (TPost D ad dI dJ A) A) 0 0 A := by
  refine Met.ofW (cc := cX3_planar) (maxL := 7) (ret := (Option.some Jvm.ClassFile.FieldType.long)) (by decide) rfl ?_
  intro p e s m args below meth c s₁ B hml hv
  have hx := B.exec
  have hb := B.bytes
  have hr := B.returns
  have hts := atoms_spec (ws := (ws_ yX3_planar cX3_planar 7 (Option.some Jvm.ClassFile.FieldType.long))) B.pre
  have hts : ∀ w ∈ lw_all, w.before args s = true := fun w h => hts w (List.mem_cons_of_mem _ h)
  have hown : s.vm.findClass RX3 = some m.cls := findClass_of_methodNamed B.named
  have hlocks := B.notSynchronized
  obtain ⟨hav, hv⟩ := hv
  have C : TC p s m args c cX3_planar D dI dJ := ⟨hx, hb, hown, hts, hv.2.1⟩
  have hw : TH D ad dI dJ A s.heap u s.heap [] := ⟨hv.1, hv.2.2.1, va_S.rf, hv.2.2.2⟩
  generalize hQ : MQ below (va_Ql (fun r u => r = r0 ∧ u = u9) (TPost D ad dI dJ A) A) args s 0 0 A = QQ
  have hent := lg_entry_eq m [.ref (ad 40), .int x1, .int x2, .int x3, .int x4, .int x5] 7
  rw [← hav] at hent
  rw [hent]
  have hl := lv_entry ([.ref (ad 40), .int x1, .int x2, .int x3, .int x4, .int x5]) (n := 7) (Nat.le_of_ble_eq_true rfl)
  generalize (lg_sl ([.ref (ad 40), .int x1, .int x2, .int x3, .int x4, .int x5]) ++ List.replicate (7 - (lg_sl ([.ref (ad 40), .int x1, .int x2, .int x3, .int x4, .int x5])).length) Slot.unset).toArray = ls at hl ⊢
  have hl : lv_has ls 7 [(0, .ref (ad 40)), (1, .int x1), (2, .int x2), (3, .int x3), (4, .int x4), (5, .int x5)] := hl
  change W p l e rm_X3_planar s m args below meth c s.heap [] 0 0 QQ (F0 m 0 ls [])
  have hB35 : ∀ (u : TS) (y0 : Int64) (H : Heap) (locs : List Loc) (ls : Array Slot), m_X3_planar_35 f u y0 = some (r0, u9) → TH D ad dI dJ A s.heap u H locs → lv_has ls 7 [] → W p l e rm_X3_planar s m args below meth c H locs 0 0 QQ (F0 m 35 ls [.long y0]) := by
    intro u y0 H locs ls hm hw hl
    rw [m_X3_planar_35] at hm
    rw [← hQ]
    exact W.lret (v := y0) hx hb hr (fun t ht hW => ⟨⟨y0, u, rfl, retE hm, by rw [ht]; exact hw.1, hw.2.1⟩, hw.2.2.1.F ht⟩) hw.2.2.1.2.2 dX3_planar_35
  rw [m_X3_planar] at hm
  refine lv_aload_n hx hb dX3_planar_0 rfl (lv_at hl 0 rfl) ?_
  refine lv_iload_n hx hb dX3_planar_1 rfl (lv_at hl 1 rfl) ?_
  refine lv_iload_n hx hb dX3_planar_2 rfl (lv_at hl 2 rfl) ?_
  refine lv_iload_n hx hb dX3_planar_3 rfl (lv_at hl 3 rfl) ?_
  refine lv_iload hx hb dX3_planar_4 (lv_at hl 4 rfl) ?_
  refine lv_iload hx hb dX3_planar_6 (lv_at hl 5 rfl) ?_
  obtain ⟨r2, u1, er2, hm⟩ := bd2E hm
  refine tg_calli hw (va_runV (As := [.int x1, .int x2, .int x3, .int x4, .int x5]) (rest := []) ⟨hx, hb, hml, hown, hts⟩ (w_X3_whyNoPlane l er2) (cw_X3_whyNoPlane hts q2108 ⟨Nat.le_of_ble_eq_true rfl, Nat.le_of_ble_eq_true rfl⟩) (tg_pre C hw _) rfl rfl hl.1 rfl (lv_room (Nat.le_of_ble_eq_true rfl)) dX3_planar_8 ⟨Nat.le_of_ble_eq_true rfl, Nat.le_of_ble_eq_true rfl⟩) (fun H locs hw => ?_)
  refine lv_istore (lv' := [(6, .int r2), (0, .ref (ad 40)), (1, .int x1), (2, .int x2), (3, .int x3), (4, .int x4), (5, .int x5)]) hx hb dX3_planar_11 hl (by decide) rfl (fun ls hl => ?_)
  refine lv_iload hx hb dX3_planar_13 (lv_at hl 0 rfl) ?_
  refine lv_if_ge (tgt := 24) hx hb dX3_planar_15 (by decide) (fun c3 => ?_) (fun c3 => ?_)
  · have hm := ifT hm c3
    refine lv_aload_n hx hb dX3_planar_24 rfl (lv_at hl 1 rfl) ?_
    refine lv_iload_n hx hb dX3_planar_25 rfl (lv_at hl 2 rfl) ?_
    refine lv_iload_n hx hb dX3_planar_26 rfl (lv_at hl 3 rfl) ?_
    refine lv_iload_n hx hb dX3_planar_27 rfl (lv_at hl 4 rfl) ?_
    refine lv_iload hx hb dX3_planar_28 (lv_at hl 5 rfl) ?_
    refine lv_iload hx hb dX3_planar_30 (lv_at hl 6 rfl) ?_
    obtain ⟨r5, u4, er5, hm⟩ := bd2E hm
    refine tg_calll hw (va_runV (As := [.int x1, .int x2, .int x3, .int x4, .int x5]) (rest := []) ⟨hx, hb, hml, hown, hts⟩ (w_X3_planarOf l er5) (cw_X3_planarOf hts q2112 ⟨Nat.le_of_ble_eq_true rfl, Nat.le_of_ble_eq_true rfl⟩) (tg_pre C hw _) rfl rfl hl.1 rfl (lv_room (Nat.le_of_ble_eq_true rfl)) dX3_planar_32 ⟨Nat.le_of_ble_eq_true rfl, Nat.le_of_ble_eq_true rfl⟩) (fun H locs hw => ?_)
    exact hB35 u4 r5 _ _ _ hm hw (lv_sub hl [] rfl)
  · have hm := ifF hm c3
    refine lv_iload hx hb dX3_planar_18 (lv_at hl 0 rfl) ?_
    refine lv_i2l hx hb dX3_planar_20 rfl ?_
    refine lv_goto (tgt := 35) hx hb dX3_planar_21 (by decide) ?_
    exact hB35 u1 (Int32.toInt64 r2) _ _ _ hm hw (lv_sub hl [] rfl)
def m_X3_best_180 (f : Nat) (u : TS) (x4 : Int32) : Option (Int32 × TS) := some (x4, u)
def m_X3_best_174 (f : Nat) (k22 : TS → Int32 → Int32 → Int32 → Int64 → Int32 → Option (Int32 × TS)) (u : TS) (x1 : Int32) (x2 : Int32) (x4 : Int32) (x5 : Int64) (x7 : Int32) : Option (Int32 × TS) := nmv ((x7 + 1) : Int32) fun v1 =>
    k22 u x1 x2 x4 x5 v1
def m_X3_best_148 (f : Nat) (k22 : TS → Int32 → Int32 → Int32 → Int64 → Int32 → Option (Int32 × TS)) (u : TS) (x1 : Int32) (x2 : Int32) (x7 : Int32) (x8 : Int32) (x9 : Int32) (x10 : Int32) (x12 : Int64) : Option (Int32 × TS) := nmv ((((((100 : Int32) * (x8 + (3 : Int32))) + ((10 : Int32) * (x9 + (3 : Int32)))) + x10) + (3 : Int32)) : Int32) fun v1 =>
    m_X3_best_174 f k22 u x1 x2 v1 x12 x7
def m_X3_best_90 (f : Nat) (k22 : TS → Int32 → Int32 → Int32 → Int64 → Int32 → Option (Int32 × TS)) (u : TS) (x1 : Int32) (x2 : Int32) (x4 : Int32) (x5 : Int64) (x7 : Int32) (x8 : Int32) (x9 : Int32) (x10 : Int32) (y0 : Int32) : Option (Int32 × TS) := if y0 = 0 then
    m_X3_best_174 f k22 u x1 x2 x4 x5 x7
    else bd (m_X3_common f (Int32.toInt64 x8) (Int32.toInt64 x9)) fun r2 =>
    bd (m_X3_common f r2 (Int32.toInt64 x10)) fun r3 =>
    if r3 = (1 : Int64) then
    bd2 (m_X3_planarOf f u x1 x2 x8 x9 x10) fun r6 u5 =>
    if x4 = (-1 : Int32) then
    m_X3_best_148 f k22 u5 x1 x2 x7 x8 x9 x10 r6
    else if x5 ≤ r6 then
    m_X3_best_174 f k22 u5 x1 x2 x4 x5 x7
    else m_X3_best_148 f k22 u5 x1 x2 x7 x8 x9 x10 r6
    else m_X3_best_174 f k22 u x1 x2 x4 x5 x7
def m_X3_best_85 (f : Nat) (k22 : TS → Int32 → Int32 → Int32 → Int64 → Int32 → Option (Int32 × TS)) (u : TS) (x1 : Int32) (x2 : Int32) (x4 : Int32) (x5 : Int64) (x7 : Int32) (x8 : Int32) (x9 : Int32) (x10 : Int32) : Option (Int32 × TS) := m_X3_best_90 f k22 u x1 x2 x4 x5 x7 x8 x9 x10 (1 : Int32)
def m_X3_best_89 (f : Nat) (k22 : TS → Int32 → Int32 → Int32 → Int64 → Int32 → Option (Int32 × TS)) (u : TS) (x1 : Int32) (x2 : Int32) (x4 : Int32) (x5 : Int64) (x7 : Int32) (x8 : Int32) (x9 : Int32) (x10 : Int32) : Option (Int32 × TS) := m_X3_best_90 f k22 u x1 x2 x4 x5 x7 x8 x9 x10 (0 : Int32)
def m_X3_best_22 (f : Nat) : Nat → TS → Int32 → Int32 → Int32 → Int64 → Int32 → Option (Int32 × TS)
  | 0, _, _, _, _, _, _ => none
  | n22 + 1, u, x1, x2, x4, x5, x7 => if (343 : Int32) ≤ x7 then
    m_X3_best_180 f u x4
    else nmv (((x7 / (49 : Int32)) - (3 : Int32)) : Int32) fun v2 =>
    nmv (((rmI (x7 / (7 : Int32)) (7 : Int32)) - (3 : Int32)) : Int32) fun v3 =>
    nmv (((rmI x7 (7 : Int32)) - (3 : Int32)) : Int32) fun v4 =>
    if 0 < v2 then
    m_X3_best_85 f (m_X3_best_22 f n22) u x1 x2 x4 x5 x7 v2 v3 v4
    else if ¬ v2 = 0 then
    m_X3_best_89 f (m_X3_best_22 f n22) u x1 x2 x4 x5 x7 v2 v3 v4
    else if 0 < v3 then
    m_X3_best_85 f (m_X3_best_22 f n22) u x1 x2 x4 x5 x7 v2 v3 v4
    else if ¬ v3 = 0 then
    m_X3_best_89 f (m_X3_best_22 f n22) u x1 x2 x4 x5 x7 v2 v3 v4
    else if v4 ≤ 0 then
    m_X3_best_89 f (m_X3_best_22 f n22) u x1 x2 x4 x5 x7 v2 v3 v4
    else m_X3_best_85 f (m_X3_best_22 f n22) u x1 x2 x4 x5 x7 v2 v3 v4
def m_X3_best (f : Nat) (u : TS) (x1 : Int32) (x2 : Int32) : Option (Int32 × TS) := bd2 (m_X3_whyNot f u x1 x2) fun r2 u1 =>
    if 0 ≤ r2 then
    m_X3_best_22 f f u1 x1 x2 (-1 : Int32) (0 : Int64) (0 : Int32)
    else some (r2, u1)
abbrev rm_X3_best : Room := { frames := 9, cells := 0, slots := 0, locals := 229 }
theorem cw_X3_best {R : Room} {s : State} {args : Array Value} {own : String} {idx : Nat} (hts : ∀ w ∈ lw_all, w.before args s = true) (hl : Cond.methodLink own idx yX3_best ∈ lw_all) (hR : rm_X3_best.frames + 1 ≤ R.frames ∧ 8 + (14 + 11) + rm_X3_best.locals ≤ R.locals) : CallW R s args own RX3 idx yX3_best cX3_best 14 (Option.some Jvm.ClassFile.FieldType.int) (ws_ yX3_best cX3_best 14 (Option.some Jvm.ClassFile.FieldType.int)) rm_X3_best 0 0 2 := cwV 2 hts (lw_V hl q2126 q2127 q125 q2128) rfl rfl rfl (by decide +kernel) hR
set_option maxHeartbeats 4000000 in
set_option maxRecDepth 100000 in
theorem w_X3_best (l : Launch) {D : va_G} {ad : Nat → Nat} {dI dJ : ClassId} {A : Nat → Prop} {f : Nat} {u u9 : TS} {r0 : Int32} {x1 : Int32} {x2 : Int32} (hm : m_X3_best f u x1 x2 = some (r0, u9)) : Met l yX3_best (ws_ yX3_best cX3_best 14 (Option.some Jvm.ClassFile.FieldType.int)) rm_X3_best (va_Pc [.ref (ad 40), .int x1, .int x2] (TPre D ad dI dJ A u)) (va_Qi (fun r u => r = r0 ∧ u = u9) (TPost D ad dI dJ A) A) 0 0 A := by
  refine Met.ofW (cc := cX3_best) (maxL := 14) (ret := (Option.some Jvm.ClassFile.FieldType.int)) (by decide) rfl ?_
  intro p e s m args below meth c s₁ B hml hv
  have hx := B.exec
  have hb := B.bytes
  have hr := B.returns
  have hts := atoms_spec (ws := (ws_ yX3_best cX3_best 14 (Option.some Jvm.ClassFile.FieldType.int))) B.pre
  have hts : ∀ w ∈ lw_all, w.before args s = true := fun w h => hts w (List.mem_cons_of_mem _ h)
  have hown : s.vm.findClass RX3 = some m.cls := findClass_of_methodNamed B.named
  have hlocks := B.notSynchronized
  obtain ⟨hav, hv⟩ := hv
  have C : TC p s m args c cX3_best D dI dJ := ⟨hx, hb, hown, hts, hv.2.1⟩
  have hw : TH D ad dI dJ A s.heap u s.heap [] := ⟨hv.1, hv.2.2.1, va_S.rf, hv.2.2.2⟩
  generalize hQ : MQ below (va_Qi (fun r u => r = r0 ∧ u = u9) (TPost D ad dI dJ A) A) args s 0 0 A = QQ
  have hent := lg_entry_eq m [.ref (ad 40), .int x1, .int x2] 14
  rw [← hav] at hent
  rw [hent]
  have hl := lv_entry ([.ref (ad 40), .int x1, .int x2]) (n := 14) (Nat.le_of_ble_eq_true rfl)
  generalize (lg_sl ([.ref (ad 40), .int x1, .int x2]) ++ List.replicate (14 - (lg_sl ([.ref (ad 40), .int x1, .int x2])).length) Slot.unset).toArray = ls at hl ⊢
  have hl : lv_has ls 14 [(0, .ref (ad 40)), (1, .int x1), (2, .int x2)] := hl
  change W p l e rm_X3_best s m args below meth c s.heap [] 0 0 QQ (F0 m 0 ls [])
  have hB180 : ∀ (u : TS) (x4 : Int32) (H : Heap) (locs : List Loc) (ls : Array Slot), m_X3_best_180 f u x4 = some (r0, u9) → TH D ad dI dJ A s.heap u H locs → lv_has ls 14 [(4, .int x4)] → W p l e rm_X3_best s m args below meth c H locs 0 0 QQ (F0 m 180 ls []) := by
    intro u x4 H locs ls hm hw hl
    rw [m_X3_best_180] at hm
    refine lv_iload hx hb dX3_best_180 (lv_at hl 0 rfl) ?_
    rw [← hQ]
    exact W.iret (v := x4) hx hb hr (fun t ht hW => ⟨⟨x4, u, rfl, retE hm, by rw [ht]; exact hw.1, hw.2.1⟩, hw.2.2.1.F ht⟩) hw.2.2.1.2.2 dX3_best_182
  have hB22 : ∀ (n22 : Nat), ∀ (u : TS) (x1 : Int32) (x2 : Int32) (x4 : Int32) (x5 : Int64) (x7 : Int32) (H : Heap) (locs : List Loc) (ls : Array Slot), m_X3_best_22 f n22 u x1 x2 x4 x5 x7 = some (r0, u9) → TH D ad dI dJ A s.heap u H locs → lv_has ls 14 [(0, .ref (ad 40)), (1, .int x1), (2, .int x2), (4, .int x4), (5, .long x5), (7, .int x7)] → W p l e rm_X3_best s m args below meth c H locs 0 0 QQ (F0 m 22 ls []) := by
    intro n22
    induction n22 with
    | zero => intro u x1 x2 x4 x5 x7 H locs ls hm hw hl; rw [m_X3_best_22] at hm; exact noE hm
    | succ n22 ih22 =>
      have hB174 : ∀ (u : TS) (x1 : Int32) (x2 : Int32) (x4 : Int32) (x5 : Int64) (x7 : Int32) (H : Heap) (locs : List Loc) (ls : Array Slot), m_X3_best_174 f (m_X3_best_22 f n22) u x1 x2 x4 x5 x7 = some (r0, u9) → TH D ad dI dJ A s.heap u H locs → lv_has ls 14 [(0, .ref (ad 40)), (1, .int x1), (2, .int x2), (4, .int x4), (5, .long x5), (7, .int x7)] → W p l e rm_X3_best s m args below meth c H locs 0 0 QQ (F0 m 174 ls []) := by
        intro u x1 x2 x4 x5 x7 H locs ls hm hw hl
        rw [m_X3_best_174] at hm
        obtain ⟨v1, ev1, hm⟩ := nmE hm
        refine lv_iinc (v := v1) (lv' := [(7, .int v1), (0, .ref (ad 40)), (1, .int x1), (2, .int x2), (4, .int x4), (5, .long x5)]) hx hb dX3_best_174 hl (k := 5) rfl (by rw [ev1]; rfl) (by decide) rfl (fun ls hl => ?_)
        refine lv_goto (tgt := 22) hx hb dX3_best_177 (by decide) ?_
        exact ih22 u x1 x2 x4 x5 v1 _ _ _ hm hw (lv_sub hl [1, 2, 3, 4, 5, 0] rfl)
      have hB148 : ∀ (u : TS) (x1 : Int32) (x2 : Int32) (x7 : Int32) (x8 : Int32) (x9 : Int32) (x10 : Int32) (x12 : Int64) (H : Heap) (locs : List Loc) (ls : Array Slot), m_X3_best_148 f (m_X3_best_22 f n22) u x1 x2 x7 x8 x9 x10 x12 = some (r0, u9) → TH D ad dI dJ A s.heap u H locs → lv_has ls 14 [(0, .ref (ad 40)), (1, .int x1), (2, .int x2), (7, .int x7), (8, .int x8), (9, .int x9), (10, .int x10), (12, .long x12)] → W p l e rm_X3_best s m args below meth c H locs 0 0 QQ (F0 m 148 ls []) := by
        intro u x1 x2 x7 x8 x9 x10 x12 H locs ls hm hw hl
        rw [m_X3_best_148] at hm
        refine lv_bipush (v := 100) hx hb dX3_best_148 (by decide) ?_
        refine lv_iload hx hb dX3_best_150 (lv_at hl 4 rfl) ?_
        refine lv_iconst (v := 3) hx hb dX3_best_152 (by decide) ?_
        refine lv_iadd hx hb dX3_best_153 ?_
        refine lv_imul hx hb dX3_best_154 ?_
        refine lv_bipush (v := 10) hx hb dX3_best_155 (by decide) ?_
        refine lv_iload hx hb dX3_best_157 (lv_at hl 5 rfl) ?_
        refine lv_iconst (v := 3) hx hb dX3_best_159 (by decide) ?_
        refine lv_iadd hx hb dX3_best_160 ?_
        refine lv_imul hx hb dX3_best_161 ?_
        refine lv_iadd hx hb dX3_best_162 ?_
        refine lv_iload hx hb dX3_best_163 (lv_at hl 6 rfl) ?_
        refine lv_iadd hx hb dX3_best_165 ?_
        refine lv_iconst (v := 3) hx hb dX3_best_166 (by decide) ?_
        refine lv_iadd hx hb dX3_best_167 ?_
        refine lv_topi (fun v1 ev1 => ?_)
        have hm := nmK hm ev1
        refine lv_istore (lv' := [(4, .int v1), (0, .ref (ad 40)), (1, .int x1), (2, .int x2), (7, .int x7), (8, .int x8), (9, .int x9), (10, .int x10), (12, .long x12)]) hx hb dX3_best_168 hl (by decide) rfl (fun ls hl => ?_)
        refine lv_lload hx hb dX3_best_170 (lv_at hl 8 rfl) ?_
        refine lv_lstore (lv' := [(5, .long x12), (4, .int v1), (0, .ref (ad 40)), (1, .int x1), (2, .int x2), (7, .int x7), (8, .int x8), (9, .int x9), (10, .int x10), (12, .long x12)]) hx hb dX3_best_172 hl (by decide) rfl (fun ls hl => ?_)
        exact hB174 u x1 x2 v1 x12 x7 _ _ _ hm hw (lv_sub hl [2, 3, 4, 1, 0, 5] rfl)
      have hB90 : ∀ (u : TS) (x1 : Int32) (x2 : Int32) (x4 : Int32) (x5 : Int64) (x7 : Int32) (x8 : Int32) (x9 : Int32) (x10 : Int32) (y0 : Int32) (H : Heap) (locs : List Loc) (ls : Array Slot), m_X3_best_90 f (m_X3_best_22 f n22) u x1 x2 x4 x5 x7 x8 x9 x10 y0 = some (r0, u9) → TH D ad dI dJ A s.heap u H locs → lv_has ls 14 [(0, .ref (ad 40)), (1, .int x1), (2, .int x2), (4, .int x4), (5, .long x5), (7, .int x7), (8, .int x8), (9, .int x9), (10, .int x10)] → W p l e rm_X3_best s m args below meth c H locs 0 0 QQ (F0 m 90 ls [.int y0]) := by
        intro u x1 x2 x4 x5 x7 x8 x9 x10 y0 H locs ls hm hw hl
        rw [m_X3_best_90] at hm
        refine lv_istore (lv' := [(11, .int y0), (0, .ref (ad 40)), (1, .int x1), (2, .int x2), (4, .int x4), (5, .long x5), (7, .int x7), (8, .int x8), (9, .int x9), (10, .int x10)]) hx hb dX3_best_90 hl (by decide) rfl (fun ls hl => ?_)
        refine lv_iload hx hb dX3_best_92 (lv_at hl 0 rfl) ?_
        refine lv_if_eq (tgt := 174) hx hb dX3_best_94 (by decide) (fun c1 => ?_) (fun c1 => ?_)
        · have hm := ifT hm c1
          exact hB174 u x1 x2 x4 x5 x7 _ _ _ hm hw (lv_sub hl [1, 2, 3, 4, 5, 6] rfl)
        · have hm := ifF hm c1
          refine lv_iload hx hb dX3_best_97 (lv_at hl 7 rfl) ?_
          refine lv_i2l hx hb dX3_best_99 rfl ?_
          refine lv_iload hx hb dX3_best_100 (lv_at hl 8 rfl) ?_
          refine lv_i2l hx hb dX3_best_102 rfl ?_
          obtain ⟨r2, er2, hm⟩ := bdE hm
          refine scl (va_runS (As := [.long (Int32.toInt64 x8), .long (Int32.toInt64 x9)]) (rest := []) ⟨hx, hb, hml, hown, hts⟩ (w_X3_common l er2) (cw_X3_common hts q1820 ⟨Nat.le_of_ble_eq_true rfl, Nat.le_of_ble_eq_true rfl⟩) (pre_s _) rfl rfl hl.1 rfl (lv_room (Nat.le_of_ble_eq_true rfl)) dX3_best_103 ⟨Nat.le_of_ble_eq_true rfl, Nat.le_of_ble_eq_true rfl⟩) ?_
          refine lv_iload hx hb dX3_best_106 (lv_at hl 9 rfl) ?_
          refine lv_i2l hx hb dX3_best_108 rfl ?_
          obtain ⟨r3, er3, hm⟩ := bdE hm
          refine scl (va_runS (As := [.long r2, .long (Int32.toInt64 x10)]) (rest := []) ⟨hx, hb, hml, hown, hts⟩ (w_X3_common l er3) (cw_X3_common hts q1820 ⟨Nat.le_of_ble_eq_true rfl, Nat.le_of_ble_eq_true rfl⟩) (pre_s _) rfl rfl hl.1 rfl (lv_room (Nat.le_of_ble_eq_true rfl)) dX3_best_109 ⟨Nat.le_of_ble_eq_true rfl, Nat.le_of_ble_eq_true rfl⟩) ?_
          refine lv_lconst (v := 1) hx hb dX3_best_112 (by decide) ?_
          refine lc_eq (tgt := 120) hx hb dX3_best_113 dX3_best_114 (by decide) (fun c4 => ?_) (fun c4 => ?_)
          · have hm := ifT hm c4
            refine lv_aload_n hx hb dX3_best_120 rfl (lv_at hl 1 rfl) ?_
            refine lv_iload_n hx hb dX3_best_121 rfl (lv_at hl 2 rfl) ?_
            refine lv_iload_n hx hb dX3_best_122 rfl (lv_at hl 3 rfl) ?_
            refine lv_iload hx hb dX3_best_123 (lv_at hl 7 rfl) ?_
            refine lv_iload hx hb dX3_best_125 (lv_at hl 8 rfl) ?_
            refine lv_iload hx hb dX3_best_127 (lv_at hl 9 rfl) ?_
            obtain ⟨r6, u5, er6, hm⟩ := bd2E hm
            refine tg_calll hw (va_runV (As := [.int x1, .int x2, .int x8, .int x9, .int x10]) (rest := []) ⟨hx, hb, hml, hown, hts⟩ (w_X3_planarOf l er6) (cw_X3_planarOf hts q2112 ⟨Nat.le_of_ble_eq_true rfl, Nat.le_of_ble_eq_true rfl⟩) (tg_pre C hw _) rfl rfl hl.1 rfl (lv_room (Nat.le_of_ble_eq_true rfl)) dX3_best_129 ⟨Nat.le_of_ble_eq_true rfl, Nat.le_of_ble_eq_true rfl⟩) (fun H locs hw => ?_)
            refine lv_lstore (lv' := [(12, .long r6), (11, .int y0), (0, .ref (ad 40)), (1, .int x1), (2, .int x2), (4, .int x4), (5, .long x5), (7, .int x7), (8, .int x8), (9, .int x9), (10, .int x10)]) hx hb dX3_best_132 hl (by decide) rfl (fun ls hl => ?_)
            refine lv_iload hx hb dX3_best_134 (lv_at hl 5 rfl) ?_
            refine lv_iconst (v := -1) hx hb dX3_best_136 (by decide) ?_
            refine lv_icmp_eq (tgt := 148) hx hb dX3_best_137 (by decide) (fun c7 => ?_) (fun c7 => ?_)
            · have hm := ifT hm c7
              exact hB148 u5 x1 x2 x7 x8 x9 x10 r6 _ _ _ hm hw (lv_sub hl [2, 3, 4, 7, 8, 9, 10, 0] rfl)
            · have hm := ifF hm c7
              refine lv_lload hx hb dX3_best_140 (lv_at hl 0 rfl) ?_
              refine lv_lload hx hb dX3_best_142 (lv_at hl 6 rfl) ?_
              refine lc_ge (tgt := 174) hx hb dX3_best_144 dX3_best_145 (by decide) (fun c8 => ?_) (fun c8 => ?_)
              · have hm := ifT hm c8
                exact hB174 u5 x1 x2 x4 x5 x7 _ _ _ hm hw (lv_sub hl [2, 3, 4, 5, 6, 7] rfl)
              · have hm := ifF hm c8
                exact hB148 u5 x1 x2 x7 x8 x9 x10 r6 _ _ _ hm hw (lv_sub hl [2, 3, 4, 7, 8, 9, 10, 0] rfl)
          · have hm := ifF hm c4
            refine lv_goto (tgt := 174) hx hb dX3_best_117 (by decide) ?_
            exact hB174 u x1 x2 x4 x5 x7 _ _ _ hm hw (lv_sub hl [1, 2, 3, 4, 5, 6] rfl)
      have hB85 : ∀ (u : TS) (x1 : Int32) (x2 : Int32) (x4 : Int32) (x5 : Int64) (x7 : Int32) (x8 : Int32) (x9 : Int32) (x10 : Int32) (H : Heap) (locs : List Loc) (ls : Array Slot), m_X3_best_85 f (m_X3_best_22 f n22) u x1 x2 x4 x5 x7 x8 x9 x10 = some (r0, u9) → TH D ad dI dJ A s.heap u H locs → lv_has ls 14 [(0, .ref (ad 40)), (1, .int x1), (2, .int x2), (4, .int x4), (5, .long x5), (7, .int x7), (8, .int x8), (9, .int x9), (10, .int x10)] → W p l e rm_X3_best s m args below meth c H locs 0 0 QQ (F0 m 85 ls []) := by
        intro u x1 x2 x4 x5 x7 x8 x9 x10 H locs ls hm hw hl
        rw [m_X3_best_85] at hm
        refine lv_iconst (v := 1) hx hb dX3_best_85 (by decide) ?_
        refine lv_goto (tgt := 90) hx hb dX3_best_86 (by decide) ?_
        exact hB90 u x1 x2 x4 x5 x7 x8 x9 x10 (1 : Int32) _ _ _ hm hw (lv_sub hl [0, 1, 2, 3, 4, 5, 6, 7, 8] rfl)
      have hB89 : ∀ (u : TS) (x1 : Int32) (x2 : Int32) (x4 : Int32) (x5 : Int64) (x7 : Int32) (x8 : Int32) (x9 : Int32) (x10 : Int32) (H : Heap) (locs : List Loc) (ls : Array Slot), m_X3_best_89 f (m_X3_best_22 f n22) u x1 x2 x4 x5 x7 x8 x9 x10 = some (r0, u9) → TH D ad dI dJ A s.heap u H locs → lv_has ls 14 [(0, .ref (ad 40)), (1, .int x1), (2, .int x2), (4, .int x4), (5, .long x5), (7, .int x7), (8, .int x8), (9, .int x9), (10, .int x10)] → W p l e rm_X3_best s m args below meth c H locs 0 0 QQ (F0 m 89 ls []) := by
        intro u x1 x2 x4 x5 x7 x8 x9 x10 H locs ls hm hw hl
        rw [m_X3_best_89] at hm
        refine lv_iconst (v := 0) hx hb dX3_best_89 (by decide) ?_
        exact hB90 u x1 x2 x4 x5 x7 x8 x9 x10 (0 : Int32) _ _ _ hm hw (lv_sub hl [0, 1, 2, 3, 4, 5, 6, 7, 8] rfl)
      intro u x1 x2 x4 x5 x7 H locs ls hm hw hl
      rw [m_X3_best_22] at hm
      refine lv_iload hx hb dX3_best_22 (lv_at hl 5 rfl) ?_
      refine lv_sipush (v := 343) hx hb dX3_best_24 (by decide) ?_
      refine lv_icmp_ge (tgt := 180) hx hb dX3_best_27 (by decide) (fun c1 => ?_) (fun c1 => ?_)
      · have hm := ifT hm c1
        exact hB180 u x4 _ _ _ hm hw (lv_sub hl [3] rfl)
      · have hm := ifF hm c1
        refine lv_iload hx hb dX3_best_30 (lv_at hl 5 rfl) ?_
        refine lv_bipush (v := 49) hx hb dX3_best_32 (by decide) ?_
        refine lv_idiv hx hb dX3_best_34 (by decide) ?_
        refine lv_iconst (v := 3) hx hb dX3_best_35 (by decide) ?_
        refine lv_isub hx hb dX3_best_36 ?_
        refine lv_topi (fun v2 ev2 => ?_)
        have hm := nmK hm ev2
        refine lv_istore (lv' := [(8, .int v2), (0, .ref (ad 40)), (1, .int x1), (2, .int x2), (4, .int x4), (5, .long x5), (7, .int x7)]) hx hb dX3_best_37 hl (by decide) rfl (fun ls hl => ?_)
        refine lv_iload hx hb dX3_best_39 (lv_at hl 6 rfl) ?_
        refine lv_bipush (v := 7) hx hb dX3_best_41 (by decide) ?_
        refine lv_idiv hx hb dX3_best_43 (by decide) ?_
        refine lv_bipush (v := 7) hx hb dX3_best_44 (by decide) ?_
        refine w_irem hx hb dX3_best_46 (by decide) ?_
        refine lv_iconst (v := 3) hx hb dX3_best_47 (by decide) ?_
        refine lv_isub hx hb dX3_best_48 ?_
        refine lv_topi (fun v3 ev3 => ?_)
        have hm := nmK hm ev3
        refine lv_istore (lv' := [(9, .int v3), (8, .int v2), (0, .ref (ad 40)), (1, .int x1), (2, .int x2), (4, .int x4), (5, .long x5), (7, .int x7)]) hx hb dX3_best_49 hl (by decide) rfl (fun ls hl => ?_)
        refine lv_iload hx hb dX3_best_51 (lv_at hl 7 rfl) ?_
        refine lv_bipush (v := 7) hx hb dX3_best_53 (by decide) ?_
        refine w_irem hx hb dX3_best_55 (by decide) ?_
        refine lv_iconst (v := 3) hx hb dX3_best_56 (by decide) ?_
        refine lv_isub hx hb dX3_best_57 ?_
        refine lv_topi (fun v4 ev4 => ?_)
        have hm := nmK hm ev4
        refine lv_istore (lv' := [(10, .int v4), (9, .int v3), (8, .int v2), (0, .ref (ad 40)), (1, .int x1), (2, .int x2), (4, .int x4), (5, .long x5), (7, .int x7)]) hx hb dX3_best_58 hl (by decide) rfl (fun ls hl => ?_)
        refine lv_iload hx hb dX3_best_60 (lv_at hl 2 rfl) ?_
        refine lv_if_gt (tgt := 85) hx hb dX3_best_62 (by decide) (fun c5 => ?_) (fun c5 => ?_)
        · have hm := ifT hm c5
          exact hB85 u x1 x2 x4 x5 x7 v2 v3 v4 _ _ _ hm hw (lv_sub hl [3, 4, 5, 6, 7, 8, 2, 1, 0] rfl)
        · have hm := ifF hm c5
          refine lv_iload hx hb dX3_best_65 (lv_at hl 2 rfl) ?_
          refine lv_if_ne (tgt := 89) hx hb dX3_best_67 (by decide) (fun c6 => ?_) (fun c6 => ?_)
          · have hm := ifT hm c6
            exact hB89 u x1 x2 x4 x5 x7 v2 v3 v4 _ _ _ hm hw (lv_sub hl [3, 4, 5, 6, 7, 8, 2, 1, 0] rfl)
          · have hm := ifT' hm c6
            refine lv_iload hx hb dX3_best_70 (lv_at hl 1 rfl) ?_
            refine lv_if_gt (tgt := 85) hx hb dX3_best_72 (by decide) (fun c7 => ?_) (fun c7 => ?_)
            · have hm := ifT hm c7
              exact hB85 u x1 x2 x4 x5 x7 v2 v3 v4 _ _ _ hm hw (lv_sub hl [3, 4, 5, 6, 7, 8, 2, 1, 0] rfl)
            · have hm := ifF hm c7
              refine lv_iload hx hb dX3_best_75 (lv_at hl 1 rfl) ?_
              refine lv_if_ne (tgt := 89) hx hb dX3_best_77 (by decide) (fun c8 => ?_) (fun c8 => ?_)
              · have hm := ifT hm c8
                exact hB89 u x1 x2 x4 x5 x7 v2 v3 v4 _ _ _ hm hw (lv_sub hl [3, 4, 5, 6, 7, 8, 2, 1, 0] rfl)
              · have hm := ifT' hm c8
                refine lv_iload hx hb dX3_best_80 (lv_at hl 0 rfl) ?_
                refine lv_if_le (tgt := 89) hx hb dX3_best_82 (by decide) (fun c9 => ?_) (fun c9 => ?_)
                · have hm := ifT hm c9
                  exact hB89 u x1 x2 x4 x5 x7 v2 v3 v4 _ _ _ hm hw (lv_sub hl [3, 4, 5, 6, 7, 8, 2, 1, 0] rfl)
                · have hm := ifF hm c9
                  exact hB85 u x1 x2 x4 x5 x7 v2 v3 v4 _ _ _ hm hw (lv_sub hl [3, 4, 5, 6, 7, 8, 2, 1, 0] rfl)
  rw [m_X3_best] at hm
  refine lv_aload_n hx hb dX3_best_0 rfl (lv_at hl 0 rfl) ?_
  refine lv_iload_n hx hb dX3_best_1 rfl (lv_at hl 1 rfl) ?_
  refine lv_iload_n hx hb dX3_best_2 rfl (lv_at hl 2 rfl) ?_
  obtain ⟨r2, u1, er2, hm⟩ := bd2E hm
  refine tg_calli hw (va_runV (As := [.int x1, .int x2]) (rest := []) ⟨hx, hb, hml, hown, hts⟩ (w_X3_whyNot l er2) (cw_X3_whyNot hts q1909 ⟨Nat.le_of_ble_eq_true rfl, Nat.le_of_ble_eq_true rfl⟩) (tg_pre C hw _) rfl rfl hl.1 rfl (lv_room (Nat.le_of_ble_eq_true rfl)) dX3_best_3 ⟨Nat.le_of_ble_eq_true rfl, Nat.le_of_ble_eq_true rfl⟩) (fun H locs hw => ?_)
  refine lv_istore_n (lv' := [(3, .int r2), (0, .ref (ad 40)), (1, .int x1), (2, .int x2)]) hx hb dX3_best_6 rfl hl (by decide) rfl (fun ls hl => ?_)
  refine lv_iload_n hx hb dX3_best_7 rfl (lv_at hl 0 rfl) ?_
  refine lv_if_ge (tgt := 13) hx hb dX3_best_8 (by decide) (fun c3 => ?_) (fun c3 => ?_)
  · have hm := ifT hm c3
    refine lv_iconst (v := -1) hx hb dX3_best_13 (by decide) ?_
    refine lv_istore (lv' := [(4, .int (-1 : Int32)), (3, .int r2), (0, .ref (ad 40)), (1, .int x1), (2, .int x2)]) hx hb dX3_best_14 hl (by decide) rfl (fun ls hl => ?_)
    refine lv_lconst (v := 0) hx hb dX3_best_16 (by decide) ?_
    refine lv_lstore (lv' := [(5, .long (0 : Int64)), (4, .int (-1 : Int32)), (3, .int r2), (0, .ref (ad 40)), (1, .int x1), (2, .int x2)]) hx hb dX3_best_17 hl (by decide) rfl (fun ls hl => ?_)
    refine lv_iconst (v := 0) hx hb dX3_best_19 (by decide) ?_
    refine lv_istore (lv' := [(7, .int (0 : Int32)), (5, .long (0 : Int64)), (4, .int (-1 : Int32)), (3, .int r2), (0, .ref (ad 40)), (1, .int x1), (2, .int x2)]) hx hb dX3_best_20 hl (by decide) rfl (fun ls hl => ?_)
    exact hB22 f u1 x1 x2 (-1 : Int32) (0 : Int64) (0 : Int32) _ _ _ hm hw (lv_sub hl [4, 5, 6, 2, 1, 0] rfl)
  · have hm := ifF hm c3
    refine lv_iload_n hx hb dX3_best_11 rfl (lv_at hl 0 rfl) ?_
    rw [← hQ]
    exact W.iret (v := r2) hx hb hr (fun t ht hW => ⟨⟨r2, u1, rfl, retE hm, by rw [ht]; exact hw.1, hw.2.1⟩, hw.2.2.1.F ht⟩) hw.2.2.1.2.2 dX3_best_12
def m_X3_isOwn_21 (f : Nat) (u : TS) (y0 : Int32) : Option (Int32 × TS) := gd (zb y0) <|
    some (y0, u)
def m_X3_isOwn_20 (f : Nat) (u : TS) : Option (Int32 × TS) := m_X3_isOwn_21 f u (0 : Int32)
def m_X3_isOwn (f : Nat) (u : TS) (x1 : Int32) : Option (Int32 × TS) := bd2 (m_X3_isLattice f u x1) fun r2 u1 =>
    if r2 = 0 then
    m_X3_isOwn_20 f u1
    else bd2 (m_X3_isTurned f u1 x1) fun r5 u4 =>
    if ¬ r5 = 0 then
    m_X3_isOwn_20 f u4
    else m_X3_isOwn_21 f u4 (1 : Int32)
abbrev rm_X3_isOwn : Room := { frames := 2, cells := 0, slots := 0, locals := 46 }
theorem cw_X3_isOwn {R : Room} {s : State} {args : Array Value} {own : String} {idx : Nat} (hts : ∀ w ∈ lw_all, w.before args s = true) (hl : Cond.methodLink own idx yX3_isOwn ∈ lw_all) (hR : rm_X3_isOwn.frames + 1 ≤ R.frames ∧ 8 + (2 + 11) + rm_X3_isOwn.locals ≤ R.locals) : CallW R s args own RX3 idx yX3_isOwn cX3_isOwn 2 (Option.some Jvm.ClassFile.FieldType.boolean) (ws_ yX3_isOwn cX3_isOwn 2 (Option.some Jvm.ClassFile.FieldType.boolean)) rm_X3_isOwn 0 0 1 := cwV 1 hts (lw_V hl q2135 qs113 q125 q2136) rfl rfl rfl (by decide +kernel) hR
set_option maxHeartbeats 4000000 in
set_option maxRecDepth 100000 in
theorem w_X3_isOwn (l : Launch) {D : va_G} {ad : Nat → Nat} {dI dJ : ClassId} {A : Nat → Prop} {f : Nat} {u u9 : TS} {r0 : Int32} {x1 : Int32} (hm : m_X3_isOwn f u x1 = some (r0, u9)) : Met l yX3_isOwn (ws_ yX3_isOwn cX3_isOwn 2 (Option.some Jvm.ClassFile.FieldType.boolean)) rm_X3_isOwn (va_Pc [.ref (ad 40), .int x1] (TPre D ad dI dJ A u)) (va_Qi (fun r u => r = r0 ∧ u = u9) (TPost D ad dI dJ A) A) 0 0 A := by
  refine Met.ofW (cc := cX3_isOwn) (maxL := 2) (ret := (Option.some Jvm.ClassFile.FieldType.boolean)) (by decide) rfl ?_
  intro p e s m args below meth c s₁ B hml hv
  have hx := B.exec
  have hb := B.bytes
  have hr := B.returns
  have hts := atoms_spec (ws := (ws_ yX3_isOwn cX3_isOwn 2 (Option.some Jvm.ClassFile.FieldType.boolean))) B.pre
  have hts : ∀ w ∈ lw_all, w.before args s = true := fun w h => hts w (List.mem_cons_of_mem _ h)
  have hown : s.vm.findClass RX3 = some m.cls := findClass_of_methodNamed B.named
  have hlocks := B.notSynchronized
  obtain ⟨hav, hv⟩ := hv
  have C : TC p s m args c cX3_isOwn D dI dJ := ⟨hx, hb, hown, hts, hv.2.1⟩
  have hw : TH D ad dI dJ A s.heap u s.heap [] := ⟨hv.1, hv.2.2.1, va_S.rf, hv.2.2.2⟩
  generalize hQ : MQ below (va_Qi (fun r u => r = r0 ∧ u = u9) (TPost D ad dI dJ A) A) args s 0 0 A = QQ
  have hent := lg_entry_eq m [.ref (ad 40), .int x1] 2
  rw [← hav] at hent
  rw [hent]
  have hl := lv_entry ([.ref (ad 40), .int x1]) (n := 2) (Nat.le_of_ble_eq_true rfl)
  generalize (lg_sl ([.ref (ad 40), .int x1]) ++ List.replicate (2 - (lg_sl ([.ref (ad 40), .int x1])).length) Slot.unset).toArray = ls at hl ⊢
  have hl : lv_has ls 2 [(0, .ref (ad 40)), (1, .int x1)] := hl
  change W p l e rm_X3_isOwn s m args below meth c s.heap [] 0 0 QQ (F0 m 0 ls [])
  have hB21 : ∀ (u : TS) (y0 : Int32) (H : Heap) (locs : List Loc) (ls : Array Slot), m_X3_isOwn_21 f u y0 = some (r0, u9) → TH D ad dI dJ A s.heap u H locs → lv_has ls 2 [] → W p l e rm_X3_isOwn s m args below meth c H locs 0 0 QQ (F0 m 21 ls [.int y0]) := by
    intro u y0 H locs ls hm hw hl
    rw [m_X3_isOwn_21] at hm
    obtain ⟨g1, hm⟩ := gdE hm
    rw [← hQ]
    exact W.zret (v := y0) hx hb hr (zb_nar g1) (fun t ht hW => ⟨⟨y0, u, rfl, retE hm, by rw [ht]; exact hw.1, hw.2.1⟩, hw.2.2.1.F ht⟩) hw.2.2.1.2.2 dX3_isOwn_21
  have hB20 : ∀ (u : TS) (H : Heap) (locs : List Loc) (ls : Array Slot), m_X3_isOwn_20 f u = some (r0, u9) → TH D ad dI dJ A s.heap u H locs → lv_has ls 2 [] → W p l e rm_X3_isOwn s m args below meth c H locs 0 0 QQ (F0 m 20 ls []) := by
    intro u H locs ls hm hw hl
    rw [m_X3_isOwn_20] at hm
    refine lv_iconst (v := 0) hx hb dX3_isOwn_20 (by decide) ?_
    exact hB21 u (0 : Int32) _ _ _ hm hw (lv_sub hl [] rfl)
  rw [m_X3_isOwn] at hm
  refine lv_aload_n hx hb dX3_isOwn_0 rfl (lv_at hl 0 rfl) ?_
  refine lv_iload_n hx hb dX3_isOwn_1 rfl (lv_at hl 1 rfl) ?_
  obtain ⟨r2, u1, er2, hm⟩ := bd2E hm
  refine tg_calli hw (va_runV (As := [.int x1]) (rest := []) ⟨hx, hb, hml, hown, hts⟩ (w_X3_isLattice l er2) (cw_X3_isLattice hts q1796 ⟨Nat.le_of_ble_eq_true rfl, Nat.le_of_ble_eq_true rfl⟩) (tg_pre C hw _) rfl rfl hl.1 rfl (lv_room (Nat.le_of_ble_eq_true rfl)) dX3_isOwn_2 ⟨Nat.le_of_ble_eq_true rfl, Nat.le_of_ble_eq_true rfl⟩) (fun H locs hw => ?_)
  refine lv_if_eq (tgt := 20) hx hb dX3_isOwn_5 (by decide) (fun c3 => ?_) (fun c3 => ?_)
  · have hm := ifT hm c3
    exact hB20 u1 _ _ _ hm hw (lv_sub hl [] rfl)
  · have hm := ifF hm c3
    refine lv_aload_n hx hb dX3_isOwn_8 rfl (lv_at hl 0 rfl) ?_
    refine lv_iload_n hx hb dX3_isOwn_9 rfl (lv_at hl 1 rfl) ?_
    obtain ⟨r5, u4, er5, hm⟩ := bd2E hm
    refine tg_calli hw (va_runV (As := [.int x1]) (rest := []) ⟨hx, hb, hml, hown, hts⟩ (w_X3_isTurned l er5) (cw_X3_isTurned hts q1788 ⟨Nat.le_of_ble_eq_true rfl, Nat.le_of_ble_eq_true rfl⟩) (tg_pre C hw _) rfl rfl hl.1 rfl (lv_room (Nat.le_of_ble_eq_true rfl)) dX3_isOwn_10 ⟨Nat.le_of_ble_eq_true rfl, Nat.le_of_ble_eq_true rfl⟩) (fun H locs hw => ?_)
    refine lv_if_ne (tgt := 20) hx hb dX3_isOwn_13 (by decide) (fun c6 => ?_) (fun c6 => ?_)
    · have hm := ifT hm c6
      exact hB20 u4 _ _ _ hm hw (lv_sub hl [] rfl)
    · have hm := ifT' hm c6
      refine lv_iconst (v := 1) hx hb dX3_isOwn_16 (by decide) ?_
      refine lv_goto (tgt := 21) hx hb dX3_isOwn_17 (by decide) ?_
      exact hB21 u4 (1 : Int32) _ _ _ hm hw (lv_sub hl [] rfl)
def m_X3_isRow (f : Nat) (x0 : Int32) : Option Int32 := bd (m_X3_in f (Int32.toInt64 x0) (0 : Int64) (2 : Int64)) fun r1 =>
    gd (zb r1) <|
    some r1
abbrev rm_X3_isRow : Room := { frames := 1, cells := 0, slots := 0, locals := 25 }
theorem cw_X3_isRow {R : Room} {s : State} {args : Array Value} {own : String} {idx : Nat} (hts : ∀ w ∈ lw_all, w.before args s = true) (hl : Cond.methodLink own idx yX3_isRow ∈ lw_all) (hR : rm_X3_isRow.frames + 1 ≤ R.frames ∧ 8 + (1 + 11) + rm_X3_isRow.locals ≤ R.locals) : CallB R s args own idx yX3_isRow cX3_isRow 1 (Option.some Jvm.ClassFile.FieldType.boolean) (ws_ yX3_isRow cX3_isRow 1 (Option.some Jvm.ClassFile.FieldType.boolean)) rm_X3_isRow 0 0 1 ∧ (Cond.static yX3_isRow).before args s = true := va_cwS 1 hts (lw_S hl q2138 q125 q2139) rfl rfl rfl (by decide +kernel) hR
set_option maxHeartbeats 4000000 in
set_option maxRecDepth 100000 in
theorem w_X3_isRow (l : Launch) {f : Nat} {x0 : Int32} {r0 : Int32} (hm : m_X3_isRow f x0 = some r0) : Met l yX3_isRow (ws_ yX3_isRow cX3_isRow 1 (Option.some Jvm.ClassFile.FieldType.boolean)) rm_X3_isRow (va_Pc [.int x0] (fun _ => True)) (vp_Si (fun r => r = r0)) 0 0 (fun _ => False) := by
  refine Met.ofW (cc := cX3_isRow) (maxL := 1) (ret := (Option.some Jvm.ClassFile.FieldType.boolean)) (by decide) rfl ?_
  intro p e s m args below meth c s₁ B hml hv
  have hx := B.exec
  have hb := B.bytes
  have hr := B.returns
  have hts := atoms_spec (ws := (ws_ yX3_isRow cX3_isRow 1 (Option.some Jvm.ClassFile.FieldType.boolean))) B.pre
  have hts : ∀ w ∈ lw_all, w.before args s = true := fun w h => hts w (List.mem_cons_of_mem _ h)
  have hown : s.vm.findClass RX3 = some m.cls := findClass_of_methodNamed B.named
  have hlocks := B.notSynchronized
  obtain ⟨hav, hv⟩ := hv
  generalize hQ : MQ below (vp_Si (fun r => r = r0)) args s 0 0 (fun _ => False) = QQ
  have hent := lg_entry_eq m [.int x0] 1
  rw [← hav] at hent
  rw [hent]
  have hl := lv_entry ([.int x0]) (n := 1) (Nat.le_of_ble_eq_true rfl)
  generalize (lg_sl ([.int x0]) ++ List.replicate (1 - (lg_sl ([.int x0])).length) Slot.unset).toArray = ls at hl ⊢
  have hl : lv_has ls 1 [(0, .int x0)] := hl
  change W p l e rm_X3_isRow s m args below meth c s.heap [] 0 0 QQ (F0 m 0 ls [])
  rw [m_X3_isRow] at hm
  refine lv_iload_n hx hb dX3_isRow_0 rfl (lv_at hl 0 rfl) ?_
  refine lv_i2l hx hb dX3_isRow_1 rfl ?_
  refine lv_lconst (v := 0) hx hb dX3_isRow_2 (by decide) ?_
  refine lv_ldc2 hx hb hown (hts _ q1803) dX3_isRow_3 ?_
  obtain ⟨r1, er1, hm⟩ := bdE hm
  refine sci (va_runS (As := [.long (Int32.toInt64 x0), .long (0 : Int64), .long (2 : Int64)]) (rest := []) ⟨hx, hb, hml, hown, hts⟩ (w_X3_in l er1) (cw_X3_in hts q1695 ⟨Nat.le_of_ble_eq_true rfl, Nat.le_of_ble_eq_true rfl⟩) (pre_s _) rfl rfl hl.1 rfl (lv_room (Nat.le_of_ble_eq_true rfl)) dX3_isRow_6 ⟨Nat.le_of_ble_eq_true rfl, Nat.le_of_ble_eq_true rfl⟩) ?_
  obtain ⟨g2, hm⟩ := gdE hm
  rw [← hQ]
  exact W.zret (v := r1) hx hb hr (zb_nar g2) (fun t ht hW => ⟨r1, rfl, ret1 hm, ht⟩) (fun q h => absurd h List.not_mem_nil) dX3_isRow_9
def m_X3_refuses_27 (f : Nat) (u : TS) (y1 : Int32) : Option (Int32 × TS) := nmv (sI u 10 y1) fun u1 =>
    some ((-5 : Int32), u1)
def m_X3_refuses (f : Nat) (u : TS) (x1 : Int32) (x2 : Int32) (x3 : Int32) (x4 : Int32) : Option (Int32 × TS) := nmv (sI u 7 x1) fun u1 =>
    nmv (sI u1 8 x2) fun u2 =>
    nmv (sI u2 9 x3) fun u3 =>
    if ¬ x2 = (3 : Int32) then
    m_X3_refuses_27 f u3 x4
    else m_X3_refuses_27 f u3 (-1 : Int32)
abbrev rm_X3_refuses : Room := { frames := 0, cells := 0, slots := 0, locals := 0 }
theorem cw_X3_refuses {R : Room} {s : State} {args : Array Value} {own : String} {idx : Nat} (hts : ∀ w ∈ lw_all, w.before args s = true) (hl : Cond.methodLink own idx yX3_refuses ∈ lw_all) (hR : rm_X3_refuses.frames + 1 ≤ R.frames ∧ 8 + (5 + 11) + rm_X3_refuses.locals ≤ R.locals) : CallW R s args own RX3 idx yX3_refuses cX3_refuses 5 (Option.some Jvm.ClassFile.FieldType.int) (ws_ yX3_refuses cX3_refuses 5 (Option.some Jvm.ClassFile.FieldType.int)) rm_X3_refuses 0 0 4 := cwV 4 hts (lw_V hl q2144 qs114 q125 q2145) rfl rfl rfl (by decide +kernel) hR
set_option maxHeartbeats 4000000 in
set_option maxRecDepth 100000 in
theorem w_X3_refuses (l : Launch) {D : va_G} {ad : Nat → Nat} {dI dJ : ClassId} {A : Nat → Prop} {f : Nat} {u u9 : TS} {r0 : Int32} {x1 : Int32} {x2 : Int32} {x3 : Int32} {x4 : Int32} (hm : m_X3_refuses f u x1 x2 x3 x4 = some (r0, u9)) : Met l yX3_refuses (ws_ yX3_refuses cX3_refuses 5 (Option.some Jvm.ClassFile.FieldType.int)) rm_X3_refuses (va_Pc [.ref (ad 40), .int x1, .int x2, .int x3, .int x4] (TPre D ad dI dJ A u)) (va_Qi (fun r u => r = r0 ∧ u = u9) (TPost D ad dI dJ A) A) 0 0 A := by
  refine Met.ofW (cc := cX3_refuses) (maxL := 5) (ret := (Option.some Jvm.ClassFile.FieldType.int)) (by decide) rfl ?_
  intro p e s m args below meth c s₁ B hml hv
  have hx := B.exec
  have hb := B.bytes
  have hr := B.returns
  have hts := atoms_spec (ws := (ws_ yX3_refuses cX3_refuses 5 (Option.some Jvm.ClassFile.FieldType.int))) B.pre
  have hts : ∀ w ∈ lw_all, w.before args s = true := fun w h => hts w (List.mem_cons_of_mem _ h)
  have hown : s.vm.findClass RX3 = some m.cls := findClass_of_methodNamed B.named
  have hlocks := B.notSynchronized
  obtain ⟨hav, hv⟩ := hv
  have C : TC p s m args c cX3_refuses D dI dJ := ⟨hx, hb, hown, hts, hv.2.1⟩
  have hw : TH D ad dI dJ A s.heap u s.heap [] := ⟨hv.1, hv.2.2.1, va_S.rf, hv.2.2.2⟩
  generalize hQ : MQ below (va_Qi (fun r u => r = r0 ∧ u = u9) (TPost D ad dI dJ A) A) args s 0 0 A = QQ
  have hent := lg_entry_eq m [.ref (ad 40), .int x1, .int x2, .int x3, .int x4] 5
  rw [← hav] at hent
  rw [hent]
  have hl := lv_entry ([.ref (ad 40), .int x1, .int x2, .int x3, .int x4]) (n := 5) (Nat.le_of_ble_eq_true rfl)
  generalize (lg_sl ([.ref (ad 40), .int x1, .int x2, .int x3, .int x4]) ++ List.replicate (5 - (lg_sl ([.ref (ad 40), .int x1, .int x2, .int x3, .int x4])).length) Slot.unset).toArray = ls at hl ⊢
  have hl : lv_has ls 5 [(0, .ref (ad 40)), (1, .int x1), (2, .int x2), (3, .int x3), (4, .int x4)] := hl
  change W p l e rm_X3_refuses s m args below meth c s.heap [] 0 0 QQ (F0 m 0 ls [])
  have hB27 : ∀ (u : TS) (y1 : Int32) (H : Heap) (locs : List Loc) (ls : Array Slot), m_X3_refuses_27 f u y1 = some (r0, u9) → TH D ad dI dJ A s.heap u H locs → lv_has ls 5 [] → W p l e rm_X3_refuses s m args below meth c H locs 0 0 QQ (F0 m 27 ls [.int y1, .ref (ad 40)]) := by
    intro u y1 H locs ls hm hw hl
    rw [m_X3_refuses_27] at hm
    refine tg_put C hw 10 (by decide) q1576 rfl rfl rfl (ts_10 ad dI dJ u y1) dX3_refuses_27 (fun H locs hw => ?_)
    obtain ⟨u1, eu1, hm⟩ := nmE hm
    rw [← eu1] at hw
    refine lv_bipush (v := -5) hx hb dX3_refuses_30 (by decide) ?_
    rw [← hQ]
    exact W.iret (v := (-5 : Int32)) hx hb hr (fun t ht hW => ⟨⟨(-5 : Int32), u1, rfl, retE hm, by rw [ht]; exact hw.1, hw.2.1⟩, hw.2.2.1.F ht⟩) hw.2.2.1.2.2 dX3_refuses_32
  rw [m_X3_refuses] at hm
  refine lv_aload_n hx hb dX3_refuses_0 rfl (lv_at hl 0 rfl) ?_
  refine lv_iload_n hx hb dX3_refuses_1 rfl (lv_at hl 1 rfl) ?_
  refine tg_put C hw 7 (by decide) q1573 rfl rfl rfl (ts_7 ad dI dJ u x1) dX3_refuses_2 (fun H locs hw => ?_)
  obtain ⟨u1, eu1, hm⟩ := nmE hm
  rw [← eu1] at hw
  refine lv_aload_n hx hb dX3_refuses_5 rfl (lv_at hl 0 rfl) ?_
  refine lv_iload_n hx hb dX3_refuses_6 rfl (lv_at hl 2 rfl) ?_
  refine tg_put C hw 8 (by decide) q1574 rfl rfl rfl (ts_8 ad dI dJ u1 x2) dX3_refuses_7 (fun H locs hw => ?_)
  obtain ⟨u2, eu2, hm⟩ := nmE hm
  rw [← eu2] at hw
  refine lv_aload_n hx hb dX3_refuses_10 rfl (lv_at hl 0 rfl) ?_
  refine lv_iload_n hx hb dX3_refuses_11 rfl (lv_at hl 3 rfl) ?_
  refine tg_put C hw 9 (by decide) q1575 rfl rfl rfl (ts_9 ad dI dJ u2 x3) dX3_refuses_12 (fun H locs hw => ?_)
  obtain ⟨u3, eu3, hm⟩ := nmE hm
  rw [← eu3] at hw
  refine lv_aload_n hx hb dX3_refuses_15 rfl (lv_at hl 0 rfl) ?_
  refine lv_iload_n hx hb dX3_refuses_16 rfl (lv_at hl 2 rfl) ?_
  refine lv_iconst (v := 3) hx hb dX3_refuses_17 (by decide) ?_
  refine lv_icmp_ne (tgt := 25) hx hb dX3_refuses_18 (by decide) (fun c4 => ?_) (fun c4 => ?_)
  · have hm := ifT hm c4
    refine lv_iload hx hb dX3_refuses_25 (lv_at hl 4 rfl) ?_
    exact hB27 u3 x4 _ _ _ hm hw (lv_sub hl [] rfl)
  · have hm := ifT' hm c4
    refine lv_iconst (v := -1) hx hb dX3_refuses_21 (by decide) ?_
    refine lv_goto (tgt := 27) hx hb dX3_refuses_22 (by decide) ?_
    exact hB27 u3 (-1 : Int32) _ _ _ hm hw (lv_sub hl [] rfl)
def m_X3_keeps_39 (f : Nat) (u : TS) : Option TS := nmv (sA u 0 (Int32.toNatClampNeg (2 : Int32)) ((tA u 0 (Int32.toNatClampNeg (2 : Int32))) + (1 : Int32))) fun u1 =>
    some u1
def m_X3_keeps_2 (f : Nat) : Nat → TS → Int32 → Option TS
  | 0, _, _ => none
  | n2 + 1, u, x1 => if (45 : Int32) ≤ x1 then
    m_X3_keeps_39 f u
    else gd (ix ((28 : Int32) + x1) 73) <|
    gd (ix (((45 : Int32) * (tA u 0 (Int32.toNatClampNeg (2 : Int32)))) + x1) 900) <|
    nmv (sA u 2 (Int32.toNatClampNeg (((45 : Int32) * (tA u 0 (Int32.toNatClampNeg (2 : Int32)))) + x1)) (tA u 0 (Int32.toNatClampNeg ((28 : Int32) + x1)))) fun u4 =>
    nmv ((x1 + 1) : Int32) fun v5 =>
    m_X3_keeps_2 f n2 u4 v5
def m_X3_keeps (f : Nat) (u : TS) : Option TS := m_X3_keeps_2 f f u (0 : Int32)
abbrev rm_X3_keeps : Room := { frames := 0, cells := 0, slots := 0, locals := 0 }
theorem cw_X3_keeps {R : Room} {s : State} {args : Array Value} {own : String} {idx : Nat} (hts : ∀ w ∈ lw_all, w.before args s = true) (hl : Cond.methodLink own idx yX3_keeps ∈ lw_all) (hR : rm_X3_keeps.frames + 1 ≤ R.frames ∧ 8 + (2 + 11) + rm_X3_keeps.locals ≤ R.locals) : CallW R s args own RX3 idx yX3_keeps cX3_keeps 2 (Option.none : Option Jvm.ClassFile.FieldType) (ws_ yX3_keeps cX3_keeps 2 (Option.none : Option Jvm.ClassFile.FieldType)) rm_X3_keeps 0 0 0 := cwV 0 hts (lw_V hl q2148 qs115 q125 q2149) rfl rfl rfl (by decide +kernel) hR
set_option maxHeartbeats 4000000 in
set_option maxRecDepth 100000 in
theorem w_X3_keeps (l : Launch) {D : va_G} {ad : Nat → Nat} {dI dJ : ClassId} {A : Nat → Prop} {f : Nat} {u u9 : TS}  (hm : m_X3_keeps f u = some u9) : Met l yX3_keeps (ws_ yX3_keeps cX3_keeps 2 (Option.none : Option Jvm.ClassFile.FieldType)) rm_X3_keeps (va_Pc [.ref (ad 40)] (TPre D ad dI dJ A u)) (va_Qv (fun u => u = u9) (TPost D ad dI dJ A) A) 0 0 A := by
  refine Met.ofW (cc := cX3_keeps) (maxL := 2) (ret := (Option.none : Option Jvm.ClassFile.FieldType)) (by decide) rfl ?_
  intro p e s m args below meth c s₁ B hml hv
  have hx := B.exec
  have hb := B.bytes
  have hr := B.returns
  have hts := atoms_spec (ws := (ws_ yX3_keeps cX3_keeps 2 (Option.none : Option Jvm.ClassFile.FieldType))) B.pre
  have hts : ∀ w ∈ lw_all, w.before args s = true := fun w h => hts w (List.mem_cons_of_mem _ h)
  have hown : s.vm.findClass RX3 = some m.cls := findClass_of_methodNamed B.named
  have hlocks := B.notSynchronized
  obtain ⟨hav, hv⟩ := hv
  have C : TC p s m args c cX3_keeps D dI dJ := ⟨hx, hb, hown, hts, hv.2.1⟩
  have hw : TH D ad dI dJ A s.heap u s.heap [] := ⟨hv.1, hv.2.2.1, va_S.rf, hv.2.2.2⟩
  generalize hQ : MQ below (va_Qv (fun u => u = u9) (TPost D ad dI dJ A) A) args s 0 0 A = QQ
  have hent := lg_entry_eq m [.ref (ad 40)] 2
  rw [← hav] at hent
  rw [hent]
  have hl := lv_entry ([.ref (ad 40)]) (n := 2) (Nat.le_of_ble_eq_true rfl)
  generalize (lg_sl ([.ref (ad 40)]) ++ List.replicate (2 - (lg_sl ([.ref (ad 40)])).length) Slot.unset).toArray = ls at hl ⊢
  have hl : lv_has ls 2 [(0, .ref (ad 40))] := hl
  change W p l e rm_X3_keeps s m args below meth c s.heap [] 0 0 QQ (F0 m 0 ls [])
  have hB39 : ∀ (u : TS) (H : Heap) (locs : List Loc) (ls : Array Slot), m_X3_keeps_39 f u = some u9 → TH D ad dI dJ A s.heap u H locs → lv_has ls 2 [(0, .ref (ad 40))] → W p l e rm_X3_keeps s m args below meth c H locs 0 0 QQ (F0 m 39 ls []) := by
    intro u H locs ls hm hw hl
    rw [m_X3_keeps_39] at hm
    refine lv_aload_n hx hb dX3_keeps_39 rfl (lv_at hl 0 rfl) ?_
    refine tg_get C hw 0 (by decide) q1566 rfl dX3_keeps_40 ?_
    refine lv_iconst (v := 2) hx hb dX3_keeps_43 (by decide) ?_
    refine lv_dup2_11 hx hb dX3_keeps_44 rfl rfl ?_
    refine tg_iald C hw (tp_0 ad dI dJ u) (by decide) dX3_keeps_45 ?_
    refine lv_iconst (v := 1) hx hb dX3_keeps_46 (by decide) ?_
    refine lv_iadd hx hb dX3_keeps_47 ?_
    refine tg_iast C hw (tp_0 ad dI dJ u) (by decide) (ts_0 ad dI dJ u _ _) dX3_keeps_48 (fun H locs hw => ?_)
    obtain ⟨u1, eu1, hm⟩ := nmE hm
    rw [← eu1] at hw
    rw [← hQ]
    exact W.vret hx hb hr (fun t ht hW => ⟨⟨u1, rfl, ret1 hm, by rw [ht]; exact hw.1, hw.2.1⟩, hw.2.2.1.F ht⟩) hw.2.2.1.2.2 dX3_keeps_49
  have hB2 : ∀ (n2 : Nat), ∀ (u : TS) (x1 : Int32) (H : Heap) (locs : List Loc) (ls : Array Slot), m_X3_keeps_2 f n2 u x1 = some u9 → TH D ad dI dJ A s.heap u H locs → lv_has ls 2 [(0, .ref (ad 40)), (1, .int x1)] → W p l e rm_X3_keeps s m args below meth c H locs 0 0 QQ (F0 m 2 ls []) := by
    intro n2
    induction n2 with
    | zero => intro u x1 H locs ls hm hw hl; rw [m_X3_keeps_2] at hm; exact noE hm
    | succ n2 ih2 =>
      intro u x1 H locs ls hm hw hl
      rw [m_X3_keeps_2] at hm
      refine lv_iload_n hx hb dX3_keeps_2 rfl (lv_at hl 1 rfl) ?_
      refine lv_bipush (v := 45) hx hb dX3_keeps_3 (by decide) ?_
      refine lv_icmp_ge (tgt := 39) hx hb dX3_keeps_5 (by decide) (fun c1 => ?_) (fun c1 => ?_)
      · have hm := ifT hm c1
        exact hB39 u _ _ _ hm hw (lv_sub hl [0] rfl)
      · have hm := ifF hm c1
        refine lv_aload_n hx hb dX3_keeps_8 rfl (lv_at hl 0 rfl) ?_
        refine tg_get C hw 2 (by decide) q1568 rfl dX3_keeps_9 ?_
        refine lv_bipush (v := 45) hx hb dX3_keeps_12 (by decide) ?_
        refine lv_aload_n hx hb dX3_keeps_14 rfl (lv_at hl 0 rfl) ?_
        refine tg_get C hw 0 (by decide) q1566 rfl dX3_keeps_15 ?_
        refine lv_iconst (v := 2) hx hb dX3_keeps_18 (by decide) ?_
        refine tg_iald C hw (tp_0 ad dI dJ u) (by decide) dX3_keeps_19 ?_
        refine lv_imul hx hb dX3_keeps_20 ?_
        refine lv_iload_n hx hb dX3_keeps_21 rfl (lv_at hl 1 rfl) ?_
        refine lv_iadd hx hb dX3_keeps_22 ?_
        refine lv_aload_n hx hb dX3_keeps_23 rfl (lv_at hl 0 rfl) ?_
        refine tg_get C hw 0 (by decide) q1566 rfl dX3_keeps_24 ?_
        refine lv_bipush (v := 28) hx hb dX3_keeps_27 (by decide) ?_
        refine lv_iload_n hx hb dX3_keeps_29 rfl (lv_at hl 1 rfl) ?_
        refine lv_iadd hx hb dX3_keeps_30 ?_
        obtain ⟨g2, hm⟩ := gdE hm
        refine tg_iald C hw (tp_0 ad dI dJ u) g2 dX3_keeps_31 ?_
        obtain ⟨g3, hm⟩ := gdE hm
        refine tg_iast C hw (tp_2 ad dI dJ u) g3 (ts_2 ad dI dJ u _ _) dX3_keeps_32 (fun H locs hw => ?_)
        obtain ⟨u4, eu4, hm⟩ := nmE hm
        rw [← eu4] at hw
        obtain ⟨v5, ev5, hm⟩ := nmE hm
        refine lv_iinc (v := v5) (lv' := [(1, .int v5), (0, .ref (ad 40))]) hx hb dX3_keeps_33 hl (k := 1) rfl (by rw [ev5]; rfl) (by decide) rfl (fun ls hl => ?_)
        refine lv_goto (tgt := 2) hx hb dX3_keeps_36 (by decide) ?_
        exact ih2 u4 v5 _ _ _ hm hw (lv_sub hl [1, 0] rfl)
  rw [m_X3_keeps] at hm
  refine lv_iconst (v := 0) hx hb dX3_keeps_0 (by decide) ?_
  refine lv_istore_n (lv' := [(1, .int (0 : Int32)), (0, .ref (ad 40))]) hx hb dX3_keeps_1 rfl hl (by decide) rfl (fun ls hl => ?_)
  exact hB2 f u (0 : Int32) _ _ _ hm hw (lv_sub hl [1, 0] rfl)
def m_X3_goesBack_41 (f : Nat) (u : TS) : Option TS := some u
def m_X3_goesBack_9 (f : Nat) : Nat → TS → Int32 → Int32 → Option TS
  | 0, _, _, _ => none
  | n9 + 1, u, x1, x2 => if (45 : Int32) ≤ x2 then
    m_X3_goesBack_41 f u
    else gd (ix (((45 : Int32) * x1) + x2) 900) <|
    gd (ix ((28 : Int32) + x2) 73) <|
    nmv (sA u 0 (Int32.toNatClampNeg ((28 : Int32) + x2)) (tA u 2 (Int32.toNatClampNeg (((45 : Int32) * x1) + x2)))) fun u4 =>
    nmv ((x2 + 1) : Int32) fun v5 =>
    m_X3_goesBack_9 f n9 u4 x1 v5
def m_X3_goesBack (f : Nat) (u : TS) (x1 : Int32) : Option TS := nmv (sA u 0 (Int32.toNatClampNeg (2 : Int32)) x1) fun u1 =>
    m_X3_goesBack_9 f f u1 x1 (0 : Int32)
abbrev rm_X3_goesBack : Room := { frames := 0, cells := 0, slots := 0, locals := 0 }
theorem cw_X3_goesBack {R : Room} {s : State} {args : Array Value} {own : String} {idx : Nat} (hts : ∀ w ∈ lw_all, w.before args s = true) (hl : Cond.methodLink own idx yX3_goesBack ∈ lw_all) (hR : rm_X3_goesBack.frames + 1 ≤ R.frames ∧ 8 + (3 + 11) + rm_X3_goesBack.locals ≤ R.locals) : CallW R s args own RX3 idx yX3_goesBack cX3_goesBack 3 (Option.none : Option Jvm.ClassFile.FieldType) (ws_ yX3_goesBack cX3_goesBack 3 (Option.none : Option Jvm.ClassFile.FieldType)) rm_X3_goesBack 0 0 1 := cwV 1 hts (lw_V hl q2158 qs117 q125 q2159) rfl rfl rfl (by decide +kernel) hR
set_option maxHeartbeats 4000000 in
set_option maxRecDepth 100000 in
theorem w_X3_goesBack (l : Launch) {D : va_G} {ad : Nat → Nat} {dI dJ : ClassId} {A : Nat → Prop} {f : Nat} {u u9 : TS} {x1 : Int32} (hm : m_X3_goesBack f u x1 = some u9) : Met l yX3_goesBack (ws_ yX3_goesBack cX3_goesBack 3 (Option.none : Option Jvm.ClassFile.FieldType)) rm_X3_goesBack (va_Pc [.ref (ad 40), .int x1] (TPre D ad dI dJ A u)) (va_Qv (fun u => u = u9) (TPost D ad dI dJ A) A) 0 0 A := by
  refine Met.ofW (cc := cX3_goesBack) (maxL := 3) (ret := (Option.none : Option Jvm.ClassFile.FieldType)) (by decide) rfl ?_
  intro p e s m args below meth c s₁ B hml hv
  have hx := B.exec
  have hb := B.bytes
  have hr := B.returns
  have hts := atoms_spec (ws := (ws_ yX3_goesBack cX3_goesBack 3 (Option.none : Option Jvm.ClassFile.FieldType))) B.pre
  have hts : ∀ w ∈ lw_all, w.before args s = true := fun w h => hts w (List.mem_cons_of_mem _ h)
  have hown : s.vm.findClass RX3 = some m.cls := findClass_of_methodNamed B.named
  have hlocks := B.notSynchronized
  obtain ⟨hav, hv⟩ := hv
  have C : TC p s m args c cX3_goesBack D dI dJ := ⟨hx, hb, hown, hts, hv.2.1⟩
  have hw : TH D ad dI dJ A s.heap u s.heap [] := ⟨hv.1, hv.2.2.1, va_S.rf, hv.2.2.2⟩
  generalize hQ : MQ below (va_Qv (fun u => u = u9) (TPost D ad dI dJ A) A) args s 0 0 A = QQ
  have hent := lg_entry_eq m [.ref (ad 40), .int x1] 3
  rw [← hav] at hent
  rw [hent]
  have hl := lv_entry ([.ref (ad 40), .int x1]) (n := 3) (Nat.le_of_ble_eq_true rfl)
  generalize (lg_sl ([.ref (ad 40), .int x1]) ++ List.replicate (3 - (lg_sl ([.ref (ad 40), .int x1])).length) Slot.unset).toArray = ls at hl ⊢
  have hl : lv_has ls 3 [(0, .ref (ad 40)), (1, .int x1)] := hl
  change W p l e rm_X3_goesBack s m args below meth c s.heap [] 0 0 QQ (F0 m 0 ls [])
  have hB41 : ∀ (u : TS) (H : Heap) (locs : List Loc) (ls : Array Slot), m_X3_goesBack_41 f u = some u9 → TH D ad dI dJ A s.heap u H locs → lv_has ls 3 [] → W p l e rm_X3_goesBack s m args below meth c H locs 0 0 QQ (F0 m 41 ls []) := by
    intro u H locs ls hm hw hl
    rw [m_X3_goesBack_41] at hm
    rw [← hQ]
    exact W.vret hx hb hr (fun t ht hW => ⟨⟨u, rfl, ret1 hm, by rw [ht]; exact hw.1, hw.2.1⟩, hw.2.2.1.F ht⟩) hw.2.2.1.2.2 dX3_goesBack_41
  have hB9 : ∀ (n9 : Nat), ∀ (u : TS) (x1 : Int32) (x2 : Int32) (H : Heap) (locs : List Loc) (ls : Array Slot), m_X3_goesBack_9 f n9 u x1 x2 = some u9 → TH D ad dI dJ A s.heap u H locs → lv_has ls 3 [(0, .ref (ad 40)), (1, .int x1), (2, .int x2)] → W p l e rm_X3_goesBack s m args below meth c H locs 0 0 QQ (F0 m 9 ls []) := by
    intro n9
    induction n9 with
    | zero => intro u x1 x2 H locs ls hm hw hl; rw [m_X3_goesBack_9] at hm; exact noE hm
    | succ n9 ih9 =>
      intro u x1 x2 H locs ls hm hw hl
      rw [m_X3_goesBack_9] at hm
      refine lv_iload_n hx hb dX3_goesBack_9 rfl (lv_at hl 2 rfl) ?_
      refine lv_bipush (v := 45) hx hb dX3_goesBack_10 (by decide) ?_
      refine lv_icmp_ge (tgt := 41) hx hb dX3_goesBack_12 (by decide) (fun c1 => ?_) (fun c1 => ?_)
      · have hm := ifT hm c1
        exact hB41 u _ _ _ hm hw (lv_sub hl [] rfl)
      · have hm := ifF hm c1
        refine lv_aload_n hx hb dX3_goesBack_15 rfl (lv_at hl 0 rfl) ?_
        refine tg_get C hw 0 (by decide) q1566 rfl dX3_goesBack_16 ?_
        refine lv_bipush (v := 28) hx hb dX3_goesBack_19 (by decide) ?_
        refine lv_iload_n hx hb dX3_goesBack_21 rfl (lv_at hl 2 rfl) ?_
        refine lv_iadd hx hb dX3_goesBack_22 ?_
        refine lv_aload_n hx hb dX3_goesBack_23 rfl (lv_at hl 0 rfl) ?_
        refine tg_get C hw 2 (by decide) q1568 rfl dX3_goesBack_24 ?_
        refine lv_bipush (v := 45) hx hb dX3_goesBack_27 (by decide) ?_
        refine lv_iload_n hx hb dX3_goesBack_29 rfl (lv_at hl 1 rfl) ?_
        refine lv_imul hx hb dX3_goesBack_30 ?_
        refine lv_iload_n hx hb dX3_goesBack_31 rfl (lv_at hl 2 rfl) ?_
        refine lv_iadd hx hb dX3_goesBack_32 ?_
        obtain ⟨g2, hm⟩ := gdE hm
        refine tg_iald C hw (tp_2 ad dI dJ u) g2 dX3_goesBack_33 ?_
        obtain ⟨g3, hm⟩ := gdE hm
        refine tg_iast C hw (tp_0 ad dI dJ u) g3 (ts_0 ad dI dJ u _ _) dX3_goesBack_34 (fun H locs hw => ?_)
        obtain ⟨u4, eu4, hm⟩ := nmE hm
        rw [← eu4] at hw
        obtain ⟨v5, ev5, hm⟩ := nmE hm
        refine lv_iinc (v := v5) (lv' := [(2, .int v5), (0, .ref (ad 40)), (1, .int x1)]) hx hb dX3_goesBack_35 hl (k := 2) rfl (by rw [ev5]; rfl) (by decide) rfl (fun ls hl => ?_)
        refine lv_goto (tgt := 9) hx hb dX3_goesBack_38 (by decide) ?_
        exact ih9 u4 x1 v5 _ _ _ hm hw (lv_sub hl [1, 2, 0] rfl)
  rw [m_X3_goesBack] at hm
  refine lv_aload_n hx hb dX3_goesBack_0 rfl (lv_at hl 0 rfl) ?_
  refine tg_get C hw 0 (by decide) q1566 rfl dX3_goesBack_1 ?_
  refine lv_iconst (v := 2) hx hb dX3_goesBack_4 (by decide) ?_
  refine lv_iload_n hx hb dX3_goesBack_5 rfl (lv_at hl 1 rfl) ?_
  refine tg_iast C hw (tp_0 ad dI dJ u) (by decide) (ts_0 ad dI dJ u _ _) dX3_goesBack_6 (fun H locs hw => ?_)
  obtain ⟨u1, eu1, hm⟩ := nmE hm
  rw [← eu1] at hw
  refine lv_iconst (v := 0) hx hb dX3_goesBack_7 (by decide) ?_
  refine lv_istore_n (lv' := [(2, .int (0 : Int32)), (0, .ref (ad 40)), (1, .int x1)]) hx hb dX3_goesBack_8 rfl hl (by decide) rfl (fun ls hl => ?_)
  exact hB9 f u1 x1 (0 : Int32) _ _ _ hm hw (lv_sub hl [1, 2, 0] rfl)
