/-! walks of the twin (printed by gen/walk.py) -/
set_option maxRecDepth 100000
def m_X3_join_24 (f : Nat) (u : TS) : Option (Int64 × TS) := some ((-1 : Int64), u)
def m_X3_join (f : Nat) (u : TS) (x1 : Int32) (x2 : Int32) (x3 : Int32) (x4 : Int32) : Option (Int64 × TS) := bd2 (m_X3_whyNot f u x1 x2) fun r2 u1 =>
    if r2 = (-2 : Int32) then
    m_X3_join_24 f u1
    else bd (m_X3_isAt2 f x3 x4) fun r4 =>
    if ¬ r4 = 0 then
    if 0 ≤ r2 then
    bd (m_X3_joins f u1 x1 x2) fun u7 =>
    gd (ix (((3 : Int32) * x3) + x4) 9) <|
    some ((tB u7 18 (Int32.toNatClampNeg (((3 : Int32) * x3) + x4))), u7)
    else some ((Int32.toInt64 r2), u1)
    else m_X3_join_24 f u1
abbrev rm_X3_join : Room := { frames := 8, cells := 0, slots := 0, locals := 191 }
theorem cw_X3_join {R : Room} {s : State} {args : Array Value} {own : String} {idx : Nat} (hts : ∀ w ∈ lw_all, w.before args s = true) (hl : Cond.methodLink own idx yX3_join ∈ lw_all) (hR : rm_X3_join.frames + 1 ≤ R.frames ∧ 8 + (6 + 11) + rm_X3_join.locals ≤ R.locals) : CallW R s args own RX3 idx yX3_join cX3_join 6 (Option.some Jvm.ClassFile.FieldType.long) (ws_ yX3_join cX3_join 6 (Option.some Jvm.ClassFile.FieldType.long)) rm_X3_join 0 0 4 := cwV 4 hts (lw_V hl q1971 q1972 q125 q1973) rfl rfl rfl (by decide +kernel) hR
set_option maxHeartbeats 4000000 in
set_option maxRecDepth 100000 in
theorem w_X3_join (l : Launch) {D : va_G} {ad : Nat → Nat} {dI dJ : ClassId} {A : Nat → Prop} {f : Nat} {u u9 : TS} {r0 : Int64} {x1 : Int32} {x2 : Int32} {x3 : Int32} {x4 : Int32} (hm : m_X3_join f u x1 x2 x3 x4 = some (r0, u9)) : Met l yX3_join (ws_ yX3_join cX3_join 6 (Option.some Jvm.ClassFile.FieldType.long)) rm_X3_join (va_Pc [.ref (ad 40), .int x1, .int x2, .int x3, .int x4] (TPre D ad dI dJ A u)) (va_Ql (fun r u => r = r0 ∧ u = u9) (TPost D ad dI dJ A) A) 0 0 A := by
  refine Met.ofW (cc := cX3_join) (maxL := 6) (ret := (Option.some Jvm.ClassFile.FieldType.long)) (by decide) rfl ?_
  intro p e s m args below meth c s₁ B hml hv
  have hx := B.exec
  have hb := B.bytes
  have hr := B.returns
  have hts := atoms_spec (ws := (ws_ yX3_join cX3_join 6 (Option.some Jvm.ClassFile.FieldType.long))) B.pre
  have hts : ∀ w ∈ lw_all, w.before args s = true := fun w h => hts w (List.mem_cons_of_mem _ h)
  have hown : s.vm.findClass RX3 = some m.cls := findClass_of_methodNamed B.named
  have hlocks := B.notSynchronized
  obtain ⟨hav, hv⟩ := hv
  have C : TC p s m args c cX3_join D dI dJ := ⟨hx, hb, hown, hts, hv.2.1⟩
  have hw : TH D ad dI dJ A s.heap u s.heap [] := ⟨hv.1, hv.2.2.1, va_S.rf, hv.2.2.2⟩
  generalize hQ : MQ below (va_Ql (fun r u => r = r0 ∧ u = u9) (TPost D ad dI dJ A) A) args s 0 0 A = QQ
  have hent := lg_entry_eq m [.ref (ad 40), .int x1, .int x2, .int x3, .int x4] 6
  rw [← hav] at hent
  rw [hent]
  have hl := lv_entry ([.ref (ad 40), .int x1, .int x2, .int x3, .int x4]) (n := 6) (Nat.le_of_ble_eq_true rfl)
  generalize (lg_sl ([.ref (ad 40), .int x1, .int x2, .int x3, .int x4]) ++ List.replicate (6 - (lg_sl ([.ref (ad 40), .int x1, .int x2, .int x3, .int x4])).length) Slot.unset).toArray = ls at hl ⊢
  have hl : lv_has ls 6 [(0, .ref (ad 40)), (1, .int x1), (2, .int x2), (3, .int x3), (4, .int x4)] := hl
  change W p l e rm_X3_join s m args below meth c s.heap [] 0 0 QQ (F0 m 0 ls [])
  have hB24 : ∀ (u : TS) (H : Heap) (locs : List Loc) (ls : Array Slot), m_X3_join_24 f u = some (r0, u9) → TH D ad dI dJ A s.heap u H locs → lv_has ls 6 [] → W p l e rm_X3_join s m args below meth c H locs 0 0 QQ (F0 m 24 ls []) := by
    intro u H locs ls hm hw hl
    rw [m_X3_join_24] at hm
    refine lv_ldc2 hx hb hown (hts _ q1831) dX3_join_24 ?_
    rw [← hQ]
    exact W.lret (v := (-1 : Int64)) hx hb hr (fun t ht hW => ⟨⟨(-1 : Int64), u, rfl, retE hm, by rw [ht]; exact hw.1, hw.2.1⟩, hw.2.2.1.F ht⟩) hw.2.2.1.2.2 dX3_join_27
  rw [m_X3_join] at hm
  refine lv_aload_n hx hb dX3_join_0 rfl (lv_at hl 0 rfl) ?_
  refine lv_iload_n hx hb dX3_join_1 rfl (lv_at hl 1 rfl) ?_
  refine lv_iload_n hx hb dX3_join_2 rfl (lv_at hl 2 rfl) ?_
  obtain ⟨r2, u1, er2, hm⟩ := bd2E hm
  refine tg_calli hw (va_runV (As := [.int x1, .int x2]) (rest := []) ⟨hx, hb, hml, hown, hts⟩ (w_X3_whyNot l er2) (cw_X3_whyNot hts q1909 ⟨Nat.le_of_ble_eq_true rfl, Nat.le_of_ble_eq_true rfl⟩) (tg_pre C hw _) rfl rfl hl.1 rfl (lv_room (Nat.le_of_ble_eq_true rfl)) dX3_join_3 ⟨Nat.le_of_ble_eq_true rfl, Nat.le_of_ble_eq_true rfl⟩) (fun H locs hw => ?_)
  refine lv_istore (lv' := [(5, .int r2), (0, .ref (ad 40)), (1, .int x1), (2, .int x2), (3, .int x3), (4, .int x4)]) hx hb dX3_join_6 hl (by decide) rfl (fun ls hl => ?_)
  refine lv_iload hx hb dX3_join_8 (lv_at hl 0 rfl) ?_
  refine lv_bipush (v := -2) hx hb dX3_join_10 (by decide) ?_
  refine lv_icmp_eq (tgt := 24) hx hb dX3_join_12 (by decide) (fun c3 => ?_) (fun c3 => ?_)
  · have hm := ifT hm c3
    exact hB24 u1 _ _ _ hm hw (lv_sub hl [] rfl)
  · have hm := ifF hm c3
    refine lv_iload_n hx hb dX3_join_15 rfl (lv_at hl 4 rfl) ?_
    refine lv_iload hx hb dX3_join_16 (lv_at hl 5 rfl) ?_
    obtain ⟨r4, er4, hm⟩ := bdE hm
    refine sci (va_runS (As := [.int x3, .int x4]) (rest := []) ⟨hx, hb, hml, hown, hts⟩ (w_X3_isAt2 l er4) (cw_X3_isAt2 hts q1800 ⟨Nat.le_of_ble_eq_true rfl, Nat.le_of_ble_eq_true rfl⟩) (pre_s _) rfl rfl hl.1 rfl (lv_room (Nat.le_of_ble_eq_true rfl)) dX3_join_18 ⟨Nat.le_of_ble_eq_true rfl, Nat.le_of_ble_eq_true rfl⟩) ?_
    refine lv_if_ne (tgt := 28) hx hb dX3_join_21 (by decide) (fun c5 => ?_) (fun c5 => ?_)
    · have hm := ifT hm c5
      refine lv_iload hx hb dX3_join_28 (lv_at hl 0 rfl) ?_
      refine lv_if_ge (tgt := 37) hx hb dX3_join_30 (by decide) (fun c6 => ?_) (fun c6 => ?_)
      · have hm := ifT hm c6
        refine lv_aload_n hx hb dX3_join_37 rfl (lv_at hl 1 rfl) ?_
        refine lv_iload_n hx hb dX3_join_38 rfl (lv_at hl 2 rfl) ?_
        refine lv_iload_n hx hb dX3_join_39 rfl (lv_at hl 3 rfl) ?_
        obtain ⟨u7, eu7, hm⟩ := bdE hm
        refine tg_callv hw (va_runV (As := [.int x1, .int x2]) (rest := []) ⟨hx, hb, hml, hown, hts⟩ (w_X3_joins l eu7) (cw_X3_joins hts q1962 ⟨Nat.le_of_ble_eq_true rfl, Nat.le_of_ble_eq_true rfl⟩) (tg_pre C hw _) rfl rfl hl.1 rfl (lv_room (Nat.le_of_ble_eq_true rfl)) dX3_join_40 ⟨Nat.le_of_ble_eq_true rfl, Nat.le_of_ble_eq_true rfl⟩) (fun H locs hw => ?_)
        refine lv_aload_n hx hb dX3_join_43 rfl (lv_at hl 1 rfl) ?_
        refine tg_get C hw 18 (by decide) q1584 rfl dX3_join_44 ?_
        refine lv_iconst (v := 3) hx hb dX3_join_47 (by decide) ?_
        refine lv_iload_n hx hb dX3_join_48 rfl (lv_at hl 4 rfl) ?_
        refine lv_imul hx hb dX3_join_49 ?_
        refine lv_iload hx hb dX3_join_50 (lv_at hl 5 rfl) ?_
        refine lv_iadd hx hb dX3_join_52 ?_
        obtain ⟨g8, hm⟩ := gdE hm
        refine tg_lald C hw (tp_18 ad dI dJ u7) g8 dX3_join_53 ?_
        rw [← hQ]
        exact W.lret (v := (tB u7 18 (Int32.toNatClampNeg (((3 : Int32) * x3) + x4)))) hx hb hr (fun t ht hW => ⟨⟨(tB u7 18 (Int32.toNatClampNeg (((3 : Int32) * x3) + x4))), u7, rfl, retE hm, by rw [ht]; exact hw.1, hw.2.1⟩, hw.2.2.1.F ht⟩) hw.2.2.1.2.2 dX3_join_54
      · have hm := ifF hm c6
        refine lv_iload hx hb dX3_join_33 (lv_at hl 0 rfl) ?_
        refine lv_i2l hx hb dX3_join_35 rfl ?_
        rw [← hQ]
        exact W.lret (v := (Int32.toInt64 r2)) hx hb hr (fun t ht hW => ⟨⟨(Int32.toInt64 r2), u1, rfl, retE hm, by rw [ht]; exact hw.1, hw.2.1⟩, hw.2.2.1.F ht⟩) hw.2.2.1.2.2 dX3_join_36
    · have hm := ifT' hm c5
      exact hB24 u1 _ _ _ hm hw (lv_sub hl [] rfl)
def m_X3_laysTold_36 (f : Nat) (u : TS) : Option TS := some u
def m_X3_laysTold_12 (f : Nat) : Nat → TS → Int32 → Option TS
  | 0, _, _ => none
  | n12 + 1, u, x3 => if (9 : Int32) ≤ x3 then
    m_X3_laysTold_36 f u
    else gd (ix x3 9) <|
    gd (ix x3 9) <|
    nmv (sB u 18 (Int32.toNatClampNeg x3) (tB u 32 (Int32.toNatClampNeg x3))) fun u4 =>
    nmv ((x3 + 1) : Int32) fun v5 =>
    m_X3_laysTold_12 f n12 u4 v5
def m_X3_laysTold (f : Nat) (u : TS) (x1 : Int32) (x2 : Int32) : Option TS := bd (m_X3_laysBoth f u x1 x2) fun u1 =>
    bd (m_X3_tells f u1) fun u2 =>
    m_X3_laysTold_12 f f u2 (0 : Int32)
abbrev rm_X3_laysTold : Room := { frames := 7, cells := 0, slots := 0, locals := 168 }
theorem cw_X3_laysTold {R : Room} {s : State} {args : Array Value} {own : String} {idx : Nat} (hts : ∀ w ∈ lw_all, w.before args s = true) (hl : Cond.methodLink own idx yX3_laysTold ∈ lw_all) (hR : rm_X3_laysTold.frames + 1 ≤ R.frames ∧ 8 + (4 + 11) + rm_X3_laysTold.locals ≤ R.locals) : CallW R s args own RX3 idx yX3_laysTold cX3_laysTold 4 (Option.none : Option Jvm.ClassFile.FieldType) (ws_ yX3_laysTold cX3_laysTold 4 (Option.none : Option Jvm.ClassFile.FieldType)) rm_X3_laysTold 0 0 2 := cwV 2 hts (lw_V hl q1980 qs95 q125 q1981) rfl rfl rfl (by decide +kernel) hR
set_option maxHeartbeats 4000000 in
set_option maxRecDepth 100000 in
theorem w_X3_laysTold (l : Launch) {D : va_G} {ad : Nat → Nat} {dI dJ : ClassId} {A : Nat → Prop} {f : Nat} {u u9 : TS} {x1 : Int32} {x2 : Int32} (hm : m_X3_laysTold f u x1 x2 = some u9) : Met l yX3_laysTold (ws_ yX3_laysTold cX3_laysTold 4 (Option.none : Option Jvm.ClassFile.FieldType)) rm_X3_laysTold (va_Pc [.ref (ad 40), .int x1, .int x2] (TPre D ad dI dJ A u)) (va_Qv (fun u => u = u9) (TPost D ad dI dJ A) A) 0 0 A := by
  refine Met.ofW (cc := cX3_laysTold) (maxL := 4) (ret := (Option.none : Option Jvm.ClassFile.FieldType)) (by decide) rfl ?_
  intro p e s m args below meth c s₁ B hml hv
  have hx := B.exec
  have hb := B.bytes
  have hr := B.returns
  have hts := atoms_spec (ws := (ws_ yX3_laysTold cX3_laysTold 4 (Option.none : Option Jvm.ClassFile.FieldType))) B.pre
  have hts : ∀ w ∈ lw_all, w.before args s = true := fun w h => hts w (List.mem_cons_of_mem _ h)
  have hown : s.vm.findClass RX3 = some m.cls := findClass_of_methodNamed B.named
  have hlocks := B.notSynchronized
  obtain ⟨hav, hv⟩ := hv
  have C : TC p s m args c cX3_laysTold D dI dJ := ⟨hx, hb, hown, hts, hv.2.1⟩
  have hw : TH D ad dI dJ A s.heap u s.heap [] := ⟨hv.1, hv.2.2.1, va_S.rf, hv.2.2.2⟩
  generalize hQ : MQ below (va_Qv (fun u => u = u9) (TPost D ad dI dJ A) A) args s 0 0 A = QQ
  have hent := lg_entry_eq m [.ref (ad 40), .int x1, .int x2] 4
  rw [← hav] at hent
  rw [hent]
  have hl := lv_entry ([.ref (ad 40), .int x1, .int x2]) (n := 4) (Nat.le_of_ble_eq_true rfl)
  generalize (lg_sl ([.ref (ad 40), .int x1, .int x2]) ++ List.replicate (4 - (lg_sl ([.ref (ad 40), .int x1, .int x2])).length) Slot.unset).toArray = ls at hl ⊢
  have hl : lv_has ls 4 [(0, .ref (ad 40)), (1, .int x1), (2, .int x2)] := hl
  change W p l e rm_X3_laysTold s m args below meth c s.heap [] 0 0 QQ (F0 m 0 ls [])
  have hB36 : ∀ (u : TS) (H : Heap) (locs : List Loc) (ls : Array Slot), m_X3_laysTold_36 f u = some u9 → TH D ad dI dJ A s.heap u H locs → lv_has ls 4 [] → W p l e rm_X3_laysTold s m args below meth c H locs 0 0 QQ (F0 m 36 ls []) := by
    intro u H locs ls hm hw hl
    rw [m_X3_laysTold_36] at hm
    rw [← hQ]
    exact W.vret hx hb hr (fun t ht hW => ⟨⟨u, rfl, ret1 hm, by rw [ht]; exact hw.1, hw.2.1⟩, hw.2.2.1.F ht⟩) hw.2.2.1.2.2 dX3_laysTold_36
  have hB12 : ∀ (n12 : Nat), ∀ (u : TS) (x3 : Int32) (H : Heap) (locs : List Loc) (ls : Array Slot), m_X3_laysTold_12 f n12 u x3 = some u9 → TH D ad dI dJ A s.heap u H locs → lv_has ls 4 [(0, .ref (ad 40)), (3, .int x3)] → W p l e rm_X3_laysTold s m args below meth c H locs 0 0 QQ (F0 m 12 ls []) := by
    intro n12
    induction n12 with
    | zero => intro u x3 H locs ls hm hw hl; rw [m_X3_laysTold_12] at hm; exact noE hm
    | succ n12 ih12 =>
      intro u x3 H locs ls hm hw hl
      rw [m_X3_laysTold_12] at hm
      refine lv_iload_n hx hb dX3_laysTold_12 rfl (lv_at hl 1 rfl) ?_
      refine lv_bipush (v := 9) hx hb dX3_laysTold_13 (by decide) ?_
      refine lv_icmp_ge (tgt := 36) hx hb dX3_laysTold_15 (by decide) (fun c1 => ?_) (fun c1 => ?_)
      · have hm := ifT hm c1
        exact hB36 u _ _ _ hm hw (lv_sub hl [] rfl)
      · have hm := ifF hm c1
        refine lv_aload_n hx hb dX3_laysTold_18 rfl (lv_at hl 0 rfl) ?_
        refine tg_get C hw 18 (by decide) q1584 rfl dX3_laysTold_19 ?_
        refine lv_iload_n hx hb dX3_laysTold_22 rfl (lv_at hl 1 rfl) ?_
        refine lv_aload_n hx hb dX3_laysTold_23 rfl (lv_at hl 0 rfl) ?_
        refine tg_get C hw 32 (by decide) q1598 rfl dX3_laysTold_24 ?_
        refine lv_iload_n hx hb dX3_laysTold_27 rfl (lv_at hl 1 rfl) ?_
        obtain ⟨g2, hm⟩ := gdE hm
        refine tg_lald C hw (tp_32 ad dI dJ u) g2 dX3_laysTold_28 ?_
        obtain ⟨g3, hm⟩ := gdE hm
        refine tg_last C hw (tp_18 ad dI dJ u) g3 (ts_18 ad dI dJ u _ _) dX3_laysTold_29 (fun H locs hw => ?_)
        obtain ⟨u4, eu4, hm⟩ := nmE hm
        rw [← eu4] at hw
        obtain ⟨v5, ev5, hm⟩ := nmE hm
        refine lv_iinc (v := v5) (lv' := [(3, .int v5), (0, .ref (ad 40))]) hx hb dX3_laysTold_30 hl (k := 1) rfl (by rw [ev5]; rfl) (by decide) rfl (fun ls hl => ?_)
        refine lv_goto (tgt := 12) hx hb dX3_laysTold_33 (by decide) ?_
        exact ih12 u4 v5 _ _ _ hm hw (lv_sub hl [1, 0] rfl)
  rw [m_X3_laysTold] at hm
  refine lv_aload_n hx hb dX3_laysTold_0 rfl (lv_at hl 0 rfl) ?_
  refine lv_iload_n hx hb dX3_laysTold_1 rfl (lv_at hl 1 rfl) ?_
  refine lv_iload_n hx hb dX3_laysTold_2 rfl (lv_at hl 2 rfl) ?_
  obtain ⟨u1, eu1, hm⟩ := bdE hm
  refine tg_callv hw (va_runV (As := [.int x1, .int x2]) (rest := []) ⟨hx, hb, hml, hown, hts⟩ (w_X3_laysBoth l eu1) (cw_X3_laysBoth hts q1913 ⟨Nat.le_of_ble_eq_true rfl, Nat.le_of_ble_eq_true rfl⟩) (tg_pre C hw _) rfl rfl hl.1 rfl (lv_room (Nat.le_of_ble_eq_true rfl)) dX3_laysTold_3 ⟨Nat.le_of_ble_eq_true rfl, Nat.le_of_ble_eq_true rfl⟩) (fun H locs hw => ?_)
  refine lv_aload_n hx hb dX3_laysTold_6 rfl (lv_at hl 0 rfl) ?_
  obtain ⟨u2, eu2, hm⟩ := bdE hm
  refine tg_callv hw (va_runV (As := []) (rest := []) ⟨hx, hb, hml, hown, hts⟩ (w_X3_tells l eu2) (cw_X3_tells hts q1933 ⟨Nat.le_of_ble_eq_true rfl, Nat.le_of_ble_eq_true rfl⟩) (tg_pre C hw _) rfl rfl hl.1 rfl (lv_room (Nat.le_of_ble_eq_true rfl)) dX3_laysTold_7 ⟨Nat.le_of_ble_eq_true rfl, Nat.le_of_ble_eq_true rfl⟩) (fun H locs hw => ?_)
  refine lv_iconst (v := 0) hx hb dX3_laysTold_10 (by decide) ?_
  refine lv_istore_n (lv' := [(3, .int (0 : Int32)), (0, .ref (ad 40)), (1, .int x1), (2, .int x2)]) hx hb dX3_laysTold_11 rfl hl (by decide) rfl (fun ls hl => ?_)
  exact hB12 f u2 (0 : Int32) _ _ _ hm hw (lv_sub hl [1, 0] rfl)
def m_X3_index (f : Nat) (u : TS) (x1 : Int32) (x2 : Int32) : Option (Int64 × TS) := bd2 (m_X3_whyNot f u x1 x2) fun r2 u1 =>
    if 0 ≤ r2 then
    bd (m_X3_laysTold f u1 x1 x2) fun u4 =>
    bd2 (m_X3_det f u4) fun r6 u5 =>
    bd (m_X3_sized f r6) fun r7 =>
    some (r7, u5)
    else some ((Int32.toInt64 r2), u1)
abbrev rm_X3_index : Room := { frames := 8, cells := 0, slots := 0, locals := 191 }
theorem cw_X3_index {R : Room} {s : State} {args : Array Value} {own : String} {idx : Nat} (hts : ∀ w ∈ lw_all, w.before args s = true) (hl : Cond.methodLink own idx yX3_index ∈ lw_all) (hR : rm_X3_index.frames + 1 ≤ R.frames ∧ 8 + (4 + 11) + rm_X3_index.locals ≤ R.locals) : CallW R s args own RX3 idx yX3_index cX3_index 4 (Option.some Jvm.ClassFile.FieldType.long) (ws_ yX3_index cX3_index 4 (Option.some Jvm.ClassFile.FieldType.long)) rm_X3_index 0 0 2 := cwV 2 hts (lw_V hl q1975 q1976 q125 q1977) rfl rfl rfl (by decide +kernel) hR
set_option maxHeartbeats 4000000 in
set_option maxRecDepth 100000 in
theorem w_X3_index (l : Launch) {D : va_G} {ad : Nat → Nat} {dI dJ : ClassId} {A : Nat → Prop} {f : Nat} {u u9 : TS} {r0 : Int64} {x1 : Int32} {x2 : Int32} (hm : m_X3_index f u x1 x2 = some (r0, u9)) : Met l yX3_index (ws_ yX3_index cX3_index 4 (Option.some Jvm.ClassFile.FieldType.long)) rm_X3_index (va_Pc [.ref (ad 40), .int x1, .int x2] (TPre D ad dI dJ A u)) (va_Ql (fun r u => r = r0 ∧ u = u9) (TPost D ad dI dJ A) A) 0 0 A := by
  refine Met.ofW (cc := cX3_index) (maxL := 4) (ret := (Option.some Jvm.ClassFile.FieldType.long)) (by decide) rfl ?_
  intro p e s m args below meth c s₁ B hml hv
  have hx := B.exec
  have hb := B.bytes
  have hr := B.returns
  have hts := atoms_spec (ws := (ws_ yX3_index cX3_index 4 (Option.some Jvm.ClassFile.FieldType.long))) B.pre
  have hts : ∀ w ∈ lw_all, w.before args s = true := fun w h => hts w (List.mem_cons_of_mem _ h)
  have hown : s.vm.findClass RX3 = some m.cls := findClass_of_methodNamed B.named
  have hlocks := B.notSynchronized
  obtain ⟨hav, hv⟩ := hv
  have C : TC p s m args c cX3_index D dI dJ := ⟨hx, hb, hown, hts, hv.2.1⟩
  have hw : TH D ad dI dJ A s.heap u s.heap [] := ⟨hv.1, hv.2.2.1, va_S.rf, hv.2.2.2⟩
  generalize hQ : MQ below (va_Ql (fun r u => r = r0 ∧ u = u9) (TPost D ad dI dJ A) A) args s 0 0 A = QQ
  have hent := lg_entry_eq m [.ref (ad 40), .int x1, .int x2] 4
  rw [← hav] at hent
  rw [hent]
  have hl := lv_entry ([.ref (ad 40), .int x1, .int x2]) (n := 4) (Nat.le_of_ble_eq_true rfl)
  generalize (lg_sl ([.ref (ad 40), .int x1, .int x2]) ++ List.replicate (4 - (lg_sl ([.ref (ad 40), .int x1, .int x2])).length) Slot.unset).toArray = ls at hl ⊢
  have hl : lv_has ls 4 [(0, .ref (ad 40)), (1, .int x1), (2, .int x2)] := hl
  change W p l e rm_X3_index s m args below meth c s.heap [] 0 0 QQ (F0 m 0 ls [])
  rw [m_X3_index] at hm
  refine lv_aload_n hx hb dX3_index_0 rfl (lv_at hl 0 rfl) ?_
  refine lv_iload_n hx hb dX3_index_1 rfl (lv_at hl 1 rfl) ?_
  refine lv_iload_n hx hb dX3_index_2 rfl (lv_at hl 2 rfl) ?_
  obtain ⟨r2, u1, er2, hm⟩ := bd2E hm
  refine tg_calli hw (va_runV (As := [.int x1, .int x2]) (rest := []) ⟨hx, hb, hml, hown, hts⟩ (w_X3_whyNot l er2) (cw_X3_whyNot hts q1909 ⟨Nat.le_of_ble_eq_true rfl, Nat.le_of_ble_eq_true rfl⟩) (tg_pre C hw _) rfl rfl hl.1 rfl (lv_room (Nat.le_of_ble_eq_true rfl)) dX3_index_3 ⟨Nat.le_of_ble_eq_true rfl, Nat.le_of_ble_eq_true rfl⟩) (fun H locs hw => ?_)
  refine lv_istore_n (lv' := [(3, .int r2), (0, .ref (ad 40)), (1, .int x1), (2, .int x2)]) hx hb dX3_index_6 rfl hl (by decide) rfl (fun ls hl => ?_)
  refine lv_iload_n hx hb dX3_index_7 rfl (lv_at hl 0 rfl) ?_
  refine lv_if_ge (tgt := 14) hx hb dX3_index_8 (by decide) (fun c3 => ?_) (fun c3 => ?_)
  · have hm := ifT hm c3
    refine lv_aload_n hx hb dX3_index_14 rfl (lv_at hl 1 rfl) ?_
    refine lv_iload_n hx hb dX3_index_15 rfl (lv_at hl 2 rfl) ?_
    refine lv_iload_n hx hb dX3_index_16 rfl (lv_at hl 3 rfl) ?_
    obtain ⟨u4, eu4, hm⟩ := bdE hm
    refine tg_callv hw (va_runV (As := [.int x1, .int x2]) (rest := []) ⟨hx, hb, hml, hown, hts⟩ (w_X3_laysTold l eu4) (cw_X3_laysTold hts q1978 ⟨Nat.le_of_ble_eq_true rfl, Nat.le_of_ble_eq_true rfl⟩) (tg_pre C hw _) rfl rfl hl.1 rfl (lv_room (Nat.le_of_ble_eq_true rfl)) dX3_index_17 ⟨Nat.le_of_ble_eq_true rfl, Nat.le_of_ble_eq_true rfl⟩) (fun H locs hw => ?_)
    refine lv_aload_n hx hb dX3_index_20 rfl (lv_at hl 1 rfl) ?_
    obtain ⟨r6, u5, er6, hm⟩ := bd2E hm
    refine tg_calll hw (va_runV (As := []) (rest := []) ⟨hx, hb, hml, hown, hts⟩ (w_X3_det l er6) (cw_X3_det hts q1872 ⟨Nat.le_of_ble_eq_true rfl, Nat.le_of_ble_eq_true rfl⟩) (tg_pre C hw _) rfl rfl hl.1 rfl (lv_room (Nat.le_of_ble_eq_true rfl)) dX3_index_21 ⟨Nat.le_of_ble_eq_true rfl, Nat.le_of_ble_eq_true rfl⟩) (fun H locs hw => ?_)
    obtain ⟨r7, er7, hm⟩ := bdE hm
    refine scl (va_runS (As := [.long r6]) (rest := []) ⟨hx, hb, hml, hown, hts⟩ (w_X3_sized l er7) (cw_X3_sized hts q1772 ⟨Nat.le_of_ble_eq_true rfl, Nat.le_of_ble_eq_true rfl⟩) (pre_s _) rfl rfl hl.1 rfl (lv_room (Nat.le_of_ble_eq_true rfl)) dX3_index_24 ⟨Nat.le_of_ble_eq_true rfl, Nat.le_of_ble_eq_true rfl⟩) ?_
    rw [← hQ]
    exact W.lret (v := r7) hx hb hr (fun t ht hW => ⟨⟨r7, u5, rfl, retE hm, by rw [ht]; exact hw.1, hw.2.1⟩, hw.2.2.1.F ht⟩) hw.2.2.1.2.2 dX3_index_27
  · have hm := ifF hm c3
    refine lv_iload_n hx hb dX3_index_11 rfl (lv_at hl 0 rfl) ?_
    refine lv_i2l hx hb dX3_index_12 rfl ?_
    rw [← hQ]
    exact W.lret (v := (Int32.toInt64 r2)) hx hb hr (fun t ht hW => ⟨⟨(Int32.toInt64 r2), u1, rfl, retE hm, by rw [ht]; exact hw.1, hw.2.1⟩, hw.2.2.1.F ht⟩) hw.2.2.1.2.2 dX3_index_13
def m_X3_group_27 (f : Nat) (u : TS) : Option (Int64 × TS) := some ((-2 : Int64), u)
def m_X3_group (f : Nat) (u : TS) (x1 : Int32) (x2 : Int32) (x3 : Int32) : Option (Int64 × TS) := bd2 (m_X3_whyNot f u x1 x2) fun r2 u1 =>
    if r2 = (-2 : Int32) then
    m_X3_group_27 f u1
    else bd (m_X3_in f (Int32.toInt64 x3) (0 : Int64) (2 : Int64)) fun r4 =>
    if ¬ r4 = 0 then
    if 0 ≤ r2 then
    bd (m_X3_laysTold f u1 x1 x2) fun u7 =>
    bd2 (m_X3_smithOf f u7 x3) fun r9 u8 =>
    some (r9, u8)
    else some ((Int32.toInt64 r2), u1)
    else m_X3_group_27 f u1
abbrev rm_X3_group : Room := { frames := 8, cells := 0, slots := 0, locals := 191 }
theorem cw_X3_group {R : Room} {s : State} {args : Array Value} {own : String} {idx : Nat} (hts : ∀ w ∈ lw_all, w.before args s = true) (hl : Cond.methodLink own idx yX3_group ∈ lw_all) (hR : rm_X3_group.frames + 1 ≤ R.frames ∧ 8 + (5 + 11) + rm_X3_group.locals ≤ R.locals) : CallW R s args own RX3 idx yX3_group cX3_group 5 (Option.some Jvm.ClassFile.FieldType.long) (ws_ yX3_group cX3_group 5 (Option.some Jvm.ClassFile.FieldType.long)) rm_X3_group 0 0 3 := cwV 3 hts (lw_V hl q1983 q1984 q125 q1985) rfl rfl rfl (by decide +kernel) hR
set_option maxHeartbeats 4000000 in
set_option maxRecDepth 100000 in
theorem w_X3_group (l : Launch) {D : va_G} {ad : Nat → Nat} {dI dJ : ClassId} {A : Nat → Prop} {f : Nat} {u u9 : TS} {r0 : Int64} {x1 : Int32} {x2 : Int32} {x3 : Int32} (hm : m_X3_group f u x1 x2 x3 = some (r0, u9)) : Met l yX3_group (ws_ yX3_group cX3_group 5 (Option.some Jvm.ClassFile.FieldType.long)) rm_X3_group (va_Pc [.ref (ad 40), .int x1, .int x2, .int x3] (TPre D ad dI dJ A u)) (va_Ql (fun r u => r = r0 ∧ u = u9) (TPost D ad dI dJ A) A) 0 0 A := by
  refine Met.ofW (cc := cX3_group) (maxL := 5) (ret := (Option.some Jvm.ClassFile.FieldType.long)) (by decide) rfl ?_
  intro p e s m args below meth c s₁ B hml hv
  have hx := B.exec
  have hb := B.bytes
  have hr := B.returns
  have hts := atoms_spec (ws := (ws_ yX3_group cX3_group 5 (Option.some Jvm.ClassFile.FieldType.long))) B.pre
  have hts : ∀ w ∈ lw_all, w.before args s = true := fun w h => hts w (List.mem_cons_of_mem _ h)
  have hown : s.vm.findClass RX3 = some m.cls := findClass_of_methodNamed B.named
  have hlocks := B.notSynchronized
  obtain ⟨hav, hv⟩ := hv
  have C : TC p s m args c cX3_group D dI dJ := ⟨hx, hb, hown, hts, hv.2.1⟩
  have hw : TH D ad dI dJ A s.heap u s.heap [] := ⟨hv.1, hv.2.2.1, va_S.rf, hv.2.2.2⟩
  generalize hQ : MQ below (va_Ql (fun r u => r = r0 ∧ u = u9) (TPost D ad dI dJ A) A) args s 0 0 A = QQ
  have hent := lg_entry_eq m [.ref (ad 40), .int x1, .int x2, .int x3] 5
  rw [← hav] at hent
  rw [hent]
  have hl := lv_entry ([.ref (ad 40), .int x1, .int x2, .int x3]) (n := 5) (Nat.le_of_ble_eq_true rfl)
  generalize (lg_sl ([.ref (ad 40), .int x1, .int x2, .int x3]) ++ List.replicate (5 - (lg_sl ([.ref (ad 40), .int x1, .int x2, .int x3])).length) Slot.unset).toArray = ls at hl ⊢
  have hl : lv_has ls 5 [(0, .ref (ad 40)), (1, .int x1), (2, .int x2), (3, .int x3)] := hl
  change W p l e rm_X3_group s m args below meth c s.heap [] 0 0 QQ (F0 m 0 ls [])
  have hB27 : ∀ (u : TS) (H : Heap) (locs : List Loc) (ls : Array Slot), m_X3_group_27 f u = some (r0, u9) → TH D ad dI dJ A s.heap u H locs → lv_has ls 5 [] → W p l e rm_X3_group s m args below meth c H locs 0 0 QQ (F0 m 27 ls []) := by
    intro u H locs ls hm hw hl
    rw [m_X3_group_27] at hm
    refine lv_ldc2 hx hb hown (hts _ q1871) dX3_group_27 ?_
    rw [← hQ]
    exact W.lret (v := (-2 : Int64)) hx hb hr (fun t ht hW => ⟨⟨(-2 : Int64), u, rfl, retE hm, by rw [ht]; exact hw.1, hw.2.1⟩, hw.2.2.1.F ht⟩) hw.2.2.1.2.2 dX3_group_30
  rw [m_X3_group] at hm
  refine lv_aload_n hx hb dX3_group_0 rfl (lv_at hl 0 rfl) ?_
  refine lv_iload_n hx hb dX3_group_1 rfl (lv_at hl 1 rfl) ?_
  refine lv_iload_n hx hb dX3_group_2 rfl (lv_at hl 2 rfl) ?_
  obtain ⟨r2, u1, er2, hm⟩ := bd2E hm
  refine tg_calli hw (va_runV (As := [.int x1, .int x2]) (rest := []) ⟨hx, hb, hml, hown, hts⟩ (w_X3_whyNot l er2) (cw_X3_whyNot hts q1909 ⟨Nat.le_of_ble_eq_true rfl, Nat.le_of_ble_eq_true rfl⟩) (tg_pre C hw _) rfl rfl hl.1 rfl (lv_room (Nat.le_of_ble_eq_true rfl)) dX3_group_3 ⟨Nat.le_of_ble_eq_true rfl, Nat.le_of_ble_eq_true rfl⟩) (fun H locs hw => ?_)
  refine lv_istore (lv' := [(4, .int r2), (0, .ref (ad 40)), (1, .int x1), (2, .int x2), (3, .int x3)]) hx hb dX3_group_6 hl (by decide) rfl (fun ls hl => ?_)
  refine lv_iload hx hb dX3_group_8 (lv_at hl 0 rfl) ?_
  refine lv_bipush (v := -2) hx hb dX3_group_10 (by decide) ?_
  refine lv_icmp_eq (tgt := 27) hx hb dX3_group_12 (by decide) (fun c3 => ?_) (fun c3 => ?_)
  · have hm := ifT hm c3
    exact hB27 u1 _ _ _ hm hw (lv_sub hl [] rfl)
  · have hm := ifF hm c3
    refine lv_iload_n hx hb dX3_group_15 rfl (lv_at hl 4 rfl) ?_
    refine lv_i2l hx hb dX3_group_16 rfl ?_
    refine lv_lconst (v := 0) hx hb dX3_group_17 (by decide) ?_
    refine lv_ldc2 hx hb hown (hts _ q1803) dX3_group_18 ?_
    obtain ⟨r4, er4, hm⟩ := bdE hm
    refine sci (va_runS (As := [.long (Int32.toInt64 x3), .long (0 : Int64), .long (2 : Int64)]) (rest := []) ⟨hx, hb, hml, hown, hts⟩ (w_X3_in l er4) (cw_X3_in hts q1695 ⟨Nat.le_of_ble_eq_true rfl, Nat.le_of_ble_eq_true rfl⟩) (pre_s _) rfl rfl hl.1 rfl (lv_room (Nat.le_of_ble_eq_true rfl)) dX3_group_21 ⟨Nat.le_of_ble_eq_true rfl, Nat.le_of_ble_eq_true rfl⟩) ?_
    refine lv_if_ne (tgt := 31) hx hb dX3_group_24 (by decide) (fun c5 => ?_) (fun c5 => ?_)
    · have hm := ifT hm c5
      refine lv_iload hx hb dX3_group_31 (lv_at hl 0 rfl) ?_
      refine lv_if_ge (tgt := 40) hx hb dX3_group_33 (by decide) (fun c6 => ?_) (fun c6 => ?_)
      · have hm := ifT hm c6
        refine lv_aload_n hx hb dX3_group_40 rfl (lv_at hl 1 rfl) ?_
        refine lv_iload_n hx hb dX3_group_41 rfl (lv_at hl 2 rfl) ?_
        refine lv_iload_n hx hb dX3_group_42 rfl (lv_at hl 3 rfl) ?_
        obtain ⟨u7, eu7, hm⟩ := bdE hm
        refine tg_callv hw (va_runV (As := [.int x1, .int x2]) (rest := []) ⟨hx, hb, hml, hown, hts⟩ (w_X3_laysTold l eu7) (cw_X3_laysTold hts q1978 ⟨Nat.le_of_ble_eq_true rfl, Nat.le_of_ble_eq_true rfl⟩) (tg_pre C hw _) rfl rfl hl.1 rfl (lv_room (Nat.le_of_ble_eq_true rfl)) dX3_group_43 ⟨Nat.le_of_ble_eq_true rfl, Nat.le_of_ble_eq_true rfl⟩) (fun H locs hw => ?_)
        refine lv_aload_n hx hb dX3_group_46 rfl (lv_at hl 1 rfl) ?_
        refine lv_iload_n hx hb dX3_group_47 rfl (lv_at hl 4 rfl) ?_
        obtain ⟨r9, u8, er9, hm⟩ := bd2E hm
        refine tg_calll hw (va_runV (As := [.int x3]) (rest := []) ⟨hx, hb, hml, hown, hts⟩ (w_X3_smithOf l er9) (cw_X3_smithOf hts q1883 ⟨Nat.le_of_ble_eq_true rfl, Nat.le_of_ble_eq_true rfl⟩) (tg_pre C hw _) rfl rfl hl.1 rfl (lv_room (Nat.le_of_ble_eq_true rfl)) dX3_group_48 ⟨Nat.le_of_ble_eq_true rfl, Nat.le_of_ble_eq_true rfl⟩) (fun H locs hw => ?_)
        rw [← hQ]
        exact W.lret (v := r9) hx hb hr (fun t ht hW => ⟨⟨r9, u8, rfl, retE hm, by rw [ht]; exact hw.1, hw.2.1⟩, hw.2.2.1.F ht⟩) hw.2.2.1.2.2 dX3_group_51
      · have hm := ifF hm c6
        refine lv_iload hx hb dX3_group_36 (lv_at hl 0 rfl) ?_
        refine lv_i2l hx hb dX3_group_38 rfl ?_
        rw [← hQ]
        exact W.lret (v := (Int32.toInt64 r2)) hx hb hr (fun t ht hW => ⟨⟨(Int32.toInt64 r2), u1, rfl, retE hm, by rw [ht]; exact hw.1, hw.2.1⟩, hw.2.2.1.F ht⟩) hw.2.2.1.2.2 dX3_group_39
    · have hm := ifT' hm c5
      exact hB27 u1 _ _ _ hm hw (lv_sub hl [] rfl)
def m_X3_whyNoPoint_28 (f : Nat) (u : TS) : Option (Int32 × TS) := some ((-2 : Int32), u)
def m_X3_whyNoPoint_66 (f : Nat) (u : TS) (y0 : Int32) : Option (Int32 × TS) := some (y0, u)
def m_X3_whyNoPoint (f : Nat) (u : TS) (x1 : Int32) (x2 : Int32) (x3 : Int32) (x4 : Int32) (x5 : Int32) (x6 : Int32) : Option (Int32 × TS) := bd2 (m_X3_whyNot f u x1 x2) fun r2 u1 =>
    if r2 = (-2 : Int32) then
    m_X3_whyNoPoint_28 f u1
    else bd (m_X3_isPoint f x3 x4 x5 x6) fun r4 =>
    if ¬ r4 = 0 then
    if 0 ≤ r2 then
    bd2 (m_X3_latticeHas f u1 x1 (Int32.toInt64 x3) (Int32.toInt64 x4) (Int32.toInt64 x5) (Int32.toInt64 x6)) fun r8 u7 =>
    if r8 = 0 then
    m_X3_whyNoPoint_66 f u7 (-2 : Int32)
    else m_X3_whyNoPoint_66 f u7 (0 : Int32)
    else m_X3_whyNoPoint_66 f u1 r2
    else m_X3_whyNoPoint_28 f u1
abbrev rm_X3_whyNoPoint : Room := { frames := 6, cells := 0, slots := 0, locals := 153 }
theorem cw_X3_whyNoPoint {R : Room} {s : State} {args : Array Value} {own : String} {idx : Nat} (hts : ∀ w ∈ lw_all, w.before args s = true) (hl : Cond.methodLink own idx yX3_whyNoPoint ∈ lw_all) (hR : rm_X3_whyNoPoint.frames + 1 ≤ R.frames ∧ 8 + (8 + 11) + rm_X3_whyNoPoint.locals ≤ R.locals) : CallW R s args own RX3 idx yX3_whyNoPoint cX3_whyNoPoint 8 (Option.some Jvm.ClassFile.FieldType.int) (ws_ yX3_whyNoPoint cX3_whyNoPoint 8 (Option.some Jvm.ClassFile.FieldType.int)) rm_X3_whyNoPoint 0 0 6 := cwV 6 hts (lw_V hl q1992 qs96 q125 q1993) rfl rfl rfl (by decide +kernel) hR
set_option maxHeartbeats 4000000 in
set_option maxRecDepth 100000 in
theorem w_X3_whyNoPoint (l : Launch) {D : va_G} {ad : Nat → Nat} {dI dJ : ClassId} {A : Nat → Prop} {f : Nat} {u u9 : TS} {r0 : Int32} {x1 : Int32} {x2 : Int32} {x3 : Int32} {x4 : Int32} {x5 : Int32} {x6 : Int32} (hm : m_X3_whyNoPoint f u x1 x2 x3 x4 x5 x6 = some (r0, u9)) : Met l yX3_whyNoPoint (ws_ yX3_whyNoPoint cX3_whyNoPoint 8 (Option.some Jvm.ClassFile.FieldType.int)) rm_X3_whyNoPoint (va_Pc [.ref (ad 40), .int x1, .int x2, .int x3, .int x4, .int x5, .int x6] (TPre D ad dI dJ A u)) (va_Qi (fun r u => r = r0 ∧ u = u9) (TPost D ad dI dJ A) A) 0 0 A := by
  refine Met.ofW (cc := cX3_whyNoPoint) (maxL := 8) (ret := (Option.some Jvm.ClassFile.FieldType.int)) (by decide) rfl ?_
  intro p e s m args below meth c s₁ B hml hv
  have hx := B.exec
  have hb := B.bytes
  have hr := B.returns
  have hts := atoms_spec (ws := (ws_ yX3_whyNoPoint cX3_whyNoPoint 8 (Option.some Jvm.ClassFile.FieldType.int))) B.pre
  have hts : ∀ w ∈ lw_all, w.before args s = true := fun w h => hts w (List.mem_cons_of_mem _ h)
  have hown : s.vm.findClass RX3 = some m.cls := findClass_of_methodNamed B.named
  have hlocks := B.notSynchronized
  obtain ⟨hav, hv⟩ := hv
  have C : TC p s m args c cX3_whyNoPoint D dI dJ := ⟨hx, hb, hown, hts, hv.2.1⟩
  have hw : TH D ad dI dJ A s.heap u s.heap [] := ⟨hv.1, hv.2.2.1, va_S.rf, hv.2.2.2⟩
  generalize hQ : MQ below (va_Qi (fun r u => r = r0 ∧ u = u9) (TPost D ad dI dJ A) A) args s 0 0 A = QQ
  have hent := lg_entry_eq m [.ref (ad 40), .int x1, .int x2, .int x3, .int x4, .int x5, .int x6] 8
  rw [← hav] at hent
  rw [hent]
  have hl := lv_entry ([.ref (ad 40), .int x1, .int x2, .int x3, .int x4, .int x5, .int x6]) (n := 8) (Nat.le_of_ble_eq_true rfl)
  generalize (lg_sl ([.ref (ad 40), .int x1, .int x2, .int x3, .int x4, .int x5, .int x6]) ++ List.replicate (8 - (lg_sl ([.ref (ad 40), .int x1, .int x2, .int x3, .int x4, .int x5, .int x6])).length) Slot.unset).toArray = ls at hl ⊢
  have hl : lv_has ls 8 [(0, .ref (ad 40)), (1, .int x1), (2, .int x2), (3, .int x3), (4, .int x4), (5, .int x5), (6, .int x6)] := hl
  change W p l e rm_X3_whyNoPoint s m args below meth c s.heap [] 0 0 QQ (F0 m 0 ls [])
  have hB28 : ∀ (u : TS) (H : Heap) (locs : List Loc) (ls : Array Slot), m_X3_whyNoPoint_28 f u = some (r0, u9) → TH D ad dI dJ A s.heap u H locs → lv_has ls 8 [] → W p l e rm_X3_whyNoPoint s m args below meth c H locs 0 0 QQ (F0 m 28 ls []) := by
    intro u H locs ls hm hw hl
    rw [m_X3_whyNoPoint_28] at hm
    refine lv_bipush (v := -2) hx hb dX3_whyNoPoint_28 (by decide) ?_
    rw [← hQ]
    exact W.iret (v := (-2 : Int32)) hx hb hr (fun t ht hW => ⟨⟨(-2 : Int32), u, rfl, retE hm, by rw [ht]; exact hw.1, hw.2.1⟩, hw.2.2.1.F ht⟩) hw.2.2.1.2.2 dX3_whyNoPoint_30
  have hB66 : ∀ (u : TS) (y0 : Int32) (H : Heap) (locs : List Loc) (ls : Array Slot), m_X3_whyNoPoint_66 f u y0 = some (r0, u9) → TH D ad dI dJ A s.heap u H locs → lv_has ls 8 [] → W p l e rm_X3_whyNoPoint s m args below meth c H locs 0 0 QQ (F0 m 66 ls [.int y0]) := by
    intro u y0 H locs ls hm hw hl
    rw [m_X3_whyNoPoint_66] at hm
    rw [← hQ]
    exact W.iret (v := y0) hx hb hr (fun t ht hW => ⟨⟨y0, u, rfl, retE hm, by rw [ht]; exact hw.1, hw.2.1⟩, hw.2.2.1.F ht⟩) hw.2.2.1.2.2 dX3_whyNoPoint_66
  rw [m_X3_whyNoPoint] at hm
  refine lv_aload_n hx hb dX3_whyNoPoint_0 rfl (lv_at hl 0 rfl) ?_
  refine lv_iload_n hx hb dX3_whyNoPoint_1 rfl (lv_at hl 1 rfl) ?_
  refine lv_iload_n hx hb dX3_whyNoPoint_2 rfl (lv_at hl 2 rfl) ?_
  obtain ⟨r2, u1, er2, hm⟩ := bd2E hm
  refine tg_calli hw (va_runV (As := [.int x1, .int x2]) (rest := []) ⟨hx, hb, hml, hown, hts⟩ (w_X3_whyNot l er2) (cw_X3_whyNot hts q1909 ⟨Nat.le_of_ble_eq_true rfl, Nat.le_of_ble_eq_true rfl⟩) (tg_pre C hw _) rfl rfl hl.1 rfl (lv_room (Nat.le_of_ble_eq_true rfl)) dX3_whyNoPoint_3 ⟨Nat.le_of_ble_eq_true rfl, Nat.le_of_ble_eq_true rfl⟩) (fun H locs hw => ?_)
  refine lv_istore (lv' := [(7, .int r2), (0, .ref (ad 40)), (1, .int x1), (2, .int x2), (3, .int x3), (4, .int x4), (5, .int x5), (6, .int x6)]) hx hb dX3_whyNoPoint_6 hl (by decide) rfl (fun ls hl => ?_)
  refine lv_iload hx hb dX3_whyNoPoint_8 (lv_at hl 0 rfl) ?_
  refine lv_bipush (v := -2) hx hb dX3_whyNoPoint_10 (by decide) ?_
  refine lv_icmp_eq (tgt := 28) hx hb dX3_whyNoPoint_12 (by decide) (fun c3 => ?_) (fun c3 => ?_)
  · have hm := ifT hm c3
    exact hB28 u1 _ _ _ hm hw (lv_sub hl [] rfl)
  · have hm := ifF hm c3
    refine lv_iload_n hx hb dX3_whyNoPoint_15 rfl (lv_at hl 4 rfl) ?_
    refine lv_iload hx hb dX3_whyNoPoint_16 (lv_at hl 5 rfl) ?_
    refine lv_iload hx hb dX3_whyNoPoint_18 (lv_at hl 6 rfl) ?_
    refine lv_iload hx hb dX3_whyNoPoint_20 (lv_at hl 7 rfl) ?_
    obtain ⟨r4, er4, hm⟩ := bdE hm
    refine sci (va_runS (As := [.int x3, .int x4, .int x5, .int x6]) (rest := []) ⟨hx, hb, hml, hown, hts⟩ (w_X3_isPoint l er4) (cw_X3_isPoint hts q1891 ⟨Nat.le_of_ble_eq_true rfl, Nat.le_of_ble_eq_true rfl⟩) (pre_s _) rfl rfl hl.1 rfl (lv_room (Nat.le_of_ble_eq_true rfl)) dX3_whyNoPoint_22 ⟨Nat.le_of_ble_eq_true rfl, Nat.le_of_ble_eq_true rfl⟩) ?_
    refine lv_if_ne (tgt := 31) hx hb dX3_whyNoPoint_25 (by decide) (fun c5 => ?_) (fun c5 => ?_)
    · have hm := ifT hm c5
      refine lv_iload hx hb dX3_whyNoPoint_31 (lv_at hl 0 rfl) ?_
      refine lv_if_ge (tgt := 41) hx hb dX3_whyNoPoint_33 (by decide) (fun c6 => ?_) (fun c6 => ?_)
      · have hm := ifT hm c6
        refine lv_aload_n hx hb dX3_whyNoPoint_41 rfl (lv_at hl 1 rfl) ?_
        refine lv_iload_n hx hb dX3_whyNoPoint_42 rfl (lv_at hl 2 rfl) ?_
        refine lv_iload_n hx hb dX3_whyNoPoint_43 rfl (lv_at hl 4 rfl) ?_
        refine lv_i2l hx hb dX3_whyNoPoint_44 rfl ?_
        refine lv_iload hx hb dX3_whyNoPoint_45 (lv_at hl 5 rfl) ?_
        refine lv_i2l hx hb dX3_whyNoPoint_47 rfl ?_
        refine lv_iload hx hb dX3_whyNoPoint_48 (lv_at hl 6 rfl) ?_
        refine lv_i2l hx hb dX3_whyNoPoint_50 rfl ?_
        refine lv_iload hx hb dX3_whyNoPoint_51 (lv_at hl 7 rfl) ?_
        refine lv_i2l hx hb dX3_whyNoPoint_53 rfl ?_
        obtain ⟨r8, u7, er8, hm⟩ := bd2E hm
        refine tg_calli hw (va_runV (As := [.int x1, .long (Int32.toInt64 x3), .long (Int32.toInt64 x4), .long (Int32.toInt64 x5), .long (Int32.toInt64 x6)]) (rest := []) ⟨hx, hb, hml, hown, hts⟩ (w_X3_latticeHas l er8) (cw_X3_latticeHas hts q1897 ⟨Nat.le_of_ble_eq_true rfl, Nat.le_of_ble_eq_true rfl⟩) (tg_pre C hw _) rfl rfl hl.1 rfl (lv_room (Nat.le_of_ble_eq_true rfl)) dX3_whyNoPoint_54 ⟨Nat.le_of_ble_eq_true rfl, Nat.le_of_ble_eq_true rfl⟩) (fun H locs hw => ?_)
        refine lv_if_eq (tgt := 64) hx hb dX3_whyNoPoint_57 (by decide) (fun c9 => ?_) (fun c9 => ?_)
        · have hm := ifT hm c9
          refine lv_bipush (v := -2) hx hb dX3_whyNoPoint_64 (by decide) ?_
          exact hB66 u7 (-2 : Int32) _ _ _ hm hw (lv_sub hl [] rfl)
        · have hm := ifF hm c9
          refine lv_iconst (v := 0) hx hb dX3_whyNoPoint_60 (by decide) ?_
          refine lv_goto (tgt := 66) hx hb dX3_whyNoPoint_61 (by decide) ?_
          exact hB66 u7 (0 : Int32) _ _ _ hm hw (lv_sub hl [] rfl)
      · have hm := ifF hm c6
        refine lv_iload hx hb dX3_whyNoPoint_36 (lv_at hl 0 rfl) ?_
        refine lv_goto (tgt := 66) hx hb dX3_whyNoPoint_38 (by decide) ?_
        exact hB66 u1 r2 _ _ _ hm hw (lv_sub hl [] rfl)
    · have hm := ifT' hm c5
      exact hB28 u1 _ _ _ hm hw (lv_sub hl [] rfl)
def m_X3_met_47 (f : Nat) (u : TS) (y0 : Int32) : Option (Int32 × TS) := some (y0, u)
def m_X3_met (f : Nat) (u : TS) (x1 : Int32) (x2 : Int32) (x3 : Int32) (x4 : Int32) (x5 : Int32) (x6 : Int32) : Option (Int32 × TS) := bd2 (m_X3_whyNoPoint f u x1 x2 x3 x4 x5 x6) fun r2 u1 =>
    if 0 ≤ r2 then
    bd2 (m_X3_latticeHas f u1 x2 (Int32.toInt64 x3) (Int32.toInt64 x4) (Int32.toInt64 x5) (Int32.toInt64 x6)) fun r5 u4 =>
    if r5 = 0 then
    m_X3_met_47 f u4 (0 : Int32)
    else m_X3_met_47 f u4 (1 : Int32)
    else some (r2, u1)
abbrev rm_X3_met : Room := { frames := 7, cells := 0, slots := 0, locals := 180 }
theorem cw_X3_met {R : Room} {s : State} {args : Array Value} {own : String} {idx : Nat} (hts : ∀ w ∈ lw_all, w.before args s = true) (hl : Cond.methodLink own idx yX3_met ∈ lw_all) (hR : rm_X3_met.frames + 1 ≤ R.frames ∧ 8 + (8 + 11) + rm_X3_met.locals ≤ R.locals) : CallW R s args own RX3 idx yX3_met cX3_met 8 (Option.some Jvm.ClassFile.FieldType.int) (ws_ yX3_met cX3_met 8 (Option.some Jvm.ClassFile.FieldType.int)) rm_X3_met 0 0 6 := cwV 6 hts (lw_V hl q1987 q1988 q125 q1989) rfl rfl rfl (by decide +kernel) hR
set_option maxHeartbeats 4000000 in
set_option maxRecDepth 100000 in
theorem w_X3_met (l : Launch) {D : va_G} {ad : Nat → Nat} {dI dJ : ClassId} {A : Nat → Prop} {f : Nat} {u u9 : TS} {r0 : Int32} {x1 : Int32} {x2 : Int32} {x3 : Int32} {x4 : Int32} {x5 : Int32} {x6 : Int32} (hm : m_X3_met f u x1 x2 x3 x4 x5 x6 = some (r0, u9)) : Met l yX3_met (ws_ yX3_met cX3_met 8 (Option.some Jvm.ClassFile.FieldType.int)) rm_X3_met (va_Pc [.ref (ad 40), .int x1, .int x2, .int x3, .int x4, .int x5, .int x6] (TPre D ad dI dJ A u)) (va_Qi (fun r u => r = r0 ∧ u = u9) (TPost D ad dI dJ A) A) 0 0 A := by
  refine Met.ofW (cc := cX3_met) (maxL := 8) (ret := (Option.some Jvm.ClassFile.FieldType.int)) (by decide) rfl ?_
  intro p e s m args below meth c s₁ B hml hv
  have hx := B.exec
  have hb := B.bytes
  have hr := B.returns
  have hts := atoms_spec (ws := (ws_ yX3_met cX3_met 8 (Option.some Jvm.ClassFile.FieldType.int))) B.pre
  have hts : ∀ w ∈ lw_all, w.before args s = true := fun w h => hts w (List.mem_cons_of_mem _ h)
  have hown : s.vm.findClass RX3 = some m.cls := findClass_of_methodNamed B.named
  have hlocks := B.notSynchronized
  obtain ⟨hav, hv⟩ := hv
  have C : TC p s m args c cX3_met D dI dJ := ⟨hx, hb, hown, hts, hv.2.1⟩
  have hw : TH D ad dI dJ A s.heap u s.heap [] := ⟨hv.1, hv.2.2.1, va_S.rf, hv.2.2.2⟩
  generalize hQ : MQ below (va_Qi (fun r u => r = r0 ∧ u = u9) (TPost D ad dI dJ A) A) args s 0 0 A = QQ
  have hent := lg_entry_eq m [.ref (ad 40), .int x1, .int x2, .int x3, .int x4, .int x5, .int x6] 8
  rw [← hav] at hent
  rw [hent]
  have hl := lv_entry ([.ref (ad 40), .int x1, .int x2, .int x3, .int x4, .int x5, .int x6]) (n := 8) (Nat.le_of_ble_eq_true rfl)
  generalize (lg_sl ([.ref (ad 40), .int x1, .int x2, .int x3, .int x4, .int x5, .int x6]) ++ List.replicate (8 - (lg_sl ([.ref (ad 40), .int x1, .int x2, .int x3, .int x4, .int x5, .int x6])).length) Slot.unset).toArray = ls at hl ⊢
  have hl : lv_has ls 8 [(0, .ref (ad 40)), (1, .int x1), (2, .int x2), (3, .int x3), (4, .int x4), (5, .int x5), (6, .int x6)] := hl
  change W p l e rm_X3_met s m args below meth c s.heap [] 0 0 QQ (F0 m 0 ls [])
  have hB47 : ∀ (u : TS) (y0 : Int32) (H : Heap) (locs : List Loc) (ls : Array Slot), m_X3_met_47 f u y0 = some (r0, u9) → TH D ad dI dJ A s.heap u H locs → lv_has ls 8 [] → W p l e rm_X3_met s m args below meth c H locs 0 0 QQ (F0 m 47 ls [.int y0]) := by
    intro u y0 H locs ls hm hw hl
    rw [m_X3_met_47] at hm
    rw [← hQ]
    exact W.iret (v := y0) hx hb hr (fun t ht hW => ⟨⟨y0, u, rfl, retE hm, by rw [ht]; exact hw.1, hw.2.1⟩, hw.2.2.1.F ht⟩) hw.2.2.1.2.2 dX3_met_47
  rw [m_X3_met] at hm
  refine lv_aload_n hx hb dX3_met_0 rfl (lv_at hl 0 rfl) ?_
  refine lv_iload_n hx hb dX3_met_1 rfl (lv_at hl 1 rfl) ?_
  refine lv_iload_n hx hb dX3_met_2 rfl (lv_at hl 2 rfl) ?_
  refine lv_iload_n hx hb dX3_met_3 rfl (lv_at hl 3 rfl) ?_
  refine lv_iload hx hb dX3_met_4 (lv_at hl 4 rfl) ?_
  refine lv_iload hx hb dX3_met_6 (lv_at hl 5 rfl) ?_
  refine lv_iload hx hb dX3_met_8 (lv_at hl 6 rfl) ?_
  obtain ⟨r2, u1, er2, hm⟩ := bd2E hm
  refine tg_calli hw (va_runV (As := [.int x1, .int x2, .int x3, .int x4, .int x5, .int x6]) (rest := []) ⟨hx, hb, hml, hown, hts⟩ (w_X3_whyNoPoint l er2) (cw_X3_whyNoPoint hts q1990 ⟨Nat.le_of_ble_eq_true rfl, Nat.le_of_ble_eq_true rfl⟩) (tg_pre C hw _) rfl rfl hl.1 rfl (lv_room (Nat.le_of_ble_eq_true rfl)) dX3_met_10 ⟨Nat.le_of_ble_eq_true rfl, Nat.le_of_ble_eq_true rfl⟩) (fun H locs hw => ?_)
  refine lv_istore (lv' := [(7, .int r2), (0, .ref (ad 40)), (1, .int x1), (2, .int x2), (3, .int x3), (4, .int x4), (5, .int x5), (6, .int x6)]) hx hb dX3_met_13 hl (by decide) rfl (fun ls hl => ?_)
  refine lv_iload hx hb dX3_met_15 (lv_at hl 0 rfl) ?_
  refine lv_if_ge (tgt := 23) hx hb dX3_met_17 (by decide) (fun c3 => ?_) (fun c3 => ?_)
  · have hm := ifT hm c3
    refine lv_aload_n hx hb dX3_met_23 rfl (lv_at hl 1 rfl) ?_
    refine lv_iload_n hx hb dX3_met_24 rfl (lv_at hl 3 rfl) ?_
    refine lv_iload_n hx hb dX3_met_25 rfl (lv_at hl 4 rfl) ?_
    refine lv_i2l hx hb dX3_met_26 rfl ?_
    refine lv_iload hx hb dX3_met_27 (lv_at hl 5 rfl) ?_
    refine lv_i2l hx hb dX3_met_29 rfl ?_
    refine lv_iload hx hb dX3_met_30 (lv_at hl 6 rfl) ?_
    refine lv_i2l hx hb dX3_met_32 rfl ?_
    refine lv_iload hx hb dX3_met_33 (lv_at hl 7 rfl) ?_
    refine lv_i2l hx hb dX3_met_35 rfl ?_
    obtain ⟨r5, u4, er5, hm⟩ := bd2E hm
    refine tg_calli hw (va_runV (As := [.int x2, .long (Int32.toInt64 x3), .long (Int32.toInt64 x4), .long (Int32.toInt64 x5), .long (Int32.toInt64 x6)]) (rest := []) ⟨hx, hb, hml, hown, hts⟩ (w_X3_latticeHas l er5) (cw_X3_latticeHas hts q1897 ⟨Nat.le_of_ble_eq_true rfl, Nat.le_of_ble_eq_true rfl⟩) (tg_pre C hw _) rfl rfl hl.1 rfl (lv_room (Nat.le_of_ble_eq_true rfl)) dX3_met_36 ⟨Nat.le_of_ble_eq_true rfl, Nat.le_of_ble_eq_true rfl⟩) (fun H locs hw => ?_)
    refine lv_if_eq (tgt := 46) hx hb dX3_met_39 (by decide) (fun c6 => ?_) (fun c6 => ?_)
    · have hm := ifT hm c6
      refine lv_iconst (v := 0) hx hb dX3_met_46 (by decide) ?_
      exact hB47 u4 (0 : Int32) _ _ _ hm hw (lv_sub hl [] rfl)
    · have hm := ifF hm c6
      refine lv_iconst (v := 1) hx hb dX3_met_42 (by decide) ?_
      refine lv_goto (tgt := 47) hx hb dX3_met_43 (by decide) ?_
      exact hB47 u4 (1 : Int32) _ _ _ hm hw (lv_sub hl [] rfl)
  · have hm := ifF hm c3
    refine lv_iload hx hb dX3_met_20 (lv_at hl 0 rfl) ?_
    rw [← hQ]
    exact W.iret (v := r2) hx hb hr (fun t ht hW => ⟨⟨r2, u1, rfl, retE hm, by rw [ht]; exact hw.1, hw.2.1⟩, hw.2.2.1.F ht⟩) hw.2.2.1.2.2 dX3_met_22
def m_X3_order_71 (f : Nat) (u : TS) (x8 : Int32) : Option (Int32 × TS) := some (x8, u)
def m_X3_order_35 (f : Nat) : Nat → TS → Int32 → Int32 → Int32 → Int32 → Int32 → Option (Int32 × TS)
  | 0, _, _, _, _, _, _ => none
  | n35 + 1, u, x3, x4, x5, x6, x8 => bd2 (m_X3_hasPoint f u ((Int32.toInt64 x8) * (Int32.toInt64 x3)) ((Int32.toInt64 x8) * (Int32.toInt64 x4)) ((Int32.toInt64 x8) * (Int32.toInt64 x5)) (Int32.toInt64 x6)) fun r2 u1 =>
    if ¬ r2 = 0 then
    m_X3_order_71 f u1 x8
    else nmv ((x8 + 1) : Int32) fun v4 =>
    m_X3_order_35 f n35 u1 x3 x4 x5 x6 v4
def m_X3_order (f : Nat) (u : TS) (x1 : Int32) (x2 : Int32) (x3 : Int32) (x4 : Int32) (x5 : Int32) (x6 : Int32) : Option (Int32 × TS) := bd2 (m_X3_whyNoPoint f u x1 x2 x3 x4 x5 x6) fun r2 u1 =>
    if 0 ≤ r2 then
    bd (m_X3_lays f u1 x2) fun u4 =>
    bd (m_X3_forms f u4) fun u5 =>
    m_X3_order_35 f f u5 x3 x4 x5 x6 (1 : Int32)
    else some (r2, u1)
abbrev rm_X3_order : Room := { frames := 7, cells := 0, slots := 0, locals := 180 }
theorem cw_X3_order {R : Room} {s : State} {args : Array Value} {own : String} {idx : Nat} (hts : ∀ w ∈ lw_all, w.before args s = true) (hl : Cond.methodLink own idx yX3_order ∈ lw_all) (hR : rm_X3_order.frames + 1 ≤ R.frames ∧ 8 + (9 + 11) + rm_X3_order.locals ≤ R.locals) : CallW R s args own RX3 idx yX3_order cX3_order 9 (Option.some Jvm.ClassFile.FieldType.int) (ws_ yX3_order cX3_order 9 (Option.some Jvm.ClassFile.FieldType.int)) rm_X3_order 0 0 6 := cwV 6 hts (lw_V hl q1995 q1996 q125 q1997) rfl rfl rfl (by decide +kernel) hR
set_option maxHeartbeats 4000000 in
set_option maxRecDepth 100000 in
theorem w_X3_order (l : Launch) {D : va_G} {ad : Nat → Nat} {dI dJ : ClassId} {A : Nat → Prop} {f : Nat} {u u9 : TS} {r0 : Int32} {x1 : Int32} {x2 : Int32} {x3 : Int32} {x4 : Int32} {x5 : Int32} {x6 : Int32} (hm : m_X3_order f u x1 x2 x3 x4 x5 x6 = some (r0, u9)) : Met l yX3_order (ws_ yX3_order cX3_order 9 (Option.some Jvm.ClassFile.FieldType.int)) rm_X3_order (va_Pc [.ref (ad 40), .int x1, .int x2, .int x3, .int x4, .int x5, .int x6] (TPre D ad dI dJ A u)) (va_Qi (fun r u => r = r0 ∧ u = u9) (TPost D ad dI dJ A) A) 0 0 A := by
  refine Met.ofW (cc := cX3_order) (maxL := 9) (ret := (Option.some Jvm.ClassFile.FieldType.int)) (by decide) rfl ?_
  intro p e s m args below meth c s₁ B hml hv
  have hx := B.exec
  have hb := B.bytes
  have hr := B.returns
  have hts := atoms_spec (ws := (ws_ yX3_order cX3_order 9 (Option.some Jvm.ClassFile.FieldType.int))) B.pre
  have hts : ∀ w ∈ lw_all, w.before args s = true := fun w h => hts w (List.mem_cons_of_mem _ h)
  have hown : s.vm.findClass RX3 = some m.cls := findClass_of_methodNamed B.named
  have hlocks := B.notSynchronized
  obtain ⟨hav, hv⟩ := hv
  have C : TC p s m args c cX3_order D dI dJ := ⟨hx, hb, hown, hts, hv.2.1⟩
  have hw : TH D ad dI dJ A s.heap u s.heap [] := ⟨hv.1, hv.2.2.1, va_S.rf, hv.2.2.2⟩
  generalize hQ : MQ below (va_Qi (fun r u => r = r0 ∧ u = u9) (TPost D ad dI dJ A) A) args s 0 0 A = QQ
  have hent := lg_entry_eq m [.ref (ad 40), .int x1, .int x2, .int x3, .int x4, .int x5, .int x6] 9
  rw [← hav] at hent
  rw [hent]
  have hl := lv_entry ([.ref (ad 40), .int x1, .int x2, .int x3, .int x4, .int x5, .int x6]) (n := 9) (Nat.le_of_ble_eq_true rfl)
  generalize (lg_sl ([.ref (ad 40), .int x1, .int x2, .int x3, .int x4, .int x5, .int x6]) ++ List.replicate (9 - (lg_sl ([.ref (ad 40), .int x1, .int x2, .int x3, .int x4, .int x5, .int x6])).length) Slot.unset).toArray = ls at hl ⊢
  have hl : lv_has ls 9 [(0, .ref (ad 40)), (1, .int x1), (2, .int x2), (3, .int x3), (4, .int x4), (5, .int x5), (6, .int x6)] := hl
  change W p l e rm_X3_order s m args below meth c s.heap [] 0 0 QQ (F0 m 0 ls [])
  have hB71 : ∀ (u : TS) (x8 : Int32) (H : Heap) (locs : List Loc) (ls : Array Slot), m_X3_order_71 f u x8 = some (r0, u9) → TH D ad dI dJ A s.heap u H locs → lv_has ls 9 [(8, .int x8)] → W p l e rm_X3_order s m args below meth c H locs 0 0 QQ (F0 m 71 ls []) := by
    intro u x8 H locs ls hm hw hl
    rw [m_X3_order_71] at hm
    refine lv_iload hx hb dX3_order_71 (lv_at hl 0 rfl) ?_
    rw [← hQ]
    exact W.iret (v := x8) hx hb hr (fun t ht hW => ⟨⟨x8, u, rfl, retE hm, by rw [ht]; exact hw.1, hw.2.1⟩, hw.2.2.1.F ht⟩) hw.2.2.1.2.2 dX3_order_73
  have hB35 : ∀ (n35 : Nat), ∀ (u : TS) (x3 : Int32) (x4 : Int32) (x5 : Int32) (x6 : Int32) (x8 : Int32) (H : Heap) (locs : List Loc) (ls : Array Slot), m_X3_order_35 f n35 u x3 x4 x5 x6 x8 = some (r0, u9) → TH D ad dI dJ A s.heap u H locs → lv_has ls 9 [(0, .ref (ad 40)), (3, .int x3), (4, .int x4), (5, .int x5), (6, .int x6), (8, .int x8)] → W p l e rm_X3_order s m args below meth c H locs 0 0 QQ (F0 m 35 ls []) := by
    intro n35
    induction n35 with
    | zero => intro u x3 x4 x5 x6 x8 H locs ls hm hw hl; rw [m_X3_order_35] at hm; exact noE hm
    | succ n35 ih35 =>
      intro u x3 x4 x5 x6 x8 H locs ls hm hw hl
      rw [m_X3_order_35] at hm
      refine lv_aload_n hx hb dX3_order_35 rfl (lv_at hl 0 rfl) ?_
      refine lv_iload hx hb dX3_order_36 (lv_at hl 5 rfl) ?_
      refine lv_i2l hx hb dX3_order_38 rfl ?_
      refine lv_iload_n hx hb dX3_order_39 rfl (lv_at hl 1 rfl) ?_
      refine lv_i2l hx hb dX3_order_40 rfl ?_
      refine lv_lmul hx hb dX3_order_41 ?_
      refine lv_iload hx hb dX3_order_42 (lv_at hl 5 rfl) ?_
      refine lv_i2l hx hb dX3_order_44 rfl ?_
      refine lv_iload hx hb dX3_order_45 (lv_at hl 2 rfl) ?_
      refine lv_i2l hx hb dX3_order_47 rfl ?_
      refine lv_lmul hx hb dX3_order_48 ?_
      refine lv_iload hx hb dX3_order_49 (lv_at hl 5 rfl) ?_
      refine lv_i2l hx hb dX3_order_51 rfl ?_
      refine lv_iload hx hb dX3_order_52 (lv_at hl 3 rfl) ?_
      refine lv_i2l hx hb dX3_order_54 rfl ?_
      refine lv_lmul hx hb dX3_order_55 ?_
      refine lv_iload hx hb dX3_order_56 (lv_at hl 4 rfl) ?_
      refine lv_i2l hx hb dX3_order_58 rfl ?_
      obtain ⟨r2, u1, er2, hm⟩ := bd2E hm
      refine tg_calli hw (va_runV (As := [.long ((Int32.toInt64 x8) * (Int32.toInt64 x3)), .long ((Int32.toInt64 x8) * (Int32.toInt64 x4)), .long ((Int32.toInt64 x8) * (Int32.toInt64 x5)), .long (Int32.toInt64 x6)]) (rest := []) ⟨hx, hb, hml, hown, hts⟩ (w_X3_hasPoint l er2) (cw_X3_hasPoint hts q1901 ⟨Nat.le_of_ble_eq_true rfl, Nat.le_of_ble_eq_true rfl⟩) (tg_pre C hw _) rfl rfl hl.1 rfl (lv_room (Nat.le_of_ble_eq_true rfl)) dX3_order_59 ⟨Nat.le_of_ble_eq_true rfl, Nat.le_of_ble_eq_true rfl⟩) (fun H locs hw => ?_)
      refine lv_if_ne (tgt := 71) hx hb dX3_order_62 (by decide) (fun c3 => ?_) (fun c3 => ?_)
      · have hm := ifT hm c3
        exact hB71 u1 x8 _ _ _ hm hw (lv_sub hl [5] rfl)
      · have hm := ifT' hm c3
        obtain ⟨v4, ev4, hm⟩ := nmE hm
        refine lv_iinc (v := v4) (lv' := [(8, .int v4), (0, .ref (ad 40)), (3, .int x3), (4, .int x4), (5, .int x5), (6, .int x6)]) hx hb dX3_order_65 hl (k := 5) rfl (by rw [ev4]; rfl) (by decide) rfl (fun ls hl => ?_)
        refine lv_goto (tgt := 35) hx hb dX3_order_68 (by decide) ?_
        exact ih35 u1 x3 x4 x5 x6 v4 _ _ _ hm hw (lv_sub hl [1, 2, 3, 4, 5, 0] rfl)
  rw [m_X3_order] at hm
  refine lv_aload_n hx hb dX3_order_0 rfl (lv_at hl 0 rfl) ?_
  refine lv_iload_n hx hb dX3_order_1 rfl (lv_at hl 1 rfl) ?_
  refine lv_iload_n hx hb dX3_order_2 rfl (lv_at hl 2 rfl) ?_
  refine lv_iload_n hx hb dX3_order_3 rfl (lv_at hl 3 rfl) ?_
  refine lv_iload hx hb dX3_order_4 (lv_at hl 4 rfl) ?_
  refine lv_iload hx hb dX3_order_6 (lv_at hl 5 rfl) ?_
  refine lv_iload hx hb dX3_order_8 (lv_at hl 6 rfl) ?_
  obtain ⟨r2, u1, er2, hm⟩ := bd2E hm
  refine tg_calli hw (va_runV (As := [.int x1, .int x2, .int x3, .int x4, .int x5, .int x6]) (rest := []) ⟨hx, hb, hml, hown, hts⟩ (w_X3_whyNoPoint l er2) (cw_X3_whyNoPoint hts q1990 ⟨Nat.le_of_ble_eq_true rfl, Nat.le_of_ble_eq_true rfl⟩) (tg_pre C hw _) rfl rfl hl.1 rfl (lv_room (Nat.le_of_ble_eq_true rfl)) dX3_order_10 ⟨Nat.le_of_ble_eq_true rfl, Nat.le_of_ble_eq_true rfl⟩) (fun H locs hw => ?_)
  refine lv_istore (lv' := [(7, .int r2), (0, .ref (ad 40)), (1, .int x1), (2, .int x2), (3, .int x3), (4, .int x4), (5, .int x5), (6, .int x6)]) hx hb dX3_order_13 hl (by decide) rfl (fun ls hl => ?_)
  refine lv_iload hx hb dX3_order_15 (lv_at hl 0 rfl) ?_
  refine lv_if_ge (tgt := 23) hx hb dX3_order_17 (by decide) (fun c3 => ?_) (fun c3 => ?_)
  · have hm := ifT hm c3
    refine lv_iconst (v := 1) hx hb dX3_order_23 (by decide) ?_
    refine lv_istore (lv' := [(8, .int (1 : Int32)), (7, .int r2), (0, .ref (ad 40)), (1, .int x1), (2, .int x2), (3, .int x3), (4, .int x4), (5, .int x5), (6, .int x6)]) hx hb dX3_order_24 hl (by decide) rfl (fun ls hl => ?_)
    refine lv_aload_n hx hb dX3_order_26 rfl (lv_at hl 2 rfl) ?_
    refine lv_iload_n hx hb dX3_order_27 rfl (lv_at hl 4 rfl) ?_
    obtain ⟨u4, eu4, hm⟩ := bdE hm
    refine tg_callv hw (va_runV (As := [.int x2]) (rest := []) ⟨hx, hb, hml, hown, hts⟩ (w_X3_lays l eu4) (cw_X3_lays hts q1804 ⟨Nat.le_of_ble_eq_true rfl, Nat.le_of_ble_eq_true rfl⟩) (tg_pre C hw _) rfl rfl hl.1 rfl (lv_room (Nat.le_of_ble_eq_true rfl)) dX3_order_28 ⟨Nat.le_of_ble_eq_true rfl, Nat.le_of_ble_eq_true rfl⟩) (fun H locs hw => ?_)
    refine lv_aload_n hx hb dX3_order_31 rfl (lv_at hl 2 rfl) ?_
    obtain ⟨u5, eu5, hm⟩ := bdE hm
    refine tg_callv hw (va_runV (As := []) (rest := []) ⟨hx, hb, hml, hown, hts⟩ (w_X3_forms l eu5) (cw_X3_forms hts q1832 ⟨Nat.le_of_ble_eq_true rfl, Nat.le_of_ble_eq_true rfl⟩) (tg_pre C hw _) rfl rfl hl.1 rfl (lv_room (Nat.le_of_ble_eq_true rfl)) dX3_order_32 ⟨Nat.le_of_ble_eq_true rfl, Nat.le_of_ble_eq_true rfl⟩) (fun H locs hw => ?_)
    exact hB35 f u5 x3 x4 x5 x6 (1 : Int32) _ _ _ hm hw (lv_sub hl [2, 5, 6, 7, 8, 0] rfl)
  · have hm := ifF hm c3
    refine lv_iload hx hb dX3_order_20 (lv_at hl 0 rfl) ?_
    rw [← hQ]
    exact W.iret (v := r2) hx hb hr (fun t ht hW => ⟨⟨r2, u1, rfl, retE hm, by rw [ht]; exact hw.1, hw.2.1⟩, hw.2.2.1.F ht⟩) hw.2.2.1.2.2 dX3_order_22
def m_X3_cosine_26 (f : Nat) (u : TS) : Option (Int32 × TS) := some ((-1000000 : Int32), u)
def m_X3_cosine (f : Nat) (u : TS) (x1 : Int32) (x2 : Int32) : Option (Int32 × TS) := bd2 (m_X3_isLattice f u x1) fun r2 u1 =>
    if r2 = 0 then
    m_X3_cosine_26 f u1
    else bd2 (m_X3_isTurned f u1 x1) fun r5 u4 =>
    if r5 = 0 then
    m_X3_cosine_26 f u4
    else bd (m_X3_in f (Int32.toInt64 x2) (0 : Int64) (1 : Int64)) fun r7 =>
    if ¬ r7 = 0 then
    nmv (((8 : Int32) + ((4 : Int32) * x1)) : Int32) fun v9 =>
    gd (ix (v9 + (1 : Int32)) 73) <|
    gd (ix (v9 + (1 : Int32)) 73) <|
    gd (ix (v9 + (2 : Int32)) 73) <|
    gd (ix (v9 + (2 : Int32)) 73) <|
    gd (ix (v9 + (3 : Int32)) 73) <|
    gd (ix (v9 + (3 : Int32)) 73) <|
    nmv (((((tA u4 0 (Int32.toNatClampNeg (v9 + (1 : Int32)))) * (tA u4 0 (Int32.toNatClampNeg (v9 + (1 : Int32))))) + ((tA u4 0 (Int32.toNatClampNeg (v9 + (2 : Int32)))) * (tA u4 0 (Int32.toNatClampNeg (v9 + (2 : Int32)))))) + ((tA u4 0 (Int32.toNatClampNeg (v9 + (3 : Int32)))) * (tA u4 0 (Int32.toNatClampNeg (v9 + (3 : Int32)))))) : Int32) fun v16 =>
    gd (ix v9 73) <|
    gd (ix v9 73) <|
    nmv (((tA u4 0 (Int32.toNatClampNeg v9)) * (tA u4 0 (Int32.toNatClampNeg v9))) : Int32) fun v19 =>
    bd (m_X3_part f (Int32.toInt64 (v19 - v16)) (Int32.toInt64 (v19 + v16)) x2) fun r20 =>
    some ((Int64.toInt32 r20), u4)
    else m_X3_cosine_26 f u4
abbrev rm_X3_cosine : Room := { frames := 3, cells := 0, slots := 0, locals := 74 }
theorem cw_X3_cosine {R : Room} {s : State} {args : Array Value} {own : String} {idx : Nat} (hts : ∀ w ∈ lw_all, w.before args s = true) (hl : Cond.methodLink own idx yX3_cosine ∈ lw_all) (hR : rm_X3_cosine.frames + 1 ≤ R.frames ∧ 8 + (6 + 11) + rm_X3_cosine.locals ≤ R.locals) : CallW R s args own RX3 idx yX3_cosine cX3_cosine 6 (Option.some Jvm.ClassFile.FieldType.int) (ws_ yX3_cosine cX3_cosine 6 (Option.some Jvm.ClassFile.FieldType.int)) rm_X3_cosine 0 0 2 := cwV 2 hts (lw_V hl q1999 q2000 q125 q2001) rfl rfl rfl (by decide +kernel) hR
set_option maxHeartbeats 4000000 in
set_option maxRecDepth 100000 in
theorem w_X3_cosine (l : Launch) {D : va_G} {ad : Nat → Nat} {dI dJ : ClassId} {A : Nat → Prop} {f : Nat} {u u9 : TS} {r0 : Int32} {x1 : Int32} {x2 : Int32} (hm : m_X3_cosine f u x1 x2 = some (r0, u9)) : Met l yX3_cosine (ws_ yX3_cosine cX3_cosine 6 (Option.some Jvm.ClassFile.FieldType.int)) rm_X3_cosine (va_Pc [.ref (ad 40), .int x1, .int x2] (TPre D ad dI dJ A u)) (va_Qi (fun r u => r = r0 ∧ u = u9) (TPost D ad dI dJ A) A) 0 0 A := by
  refine Met.ofW (cc := cX3_cosine) (maxL := 6) (ret := (Option.some Jvm.ClassFile.FieldType.int)) (by decide) rfl ?_
  intro p e s m args below meth c s₁ B hml hv
  have hx := B.exec
  have hb := B.bytes
  have hr := B.returns
  have hts := atoms_spec (ws := (ws_ yX3_cosine cX3_cosine 6 (Option.some Jvm.ClassFile.FieldType.int))) B.pre
  have hts : ∀ w ∈ lw_all, w.before args s = true := fun w h => hts w (List.mem_cons_of_mem _ h)
  have hown : s.vm.findClass RX3 = some m.cls := findClass_of_methodNamed B.named
  have hlocks := B.notSynchronized
  obtain ⟨hav, hv⟩ := hv
  have C : TC p s m args c cX3_cosine D dI dJ := ⟨hx, hb, hown, hts, hv.2.1⟩
  have hw : TH D ad dI dJ A s.heap u s.heap [] := ⟨hv.1, hv.2.2.1, va_S.rf, hv.2.2.2⟩
  generalize hQ : MQ below (va_Qi (fun r u => r = r0 ∧ u = u9) (TPost D ad dI dJ A) A) args s 0 0 A = QQ
  have hent := lg_entry_eq m [.ref (ad 40), .int x1, .int x2] 6
  rw [← hav] at hent
  rw [hent]
  have hl := lv_entry ([.ref (ad 40), .int x1, .int x2]) (n := 6) (Nat.le_of_ble_eq_true rfl)
  generalize (lg_sl ([.ref (ad 40), .int x1, .int x2]) ++ List.replicate (6 - (lg_sl ([.ref (ad 40), .int x1, .int x2])).length) Slot.unset).toArray = ls at hl ⊢
  have hl : lv_has ls 6 [(0, .ref (ad 40)), (1, .int x1), (2, .int x2)] := hl
  change W p l e rm_X3_cosine s m args below meth c s.heap [] 0 0 QQ (F0 m 0 ls [])
  have hB26 : ∀ (u : TS) (H : Heap) (locs : List Loc) (ls : Array Slot), m_X3_cosine_26 f u = some (r0, u9) → TH D ad dI dJ A s.heap u H locs → lv_has ls 6 [] → W p l e rm_X3_cosine s m args below meth c H locs 0 0 QQ (F0 m 26 ls []) := by
    intro u H locs ls hm hw hl
    rw [m_X3_cosine_26] at hm
    refine lv_ldc hx hb hown (hts _ q1866) dX3_cosine_26 ?_
    rw [← hQ]
    exact W.iret (v := (-1000000 : Int32)) hx hb hr (fun t ht hW => ⟨⟨(-1000000 : Int32), u, rfl, retE hm, by rw [ht]; exact hw.1, hw.2.1⟩, hw.2.2.1.F ht⟩) hw.2.2.1.2.2 dX3_cosine_28
  rw [m_X3_cosine] at hm
  refine lv_aload_n hx hb dX3_cosine_0 rfl (lv_at hl 0 rfl) ?_
  refine lv_iload_n hx hb dX3_cosine_1 rfl (lv_at hl 1 rfl) ?_
  obtain ⟨r2, u1, er2, hm⟩ := bd2E hm
  refine tg_calli hw (va_runV (As := [.int x1]) (rest := []) ⟨hx, hb, hml, hown, hts⟩ (w_X3_isLattice l er2) (cw_X3_isLattice hts q1796 ⟨Nat.le_of_ble_eq_true rfl, Nat.le_of_ble_eq_true rfl⟩) (tg_pre C hw _) rfl rfl hl.1 rfl (lv_room (Nat.le_of_ble_eq_true rfl)) dX3_cosine_2 ⟨Nat.le_of_ble_eq_true rfl, Nat.le_of_ble_eq_true rfl⟩) (fun H locs hw => ?_)
  refine lv_if_eq (tgt := 26) hx hb dX3_cosine_5 (by decide) (fun c3 => ?_) (fun c3 => ?_)
  · have hm := ifT hm c3
    exact hB26 u1 _ _ _ hm hw (lv_sub hl [] rfl)
  · have hm := ifF hm c3
    refine lv_aload_n hx hb dX3_cosine_8 rfl (lv_at hl 0 rfl) ?_
    refine lv_iload_n hx hb dX3_cosine_9 rfl (lv_at hl 1 rfl) ?_
    obtain ⟨r5, u4, er5, hm⟩ := bd2E hm
    refine tg_calli hw (va_runV (As := [.int x1]) (rest := []) ⟨hx, hb, hml, hown, hts⟩ (w_X3_isTurned l er5) (cw_X3_isTurned hts q1788 ⟨Nat.le_of_ble_eq_true rfl, Nat.le_of_ble_eq_true rfl⟩) (tg_pre C hw _) rfl rfl hl.1 rfl (lv_room (Nat.le_of_ble_eq_true rfl)) dX3_cosine_10 ⟨Nat.le_of_ble_eq_true rfl, Nat.le_of_ble_eq_true rfl⟩) (fun H locs hw => ?_)
    refine lv_if_eq (tgt := 26) hx hb dX3_cosine_13 (by decide) (fun c6 => ?_) (fun c6 => ?_)
    · have hm := ifT hm c6
      exact hB26 u4 _ _ _ hm hw (lv_sub hl [] rfl)
    · have hm := ifF hm c6
      refine lv_iload_n hx hb dX3_cosine_16 rfl (lv_at hl 2 rfl) ?_
      refine lv_i2l hx hb dX3_cosine_17 rfl ?_
      refine lv_lconst (v := 0) hx hb dX3_cosine_18 (by decide) ?_
      refine lv_lconst (v := 1) hx hb dX3_cosine_19 (by decide) ?_
      obtain ⟨r7, er7, hm⟩ := bdE hm
      refine sci (va_runS (As := [.long (Int32.toInt64 x2), .long (0 : Int64), .long (1 : Int64)]) (rest := []) ⟨hx, hb, hml, hown, hts⟩ (w_X3_in l er7) (cw_X3_in hts q1695 ⟨Nat.le_of_ble_eq_true rfl, Nat.le_of_ble_eq_true rfl⟩) (pre_s _) rfl rfl hl.1 rfl (lv_room (Nat.le_of_ble_eq_true rfl)) dX3_cosine_20 ⟨Nat.le_of_ble_eq_true rfl, Nat.le_of_ble_eq_true rfl⟩) ?_
      refine lv_if_ne (tgt := 29) hx hb dX3_cosine_23 (by decide) (fun c8 => ?_) (fun c8 => ?_)
      · have hm := ifT hm c8
        refine lv_bipush (v := 8) hx hb dX3_cosine_29 (by decide) ?_
        refine lv_iconst (v := 4) hx hb dX3_cosine_31 (by decide) ?_
        refine lv_iload_n hx hb dX3_cosine_32 rfl (lv_at hl 1 rfl) ?_
        refine lv_imul hx hb dX3_cosine_33 ?_
        refine lv_iadd hx hb dX3_cosine_34 ?_
        refine lv_topi (fun v9 ev9 => ?_)
        have hm := nmK hm ev9
        refine lv_istore_n (lv' := [(3, .int v9), (0, .ref (ad 40)), (1, .int x1), (2, .int x2)]) hx hb dX3_cosine_35 rfl hl (by decide) rfl (fun ls hl => ?_)
        refine lv_aload_n hx hb dX3_cosine_36 rfl (lv_at hl 1 rfl) ?_
        refine tg_get C hw 0 (by decide) q1566 rfl dX3_cosine_37 ?_
        refine lv_iload_n hx hb dX3_cosine_40 rfl (lv_at hl 0 rfl) ?_
        refine lv_iconst (v := 1) hx hb dX3_cosine_41 (by decide) ?_
        refine lv_iadd hx hb dX3_cosine_42 ?_
        obtain ⟨g10, hm⟩ := gdE hm
        refine tg_iald C hw (tp_0 ad dI dJ u4) g10 dX3_cosine_43 ?_
        refine lv_aload_n hx hb dX3_cosine_44 rfl (lv_at hl 1 rfl) ?_
        refine tg_get C hw 0 (by decide) q1566 rfl dX3_cosine_45 ?_
        refine lv_iload_n hx hb dX3_cosine_48 rfl (lv_at hl 0 rfl) ?_
        refine lv_iconst (v := 1) hx hb dX3_cosine_49 (by decide) ?_
        refine lv_iadd hx hb dX3_cosine_50 ?_
        obtain ⟨g11, hm⟩ := gdE hm
        refine tg_iald C hw (tp_0 ad dI dJ u4) g11 dX3_cosine_51 ?_
        refine lv_imul hx hb dX3_cosine_52 ?_
        refine lv_aload_n hx hb dX3_cosine_53 rfl (lv_at hl 1 rfl) ?_
        refine tg_get C hw 0 (by decide) q1566 rfl dX3_cosine_54 ?_
        refine lv_iload_n hx hb dX3_cosine_57 rfl (lv_at hl 0 rfl) ?_
        refine lv_iconst (v := 2) hx hb dX3_cosine_58 (by decide) ?_
        refine lv_iadd hx hb dX3_cosine_59 ?_
        obtain ⟨g12, hm⟩ := gdE hm
        refine tg_iald C hw (tp_0 ad dI dJ u4) g12 dX3_cosine_60 ?_
        refine lv_aload_n hx hb dX3_cosine_61 rfl (lv_at hl 1 rfl) ?_
        refine tg_get C hw 0 (by decide) q1566 rfl dX3_cosine_62 ?_
        refine lv_iload_n hx hb dX3_cosine_65 rfl (lv_at hl 0 rfl) ?_
        refine lv_iconst (v := 2) hx hb dX3_cosine_66 (by decide) ?_
        refine lv_iadd hx hb dX3_cosine_67 ?_
        obtain ⟨g13, hm⟩ := gdE hm
        refine tg_iald C hw (tp_0 ad dI dJ u4) g13 dX3_cosine_68 ?_
        refine lv_imul hx hb dX3_cosine_69 ?_
        refine lv_iadd hx hb dX3_cosine_70 ?_
        refine lv_aload_n hx hb dX3_cosine_71 rfl (lv_at hl 1 rfl) ?_
        refine tg_get C hw 0 (by decide) q1566 rfl dX3_cosine_72 ?_
        refine lv_iload_n hx hb dX3_cosine_75 rfl (lv_at hl 0 rfl) ?_
        refine lv_iconst (v := 3) hx hb dX3_cosine_76 (by decide) ?_
        refine lv_iadd hx hb dX3_cosine_77 ?_
        obtain ⟨g14, hm⟩ := gdE hm
        refine tg_iald C hw (tp_0 ad dI dJ u4) g14 dX3_cosine_78 ?_
        refine lv_aload_n hx hb dX3_cosine_79 rfl (lv_at hl 1 rfl) ?_
        refine tg_get C hw 0 (by decide) q1566 rfl dX3_cosine_80 ?_
        refine lv_iload_n hx hb dX3_cosine_83 rfl (lv_at hl 0 rfl) ?_
        refine lv_iconst (v := 3) hx hb dX3_cosine_84 (by decide) ?_
        refine lv_iadd hx hb dX3_cosine_85 ?_
        obtain ⟨g15, hm⟩ := gdE hm
        refine tg_iald C hw (tp_0 ad dI dJ u4) g15 dX3_cosine_86 ?_
        refine lv_imul hx hb dX3_cosine_87 ?_
        refine lv_iadd hx hb dX3_cosine_88 ?_
        refine lv_topi (fun v16 ev16 => ?_)
        have hm := nmK hm ev16
        refine lv_istore (lv' := [(4, .int v16), (3, .int v9), (0, .ref (ad 40)), (1, .int x1), (2, .int x2)]) hx hb dX3_cosine_89 hl (by decide) rfl (fun ls hl => ?_)
        refine lv_aload_n hx hb dX3_cosine_91 rfl (lv_at hl 2 rfl) ?_
        refine tg_get C hw 0 (by decide) q1566 rfl dX3_cosine_92 ?_
        refine lv_iload_n hx hb dX3_cosine_95 rfl (lv_at hl 1 rfl) ?_
        obtain ⟨g17, hm⟩ := gdE hm
        refine tg_iald C hw (tp_0 ad dI dJ u4) g17 dX3_cosine_96 ?_
        refine lv_aload_n hx hb dX3_cosine_97 rfl (lv_at hl 2 rfl) ?_
        refine tg_get C hw 0 (by decide) q1566 rfl dX3_cosine_98 ?_
        refine lv_iload_n hx hb dX3_cosine_101 rfl (lv_at hl 1 rfl) ?_
        obtain ⟨g18, hm⟩ := gdE hm
        refine tg_iald C hw (tp_0 ad dI dJ u4) g18 dX3_cosine_102 ?_
        refine lv_imul hx hb dX3_cosine_103 ?_
        refine lv_topi (fun v19 ev19 => ?_)
        have hm := nmK hm ev19
        refine lv_istore (lv' := [(5, .int v19), (4, .int v16), (3, .int v9), (0, .ref (ad 40)), (1, .int x1), (2, .int x2)]) hx hb dX3_cosine_104 hl (by decide) rfl (fun ls hl => ?_)
        refine lv_iload hx hb dX3_cosine_106 (lv_at hl 0 rfl) ?_
        refine lv_iload hx hb dX3_cosine_108 (lv_at hl 1 rfl) ?_
        refine lv_isub hx hb dX3_cosine_110 ?_
        refine lv_i2l hx hb dX3_cosine_111 rfl ?_
        refine lv_iload hx hb dX3_cosine_112 (lv_at hl 0 rfl) ?_
        refine lv_iload hx hb dX3_cosine_114 (lv_at hl 1 rfl) ?_
        refine lv_iadd hx hb dX3_cosine_116 ?_
        refine lv_i2l hx hb dX3_cosine_117 rfl ?_
        refine lv_iload_n hx hb dX3_cosine_118 rfl (lv_at hl 5 rfl) ?_
        obtain ⟨r20, er20, hm⟩ := bdE hm
        refine scl (va_runS (As := [.long (Int32.toInt64 (v19 - v16)), .long (Int32.toInt64 (v19 + v16)), .int x2]) (rest := []) ⟨hx, hb, hml, hown, hts⟩ (w_X3_part l er20) (cw_X3_part hts q1876 ⟨Nat.le_of_ble_eq_true rfl, Nat.le_of_ble_eq_true rfl⟩) (pre_s _) rfl rfl hl.1 rfl (lv_room (Nat.le_of_ble_eq_true rfl)) dX3_cosine_119 ⟨Nat.le_of_ble_eq_true rfl, Nat.le_of_ble_eq_true rfl⟩) ?_
        refine lv_l2i hx hb dX3_cosine_122 rfl ?_
        rw [← hQ]
        exact W.iret (v := (Int64.toInt32 r20)) hx hb hr (fun t ht hW => ⟨⟨(Int64.toInt32 r20), u4, rfl, retE hm, by rw [ht]; exact hw.1, hw.2.1⟩, hw.2.2.1.F ht⟩) hw.2.2.1.2.2 dX3_cosine_123
      · have hm := ifT' hm c8
        exact hB26 u4 _ _ _ hm hw (lv_sub hl [] rfl)
def m_X3_timesOf_131 (f : Nat) (u : TS) (x8 : Int64) (x10 : Int64) : Option (Int64 × TS) := bd2 (m_X3_det f u) fun r2 u1 =>
    gd (nzL (r2 * x8)) <|
    some (((x10 * (tL u 19)) / (r2 * x8)), u1)
def m_X3_timesOf_119 (f : Nat) (k6 : TS → Int32 → Int64 → Int64 → Int64 → Int64 → Int64 → Int32 → Option (Int64 × TS)) (u : TS) (x1 : Int32) (x2 : Int64) (x4 : Int64) (x6 : Int64) (x8 : Int64) (x12 : Int32) (x17 : Int64) (y0 : Int64) (y1 : Int64) : Option (Int64 × TS) := nmv ((y0 + (y1 * x17)) : Int64) fun v1 =>
    nmv ((x12 + 1) : Int32) fun v2 =>
    k6 u x1 x2 x4 x6 x8 v1 v2
def m_X3_timesOf_6 (f : Nat) : Nat → TS → Int32 → Int64 → Int64 → Int64 → Int64 → Int64 → Int32 → Option (Int64 × TS)
  | 0, _, _, _, _, _, _, _, _ => none
  | n6 + 1, u, x1, x2, x4, x6, x8, x10, x12 => if (3 : Int32) ≤ x12 then
    m_X3_timesOf_131 f u x8 x10
    else nmv ((rmI (x1 + (1 : Int32)) (3 : Int32)) : Int32) fun v2 =>
    nmv ((rmI (x1 + (2 : Int32)) (3 : Int32)) : Int32) fun v3 =>
    nmv ((rmI (x12 + (1 : Int32)) (3 : Int32)) : Int32) fun v4 =>
    nmv ((rmI (x12 + (2 : Int32)) (3 : Int32)) : Int32) fun v5 =>
    gd (ix (((3 : Int32) * v2) + v4) 9) <|
    gd (ix (((3 : Int32) * v3) + v5) 9) <|
    gd (ix (((3 : Int32) * v2) + v5) 9) <|
    gd (ix (((3 : Int32) * v3) + v4) 9) <|
    nmv ((((tB u 18 (Int32.toNatClampNeg (((3 : Int32) * v2) + v4))) * (tB u 18 (Int32.toNatClampNeg (((3 : Int32) * v3) + v5)))) - ((tB u 18 (Int32.toNatClampNeg (((3 : Int32) * v2) + v5))) * (tB u 18 (Int32.toNatClampNeg (((3 : Int32) * v3) + v4))))) : Int64) fun v10 =>
    if ¬ x12 = 0 then
    if ¬ x12 = (1 : Int32) then
    m_X3_timesOf_119 f (m_X3_timesOf_6 f n6) u x1 x2 x4 x6 x8 x12 v10 x10 x6
    else m_X3_timesOf_119 f (m_X3_timesOf_6 f n6) u x1 x2 x4 x6 x8 x12 v10 x10 x4
    else m_X3_timesOf_119 f (m_X3_timesOf_6 f n6) u x1 x2 x4 x6 x8 x12 v10 x10 x2
def m_X3_timesOf (f : Nat) (u : TS) (x1 : Int32) (x2 : Int64) (x4 : Int64) (x6 : Int64) (x8 : Int64) : Option (Int64 × TS) := m_X3_timesOf_6 f f u x1 x2 x4 x6 x8 (0 : Int64) (0 : Int32)
abbrev rm_X3_timesOf : Room := { frames := 1, cells := 0, slots := 0, locals := 23 }
theorem cw_X3_timesOf {R : Room} {s : State} {args : Array Value} {own : String} {idx : Nat} (hts : ∀ w ∈ lw_all, w.before args s = true) (hl : Cond.methodLink own idx yX3_timesOf ∈ lw_all) (hR : rm_X3_timesOf.frames + 1 ≤ R.frames ∧ 8 + (19 + 11) + rm_X3_timesOf.locals ≤ R.locals) : CallW R s args own RX3 idx yX3_timesOf cX3_timesOf 19 (Option.some Jvm.ClassFile.FieldType.long) (ws_ yX3_timesOf cX3_timesOf 19 (Option.some Jvm.ClassFile.FieldType.long)) rm_X3_timesOf 0 0 5 := cwV 5 hts (lw_V hl q2008 qs97 q125 q2009) rfl rfl rfl (by decide +kernel) hR
set_option maxHeartbeats 4000000 in
set_option maxRecDepth 100000 in
theorem w_X3_timesOf (l : Launch) {D : va_G} {ad : Nat → Nat} {dI dJ : ClassId} {A : Nat → Prop} {f : Nat} {u u9 : TS} {r0 : Int64} {x1 : Int32} {x2 : Int64} {x4 : Int64} {x6 : Int64} {x8 : Int64} (hm : m_X3_timesOf f u x1 x2 x4 x6 x8 = some (r0, u9)) : Met l yX3_timesOf (ws_ yX3_timesOf cX3_timesOf 19 (Option.some Jvm.ClassFile.FieldType.long)) rm_X3_timesOf (va_Pc [.ref (ad 40), .int x1, .long x2, .long x4, .long x6, .long x8] (TPre D ad dI dJ A u)) (va_Ql (fun r u => r = r0 ∧ u = u9) (TPost D ad dI dJ A) A) 0 0 A := by
  refine Met.ofW (cc := cX3_timesOf) (maxL := 19) (ret := (Option.some Jvm.ClassFile.FieldType.long)) (by decide) rfl ?_
  intro p e s m args below meth c s₁ B hml hv
  have hx := B.exec
  have hb := B.bytes
  have hr := B.returns
  have hts := atoms_spec (ws := (ws_ yX3_timesOf cX3_timesOf 19 (Option.some Jvm.ClassFile.FieldType.long))) B.pre
  have hts : ∀ w ∈ lw_all, w.before args s = true := fun w h => hts w (List.mem_cons_of_mem _ h)
  have hown : s.vm.findClass RX3 = some m.cls := findClass_of_methodNamed B.named
  have hlocks := B.notSynchronized
  obtain ⟨hav, hv⟩ := hv
  have C : TC p s m args c cX3_timesOf D dI dJ := ⟨hx, hb, hown, hts, hv.2.1⟩
  have hw : TH D ad dI dJ A s.heap u s.heap [] := ⟨hv.1, hv.2.2.1, va_S.rf, hv.2.2.2⟩
  generalize hQ : MQ below (va_Ql (fun r u => r = r0 ∧ u = u9) (TPost D ad dI dJ A) A) args s 0 0 A = QQ
  have hent := lg_entry_eq m [.ref (ad 40), .int x1, .long x2, .long x4, .long x6, .long x8] 19
  rw [← hav] at hent
  rw [hent]
  have hl := lv_entry ([.ref (ad 40), .int x1, .long x2, .long x4, .long x6, .long x8]) (n := 19) (Nat.le_of_ble_eq_true rfl)
  generalize (lg_sl ([.ref (ad 40), .int x1, .long x2, .long x4, .long x6, .long x8]) ++ List.replicate (19 - (lg_sl ([.ref (ad 40), .int x1, .long x2, .long x4, .long x6, .long x8])).length) Slot.unset).toArray = ls at hl ⊢
  have hl : lv_has ls 19 [(0, .ref (ad 40)), (1, .int x1), (2, .long x2), (4, .long x4), (6, .long x6), (8, .long x8)] := hl
  change W p l e rm_X3_timesOf s m args below meth c s.heap [] 0 0 QQ (F0 m 0 ls [])
  have hB131 : ∀ (u : TS) (x8 : Int64) (x10 : Int64) (H : Heap) (locs : List Loc) (ls : Array Slot), m_X3_timesOf_131 f u x8 x10 = some (r0, u9) → TH D ad dI dJ A s.heap u H locs → lv_has ls 19 [(0, .ref (ad 40)), (8, .long x8), (10, .long x10)] → W p l e rm_X3_timesOf s m args below meth c H locs 0 0 QQ (F0 m 131 ls []) := by
    intro u x8 x10 H locs ls hm hw hl
    rw [m_X3_timesOf_131] at hm
    refine lv_lload hx hb dX3_timesOf_131 (lv_at hl 2 rfl) ?_
    refine lv_aload_n hx hb dX3_timesOf_133 rfl (lv_at hl 0 rfl) ?_
    refine tg_get C hw 19 (by decide) q1585 rfl dX3_timesOf_134 ?_
    refine lv_lmul hx hb dX3_timesOf_137 ?_
    refine lv_aload_n hx hb dX3_timesOf_138 rfl (lv_at hl 0 rfl) ?_
    obtain ⟨r2, u1, er2, hm⟩ := bd2E hm
    refine tg_calll hw (va_runV (As := []) (rest := [.long (x10 * (tL u 19))]) ⟨hx, hb, hml, hown, hts⟩ (w_X3_det l er2) (cw_X3_det hts q1872 ⟨Nat.le_of_ble_eq_true rfl, Nat.le_of_ble_eq_true rfl⟩) (tg_pre C hw _) rfl rfl hl.1 rfl (lv_room (Nat.le_of_ble_eq_true rfl)) dX3_timesOf_139 ⟨Nat.le_of_ble_eq_true rfl, Nat.le_of_ble_eq_true rfl⟩) (fun H locs hw => ?_)
    refine lv_lload hx hb dX3_timesOf_142 (lv_at hl 1 rfl) ?_
    refine lv_lmul hx hb dX3_timesOf_144 ?_
    obtain ⟨g3, hm⟩ := gdE hm
    refine lv_ldiv hx hb dX3_timesOf_145 (nzL_ne g3) ?_
    rw [← hQ]
    exact W.lret (v := ((x10 * (tL u 19)) / (r2 * x8))) hx hb hr (fun t ht hW => ⟨⟨((x10 * (tL u 19)) / (r2 * x8)), u1, rfl, retE hm, by rw [ht]; exact hw.1, hw.2.1⟩, hw.2.2.1.F ht⟩) hw.2.2.1.2.2 dX3_timesOf_146
  have hB6 : ∀ (n6 : Nat), ∀ (u : TS) (x1 : Int32) (x2 : Int64) (x4 : Int64) (x6 : Int64) (x8 : Int64) (x10 : Int64) (x12 : Int32) (H : Heap) (locs : List Loc) (ls : Array Slot), m_X3_timesOf_6 f n6 u x1 x2 x4 x6 x8 x10 x12 = some (r0, u9) → TH D ad dI dJ A s.heap u H locs → lv_has ls 19 [(0, .ref (ad 40)), (1, .int x1), (2, .long x2), (4, .long x4), (6, .long x6), (8, .long x8), (10, .long x10), (12, .int x12)] → W p l e rm_X3_timesOf s m args below meth c H locs 0 0 QQ (F0 m 6 ls []) := by
    intro n6
    induction n6 with
    | zero => intro u x1 x2 x4 x6 x8 x10 x12 H locs ls hm hw hl; rw [m_X3_timesOf_6] at hm; exact noE hm
    | succ n6 ih6 =>
      have hB119 : ∀ (u : TS) (x1 : Int32) (x2 : Int64) (x4 : Int64) (x6 : Int64) (x8 : Int64) (x12 : Int32) (x17 : Int64) (y0 : Int64) (y1 : Int64) (H : Heap) (locs : List Loc) (ls : Array Slot), m_X3_timesOf_119 f (m_X3_timesOf_6 f n6) u x1 x2 x4 x6 x8 x12 x17 y0 y1 = some (r0, u9) → TH D ad dI dJ A s.heap u H locs → lv_has ls 19 [(0, .ref (ad 40)), (1, .int x1), (2, .long x2), (4, .long x4), (6, .long x6), (8, .long x8), (12, .int x12), (17, .long x17)] → W p l e rm_X3_timesOf s m args below meth c H locs 0 0 QQ (F0 m 119 ls [.long y1, .long y0]) := by
        intro u x1 x2 x4 x6 x8 x12 x17 y0 y1 H locs ls hm hw hl
        rw [m_X3_timesOf_119] at hm
        refine lv_lload hx hb dX3_timesOf_119 (lv_at hl 7 rfl) ?_
        refine lv_lmul hx hb dX3_timesOf_121 ?_
        refine lv_ladd hx hb dX3_timesOf_122 ?_
        refine lv_topl (fun v1 ev1 => ?_)
        have hm := nmK hm ev1
        refine lv_lstore (lv' := [(10, .long v1), (0, .ref (ad 40)), (1, .int x1), (2, .long x2), (4, .long x4), (6, .long x6), (8, .long x8), (12, .int x12), (17, .long x17)]) hx hb dX3_timesOf_123 hl (by decide) rfl (fun ls hl => ?_)
        obtain ⟨v2, ev2, hm⟩ := nmE hm
        refine lv_iinc (v := v2) (lv' := [(12, .int v2), (10, .long v1), (0, .ref (ad 40)), (1, .int x1), (2, .long x2), (4, .long x4), (6, .long x6), (8, .long x8), (17, .long x17)]) hx hb dX3_timesOf_125 hl (k := 7) rfl (by rw [ev2]; rfl) (by decide) rfl (fun ls hl => ?_)
        refine lv_goto (tgt := 6) hx hb dX3_timesOf_128 (by decide) ?_
        exact ih6 u x1 x2 x4 x6 x8 v1 v2 _ _ _ hm hw (lv_sub hl [2, 3, 4, 5, 6, 7, 1, 0] rfl)
      intro u x1 x2 x4 x6 x8 x10 x12 H locs ls hm hw hl
      rw [m_X3_timesOf_6] at hm
      refine lv_iload hx hb dX3_timesOf_6 (lv_at hl 7 rfl) ?_
      refine lv_iconst (v := 3) hx hb dX3_timesOf_8 (by decide) ?_
      refine lv_icmp_ge (tgt := 131) hx hb dX3_timesOf_9 (by decide) (fun c1 => ?_) (fun c1 => ?_)
      · have hm := ifT hm c1
        exact hB131 u x8 x10 _ _ _ hm hw (lv_sub hl [0, 5, 6] rfl)
      · have hm := ifF hm c1
        refine lv_iload_n hx hb dX3_timesOf_12 rfl (lv_at hl 1 rfl) ?_
        refine lv_iconst (v := 1) hx hb dX3_timesOf_13 (by decide) ?_
        refine lv_iadd hx hb dX3_timesOf_14 ?_
        refine lv_iconst (v := 3) hx hb dX3_timesOf_15 (by decide) ?_
        refine w_irem hx hb dX3_timesOf_16 (by decide) ?_
        refine lv_topi (fun v2 ev2 => ?_)
        have hm := nmK hm ev2
        refine lv_istore (lv' := [(13, .int v2), (0, .ref (ad 40)), (1, .int x1), (2, .long x2), (4, .long x4), (6, .long x6), (8, .long x8), (10, .long x10), (12, .int x12)]) hx hb dX3_timesOf_17 hl (by decide) rfl (fun ls hl => ?_)
        refine lv_iload_n hx hb dX3_timesOf_19 rfl (lv_at hl 2 rfl) ?_
        refine lv_iconst (v := 2) hx hb dX3_timesOf_20 (by decide) ?_
        refine lv_iadd hx hb dX3_timesOf_21 ?_
        refine lv_iconst (v := 3) hx hb dX3_timesOf_22 (by decide) ?_
        refine w_irem hx hb dX3_timesOf_23 (by decide) ?_
        refine lv_topi (fun v3 ev3 => ?_)
        have hm := nmK hm ev3
        refine lv_istore (lv' := [(14, .int v3), (13, .int v2), (0, .ref (ad 40)), (1, .int x1), (2, .long x2), (4, .long x4), (6, .long x6), (8, .long x8), (10, .long x10), (12, .int x12)]) hx hb dX3_timesOf_24 hl (by decide) rfl (fun ls hl => ?_)
        refine lv_iload hx hb dX3_timesOf_26 (lv_at hl 9 rfl) ?_
        refine lv_iconst (v := 1) hx hb dX3_timesOf_28 (by decide) ?_
        refine lv_iadd hx hb dX3_timesOf_29 ?_
        refine lv_iconst (v := 3) hx hb dX3_timesOf_30 (by decide) ?_
        refine w_irem hx hb dX3_timesOf_31 (by decide) ?_
        refine lv_topi (fun v4 ev4 => ?_)
        have hm := nmK hm ev4
        refine lv_istore (lv' := [(15, .int v4), (14, .int v3), (13, .int v2), (0, .ref (ad 40)), (1, .int x1), (2, .long x2), (4, .long x4), (6, .long x6), (8, .long x8), (10, .long x10), (12, .int x12)]) hx hb dX3_timesOf_32 hl (by decide) rfl (fun ls hl => ?_)
        refine lv_iload hx hb dX3_timesOf_34 (lv_at hl 10 rfl) ?_
        refine lv_iconst (v := 2) hx hb dX3_timesOf_36 (by decide) ?_
        refine lv_iadd hx hb dX3_timesOf_37 ?_
        refine lv_iconst (v := 3) hx hb dX3_timesOf_38 (by decide) ?_
        refine w_irem hx hb dX3_timesOf_39 (by decide) ?_
        refine lv_topi (fun v5 ev5 => ?_)
        have hm := nmK hm ev5
        refine lv_istore (lv' := [(16, .int v5), (15, .int v4), (14, .int v3), (13, .int v2), (0, .ref (ad 40)), (1, .int x1), (2, .long x2), (4, .long x4), (6, .long x6), (8, .long x8), (10, .long x10), (12, .int x12)]) hx hb dX3_timesOf_40 hl (by decide) rfl (fun ls hl => ?_)
        refine lv_aload_n hx hb dX3_timesOf_42 rfl (lv_at hl 4 rfl) ?_
        refine tg_get C hw 18 (by decide) q1584 rfl dX3_timesOf_43 ?_
        refine lv_iconst (v := 3) hx hb dX3_timesOf_46 (by decide) ?_
        refine lv_iload hx hb dX3_timesOf_47 (lv_at hl 3 rfl) ?_
        refine lv_imul hx hb dX3_timesOf_49 ?_
        refine lv_iload hx hb dX3_timesOf_50 (lv_at hl 1 rfl) ?_
        refine lv_iadd hx hb dX3_timesOf_52 ?_
        obtain ⟨g6, hm⟩ := gdE hm
        refine tg_lald C hw (tp_18 ad dI dJ u) g6 dX3_timesOf_53 ?_
        refine lv_aload_n hx hb dX3_timesOf_54 rfl (lv_at hl 4 rfl) ?_
        refine tg_get C hw 18 (by decide) q1584 rfl dX3_timesOf_55 ?_
        refine lv_iconst (v := 3) hx hb dX3_timesOf_58 (by decide) ?_
        refine lv_iload hx hb dX3_timesOf_59 (lv_at hl 2 rfl) ?_
        refine lv_imul hx hb dX3_timesOf_61 ?_
        refine lv_iload hx hb dX3_timesOf_62 (lv_at hl 0 rfl) ?_
        refine lv_iadd hx hb dX3_timesOf_64 ?_
        obtain ⟨g7, hm⟩ := gdE hm
        refine tg_lald C hw (tp_18 ad dI dJ u) g7 dX3_timesOf_65 ?_
        refine lv_lmul hx hb dX3_timesOf_66 ?_
        refine lv_aload_n hx hb dX3_timesOf_67 rfl (lv_at hl 4 rfl) ?_
        refine tg_get C hw 18 (by decide) q1584 rfl dX3_timesOf_68 ?_
        refine lv_iconst (v := 3) hx hb dX3_timesOf_71 (by decide) ?_
        refine lv_iload hx hb dX3_timesOf_72 (lv_at hl 3 rfl) ?_
        refine lv_imul hx hb dX3_timesOf_74 ?_
        refine lv_iload hx hb dX3_timesOf_75 (lv_at hl 0 rfl) ?_
        refine lv_iadd hx hb dX3_timesOf_77 ?_
        obtain ⟨g8, hm⟩ := gdE hm
        refine tg_lald C hw (tp_18 ad dI dJ u) g8 dX3_timesOf_78 ?_
        refine lv_aload_n hx hb dX3_timesOf_79 rfl (lv_at hl 4 rfl) ?_
        refine tg_get C hw 18 (by decide) q1584 rfl dX3_timesOf_80 ?_
        refine lv_iconst (v := 3) hx hb dX3_timesOf_83 (by decide) ?_
        refine lv_iload hx hb dX3_timesOf_84 (lv_at hl 2 rfl) ?_
        refine lv_imul hx hb dX3_timesOf_86 ?_
        refine lv_iload hx hb dX3_timesOf_87 (lv_at hl 1 rfl) ?_
        refine lv_iadd hx hb dX3_timesOf_89 ?_
        obtain ⟨g9, hm⟩ := gdE hm
        refine tg_lald C hw (tp_18 ad dI dJ u) g9 dX3_timesOf_90 ?_
        refine lv_lmul hx hb dX3_timesOf_91 ?_
        refine lv_lsub hx hb dX3_timesOf_92 ?_
        refine lv_topl (fun v10 ev10 => ?_)
        have hm := nmK hm ev10
        refine lv_lstore (lv' := [(17, .long v10), (16, .int v5), (15, .int v4), (14, .int v3), (13, .int v2), (0, .ref (ad 40)), (1, .int x1), (2, .long x2), (4, .long x4), (6, .long x6), (8, .long x8), (10, .long x10), (12, .int x12)]) hx hb dX3_timesOf_93 hl (by decide) rfl (fun ls hl => ?_)
        refine lv_lload hx hb dX3_timesOf_95 (lv_at hl 11 rfl) ?_
        refine lv_iload hx hb dX3_timesOf_97 (lv_at hl 12 rfl) ?_
        refine lv_if_ne (tgt := 106) hx hb dX3_timesOf_99 (by decide) (fun c11 => ?_) (fun c11 => ?_)
        · have hm := ifT hm c11
          refine lv_iload hx hb dX3_timesOf_106 (lv_at hl 12 rfl) ?_
          refine lv_iconst (v := 1) hx hb dX3_timesOf_108 (by decide) ?_
          refine lv_icmp_ne (tgt := 117) hx hb dX3_timesOf_109 (by decide) (fun c12 => ?_) (fun c12 => ?_)
          · have hm := ifT hm c12
            refine lv_lload hx hb dX3_timesOf_117 (lv_at hl 9 rfl) ?_
            exact hB119 u x1 x2 x4 x6 x8 x12 v10 x10 x6 _ _ _ hm hw (lv_sub hl [5, 6, 7, 8, 9, 10, 12, 0] rfl)
          · have hm := ifT' hm c12
            refine lv_lload hx hb dX3_timesOf_112 (lv_at hl 8 rfl) ?_
            refine lv_goto (tgt := 119) hx hb dX3_timesOf_114 (by decide) ?_
            exact hB119 u x1 x2 x4 x6 x8 x12 v10 x10 x4 _ _ _ hm hw (lv_sub hl [5, 6, 7, 8, 9, 10, 12, 0] rfl)
        · have hm := ifT' hm c11
          refine lv_lload_n hx hb dX3_timesOf_102 rfl (lv_at hl 7 rfl) ?_
          refine lv_goto (tgt := 119) hx hb dX3_timesOf_103 (by decide) ?_
          exact hB119 u x1 x2 x4 x6 x8 x12 v10 x10 x2 _ _ _ hm hw (lv_sub hl [5, 6, 7, 8, 9, 10, 12, 0] rfl)
  rw [m_X3_timesOf] at hm
  refine lv_lconst (v := 0) hx hb dX3_timesOf_0 (by decide) ?_
  refine lv_lstore (lv' := [(10, .long (0 : Int64)), (0, .ref (ad 40)), (1, .int x1), (2, .long x2), (4, .long x4), (6, .long x6), (8, .long x8)]) hx hb dX3_timesOf_1 hl (by decide) rfl (fun ls hl => ?_)
  refine lv_iconst (v := 0) hx hb dX3_timesOf_3 (by decide) ?_
  refine lv_istore (lv' := [(12, .int (0 : Int32)), (10, .long (0 : Int64)), (0, .ref (ad 40)), (1, .int x1), (2, .long x2), (4, .long x4), (6, .long x6), (8, .long x8)]) hx hb dX3_timesOf_4 hl (by decide) rfl (fun ls hl => ?_)
  exact hB6 f u x1 x2 x4 x6 x8 (0 : Int64) (0 : Int32) _ _ _ hm hw (lv_sub hl [2, 3, 4, 5, 6, 7, 1, 0] rfl)
def m_X3_canTurn_33 (f : Nat) (u : TS) (y0 : Int32) : Option (Int32 × TS) := gd (zb y0) <|
    some (y0, u)
def m_X3_canTurn_32 (f : Nat) (u : TS) : Option (Int32 × TS) := m_X3_canTurn_33 f u (0 : Int32)
def m_X3_canTurn (f : Nat) (u : TS) (x1 : Int32) (x2 : Int32) : Option (Int32 × TS) := bd2 (m_X3_isLattice f u x1) fun r2 u1 =>
    if r2 = 0 then
    m_X3_canTurn_32 f u1
    else bd2 (m_X3_isTurned f u1 x1) fun r5 u4 =>
    if ¬ r5 = 0 then
    m_X3_canTurn_32 f u4
    else bd (m_X3_in f (Int32.toInt64 x2) (1 : Int64) (999 : Int64)) fun r7 =>
    if r7 = 0 then
    m_X3_canTurn_32 f u4
    else m_X3_canTurn_33 f u4 (1 : Int32)
abbrev rm_X3_canTurn : Room := { frames := 2, cells := 0, slots := 0, locals := 46 }
theorem cw_X3_canTurn {R : Room} {s : State} {args : Array Value} {own : String} {idx : Nat} (hts : ∀ w ∈ lw_all, w.before args s = true) (hl : Cond.methodLink own idx yX3_canTurn ∈ lw_all) (hR : rm_X3_canTurn.frames + 1 ≤ R.frames ∧ 8 + (3 + 11) + rm_X3_canTurn.locals ≤ R.locals) : CallW R s args own RX3 idx yX3_canTurn cX3_canTurn 3 (Option.some Jvm.ClassFile.FieldType.boolean) (ws_ yX3_canTurn cX3_canTurn 3 (Option.some Jvm.ClassFile.FieldType.boolean)) rm_X3_canTurn 0 0 2 := cwV 2 hts (lw_V hl q2016 qs98 q125 q2017) rfl rfl rfl (by decide +kernel) hR
set_option maxHeartbeats 4000000 in
set_option maxRecDepth 100000 in
theorem w_X3_canTurn (l : Launch) {D : va_G} {ad : Nat → Nat} {dI dJ : ClassId} {A : Nat → Prop} {f : Nat} {u u9 : TS} {r0 : Int32} {x1 : Int32} {x2 : Int32} (hm : m_X3_canTurn f u x1 x2 = some (r0, u9)) : Met l yX3_canTurn (ws_ yX3_canTurn cX3_canTurn 3 (Option.some Jvm.ClassFile.FieldType.boolean)) rm_X3_canTurn (va_Pc [.ref (ad 40), .int x1, .int x2] (TPre D ad dI dJ A u)) (va_Qi (fun r u => r = r0 ∧ u = u9) (TPost D ad dI dJ A) A) 0 0 A := by
  refine Met.ofW (cc := cX3_canTurn) (maxL := 3) (ret := (Option.some Jvm.ClassFile.FieldType.boolean)) (by decide) rfl ?_
  intro p e s m args below meth c s₁ B hml hv
  have hx := B.exec
  have hb := B.bytes
  have hr := B.returns
  have hts := atoms_spec (ws := (ws_ yX3_canTurn cX3_canTurn 3 (Option.some Jvm.ClassFile.FieldType.boolean))) B.pre
  have hts : ∀ w ∈ lw_all, w.before args s = true := fun w h => hts w (List.mem_cons_of_mem _ h)
  have hown : s.vm.findClass RX3 = some m.cls := findClass_of_methodNamed B.named
  have hlocks := B.notSynchronized
  obtain ⟨hav, hv⟩ := hv
  have C : TC p s m args c cX3_canTurn D dI dJ := ⟨hx, hb, hown, hts, hv.2.1⟩
  have hw : TH D ad dI dJ A s.heap u s.heap [] := ⟨hv.1, hv.2.2.1, va_S.rf, hv.2.2.2⟩
  generalize hQ : MQ below (va_Qi (fun r u => r = r0 ∧ u = u9) (TPost D ad dI dJ A) A) args s 0 0 A = QQ
  have hent := lg_entry_eq m [.ref (ad 40), .int x1, .int x2] 3
  rw [← hav] at hent
  rw [hent]
  have hl := lv_entry ([.ref (ad 40), .int x1, .int x2]) (n := 3) (Nat.le_of_ble_eq_true rfl)
  generalize (lg_sl ([.ref (ad 40), .int x1, .int x2]) ++ List.replicate (3 - (lg_sl ([.ref (ad 40), .int x1, .int x2])).length) Slot.unset).toArray = ls at hl ⊢
  have hl : lv_has ls 3 [(0, .ref (ad 40)), (1, .int x1), (2, .int x2)] := hl
  change W p l e rm_X3_canTurn s m args below meth c s.heap [] 0 0 QQ (F0 m 0 ls [])
  have hB33 : ∀ (u : TS) (y0 : Int32) (H : Heap) (locs : List Loc) (ls : Array Slot), m_X3_canTurn_33 f u y0 = some (r0, u9) → TH D ad dI dJ A s.heap u H locs → lv_has ls 3 [] → W p l e rm_X3_canTurn s m args below meth c H locs 0 0 QQ (F0 m 33 ls [.int y0]) := by
    intro u y0 H locs ls hm hw hl
    rw [m_X3_canTurn_33] at hm
    obtain ⟨g1, hm⟩ := gdE hm
    rw [← hQ]
    exact W.zret (v := y0) hx hb hr (zb_nar g1) (fun t ht hW => ⟨⟨y0, u, rfl, retE hm, by rw [ht]; exact hw.1, hw.2.1⟩, hw.2.2.1.F ht⟩) hw.2.2.1.2.2 dX3_canTurn_33
  have hB32 : ∀ (u : TS) (H : Heap) (locs : List Loc) (ls : Array Slot), m_X3_canTurn_32 f u = some (r0, u9) → TH D ad dI dJ A s.heap u H locs → lv_has ls 3 [] → W p l e rm_X3_canTurn s m args below meth c H locs 0 0 QQ (F0 m 32 ls []) := by
    intro u H locs ls hm hw hl
    rw [m_X3_canTurn_32] at hm
    refine lv_iconst (v := 0) hx hb dX3_canTurn_32 (by decide) ?_
    exact hB33 u (0 : Int32) _ _ _ hm hw (lv_sub hl [] rfl)
  rw [m_X3_canTurn] at hm
  refine lv_aload_n hx hb dX3_canTurn_0 rfl (lv_at hl 0 rfl) ?_
  refine lv_iload_n hx hb dX3_canTurn_1 rfl (lv_at hl 1 rfl) ?_
  obtain ⟨r2, u1, er2, hm⟩ := bd2E hm
  refine tg_calli hw (va_runV (As := [.int x1]) (rest := []) ⟨hx, hb, hml, hown, hts⟩ (w_X3_isLattice l er2) (cw_X3_isLattice hts q1796 ⟨Nat.le_of_ble_eq_true rfl, Nat.le_of_ble_eq_true rfl⟩) (tg_pre C hw _) rfl rfl hl.1 rfl (lv_room (Nat.le_of_ble_eq_true rfl)) dX3_canTurn_2 ⟨Nat.le_of_ble_eq_true rfl, Nat.le_of_ble_eq_true rfl⟩) (fun H locs hw => ?_)
  refine lv_if_eq (tgt := 32) hx hb dX3_canTurn_5 (by decide) (fun c3 => ?_) (fun c3 => ?_)
  · have hm := ifT hm c3
    exact hB32 u1 _ _ _ hm hw (lv_sub hl [] rfl)
  · have hm := ifF hm c3
    refine lv_aload_n hx hb dX3_canTurn_8 rfl (lv_at hl 0 rfl) ?_
    refine lv_iload_n hx hb dX3_canTurn_9 rfl (lv_at hl 1 rfl) ?_
    obtain ⟨r5, u4, er5, hm⟩ := bd2E hm
    refine tg_calli hw (va_runV (As := [.int x1]) (rest := []) ⟨hx, hb, hml, hown, hts⟩ (w_X3_isTurned l er5) (cw_X3_isTurned hts q1788 ⟨Nat.le_of_ble_eq_true rfl, Nat.le_of_ble_eq_true rfl⟩) (tg_pre C hw _) rfl rfl hl.1 rfl (lv_room (Nat.le_of_ble_eq_true rfl)) dX3_canTurn_10 ⟨Nat.le_of_ble_eq_true rfl, Nat.le_of_ble_eq_true rfl⟩) (fun H locs hw => ?_)
    refine lv_if_ne (tgt := 32) hx hb dX3_canTurn_13 (by decide) (fun c6 => ?_) (fun c6 => ?_)
    · have hm := ifT hm c6
      exact hB32 u4 _ _ _ hm hw (lv_sub hl [] rfl)
    · have hm := ifT' hm c6
      refine lv_iload_n hx hb dX3_canTurn_16 rfl (lv_at hl 2 rfl) ?_
      refine lv_i2l hx hb dX3_canTurn_17 rfl ?_
      refine lv_lconst (v := 1) hx hb dX3_canTurn_18 (by decide) ?_
      refine lv_ldc2 hx hb hown (hts _ q1895) dX3_canTurn_19 ?_
      obtain ⟨r7, er7, hm⟩ := bdE hm
      refine sci (va_runS (As := [.long (Int32.toInt64 x2), .long (1 : Int64), .long (999 : Int64)]) (rest := []) ⟨hx, hb, hml, hown, hts⟩ (w_X3_in l er7) (cw_X3_in hts q1695 ⟨Nat.le_of_ble_eq_true rfl, Nat.le_of_ble_eq_true rfl⟩) (pre_s _) rfl rfl hl.1 rfl (lv_room (Nat.le_of_ble_eq_true rfl)) dX3_canTurn_22 ⟨Nat.le_of_ble_eq_true rfl, Nat.le_of_ble_eq_true rfl⟩) ?_
      refine lv_if_eq (tgt := 32) hx hb dX3_canTurn_25 (by decide) (fun c8 => ?_) (fun c8 => ?_)
      · have hm := ifT hm c8
        exact hB32 u4 _ _ _ hm hw (lv_sub hl [] rfl)
      · have hm := ifF hm c8
        refine lv_iconst (v := 1) hx hb dX3_canTurn_28 (by decide) ?_
        refine lv_goto (tgt := 33) hx hb dX3_canTurn_29 (by decide) ?_
        exact hB33 u4 (1 : Int32) _ _ _ hm hw (lv_sub hl [] rfl)
def m_X3_indexOf_74 (f : Nat) (u : TS) : Option (Int64 × TS) := bd2 (m_X3_det f u) fun r2 u1 =>
    bd (m_X3_sized f r2) fun r3 =>
    some (r3, u1)
def m_X3_indexOf_50 (f : Nat) : Nat → TS → Int32 → Option (Int64 × TS)
  | 0, _, _ => none
  | n50 + 1, u, x3 => if (9 : Int32) ≤ x3 then
    m_X3_indexOf_74 f u
    else gd (ix x3 9) <|
    gd (ix x3 9) <|
    nmv (sB u 18 (Int32.toNatClampNeg x3) (tB u 32 (Int32.toNatClampNeg x3))) fun u4 =>
    nmv ((x3 + 1) : Int32) fun v5 =>
    m_X3_indexOf_50 f n50 u4 v5
def m_X3_indexOf (f : Nat) (u : TS) (x1 : Int32) (x2 : Int32) : Option (Int64 × TS) := bd (m_X3_laysFirst f u x1) fun u1 =>
    bd (m_X3_lays f u1 x1) fun u2 =>
    bd (m_X3_laysTurn f u2 (Int32.toInt64 (x2 / (64 : Int32))) (Int32.toInt64 (rmI (x2 / (16 : Int32)) (4 : Int32))) (Int32.toInt64 (rmI (x2 / (4 : Int32)) (4 : Int32))) (Int32.toInt64 (rmI x2 (4 : Int32)))) fun u3 =>
    bd (m_X3_turns f u3) fun u4 =>
    bd (m_X3_laysOther f u4) fun u5 =>
    bd (m_X3_tells f u5) fun u6 =>
    m_X3_indexOf_50 f f u6 (0 : Int32)
abbrev rm_X3_indexOf : Room := { frames := 6, cells := 0, slots := 0, locals := 151 }
theorem cw_X3_indexOf {R : Room} {s : State} {args : Array Value} {own : String} {idx : Nat} (hts : ∀ w ∈ lw_all, w.before args s = true) (hl : Cond.methodLink own idx yX3_indexOf ∈ lw_all) (hR : rm_X3_indexOf.frames + 1 ≤ R.frames ∧ 8 + (4 + 11) + rm_X3_indexOf.locals ≤ R.locals) : CallW R s args own RX3 idx yX3_indexOf cX3_indexOf 4 (Option.some Jvm.ClassFile.FieldType.long) (ws_ yX3_indexOf cX3_indexOf 4 (Option.some Jvm.ClassFile.FieldType.long)) rm_X3_indexOf 0 0 2 := cwV 2 hts (lw_V hl q2020 qs99 q125 q2021) rfl rfl rfl (by decide +kernel) hR
set_option maxHeartbeats 4000000 in
set_option maxRecDepth 100000 in
theorem w_X3_indexOf (l : Launch) {D : va_G} {ad : Nat → Nat} {dI dJ : ClassId} {A : Nat → Prop} {f : Nat} {u u9 : TS} {r0 : Int64} {x1 : Int32} {x2 : Int32} (hm : m_X3_indexOf f u x1 x2 = some (r0, u9)) : Met l yX3_indexOf (ws_ yX3_indexOf cX3_indexOf 4 (Option.some Jvm.ClassFile.FieldType.long)) rm_X3_indexOf (va_Pc [.ref (ad 40), .int x1, .int x2] (TPre D ad dI dJ A u)) (va_Ql (fun r u => r = r0 ∧ u = u9) (TPost D ad dI dJ A) A) 0 0 A := by
  refine Met.ofW (cc := cX3_indexOf) (maxL := 4) (ret := (Option.some Jvm.ClassFile.FieldType.long)) (by decide) rfl ?_
  intro p e s m args below meth c s₁ B hml hv
  have hx := B.exec
  have hb := B.bytes
  have hr := B.returns
  have hts := atoms_spec (ws := (ws_ yX3_indexOf cX3_indexOf 4 (Option.some Jvm.ClassFile.FieldType.long))) B.pre
  have hts : ∀ w ∈ lw_all, w.before args s = true := fun w h => hts w (List.mem_cons_of_mem _ h)
  have hown : s.vm.findClass RX3 = some m.cls := findClass_of_methodNamed B.named
  have hlocks := B.notSynchronized
  obtain ⟨hav, hv⟩ := hv
  have C : TC p s m args c cX3_indexOf D dI dJ := ⟨hx, hb, hown, hts, hv.2.1⟩
  have hw : TH D ad dI dJ A s.heap u s.heap [] := ⟨hv.1, hv.2.2.1, va_S.rf, hv.2.2.2⟩
  generalize hQ : MQ below (va_Ql (fun r u => r = r0 ∧ u = u9) (TPost D ad dI dJ A) A) args s 0 0 A = QQ
  have hent := lg_entry_eq m [.ref (ad 40), .int x1, .int x2] 4
  rw [← hav] at hent
  rw [hent]
  have hl := lv_entry ([.ref (ad 40), .int x1, .int x2]) (n := 4) (Nat.le_of_ble_eq_true rfl)
  generalize (lg_sl ([.ref (ad 40), .int x1, .int x2]) ++ List.replicate (4 - (lg_sl ([.ref (ad 40), .int x1, .int x2])).length) Slot.unset).toArray = ls at hl ⊢
  have hl : lv_has ls 4 [(0, .ref (ad 40)), (1, .int x1), (2, .int x2)] := hl
  change W p l e rm_X3_indexOf s m args below meth c s.heap [] 0 0 QQ (F0 m 0 ls [])
  have hB74 : ∀ (u : TS) (H : Heap) (locs : List Loc) (ls : Array Slot), m_X3_indexOf_74 f u = some (r0, u9) → TH D ad dI dJ A s.heap u H locs → lv_has ls 4 [(0, .ref (ad 40))] → W p l e rm_X3_indexOf s m args below meth c H locs 0 0 QQ (F0 m 74 ls []) := by
    intro u H locs ls hm hw hl
    rw [m_X3_indexOf_74] at hm
    refine lv_aload_n hx hb dX3_indexOf_74 rfl (lv_at hl 0 rfl) ?_
    obtain ⟨r2, u1, er2, hm⟩ := bd2E hm
    refine tg_calll hw (va_runV (As := []) (rest := []) ⟨hx, hb, hml, hown, hts⟩ (w_X3_det l er2) (cw_X3_det hts q1872 ⟨Nat.le_of_ble_eq_true rfl, Nat.le_of_ble_eq_true rfl⟩) (tg_pre C hw _) rfl rfl hl.1 rfl (lv_room (Nat.le_of_ble_eq_true rfl)) dX3_indexOf_75 ⟨Nat.le_of_ble_eq_true rfl, Nat.le_of_ble_eq_true rfl⟩) (fun H locs hw => ?_)
    obtain ⟨r3, er3, hm⟩ := bdE hm
    refine scl (va_runS (As := [.long r2]) (rest := []) ⟨hx, hb, hml, hown, hts⟩ (w_X3_sized l er3) (cw_X3_sized hts q1772 ⟨Nat.le_of_ble_eq_true rfl, Nat.le_of_ble_eq_true rfl⟩) (pre_s _) rfl rfl hl.1 rfl (lv_room (Nat.le_of_ble_eq_true rfl)) dX3_indexOf_78 ⟨Nat.le_of_ble_eq_true rfl, Nat.le_of_ble_eq_true rfl⟩) ?_
    rw [← hQ]
    exact W.lret (v := r3) hx hb hr (fun t ht hW => ⟨⟨r3, u1, rfl, retE hm, by rw [ht]; exact hw.1, hw.2.1⟩, hw.2.2.1.F ht⟩) hw.2.2.1.2.2 dX3_indexOf_81
  have hB50 : ∀ (n50 : Nat), ∀ (u : TS) (x3 : Int32) (H : Heap) (locs : List Loc) (ls : Array Slot), m_X3_indexOf_50 f n50 u x3 = some (r0, u9) → TH D ad dI dJ A s.heap u H locs → lv_has ls 4 [(0, .ref (ad 40)), (3, .int x3)] → W p l e rm_X3_indexOf s m args below meth c H locs 0 0 QQ (F0 m 50 ls []) := by
    intro n50
    induction n50 with
    | zero => intro u x3 H locs ls hm hw hl; rw [m_X3_indexOf_50] at hm; exact noE hm
    | succ n50 ih50 =>
      intro u x3 H locs ls hm hw hl
      rw [m_X3_indexOf_50] at hm
      refine lv_iload_n hx hb dX3_indexOf_50 rfl (lv_at hl 1 rfl) ?_
      refine lv_bipush (v := 9) hx hb dX3_indexOf_51 (by decide) ?_
      refine lv_icmp_ge (tgt := 74) hx hb dX3_indexOf_53 (by decide) (fun c1 => ?_) (fun c1 => ?_)
      · have hm := ifT hm c1
        exact hB74 u _ _ _ hm hw (lv_sub hl [0] rfl)
      · have hm := ifF hm c1
        refine lv_aload_n hx hb dX3_indexOf_56 rfl (lv_at hl 0 rfl) ?_
        refine tg_get C hw 18 (by decide) q1584 rfl dX3_indexOf_57 ?_
        refine lv_iload_n hx hb dX3_indexOf_60 rfl (lv_at hl 1 rfl) ?_
        refine lv_aload_n hx hb dX3_indexOf_61 rfl (lv_at hl 0 rfl) ?_
        refine tg_get C hw 32 (by decide) q1598 rfl dX3_indexOf_62 ?_
        refine lv_iload_n hx hb dX3_indexOf_65 rfl (lv_at hl 1 rfl) ?_
        obtain ⟨g2, hm⟩ := gdE hm
        refine tg_lald C hw (tp_32 ad dI dJ u) g2 dX3_indexOf_66 ?_
        obtain ⟨g3, hm⟩ := gdE hm
        refine tg_last C hw (tp_18 ad dI dJ u) g3 (ts_18 ad dI dJ u _ _) dX3_indexOf_67 (fun H locs hw => ?_)
        obtain ⟨u4, eu4, hm⟩ := nmE hm
        rw [← eu4] at hw
        obtain ⟨v5, ev5, hm⟩ := nmE hm
        refine lv_iinc (v := v5) (lv' := [(3, .int v5), (0, .ref (ad 40))]) hx hb dX3_indexOf_68 hl (k := 1) rfl (by rw [ev5]; rfl) (by decide) rfl (fun ls hl => ?_)
        refine lv_goto (tgt := 50) hx hb dX3_indexOf_71 (by decide) ?_
        exact ih50 u4 v5 _ _ _ hm hw (lv_sub hl [1, 0] rfl)
  rw [m_X3_indexOf] at hm
  refine lv_aload_n hx hb dX3_indexOf_0 rfl (lv_at hl 0 rfl) ?_
  refine lv_iload_n hx hb dX3_indexOf_1 rfl (lv_at hl 1 rfl) ?_
  obtain ⟨u1, eu1, hm⟩ := bdE hm
  refine tg_callv hw (va_runV (As := [.int x1]) (rest := []) ⟨hx, hb, hml, hown, hts⟩ (w_X3_laysFirst l eu1) (cw_X3_laysFirst hts q1917 ⟨Nat.le_of_ble_eq_true rfl, Nat.le_of_ble_eq_true rfl⟩) (tg_pre C hw _) rfl rfl hl.1 rfl (lv_room (Nat.le_of_ble_eq_true rfl)) dX3_indexOf_2 ⟨Nat.le_of_ble_eq_true rfl, Nat.le_of_ble_eq_true rfl⟩) (fun H locs hw => ?_)
  refine lv_aload_n hx hb dX3_indexOf_5 rfl (lv_at hl 0 rfl) ?_
  refine lv_iload_n hx hb dX3_indexOf_6 rfl (lv_at hl 1 rfl) ?_
  obtain ⟨u2, eu2, hm⟩ := bdE hm
  refine tg_callv hw (va_runV (As := [.int x1]) (rest := []) ⟨hx, hb, hml, hown, hts⟩ (w_X3_lays l eu2) (cw_X3_lays hts q1804 ⟨Nat.le_of_ble_eq_true rfl, Nat.le_of_ble_eq_true rfl⟩) (tg_pre C hw _) rfl rfl hl.1 rfl (lv_room (Nat.le_of_ble_eq_true rfl)) dX3_indexOf_7 ⟨Nat.le_of_ble_eq_true rfl, Nat.le_of_ble_eq_true rfl⟩) (fun H locs hw => ?_)
  refine lv_aload_n hx hb dX3_indexOf_10 rfl (lv_at hl 0 rfl) ?_
  refine lv_iload_n hx hb dX3_indexOf_11 rfl (lv_at hl 2 rfl) ?_
  refine lv_bipush (v := 64) hx hb dX3_indexOf_12 (by decide) ?_
  refine lv_idiv hx hb dX3_indexOf_14 (by decide) ?_
  refine lv_i2l hx hb dX3_indexOf_15 rfl ?_
  refine lv_iload_n hx hb dX3_indexOf_16 rfl (lv_at hl 2 rfl) ?_
  refine lv_bipush (v := 16) hx hb dX3_indexOf_17 (by decide) ?_
  refine lv_idiv hx hb dX3_indexOf_19 (by decide) ?_
  refine lv_iconst (v := 4) hx hb dX3_indexOf_20 (by decide) ?_
  refine w_irem hx hb dX3_indexOf_21 (by decide) ?_
  refine lv_i2l hx hb dX3_indexOf_22 rfl ?_
  refine lv_iload_n hx hb dX3_indexOf_23 rfl (lv_at hl 2 rfl) ?_
  refine lv_iconst (v := 4) hx hb dX3_indexOf_24 (by decide) ?_
  refine lv_idiv hx hb dX3_indexOf_25 (by decide) ?_
  refine lv_iconst (v := 4) hx hb dX3_indexOf_26 (by decide) ?_
  refine w_irem hx hb dX3_indexOf_27 (by decide) ?_
  refine lv_i2l hx hb dX3_indexOf_28 rfl ?_
  refine lv_iload_n hx hb dX3_indexOf_29 rfl (lv_at hl 2 rfl) ?_
  refine lv_iconst (v := 4) hx hb dX3_indexOf_30 (by decide) ?_
  refine w_irem hx hb dX3_indexOf_31 (by decide) ?_
  refine lv_i2l hx hb dX3_indexOf_32 rfl ?_
  obtain ⟨u3, eu3, hm⟩ := bdE hm
  refine tg_callv hw (va_runV (As := [.long (Int32.toInt64 (x2 / (64 : Int32))), .long (Int32.toInt64 (rmI (x2 / (16 : Int32)) (4 : Int32))), .long (Int32.toInt64 (rmI (x2 / (4 : Int32)) (4 : Int32))), .long (Int32.toInt64 (rmI x2 (4 : Int32)))]) (rest := []) ⟨hx, hb, hml, hown, hts⟩ (w_X3_laysTurn l eu3) (cw_X3_laysTurn hts q1808 ⟨Nat.le_of_ble_eq_true rfl, Nat.le_of_ble_eq_true rfl⟩) (tg_pre C hw _) rfl rfl hl.1 rfl (lv_room (Nat.le_of_ble_eq_true rfl)) dX3_indexOf_33 ⟨Nat.le_of_ble_eq_true rfl, Nat.le_of_ble_eq_true rfl⟩) (fun H locs hw => ?_)
  refine lv_aload_n hx hb dX3_indexOf_36 rfl (lv_at hl 0 rfl) ?_
  obtain ⟨u4, eu4, hm⟩ := bdE hm
  refine tg_callv hw (va_runV (As := []) (rest := []) ⟨hx, hb, hml, hown, hts⟩ (w_X3_turns l eu4) (cw_X3_turns hts q1812 ⟨Nat.le_of_ble_eq_true rfl, Nat.le_of_ble_eq_true rfl⟩) (tg_pre C hw _) rfl rfl hl.1 rfl (lv_room (Nat.le_of_ble_eq_true rfl)) dX3_indexOf_37 ⟨Nat.le_of_ble_eq_true rfl, Nat.le_of_ble_eq_true rfl⟩) (fun H locs hw => ?_)
  refine lv_aload_n hx hb dX3_indexOf_40 rfl (lv_at hl 0 rfl) ?_
  obtain ⟨u5, eu5, hm⟩ := bdE hm
  refine tg_callv hw (va_runV (As := []) (rest := []) ⟨hx, hb, hml, hown, hts⟩ (w_X3_laysOther l eu5) (cw_X3_laysOther hts q1921 ⟨Nat.le_of_ble_eq_true rfl, Nat.le_of_ble_eq_true rfl⟩) (tg_pre C hw _) rfl rfl hl.1 rfl (lv_room (Nat.le_of_ble_eq_true rfl)) dX3_indexOf_41 ⟨Nat.le_of_ble_eq_true rfl, Nat.le_of_ble_eq_true rfl⟩) (fun H locs hw => ?_)
  refine lv_aload_n hx hb dX3_indexOf_44 rfl (lv_at hl 0 rfl) ?_
  obtain ⟨u6, eu6, hm⟩ := bdE hm
  refine tg_callv hw (va_runV (As := []) (rest := []) ⟨hx, hb, hml, hown, hts⟩ (w_X3_tells l eu6) (cw_X3_tells hts q1933 ⟨Nat.le_of_ble_eq_true rfl, Nat.le_of_ble_eq_true rfl⟩) (tg_pre C hw _) rfl rfl hl.1 rfl (lv_room (Nat.le_of_ble_eq_true rfl)) dX3_indexOf_45 ⟨Nat.le_of_ble_eq_true rfl, Nat.le_of_ble_eq_true rfl⟩) (fun H locs hw => ?_)
  refine lv_iconst (v := 0) hx hb dX3_indexOf_48 (by decide) ?_
  refine lv_istore_n (lv' := [(3, .int (0 : Int32)), (0, .ref (ad 40)), (1, .int x1), (2, .int x2)]) hx hb dX3_indexOf_49 rfl hl (by decide) rfl (fun ls hl => ?_)
  exact hB50 f u6 (0 : Int32) _ _ _ hm hw (lv_sub hl [1, 0] rfl)
def m_X3_turned_52 (f : Nat) (u : TS) (x3 : Int32) : Option (Int32 × TS) := some (x3, u)
def m_X3_turned_44 (f : Nat) (k17 : TS → Int32 → Int32 → Int32 → Int32 → Option (Int32 × TS)) (u : TS) (x1 : Int32) (x2 : Int32) (x4 : Int32) (y0 : Int32) (y1 : Int32) : Option (Int32 × TS) := nmv ((y0 + y1) : Int32) fun v1 =>
    nmv ((x4 + 1) : Int32) fun v2 =>
    k17 u x1 x2 v1 v2
def m_X3_turned_17 (f : Nat) : Nat → TS → Int32 → Int32 → Int32 → Int32 → Option (Int32 × TS)
  | 0, _, _, _, _, _ => none
  | n17 + 1, u, x1, x2, x3, x4 => if (256 : Int32) ≤ x4 then
    m_X3_turned_52 f u x3
    else bd2 (m_X3_indexOf f u x1 x4) fun r3 u2 =>
    if ¬ r3 = (Int32.toInt64 x2) then
    m_X3_turned_44 f (m_X3_turned_17 f n17) u2 x1 x2 x4 x3 (0 : Int32)
    else m_X3_turned_44 f (m_X3_turned_17 f n17) u2 x1 x2 x4 x3 (1 : Int32)
def m_X3_turned (f : Nat) (u : TS) (x1 : Int32) (x2 : Int32) : Option (Int32 × TS) := bd2 (m_X3_canTurn f u x1 x2) fun r2 u1 =>
    if ¬ r2 = 0 then
    m_X3_turned_17 f f u1 x1 x2 (0 : Int32) (1 : Int32)
    else some ((-2 : Int32), u1)
abbrev rm_X3_turned : Room := { frames := 7, cells := 0, slots := 0, locals := 174 }
theorem cw_X3_turned {R : Room} {s : State} {args : Array Value} {own : String} {idx : Nat} (hts : ∀ w ∈ lw_all, w.before args s = true) (hl : Cond.methodLink own idx yX3_turned ∈ lw_all) (hR : rm_X3_turned.frames + 1 ≤ R.frames ∧ 8 + (5 + 11) + rm_X3_turned.locals ≤ R.locals) : CallW R s args own RX3 idx yX3_turned cX3_turned 5 (Option.some Jvm.ClassFile.FieldType.int) (ws_ yX3_turned cX3_turned 5 (Option.some Jvm.ClassFile.FieldType.int)) rm_X3_turned 0 0 2 := cwV 2 hts (lw_V hl q2011 q2012 q125 q2013) rfl rfl rfl (by decide +kernel) hR
set_option maxHeartbeats 4000000 in
set_option maxRecDepth 100000 in
theorem w_X3_turned (l : Launch) {D : va_G} {ad : Nat → Nat} {dI dJ : ClassId} {A : Nat → Prop} {f : Nat} {u u9 : TS} {r0 : Int32} {x1 : Int32} {x2 : Int32} (hm : m_X3_turned f u x1 x2 = some (r0, u9)) : Met l yX3_turned (ws_ yX3_turned cX3_turned 5 (Option.some Jvm.ClassFile.FieldType.int)) rm_X3_turned (va_Pc [.ref (ad 40), .int x1, .int x2] (TPre D ad dI dJ A u)) (va_Qi (fun r u => r = r0 ∧ u = u9) (TPost D ad dI dJ A) A) 0 0 A := by
  refine Met.ofW (cc := cX3_turned) (maxL := 5) (ret := (Option.some Jvm.ClassFile.FieldType.int)) (by decide) rfl ?_
  intro p e s m args below meth c s₁ B hml hv
  have hx := B.exec
  have hb := B.bytes
  have hr := B.returns
  have hts := atoms_spec (ws := (ws_ yX3_turned cX3_turned 5 (Option.some Jvm.ClassFile.FieldType.int))) B.pre
  have hts : ∀ w ∈ lw_all, w.before args s = true := fun w h => hts w (List.mem_cons_of_mem _ h)
  have hown : s.vm.findClass RX3 = some m.cls := findClass_of_methodNamed B.named
  have hlocks := B.notSynchronized
  obtain ⟨hav, hv⟩ := hv
  have C : TC p s m args c cX3_turned D dI dJ := ⟨hx, hb, hown, hts, hv.2.1⟩
  have hw : TH D ad dI dJ A s.heap u s.heap [] := ⟨hv.1, hv.2.2.1, va_S.rf, hv.2.2.2⟩
  generalize hQ : MQ below (va_Qi (fun r u => r = r0 ∧ u = u9) (TPost D ad dI dJ A) A) args s 0 0 A = QQ
  have hent := lg_entry_eq m [.ref (ad 40), .int x1, .int x2] 5
  rw [← hav] at hent
  rw [hent]
  have hl := lv_entry ([.ref (ad 40), .int x1, .int x2]) (n := 5) (Nat.le_of_ble_eq_true rfl)
  generalize (lg_sl ([.ref (ad 40), .int x1, .int x2]) ++ List.replicate (5 - (lg_sl ([.ref (ad 40), .int x1, .int x2])).length) Slot.unset).toArray = ls at hl ⊢
  have hl : lv_has ls 5 [(0, .ref (ad 40)), (1, .int x1), (2, .int x2)] := hl
  change W p l e rm_X3_turned s m args below meth c s.heap [] 0 0 QQ (F0 m 0 ls [])
  have hB52 : ∀ (u : TS) (x3 : Int32) (H : Heap) (locs : List Loc) (ls : Array Slot), m_X3_turned_52 f u x3 = some (r0, u9) → TH D ad dI dJ A s.heap u H locs → lv_has ls 5 [(3, .int x3)] → W p l e rm_X3_turned s m args below meth c H locs 0 0 QQ (F0 m 52 ls []) := by
    intro u x3 H locs ls hm hw hl
    rw [m_X3_turned_52] at hm
    refine lv_iload_n hx hb dX3_turned_52 rfl (lv_at hl 0 rfl) ?_
    rw [← hQ]
    exact W.iret (v := x3) hx hb hr (fun t ht hW => ⟨⟨x3, u, rfl, retE hm, by rw [ht]; exact hw.1, hw.2.1⟩, hw.2.2.1.F ht⟩) hw.2.2.1.2.2 dX3_turned_53
  have hB17 : ∀ (n17 : Nat), ∀ (u : TS) (x1 : Int32) (x2 : Int32) (x3 : Int32) (x4 : Int32) (H : Heap) (locs : List Loc) (ls : Array Slot), m_X3_turned_17 f n17 u x1 x2 x3 x4 = some (r0, u9) → TH D ad dI dJ A s.heap u H locs → lv_has ls 5 [(0, .ref (ad 40)), (1, .int x1), (2, .int x2), (3, .int x3), (4, .int x4)] → W p l e rm_X3_turned s m args below meth c H locs 0 0 QQ (F0 m 17 ls []) := by
    intro n17
    induction n17 with
    | zero => intro u x1 x2 x3 x4 H locs ls hm hw hl; rw [m_X3_turned_17] at hm; exact noE hm
    | succ n17 ih17 =>
      have hB44 : ∀ (u : TS) (x1 : Int32) (x2 : Int32) (x4 : Int32) (y0 : Int32) (y1 : Int32) (H : Heap) (locs : List Loc) (ls : Array Slot), m_X3_turned_44 f (m_X3_turned_17 f n17) u x1 x2 x4 y0 y1 = some (r0, u9) → TH D ad dI dJ A s.heap u H locs → lv_has ls 5 [(0, .ref (ad 40)), (1, .int x1), (2, .int x2), (4, .int x4)] → W p l e rm_X3_turned s m args below meth c H locs 0 0 QQ (F0 m 44 ls [.int y1, .int y0]) := by
        intro u x1 x2 x4 y0 y1 H locs ls hm hw hl
        rw [m_X3_turned_44] at hm
        refine lv_iadd hx hb dX3_turned_44 ?_
        refine lv_topi (fun v1 ev1 => ?_)
        have hm := nmK hm ev1
        refine lv_istore_n (lv' := [(3, .int v1), (0, .ref (ad 40)), (1, .int x1), (2, .int x2), (4, .int x4)]) hx hb dX3_turned_45 rfl hl (by decide) rfl (fun ls hl => ?_)
        obtain ⟨v2, ev2, hm⟩ := nmE hm
        refine lv_iinc (v := v2) (lv' := [(4, .int v2), (3, .int v1), (0, .ref (ad 40)), (1, .int x1), (2, .int x2)]) hx hb dX3_turned_46 hl (k := 4) rfl (by rw [ev2]; rfl) (by decide) rfl (fun ls hl => ?_)
        refine lv_goto (tgt := 17) hx hb dX3_turned_49 (by decide) ?_
        exact ih17 u x1 x2 v1 v2 _ _ _ hm hw (lv_sub hl [2, 3, 4, 1, 0] rfl)
      intro u x1 x2 x3 x4 H locs ls hm hw hl
      rw [m_X3_turned_17] at hm
      refine lv_iload hx hb dX3_turned_17 (lv_at hl 4 rfl) ?_
      refine lv_sipush (v := 256) hx hb dX3_turned_19 (by decide) ?_
      refine lv_icmp_ge (tgt := 52) hx hb dX3_turned_22 (by decide) (fun c1 => ?_) (fun c1 => ?_)
      · have hm := ifT hm c1
        exact hB52 u x3 _ _ _ hm hw (lv_sub hl [3] rfl)
      · have hm := ifF hm c1
        refine lv_iload_n hx hb dX3_turned_25 rfl (lv_at hl 3 rfl) ?_
        refine lv_aload_n hx hb dX3_turned_26 rfl (lv_at hl 0 rfl) ?_
        refine lv_iload_n hx hb dX3_turned_27 rfl (lv_at hl 1 rfl) ?_
        refine lv_iload hx hb dX3_turned_28 (lv_at hl 4 rfl) ?_
        obtain ⟨r3, u2, er3, hm⟩ := bd2E hm
        refine tg_calll hw (va_runV (As := [.int x1, .int x4]) (rest := [.int x3]) ⟨hx, hb, hml, hown, hts⟩ (w_X3_indexOf l er3) (cw_X3_indexOf hts q2018 ⟨Nat.le_of_ble_eq_true rfl, Nat.le_of_ble_eq_true rfl⟩) (tg_pre C hw _) rfl rfl hl.1 rfl (lv_room (Nat.le_of_ble_eq_true rfl)) dX3_turned_30 ⟨Nat.le_of_ble_eq_true rfl, Nat.le_of_ble_eq_true rfl⟩) (fun H locs hw => ?_)
        refine lv_iload_n hx hb dX3_turned_33 rfl (lv_at hl 2 rfl) ?_
        refine lv_i2l hx hb dX3_turned_34 rfl ?_
        refine lc_ne (tgt := 43) hx hb dX3_turned_35 dX3_turned_36 (by decide) (fun c4 => ?_) (fun c4 => ?_)
        · have hm := ifT hm c4
          refine lv_iconst (v := 0) hx hb dX3_turned_43 (by decide) ?_
          exact hB44 u2 x1 x2 x4 x3 (0 : Int32) _ _ _ hm hw (lv_sub hl [0, 1, 2, 4] rfl)
        · have hm := ifT' hm c4
          refine lv_iconst (v := 1) hx hb dX3_turned_39 (by decide) ?_
          refine lv_goto (tgt := 44) hx hb dX3_turned_40 (by decide) ?_
          exact hB44 u2 x1 x2 x4 x3 (1 : Int32) _ _ _ hm hw (lv_sub hl [0, 1, 2, 4] rfl)
  rw [m_X3_turned] at hm
  refine lv_aload_n hx hb dX3_turned_0 rfl (lv_at hl 0 rfl) ?_
  refine lv_iload_n hx hb dX3_turned_1 rfl (lv_at hl 1 rfl) ?_
  refine lv_iload_n hx hb dX3_turned_2 rfl (lv_at hl 2 rfl) ?_
  obtain ⟨r2, u1, er2, hm⟩ := bd2E hm
  refine tg_calli hw (va_runV (As := [.int x1, .int x2]) (rest := []) ⟨hx, hb, hml, hown, hts⟩ (w_X3_canTurn l er2) (cw_X3_canTurn hts q2014 ⟨Nat.le_of_ble_eq_true rfl, Nat.le_of_ble_eq_true rfl⟩) (tg_pre C hw _) rfl rfl hl.1 rfl (lv_room (Nat.le_of_ble_eq_true rfl)) dX3_turned_3 ⟨Nat.le_of_ble_eq_true rfl, Nat.le_of_ble_eq_true rfl⟩) (fun H locs hw => ?_)
  refine lv_if_ne (tgt := 12) hx hb dX3_turned_6 (by decide) (fun c3 => ?_) (fun c3 => ?_)
  · have hm := ifT hm c3
    refine lv_iconst (v := 0) hx hb dX3_turned_12 (by decide) ?_
    refine lv_istore_n (lv' := [(3, .int (0 : Int32)), (0, .ref (ad 40)), (1, .int x1), (2, .int x2)]) hx hb dX3_turned_13 rfl hl (by decide) rfl (fun ls hl => ?_)
    refine lv_iconst (v := 1) hx hb dX3_turned_14 (by decide) ?_
    refine lv_istore (lv' := [(4, .int (1 : Int32)), (3, .int (0 : Int32)), (0, .ref (ad 40)), (1, .int x1), (2, .int x2)]) hx hb dX3_turned_15 hl (by decide) rfl (fun ls hl => ?_)
    exact hB17 f u1 x1 x2 (0 : Int32) (1 : Int32) _ _ _ hm hw (lv_sub hl [2, 3, 4, 1, 0] rfl)
  · have hm := ifT' hm c3
    refine lv_bipush (v := -2) hx hb dX3_turned_9 (by decide) ?_
    rw [← hQ]
    exact W.iret (v := (-2 : Int32)) hx hb hr (fun t ht hW => ⟨⟨(-2 : Int32), u1, rfl, retE hm, by rw [ht]; exact hw.1, hw.2.1⟩, hw.2.2.1.F ht⟩) hw.2.2.1.2.2 dX3_turned_11
def m_X3_turnOf_71 (f : Nat) (u : TS) : Option (Int32 × TS) := some ((-1 : Int32), u)
def m_X3_turnOf_33 (f : Nat) (u : TS) (x3 : Int32) : Option (Int32 × TS) := some ((((((1000 : Int32) * (x3 / (64 : Int32))) + ((100 : Int32) * (rmI (x3 / (16 : Int32)) (4 : Int32)))) + ((10 : Int32) * (rmI (x3 / (4 : Int32)) (4 : Int32)))) + (rmI x3 (4 : Int32))), u)
def m_X3_turnOf_14 (f : Nat) : Nat → TS → Int32 → Int32 → Int32 → Option (Int32 × TS)
  | 0, _, _, _, _ => none
  | n14 + 1, u, x1, x2, x3 => if (256 : Int32) ≤ x3 then
    m_X3_turnOf_71 f u
    else bd2 (m_X3_indexOf f u x1 x3) fun r3 u2 =>
    if ¬ r3 = (Int32.toInt64 x2) then
    nmv ((x3 + 1) : Int32) fun v5 =>
    m_X3_turnOf_14 f n14 u2 x1 x2 v5
    else m_X3_turnOf_33 f u2 x3
def m_X3_turnOf (f : Nat) (u : TS) (x1 : Int32) (x2 : Int32) : Option (Int32 × TS) := bd2 (m_X3_canTurn f u x1 x2) fun r2 u1 =>
    if ¬ r2 = 0 then
    m_X3_turnOf_14 f f u1 x1 x2 (1 : Int32)
    else some ((-2 : Int32), u1)
abbrev rm_X3_turnOf : Room := { frames := 7, cells := 0, slots := 0, locals := 174 }
theorem cw_X3_turnOf {R : Room} {s : State} {args : Array Value} {own : String} {idx : Nat} (hts : ∀ w ∈ lw_all, w.before args s = true) (hl : Cond.methodLink own idx yX3_turnOf ∈ lw_all) (hR : rm_X3_turnOf.frames + 1 ≤ R.frames ∧ 8 + (4 + 11) + rm_X3_turnOf.locals ≤ R.locals) : CallW R s args own RX3 idx yX3_turnOf cX3_turnOf 4 (Option.some Jvm.ClassFile.FieldType.int) (ws_ yX3_turnOf cX3_turnOf 4 (Option.some Jvm.ClassFile.FieldType.int)) rm_X3_turnOf 0 0 2 := cwV 2 hts (lw_V hl q2023 q2024 q125 q2025) rfl rfl rfl (by decide +kernel) hR
set_option maxHeartbeats 4000000 in
set_option maxRecDepth 100000 in
theorem w_X3_turnOf (l : Launch) {D : va_G} {ad : Nat → Nat} {dI dJ : ClassId} {A : Nat → Prop} {f : Nat} {u u9 : TS} {r0 : Int32} {x1 : Int32} {x2 : Int32} (hm : m_X3_turnOf f u x1 x2 = some (r0, u9)) : Met l yX3_turnOf (ws_ yX3_turnOf cX3_turnOf 4 (Option.some Jvm.ClassFile.FieldType.int)) rm_X3_turnOf (va_Pc [.ref (ad 40), .int x1, .int x2] (TPre D ad dI dJ A u)) (va_Qi (fun r u => r = r0 ∧ u = u9) (TPost D ad dI dJ A) A) 0 0 A := by
  refine Met.ofW (cc := cX3_turnOf) (maxL := 4) (ret := (Option.some Jvm.ClassFile.FieldType.int)) (by decide) rfl ?_
  intro p e s m args below meth c s₁ B hml hv
  have hx := B.exec
  have hb := B.bytes
  have hr := B.returns
  have hts := atoms_spec (ws := (ws_ yX3_turnOf cX3_turnOf 4 (Option.some Jvm.ClassFile.FieldType.int))) B.pre
  have hts : ∀ w ∈ lw_all, w.before args s = true := fun w h => hts w (List.mem_cons_of_mem _ h)
  have hown : s.vm.findClass RX3 = some m.cls := findClass_of_methodNamed B.named
  have hlocks := B.notSynchronized
  obtain ⟨hav, hv⟩ := hv
  have C : TC p s m args c cX3_turnOf D dI dJ := ⟨hx, hb, hown, hts, hv.2.1⟩
  have hw : TH D ad dI dJ A s.heap u s.heap [] := ⟨hv.1, hv.2.2.1, va_S.rf, hv.2.2.2⟩
  generalize hQ : MQ below (va_Qi (fun r u => r = r0 ∧ u = u9) (TPost D ad dI dJ A) A) args s 0 0 A = QQ
  have hent := lg_entry_eq m [.ref (ad 40), .int x1, .int x2] 4
  rw [← hav] at hent
  rw [hent]
  have hl := lv_entry ([.ref (ad 40), .int x1, .int x2]) (n := 4) (Nat.le_of_ble_eq_true rfl)
  generalize (lg_sl ([.ref (ad 40), .int x1, .int x2]) ++ List.replicate (4 - (lg_sl ([.ref (ad 40), .int x1, .int x2])).length) Slot.unset).toArray = ls at hl ⊢
  have hl : lv_has ls 4 [(0, .ref (ad 40)), (1, .int x1), (2, .int x2)] := hl
  change W p l e rm_X3_turnOf s m args below meth c s.heap [] 0 0 QQ (F0 m 0 ls [])
  have hB71 : ∀ (u : TS) (H : Heap) (locs : List Loc) (ls : Array Slot), m_X3_turnOf_71 f u = some (r0, u9) → TH D ad dI dJ A s.heap u H locs → lv_has ls 4 [] → W p l e rm_X3_turnOf s m args below meth c H locs 0 0 QQ (F0 m 71 ls []) := by
    intro u H locs ls hm hw hl
    rw [m_X3_turnOf_71] at hm
    refine lv_iconst (v := -1) hx hb dX3_turnOf_71 (by decide) ?_
    rw [← hQ]
    exact W.iret (v := (-1 : Int32)) hx hb hr (fun t ht hW => ⟨⟨(-1 : Int32), u, rfl, retE hm, by rw [ht]; exact hw.1, hw.2.1⟩, hw.2.2.1.F ht⟩) hw.2.2.1.2.2 dX3_turnOf_72
  have hB33 : ∀ (u : TS) (x3 : Int32) (H : Heap) (locs : List Loc) (ls : Array Slot), m_X3_turnOf_33 f u x3 = some (r0, u9) → TH D ad dI dJ A s.heap u H locs → lv_has ls 4 [(3, .int x3)] → W p l e rm_X3_turnOf s m args below meth c H locs 0 0 QQ (F0 m 33 ls []) := by
    intro u x3 H locs ls hm hw hl
    rw [m_X3_turnOf_33] at hm
    refine lv_sipush (v := 1000) hx hb dX3_turnOf_33 (by decide) ?_
    refine lv_iload_n hx hb dX3_turnOf_36 rfl (lv_at hl 0 rfl) ?_
    refine lv_bipush (v := 64) hx hb dX3_turnOf_37 (by decide) ?_
    refine lv_idiv hx hb dX3_turnOf_39 (by decide) ?_
    refine lv_imul hx hb dX3_turnOf_40 ?_
    refine lv_bipush (v := 100) hx hb dX3_turnOf_41 (by decide) ?_
    refine lv_iload_n hx hb dX3_turnOf_43 rfl (lv_at hl 0 rfl) ?_
    refine lv_bipush (v := 16) hx hb dX3_turnOf_44 (by decide) ?_
    refine lv_idiv hx hb dX3_turnOf_46 (by decide) ?_
    refine lv_iconst (v := 4) hx hb dX3_turnOf_47 (by decide) ?_
    refine w_irem hx hb dX3_turnOf_48 (by decide) ?_
    refine lv_imul hx hb dX3_turnOf_49 ?_
    refine lv_iadd hx hb dX3_turnOf_50 ?_
    refine lv_bipush (v := 10) hx hb dX3_turnOf_51 (by decide) ?_
    refine lv_iload_n hx hb dX3_turnOf_53 rfl (lv_at hl 0 rfl) ?_
    refine lv_iconst (v := 4) hx hb dX3_turnOf_54 (by decide) ?_
    refine lv_idiv hx hb dX3_turnOf_55 (by decide) ?_
    refine lv_iconst (v := 4) hx hb dX3_turnOf_56 (by decide) ?_
    refine w_irem hx hb dX3_turnOf_57 (by decide) ?_
    refine lv_imul hx hb dX3_turnOf_58 ?_
    refine lv_iadd hx hb dX3_turnOf_59 ?_
    refine lv_iload_n hx hb dX3_turnOf_60 rfl (lv_at hl 0 rfl) ?_
    refine lv_iconst (v := 4) hx hb dX3_turnOf_61 (by decide) ?_
    refine w_irem hx hb dX3_turnOf_62 (by decide) ?_
    refine lv_iadd hx hb dX3_turnOf_63 ?_
    rw [← hQ]
    exact W.iret (v := (((((1000 : Int32) * (x3 / (64 : Int32))) + ((100 : Int32) * (rmI (x3 / (16 : Int32)) (4 : Int32)))) + ((10 : Int32) * (rmI (x3 / (4 : Int32)) (4 : Int32)))) + (rmI x3 (4 : Int32)))) hx hb hr (fun t ht hW => ⟨⟨(((((1000 : Int32) * (x3 / (64 : Int32))) + ((100 : Int32) * (rmI (x3 / (16 : Int32)) (4 : Int32)))) + ((10 : Int32) * (rmI (x3 / (4 : Int32)) (4 : Int32)))) + (rmI x3 (4 : Int32))), u, rfl, retE hm, by rw [ht]; exact hw.1, hw.2.1⟩, hw.2.2.1.F ht⟩) hw.2.2.1.2.2 dX3_turnOf_64
  have hB14 : ∀ (n14 : Nat), ∀ (u : TS) (x1 : Int32) (x2 : Int32) (x3 : Int32) (H : Heap) (locs : List Loc) (ls : Array Slot), m_X3_turnOf_14 f n14 u x1 x2 x3 = some (r0, u9) → TH D ad dI dJ A s.heap u H locs → lv_has ls 4 [(0, .ref (ad 40)), (1, .int x1), (2, .int x2), (3, .int x3)] → W p l e rm_X3_turnOf s m args below meth c H locs 0 0 QQ (F0 m 14 ls []) := by
    intro n14
    induction n14 with
    | zero => intro u x1 x2 x3 H locs ls hm hw hl; rw [m_X3_turnOf_14] at hm; exact noE hm
    | succ n14 ih14 =>
      intro u x1 x2 x3 H locs ls hm hw hl
      rw [m_X3_turnOf_14] at hm
      refine lv_iload_n hx hb dX3_turnOf_14 rfl (lv_at hl 3 rfl) ?_
      refine lv_sipush (v := 256) hx hb dX3_turnOf_15 (by decide) ?_
      refine lv_icmp_ge (tgt := 71) hx hb dX3_turnOf_18 (by decide) (fun c1 => ?_) (fun c1 => ?_)
      · have hm := ifT hm c1
        exact hB71 u _ _ _ hm hw (lv_sub hl [] rfl)
      · have hm := ifF hm c1
        refine lv_aload_n hx hb dX3_turnOf_21 rfl (lv_at hl 0 rfl) ?_
        refine lv_iload_n hx hb dX3_turnOf_22 rfl (lv_at hl 1 rfl) ?_
        refine lv_iload_n hx hb dX3_turnOf_23 rfl (lv_at hl 3 rfl) ?_
        obtain ⟨r3, u2, er3, hm⟩ := bd2E hm
        refine tg_calll hw (va_runV (As := [.int x1, .int x3]) (rest := []) ⟨hx, hb, hml, hown, hts⟩ (w_X3_indexOf l er3) (cw_X3_indexOf hts q2018 ⟨Nat.le_of_ble_eq_true rfl, Nat.le_of_ble_eq_true rfl⟩) (tg_pre C hw _) rfl rfl hl.1 rfl (lv_room (Nat.le_of_ble_eq_true rfl)) dX3_turnOf_24 ⟨Nat.le_of_ble_eq_true rfl, Nat.le_of_ble_eq_true rfl⟩) (fun H locs hw => ?_)
        refine lv_iload_n hx hb dX3_turnOf_27 rfl (lv_at hl 2 rfl) ?_
        refine lv_i2l hx hb dX3_turnOf_28 rfl ?_
        refine lc_ne (tgt := 65) hx hb dX3_turnOf_29 dX3_turnOf_30 (by decide) (fun c4 => ?_) (fun c4 => ?_)
        · have hm := ifT hm c4
          obtain ⟨v5, ev5, hm⟩ := nmE hm
          refine lv_iinc (v := v5) (lv' := [(3, .int v5), (0, .ref (ad 40)), (1, .int x1), (2, .int x2)]) hx hb dX3_turnOf_65 hl (k := 3) rfl (by rw [ev5]; rfl) (by decide) rfl (fun ls hl => ?_)
          refine lv_goto (tgt := 14) hx hb dX3_turnOf_68 (by decide) ?_
          exact ih14 u2 x1 x2 v5 _ _ _ hm hw (lv_sub hl [1, 2, 3, 0] rfl)
        · have hm := ifT' hm c4
          exact hB33 u2 x3 _ _ _ hm hw (lv_sub hl [3] rfl)
  rw [m_X3_turnOf] at hm
  refine lv_aload_n hx hb dX3_turnOf_0 rfl (lv_at hl 0 rfl) ?_
  refine lv_iload_n hx hb dX3_turnOf_1 rfl (lv_at hl 1 rfl) ?_
  refine lv_iload_n hx hb dX3_turnOf_2 rfl (lv_at hl 2 rfl) ?_
  obtain ⟨r2, u1, er2, hm⟩ := bd2E hm
  refine tg_calli hw (va_runV (As := [.int x1, .int x2]) (rest := []) ⟨hx, hb, hml, hown, hts⟩ (w_X3_canTurn l er2) (cw_X3_canTurn hts q2014 ⟨Nat.le_of_ble_eq_true rfl, Nat.le_of_ble_eq_true rfl⟩) (tg_pre C hw _) rfl rfl hl.1 rfl (lv_room (Nat.le_of_ble_eq_true rfl)) dX3_turnOf_3 ⟨Nat.le_of_ble_eq_true rfl, Nat.le_of_ble_eq_true rfl⟩) (fun H locs hw => ?_)
  refine lv_if_ne (tgt := 12) hx hb dX3_turnOf_6 (by decide) (fun c3 => ?_) (fun c3 => ?_)
  · have hm := ifT hm c3
    refine lv_iconst (v := 1) hx hb dX3_turnOf_12 (by decide) ?_
    refine lv_istore_n (lv' := [(3, .int (1 : Int32)), (0, .ref (ad 40)), (1, .int x1), (2, .int x2)]) hx hb dX3_turnOf_13 rfl hl (by decide) rfl (fun ls hl => ?_)
    exact hB14 f u1 x1 x2 (1 : Int32) _ _ _ hm hw (lv_sub hl [1, 2, 3, 0] rfl)
  · have hm := ifT' hm c3
    refine lv_bipush (v := -2) hx hb dX3_turnOf_9 (by decide) ?_
    rw [← hQ]
    exact W.iret (v := (-2 : Int32)) hx hb hr (fun t ht hW => ⟨⟨(-2 : Int32), u1, rfl, retE hm, by rw [ht]; exact hw.1, hw.2.1⟩, hw.2.2.1.F ht⟩) hw.2.2.1.2.2 dX3_turnOf_11
def m_X3_lengthOf (f : Nat) (u : TS) (x1 : Int32) : Option (Int64 × TS) := gd (ix ((3 : Int32) * x1) 9) <|
    gd (ix ((3 : Int32) * x1) 9) <|
    gd (ix (((3 : Int32) * x1) + (1 : Int32)) 9) <|
    gd (ix (((3 : Int32) * x1) + (1 : Int32)) 9) <|
    gd (ix (((3 : Int32) * x1) + (2 : Int32)) 9) <|
    gd (ix (((3 : Int32) * x1) + (2 : Int32)) 9) <|
    some (((((tB u 18 (Int32.toNatClampNeg ((3 : Int32) * x1))) * (tB u 18 (Int32.toNatClampNeg ((3 : Int32) * x1)))) + ((tB u 18 (Int32.toNatClampNeg (((3 : Int32) * x1) + (1 : Int32)))) * (tB u 18 (Int32.toNatClampNeg (((3 : Int32) * x1) + (1 : Int32)))))) + ((tB u 18 (Int32.toNatClampNeg (((3 : Int32) * x1) + (2 : Int32)))) * (tB u 18 (Int32.toNatClampNeg (((3 : Int32) * x1) + (2 : Int32)))))), u)
abbrev rm_X3_lengthOf : Room := { frames := 0, cells := 0, slots := 0, locals := 0 }
theorem cw_X3_lengthOf {R : Room} {s : State} {args : Array Value} {own : String} {idx : Nat} (hts : ∀ w ∈ lw_all, w.before args s = true) (hl : Cond.methodLink own idx yX3_lengthOf ∈ lw_all) (hR : rm_X3_lengthOf.frames + 1 ≤ R.frames ∧ 8 + (2 + 11) + rm_X3_lengthOf.locals ≤ R.locals) : CallW R s args own RX3 idx yX3_lengthOf cX3_lengthOf 2 (Option.some Jvm.ClassFile.FieldType.long) (ws_ yX3_lengthOf cX3_lengthOf 2 (Option.some Jvm.ClassFile.FieldType.long)) rm_X3_lengthOf 0 0 1 := cwV 1 hts (lw_V hl q2061 qs105 q125 q2062) rfl rfl rfl (by decide +kernel) hR
set_option maxHeartbeats 4000000 in
set_option maxRecDepth 100000 in
theorem w_X3_lengthOf (l : Launch) {D : va_G} {ad : Nat → Nat} {dI dJ : ClassId} {A : Nat → Prop} {f : Nat} {u u9 : TS} {r0 : Int64} {x1 : Int32} (hm : m_X3_lengthOf f u x1 = some (r0, u9)) : Met l yX3_lengthOf (ws_ yX3_lengthOf cX3_lengthOf 2 (Option.some Jvm.ClassFile.FieldType.long)) rm_X3_lengthOf (va_Pc [.ref (ad 40), .int x1] (TPre D ad dI dJ A u)) (va_Ql (fun r u => r = r0 ∧ u = u9) (TPost D ad dI dJ A) A) 0 0 A := by
  refine Met.ofW (cc := cX3_lengthOf) (maxL := 2) (ret := (Option.some Jvm.ClassFile.FieldType.long)) (by decide) rfl ?_
  intro p e s m args below meth c s₁ B hml hv
  have hx := B.exec
  have hb := B.bytes
  have hr := B.returns
  have hts := atoms_spec (ws := (ws_ yX3_lengthOf cX3_lengthOf 2 (Option.some Jvm.ClassFile.FieldType.long))) B.pre
  have hts : ∀ w ∈ lw_all, w.before args s = true := fun w h => hts w (List.mem_cons_of_mem _ h)
  have hown : s.vm.findClass RX3 = some m.cls := findClass_of_methodNamed B.named
  have hlocks := B.notSynchronized
  obtain ⟨hav, hv⟩ := hv
  have C : TC p s m args c cX3_lengthOf D dI dJ := ⟨hx, hb, hown, hts, hv.2.1⟩
  have hw : TH D ad dI dJ A s.heap u s.heap [] := ⟨hv.1, hv.2.2.1, va_S.rf, hv.2.2.2⟩
  generalize hQ : MQ below (va_Ql (fun r u => r = r0 ∧ u = u9) (TPost D ad dI dJ A) A) args s 0 0 A = QQ
  have hent := lg_entry_eq m [.ref (ad 40), .int x1] 2
  rw [← hav] at hent
  rw [hent]
  have hl := lv_entry ([.ref (ad 40), .int x1]) (n := 2) (Nat.le_of_ble_eq_true rfl)
  generalize (lg_sl ([.ref (ad 40), .int x1]) ++ List.replicate (2 - (lg_sl ([.ref (ad 40), .int x1])).length) Slot.unset).toArray = ls at hl ⊢
  have hl : lv_has ls 2 [(0, .ref (ad 40)), (1, .int x1)] := hl
  change W p l e rm_X3_lengthOf s m args below meth c s.heap [] 0 0 QQ (F0 m 0 ls [])
  rw [m_X3_lengthOf] at hm
  refine lv_aload_n hx hb dX3_lengthOf_0 rfl (lv_at hl 0 rfl) ?_
  refine tg_get C hw 18 (by decide) q1584 rfl dX3_lengthOf_1 ?_
  refine lv_iconst (v := 3) hx hb dX3_lengthOf_4 (by decide) ?_
  refine lv_iload_n hx hb dX3_lengthOf_5 rfl (lv_at hl 1 rfl) ?_
  refine lv_imul hx hb dX3_lengthOf_6 ?_
  obtain ⟨g1, hm⟩ := gdE hm
  refine tg_lald C hw (tp_18 ad dI dJ u) g1 dX3_lengthOf_7 ?_
  refine lv_aload_n hx hb dX3_lengthOf_8 rfl (lv_at hl 0 rfl) ?_
  refine tg_get C hw 18 (by decide) q1584 rfl dX3_lengthOf_9 ?_
  refine lv_iconst (v := 3) hx hb dX3_lengthOf_12 (by decide) ?_
  refine lv_iload_n hx hb dX3_lengthOf_13 rfl (lv_at hl 1 rfl) ?_
  refine lv_imul hx hb dX3_lengthOf_14 ?_
  obtain ⟨g2, hm⟩ := gdE hm
  refine tg_lald C hw (tp_18 ad dI dJ u) g2 dX3_lengthOf_15 ?_
  refine lv_lmul hx hb dX3_lengthOf_16 ?_
  refine lv_aload_n hx hb dX3_lengthOf_17 rfl (lv_at hl 0 rfl) ?_
  refine tg_get C hw 18 (by decide) q1584 rfl dX3_lengthOf_18 ?_
  refine lv_iconst (v := 3) hx hb dX3_lengthOf_21 (by decide) ?_
  refine lv_iload_n hx hb dX3_lengthOf_22 rfl (lv_at hl 1 rfl) ?_
  refine lv_imul hx hb dX3_lengthOf_23 ?_
  refine lv_iconst (v := 1) hx hb dX3_lengthOf_24 (by decide) ?_
  refine lv_iadd hx hb dX3_lengthOf_25 ?_
  obtain ⟨g3, hm⟩ := gdE hm
  refine tg_lald C hw (tp_18 ad dI dJ u) g3 dX3_lengthOf_26 ?_
  refine lv_aload_n hx hb dX3_lengthOf_27 rfl (lv_at hl 0 rfl) ?_
  refine tg_get C hw 18 (by decide) q1584 rfl dX3_lengthOf_28 ?_
  refine lv_iconst (v := 3) hx hb dX3_lengthOf_31 (by decide) ?_
  refine lv_iload_n hx hb dX3_lengthOf_32 rfl (lv_at hl 1 rfl) ?_
  refine lv_imul hx hb dX3_lengthOf_33 ?_
  refine lv_iconst (v := 1) hx hb dX3_lengthOf_34 (by decide) ?_
  refine lv_iadd hx hb dX3_lengthOf_35 ?_
  obtain ⟨g4, hm⟩ := gdE hm
  refine tg_lald C hw (tp_18 ad dI dJ u) g4 dX3_lengthOf_36 ?_
  refine lv_lmul hx hb dX3_lengthOf_37 ?_
  refine lv_ladd hx hb dX3_lengthOf_38 ?_
  refine lv_aload_n hx hb dX3_lengthOf_39 rfl (lv_at hl 0 rfl) ?_
  refine tg_get C hw 18 (by decide) q1584 rfl dX3_lengthOf_40 ?_
  refine lv_iconst (v := 3) hx hb dX3_lengthOf_43 (by decide) ?_
  refine lv_iload_n hx hb dX3_lengthOf_44 rfl (lv_at hl 1 rfl) ?_
  refine lv_imul hx hb dX3_lengthOf_45 ?_
  refine lv_iconst (v := 2) hx hb dX3_lengthOf_46 (by decide) ?_
  refine lv_iadd hx hb dX3_lengthOf_47 ?_
  obtain ⟨g5, hm⟩ := gdE hm
  refine tg_lald C hw (tp_18 ad dI dJ u) g5 dX3_lengthOf_48 ?_
  refine lv_aload_n hx hb dX3_lengthOf_49 rfl (lv_at hl 0 rfl) ?_
  refine tg_get C hw 18 (by decide) q1584 rfl dX3_lengthOf_50 ?_
  refine lv_iconst (v := 3) hx hb dX3_lengthOf_53 (by decide) ?_
  refine lv_iload_n hx hb dX3_lengthOf_54 rfl (lv_at hl 1 rfl) ?_
  refine lv_imul hx hb dX3_lengthOf_55 ?_
  refine lv_iconst (v := 2) hx hb dX3_lengthOf_56 (by decide) ?_
  refine lv_iadd hx hb dX3_lengthOf_57 ?_
  obtain ⟨g6, hm⟩ := gdE hm
  refine tg_lald C hw (tp_18 ad dI dJ u) g6 dX3_lengthOf_58 ?_
  refine lv_lmul hx hb dX3_lengthOf_59 ?_
  refine lv_ladd hx hb dX3_lengthOf_60 ?_
  rw [← hQ]
  exact W.lret (v := ((((tB u 18 (Int32.toNatClampNeg ((3 : Int32) * x1))) * (tB u 18 (Int32.toNatClampNeg ((3 : Int32) * x1)))) + ((tB u 18 (Int32.toNatClampNeg (((3 : Int32) * x1) + (1 : Int32)))) * (tB u 18 (Int32.toNatClampNeg (((3 : Int32) * x1) + (1 : Int32)))))) + ((tB u 18 (Int32.toNatClampNeg (((3 : Int32) * x1) + (2 : Int32)))) * (tB u 18 (Int32.toNatClampNeg (((3 : Int32) * x1) + (2 : Int32))))))) hx hb hr (fun t ht hW => ⟨⟨((((tB u 18 (Int32.toNatClampNeg ((3 : Int32) * x1))) * (tB u 18 (Int32.toNatClampNeg ((3 : Int32) * x1)))) + ((tB u 18 (Int32.toNatClampNeg (((3 : Int32) * x1) + (1 : Int32)))) * (tB u 18 (Int32.toNatClampNeg (((3 : Int32) * x1) + (1 : Int32)))))) + ((tB u 18 (Int32.toNatClampNeg (((3 : Int32) * x1) + (2 : Int32)))) * (tB u 18 (Int32.toNatClampNeg (((3 : Int32) * x1) + (2 : Int32)))))), u, rfl, retE hm, by rw [ht]; exact hw.1, hw.2.1⟩, hw.2.2.1.F ht⟩) hw.2.2.1.2.2 dX3_lengthOf_61
def m_X3_isAhead_101 (f : Nat) (u : TS) : Option (Int32 × TS) := some ((0 : Int32), u)
def m_X3_isAhead_94 (f : Nat) (u : TS) (y0 : Int32) : Option (Int32 × TS) := gd (zb y0) <|
    some (y0, u)
def m_X3_isAhead_65 (f : Nat) (u : TS) (x1 : Int32) (x2 : Int32) (x3 : Int32) : Option (Int32 × TS) := gd (ix (((3 : Int32) * x1) + x3) 9) <|
    gd (ix (((3 : Int32) * x2) + x3) 9) <|
    if (tB u 18 (Int32.toNatClampNeg (((3 : Int32) * x2) + x3))) ≤ (tB u 18 (Int32.toNatClampNeg (((3 : Int32) * x1) + x3))) then
    m_X3_isAhead_94 f u (0 : Int32)
    else m_X3_isAhead_94 f u (1 : Int32)
def m_X3_isAhead_36 (f : Nat) : Nat → TS → Int32 → Int32 → Int32 → Option (Int32 × TS)
  | 0, _, _, _, _ => none
  | n36 + 1, u, x1, x2, x3 => if (3 : Int32) ≤ x3 then
    m_X3_isAhead_101 f u
    else gd (ix (((3 : Int32) * x1) + x3) 9) <|
    gd (ix (((3 : Int32) * x2) + x3) 9) <|
    if (tB u 18 (Int32.toNatClampNeg (((3 : Int32) * x1) + x3))) = (tB u 18 (Int32.toNatClampNeg (((3 : Int32) * x2) + x3))) then
    nmv ((x3 + 1) : Int32) fun v5 =>
    m_X3_isAhead_36 f n36 u x1 x2 v5
    else m_X3_isAhead_65 f u x1 x2 x3
def m_X3_isAhead_33 (f : Nat) (u : TS) (y0 : Int32) : Option (Int32 × TS) := gd (zb y0) <|
    some (y0, u)
def m_X3_isAhead (f : Nat) (u : TS) (x1 : Int32) (x2 : Int32) : Option (Int32 × TS) := bd2 (m_X3_lengthOf f u x1) fun r2 u1 =>
    bd2 (m_X3_lengthOf f u1 x2) fun r4 u3 =>
    if r2 = r4 then
    m_X3_isAhead_36 f f u3 x1 x2 (0 : Int32)
    else bd2 (m_X3_lengthOf f u3 x1) fun r7 u6 =>
    bd2 (m_X3_lengthOf f u6 x2) fun r9 u8 =>
    if r9 ≤ r7 then
    m_X3_isAhead_33 f u8 (0 : Int32)
    else m_X3_isAhead_33 f u8 (1 : Int32)
abbrev rm_X3_isAhead : Room := { frames := 1, cells := 0, slots := 0, locals := 21 }
theorem cw_X3_isAhead {R : Room} {s : State} {args : Array Value} {own : String} {idx : Nat} (hts : ∀ w ∈ lw_all, w.before args s = true) (hl : Cond.methodLink own idx yX3_isAhead ∈ lw_all) (hR : rm_X3_isAhead.frames + 1 ≤ R.frames ∧ 8 + (4 + 11) + rm_X3_isAhead.locals ≤ R.locals) : CallW R s args own RX3 idx yX3_isAhead cX3_isAhead 4 (Option.some Jvm.ClassFile.FieldType.boolean) (ws_ yX3_isAhead cX3_isAhead 4 (Option.some Jvm.ClassFile.FieldType.boolean)) rm_X3_isAhead 0 0 2 := cwV 2 hts (lw_V hl q2057 qs104 q125 q2058) rfl rfl rfl (by decide +kernel) hR
set_option maxHeartbeats 4000000 in
set_option maxRecDepth 100000 in
theorem w_X3_isAhead (l : Launch) {D : va_G} {ad : Nat → Nat} {dI dJ : ClassId} {A : Nat → Prop} {f : Nat} {u u9 : TS} {r0 : Int32} {x1 : Int32} {x2 : Int32} (hm : m_X3_isAhead f u x1 x2 = some (r0, u9)) : Met l yX3_isAhead (ws_ yX3_isAhead cX3_isAhead 4 (Option.some Jvm.ClassFile.FieldType.boolean)) rm_X3_isAhead (va_Pc [.ref (ad 40), .int x1, .int x2] (TPre D ad dI dJ A u)) (va_Qi (fun r u => r = r0 ∧ u = u9) (TPost D ad dI dJ A) A) 0 0 A := by
  refine Met.ofW (cc := cX3_isAhead) (maxL := 4) (ret := (Option.some Jvm.ClassFile.FieldType.boolean)) (by decide) rfl ?_
  intro p e s m args below meth c s₁ B hml hv
  have hx := B.exec
  have hb := B.bytes
  have hr := B.returns
  have hts := atoms_spec (ws := (ws_ yX3_isAhead cX3_isAhead 4 (Option.some Jvm.ClassFile.FieldType.boolean))) B.pre
  have hts : ∀ w ∈ lw_all, w.before args s = true := fun w h => hts w (List.mem_cons_of_mem _ h)
  have hown : s.vm.findClass RX3 = some m.cls := findClass_of_methodNamed B.named
  have hlocks := B.notSynchronized
  obtain ⟨hav, hv⟩ := hv
  have C : TC p s m args c cX3_isAhead D dI dJ := ⟨hx, hb, hown, hts, hv.2.1⟩
  have hw : TH D ad dI dJ A s.heap u s.heap [] := ⟨hv.1, hv.2.2.1, va_S.rf, hv.2.2.2⟩
  generalize hQ : MQ below (va_Qi (fun r u => r = r0 ∧ u = u9) (TPost D ad dI dJ A) A) args s 0 0 A = QQ
  have hent := lg_entry_eq m [.ref (ad 40), .int x1, .int x2] 4
  rw [← hav] at hent
  rw [hent]
  have hl := lv_entry ([.ref (ad 40), .int x1, .int x2]) (n := 4) (Nat.le_of_ble_eq_true rfl)
  generalize (lg_sl ([.ref (ad 40), .int x1, .int x2]) ++ List.replicate (4 - (lg_sl ([.ref (ad 40), .int x1, .int x2])).length) Slot.unset).toArray = ls at hl ⊢
  have hl : lv_has ls 4 [(0, .ref (ad 40)), (1, .int x1), (2, .int x2)] := hl
  change W p l e rm_X3_isAhead s m args below meth c s.heap [] 0 0 QQ (F0 m 0 ls [])
  have hB101 : ∀ (u : TS) (H : Heap) (locs : List Loc) (ls : Array Slot), m_X3_isAhead_101 f u = some (r0, u9) → TH D ad dI dJ A s.heap u H locs → lv_has ls 4 [] → W p l e rm_X3_isAhead s m args below meth c H locs 0 0 QQ (F0 m 101 ls []) := by
    intro u H locs ls hm hw hl
    rw [m_X3_isAhead_101] at hm
    refine lv_iconst (v := 0) hx hb dX3_isAhead_101 (by decide) ?_
    rw [← hQ]
    exact W.zret (v := (0 : Int32)) hx hb hr rfl (fun t ht hW => ⟨⟨(0 : Int32), u, rfl, retE hm, by rw [ht]; exact hw.1, hw.2.1⟩, hw.2.2.1.F ht⟩) hw.2.2.1.2.2 dX3_isAhead_102
  have hB94 : ∀ (u : TS) (y0 : Int32) (H : Heap) (locs : List Loc) (ls : Array Slot), m_X3_isAhead_94 f u y0 = some (r0, u9) → TH D ad dI dJ A s.heap u H locs → lv_has ls 4 [] → W p l e rm_X3_isAhead s m args below meth c H locs 0 0 QQ (F0 m 94 ls [.int y0]) := by
    intro u y0 H locs ls hm hw hl
    rw [m_X3_isAhead_94] at hm
    obtain ⟨g1, hm⟩ := gdE hm
    rw [← hQ]
    exact W.zret (v := y0) hx hb hr (zb_nar g1) (fun t ht hW => ⟨⟨y0, u, rfl, retE hm, by rw [ht]; exact hw.1, hw.2.1⟩, hw.2.2.1.F ht⟩) hw.2.2.1.2.2 dX3_isAhead_94
  have hB65 : ∀ (u : TS) (x1 : Int32) (x2 : Int32) (x3 : Int32) (H : Heap) (locs : List Loc) (ls : Array Slot), m_X3_isAhead_65 f u x1 x2 x3 = some (r0, u9) → TH D ad dI dJ A s.heap u H locs → lv_has ls 4 [(0, .ref (ad 40)), (1, .int x1), (2, .int x2), (3, .int x3)] → W p l e rm_X3_isAhead s m args below meth c H locs 0 0 QQ (F0 m 65 ls []) := by
    intro u x1 x2 x3 H locs ls hm hw hl
    rw [m_X3_isAhead_65] at hm
    refine lv_aload_n hx hb dX3_isAhead_65 rfl (lv_at hl 0 rfl) ?_
    refine tg_get C hw 18 (by decide) q1584 rfl dX3_isAhead_66 ?_
    refine lv_iconst (v := 3) hx hb dX3_isAhead_69 (by decide) ?_
    refine lv_iload_n hx hb dX3_isAhead_70 rfl (lv_at hl 1 rfl) ?_
    refine lv_imul hx hb dX3_isAhead_71 ?_
    refine lv_iload_n hx hb dX3_isAhead_72 rfl (lv_at hl 3 rfl) ?_
    refine lv_iadd hx hb dX3_isAhead_73 ?_
    obtain ⟨g1, hm⟩ := gdE hm
    refine tg_lald C hw (tp_18 ad dI dJ u) g1 dX3_isAhead_74 ?_
    refine lv_aload_n hx hb dX3_isAhead_75 rfl (lv_at hl 0 rfl) ?_
    refine tg_get C hw 18 (by decide) q1584 rfl dX3_isAhead_76 ?_
    refine lv_iconst (v := 3) hx hb dX3_isAhead_79 (by decide) ?_
    refine lv_iload_n hx hb dX3_isAhead_80 rfl (lv_at hl 2 rfl) ?_
    refine lv_imul hx hb dX3_isAhead_81 ?_
    refine lv_iload_n hx hb dX3_isAhead_82 rfl (lv_at hl 3 rfl) ?_
    refine lv_iadd hx hb dX3_isAhead_83 ?_
    obtain ⟨g2, hm⟩ := gdE hm
    refine tg_lald C hw (tp_18 ad dI dJ u) g2 dX3_isAhead_84 ?_
    refine lc_ge (tgt := 93) hx hb dX3_isAhead_85 dX3_isAhead_86 (by decide) (fun c3 => ?_) (fun c3 => ?_)
    · have hm := ifT hm c3
      refine lv_iconst (v := 0) hx hb dX3_isAhead_93 (by decide) ?_
      exact hB94 u (0 : Int32) _ _ _ hm hw (lv_sub hl [] rfl)
    · have hm := ifF hm c3
      refine lv_iconst (v := 1) hx hb dX3_isAhead_89 (by decide) ?_
      refine lv_goto (tgt := 94) hx hb dX3_isAhead_90 (by decide) ?_
      exact hB94 u (1 : Int32) _ _ _ hm hw (lv_sub hl [] rfl)
  have hB36 : ∀ (n36 : Nat), ∀ (u : TS) (x1 : Int32) (x2 : Int32) (x3 : Int32) (H : Heap) (locs : List Loc) (ls : Array Slot), m_X3_isAhead_36 f n36 u x1 x2 x3 = some (r0, u9) → TH D ad dI dJ A s.heap u H locs → lv_has ls 4 [(0, .ref (ad 40)), (1, .int x1), (2, .int x2), (3, .int x3)] → W p l e rm_X3_isAhead s m args below meth c H locs 0 0 QQ (F0 m 36 ls []) := by
    intro n36
    induction n36 with
    | zero => intro u x1 x2 x3 H locs ls hm hw hl; rw [m_X3_isAhead_36] at hm; exact noE hm
    | succ n36 ih36 =>
      intro u x1 x2 x3 H locs ls hm hw hl
      rw [m_X3_isAhead_36] at hm
      refine lv_iload_n hx hb dX3_isAhead_36 rfl (lv_at hl 3 rfl) ?_
      refine lv_iconst (v := 3) hx hb dX3_isAhead_37 (by decide) ?_
      refine lv_icmp_ge (tgt := 101) hx hb dX3_isAhead_38 (by decide) (fun c1 => ?_) (fun c1 => ?_)
      · have hm := ifT hm c1
        exact hB101 u _ _ _ hm hw (lv_sub hl [] rfl)
      · have hm := ifF hm c1
        refine lv_aload_n hx hb dX3_isAhead_41 rfl (lv_at hl 0 rfl) ?_
        refine tg_get C hw 18 (by decide) q1584 rfl dX3_isAhead_42 ?_
        refine lv_iconst (v := 3) hx hb dX3_isAhead_45 (by decide) ?_
        refine lv_iload_n hx hb dX3_isAhead_46 rfl (lv_at hl 1 rfl) ?_
        refine lv_imul hx hb dX3_isAhead_47 ?_
        refine lv_iload_n hx hb dX3_isAhead_48 rfl (lv_at hl 3 rfl) ?_
        refine lv_iadd hx hb dX3_isAhead_49 ?_
        obtain ⟨g2, hm⟩ := gdE hm
        refine tg_lald C hw (tp_18 ad dI dJ u) g2 dX3_isAhead_50 ?_
        refine lv_aload_n hx hb dX3_isAhead_51 rfl (lv_at hl 0 rfl) ?_
        refine tg_get C hw 18 (by decide) q1584 rfl dX3_isAhead_52 ?_
        refine lv_iconst (v := 3) hx hb dX3_isAhead_55 (by decide) ?_
        refine lv_iload_n hx hb dX3_isAhead_56 rfl (lv_at hl 2 rfl) ?_
        refine lv_imul hx hb dX3_isAhead_57 ?_
        refine lv_iload_n hx hb dX3_isAhead_58 rfl (lv_at hl 3 rfl) ?_
        refine lv_iadd hx hb dX3_isAhead_59 ?_
        obtain ⟨g3, hm⟩ := gdE hm
        refine tg_lald C hw (tp_18 ad dI dJ u) g3 dX3_isAhead_60 ?_
        refine lc_eq (tgt := 95) hx hb dX3_isAhead_61 dX3_isAhead_62 (by decide) (fun c4 => ?_) (fun c4 => ?_)
        · have hm := ifT hm c4
          obtain ⟨v5, ev5, hm⟩ := nmE hm
          refine lv_iinc (v := v5) (lv' := [(3, .int v5), (0, .ref (ad 40)), (1, .int x1), (2, .int x2)]) hx hb dX3_isAhead_95 hl (k := 3) rfl (by rw [ev5]; rfl) (by decide) rfl (fun ls hl => ?_)
          refine lv_goto (tgt := 36) hx hb dX3_isAhead_98 (by decide) ?_
          exact ih36 u x1 x2 v5 _ _ _ hm hw (lv_sub hl [1, 2, 3, 0] rfl)
        · have hm := ifF hm c4
          exact hB65 u x1 x2 x3 _ _ _ hm hw (lv_sub hl [0, 1, 2, 3] rfl)
  have hB33 : ∀ (u : TS) (y0 : Int32) (H : Heap) (locs : List Loc) (ls : Array Slot), m_X3_isAhead_33 f u y0 = some (r0, u9) → TH D ad dI dJ A s.heap u H locs → lv_has ls 4 [] → W p l e rm_X3_isAhead s m args below meth c H locs 0 0 QQ (F0 m 33 ls [.int y0]) := by
    intro u y0 H locs ls hm hw hl
    rw [m_X3_isAhead_33] at hm
    obtain ⟨g1, hm⟩ := gdE hm
    rw [← hQ]
    exact W.zret (v := y0) hx hb hr (zb_nar g1) (fun t ht hW => ⟨⟨y0, u, rfl, retE hm, by rw [ht]; exact hw.1, hw.2.1⟩, hw.2.2.1.F ht⟩) hw.2.2.1.2.2 dX3_isAhead_33
  rw [m_X3_isAhead] at hm
  refine lv_aload_n hx hb dX3_isAhead_0 rfl (lv_at hl 0 rfl) ?_
  refine lv_iload_n hx hb dX3_isAhead_1 rfl (lv_at hl 1 rfl) ?_
  obtain ⟨r2, u1, er2, hm⟩ := bd2E hm
  refine tg_calll hw (va_runV (As := [.int x1]) (rest := []) ⟨hx, hb, hml, hown, hts⟩ (w_X3_lengthOf l er2) (cw_X3_lengthOf hts q2059 ⟨Nat.le_of_ble_eq_true rfl, Nat.le_of_ble_eq_true rfl⟩) (tg_pre C hw _) rfl rfl hl.1 rfl (lv_room (Nat.le_of_ble_eq_true rfl)) dX3_isAhead_2 ⟨Nat.le_of_ble_eq_true rfl, Nat.le_of_ble_eq_true rfl⟩) (fun H locs hw => ?_)
  refine lv_aload_n hx hb dX3_isAhead_5 rfl (lv_at hl 0 rfl) ?_
  refine lv_iload_n hx hb dX3_isAhead_6 rfl (lv_at hl 2 rfl) ?_
  obtain ⟨r4, u3, er4, hm⟩ := bd2E hm
  refine tg_calll hw (va_runV (As := [.int x2]) (rest := [.long r2]) ⟨hx, hb, hml, hown, hts⟩ (w_X3_lengthOf l er4) (cw_X3_lengthOf hts q2059 ⟨Nat.le_of_ble_eq_true rfl, Nat.le_of_ble_eq_true rfl⟩) (tg_pre C hw _) rfl rfl hl.1 rfl (lv_room (Nat.le_of_ble_eq_true rfl)) dX3_isAhead_7 ⟨Nat.le_of_ble_eq_true rfl, Nat.le_of_ble_eq_true rfl⟩) (fun H locs hw => ?_)
  refine lc_eq (tgt := 34) hx hb dX3_isAhead_10 dX3_isAhead_11 (by decide) (fun c5 => ?_) (fun c5 => ?_)
  · have hm := ifT hm c5
    refine lv_iconst (v := 0) hx hb dX3_isAhead_34 (by decide) ?_
    refine lv_istore_n (lv' := [(3, .int (0 : Int32)), (0, .ref (ad 40)), (1, .int x1), (2, .int x2)]) hx hb dX3_isAhead_35 rfl hl (by decide) rfl (fun ls hl => ?_)
    exact hB36 f u3 x1 x2 (0 : Int32) _ _ _ hm hw (lv_sub hl [1, 2, 3, 0] rfl)
  · have hm := ifF hm c5
    refine lv_aload_n hx hb dX3_isAhead_14 rfl (lv_at hl 0 rfl) ?_
    refine lv_iload_n hx hb dX3_isAhead_15 rfl (lv_at hl 1 rfl) ?_
    obtain ⟨r7, u6, er7, hm⟩ := bd2E hm
    refine tg_calll hw (va_runV (As := [.int x1]) (rest := []) ⟨hx, hb, hml, hown, hts⟩ (w_X3_lengthOf l er7) (cw_X3_lengthOf hts q2059 ⟨Nat.le_of_ble_eq_true rfl, Nat.le_of_ble_eq_true rfl⟩) (tg_pre C hw _) rfl rfl hl.1 rfl (lv_room (Nat.le_of_ble_eq_true rfl)) dX3_isAhead_16 ⟨Nat.le_of_ble_eq_true rfl, Nat.le_of_ble_eq_true rfl⟩) (fun H locs hw => ?_)
    refine lv_aload_n hx hb dX3_isAhead_19 rfl (lv_at hl 0 rfl) ?_
    refine lv_iload_n hx hb dX3_isAhead_20 rfl (lv_at hl 2 rfl) ?_
    obtain ⟨r9, u8, er9, hm⟩ := bd2E hm
    refine tg_calll hw (va_runV (As := [.int x2]) (rest := [.long r7]) ⟨hx, hb, hml, hown, hts⟩ (w_X3_lengthOf l er9) (cw_X3_lengthOf hts q2059 ⟨Nat.le_of_ble_eq_true rfl, Nat.le_of_ble_eq_true rfl⟩) (tg_pre C hw _) rfl rfl hl.1 rfl (lv_room (Nat.le_of_ble_eq_true rfl)) dX3_isAhead_21 ⟨Nat.le_of_ble_eq_true rfl, Nat.le_of_ble_eq_true rfl⟩) (fun H locs hw => ?_)
    refine lc_ge (tgt := 32) hx hb dX3_isAhead_24 dX3_isAhead_25 (by decide) (fun c10 => ?_) (fun c10 => ?_)
    · have hm := ifT hm c10
      refine lv_iconst (v := 0) hx hb dX3_isAhead_32 (by decide) ?_
      exact hB33 u8 (0 : Int32) _ _ _ hm hw (lv_sub hl [] rfl)
    · have hm := ifF hm c10
      refine lv_iconst (v := 1) hx hb dX3_isAhead_28 (by decide) ?_
      refine lv_goto (tgt := 33) hx hb dX3_isAhead_29 (by decide) ?_
      exact hB33 u8 (1 : Int32) _ _ _ hm hw (lv_sub hl [] rfl)
def m_X3_orders_50 (f : Nat) (u : TS) : Option TS := some u
def m_X3_orders_44 (f : Nat) (k2 : TS → Int32 → Option TS) (u : TS) (x1 : Int32) : Option TS := nmv ((x1 + 1) : Int32) fun v1 =>
    k2 u v1
def m_X3_orders_38 (f : Nat) (k2 : TS → Int32 → Option TS) (k9 : TS → Int32 → Int32 → Option TS) (u : TS) (x1 : Int32) (x2 : Int32) : Option TS := nmv ((x2 + 1) : Int32) fun v1 =>
    k9 u x1 v1
def m_X3_orders_9 (f : Nat) (k2 : TS → Int32 → Option TS) : Nat → TS → Int32 → Int32 → Option TS
  | 0, _, _, _ => none
  | n9 + 1, u, x1, x2 => if (2 : Int32) ≤ x2 then
    m_X3_orders_44 f k2 u x1
    else bd2 (m_X3_isAhead f u (x2 + (1 : Int32)) x2) fun r3 u2 =>
    if r3 = 0 then
    m_X3_orders_38 f k2 (m_X3_orders_9 f k2 n9) u2 x1 x2
    else bd (m_X3_exchangesRows f u2 x2 (x2 + (1 : Int32))) fun u5 =>
    nmv (sI u5 25 (0 : Int32)) fun u6 =>
    m_X3_orders_38 f k2 (m_X3_orders_9 f k2 n9) u6 x1 x2
def m_X3_orders_2 (f : Nat) : Nat → TS → Int32 → Option TS
  | 0, _, _ => none
  | n2 + 1, u, x1 => if (3 : Int32) ≤ x1 then
    m_X3_orders_50 f u
    else m_X3_orders_9 f (m_X3_orders_2 f n2) f u x1 (0 : Int32)
def m_X3_orders (f : Nat) (u : TS) : Option TS := m_X3_orders_2 f f u (0 : Int32)
abbrev rm_X3_orders : Room := { frames := 2, cells := 0, slots := 0, locals := 50 }
theorem cw_X3_orders {R : Room} {s : State} {args : Array Value} {own : String} {idx : Nat} (hts : ∀ w ∈ lw_all, w.before args s = true) (hl : Cond.methodLink own idx yX3_orders ∈ lw_all) (hR : rm_X3_orders.frames + 1 ≤ R.frames ∧ 8 + (3 + 11) + rm_X3_orders.locals ≤ R.locals) : CallW R s args own RX3 idx yX3_orders cX3_orders 3 (Option.none : Option Jvm.ClassFile.FieldType) (ws_ yX3_orders cX3_orders 3 (Option.none : Option Jvm.ClassFile.FieldType)) rm_X3_orders 0 0 0 := cwV 0 hts (lw_V hl q2053 qs103 q125 q2054) rfl rfl rfl (by decide +kernel) hR
set_option maxHeartbeats 4000000 in
set_option maxRecDepth 100000 in
theorem w_X3_orders (l : Launch) {D : va_G} {ad : Nat → Nat} {dI dJ : ClassId} {A : Nat → Prop} {f : Nat} {u u9 : TS}  (hm : m_X3_orders f u = some u9) : Met l yX3_orders (ws_ yX3_orders cX3_orders 3 (Option.none : Option Jvm.ClassFile.FieldType)) rm_X3_orders (va_Pc [.ref (ad 40)] (TPre D ad dI dJ A u)) (va_Qv (fun u => u = u9) (TPost D ad dI dJ A) A) 0 0 A := by
  refine Met.ofW (cc := cX3_orders) (maxL := 3) (ret := (Option.none : Option Jvm.ClassFile.FieldType)) (by decide) rfl ?_
  intro p e s m args below meth c s₁ B hml hv
  have hx := B.exec
  have hb := B.bytes
  have hr := B.returns
  have hts := atoms_spec (ws := (ws_ yX3_orders cX3_orders 3 (Option.none : Option Jvm.ClassFile.FieldType))) B.pre
  have hts : ∀ w ∈ lw_all, w.before args s = true := fun w h => hts w (List.mem_cons_of_mem _ h)
  have hown : s.vm.findClass RX3 = some m.cls := findClass_of_methodNamed B.named
  have hlocks := B.notSynchronized
  obtain ⟨hav, hv⟩ := hv
  have C : TC p s m args c cX3_orders D dI dJ := ⟨hx, hb, hown, hts, hv.2.1⟩
  have hw : TH D ad dI dJ A s.heap u s.heap [] := ⟨hv.1, hv.2.2.1, va_S.rf, hv.2.2.2⟩
  generalize hQ : MQ below (va_Qv (fun u => u = u9) (TPost D ad dI dJ A) A) args s 0 0 A = QQ
  have hent := lg_entry_eq m [.ref (ad 40)] 3
  rw [← hav] at hent
  rw [hent]
  have hl := lv_entry ([.ref (ad 40)]) (n := 3) (Nat.le_of_ble_eq_true rfl)
  generalize (lg_sl ([.ref (ad 40)]) ++ List.replicate (3 - (lg_sl ([.ref (ad 40)])).length) Slot.unset).toArray = ls at hl ⊢
  have hl : lv_has ls 3 [(0, .ref (ad 40))] := hl
  change W p l e rm_X3_orders s m args below meth c s.heap [] 0 0 QQ (F0 m 0 ls [])
  have hB50 : ∀ (u : TS) (H : Heap) (locs : List Loc) (ls : Array Slot), m_X3_orders_50 f u = some u9 → TH D ad dI dJ A s.heap u H locs → lv_has ls 3 [] → W p l e rm_X3_orders s m args below meth c H locs 0 0 QQ (F0 m 50 ls []) := by
    intro u H locs ls hm hw hl
    rw [m_X3_orders_50] at hm
    rw [← hQ]
    exact W.vret hx hb hr (fun t ht hW => ⟨⟨u, rfl, ret1 hm, by rw [ht]; exact hw.1, hw.2.1⟩, hw.2.2.1.F ht⟩) hw.2.2.1.2.2 dX3_orders_50
  have hB2 : ∀ (n2 : Nat), ∀ (u : TS) (x1 : Int32) (H : Heap) (locs : List Loc) (ls : Array Slot), m_X3_orders_2 f n2 u x1 = some u9 → TH D ad dI dJ A s.heap u H locs → lv_has ls 3 [(0, .ref (ad 40)), (1, .int x1)] → W p l e rm_X3_orders s m args below meth c H locs 0 0 QQ (F0 m 2 ls []) := by
    intro n2
    induction n2 with
    | zero => intro u x1 H locs ls hm hw hl; rw [m_X3_orders_2] at hm; exact noE hm
    | succ n2 ih2 =>
      have hB44 : ∀ (u : TS) (x1 : Int32) (H : Heap) (locs : List Loc) (ls : Array Slot), m_X3_orders_44 f (m_X3_orders_2 f n2) u x1 = some u9 → TH D ad dI dJ A s.heap u H locs → lv_has ls 3 [(0, .ref (ad 40)), (1, .int x1)] → W p l e rm_X3_orders s m args below meth c H locs 0 0 QQ (F0 m 44 ls []) := by
        intro u x1 H locs ls hm hw hl
        rw [m_X3_orders_44] at hm
        obtain ⟨v1, ev1, hm⟩ := nmE hm
        refine lv_iinc (v := v1) (lv' := [(1, .int v1), (0, .ref (ad 40))]) hx hb dX3_orders_44 hl (k := 1) rfl (by rw [ev1]; rfl) (by decide) rfl (fun ls hl => ?_)
        refine lv_goto (tgt := 2) hx hb dX3_orders_47 (by decide) ?_
        exact ih2 u v1 _ _ _ hm hw (lv_sub hl [1, 0] rfl)
      have hB9 : ∀ (n9 : Nat), ∀ (u : TS) (x1 : Int32) (x2 : Int32) (H : Heap) (locs : List Loc) (ls : Array Slot), m_X3_orders_9 f (m_X3_orders_2 f n2) n9 u x1 x2 = some u9 → TH D ad dI dJ A s.heap u H locs → lv_has ls 3 [(0, .ref (ad 40)), (1, .int x1), (2, .int x2)] → W p l e rm_X3_orders s m args below meth c H locs 0 0 QQ (F0 m 9 ls []) := by
        intro n9
        induction n9 with
        | zero => intro u x1 x2 H locs ls hm hw hl; rw [m_X3_orders_9] at hm; exact noE hm
        | succ n9 ih9 =>
          have hB38 : ∀ (u : TS) (x1 : Int32) (x2 : Int32) (H : Heap) (locs : List Loc) (ls : Array Slot), m_X3_orders_38 f (m_X3_orders_2 f n2) (m_X3_orders_9 f (m_X3_orders_2 f n2) n9) u x1 x2 = some u9 → TH D ad dI dJ A s.heap u H locs → lv_has ls 3 [(0, .ref (ad 40)), (1, .int x1), (2, .int x2)] → W p l e rm_X3_orders s m args below meth c H locs 0 0 QQ (F0 m 38 ls []) := by
            intro u x1 x2 H locs ls hm hw hl
            rw [m_X3_orders_38] at hm
            obtain ⟨v1, ev1, hm⟩ := nmE hm
            refine lv_iinc (v := v1) (lv' := [(2, .int v1), (0, .ref (ad 40)), (1, .int x1)]) hx hb dX3_orders_38 hl (k := 2) rfl (by rw [ev1]; rfl) (by decide) rfl (fun ls hl => ?_)
            refine lv_goto (tgt := 9) hx hb dX3_orders_41 (by decide) ?_
            exact ih9 u x1 v1 _ _ _ hm hw (lv_sub hl [1, 2, 0] rfl)
          intro u x1 x2 H locs ls hm hw hl
          rw [m_X3_orders_9] at hm
          refine lv_iload_n hx hb dX3_orders_9 rfl (lv_at hl 2 rfl) ?_
          refine lv_iconst (v := 2) hx hb dX3_orders_10 (by decide) ?_
          refine lv_icmp_ge (tgt := 44) hx hb dX3_orders_11 (by decide) (fun c1 => ?_) (fun c1 => ?_)
          · have hm := ifT hm c1
            exact hB44 u x1 _ _ _ hm hw (lv_sub hl [0, 1] rfl)
          · have hm := ifF hm c1
            refine lv_aload_n hx hb dX3_orders_14 rfl (lv_at hl 0 rfl) ?_
            refine lv_iload_n hx hb dX3_orders_15 rfl (lv_at hl 2 rfl) ?_
            refine lv_iconst (v := 1) hx hb dX3_orders_16 (by decide) ?_
            refine lv_iadd hx hb dX3_orders_17 ?_
            refine lv_iload_n hx hb dX3_orders_18 rfl (lv_at hl 2 rfl) ?_
            obtain ⟨r3, u2, er3, hm⟩ := bd2E hm
            refine tg_calli hw (va_runV (As := [.int (x2 + (1 : Int32)), .int x2]) (rest := []) ⟨hx, hb, hml, hown, hts⟩ (w_X3_isAhead l er3) (cw_X3_isAhead hts q2055 ⟨Nat.le_of_ble_eq_true rfl, Nat.le_of_ble_eq_true rfl⟩) (tg_pre C hw _) rfl rfl hl.1 rfl (lv_room (Nat.le_of_ble_eq_true rfl)) dX3_orders_19 ⟨Nat.le_of_ble_eq_true rfl, Nat.le_of_ble_eq_true rfl⟩) (fun H locs hw => ?_)
            refine lv_if_eq (tgt := 38) hx hb dX3_orders_22 (by decide) (fun c4 => ?_) (fun c4 => ?_)
            · have hm := ifT hm c4
              exact hB38 u2 x1 x2 _ _ _ hm hw (lv_sub hl [0, 1, 2] rfl)
            · have hm := ifF hm c4
              refine lv_aload_n hx hb dX3_orders_25 rfl (lv_at hl 0 rfl) ?_
              refine lv_iload_n hx hb dX3_orders_26 rfl (lv_at hl 2 rfl) ?_
              refine lv_iload_n hx hb dX3_orders_27 rfl (lv_at hl 2 rfl) ?_
              refine lv_iconst (v := 1) hx hb dX3_orders_28 (by decide) ?_
              refine lv_iadd hx hb dX3_orders_29 ?_
              obtain ⟨u5, eu5, hm⟩ := bdE hm
              refine tg_callv hw (va_runV (As := [.int x2, .int (x2 + (1 : Int32))]) (rest := []) ⟨hx, hb, hml, hown, hts⟩ (w_X3_exchangesRows l eu5) (cw_X3_exchangesRows hts q1844 ⟨Nat.le_of_ble_eq_true rfl, Nat.le_of_ble_eq_true rfl⟩) (tg_pre C hw _) rfl rfl hl.1 rfl (lv_room (Nat.le_of_ble_eq_true rfl)) dX3_orders_30 ⟨Nat.le_of_ble_eq_true rfl, Nat.le_of_ble_eq_true rfl⟩) (fun H locs hw => ?_)
              refine lv_aload_n hx hb dX3_orders_33 rfl (lv_at hl 0 rfl) ?_
              refine lv_iconst (v := 0) hx hb dX3_orders_34 (by decide) ?_
              refine tg_put C hw 25 (by decide) q1591 rfl rfl rfl (ts_25 ad dI dJ u5 (0 : Int32)) dX3_orders_35 (fun H locs hw => ?_)
              obtain ⟨u6, eu6, hm⟩ := nmE hm
              rw [← eu6] at hw
              exact hB38 u6 x1 x2 _ _ _ hm hw (lv_sub hl [0, 1, 2] rfl)
      intro u x1 H locs ls hm hw hl
      rw [m_X3_orders_2] at hm
      refine lv_iload_n hx hb dX3_orders_2 rfl (lv_at hl 1 rfl) ?_
      refine lv_iconst (v := 3) hx hb dX3_orders_3 (by decide) ?_
      refine lv_icmp_ge (tgt := 50) hx hb dX3_orders_4 (by decide) (fun c1 => ?_) (fun c1 => ?_)
      · have hm := ifT hm c1
        exact hB50 u _ _ _ hm hw (lv_sub hl [] rfl)
      · have hm := ifF hm c1
        refine lv_iconst (v := 0) hx hb dX3_orders_7 (by decide) ?_
        refine lv_istore_n (lv' := [(2, .int (0 : Int32)), (0, .ref (ad 40)), (1, .int x1)]) hx hb dX3_orders_8 rfl hl (by decide) rfl (fun ls hl => ?_)
        exact hB9 f u x1 (0 : Int32) _ _ _ hm hw (lv_sub hl [1, 2, 0] rfl)
  rw [m_X3_orders] at hm
  refine lv_iconst (v := 0) hx hb dX3_orders_0 (by decide) ?_
  refine lv_istore_n (lv' := [(1, .int (0 : Int32)), (0, .ref (ad 40))]) hx hb dX3_orders_1 rfl hl (by decide) rfl (fun ls hl => ?_)
  exact hB2 f u (0 : Int32) _ _ _ hm hw (lv_sub hl [1, 0] rfl)
def m_X3_betters_229 (f : Nat) (u : TS) (x4 : Int32) (y1 : Int32) (y2 : Int32) : Option (Int32 × TS) := nmv (sI u 35 (y1 + y2)) fun u1 =>
    gd (zb x4) <|
    some (x4, u1)
def m_X3_betters_214 (f : Nat) (u : TS) (x4 : Int32) : Option (Int32 × TS) := if x4 = 0 then
    m_X3_betters_229 f u x4 (tI u 35) (0 : Int32)
    else m_X3_betters_229 f u x4 (tI u 35) (1 : Int32)
def m_X3_betters_179 (f : Nat) : Nat → TS → Int32 → Int32 → Int32 → Option (Int32 × TS)
  | 0, _, _, _, _ => none
  | n179 + 1, u, x1, x4, x5 => if (3 : Int32) ≤ x5 then
    m_X3_betters_214 f u x4
    else if x4 = 0 then
    m_X3_betters_214 f u x4
    else gd (ix x5 3) <|
    gd (ix (((3 : Int32) * x1) + x5) 9) <|
    nmv (sB u 18 (Int32.toNatClampNeg (((3 : Int32) * x1) + x5)) (tB u 37 (Int32.toNatClampNeg x5))) fun u5 =>
    nmv ((x5 + 1) : Int32) fun v6 =>
    m_X3_betters_179 f n179 u5 x1 x4 v6
def m_X3_betters_176 (f : Nat) (u : TS) (x1 : Int32) (x4 : Int32) : Option (Int32 × TS) := m_X3_betters_179 f f u x1 x4 (0 : Int32)
def m_X3_betters_170 (f : Nat) (k12 : TS → Int32 → Int64 → Int32 → Int32 → Option (Int32 × TS)) (u : TS) (x1 : Int32) (x2 : Int64) (x4 : Int32) (x5 : Int32) : Option (Int32 × TS) := nmv ((x5 + 1) : Int32) fun v1 =>
    k12 u x1 x2 x4 v1
def m_X3_betters_164 (f : Nat) (k12 : TS → Int32 → Int64 → Int32 → Int32 → Option (Int32 × TS)) (k21 : TS → Int32 → Int64 → Int32 → Int32 → Int32 → Option (Int32 × TS)) (u : TS) (x1 : Int32) (x2 : Int64) (x4 : Int32) (x5 : Int32) (x6 : Int32) : Option (Int32 × TS) := nmv ((x6 + 1) : Int32) fun v1 =>
    k21 u x1 x2 x4 x5 v1
def m_X3_betters_138 (f : Nat) (k12 : TS → Int32 → Int64 → Int32 → Int32 → Option (Int32 × TS)) (k21 : TS → Int32 → Int64 → Int32 → Int32 → Int32 → Option (Int32 × TS)) : Nat → TS → Int32 → Int64 → Int32 → Int32 → Int32 → Int32 → Option (Int32 × TS)
  | 0, _, _, _, _, _, _, _ => none
  | n138 + 1, u, x1, x2, x4, x5, x6, x10 => if (3 : Int32) ≤ x10 then
    m_X3_betters_164 f k12 k21 u x1 x2 x4 x5 x6
    else gd (ix x10 3) <|
    gd (ix x10 3) <|
    nmv (sB u 37 (Int32.toNatClampNeg x10) (tB u 36 (Int32.toNatClampNeg x10))) fun u4 =>
    nmv ((x10 + 1) : Int32) fun v5 =>
    m_X3_betters_138 f k12 k21 n138 u4 x1 x2 x4 x5 x6 v5
def m_X3_betters_122 (f : Nat) (k12 : TS → Int32 → Int64 → Int32 → Int32 → Option (Int32 × TS)) (k21 : TS → Int32 → Int64 → Int32 → Int32 → Int32 → Option (Int32 × TS)) (u : TS) (x1 : Int32) (x2 : Int64) (x4 : Int32) (x5 : Int32) (x6 : Int32) (x8 : Int64) : Option (Int32 × TS) := if x2 ≤ x8 then
    m_X3_betters_164 f k12 k21 u x1 x2 x4 x5 x6
    else m_X3_betters_138 f k12 k21 f u x1 x8 (1 : Int32) x5 x6 (0 : Int32)
def m_X3_betters_46 (f : Nat) (k12 : TS → Int32 → Int64 → Int32 → Int32 → Option (Int32 × TS)) (k21 : TS → Int32 → Int64 → Int32 → Int32 → Int32 → Option (Int32 × TS)) : Nat → TS → Int32 → Int64 → Int32 → Int32 → Int32 → Int32 → Int64 → Int32 → Option (Int32 × TS)
  | 0, _, _, _, _, _, _, _, _, _ => none
  | n46 + 1, u, x1, x2, x4, x5, x6, x7, x8, x10 => if (3 : Int32) ≤ x10 then
    m_X3_betters_122 f k12 k21 u x1 x2 x4 x5 x6 x8
    else gd (ix (((3 : Int32) * x1) + x10) 9) <|
    gd (ix x10 9) <|
    gd (ix ((3 : Int32) + x10) 9) <|
    gd (ix x10 3) <|
    nmv (sB u 36 (Int32.toNatClampNeg x10) (((tB u 18 (Int32.toNatClampNeg (((3 : Int32) * x1) + x10))) + ((Int32.toInt64 x5) * (tB u 18 (Int32.toNatClampNeg x10)))) + ((Int32.toInt64 x7) * (tB u 18 (Int32.toNatClampNeg ((3 : Int32) + x10)))))) fun u6 =>
    gd (ix x10 3) <|
    gd (ix x10 3) <|
    nmv ((x8 + ((tB u6 36 (Int32.toNatClampNeg x10)) * (tB u6 36 (Int32.toNatClampNeg x10)))) : Int64) fun v9 =>
    nmv ((x10 + 1) : Int32) fun v10 =>
    m_X3_betters_46 f k12 k21 n46 u6 x1 x2 x4 x5 x6 x7 v9 v10
def m_X3_betters_38 (f : Nat) (k12 : TS → Int32 → Int64 → Int32 → Int32 → Option (Int32 × TS)) (k21 : TS → Int32 → Int64 → Int32 → Int32 → Int32 → Option (Int32 × TS)) (u : TS) (x1 : Int32) (x2 : Int64) (x4 : Int32) (x5 : Int32) (x6 : Int32) (y0 : Int32) : Option (Int32 × TS) := m_X3_betters_46 f k12 k21 f u x1 x2 x4 x5 x6 y0 (0 : Int64) (0 : Int32)
def m_X3_betters_21 (f : Nat) (k12 : TS → Int32 → Int64 → Int32 → Int32 → Option (Int32 × TS)) : Nat → TS → Int32 → Int64 → Int32 → Int32 → Int32 → Option (Int32 × TS)
  | 0, _, _, _, _, _, _ => none
  | n21 + 1, u, x1, x2, x4, x5, x6 => if (2 : Int32) ≤ x6 then
    m_X3_betters_170 f k12 u x1 x2 x4 x5
    else if ¬ x1 = (2 : Int32) then
    m_X3_betters_38 f k12 (m_X3_betters_21 f k12 n21) u x1 x2 x4 x5 x6 (0 : Int32)
    else m_X3_betters_38 f k12 (m_X3_betters_21 f k12 n21) u x1 x2 x4 x5 x6 x6
def m_X3_betters_12 (f : Nat) : Nat → TS → Int32 → Int64 → Int32 → Int32 → Option (Int32 × TS)
  | 0, _, _, _, _, _ => none
  | n12 + 1, u, x1, x2, x4, x5 => if (2 : Int32) ≤ x5 then
    m_X3_betters_176 f u x1 x4
    else m_X3_betters_21 f (m_X3_betters_12 f n12) f u x1 x2 x4 x5 (-1 : Int32)
def m_X3_betters (f : Nat) (u : TS) (x1 : Int32) : Option (Int32 × TS) := bd2 (m_X3_lengthOf f u x1) fun r2 u1 =>
    m_X3_betters_12 f f u1 x1 r2 (0 : Int32) (-1 : Int32)
abbrev rm_X3_betters : Room := { frames := 1, cells := 0, slots := 0, locals := 21 }
theorem cw_X3_betters {R : Room} {s : State} {args : Array Value} {own : String} {idx : Nat} (hts : ∀ w ∈ lw_all, w.before args s = true) (hl : Cond.methodLink own idx yX3_betters ∈ lw_all) (hR : rm_X3_betters.frames + 1 ≤ R.frames ∧ 8 + (11 + 11) + rm_X3_betters.locals ≤ R.locals) : CallW R s args own RX3 idx yX3_betters cX3_betters 11 (Option.some Jvm.ClassFile.FieldType.boolean) (ws_ yX3_betters cX3_betters 11 (Option.some Jvm.ClassFile.FieldType.boolean)) rm_X3_betters 0 0 1 := cwV 1 hts (lw_V hl q2065 qs106 q125 q2066) rfl rfl rfl (by decide +kernel) hR
set_option maxHeartbeats 4000000 in
set_option maxRecDepth 100000 in
theorem w_X3_betters (l : Launch) {D : va_G} {ad : Nat → Nat} {dI dJ : ClassId} {A : Nat → Prop} {f : Nat} {u u9 : TS} {r0 : Int32} {x1 : Int32} (hm : m_X3_betters f u x1 = some (r0, u9)) : Met l yX3_betters (ws_ yX3_betters cX3_betters 11 (Option.some Jvm.ClassFile.FieldType.boolean)) rm_X3_betters (va_Pc [.ref (ad 40), .int x1] (TPre D ad dI dJ A u)) (va_Qi (fun r u => r = r0 ∧ u = u9) (TPost D ad dI dJ A) A) 0 0 A := by
  refine Met.ofW (cc := cX3_betters) (maxL := 11) (ret := (Option.some Jvm.ClassFile.FieldType.boolean)) (by decide) rfl ?_
  intro p e s m args below meth c s₁ B hml hv
  have hx := B.exec
  have hb := B.bytes
  have hr := B.returns
  have hts := atoms_spec (ws := (ws_ yX3_betters cX3_betters 11 (Option.some Jvm.ClassFile.FieldType.boolean))) B.pre
  have hts : ∀ w ∈ lw_all, w.before args s = true := fun w h => hts w (List.mem_cons_of_mem _ h)
  have hown : s.vm.findClass RX3 = some m.cls := findClass_of_methodNamed B.named
  have hlocks := B.notSynchronized
  obtain ⟨hav, hv⟩ := hv
  have C : TC p s m args c cX3_betters D dI dJ := ⟨hx, hb, hown, hts, hv.2.1⟩
  have hw : TH D ad dI dJ A s.heap u s.heap [] := ⟨hv.1, hv.2.2.1, va_S.rf, hv.2.2.2⟩
  generalize hQ : MQ below (va_Qi (fun r u => r = r0 ∧ u = u9) (TPost D ad dI dJ A) A) args s 0 0 A = QQ
  have hent := lg_entry_eq m [.ref (ad 40), .int x1] 11
  rw [← hav] at hent
  rw [hent]
  have hl := lv_entry ([.ref (ad 40), .int x1]) (n := 11) (Nat.le_of_ble_eq_true rfl)
  generalize (lg_sl ([.ref (ad 40), .int x1]) ++ List.replicate (11 - (lg_sl ([.ref (ad 40), .int x1])).length) Slot.unset).toArray = ls at hl ⊢
  have hl : lv_has ls 11 [(0, .ref (ad 40)), (1, .int x1)] := hl
  change W p l e rm_X3_betters s m args below meth c s.heap [] 0 0 QQ (F0 m 0 ls [])
  have hB229 : ∀ (u : TS) (x4 : Int32) (y1 : Int32) (y2 : Int32) (H : Heap) (locs : List Loc) (ls : Array Slot), m_X3_betters_229 f u x4 y1 y2 = some (r0, u9) → TH D ad dI dJ A s.heap u H locs → lv_has ls 11 [(4, .int x4)] → W p l e rm_X3_betters s m args below meth c H locs 0 0 QQ (F0 m 229 ls [.int y2, .int y1, .ref (ad 40)]) := by
    intro u x4 y1 y2 H locs ls hm hw hl
    rw [m_X3_betters_229] at hm
    refine lv_iadd hx hb dX3_betters_229 ?_
    refine tg_put C hw 35 (by decide) q1601 rfl rfl rfl (ts_35 ad dI dJ u (y1 + y2)) dX3_betters_230 (fun H locs hw => ?_)
    obtain ⟨u1, eu1, hm⟩ := nmE hm
    rw [← eu1] at hw
    refine lv_iload hx hb dX3_betters_233 (lv_at hl 0 rfl) ?_
    obtain ⟨g2, hm⟩ := gdE hm
    rw [← hQ]
    exact W.zret (v := x4) hx hb hr (zb_nar g2) (fun t ht hW => ⟨⟨x4, u1, rfl, retE hm, by rw [ht]; exact hw.1, hw.2.1⟩, hw.2.2.1.F ht⟩) hw.2.2.1.2.2 dX3_betters_235
  have hB214 : ∀ (u : TS) (x4 : Int32) (H : Heap) (locs : List Loc) (ls : Array Slot), m_X3_betters_214 f u x4 = some (r0, u9) → TH D ad dI dJ A s.heap u H locs → lv_has ls 11 [(0, .ref (ad 40)), (4, .int x4)] → W p l e rm_X3_betters s m args below meth c H locs 0 0 QQ (F0 m 214 ls []) := by
    intro u x4 H locs ls hm hw hl
    rw [m_X3_betters_214] at hm
    refine lv_aload_n hx hb dX3_betters_214 rfl (lv_at hl 0 rfl) ?_
    refine lv_dup hx hb dX3_betters_215 rfl ?_
    refine tg_get C hw 35 (by decide) q1601 rfl dX3_betters_216 ?_
    refine lv_iload hx hb dX3_betters_219 (lv_at hl 1 rfl) ?_
    refine lv_if_eq (tgt := 228) hx hb dX3_betters_221 (by decide) (fun c1 => ?_) (fun c1 => ?_)
    · have hm := ifT hm c1
      refine lv_iconst (v := 0) hx hb dX3_betters_228 (by decide) ?_
      exact hB229 u x4 (tI u 35) (0 : Int32) _ _ _ hm hw (lv_sub hl [1] rfl)
    · have hm := ifF hm c1
      refine lv_iconst (v := 1) hx hb dX3_betters_224 (by decide) ?_
      refine lv_goto (tgt := 229) hx hb dX3_betters_225 (by decide) ?_
      exact hB229 u x4 (tI u 35) (1 : Int32) _ _ _ hm hw (lv_sub hl [1] rfl)
  have hB179 : ∀ (n179 : Nat), ∀ (u : TS) (x1 : Int32) (x4 : Int32) (x5 : Int32) (H : Heap) (locs : List Loc) (ls : Array Slot), m_X3_betters_179 f n179 u x1 x4 x5 = some (r0, u9) → TH D ad dI dJ A s.heap u H locs → lv_has ls 11 [(0, .ref (ad 40)), (1, .int x1), (4, .int x4), (5, .int x5)] → W p l e rm_X3_betters s m args below meth c H locs 0 0 QQ (F0 m 179 ls []) := by
    intro n179
    induction n179 with
    | zero => intro u x1 x4 x5 H locs ls hm hw hl; rw [m_X3_betters_179] at hm; exact noE hm
    | succ n179 ih179 =>
      intro u x1 x4 x5 H locs ls hm hw hl
      rw [m_X3_betters_179] at hm
      refine lv_iload hx hb dX3_betters_179 (lv_at hl 3 rfl) ?_
      refine lv_iconst (v := 3) hx hb dX3_betters_181 (by decide) ?_
      refine lv_icmp_ge (tgt := 214) hx hb dX3_betters_182 (by decide) (fun c1 => ?_) (fun c1 => ?_)
      · have hm := ifT hm c1
        exact hB214 u x4 _ _ _ hm hw (lv_sub hl [0, 2] rfl)
      · have hm := ifF hm c1
        refine lv_iload hx hb dX3_betters_185 (lv_at hl 2 rfl) ?_
        refine lv_if_eq (tgt := 214) hx hb dX3_betters_187 (by decide) (fun c2 => ?_) (fun c2 => ?_)
        · have hm := ifT hm c2
          exact hB214 u x4 _ _ _ hm hw (lv_sub hl [0, 2] rfl)
        · have hm := ifF hm c2
          refine lv_aload_n hx hb dX3_betters_190 rfl (lv_at hl 0 rfl) ?_
          refine tg_get C hw 18 (by decide) q1584 rfl dX3_betters_191 ?_
          refine lv_iconst (v := 3) hx hb dX3_betters_194 (by decide) ?_
          refine lv_iload_n hx hb dX3_betters_195 rfl (lv_at hl 1 rfl) ?_
          refine lv_imul hx hb dX3_betters_196 ?_
          refine lv_iload hx hb dX3_betters_197 (lv_at hl 3 rfl) ?_
          refine lv_iadd hx hb dX3_betters_199 ?_
          refine lv_aload_n hx hb dX3_betters_200 rfl (lv_at hl 0 rfl) ?_
          refine tg_get C hw 37 (by decide) q1603 rfl dX3_betters_201 ?_
          refine lv_iload hx hb dX3_betters_204 (lv_at hl 3 rfl) ?_
          obtain ⟨g3, hm⟩ := gdE hm
          refine tg_lald C hw (tp_37 ad dI dJ u) g3 dX3_betters_206 ?_
          obtain ⟨g4, hm⟩ := gdE hm
          refine tg_last C hw (tp_18 ad dI dJ u) g4 (ts_18 ad dI dJ u _ _) dX3_betters_207 (fun H locs hw => ?_)
          obtain ⟨u5, eu5, hm⟩ := nmE hm
          rw [← eu5] at hw
          obtain ⟨v6, ev6, hm⟩ := nmE hm
          refine lv_iinc (v := v6) (lv' := [(5, .int v6), (0, .ref (ad 40)), (1, .int x1), (4, .int x4)]) hx hb dX3_betters_208 hl (k := 3) rfl (by rw [ev6]; rfl) (by decide) rfl (fun ls hl => ?_)
          refine lv_goto (tgt := 179) hx hb dX3_betters_211 (by decide) ?_
          exact ih179 u5 x1 x4 v6 _ _ _ hm hw (lv_sub hl [1, 2, 3, 0] rfl)
  have hB176 : ∀ (u : TS) (x1 : Int32) (x4 : Int32) (H : Heap) (locs : List Loc) (ls : Array Slot), m_X3_betters_176 f u x1 x4 = some (r0, u9) → TH D ad dI dJ A s.heap u H locs → lv_has ls 11 [(0, .ref (ad 40)), (1, .int x1), (4, .int x4)] → W p l e rm_X3_betters s m args below meth c H locs 0 0 QQ (F0 m 176 ls []) := by
    intro u x1 x4 H locs ls hm hw hl
    rw [m_X3_betters_176] at hm
    refine lv_iconst (v := 0) hx hb dX3_betters_176 (by decide) ?_
    refine lv_istore (lv' := [(5, .int (0 : Int32)), (0, .ref (ad 40)), (1, .int x1), (4, .int x4)]) hx hb dX3_betters_177 hl (by decide) rfl (fun ls hl => ?_)
    exact hB179 f u x1 x4 (0 : Int32) _ _ _ hm hw (lv_sub hl [1, 2, 3, 0] rfl)
  have hB12 : ∀ (n12 : Nat), ∀ (u : TS) (x1 : Int32) (x2 : Int64) (x4 : Int32) (x5 : Int32) (H : Heap) (locs : List Loc) (ls : Array Slot), m_X3_betters_12 f n12 u x1 x2 x4 x5 = some (r0, u9) → TH D ad dI dJ A s.heap u H locs → lv_has ls 11 [(0, .ref (ad 40)), (1, .int x1), (2, .long x2), (4, .int x4), (5, .int x5)] → W p l e rm_X3_betters s m args below meth c H locs 0 0 QQ (F0 m 12 ls []) := by
    intro n12
    induction n12 with
    | zero => intro u x1 x2 x4 x5 H locs ls hm hw hl; rw [m_X3_betters_12] at hm; exact noE hm
    | succ n12 ih12 =>
      have hB170 : ∀ (u : TS) (x1 : Int32) (x2 : Int64) (x4 : Int32) (x5 : Int32) (H : Heap) (locs : List Loc) (ls : Array Slot), m_X3_betters_170 f (m_X3_betters_12 f n12) u x1 x2 x4 x5 = some (r0, u9) → TH D ad dI dJ A s.heap u H locs → lv_has ls 11 [(0, .ref (ad 40)), (1, .int x1), (2, .long x2), (4, .int x4), (5, .int x5)] → W p l e rm_X3_betters s m args below meth c H locs 0 0 QQ (F0 m 170 ls []) := by
        intro u x1 x2 x4 x5 H locs ls hm hw hl
        rw [m_X3_betters_170] at hm
        obtain ⟨v1, ev1, hm⟩ := nmE hm
        refine lv_iinc (v := v1) (lv' := [(5, .int v1), (0, .ref (ad 40)), (1, .int x1), (2, .long x2), (4, .int x4)]) hx hb dX3_betters_170 hl (k := 4) rfl (by rw [ev1]; rfl) (by decide) rfl (fun ls hl => ?_)
        refine lv_goto (tgt := 12) hx hb dX3_betters_173 (by decide) ?_
        exact ih12 u x1 x2 x4 v1 _ _ _ hm hw (lv_sub hl [1, 2, 3, 4, 0] rfl)
      have hB21 : ∀ (n21 : Nat), ∀ (u : TS) (x1 : Int32) (x2 : Int64) (x4 : Int32) (x5 : Int32) (x6 : Int32) (H : Heap) (locs : List Loc) (ls : Array Slot), m_X3_betters_21 f (m_X3_betters_12 f n12) n21 u x1 x2 x4 x5 x6 = some (r0, u9) → TH D ad dI dJ A s.heap u H locs → lv_has ls 11 [(0, .ref (ad 40)), (1, .int x1), (2, .long x2), (4, .int x4), (5, .int x5), (6, .int x6)] → W p l e rm_X3_betters s m args below meth c H locs 0 0 QQ (F0 m 21 ls []) := by
        intro n21
        induction n21 with
        | zero => intro u x1 x2 x4 x5 x6 H locs ls hm hw hl; rw [m_X3_betters_21] at hm; exact noE hm
        | succ n21 ih21 =>
          have hB164 : ∀ (u : TS) (x1 : Int32) (x2 : Int64) (x4 : Int32) (x5 : Int32) (x6 : Int32) (H : Heap) (locs : List Loc) (ls : Array Slot), m_X3_betters_164 f (m_X3_betters_12 f n12) (m_X3_betters_21 f (m_X3_betters_12 f n12) n21) u x1 x2 x4 x5 x6 = some (r0, u9) → TH D ad dI dJ A s.heap u H locs → lv_has ls 11 [(0, .ref (ad 40)), (1, .int x1), (2, .long x2), (4, .int x4), (5, .int x5), (6, .int x6)] → W p l e rm_X3_betters s m args below meth c H locs 0 0 QQ (F0 m 164 ls []) := by
            intro u x1 x2 x4 x5 x6 H locs ls hm hw hl
            rw [m_X3_betters_164] at hm
            obtain ⟨v1, ev1, hm⟩ := nmE hm
            refine lv_iinc (v := v1) (lv' := [(6, .int v1), (0, .ref (ad 40)), (1, .int x1), (2, .long x2), (4, .int x4), (5, .int x5)]) hx hb dX3_betters_164 hl (k := 5) rfl (by rw [ev1]; rfl) (by decide) rfl (fun ls hl => ?_)
            refine lv_goto (tgt := 21) hx hb dX3_betters_167 (by decide) ?_
            exact ih21 u x1 x2 x4 x5 v1 _ _ _ hm hw (lv_sub hl [1, 2, 3, 4, 5, 0] rfl)
          have hB138 : ∀ (n138 : Nat), ∀ (u : TS) (x1 : Int32) (x2 : Int64) (x4 : Int32) (x5 : Int32) (x6 : Int32) (x10 : Int32) (H : Heap) (locs : List Loc) (ls : Array Slot), m_X3_betters_138 f (m_X3_betters_12 f n12) (m_X3_betters_21 f (m_X3_betters_12 f n12) n21) n138 u x1 x2 x4 x5 x6 x10 = some (r0, u9) → TH D ad dI dJ A s.heap u H locs → lv_has ls 11 [(0, .ref (ad 40)), (1, .int x1), (2, .long x2), (4, .int x4), (5, .int x5), (6, .int x6), (10, .int x10)] → W p l e rm_X3_betters s m args below meth c H locs 0 0 QQ (F0 m 138 ls []) := by
            intro n138
            induction n138 with
            | zero => intro u x1 x2 x4 x5 x6 x10 H locs ls hm hw hl; rw [m_X3_betters_138] at hm; exact noE hm
            | succ n138 ih138 =>
              intro u x1 x2 x4 x5 x6 x10 H locs ls hm hw hl
              rw [m_X3_betters_138] at hm
              refine lv_iload hx hb dX3_betters_138 (lv_at hl 6 rfl) ?_
              refine lv_iconst (v := 3) hx hb dX3_betters_140 (by decide) ?_
              refine lv_icmp_ge (tgt := 164) hx hb dX3_betters_141 (by decide) (fun c1 => ?_) (fun c1 => ?_)
              · have hm := ifT hm c1
                exact hB164 u x1 x2 x4 x5 x6 _ _ _ hm hw (lv_sub hl [0, 1, 2, 3, 4, 5] rfl)
              · have hm := ifF hm c1
                refine lv_aload_n hx hb dX3_betters_144 rfl (lv_at hl 0 rfl) ?_
                refine tg_get C hw 37 (by decide) q1603 rfl dX3_betters_145 ?_
                refine lv_iload hx hb dX3_betters_148 (lv_at hl 6 rfl) ?_
                refine lv_aload_n hx hb dX3_betters_150 rfl (lv_at hl 0 rfl) ?_
                refine tg_get C hw 36 (by decide) q1602 rfl dX3_betters_151 ?_
                refine lv_iload hx hb dX3_betters_154 (lv_at hl 6 rfl) ?_
                obtain ⟨g2, hm⟩ := gdE hm
                refine tg_lald C hw (tp_36 ad dI dJ u) g2 dX3_betters_156 ?_
                obtain ⟨g3, hm⟩ := gdE hm
                refine tg_last C hw (tp_37 ad dI dJ u) g3 (ts_37 ad dI dJ u _ _) dX3_betters_157 (fun H locs hw => ?_)
                obtain ⟨u4, eu4, hm⟩ := nmE hm
                rw [← eu4] at hw
                obtain ⟨v5, ev5, hm⟩ := nmE hm
                refine lv_iinc (v := v5) (lv' := [(10, .int v5), (0, .ref (ad 40)), (1, .int x1), (2, .long x2), (4, .int x4), (5, .int x5), (6, .int x6)]) hx hb dX3_betters_158 hl (k := 6) rfl (by rw [ev5]; rfl) (by decide) rfl (fun ls hl => ?_)
                refine lv_goto (tgt := 138) hx hb dX3_betters_161 (by decide) ?_
                exact ih138 u4 x1 x2 x4 x5 x6 v5 _ _ _ hm hw (lv_sub hl [1, 2, 3, 4, 5, 6, 0] rfl)
          have hB122 : ∀ (u : TS) (x1 : Int32) (x2 : Int64) (x4 : Int32) (x5 : Int32) (x6 : Int32) (x8 : Int64) (H : Heap) (locs : List Loc) (ls : Array Slot), m_X3_betters_122 f (m_X3_betters_12 f n12) (m_X3_betters_21 f (m_X3_betters_12 f n12) n21) u x1 x2 x4 x5 x6 x8 = some (r0, u9) → TH D ad dI dJ A s.heap u H locs → lv_has ls 11 [(0, .ref (ad 40)), (1, .int x1), (2, .long x2), (4, .int x4), (5, .int x5), (6, .int x6), (8, .long x8)] → W p l e rm_X3_betters s m args below meth c H locs 0 0 QQ (F0 m 122 ls []) := by
            intro u x1 x2 x4 x5 x6 x8 H locs ls hm hw hl
            rw [m_X3_betters_122] at hm
            refine lv_lload hx hb dX3_betters_122 (lv_at hl 6 rfl) ?_
            refine lv_lload_n hx hb dX3_betters_124 rfl (lv_at hl 2 rfl) ?_
            refine lc_ge (tgt := 164) hx hb dX3_betters_125 dX3_betters_126 (by decide) (fun c1 => ?_) (fun c1 => ?_)
            · have hm := ifT hm c1
              exact hB164 u x1 x2 x4 x5 x6 _ _ _ hm hw (lv_sub hl [0, 1, 2, 3, 4, 5] rfl)
            · have hm := ifF hm c1
              refine lv_lload hx hb dX3_betters_129 (lv_at hl 6 rfl) ?_
              refine lv_lstore_n (lv' := [(2, .long x8), (0, .ref (ad 40)), (1, .int x1), (4, .int x4), (5, .int x5), (6, .int x6), (8, .long x8)]) hx hb dX3_betters_131 rfl hl (by decide) rfl (fun ls hl => ?_)
              refine lv_iconst (v := 1) hx hb dX3_betters_132 (by decide) ?_
              refine lv_istore (lv' := [(4, .int (1 : Int32)), (2, .long x8), (0, .ref (ad 40)), (1, .int x1), (5, .int x5), (6, .int x6), (8, .long x8)]) hx hb dX3_betters_133 hl (by decide) rfl (fun ls hl => ?_)
              refine lv_iconst (v := 0) hx hb dX3_betters_135 (by decide) ?_
              refine lv_istore (lv' := [(10, .int (0 : Int32)), (4, .int (1 : Int32)), (2, .long x8), (0, .ref (ad 40)), (1, .int x1), (5, .int x5), (6, .int x6), (8, .long x8)]) hx hb dX3_betters_136 hl (by decide) rfl (fun ls hl => ?_)
              exact hB138 f u x1 x8 (1 : Int32) x5 x6 (0 : Int32) _ _ _ hm hw (lv_sub hl [3, 4, 2, 1, 5, 6, 0] rfl)
          have hB46 : ∀ (n46 : Nat), ∀ (u : TS) (x1 : Int32) (x2 : Int64) (x4 : Int32) (x5 : Int32) (x6 : Int32) (x7 : Int32) (x8 : Int64) (x10 : Int32) (H : Heap) (locs : List Loc) (ls : Array Slot), m_X3_betters_46 f (m_X3_betters_12 f n12) (m_X3_betters_21 f (m_X3_betters_12 f n12) n21) n46 u x1 x2 x4 x5 x6 x7 x8 x10 = some (r0, u9) → TH D ad dI dJ A s.heap u H locs → lv_has ls 11 [(0, .ref (ad 40)), (1, .int x1), (2, .long x2), (4, .int x4), (5, .int x5), (6, .int x6), (7, .int x7), (8, .long x8), (10, .int x10)] → W p l e rm_X3_betters s m args below meth c H locs 0 0 QQ (F0 m 46 ls []) := by
            intro n46
            induction n46 with
            | zero => intro u x1 x2 x4 x5 x6 x7 x8 x10 H locs ls hm hw hl; rw [m_X3_betters_46] at hm; exact noE hm
            | succ n46 ih46 =>
              intro u x1 x2 x4 x5 x6 x7 x8 x10 H locs ls hm hw hl
              rw [m_X3_betters_46] at hm
              refine lv_iload hx hb dX3_betters_46 (lv_at hl 8 rfl) ?_
              refine lv_iconst (v := 3) hx hb dX3_betters_48 (by decide) ?_
              refine lv_icmp_ge (tgt := 122) hx hb dX3_betters_49 (by decide) (fun c1 => ?_) (fun c1 => ?_)
              · have hm := ifT hm c1
                exact hB122 u x1 x2 x4 x5 x6 x8 _ _ _ hm hw (lv_sub hl [0, 1, 2, 3, 4, 5, 7] rfl)
              · have hm := ifF hm c1
                refine lv_aload_n hx hb dX3_betters_52 rfl (lv_at hl 0 rfl) ?_
                refine tg_get C hw 36 (by decide) q1602 rfl dX3_betters_53 ?_
                refine lv_iload hx hb dX3_betters_56 (lv_at hl 8 rfl) ?_
                refine lv_aload_n hx hb dX3_betters_58 rfl (lv_at hl 0 rfl) ?_
                refine tg_get C hw 18 (by decide) q1584 rfl dX3_betters_59 ?_
                refine lv_iconst (v := 3) hx hb dX3_betters_62 (by decide) ?_
                refine lv_iload_n hx hb dX3_betters_63 rfl (lv_at hl 1 rfl) ?_
                refine lv_imul hx hb dX3_betters_64 ?_
                refine lv_iload hx hb dX3_betters_65 (lv_at hl 8 rfl) ?_
                refine lv_iadd hx hb dX3_betters_67 ?_
                obtain ⟨g2, hm⟩ := gdE hm
                refine tg_lald C hw (tp_18 ad dI dJ u) g2 dX3_betters_68 ?_
                refine lv_iload hx hb dX3_betters_69 (lv_at hl 4 rfl) ?_
                refine lv_i2l hx hb dX3_betters_71 rfl ?_
                refine lv_aload_n hx hb dX3_betters_72 rfl (lv_at hl 0 rfl) ?_
                refine tg_get C hw 18 (by decide) q1584 rfl dX3_betters_73 ?_
                refine lv_iload hx hb dX3_betters_76 (lv_at hl 8 rfl) ?_
                obtain ⟨g3, hm⟩ := gdE hm
                refine tg_lald C hw (tp_18 ad dI dJ u) g3 dX3_betters_78 ?_
                refine lv_lmul hx hb dX3_betters_79 ?_
                refine lv_ladd hx hb dX3_betters_80 ?_
                refine lv_iload hx hb dX3_betters_81 (lv_at hl 6 rfl) ?_
                refine lv_i2l hx hb dX3_betters_83 rfl ?_
                refine lv_aload_n hx hb dX3_betters_84 rfl (lv_at hl 0 rfl) ?_
                refine tg_get C hw 18 (by decide) q1584 rfl dX3_betters_85 ?_
                refine lv_iconst (v := 3) hx hb dX3_betters_88 (by decide) ?_
                refine lv_iload hx hb dX3_betters_89 (lv_at hl 8 rfl) ?_
                refine lv_iadd hx hb dX3_betters_91 ?_
                obtain ⟨g4, hm⟩ := gdE hm
                refine tg_lald C hw (tp_18 ad dI dJ u) g4 dX3_betters_92 ?_
                refine lv_lmul hx hb dX3_betters_93 ?_
                refine lv_ladd hx hb dX3_betters_94 ?_
                obtain ⟨g5, hm⟩ := gdE hm
                refine tg_last C hw (tp_36 ad dI dJ u) g5 (ts_36 ad dI dJ u _ _) dX3_betters_95 (fun H locs hw => ?_)
                obtain ⟨u6, eu6, hm⟩ := nmE hm
                rw [← eu6] at hw
                refine lv_lload hx hb dX3_betters_96 (lv_at hl 7 rfl) ?_
                refine lv_aload_n hx hb dX3_betters_98 rfl (lv_at hl 0 rfl) ?_
                refine tg_get C hw 36 (by decide) q1602 rfl dX3_betters_99 ?_
                refine lv_iload hx hb dX3_betters_102 (lv_at hl 8 rfl) ?_
                obtain ⟨g7, hm⟩ := gdE hm
                refine tg_lald C hw (tp_36 ad dI dJ u6) g7 dX3_betters_104 ?_
                refine lv_aload_n hx hb dX3_betters_105 rfl (lv_at hl 0 rfl) ?_
                refine tg_get C hw 36 (by decide) q1602 rfl dX3_betters_106 ?_
                refine lv_iload hx hb dX3_betters_109 (lv_at hl 8 rfl) ?_
                obtain ⟨g8, hm⟩ := gdE hm
                refine tg_lald C hw (tp_36 ad dI dJ u6) g8 dX3_betters_111 ?_
                refine lv_lmul hx hb dX3_betters_112 ?_
                refine lv_ladd hx hb dX3_betters_113 ?_
                refine lv_topl (fun v9 ev9 => ?_)
                have hm := nmK hm ev9
                refine lv_lstore (lv' := [(8, .long v9), (0, .ref (ad 40)), (1, .int x1), (2, .long x2), (4, .int x4), (5, .int x5), (6, .int x6), (7, .int x7), (10, .int x10)]) hx hb dX3_betters_114 hl (by decide) rfl (fun ls hl => ?_)
                obtain ⟨v10, ev10, hm⟩ := nmE hm
                refine lv_iinc (v := v10) (lv' := [(10, .int v10), (8, .long v9), (0, .ref (ad 40)), (1, .int x1), (2, .long x2), (4, .int x4), (5, .int x5), (6, .int x6), (7, .int x7)]) hx hb dX3_betters_116 hl (k := 8) rfl (by rw [ev10]; rfl) (by decide) rfl (fun ls hl => ?_)
                refine lv_goto (tgt := 46) hx hb dX3_betters_119 (by decide) ?_
                exact ih46 u6 x1 x2 x4 x5 x6 x7 v9 v10 _ _ _ hm hw (lv_sub hl [2, 3, 4, 5, 6, 7, 8, 1, 0] rfl)
          have hB38 : ∀ (u : TS) (x1 : Int32) (x2 : Int64) (x4 : Int32) (x5 : Int32) (x6 : Int32) (y0 : Int32) (H : Heap) (locs : List Loc) (ls : Array Slot), m_X3_betters_38 f (m_X3_betters_12 f n12) (m_X3_betters_21 f (m_X3_betters_12 f n12) n21) u x1 x2 x4 x5 x6 y0 = some (r0, u9) → TH D ad dI dJ A s.heap u H locs → lv_has ls 11 [(0, .ref (ad 40)), (1, .int x1), (2, .long x2), (4, .int x4), (5, .int x5), (6, .int x6)] → W p l e rm_X3_betters s m args below meth c H locs 0 0 QQ (F0 m 38 ls [.int y0]) := by
            intro u x1 x2 x4 x5 x6 y0 H locs ls hm hw hl
            rw [m_X3_betters_38] at hm
            refine lv_istore (lv' := [(7, .int y0), (0, .ref (ad 40)), (1, .int x1), (2, .long x2), (4, .int x4), (5, .int x5), (6, .int x6)]) hx hb dX3_betters_38 hl (by decide) rfl (fun ls hl => ?_)
            refine lv_lconst (v := 0) hx hb dX3_betters_40 (by decide) ?_
            refine lv_lstore (lv' := [(8, .long (0 : Int64)), (7, .int y0), (0, .ref (ad 40)), (1, .int x1), (2, .long x2), (4, .int x4), (5, .int x5), (6, .int x6)]) hx hb dX3_betters_41 hl (by decide) rfl (fun ls hl => ?_)
            refine lv_iconst (v := 0) hx hb dX3_betters_43 (by decide) ?_
            refine lv_istore (lv' := [(10, .int (0 : Int32)), (8, .long (0 : Int64)), (7, .int y0), (0, .ref (ad 40)), (1, .int x1), (2, .long x2), (4, .int x4), (5, .int x5), (6, .int x6)]) hx hb dX3_betters_44 hl (by decide) rfl (fun ls hl => ?_)
            exact hB46 f u x1 x2 x4 x5 x6 y0 (0 : Int64) (0 : Int32) _ _ _ hm hw (lv_sub hl [3, 4, 5, 6, 7, 8, 2, 1, 0] rfl)
          intro u x1 x2 x4 x5 x6 H locs ls hm hw hl
          rw [m_X3_betters_21] at hm
          refine lv_iload hx hb dX3_betters_21 (lv_at hl 5 rfl) ?_
          refine lv_iconst (v := 2) hx hb dX3_betters_23 (by decide) ?_
          refine lv_icmp_ge (tgt := 170) hx hb dX3_betters_24 (by decide) (fun c1 => ?_) (fun c1 => ?_)
          · have hm := ifT hm c1
            exact hB170 u x1 x2 x4 x5 _ _ _ hm hw (lv_sub hl [0, 1, 2, 3, 4] rfl)
          · have hm := ifF hm c1
            refine lv_iload_n hx hb dX3_betters_27 rfl (lv_at hl 1 rfl) ?_
            refine lv_iconst (v := 2) hx hb dX3_betters_28 (by decide) ?_
            refine lv_icmp_ne (tgt := 37) hx hb dX3_betters_29 (by decide) (fun c2 => ?_) (fun c2 => ?_)
            · have hm := ifT hm c2
              refine lv_iconst (v := 0) hx hb dX3_betters_37 (by decide) ?_
              exact hB38 u x1 x2 x4 x5 x6 (0 : Int32) _ _ _ hm hw (lv_sub hl [0, 1, 2, 3, 4, 5] rfl)
            · have hm := ifT' hm c2
              refine lv_iload hx hb dX3_betters_32 (lv_at hl 5 rfl) ?_
              refine lv_goto (tgt := 38) hx hb dX3_betters_34 (by decide) ?_
              exact hB38 u x1 x2 x4 x5 x6 x6 _ _ _ hm hw (lv_sub hl [0, 1, 2, 3, 4, 5] rfl)
      intro u x1 x2 x4 x5 H locs ls hm hw hl
      rw [m_X3_betters_12] at hm
      refine lv_iload hx hb dX3_betters_12 (lv_at hl 4 rfl) ?_
      refine lv_iconst (v := 2) hx hb dX3_betters_14 (by decide) ?_
      refine lv_icmp_ge (tgt := 176) hx hb dX3_betters_15 (by decide) (fun c1 => ?_) (fun c1 => ?_)
      · have hm := ifT hm c1
        exact hB176 u x1 x4 _ _ _ hm hw (lv_sub hl [0, 1, 3] rfl)
      · have hm := ifF hm c1
        refine lv_iconst (v := -1) hx hb dX3_betters_18 (by decide) ?_
        refine lv_istore (lv' := [(6, .int (-1 : Int32)), (0, .ref (ad 40)), (1, .int x1), (2, .long x2), (4, .int x4), (5, .int x5)]) hx hb dX3_betters_19 hl (by decide) rfl (fun ls hl => ?_)
        exact hB21 f u x1 x2 x4 x5 (-1 : Int32) _ _ _ hm hw (lv_sub hl [1, 2, 3, 4, 5, 0] rfl)
  rw [m_X3_betters] at hm
  refine lv_aload_n hx hb dX3_betters_0 rfl (lv_at hl 0 rfl) ?_
  refine lv_iload_n hx hb dX3_betters_1 rfl (lv_at hl 1 rfl) ?_
  obtain ⟨r2, u1, er2, hm⟩ := bd2E hm
  refine tg_calll hw (va_runV (As := [.int x1]) (rest := []) ⟨hx, hb, hml, hown, hts⟩ (w_X3_lengthOf l er2) (cw_X3_lengthOf hts q2059 ⟨Nat.le_of_ble_eq_true rfl, Nat.le_of_ble_eq_true rfl⟩) (tg_pre C hw _) rfl rfl hl.1 rfl (lv_room (Nat.le_of_ble_eq_true rfl)) dX3_betters_2 ⟨Nat.le_of_ble_eq_true rfl, Nat.le_of_ble_eq_true rfl⟩) (fun H locs hw => ?_)
  refine lv_lstore_n (lv' := [(2, .long r2), (0, .ref (ad 40)), (1, .int x1)]) hx hb dX3_betters_5 rfl hl (by decide) rfl (fun ls hl => ?_)
  refine lv_iconst (v := 0) hx hb dX3_betters_6 (by decide) ?_
  refine lv_istore (lv' := [(4, .int (0 : Int32)), (2, .long r2), (0, .ref (ad 40)), (1, .int x1)]) hx hb dX3_betters_7 hl (by decide) rfl (fun ls hl => ?_)
  refine lv_iconst (v := -1) hx hb dX3_betters_9 (by decide) ?_
  refine lv_istore (lv' := [(5, .int (-1 : Int32)), (4, .int (0 : Int32)), (2, .long r2), (0, .ref (ad 40)), (1, .int x1)]) hx hb dX3_betters_10 hl (by decide) rfl (fun ls hl => ?_)
  exact hB12 f u1 x1 r2 (0 : Int32) (-1 : Int32) _ _ _ hm hw (lv_sub hl [3, 4, 2, 1, 0] rfl)
def m_X3_shortens_160 (f : Nat) (u : TS) : Option TS := some u
def m_X3_shortens_154 (f : Nat) (k47 : TS → Int32 → Option TS) (u : TS) (x2 : Int32) : Option TS := nmv ((x2 + 1) : Int32) fun v1 =>
    k47 u v1
def m_X3_shortens_147 (f : Nat) (k47 : TS → Int32 → Option TS) (k100 : TS → Int32 → Int32 → Int32 → Option TS) (u : TS) (x2 : Int32) (x4 : Int32) (x5 : Int32) (y1 : Int32) (y2 : Int64) : Option TS := gd (ix y1 9) <|
    nmv (sB u 18 (Int32.toNatClampNeg y1) y2) fun u2 =>
    nmv ((x5 + 1) : Int32) fun v3 =>
    k100 u2 x2 x4 v3
def m_X3_shortens_100 (f : Nat) (k47 : TS → Int32 → Option TS) : Nat → TS → Int32 → Int32 → Int32 → Option TS
  | 0, _, _, _, _ => none
  | n100 + 1, u, x2, x4, x5 => if (3 : Int32) ≤ x5 then
    m_X3_shortens_154 f k47 u x2
    else if x4 = 0 then
    gd (ix (((3 : Int32) * x2) + x5) 9) <|
    m_X3_shortens_147 f k47 (m_X3_shortens_100 f k47 n100) u x2 x4 x5 (((3 : Int32) * x2) + x5) (tB u 18 (Int32.toNatClampNeg (((3 : Int32) * x2) + x5)))
    else gd (ix (((3 : Int32) * x2) + x5) 9) <|
    m_X3_shortens_147 f k47 (m_X3_shortens_100 f k47 n100) u x2 x4 x5 (((3 : Int32) * x2) + x5) (-(tB u 18 (Int32.toNatClampNeg (((3 : Int32) * x2) + x5))))
def m_X3_shortens_95 (f : Nat) (k47 : TS → Int32 → Option TS) (u : TS) (x2 : Int32) (y0 : Int32) : Option TS := m_X3_shortens_100 f k47 f u x2 y0 (0 : Int32)
def m_X3_shortens_75 (f : Nat) (k47 : TS → Int32 → Option TS) (u : TS) (x2 : Int32) (x3 : Int32) : Option TS := gd (ix (((3 : Int32) * x2) + x3) 9) <|
    if (0 : Int64) ≤ (tB u 18 (Int32.toNatClampNeg (((3 : Int32) * x2) + x3))) then
    m_X3_shortens_95 f k47 u x2 (0 : Int32)
    else m_X3_shortens_95 f k47 u x2 (1 : Int32)
def m_X3_shortens_54 (f : Nat) (k47 : TS → Int32 → Option TS) : Nat → TS → Int32 → Int32 → Option TS
  | 0, _, _, _ => none
  | n54 + 1, u, x2, x3 => gd (ix (((3 : Int32) * x2) + x3) 9) <|
    if ¬ (tB u 18 (Int32.toNatClampNeg (((3 : Int32) * x2) + x3))) = (0 : Int64) then
    m_X3_shortens_75 f k47 u x2 x3
    else nmv ((x3 + 1) : Int32) fun v3 =>
    m_X3_shortens_54 f k47 n54 u x2 v3
def m_X3_shortens_47 (f : Nat) : Nat → TS → Int32 → Option TS
  | 0, _, _ => none
  | n47 + 1, u, x2 => if (3 : Int32) ≤ x2 then
    m_X3_shortens_160 f u
    else m_X3_shortens_54 f (m_X3_shortens_47 f n47) f u x2 (0 : Int32)
def m_X3_shortens_45 (f : Nat) (u : TS) : Option TS := m_X3_shortens_47 f f u (0 : Int32)
def m_X3_shortens_41 (f : Nat) (k12 : TS → Int32 → Option TS) (u : TS) (y0 : Int32) : Option TS := k12 u y0
def m_X3_shortens_36 (f : Nat) (k12 : TS → Int32 → Option TS) (u : TS) : Option TS := m_X3_shortens_41 f k12 u (1 : Int32)
def m_X3_shortens_12 (f : Nat) : Nat → TS → Int32 → Option TS
  | 0, _, _ => none
  | n12 + 1, u, x1 => if x1 = 0 then
    m_X3_shortens_45 f u
    else bd (m_X3_orders f u) fun u2 =>
    bd2 (m_X3_betters f u2 (2 : Int32)) fun r4 u3 =>
    if ¬ r4 = 0 then
    m_X3_shortens_36 f (m_X3_shortens_12 f n12) u3
    else bd2 (m_X3_betters f u3 (1 : Int32)) fun r7 u6 =>
    if r7 = 0 then
    m_X3_shortens_41 f (m_X3_shortens_12 f n12) u6 (0 : Int32)
    else m_X3_shortens_36 f (m_X3_shortens_12 f n12) u6
def m_X3_shortens (f : Nat) (u : TS) : Option TS := nmv (sI u 35 (0 : Int32)) fun u1 =>
    nmv (sI u1 25 (0 : Int32)) fun u2 =>
    m_X3_shortens_12 f f u2 (1 : Int32)
abbrev rm_X3_shortens : Room := { frames := 3, cells := 0, slots := 0, locals := 72 }
theorem cw_X3_shortens {R : Room} {s : State} {args : Array Value} {own : String} {idx : Nat} (hts : ∀ w ∈ lw_all, w.before args s = true) (hl : Cond.methodLink own idx yX3_shortens ∈ lw_all) (hR : rm_X3_shortens.frames + 1 ≤ R.frames ∧ 8 + (6 + 11) + rm_X3_shortens.locals ≤ R.locals) : CallW R s args own RX3 idx yX3_shortens cX3_shortens 6 (Option.none : Option Jvm.ClassFile.FieldType) (ws_ yX3_shortens cX3_shortens 6 (Option.none : Option Jvm.ClassFile.FieldType)) rm_X3_shortens 0 0 0 := cwV 0 hts (lw_V hl q2049 qs102 q125 q2050) rfl rfl rfl (by decide +kernel) hR
set_option maxHeartbeats 4000000 in
set_option maxRecDepth 100000 in
theorem w_X3_shortens (l : Launch) {D : va_G} {ad : Nat → Nat} {dI dJ : ClassId} {A : Nat → Prop} {f : Nat} {u u9 : TS}  (hm : m_X3_shortens f u = some u9) : Met l yX3_shortens (ws_ yX3_shortens cX3_shortens 6 (Option.none : Option Jvm.ClassFile.FieldType)) rm_X3_shortens (va_Pc [.ref (ad 40)] (TPre D ad dI dJ A u)) (va_Qv (fun u => u = u9) (TPost D ad dI dJ A) A) 0 0 A := by
  refine Met.ofW (cc := cX3_shortens) (maxL := 6) (ret := (Option.none : Option Jvm.ClassFile.FieldType)) (by decide) rfl ?_
  intro p e s m args below meth c s₁ B hml hv
  have hx := B.exec
  have hb := B.bytes
  have hr := B.returns
  have hts := atoms_spec (ws := (ws_ yX3_shortens cX3_shortens 6 (Option.none : Option Jvm.ClassFile.FieldType))) B.pre
  have hts : ∀ w ∈ lw_all, w.before args s = true := fun w h => hts w (List.mem_cons_of_mem _ h)
  have hown : s.vm.findClass RX3 = some m.cls := findClass_of_methodNamed B.named
  have hlocks := B.notSynchronized
  obtain ⟨hav, hv⟩ := hv
  have C : TC p s m args c cX3_shortens D dI dJ := ⟨hx, hb, hown, hts, hv.2.1⟩
  have hw : TH D ad dI dJ A s.heap u s.heap [] := ⟨hv.1, hv.2.2.1, va_S.rf, hv.2.2.2⟩
  generalize hQ : MQ below (va_Qv (fun u => u = u9) (TPost D ad dI dJ A) A) args s 0 0 A = QQ
  have hent := lg_entry_eq m [.ref (ad 40)] 6
  rw [← hav] at hent
  rw [hent]
  have hl := lv_entry ([.ref (ad 40)]) (n := 6) (Nat.le_of_ble_eq_true rfl)
  generalize (lg_sl ([.ref (ad 40)]) ++ List.replicate (6 - (lg_sl ([.ref (ad 40)])).length) Slot.unset).toArray = ls at hl ⊢
  have hl : lv_has ls 6 [(0, .ref (ad 40))] := hl
  change W p l e rm_X3_shortens s m args below meth c s.heap [] 0 0 QQ (F0 m 0 ls [])
  have hB160 : ∀ (u : TS) (H : Heap) (locs : List Loc) (ls : Array Slot), m_X3_shortens_160 f u = some u9 → TH D ad dI dJ A s.heap u H locs → lv_has ls 6 [] → W p l e rm_X3_shortens s m args below meth c H locs 0 0 QQ (F0 m 160 ls []) := by
    intro u H locs ls hm hw hl
    rw [m_X3_shortens_160] at hm
    rw [← hQ]
    exact W.vret hx hb hr (fun t ht hW => ⟨⟨u, rfl, ret1 hm, by rw [ht]; exact hw.1, hw.2.1⟩, hw.2.2.1.F ht⟩) hw.2.2.1.2.2 dX3_shortens_160
  have hB47 : ∀ (n47 : Nat), ∀ (u : TS) (x2 : Int32) (H : Heap) (locs : List Loc) (ls : Array Slot), m_X3_shortens_47 f n47 u x2 = some u9 → TH D ad dI dJ A s.heap u H locs → lv_has ls 6 [(0, .ref (ad 40)), (2, .int x2)] → W p l e rm_X3_shortens s m args below meth c H locs 0 0 QQ (F0 m 47 ls []) := by
    intro n47
    induction n47 with
    | zero => intro u x2 H locs ls hm hw hl; rw [m_X3_shortens_47] at hm; exact noE hm
    | succ n47 ih47 =>
      have hB154 : ∀ (u : TS) (x2 : Int32) (H : Heap) (locs : List Loc) (ls : Array Slot), m_X3_shortens_154 f (m_X3_shortens_47 f n47) u x2 = some u9 → TH D ad dI dJ A s.heap u H locs → lv_has ls 6 [(0, .ref (ad 40)), (2, .int x2)] → W p l e rm_X3_shortens s m args below meth c H locs 0 0 QQ (F0 m 154 ls []) := by
        intro u x2 H locs ls hm hw hl
        rw [m_X3_shortens_154] at hm
        obtain ⟨v1, ev1, hm⟩ := nmE hm
        refine lv_iinc (v := v1) (lv' := [(2, .int v1), (0, .ref (ad 40))]) hx hb dX3_shortens_154 hl (k := 1) rfl (by rw [ev1]; rfl) (by decide) rfl (fun ls hl => ?_)
        refine lv_goto (tgt := 47) hx hb dX3_shortens_157 (by decide) ?_
        exact ih47 u v1 _ _ _ hm hw (lv_sub hl [1, 0] rfl)
      have hB100 : ∀ (n100 : Nat), ∀ (u : TS) (x2 : Int32) (x4 : Int32) (x5 : Int32) (H : Heap) (locs : List Loc) (ls : Array Slot), m_X3_shortens_100 f (m_X3_shortens_47 f n47) n100 u x2 x4 x5 = some u9 → TH D ad dI dJ A s.heap u H locs → lv_has ls 6 [(0, .ref (ad 40)), (2, .int x2), (4, .int x4), (5, .int x5)] → W p l e rm_X3_shortens s m args below meth c H locs 0 0 QQ (F0 m 100 ls []) := by
        intro n100
        induction n100 with
        | zero => intro u x2 x4 x5 H locs ls hm hw hl; rw [m_X3_shortens_100] at hm; exact noE hm
        | succ n100 ih100 =>
          have hB147 : ∀ (u : TS) (x2 : Int32) (x4 : Int32) (x5 : Int32) (y1 : Int32) (y2 : Int64) (H : Heap) (locs : List Loc) (ls : Array Slot), m_X3_shortens_147 f (m_X3_shortens_47 f n47) (m_X3_shortens_100 f (m_X3_shortens_47 f n47) n100) u x2 x4 x5 y1 y2 = some u9 → TH D ad dI dJ A s.heap u H locs → lv_has ls 6 [(0, .ref (ad 40)), (2, .int x2), (4, .int x4), (5, .int x5)] → W p l e rm_X3_shortens s m args below meth c H locs 0 0 QQ (F0 m 147 ls [.long y2, .int y1, .ref (ad 18)]) := by
            intro u x2 x4 x5 y1 y2 H locs ls hm hw hl
            rw [m_X3_shortens_147] at hm
            obtain ⟨g1, hm⟩ := gdE hm
            refine tg_last C hw (tp_18 ad dI dJ u) g1 (ts_18 ad dI dJ u _ _) dX3_shortens_147 (fun H locs hw => ?_)
            obtain ⟨u2, eu2, hm⟩ := nmE hm
            rw [← eu2] at hw
            obtain ⟨v3, ev3, hm⟩ := nmE hm
            refine lv_iinc (v := v3) (lv' := [(5, .int v3), (0, .ref (ad 40)), (2, .int x2), (4, .int x4)]) hx hb dX3_shortens_148 hl (k := 3) rfl (by rw [ev3]; rfl) (by decide) rfl (fun ls hl => ?_)
            refine lv_goto (tgt := 100) hx hb dX3_shortens_151 (by decide) ?_
            exact ih100 u2 x2 x4 v3 _ _ _ hm hw (lv_sub hl [1, 2, 3, 0] rfl)
          intro u x2 x4 x5 H locs ls hm hw hl
          rw [m_X3_shortens_100] at hm
          refine lv_iload hx hb dX3_shortens_100 (lv_at hl 3 rfl) ?_
          refine lv_iconst (v := 3) hx hb dX3_shortens_102 (by decide) ?_
          refine lv_icmp_ge (tgt := 154) hx hb dX3_shortens_103 (by decide) (fun c1 => ?_) (fun c1 => ?_)
          · have hm := ifT hm c1
            exact hB154 u x2 _ _ _ hm hw (lv_sub hl [0, 1] rfl)
          · have hm := ifF hm c1
            refine lv_aload_n hx hb dX3_shortens_106 rfl (lv_at hl 0 rfl) ?_
            refine tg_get C hw 18 (by decide) q1584 rfl dX3_shortens_107 ?_
            refine lv_iconst (v := 3) hx hb dX3_shortens_110 (by decide) ?_
            refine lv_iload_n hx hb dX3_shortens_111 rfl (lv_at hl 1 rfl) ?_
            refine lv_imul hx hb dX3_shortens_112 ?_
            refine lv_iload hx hb dX3_shortens_113 (lv_at hl 3 rfl) ?_
            refine lv_iadd hx hb dX3_shortens_115 ?_
            refine lv_iload hx hb dX3_shortens_116 (lv_at hl 2 rfl) ?_
            refine lv_if_eq (tgt := 136) hx hb dX3_shortens_118 (by decide) (fun c2 => ?_) (fun c2 => ?_)
            · have hm := ifT hm c2
              refine lv_aload_n hx hb dX3_shortens_136 rfl (lv_at hl 0 rfl) ?_
              refine tg_get C hw 18 (by decide) q1584 rfl dX3_shortens_137 ?_
              refine lv_iconst (v := 3) hx hb dX3_shortens_140 (by decide) ?_
              refine lv_iload_n hx hb dX3_shortens_141 rfl (lv_at hl 1 rfl) ?_
              refine lv_imul hx hb dX3_shortens_142 ?_
              refine lv_iload hx hb dX3_shortens_143 (lv_at hl 3 rfl) ?_
              refine lv_iadd hx hb dX3_shortens_145 ?_
              obtain ⟨g3, hm⟩ := gdE hm
              refine tg_lald C hw (tp_18 ad dI dJ u) g3 dX3_shortens_146 ?_
              exact hB147 u x2 x4 x5 (((3 : Int32) * x2) + x5) (tB u 18 (Int32.toNatClampNeg (((3 : Int32) * x2) + x5))) _ _ _ hm hw (lv_sub hl [0, 1, 2, 3] rfl)
            · have hm := ifF hm c2
              refine lv_aload_n hx hb dX3_shortens_121 rfl (lv_at hl 0 rfl) ?_
              refine tg_get C hw 18 (by decide) q1584 rfl dX3_shortens_122 ?_
              refine lv_iconst (v := 3) hx hb dX3_shortens_125 (by decide) ?_
              refine lv_iload_n hx hb dX3_shortens_126 rfl (lv_at hl 1 rfl) ?_
              refine lv_imul hx hb dX3_shortens_127 ?_
              refine lv_iload hx hb dX3_shortens_128 (lv_at hl 3 rfl) ?_
              refine lv_iadd hx hb dX3_shortens_130 ?_
              obtain ⟨g4, hm⟩ := gdE hm
              refine tg_lald C hw (tp_18 ad dI dJ u) g4 dX3_shortens_131 ?_
              refine lv_lneg hx hb dX3_shortens_132 ?_
              refine lv_goto (tgt := 147) hx hb dX3_shortens_133 (by decide) ?_
              exact hB147 u x2 x4 x5 (((3 : Int32) * x2) + x5) (-(tB u 18 (Int32.toNatClampNeg (((3 : Int32) * x2) + x5)))) _ _ _ hm hw (lv_sub hl [0, 1, 2, 3] rfl)
      have hB95 : ∀ (u : TS) (x2 : Int32) (y0 : Int32) (H : Heap) (locs : List Loc) (ls : Array Slot), m_X3_shortens_95 f (m_X3_shortens_47 f n47) u x2 y0 = some u9 → TH D ad dI dJ A s.heap u H locs → lv_has ls 6 [(0, .ref (ad 40)), (2, .int x2)] → W p l e rm_X3_shortens s m args below meth c H locs 0 0 QQ (F0 m 95 ls [.int y0]) := by
        intro u x2 y0 H locs ls hm hw hl
        rw [m_X3_shortens_95] at hm
        refine lv_istore (lv' := [(4, .int y0), (0, .ref (ad 40)), (2, .int x2)]) hx hb dX3_shortens_95 hl (by decide) rfl (fun ls hl => ?_)
        refine lv_iconst (v := 0) hx hb dX3_shortens_97 (by decide) ?_
        refine lv_istore (lv' := [(5, .int (0 : Int32)), (4, .int y0), (0, .ref (ad 40)), (2, .int x2)]) hx hb dX3_shortens_98 hl (by decide) rfl (fun ls hl => ?_)
        exact hB100 f u x2 y0 (0 : Int32) _ _ _ hm hw (lv_sub hl [2, 3, 1, 0] rfl)
      have hB75 : ∀ (u : TS) (x2 : Int32) (x3 : Int32) (H : Heap) (locs : List Loc) (ls : Array Slot), m_X3_shortens_75 f (m_X3_shortens_47 f n47) u x2 x3 = some u9 → TH D ad dI dJ A s.heap u H locs → lv_has ls 6 [(0, .ref (ad 40)), (2, .int x2), (3, .int x3)] → W p l e rm_X3_shortens s m args below meth c H locs 0 0 QQ (F0 m 75 ls []) := by
        intro u x2 x3 H locs ls hm hw hl
        rw [m_X3_shortens_75] at hm
        refine lv_aload_n hx hb dX3_shortens_75 rfl (lv_at hl 0 rfl) ?_
        refine tg_get C hw 18 (by decide) q1584 rfl dX3_shortens_76 ?_
        refine lv_iconst (v := 3) hx hb dX3_shortens_79 (by decide) ?_
        refine lv_iload_n hx hb dX3_shortens_80 rfl (lv_at hl 1 rfl) ?_
        refine lv_imul hx hb dX3_shortens_81 ?_
        refine lv_iload_n hx hb dX3_shortens_82 rfl (lv_at hl 2 rfl) ?_
        refine lv_iadd hx hb dX3_shortens_83 ?_
        obtain ⟨g1, hm⟩ := gdE hm
        refine tg_lald C hw (tp_18 ad dI dJ u) g1 dX3_shortens_84 ?_
        refine lv_lconst (v := 0) hx hb dX3_shortens_85 (by decide) ?_
        refine lc_ge (tgt := 94) hx hb dX3_shortens_86 dX3_shortens_87 (by decide) (fun c2 => ?_) (fun c2 => ?_)
        · have hm := ifT hm c2
          refine lv_iconst (v := 0) hx hb dX3_shortens_94 (by decide) ?_
          exact hB95 u x2 (0 : Int32) _ _ _ hm hw (lv_sub hl [0, 1] rfl)
        · have hm := ifF hm c2
          refine lv_iconst (v := 1) hx hb dX3_shortens_90 (by decide) ?_
          refine lv_goto (tgt := 95) hx hb dX3_shortens_91 (by decide) ?_
          exact hB95 u x2 (1 : Int32) _ _ _ hm hw (lv_sub hl [0, 1] rfl)
      have hB54 : ∀ (n54 : Nat), ∀ (u : TS) (x2 : Int32) (x3 : Int32) (H : Heap) (locs : List Loc) (ls : Array Slot), m_X3_shortens_54 f (m_X3_shortens_47 f n47) n54 u x2 x3 = some u9 → TH D ad dI dJ A s.heap u H locs → lv_has ls 6 [(0, .ref (ad 40)), (2, .int x2), (3, .int x3)] → W p l e rm_X3_shortens s m args below meth c H locs 0 0 QQ (F0 m 54 ls []) := by
        intro n54
        induction n54 with
        | zero => intro u x2 x3 H locs ls hm hw hl; rw [m_X3_shortens_54] at hm; exact noE hm
        | succ n54 ih54 =>
          intro u x2 x3 H locs ls hm hw hl
          rw [m_X3_shortens_54] at hm
          refine lv_aload_n hx hb dX3_shortens_54 rfl (lv_at hl 0 rfl) ?_
          refine tg_get C hw 18 (by decide) q1584 rfl dX3_shortens_55 ?_
          refine lv_iconst (v := 3) hx hb dX3_shortens_58 (by decide) ?_
          refine lv_iload_n hx hb dX3_shortens_59 rfl (lv_at hl 1 rfl) ?_
          refine lv_imul hx hb dX3_shortens_60 ?_
          refine lv_iload_n hx hb dX3_shortens_61 rfl (lv_at hl 2 rfl) ?_
          refine lv_iadd hx hb dX3_shortens_62 ?_
          obtain ⟨g1, hm⟩ := gdE hm
          refine tg_lald C hw (tp_18 ad dI dJ u) g1 dX3_shortens_63 ?_
          refine lv_lconst (v := 0) hx hb dX3_shortens_64 (by decide) ?_
          refine lc_ne (tgt := 75) hx hb dX3_shortens_65 dX3_shortens_66 (by decide) (fun c2 => ?_) (fun c2 => ?_)
          · have hm := ifT hm c2
            exact hB75 u x2 x3 _ _ _ hm hw (lv_sub hl [0, 1, 2] rfl)
          · have hm := ifT' hm c2
            obtain ⟨v3, ev3, hm⟩ := nmE hm
            refine lv_iinc (v := v3) (lv' := [(3, .int v3), (0, .ref (ad 40)), (2, .int x2)]) hx hb dX3_shortens_69 hl (k := 2) rfl (by rw [ev3]; rfl) (by decide) rfl (fun ls hl => ?_)
            refine lv_goto (tgt := 54) hx hb dX3_shortens_72 (by decide) ?_
            exact ih54 u x2 v3 _ _ _ hm hw (lv_sub hl [1, 2, 0] rfl)
      intro u x2 H locs ls hm hw hl
      rw [m_X3_shortens_47] at hm
      refine lv_iload_n hx hb dX3_shortens_47 rfl (lv_at hl 1 rfl) ?_
      refine lv_iconst (v := 3) hx hb dX3_shortens_48 (by decide) ?_
      refine lv_icmp_ge (tgt := 160) hx hb dX3_shortens_49 (by decide) (fun c1 => ?_) (fun c1 => ?_)
      · have hm := ifT hm c1
        exact hB160 u _ _ _ hm hw (lv_sub hl [] rfl)
      · have hm := ifF hm c1
        refine lv_iconst (v := 0) hx hb dX3_shortens_52 (by decide) ?_
        refine lv_istore_n (lv' := [(3, .int (0 : Int32)), (0, .ref (ad 40)), (2, .int x2)]) hx hb dX3_shortens_53 rfl hl (by decide) rfl (fun ls hl => ?_)
        exact hB54 f u x2 (0 : Int32) _ _ _ hm hw (lv_sub hl [1, 2, 0] rfl)
  have hB45 : ∀ (u : TS) (H : Heap) (locs : List Loc) (ls : Array Slot), m_X3_shortens_45 f u = some u9 → TH D ad dI dJ A s.heap u H locs → lv_has ls 6 [(0, .ref (ad 40))] → W p l e rm_X3_shortens s m args below meth c H locs 0 0 QQ (F0 m 45 ls []) := by
    intro u H locs ls hm hw hl
    rw [m_X3_shortens_45] at hm
    refine lv_iconst (v := 0) hx hb dX3_shortens_45 (by decide) ?_
    refine lv_istore_n (lv' := [(2, .int (0 : Int32)), (0, .ref (ad 40))]) hx hb dX3_shortens_46 rfl hl (by decide) rfl (fun ls hl => ?_)
    exact hB47 f u (0 : Int32) _ _ _ hm hw (lv_sub hl [1, 0] rfl)
  have hB12 : ∀ (n12 : Nat), ∀ (u : TS) (x1 : Int32) (H : Heap) (locs : List Loc) (ls : Array Slot), m_X3_shortens_12 f n12 u x1 = some u9 → TH D ad dI dJ A s.heap u H locs → lv_has ls 6 [(0, .ref (ad 40)), (1, .int x1)] → W p l e rm_X3_shortens s m args below meth c H locs 0 0 QQ (F0 m 12 ls []) := by
    intro n12
    induction n12 with
    | zero => intro u x1 H locs ls hm hw hl; rw [m_X3_shortens_12] at hm; exact noE hm
    | succ n12 ih12 =>
      have hB41 : ∀ (u : TS) (y0 : Int32) (H : Heap) (locs : List Loc) (ls : Array Slot), m_X3_shortens_41 f (m_X3_shortens_12 f n12) u y0 = some u9 → TH D ad dI dJ A s.heap u H locs → lv_has ls 6 [(0, .ref (ad 40))] → W p l e rm_X3_shortens s m args below meth c H locs 0 0 QQ (F0 m 41 ls [.int y0]) := by
        intro u y0 H locs ls hm hw hl
        rw [m_X3_shortens_41] at hm
        refine lv_istore_n (lv' := [(1, .int y0), (0, .ref (ad 40))]) hx hb dX3_shortens_41 rfl hl (by decide) rfl (fun ls hl => ?_)
        refine lv_goto (tgt := 12) hx hb dX3_shortens_42 (by decide) ?_
        exact ih12 u y0 _ _ _ hm hw (lv_sub hl [1, 0] rfl)
      have hB36 : ∀ (u : TS) (H : Heap) (locs : List Loc) (ls : Array Slot), m_X3_shortens_36 f (m_X3_shortens_12 f n12) u = some u9 → TH D ad dI dJ A s.heap u H locs → lv_has ls 6 [(0, .ref (ad 40))] → W p l e rm_X3_shortens s m args below meth c H locs 0 0 QQ (F0 m 36 ls []) := by
        intro u H locs ls hm hw hl
        rw [m_X3_shortens_36] at hm
        refine lv_iconst (v := 1) hx hb dX3_shortens_36 (by decide) ?_
        refine lv_goto (tgt := 41) hx hb dX3_shortens_37 (by decide) ?_
        exact hB41 u (1 : Int32) _ _ _ hm hw (lv_sub hl [0] rfl)
      intro u x1 H locs ls hm hw hl
      rw [m_X3_shortens_12] at hm
      refine lv_iload_n hx hb dX3_shortens_12 rfl (lv_at hl 1 rfl) ?_
      refine lv_if_eq (tgt := 45) hx hb dX3_shortens_13 (by decide) (fun c1 => ?_) (fun c1 => ?_)
      · have hm := ifT hm c1
        exact hB45 u _ _ _ hm hw (lv_sub hl [0] rfl)
      · have hm := ifF hm c1
        refine lv_aload_n hx hb dX3_shortens_16 rfl (lv_at hl 0 rfl) ?_
        obtain ⟨u2, eu2, hm⟩ := bdE hm
        refine tg_callv hw (va_runV (As := []) (rest := []) ⟨hx, hb, hml, hown, hts⟩ (w_X3_orders l eu2) (cw_X3_orders hts q2051 ⟨Nat.le_of_ble_eq_true rfl, Nat.le_of_ble_eq_true rfl⟩) (tg_pre C hw _) rfl rfl hl.1 rfl (lv_room (Nat.le_of_ble_eq_true rfl)) dX3_shortens_17 ⟨Nat.le_of_ble_eq_true rfl, Nat.le_of_ble_eq_true rfl⟩) (fun H locs hw => ?_)
        refine lv_aload_n hx hb dX3_shortens_20 rfl (lv_at hl 0 rfl) ?_
        refine lv_iconst (v := 2) hx hb dX3_shortens_21 (by decide) ?_
        obtain ⟨r4, u3, er4, hm⟩ := bd2E hm
        refine tg_calli hw (va_runV (As := [.int (2 : Int32)]) (rest := []) ⟨hx, hb, hml, hown, hts⟩ (w_X3_betters l er4) (cw_X3_betters hts q2063 ⟨Nat.le_of_ble_eq_true rfl, Nat.le_of_ble_eq_true rfl⟩) (tg_pre C hw _) rfl rfl hl.1 rfl (lv_room (Nat.le_of_ble_eq_true rfl)) dX3_shortens_22 ⟨Nat.le_of_ble_eq_true rfl, Nat.le_of_ble_eq_true rfl⟩) (fun H locs hw => ?_)
        refine lv_if_ne (tgt := 36) hx hb dX3_shortens_25 (by decide) (fun c5 => ?_) (fun c5 => ?_)
        · have hm := ifT hm c5
          exact hB36 u3 _ _ _ hm hw (lv_sub hl [0] rfl)
        · have hm := ifT' hm c5
          refine lv_aload_n hx hb dX3_shortens_28 rfl (lv_at hl 0 rfl) ?_
          refine lv_iconst (v := 1) hx hb dX3_shortens_29 (by decide) ?_
          obtain ⟨r7, u6, er7, hm⟩ := bd2E hm
          refine tg_calli hw (va_runV (As := [.int (1 : Int32)]) (rest := []) ⟨hx, hb, hml, hown, hts⟩ (w_X3_betters l er7) (cw_X3_betters hts q2063 ⟨Nat.le_of_ble_eq_true rfl, Nat.le_of_ble_eq_true rfl⟩) (tg_pre C hw _) rfl rfl hl.1 rfl (lv_room (Nat.le_of_ble_eq_true rfl)) dX3_shortens_30 ⟨Nat.le_of_ble_eq_true rfl, Nat.le_of_ble_eq_true rfl⟩) (fun H locs hw => ?_)
          refine lv_if_eq (tgt := 40) hx hb dX3_shortens_33 (by decide) (fun c8 => ?_) (fun c8 => ?_)
          · have hm := ifT hm c8
            refine lv_iconst (v := 0) hx hb dX3_shortens_40 (by decide) ?_
            exact hB41 u6 (0 : Int32) _ _ _ hm hw (lv_sub hl [0] rfl)
          · have hm := ifF hm c8
            exact hB36 u6 _ _ _ hm hw (lv_sub hl [0] rfl)
  rw [m_X3_shortens] at hm
  refine lv_aload_n hx hb dX3_shortens_0 rfl (lv_at hl 0 rfl) ?_
  refine lv_iconst (v := 0) hx hb dX3_shortens_1 (by decide) ?_
  refine tg_put C hw 35 (by decide) q1601 rfl rfl rfl (ts_35 ad dI dJ u (0 : Int32)) dX3_shortens_2 (fun H locs hw => ?_)
  obtain ⟨u1, eu1, hm⟩ := nmE hm
  rw [← eu1] at hw
  refine lv_aload_n hx hb dX3_shortens_5 rfl (lv_at hl 0 rfl) ?_
  refine lv_iconst (v := 0) hx hb dX3_shortens_6 (by decide) ?_
  refine tg_put C hw 25 (by decide) q1591 rfl rfl rfl (ts_25 ad dI dJ u1 (0 : Int32)) dX3_shortens_7 (fun H locs hw => ?_)
  obtain ⟨u2, eu2, hm⟩ := nmE hm
  rw [← eu2] at hw
  refine lv_iconst (v := 1) hx hb dX3_shortens_10 (by decide) ?_
  refine lv_istore_n (lv' := [(1, .int (1 : Int32)), (0, .ref (ad 40))]) hx hb dX3_shortens_11 rfl hl (by decide) rfl (fun ls hl => ?_)
  exact hB12 f u2 (1 : Int32) _ _ _ hm hw (lv_sub hl [1, 0] rfl)
