/-! walks of the twin (printed by gen/walk.py) -/
set_option maxRecDepth 100000
def m_X3_laysBoth (f : Nat) (u : TS) (x1 : Int32) (x2 : Int32) : Option TS := bd (m_X3_laysFirst f u x1) fun u1 =>
    bd (m_X3_lays f u1 x2) fun u2 =>
    bd (m_X3_laysOther f u2) fun u3 =>
    some u3
abbrev rm_X3_laysBoth : Room := { frames := 6, cells := 0, slots := 0, locals := 146 }
theorem cw_X3_laysBoth {R : Room} {s : State} {args : Array Value} {own : String} {idx : Nat} (hts : ∀ w ∈ lw_all, w.before args s = true) (hl : Cond.methodLink own idx yX3_laysBoth ∈ lw_all) (hR : rm_X3_laysBoth.frames + 1 ≤ R.frames ∧ 8 + (3 + 11) + rm_X3_laysBoth.locals ≤ R.locals) : CallW R s args own RX3 idx yX3_laysBoth cX3_laysBoth 3 (Option.none : Option Jvm.ClassFile.FieldType) (ws_ yX3_laysBoth cX3_laysBoth 3 (Option.none : Option Jvm.ClassFile.FieldType)) rm_X3_laysBoth 0 0 2 := cwV 2 hts (lw_V hl q1915 qs84 q125 q1916) rfl rfl rfl (by decide +kernel) hR
set_option maxHeartbeats 4000000 in
set_option maxRecDepth 100000 in
theorem w_X3_laysBoth (l : Launch) {D : va_G} {ad : Nat → Nat} {dI dJ : ClassId} {A : Nat → Prop} {f : Nat} {u u9 : TS} {x1 : Int32} {x2 : Int32} (hm : m_X3_laysBoth f u x1 x2 = some u9) : Met l yX3_laysBoth (ws_ yX3_laysBoth cX3_laysBoth 3 (Option.none : Option Jvm.ClassFile.FieldType)) rm_X3_laysBoth (va_Pc [.ref (ad 40), .int x1, .int x2] (TPre D ad dI dJ A u)) (va_Qv (fun u => u = u9) (TPost D ad dI dJ A) A) 0 0 A := by
  refine Met.ofW (cc := cX3_laysBoth) (maxL := 3) (ret := (Option.none : Option Jvm.ClassFile.FieldType)) (by decide) rfl ?_
  intro p e s m args below meth c s₁ B hml hv
  have hx := B.exec
  have hb := B.bytes
  have hr := B.returns
  have hts := atoms_spec (ws := (ws_ yX3_laysBoth cX3_laysBoth 3 (Option.none : Option Jvm.ClassFile.FieldType))) B.pre
  have hts : ∀ w ∈ lw_all, w.before args s = true := fun w h => hts w (List.mem_cons_of_mem _ h)
  have hown : s.vm.findClass RX3 = some m.cls := findClass_of_methodNamed B.named
  have hlocks := B.notSynchronized
  obtain ⟨hav, hv⟩ := hv
  have C : TC p s m args c cX3_laysBoth D dI dJ := ⟨hx, hb, hown, hts, hv.2.1⟩
  have hw : TH D ad dI dJ A s.heap u s.heap [] := ⟨hv.1, hv.2.2.1, va_S.rf, hv.2.2.2⟩
  generalize hQ : MQ below (va_Qv (fun u => u = u9) (TPost D ad dI dJ A) A) args s 0 0 A = QQ
  have hent := lg_entry_eq m [.ref (ad 40), .int x1, .int x2] 3
  rw [← hav] at hent
  rw [hent]
  have hl := lv_entry ([.ref (ad 40), .int x1, .int x2]) (n := 3) (Nat.le_of_ble_eq_true rfl)
  generalize (lg_sl ([.ref (ad 40), .int x1, .int x2]) ++ List.replicate (3 - (lg_sl ([.ref (ad 40), .int x1, .int x2])).length) Slot.unset).toArray = ls at hl ⊢
  have hl : lv_has ls 3 [(0, .ref (ad 40)), (1, .int x1), (2, .int x2)] := hl
  change W p l e rm_X3_laysBoth s m args below meth c s.heap [] 0 0 QQ (F0 m 0 ls [])
  rw [m_X3_laysBoth] at hm
  refine lv_aload_n hx hb dX3_laysBoth_0 rfl (lv_at hl 0 rfl) ?_
  refine lv_iload_n hx hb dX3_laysBoth_1 rfl (lv_at hl 1 rfl) ?_
  obtain ⟨u1, eu1, hm⟩ := bdE hm
  refine tg_callv hw (va_runV (As := [.int x1]) (rest := []) ⟨hx, hb, hml, hown, hts⟩ (w_X3_laysFirst l eu1) (cw_X3_laysFirst hts q1917 ⟨Nat.le_of_ble_eq_true rfl, Nat.le_of_ble_eq_true rfl⟩) (tg_pre C hw _) rfl rfl hl.1 rfl (lv_room (Nat.le_of_ble_eq_true rfl)) dX3_laysBoth_2 ⟨Nat.le_of_ble_eq_true rfl, Nat.le_of_ble_eq_true rfl⟩) (fun H locs hw => ?_)
  refine lv_aload_n hx hb dX3_laysBoth_5 rfl (lv_at hl 0 rfl) ?_
  refine lv_iload_n hx hb dX3_laysBoth_6 rfl (lv_at hl 2 rfl) ?_
  obtain ⟨u2, eu2, hm⟩ := bdE hm
  refine tg_callv hw (va_runV (As := [.int x2]) (rest := []) ⟨hx, hb, hml, hown, hts⟩ (w_X3_lays l eu2) (cw_X3_lays hts q1804 ⟨Nat.le_of_ble_eq_true rfl, Nat.le_of_ble_eq_true rfl⟩) (tg_pre C hw _) rfl rfl hl.1 rfl (lv_room (Nat.le_of_ble_eq_true rfl)) dX3_laysBoth_7 ⟨Nat.le_of_ble_eq_true rfl, Nat.le_of_ble_eq_true rfl⟩) (fun H locs hw => ?_)
  refine lv_aload_n hx hb dX3_laysBoth_10 rfl (lv_at hl 0 rfl) ?_
  obtain ⟨u3, eu3, hm⟩ := bdE hm
  refine tg_callv hw (va_runV (As := []) (rest := []) ⟨hx, hb, hml, hown, hts⟩ (w_X3_laysOther l eu3) (cw_X3_laysOther hts q1921 ⟨Nat.le_of_ble_eq_true rfl, Nat.le_of_ble_eq_true rfl⟩) (tg_pre C hw _) rfl rfl hl.1 rfl (lv_room (Nat.le_of_ble_eq_true rfl)) dX3_laysBoth_11 ⟨Nat.le_of_ble_eq_true rfl, Nat.le_of_ble_eq_true rfl⟩) (fun H locs hw => ?_)
  rw [← hQ]
  exact W.vret hx hb hr (fun t ht hW => ⟨⟨u3, rfl, ret1 hm, by rw [ht]; exact hw.1, hw.2.1⟩, hw.2.2.1.F ht⟩) hw.2.2.1.2.2 dX3_laysBoth_14
def m_X3_inside_87 (f : Nat) (u : TS) : Option (Int32 × TS) := some ((1 : Int32), u)
def m_X3_inside_79 (f : Nat) (u : TS) : Option (Int32 × TS) := some ((0 : Int32), u)
def m_X3_inside_31 (f : Nat) : Nat → TS → Int32 → Option (Int32 × TS)
  | 0, _, _ => none
  | n31 + 1, u, x4 => if (3 : Int32) ≤ x4 then
    m_X3_inside_87 f u
    else gd (ix ((3 : Int32) * x4) 9) <|
    gd (ix (((3 : Int32) * x4) + (1 : Int32)) 9) <|
    gd (ix (((3 : Int32) * x4) + (2 : Int32)) 9) <|
    bd2 (m_X3_hasPoint f u (tB u 27 (Int32.toNatClampNeg ((3 : Int32) * x4))) (tB u 27 (Int32.toNatClampNeg (((3 : Int32) * x4) + (1 : Int32)))) (tB u 27 (Int32.toNatClampNeg (((3 : Int32) * x4) + (2 : Int32)))) (tL u 31)) fun r6 u5 =>
    if ¬ r6 = 0 then
    nmv ((x4 + 1) : Int32) fun v8 =>
    m_X3_inside_31 f n31 u5 v8
    else m_X3_inside_79 f u5
def m_X3_inside (f : Nat) (u : TS) (x1 : Int32) (x2 : Int32) : Option (Int32 × TS) := bd2 (m_X3_whyNot f u x1 x2) fun r2 u1 =>
    if 0 ≤ r2 then
    bd (m_X3_laysBoth f u1 x1 x2) fun u4 =>
    bd (m_X3_lays f u4 x2) fun u5 =>
    bd (m_X3_forms f u5) fun u6 =>
    m_X3_inside_31 f f u6 (0 : Int32)
    else some (r2, u1)
abbrev rm_X3_inside : Room := { frames := 7, cells := 0, slots := 0, locals := 168 }
theorem cw_X3_inside {R : Room} {s : State} {args : Array Value} {own : String} {idx : Nat} (hts : ∀ w ∈ lw_all, w.before args s = true) (hl : Cond.methodLink own idx yX3_inside ∈ lw_all) (hR : rm_X3_inside.frames + 1 ≤ R.frames ∧ 8 + (5 + 11) + rm_X3_inside.locals ≤ R.locals) : CallW R s args own RX3 idx yX3_inside cX3_inside 5 (Option.some Jvm.ClassFile.FieldType.int) (ws_ yX3_inside cX3_inside 5 (Option.some Jvm.ClassFile.FieldType.int)) rm_X3_inside 0 0 2 := cwV 2 hts (lw_V hl q1906 q1907 q125 q1908) rfl rfl rfl (by decide +kernel) hR
set_option maxHeartbeats 4000000 in
set_option maxRecDepth 100000 in
theorem w_X3_inside (l : Launch) {D : va_G} {ad : Nat → Nat} {dI dJ : ClassId} {A : Nat → Prop} {f : Nat} {u u9 : TS} {r0 : Int32} {x1 : Int32} {x2 : Int32} (hm : m_X3_inside f u x1 x2 = some (r0, u9)) : Met l yX3_inside (ws_ yX3_inside cX3_inside 5 (Option.some Jvm.ClassFile.FieldType.int)) rm_X3_inside (va_Pc [.ref (ad 40), .int x1, .int x2] (TPre D ad dI dJ A u)) (va_Qi (fun r u => r = r0 ∧ u = u9) (TPost D ad dI dJ A) A) 0 0 A := by
  refine Met.ofW (cc := cX3_inside) (maxL := 5) (ret := (Option.some Jvm.ClassFile.FieldType.int)) (by decide) rfl ?_
  intro p e s m args below meth c s₁ B hml hv
  have hx := B.exec
  have hb := B.bytes
  have hr := B.returns
  have hts := atoms_spec (ws := (ws_ yX3_inside cX3_inside 5 (Option.some Jvm.ClassFile.FieldType.int))) B.pre
  have hts : ∀ w ∈ lw_all, w.before args s = true := fun w h => hts w (List.mem_cons_of_mem _ h)
  have hown : s.vm.findClass RX3 = some m.cls := findClass_of_methodNamed B.named
  have hlocks := B.notSynchronized
  obtain ⟨hav, hv⟩ := hv
  have C : TC p s m args c cX3_inside D dI dJ := ⟨hx, hb, hown, hts, hv.2.1⟩
  have hw : TH D ad dI dJ A s.heap u s.heap [] := ⟨hv.1, hv.2.2.1, va_S.rf, hv.2.2.2⟩
  generalize hQ : MQ below (va_Qi (fun r u => r = r0 ∧ u = u9) (TPost D ad dI dJ A) A) args s 0 0 A = QQ
  have hent := lg_entry_eq m [.ref (ad 40), .int x1, .int x2] 5
  rw [← hav] at hent
  rw [hent]
  have hl := lv_entry ([.ref (ad 40), .int x1, .int x2]) (n := 5) (Nat.le_of_ble_eq_true rfl)
  generalize (lg_sl ([.ref (ad 40), .int x1, .int x2]) ++ List.replicate (5 - (lg_sl ([.ref (ad 40), .int x1, .int x2])).length) Slot.unset).toArray = ls at hl ⊢
  have hl : lv_has ls 5 [(0, .ref (ad 40)), (1, .int x1), (2, .int x2)] := hl
  change W p l e rm_X3_inside s m args below meth c s.heap [] 0 0 QQ (F0 m 0 ls [])
  have hB87 : ∀ (u : TS) (H : Heap) (locs : List Loc) (ls : Array Slot), m_X3_inside_87 f u = some (r0, u9) → TH D ad dI dJ A s.heap u H locs → lv_has ls 5 [] → W p l e rm_X3_inside s m args below meth c H locs 0 0 QQ (F0 m 87 ls []) := by
    intro u H locs ls hm hw hl
    rw [m_X3_inside_87] at hm
    refine lv_iconst (v := 1) hx hb dX3_inside_87 (by decide) ?_
    rw [← hQ]
    exact W.iret (v := (1 : Int32)) hx hb hr (fun t ht hW => ⟨⟨(1 : Int32), u, rfl, retE hm, by rw [ht]; exact hw.1, hw.2.1⟩, hw.2.2.1.F ht⟩) hw.2.2.1.2.2 dX3_inside_88
  have hB79 : ∀ (u : TS) (H : Heap) (locs : List Loc) (ls : Array Slot), m_X3_inside_79 f u = some (r0, u9) → TH D ad dI dJ A s.heap u H locs → lv_has ls 5 [] → W p l e rm_X3_inside s m args below meth c H locs 0 0 QQ (F0 m 79 ls []) := by
    intro u H locs ls hm hw hl
    rw [m_X3_inside_79] at hm
    refine lv_iconst (v := 0) hx hb dX3_inside_79 (by decide) ?_
    rw [← hQ]
    exact W.iret (v := (0 : Int32)) hx hb hr (fun t ht hW => ⟨⟨(0 : Int32), u, rfl, retE hm, by rw [ht]; exact hw.1, hw.2.1⟩, hw.2.2.1.F ht⟩) hw.2.2.1.2.2 dX3_inside_80
  have hB31 : ∀ (n31 : Nat), ∀ (u : TS) (x4 : Int32) (H : Heap) (locs : List Loc) (ls : Array Slot), m_X3_inside_31 f n31 u x4 = some (r0, u9) → TH D ad dI dJ A s.heap u H locs → lv_has ls 5 [(0, .ref (ad 40)), (4, .int x4)] → W p l e rm_X3_inside s m args below meth c H locs 0 0 QQ (F0 m 31 ls []) := by
    intro n31
    induction n31 with
    | zero => intro u x4 H locs ls hm hw hl; rw [m_X3_inside_31] at hm; exact noE hm
    | succ n31 ih31 =>
      intro u x4 H locs ls hm hw hl
      rw [m_X3_inside_31] at hm
      refine lv_iload hx hb dX3_inside_31 (lv_at hl 1 rfl) ?_
      refine lv_iconst (v := 3) hx hb dX3_inside_33 (by decide) ?_
      refine lv_icmp_ge (tgt := 87) hx hb dX3_inside_34 (by decide) (fun c1 => ?_) (fun c1 => ?_)
      · have hm := ifT hm c1
        exact hB87 u _ _ _ hm hw (lv_sub hl [] rfl)
      · have hm := ifF hm c1
        refine lv_aload_n hx hb dX3_inside_37 rfl (lv_at hl 0 rfl) ?_
        refine lv_aload_n hx hb dX3_inside_38 rfl (lv_at hl 0 rfl) ?_
        refine tg_get C hw 27 (by decide) q1593 rfl dX3_inside_39 ?_
        refine lv_iconst (v := 3) hx hb dX3_inside_42 (by decide) ?_
        refine lv_iload hx hb dX3_inside_43 (lv_at hl 1 rfl) ?_
        refine lv_imul hx hb dX3_inside_45 ?_
        obtain ⟨g2, hm⟩ := gdE hm
        refine tg_lald C hw (tp_27 ad dI dJ u) g2 dX3_inside_46 ?_
        refine lv_aload_n hx hb dX3_inside_47 rfl (lv_at hl 0 rfl) ?_
        refine tg_get C hw 27 (by decide) q1593 rfl dX3_inside_48 ?_
        refine lv_iconst (v := 3) hx hb dX3_inside_51 (by decide) ?_
        refine lv_iload hx hb dX3_inside_52 (lv_at hl 1 rfl) ?_
        refine lv_imul hx hb dX3_inside_54 ?_
        refine lv_iconst (v := 1) hx hb dX3_inside_55 (by decide) ?_
        refine lv_iadd hx hb dX3_inside_56 ?_
        obtain ⟨g3, hm⟩ := gdE hm
        refine tg_lald C hw (tp_27 ad dI dJ u) g3 dX3_inside_57 ?_
        refine lv_aload_n hx hb dX3_inside_58 rfl (lv_at hl 0 rfl) ?_
        refine tg_get C hw 27 (by decide) q1593 rfl dX3_inside_59 ?_
        refine lv_iconst (v := 3) hx hb dX3_inside_62 (by decide) ?_
        refine lv_iload hx hb dX3_inside_63 (lv_at hl 1 rfl) ?_
        refine lv_imul hx hb dX3_inside_65 ?_
        refine lv_iconst (v := 2) hx hb dX3_inside_66 (by decide) ?_
        refine lv_iadd hx hb dX3_inside_67 ?_
        obtain ⟨g4, hm⟩ := gdE hm
        refine tg_lald C hw (tp_27 ad dI dJ u) g4 dX3_inside_68 ?_
        refine lv_aload_n hx hb dX3_inside_69 rfl (lv_at hl 0 rfl) ?_
        refine tg_get C hw 31 (by decide) q1597 rfl dX3_inside_70 ?_
        obtain ⟨r6, u5, er6, hm⟩ := bd2E hm
        refine tg_calli hw (va_runV (As := [.long (tB u 27 (Int32.toNatClampNeg ((3 : Int32) * x4))), .long (tB u 27 (Int32.toNatClampNeg (((3 : Int32) * x4) + (1 : Int32)))), .long (tB u 27 (Int32.toNatClampNeg (((3 : Int32) * x4) + (2 : Int32)))), .long (tL u 31)]) (rest := []) ⟨hx, hb, hml, hown, hts⟩ (w_X3_hasPoint l er6) (cw_X3_hasPoint hts q1901 ⟨Nat.le_of_ble_eq_true rfl, Nat.le_of_ble_eq_true rfl⟩) (tg_pre C hw _) rfl rfl hl.1 rfl (lv_room (Nat.le_of_ble_eq_true rfl)) dX3_inside_73 ⟨Nat.le_of_ble_eq_true rfl, Nat.le_of_ble_eq_true rfl⟩) (fun H locs hw => ?_)
        refine lv_if_ne (tgt := 81) hx hb dX3_inside_76 (by decide) (fun c7 => ?_) (fun c7 => ?_)
        · have hm := ifT hm c7
          obtain ⟨v8, ev8, hm⟩ := nmE hm
          refine lv_iinc (v := v8) (lv' := [(4, .int v8), (0, .ref (ad 40))]) hx hb dX3_inside_81 hl (k := 1) rfl (by rw [ev8]; rfl) (by decide) rfl (fun ls hl => ?_)
          refine lv_goto (tgt := 31) hx hb dX3_inside_84 (by decide) ?_
          exact ih31 u5 v8 _ _ _ hm hw (lv_sub hl [1, 0] rfl)
        · have hm := ifT' hm c7
          exact hB79 u5 _ _ _ hm hw (lv_sub hl [] rfl)
  rw [m_X3_inside] at hm
  refine lv_aload_n hx hb dX3_inside_0 rfl (lv_at hl 0 rfl) ?_
  refine lv_iload_n hx hb dX3_inside_1 rfl (lv_at hl 1 rfl) ?_
  refine lv_iload_n hx hb dX3_inside_2 rfl (lv_at hl 2 rfl) ?_
  obtain ⟨r2, u1, er2, hm⟩ := bd2E hm
  refine tg_calli hw (va_runV (As := [.int x1, .int x2]) (rest := []) ⟨hx, hb, hml, hown, hts⟩ (w_X3_whyNot l er2) (cw_X3_whyNot hts q1909 ⟨Nat.le_of_ble_eq_true rfl, Nat.le_of_ble_eq_true rfl⟩) (tg_pre C hw _) rfl rfl hl.1 rfl (lv_room (Nat.le_of_ble_eq_true rfl)) dX3_inside_3 ⟨Nat.le_of_ble_eq_true rfl, Nat.le_of_ble_eq_true rfl⟩) (fun H locs hw => ?_)
  refine lv_istore_n (lv' := [(3, .int r2), (0, .ref (ad 40)), (1, .int x1), (2, .int x2)]) hx hb dX3_inside_6 rfl hl (by decide) rfl (fun ls hl => ?_)
  refine lv_iload_n hx hb dX3_inside_7 rfl (lv_at hl 0 rfl) ?_
  refine lv_if_ge (tgt := 13) hx hb dX3_inside_8 (by decide) (fun c3 => ?_) (fun c3 => ?_)
  · have hm := ifT hm c3
    refine lv_aload_n hx hb dX3_inside_13 rfl (lv_at hl 1 rfl) ?_
    refine lv_iload_n hx hb dX3_inside_14 rfl (lv_at hl 2 rfl) ?_
    refine lv_iload_n hx hb dX3_inside_15 rfl (lv_at hl 3 rfl) ?_
    obtain ⟨u4, eu4, hm⟩ := bdE hm
    refine tg_callv hw (va_runV (As := [.int x1, .int x2]) (rest := []) ⟨hx, hb, hml, hown, hts⟩ (w_X3_laysBoth l eu4) (cw_X3_laysBoth hts q1913 ⟨Nat.le_of_ble_eq_true rfl, Nat.le_of_ble_eq_true rfl⟩) (tg_pre C hw _) rfl rfl hl.1 rfl (lv_room (Nat.le_of_ble_eq_true rfl)) dX3_inside_16 ⟨Nat.le_of_ble_eq_true rfl, Nat.le_of_ble_eq_true rfl⟩) (fun H locs hw => ?_)
    refine lv_aload_n hx hb dX3_inside_19 rfl (lv_at hl 1 rfl) ?_
    refine lv_iload_n hx hb dX3_inside_20 rfl (lv_at hl 3 rfl) ?_
    obtain ⟨u5, eu5, hm⟩ := bdE hm
    refine tg_callv hw (va_runV (As := [.int x2]) (rest := []) ⟨hx, hb, hml, hown, hts⟩ (w_X3_lays l eu5) (cw_X3_lays hts q1804 ⟨Nat.le_of_ble_eq_true rfl, Nat.le_of_ble_eq_true rfl⟩) (tg_pre C hw _) rfl rfl hl.1 rfl (lv_room (Nat.le_of_ble_eq_true rfl)) dX3_inside_21 ⟨Nat.le_of_ble_eq_true rfl, Nat.le_of_ble_eq_true rfl⟩) (fun H locs hw => ?_)
    refine lv_aload_n hx hb dX3_inside_24 rfl (lv_at hl 1 rfl) ?_
    obtain ⟨u6, eu6, hm⟩ := bdE hm
    refine tg_callv hw (va_runV (As := []) (rest := []) ⟨hx, hb, hml, hown, hts⟩ (w_X3_forms l eu6) (cw_X3_forms hts q1832 ⟨Nat.le_of_ble_eq_true rfl, Nat.le_of_ble_eq_true rfl⟩) (tg_pre C hw _) rfl rfl hl.1 rfl (lv_room (Nat.le_of_ble_eq_true rfl)) dX3_inside_25 ⟨Nat.le_of_ble_eq_true rfl, Nat.le_of_ble_eq_true rfl⟩) (fun H locs hw => ?_)
    refine lv_iconst (v := 0) hx hb dX3_inside_28 (by decide) ?_
    refine lv_istore (lv' := [(4, .int (0 : Int32)), (3, .int r2), (0, .ref (ad 40)), (1, .int x1), (2, .int x2)]) hx hb dX3_inside_29 hl (by decide) rfl (fun ls hl => ?_)
    exact hB31 f u6 (0 : Int32) _ _ _ hm hw (lv_sub hl [2, 0] rfl)
  · have hm := ifF hm c3
    refine lv_iload_n hx hb dX3_inside_11 rfl (lv_at hl 0 rfl) ?_
    rw [← hQ]
    exact W.iret (v := r2) hx hb hr (fun t ht hW => ⟨⟨r2, u1, rfl, retE hm, by rw [ht]; exact hw.1, hw.2.1⟩, hw.2.2.1.F ht⟩) hw.2.2.1.2.2 dX3_inside_12
def m_X3_otherDet_78 (f : Nat) (u : TS) (x1 : Int64) : Option (Int64 × TS) := bd (m_X3_sized f x1) fun r1 =>
    some (r1, u)
def m_X3_otherDet_4 (f : Nat) : Nat → TS → Int64 → Int32 → Option (Int64 × TS)
  | 0, _, _, _ => none
  | n4 + 1, u, x1, x3 => if (3 : Int32) ≤ x3 then
    m_X3_otherDet_78 f u x1
    else gd (ix x3 9) <|
    gd (ix ((3 : Int32) + (rmI (x3 + (1 : Int32)) (3 : Int32))) 9) <|
    gd (ix ((6 : Int32) + (rmI (x3 + (2 : Int32)) (3 : Int32))) 9) <|
    gd (ix ((3 : Int32) + (rmI (x3 + (2 : Int32)) (3 : Int32))) 9) <|
    gd (ix ((6 : Int32) + (rmI (x3 + (1 : Int32)) (3 : Int32))) 9) <|
    nmv ((x1 + ((tB u 29 (Int32.toNatClampNeg x3)) * (((tB u 29 (Int32.toNatClampNeg ((3 : Int32) + (rmI (x3 + (1 : Int32)) (3 : Int32))))) * (tB u 29 (Int32.toNatClampNeg ((6 : Int32) + (rmI (x3 + (2 : Int32)) (3 : Int32)))))) - ((tB u 29 (Int32.toNatClampNeg ((3 : Int32) + (rmI (x3 + (2 : Int32)) (3 : Int32))))) * (tB u 29 (Int32.toNatClampNeg ((6 : Int32) + (rmI (x3 + (1 : Int32)) (3 : Int32))))))))) : Int64) fun v7 =>
    nmv ((x3 + 1) : Int32) fun v8 =>
    m_X3_otherDet_4 f n4 u v7 v8
def m_X3_otherDet (f : Nat) (u : TS) : Option (Int64 × TS) := m_X3_otherDet_4 f f u (0 : Int64) (0 : Int32)
abbrev rm_X3_otherDet : Room := { frames := 1, cells := 0, slots := 0, locals := 21 }
theorem cw_X3_otherDet {R : Room} {s : State} {args : Array Value} {own : String} {idx : Nat} (hts : ∀ w ∈ lw_all, w.before args s = true) (hl : Cond.methodLink own idx yX3_otherDet ∈ lw_all) (hR : rm_X3_otherDet.frames + 1 ≤ R.frames ∧ 8 + (4 + 11) + rm_X3_otherDet.locals ≤ R.locals) : CallW R s args own RX3 idx yX3_otherDet cX3_otherDet 4 (Option.some Jvm.ClassFile.FieldType.long) (ws_ yX3_otherDet cX3_otherDet 4 (Option.some Jvm.ClassFile.FieldType.long)) rm_X3_otherDet 0 0 0 := cwV 0 hts (lw_V hl q1939 qs89 q125 q1940) rfl rfl rfl (by decide +kernel) hR
set_option maxHeartbeats 4000000 in
set_option maxRecDepth 100000 in
theorem w_X3_otherDet (l : Launch) {D : va_G} {ad : Nat → Nat} {dI dJ : ClassId} {A : Nat → Prop} {f : Nat} {u u9 : TS} {r0 : Int64}  (hm : m_X3_otherDet f u = some (r0, u9)) : Met l yX3_otherDet (ws_ yX3_otherDet cX3_otherDet 4 (Option.some Jvm.ClassFile.FieldType.long)) rm_X3_otherDet (va_Pc [.ref (ad 40)] (TPre D ad dI dJ A u)) (va_Ql (fun r u => r = r0 ∧ u = u9) (TPost D ad dI dJ A) A) 0 0 A := by
  refine Met.ofW (cc := cX3_otherDet) (maxL := 4) (ret := (Option.some Jvm.ClassFile.FieldType.long)) (by decide) rfl ?_
  intro p e s m args below meth c s₁ B hml hv
  have hx := B.exec
  have hb := B.bytes
  have hr := B.returns
  have hts := atoms_spec (ws := (ws_ yX3_otherDet cX3_otherDet 4 (Option.some Jvm.ClassFile.FieldType.long))) B.pre
  have hts : ∀ w ∈ lw_all, w.before args s = true := fun w h => hts w (List.mem_cons_of_mem _ h)
  have hown : s.vm.findClass RX3 = some m.cls := findClass_of_methodNamed B.named
  have hlocks := B.notSynchronized
  obtain ⟨hav, hv⟩ := hv
  have C : TC p s m args c cX3_otherDet D dI dJ := ⟨hx, hb, hown, hts, hv.2.1⟩
  have hw : TH D ad dI dJ A s.heap u s.heap [] := ⟨hv.1, hv.2.2.1, va_S.rf, hv.2.2.2⟩
  generalize hQ : MQ below (va_Ql (fun r u => r = r0 ∧ u = u9) (TPost D ad dI dJ A) A) args s 0 0 A = QQ
  have hent := lg_entry_eq m [.ref (ad 40)] 4
  rw [← hav] at hent
  rw [hent]
  have hl := lv_entry ([.ref (ad 40)]) (n := 4) (Nat.le_of_ble_eq_true rfl)
  generalize (lg_sl ([.ref (ad 40)]) ++ List.replicate (4 - (lg_sl ([.ref (ad 40)])).length) Slot.unset).toArray = ls at hl ⊢
  have hl : lv_has ls 4 [(0, .ref (ad 40))] := hl
  change W p l e rm_X3_otherDet s m args below meth c s.heap [] 0 0 QQ (F0 m 0 ls [])
  have hB78 : ∀ (u : TS) (x1 : Int64) (H : Heap) (locs : List Loc) (ls : Array Slot), m_X3_otherDet_78 f u x1 = some (r0, u9) → TH D ad dI dJ A s.heap u H locs → lv_has ls 4 [(1, .long x1)] → W p l e rm_X3_otherDet s m args below meth c H locs 0 0 QQ (F0 m 78 ls []) := by
    intro u x1 H locs ls hm hw hl
    rw [m_X3_otherDet_78] at hm
    refine lv_lload_n hx hb dX3_otherDet_78 rfl (lv_at hl 0 rfl) ?_
    obtain ⟨r1, er1, hm⟩ := bdE hm
    refine scl (va_runS (As := [.long x1]) (rest := []) ⟨hx, hb, hml, hown, hts⟩ (w_X3_sized l er1) (cw_X3_sized hts q1772 ⟨Nat.le_of_ble_eq_true rfl, Nat.le_of_ble_eq_true rfl⟩) (pre_s _) rfl rfl hl.1 rfl (lv_room (Nat.le_of_ble_eq_true rfl)) dX3_otherDet_79 ⟨Nat.le_of_ble_eq_true rfl, Nat.le_of_ble_eq_true rfl⟩) ?_
    rw [← hQ]
    exact W.lret (v := r1) hx hb hr (fun t ht hW => ⟨⟨r1, u, rfl, retE hm, by rw [ht]; exact hw.1, hw.2.1⟩, hw.2.2.1.F ht⟩) hw.2.2.1.2.2 dX3_otherDet_82
  have hB4 : ∀ (n4 : Nat), ∀ (u : TS) (x1 : Int64) (x3 : Int32) (H : Heap) (locs : List Loc) (ls : Array Slot), m_X3_otherDet_4 f n4 u x1 x3 = some (r0, u9) → TH D ad dI dJ A s.heap u H locs → lv_has ls 4 [(0, .ref (ad 40)), (1, .long x1), (3, .int x3)] → W p l e rm_X3_otherDet s m args below meth c H locs 0 0 QQ (F0 m 4 ls []) := by
    intro n4
    induction n4 with
    | zero => intro u x1 x3 H locs ls hm hw hl; rw [m_X3_otherDet_4] at hm; exact noE hm
    | succ n4 ih4 =>
      intro u x1 x3 H locs ls hm hw hl
      rw [m_X3_otherDet_4] at hm
      refine lv_iload_n hx hb dX3_otherDet_4 rfl (lv_at hl 2 rfl) ?_
      refine lv_iconst (v := 3) hx hb dX3_otherDet_5 (by decide) ?_
      refine lv_icmp_ge (tgt := 78) hx hb dX3_otherDet_6 (by decide) (fun c1 => ?_) (fun c1 => ?_)
      · have hm := ifT hm c1
        exact hB78 u x1 _ _ _ hm hw (lv_sub hl [1] rfl)
      · have hm := ifF hm c1
        refine lv_lload_n hx hb dX3_otherDet_9 rfl (lv_at hl 1 rfl) ?_
        refine lv_aload_n hx hb dX3_otherDet_10 rfl (lv_at hl 0 rfl) ?_
        refine tg_get C hw 29 (by decide) q1595 rfl dX3_otherDet_11 ?_
        refine lv_iload_n hx hb dX3_otherDet_14 rfl (lv_at hl 2 rfl) ?_
        obtain ⟨g2, hm⟩ := gdE hm
        refine tg_lald C hw (tp_29 ad dI dJ u) g2 dX3_otherDet_15 ?_
        refine lv_aload_n hx hb dX3_otherDet_16 rfl (lv_at hl 0 rfl) ?_
        refine tg_get C hw 29 (by decide) q1595 rfl dX3_otherDet_17 ?_
        refine lv_iconst (v := 3) hx hb dX3_otherDet_20 (by decide) ?_
        refine lv_iload_n hx hb dX3_otherDet_21 rfl (lv_at hl 2 rfl) ?_
        refine lv_iconst (v := 1) hx hb dX3_otherDet_22 (by decide) ?_
        refine lv_iadd hx hb dX3_otherDet_23 ?_
        refine lv_iconst (v := 3) hx hb dX3_otherDet_24 (by decide) ?_
        refine w_irem hx hb dX3_otherDet_25 (by decide) ?_
        refine lv_iadd hx hb dX3_otherDet_26 ?_
        obtain ⟨g3, hm⟩ := gdE hm
        refine tg_lald C hw (tp_29 ad dI dJ u) g3 dX3_otherDet_27 ?_
        refine lv_aload_n hx hb dX3_otherDet_28 rfl (lv_at hl 0 rfl) ?_
        refine tg_get C hw 29 (by decide) q1595 rfl dX3_otherDet_29 ?_
        refine lv_bipush (v := 6) hx hb dX3_otherDet_32 (by decide) ?_
        refine lv_iload_n hx hb dX3_otherDet_34 rfl (lv_at hl 2 rfl) ?_
        refine lv_iconst (v := 2) hx hb dX3_otherDet_35 (by decide) ?_
        refine lv_iadd hx hb dX3_otherDet_36 ?_
        refine lv_iconst (v := 3) hx hb dX3_otherDet_37 (by decide) ?_
        refine w_irem hx hb dX3_otherDet_38 (by decide) ?_
        refine lv_iadd hx hb dX3_otherDet_39 ?_
        obtain ⟨g4, hm⟩ := gdE hm
        refine tg_lald C hw (tp_29 ad dI dJ u) g4 dX3_otherDet_40 ?_
        refine lv_lmul hx hb dX3_otherDet_41 ?_
        refine lv_aload_n hx hb dX3_otherDet_42 rfl (lv_at hl 0 rfl) ?_
        refine tg_get C hw 29 (by decide) q1595 rfl dX3_otherDet_43 ?_
        refine lv_iconst (v := 3) hx hb dX3_otherDet_46 (by decide) ?_
        refine lv_iload_n hx hb dX3_otherDet_47 rfl (lv_at hl 2 rfl) ?_
        refine lv_iconst (v := 2) hx hb dX3_otherDet_48 (by decide) ?_
        refine lv_iadd hx hb dX3_otherDet_49 ?_
        refine lv_iconst (v := 3) hx hb dX3_otherDet_50 (by decide) ?_
        refine w_irem hx hb dX3_otherDet_51 (by decide) ?_
        refine lv_iadd hx hb dX3_otherDet_52 ?_
        obtain ⟨g5, hm⟩ := gdE hm
        refine tg_lald C hw (tp_29 ad dI dJ u) g5 dX3_otherDet_53 ?_
        refine lv_aload_n hx hb dX3_otherDet_54 rfl (lv_at hl 0 rfl) ?_
        refine tg_get C hw 29 (by decide) q1595 rfl dX3_otherDet_55 ?_
        refine lv_bipush (v := 6) hx hb dX3_otherDet_58 (by decide) ?_
        refine lv_iload_n hx hb dX3_otherDet_60 rfl (lv_at hl 2 rfl) ?_
        refine lv_iconst (v := 1) hx hb dX3_otherDet_61 (by decide) ?_
        refine lv_iadd hx hb dX3_otherDet_62 ?_
        refine lv_iconst (v := 3) hx hb dX3_otherDet_63 (by decide) ?_
        refine w_irem hx hb dX3_otherDet_64 (by decide) ?_
        refine lv_iadd hx hb dX3_otherDet_65 ?_
        obtain ⟨g6, hm⟩ := gdE hm
        refine tg_lald C hw (tp_29 ad dI dJ u) g6 dX3_otherDet_66 ?_
        refine lv_lmul hx hb dX3_otherDet_67 ?_
        refine lv_lsub hx hb dX3_otherDet_68 ?_
        refine lv_lmul hx hb dX3_otherDet_69 ?_
        refine lv_ladd hx hb dX3_otherDet_70 ?_
        refine lv_topl (fun v7 ev7 => ?_)
        have hm := nmK hm ev7
        refine lv_lstore_n (lv' := [(1, .long v7), (0, .ref (ad 40)), (3, .int x3)]) hx hb dX3_otherDet_71 rfl hl (by decide) rfl (fun ls hl => ?_)
        obtain ⟨v8, ev8, hm⟩ := nmE hm
        refine lv_iinc (v := v8) (lv' := [(3, .int v8), (1, .long v7), (0, .ref (ad 40))]) hx hb dX3_otherDet_72 hl (k := 2) rfl (by rw [ev8]; rfl) (by decide) rfl (fun ls hl => ?_)
        refine lv_goto (tgt := 4) hx hb dX3_otherDet_75 (by decide) ?_
        exact ih4 u v7 v8 _ _ _ hm hw (lv_sub hl [2, 1, 0] rfl)
  rw [m_X3_otherDet] at hm
  refine lv_lconst (v := 0) hx hb dX3_otherDet_0 (by decide) ?_
  refine lv_lstore_n (lv' := [(1, .long (0 : Int64)), (0, .ref (ad 40))]) hx hb dX3_otherDet_1 rfl hl (by decide) rfl (fun ls hl => ?_)
  refine lv_iconst (v := 0) hx hb dX3_otherDet_2 (by decide) ?_
  refine lv_istore_n (lv' := [(3, .int (0 : Int32)), (1, .long (0 : Int64)), (0, .ref (ad 40))]) hx hb dX3_otherDet_3 rfl hl (by decide) rfl (fun ls hl => ?_)
  exact hB4 f u (0 : Int64) (0 : Int32) _ _ _ hm hw (lv_sub hl [2, 1, 0] rfl)
def m_X3_adjugate (f : Nat) (u : TS) (x1 : Int32) (x2 : Int32) : Option (Int64 × TS) := nmv ((rmI (x2 + (1 : Int32)) (3 : Int32)) : Int32) fun v1 =>
    nmv ((rmI (x2 + (2 : Int32)) (3 : Int32)) : Int32) fun v2 =>
    nmv ((rmI (x1 + (1 : Int32)) (3 : Int32)) : Int32) fun v3 =>
    nmv ((rmI (x1 + (2 : Int32)) (3 : Int32)) : Int32) fun v4 =>
    gd (ix (((3 : Int32) * v1) + v3) 9) <|
    gd (ix (((3 : Int32) * v2) + v4) 9) <|
    gd (ix (((3 : Int32) * v1) + v4) 9) <|
    gd (ix (((3 : Int32) * v2) + v3) 9) <|
    some ((((tB u 29 (Int32.toNatClampNeg (((3 : Int32) * v1) + v3))) * (tB u 29 (Int32.toNatClampNeg (((3 : Int32) * v2) + v4)))) - ((tB u 29 (Int32.toNatClampNeg (((3 : Int32) * v1) + v4))) * (tB u 29 (Int32.toNatClampNeg (((3 : Int32) * v2) + v3))))), u)
abbrev rm_X3_adjugate : Room := { frames := 0, cells := 0, slots := 0, locals := 0 }
theorem cw_X3_adjugate {R : Room} {s : State} {args : Array Value} {own : String} {idx : Nat} (hts : ∀ w ∈ lw_all, w.before args s = true) (hl : Cond.methodLink own idx yX3_adjugate ∈ lw_all) (hR : rm_X3_adjugate.frames + 1 ≤ R.frames ∧ 8 + (7 + 11) + rm_X3_adjugate.locals ≤ R.locals) : CallW R s args own RX3 idx yX3_adjugate cX3_adjugate 7 (Option.some Jvm.ClassFile.FieldType.long) (ws_ yX3_adjugate cX3_adjugate 7 (Option.some Jvm.ClassFile.FieldType.long)) rm_X3_adjugate 0 0 2 := cwV 2 hts (lw_V hl q1943 qs90 q125 q1944) rfl rfl rfl (by decide +kernel) hR
set_option maxHeartbeats 4000000 in
set_option maxRecDepth 100000 in
theorem w_X3_adjugate (l : Launch) {D : va_G} {ad : Nat → Nat} {dI dJ : ClassId} {A : Nat → Prop} {f : Nat} {u u9 : TS} {r0 : Int64} {x1 : Int32} {x2 : Int32} (hm : m_X3_adjugate f u x1 x2 = some (r0, u9)) : Met l yX3_adjugate (ws_ yX3_adjugate cX3_adjugate 7 (Option.some Jvm.ClassFile.FieldType.long)) rm_X3_adjugate (va_Pc [.ref (ad 40), .int x1, .int x2] (TPre D ad dI dJ A u)) (va_Ql (fun r u => r = r0 ∧ u = u9) (TPost D ad dI dJ A) A) 0 0 A := by
  refine Met.ofW (cc := cX3_adjugate) (maxL := 7) (ret := (Option.some Jvm.ClassFile.FieldType.long)) (by decide) rfl ?_
  intro p e s m args below meth c s₁ B hml hv
  have hx := B.exec
  have hb := B.bytes
  have hr := B.returns
  have hts := atoms_spec (ws := (ws_ yX3_adjugate cX3_adjugate 7 (Option.some Jvm.ClassFile.FieldType.long))) B.pre
  have hts : ∀ w ∈ lw_all, w.before args s = true := fun w h => hts w (List.mem_cons_of_mem _ h)
  have hown : s.vm.findClass RX3 = some m.cls := findClass_of_methodNamed B.named
  have hlocks := B.notSynchronized
  obtain ⟨hav, hv⟩ := hv
  have C : TC p s m args c cX3_adjugate D dI dJ := ⟨hx, hb, hown, hts, hv.2.1⟩
  have hw : TH D ad dI dJ A s.heap u s.heap [] := ⟨hv.1, hv.2.2.1, va_S.rf, hv.2.2.2⟩
  generalize hQ : MQ below (va_Ql (fun r u => r = r0 ∧ u = u9) (TPost D ad dI dJ A) A) args s 0 0 A = QQ
  have hent := lg_entry_eq m [.ref (ad 40), .int x1, .int x2] 7
  rw [← hav] at hent
  rw [hent]
  have hl := lv_entry ([.ref (ad 40), .int x1, .int x2]) (n := 7) (Nat.le_of_ble_eq_true rfl)
  generalize (lg_sl ([.ref (ad 40), .int x1, .int x2]) ++ List.replicate (7 - (lg_sl ([.ref (ad 40), .int x1, .int x2])).length) Slot.unset).toArray = ls at hl ⊢
  have hl : lv_has ls 7 [(0, .ref (ad 40)), (1, .int x1), (2, .int x2)] := hl
  change W p l e rm_X3_adjugate s m args below meth c s.heap [] 0 0 QQ (F0 m 0 ls [])
  rw [m_X3_adjugate] at hm
  refine lv_iload_n hx hb dX3_adjugate_0 rfl (lv_at hl 2 rfl) ?_
  refine lv_iconst (v := 1) hx hb dX3_adjugate_1 (by decide) ?_
  refine lv_iadd hx hb dX3_adjugate_2 ?_
  refine lv_iconst (v := 3) hx hb dX3_adjugate_3 (by decide) ?_
  refine w_irem hx hb dX3_adjugate_4 (by decide) ?_
  refine lv_topi (fun v1 ev1 => ?_)
  have hm := nmK hm ev1
  refine lv_istore_n (lv' := [(3, .int v1), (0, .ref (ad 40)), (1, .int x1), (2, .int x2)]) hx hb dX3_adjugate_5 rfl hl (by decide) rfl (fun ls hl => ?_)
  refine lv_iload_n hx hb dX3_adjugate_6 rfl (lv_at hl 3 rfl) ?_
  refine lv_iconst (v := 2) hx hb dX3_adjugate_7 (by decide) ?_
  refine lv_iadd hx hb dX3_adjugate_8 ?_
  refine lv_iconst (v := 3) hx hb dX3_adjugate_9 (by decide) ?_
  refine w_irem hx hb dX3_adjugate_10 (by decide) ?_
  refine lv_topi (fun v2 ev2 => ?_)
  have hm := nmK hm ev2
  refine lv_istore (lv' := [(4, .int v2), (3, .int v1), (0, .ref (ad 40)), (1, .int x1), (2, .int x2)]) hx hb dX3_adjugate_11 hl (by decide) rfl (fun ls hl => ?_)
  refine lv_iload_n hx hb dX3_adjugate_13 rfl (lv_at hl 3 rfl) ?_
  refine lv_iconst (v := 1) hx hb dX3_adjugate_14 (by decide) ?_
  refine lv_iadd hx hb dX3_adjugate_15 ?_
  refine lv_iconst (v := 3) hx hb dX3_adjugate_16 (by decide) ?_
  refine w_irem hx hb dX3_adjugate_17 (by decide) ?_
  refine lv_topi (fun v3 ev3 => ?_)
  have hm := nmK hm ev3
  refine lv_istore (lv' := [(5, .int v3), (4, .int v2), (3, .int v1), (0, .ref (ad 40)), (1, .int x1), (2, .int x2)]) hx hb dX3_adjugate_18 hl (by decide) rfl (fun ls hl => ?_)
  refine lv_iload_n hx hb dX3_adjugate_20 rfl (lv_at hl 4 rfl) ?_
  refine lv_iconst (v := 2) hx hb dX3_adjugate_21 (by decide) ?_
  refine lv_iadd hx hb dX3_adjugate_22 ?_
  refine lv_iconst (v := 3) hx hb dX3_adjugate_23 (by decide) ?_
  refine w_irem hx hb dX3_adjugate_24 (by decide) ?_
  refine lv_topi (fun v4 ev4 => ?_)
  have hm := nmK hm ev4
  refine lv_istore (lv' := [(6, .int v4), (5, .int v3), (4, .int v2), (3, .int v1), (0, .ref (ad 40)), (1, .int x1), (2, .int x2)]) hx hb dX3_adjugate_25 hl (by decide) rfl (fun ls hl => ?_)
  refine lv_aload_n hx hb dX3_adjugate_27 rfl (lv_at hl 4 rfl) ?_
  refine tg_get C hw 29 (by decide) q1595 rfl dX3_adjugate_28 ?_
  refine lv_iconst (v := 3) hx hb dX3_adjugate_31 (by decide) ?_
  refine lv_iload_n hx hb dX3_adjugate_32 rfl (lv_at hl 3 rfl) ?_
  refine lv_imul hx hb dX3_adjugate_33 ?_
  refine lv_iload hx hb dX3_adjugate_34 (lv_at hl 1 rfl) ?_
  refine lv_iadd hx hb dX3_adjugate_36 ?_
  obtain ⟨g5, hm⟩ := gdE hm
  refine tg_lald C hw (tp_29 ad dI dJ u) g5 dX3_adjugate_37 ?_
  refine lv_aload_n hx hb dX3_adjugate_38 rfl (lv_at hl 4 rfl) ?_
  refine tg_get C hw 29 (by decide) q1595 rfl dX3_adjugate_39 ?_
  refine lv_iconst (v := 3) hx hb dX3_adjugate_42 (by decide) ?_
  refine lv_iload hx hb dX3_adjugate_43 (lv_at hl 2 rfl) ?_
  refine lv_imul hx hb dX3_adjugate_45 ?_
  refine lv_iload hx hb dX3_adjugate_46 (lv_at hl 0 rfl) ?_
  refine lv_iadd hx hb dX3_adjugate_48 ?_
  obtain ⟨g6, hm⟩ := gdE hm
  refine tg_lald C hw (tp_29 ad dI dJ u) g6 dX3_adjugate_49 ?_
  refine lv_lmul hx hb dX3_adjugate_50 ?_
  refine lv_aload_n hx hb dX3_adjugate_51 rfl (lv_at hl 4 rfl) ?_
  refine tg_get C hw 29 (by decide) q1595 rfl dX3_adjugate_52 ?_
  refine lv_iconst (v := 3) hx hb dX3_adjugate_55 (by decide) ?_
  refine lv_iload_n hx hb dX3_adjugate_56 rfl (lv_at hl 3 rfl) ?_
  refine lv_imul hx hb dX3_adjugate_57 ?_
  refine lv_iload hx hb dX3_adjugate_58 (lv_at hl 0 rfl) ?_
  refine lv_iadd hx hb dX3_adjugate_60 ?_
  obtain ⟨g7, hm⟩ := gdE hm
  refine tg_lald C hw (tp_29 ad dI dJ u) g7 dX3_adjugate_61 ?_
  refine lv_aload_n hx hb dX3_adjugate_62 rfl (lv_at hl 4 rfl) ?_
  refine tg_get C hw 29 (by decide) q1595 rfl dX3_adjugate_63 ?_
  refine lv_iconst (v := 3) hx hb dX3_adjugate_66 (by decide) ?_
  refine lv_iload hx hb dX3_adjugate_67 (lv_at hl 2 rfl) ?_
  refine lv_imul hx hb dX3_adjugate_69 ?_
  refine lv_iload hx hb dX3_adjugate_70 (lv_at hl 1 rfl) ?_
  refine lv_iadd hx hb dX3_adjugate_72 ?_
  obtain ⟨g8, hm⟩ := gdE hm
  refine tg_lald C hw (tp_29 ad dI dJ u) g8 dX3_adjugate_73 ?_
  refine lv_lmul hx hb dX3_adjugate_74 ?_
  refine lv_lsub hx hb dX3_adjugate_75 ?_
  rw [← hQ]
  exact W.lret (v := (((tB u 29 (Int32.toNatClampNeg (((3 : Int32) * v1) + v3))) * (tB u 29 (Int32.toNatClampNeg (((3 : Int32) * v2) + v4)))) - ((tB u 29 (Int32.toNatClampNeg (((3 : Int32) * v1) + v4))) * (tB u 29 (Int32.toNatClampNeg (((3 : Int32) * v2) + v3)))))) hx hb hr (fun t ht hW => ⟨⟨(((tB u 29 (Int32.toNatClampNeg (((3 : Int32) * v1) + v3))) * (tB u 29 (Int32.toNatClampNeg (((3 : Int32) * v2) + v4)))) - ((tB u 29 (Int32.toNatClampNeg (((3 : Int32) * v1) + v4))) * (tB u 29 (Int32.toNatClampNeg (((3 : Int32) * v2) + v3))))), u, rfl, retE hm, by rw [ht]; exact hw.1, hw.2.1⟩, hw.2.2.1.F ht⟩) hw.2.2.1.2.2 dX3_adjugate_76
def m_J9_floorMod_25 (f : Nat) (x4 : Int64) : Option Int64 := some x4
def m_J9_floorMod (f : Nat) (x0 : Int64) (x2 : Int64) : Option Int64 := gd (nzL x2) <|
    nmv ((rmL x0 x2) : Int64) fun v2 =>
    if (0 : Int64) ≤ (x0 ^^^ x2) then
    m_J9_floorMod_25 f v2
    else if v2 = (0 : Int64) then
    m_J9_floorMod_25 f v2
    else some (v2 + x2)
abbrev rm_J9_floorMod : Room := { frames := 0, cells := 0, slots := 0, locals := 0 }
theorem cw_J9_floorMod {R : Room} {s : State} {args : Array Value} {own : String} {idx : Nat} (hts : ∀ w ∈ lw_all, w.before args s = true) (hl : Cond.methodLink own idx yJ9_floorMod ∈ lw_all) (hR : rm_J9_floorMod.frames + 1 ≤ R.frames ∧ 8 + (6 + 11) + rm_J9_floorMod.locals ≤ R.locals) : CallB R s args own idx yJ9_floorMod cJ9_floorMod 6 (Option.some Jvm.ClassFile.FieldType.long) (ws_ yJ9_floorMod cJ9_floorMod 6 (Option.some Jvm.ClassFile.FieldType.long)) rm_J9_floorMod 0 0 2 ∧ (Cond.static yJ9_floorMod).before args s = true := va_cwS 2 hts (lw_S hl q1129 q134 q1130) rfl rfl rfl (by decide +kernel) hR
set_option maxHeartbeats 4000000 in
set_option maxRecDepth 100000 in
theorem w_J9_floorMod (l : Launch) {f : Nat} {x0 : Int64} {x2 : Int64} {r0 : Int64} (hm : m_J9_floorMod f x0 x2 = some r0) : Met l yJ9_floorMod (ws_ yJ9_floorMod cJ9_floorMod 6 (Option.some Jvm.ClassFile.FieldType.long)) rm_J9_floorMod (va_Pc [.long x0, .long x2] (fun _ => True)) (vp_Sl (fun r => r = r0)) 0 0 (fun _ => False) := by
  refine metOfWF (cc := cJ9_floorMod) (maxL := 6) (ret := (Option.some Jvm.ClassFile.FieldType.long)) (by decide +kernel) rfl ?_
  intro p e s m args below meth c s₁ B hml hv
  have hx := B.exec
  have hb := B.bytes
  have hr := B.returns
  have hts := atoms_spec (ws := (ws_ yJ9_floorMod cJ9_floorMod 6 (Option.some Jvm.ClassFile.FieldType.long))) B.pre
  have hts : ∀ w ∈ lw_all, w.before args s = true := fun w h => hts w (List.mem_cons_of_mem _ h)
  have hown : s.vm.findClass RJ9 = some m.cls := findClass_of_methodNamed B.named
  have hlocks := B.notSynchronized
  obtain ⟨hav, hv⟩ := hv
  generalize hQ : MQ below (vp_Sl (fun r => r = r0)) args s 0 0 (fun _ => False) = QQ
  have hent := lg_entry_eq m [.long x0, .long x2] 6
  rw [← hav] at hent
  rw [hent]
  have hl := lv_entry ([.long x0, .long x2]) (n := 6) (Nat.le_of_ble_eq_true rfl)
  generalize (lg_sl ([.long x0, .long x2]) ++ List.replicate (6 - (lg_sl ([.long x0, .long x2])).length) Slot.unset).toArray = ls at hl ⊢
  have hl : lv_has ls 6 [(0, .long x0), (2, .long x2)] := hl
  change W p l e rm_J9_floorMod s m args below meth c s.heap [] 0 0 QQ (F0 m 0 ls [])
  have hB25 : ∀ (x4 : Int64) (ls : Array Slot), m_J9_floorMod_25 f x4 = some r0 → lv_has ls 6 [(4, .long x4)] → W p l e rm_J9_floorMod s m args below meth c s.heap [] 0 0 QQ (F0 m 25 ls []) := by
    intro x4 ls hm hl
    rw [m_J9_floorMod_25] at hm
    refine lv_lload hx hb dJ9_floorMod_25 (lv_at hl 0 rfl) ?_
    rw [← hQ]
    exact W.lret (v := x4) hx hb hr (fun t ht hW => ⟨x4, rfl, ret1 hm, ht⟩) (fun q h => absurd h List.not_mem_nil) dJ9_floorMod_27
  rw [m_J9_floorMod] at hm
  refine lv_lload_n hx hb dJ9_floorMod_0 rfl (lv_at hl 0 rfl) ?_
  refine lv_lload_n hx hb dJ9_floorMod_1 rfl (lv_at hl 1 rfl) ?_
  obtain ⟨g1, hm⟩ := gdE hm
  refine w_lrem hx hb dJ9_floorMod_2 (nzL_ne g1) ?_
  refine lv_topl (fun v2 ev2 => ?_)
  have hm := nmK hm ev2
  refine lv_lstore (lv' := [(4, .long v2), (0, .long x0), (2, .long x2)]) hx hb dJ9_floorMod_3 hl (by decide) rfl (fun ls hl => ?_)
  refine lv_lload_n hx hb dJ9_floorMod_5 rfl (lv_at hl 1 rfl) ?_
  refine lv_lload_n hx hb dJ9_floorMod_6 rfl (lv_at hl 2 rfl) ?_
  refine lv_lxor hx hb dJ9_floorMod_7 ?_
  refine lv_lconst (v := 0) hx hb dJ9_floorMod_8 (by decide) ?_
  refine lc_ge (tgt := 25) hx hb dJ9_floorMod_9 dJ9_floorMod_10 (by decide) (fun c3 => ?_) (fun c3 => ?_)
  · have hm := ifT hm c3
    exact hB25 v2 _ hm (lv_sub hl [0] rfl)
  · have hm := ifF hm c3
    refine lv_lload hx hb dJ9_floorMod_13 (lv_at hl 0 rfl) ?_
    refine lv_lconst (v := 0) hx hb dJ9_floorMod_15 (by decide) ?_
    refine lc_eq (tgt := 25) hx hb dJ9_floorMod_16 dJ9_floorMod_17 (by decide) (fun c4 => ?_) (fun c4 => ?_)
    · have hm := ifT hm c4
      exact hB25 v2 _ hm (lv_sub hl [0] rfl)
    · have hm := ifF hm c4
      refine lv_lload hx hb dJ9_floorMod_20 (lv_at hl 0 rfl) ?_
      refine lv_lload_n hx hb dJ9_floorMod_22 rfl (lv_at hl 2 rfl) ?_
      refine lv_ladd hx hb dJ9_floorMod_23 ?_
      rw [← hQ]
      exact W.lret (v := (v2 + x2)) hx hb hr (fun t ht hW => ⟨(v2 + x2), rfl, ret1 hm, ht⟩) (fun q h => absurd h List.not_mem_nil) dJ9_floorMod_24
def m_X3_smallens_56 (f : Nat) (u : TS) : Option TS := some u
def m_X3_smallens_32 (f : Nat) : Nat → TS → Int32 → Option TS
  | 0, _, _ => none
  | n32 + 1, u, x1 => if (9 : Int32) ≤ x1 then
    m_X3_smallens_56 f u
    else gd (ix x1 9) <|
    gd (ix x1 9) <|
    nmv (sB u 32 (Int32.toNatClampNeg x1) (tB u 18 (Int32.toNatClampNeg x1))) fun u4 =>
    nmv ((x1 + 1) : Int32) fun v5 =>
    m_X3_smallens_32 f n32 u4 v5
def m_X3_smallens_26 (f : Nat) (u : TS) : Option TS := bd (m_X3_forms f u) fun u1 =>
    m_X3_smallens_32 f f u1 (0 : Int32)
def m_X3_smallens_2 (f : Nat) : Nat → TS → Int32 → Option TS
  | 0, _, _ => none
  | n2 + 1, u, x1 => if (9 : Int32) ≤ x1 then
    m_X3_smallens_26 f u
    else gd (ix x1 9) <|
    gd (ix x1 9) <|
    nmv (sB u 18 (Int32.toNatClampNeg x1) (tB u 32 (Int32.toNatClampNeg x1))) fun u4 =>
    nmv ((x1 + 1) : Int32) fun v5 =>
    m_X3_smallens_2 f n2 u4 v5
def m_X3_smallens (f : Nat) (u : TS) : Option TS := m_X3_smallens_2 f f u (0 : Int32)
abbrev rm_X3_smallens : Room := { frames := 3, cells := 0, slots := 0, locals := 74 }
theorem cw_X3_smallens {R : Room} {s : State} {args : Array Value} {own : String} {idx : Nat} (hts : ∀ w ∈ lw_all, w.before args s = true) (hl : Cond.methodLink own idx yX3_smallens ∈ lw_all) (hR : rm_X3_smallens.frames + 1 ≤ R.frames ∧ 8 + (2 + 11) + rm_X3_smallens.locals ≤ R.locals) : CallW R s args own RX3 idx yX3_smallens cX3_smallens 2 (Option.none : Option Jvm.ClassFile.FieldType) (ws_ yX3_smallens cX3_smallens 2 (Option.none : Option Jvm.ClassFile.FieldType)) rm_X3_smallens 0 0 0 := cwV 0 hts (lw_V hl q1952 qs92 q125 q1953) rfl rfl rfl (by decide +kernel) hR
set_option maxHeartbeats 4000000 in
set_option maxRecDepth 100000 in
theorem w_X3_smallens (l : Launch) {D : va_G} {ad : Nat → Nat} {dI dJ : ClassId} {A : Nat → Prop} {f : Nat} {u u9 : TS}  (hm : m_X3_smallens f u = some u9) : Met l yX3_smallens (ws_ yX3_smallens cX3_smallens 2 (Option.none : Option Jvm.ClassFile.FieldType)) rm_X3_smallens (va_Pc [.ref (ad 40)] (TPre D ad dI dJ A u)) (va_Qv (fun u => u = u9) (TPost D ad dI dJ A) A) 0 0 A := by
  refine Met.ofW (cc := cX3_smallens) (maxL := 2) (ret := (Option.none : Option Jvm.ClassFile.FieldType)) (by decide) rfl ?_
  intro p e s m args below meth c s₁ B hml hv
  have hx := B.exec
  have hb := B.bytes
  have hr := B.returns
  have hts := atoms_spec (ws := (ws_ yX3_smallens cX3_smallens 2 (Option.none : Option Jvm.ClassFile.FieldType))) B.pre
  have hts : ∀ w ∈ lw_all, w.before args s = true := fun w h => hts w (List.mem_cons_of_mem _ h)
  have hown : s.vm.findClass RX3 = some m.cls := findClass_of_methodNamed B.named
  have hlocks := B.notSynchronized
  obtain ⟨hav, hv⟩ := hv
  have C : TC p s m args c cX3_smallens D dI dJ := ⟨hx, hb, hown, hts, hv.2.1⟩
  have hw : TH D ad dI dJ A s.heap u s.heap [] := ⟨hv.1, hv.2.2.1, va_S.rf, hv.2.2.2⟩
  generalize hQ : MQ below (va_Qv (fun u => u = u9) (TPost D ad dI dJ A) A) args s 0 0 A = QQ
  have hent := lg_entry_eq m [.ref (ad 40)] 2
  rw [← hav] at hent
  rw [hent]
  have hl := lv_entry ([.ref (ad 40)]) (n := 2) (Nat.le_of_ble_eq_true rfl)
  generalize (lg_sl ([.ref (ad 40)]) ++ List.replicate (2 - (lg_sl ([.ref (ad 40)])).length) Slot.unset).toArray = ls at hl ⊢
  have hl : lv_has ls 2 [(0, .ref (ad 40))] := hl
  change W p l e rm_X3_smallens s m args below meth c s.heap [] 0 0 QQ (F0 m 0 ls [])
  have hB56 : ∀ (u : TS) (H : Heap) (locs : List Loc) (ls : Array Slot), m_X3_smallens_56 f u = some u9 → TH D ad dI dJ A s.heap u H locs → lv_has ls 2 [] → W p l e rm_X3_smallens s m args below meth c H locs 0 0 QQ (F0 m 56 ls []) := by
    intro u H locs ls hm hw hl
    rw [m_X3_smallens_56] at hm
    rw [← hQ]
    exact W.vret hx hb hr (fun t ht hW => ⟨⟨u, rfl, ret1 hm, by rw [ht]; exact hw.1, hw.2.1⟩, hw.2.2.1.F ht⟩) hw.2.2.1.2.2 dX3_smallens_56
  have hB32 : ∀ (n32 : Nat), ∀ (u : TS) (x1 : Int32) (H : Heap) (locs : List Loc) (ls : Array Slot), m_X3_smallens_32 f n32 u x1 = some u9 → TH D ad dI dJ A s.heap u H locs → lv_has ls 2 [(0, .ref (ad 40)), (1, .int x1)] → W p l e rm_X3_smallens s m args below meth c H locs 0 0 QQ (F0 m 32 ls []) := by
    intro n32
    induction n32 with
    | zero => intro u x1 H locs ls hm hw hl; rw [m_X3_smallens_32] at hm; exact noE hm
    | succ n32 ih32 =>
      intro u x1 H locs ls hm hw hl
      rw [m_X3_smallens_32] at hm
      refine lv_iload_n hx hb dX3_smallens_32 rfl (lv_at hl 1 rfl) ?_
      refine lv_bipush (v := 9) hx hb dX3_smallens_33 (by decide) ?_
      refine lv_icmp_ge (tgt := 56) hx hb dX3_smallens_35 (by decide) (fun c1 => ?_) (fun c1 => ?_)
      · have hm := ifT hm c1
        exact hB56 u _ _ _ hm hw (lv_sub hl [] rfl)
      · have hm := ifF hm c1
        refine lv_aload_n hx hb dX3_smallens_38 rfl (lv_at hl 0 rfl) ?_
        refine tg_get C hw 32 (by decide) q1598 rfl dX3_smallens_39 ?_
        refine lv_iload_n hx hb dX3_smallens_42 rfl (lv_at hl 1 rfl) ?_
        refine lv_aload_n hx hb dX3_smallens_43 rfl (lv_at hl 0 rfl) ?_
        refine tg_get C hw 18 (by decide) q1584 rfl dX3_smallens_44 ?_
        refine lv_iload_n hx hb dX3_smallens_47 rfl (lv_at hl 1 rfl) ?_
        obtain ⟨g2, hm⟩ := gdE hm
        refine tg_lald C hw (tp_18 ad dI dJ u) g2 dX3_smallens_48 ?_
        obtain ⟨g3, hm⟩ := gdE hm
        refine tg_last C hw (tp_32 ad dI dJ u) g3 (ts_32 ad dI dJ u _ _) dX3_smallens_49 (fun H locs hw => ?_)
        obtain ⟨u4, eu4, hm⟩ := nmE hm
        rw [← eu4] at hw
        obtain ⟨v5, ev5, hm⟩ := nmE hm
        refine lv_iinc (v := v5) (lv' := [(1, .int v5), (0, .ref (ad 40))]) hx hb dX3_smallens_50 hl (k := 1) rfl (by rw [ev5]; rfl) (by decide) rfl (fun ls hl => ?_)
        refine lv_goto (tgt := 32) hx hb dX3_smallens_53 (by decide) ?_
        exact ih32 u4 v5 _ _ _ hm hw (lv_sub hl [1, 0] rfl)
  have hB26 : ∀ (u : TS) (H : Heap) (locs : List Loc) (ls : Array Slot), m_X3_smallens_26 f u = some u9 → TH D ad dI dJ A s.heap u H locs → lv_has ls 2 [(0, .ref (ad 40))] → W p l e rm_X3_smallens s m args below meth c H locs 0 0 QQ (F0 m 26 ls []) := by
    intro u H locs ls hm hw hl
    rw [m_X3_smallens_26] at hm
    refine lv_aload_n hx hb dX3_smallens_26 rfl (lv_at hl 0 rfl) ?_
    obtain ⟨u1, eu1, hm⟩ := bdE hm
    refine tg_callv hw (va_runV (As := []) (rest := []) ⟨hx, hb, hml, hown, hts⟩ (w_X3_forms l eu1) (cw_X3_forms hts q1832 ⟨Nat.le_of_ble_eq_true rfl, Nat.le_of_ble_eq_true rfl⟩) (tg_pre C hw _) rfl rfl hl.1 rfl (lv_room (Nat.le_of_ble_eq_true rfl)) dX3_smallens_27 ⟨Nat.le_of_ble_eq_true rfl, Nat.le_of_ble_eq_true rfl⟩) (fun H locs hw => ?_)
    refine lv_iconst (v := 0) hx hb dX3_smallens_30 (by decide) ?_
    refine lv_istore_n (lv' := [(1, .int (0 : Int32)), (0, .ref (ad 40))]) hx hb dX3_smallens_31 rfl hl (by decide) rfl (fun ls hl => ?_)
    exact hB32 f u1 (0 : Int32) _ _ _ hm hw (lv_sub hl [1, 0] rfl)
  have hB2 : ∀ (n2 : Nat), ∀ (u : TS) (x1 : Int32) (H : Heap) (locs : List Loc) (ls : Array Slot), m_X3_smallens_2 f n2 u x1 = some u9 → TH D ad dI dJ A s.heap u H locs → lv_has ls 2 [(0, .ref (ad 40)), (1, .int x1)] → W p l e rm_X3_smallens s m args below meth c H locs 0 0 QQ (F0 m 2 ls []) := by
    intro n2
    induction n2 with
    | zero => intro u x1 H locs ls hm hw hl; rw [m_X3_smallens_2] at hm; exact noE hm
    | succ n2 ih2 =>
      intro u x1 H locs ls hm hw hl
      rw [m_X3_smallens_2] at hm
      refine lv_iload_n hx hb dX3_smallens_2 rfl (lv_at hl 1 rfl) ?_
      refine lv_bipush (v := 9) hx hb dX3_smallens_3 (by decide) ?_
      refine lv_icmp_ge (tgt := 26) hx hb dX3_smallens_5 (by decide) (fun c1 => ?_) (fun c1 => ?_)
      · have hm := ifT hm c1
        exact hB26 u _ _ _ hm hw (lv_sub hl [0] rfl)
      · have hm := ifF hm c1
        refine lv_aload_n hx hb dX3_smallens_8 rfl (lv_at hl 0 rfl) ?_
        refine tg_get C hw 18 (by decide) q1584 rfl dX3_smallens_9 ?_
        refine lv_iload_n hx hb dX3_smallens_12 rfl (lv_at hl 1 rfl) ?_
        refine lv_aload_n hx hb dX3_smallens_13 rfl (lv_at hl 0 rfl) ?_
        refine tg_get C hw 32 (by decide) q1598 rfl dX3_smallens_14 ?_
        refine lv_iload_n hx hb dX3_smallens_17 rfl (lv_at hl 1 rfl) ?_
        obtain ⟨g2, hm⟩ := gdE hm
        refine tg_lald C hw (tp_32 ad dI dJ u) g2 dX3_smallens_18 ?_
        obtain ⟨g3, hm⟩ := gdE hm
        refine tg_last C hw (tp_18 ad dI dJ u) g3 (ts_18 ad dI dJ u _ _) dX3_smallens_19 (fun H locs hw => ?_)
        obtain ⟨u4, eu4, hm⟩ := nmE hm
        rw [← eu4] at hw
        obtain ⟨v5, ev5, hm⟩ := nmE hm
        refine lv_iinc (v := v5) (lv' := [(1, .int v5), (0, .ref (ad 40))]) hx hb dX3_smallens_20 hl (k := 1) rfl (by rw [ev5]; rfl) (by decide) rfl (fun ls hl => ?_)
        refine lv_goto (tgt := 2) hx hb dX3_smallens_23 (by decide) ?_
        exact ih2 u4 v5 _ _ _ hm hw (lv_sub hl [1, 0] rfl)
  rw [m_X3_smallens] at hm
  refine lv_iconst (v := 0) hx hb dX3_smallens_0 (by decide) ?_
  refine lv_istore_n (lv' := [(1, .int (0 : Int32)), (0, .ref (ad 40))]) hx hb dX3_smallens_1 rfl hl (by decide) rfl (fun ls hl => ?_)
  exact hB2 f u (0 : Int32) _ _ _ hm hw (lv_sub hl [1, 0] rfl)
def m_X3_leavesNone_261 (f : Nat) (u : TS) : Option TS := bd (m_X3_smallens f u) fun u1 =>
    some u1
def m_X3_leavesNone_253 (f : Nat) (k189 : TS → Int32 → Int32 → Int32 → Option TS) (u : TS) (x2 : Int32) (x4 : Int32) (y0 : Int32) (y1 : Int32) : Option TS := nmv ((y0 + y1) : Int32) fun v1 =>
    nmv ((x4 + 1) : Int32) fun v2 =>
    k189 u x2 v1 v2
def m_X3_leavesNone_241 (f : Nat) (k189 : TS → Int32 → Int32 → Int32 → Option TS) (u : TS) (x2 : Int32) (x3 : Int32) (x4 : Int32) : Option TS := if ¬ x4 = x2 then
    m_X3_leavesNone_253 f k189 u x2 x4 x3 (1 : Int32)
    else m_X3_leavesNone_253 f k189 u x2 x4 x3 (0 : Int32)
def m_X3_leavesNone_198 (f : Nat) (k189 : TS → Int32 → Int32 → Int32 → Option TS) : Nat → TS → Int32 → Int32 → Int32 → Int32 → Option TS
  | 0, _, _, _, _, _ => none
  | n198 + 1, u, x2, x3, x4, x5 => if (3 : Int32) ≤ x5 then
    m_X3_leavesNone_241 f k189 u x2 x3 x4
    else if x4 = x2 then
    m_X3_leavesNone_241 f k189 u x2 x3 x4
    else gd (ix ((((4 : Int32) * x4) + (1 : Int32)) + x5) 16) <|
    gd (ix (((3 : Int32) * x3) + x5) 9) <|
    nmv (sB u 32 (Int32.toNatClampNeg (((3 : Int32) * x3) + x5)) (tB u 33 (Int32.toNatClampNeg ((((4 : Int32) * x4) + (1 : Int32)) + x5)))) fun u5 =>
    nmv ((x5 + 1) : Int32) fun v6 =>
    m_X3_leavesNone_198 f k189 n198 u5 x2 x3 x4 v6
def m_X3_leavesNone_189 (f : Nat) : Nat → TS → Int32 → Int32 → Int32 → Option TS
  | 0, _, _, _, _ => none
  | n189 + 1, u, x2, x3, x4 => if (4 : Int32) ≤ x4 then
    m_X3_leavesNone_261 f u
    else m_X3_leavesNone_198 f (m_X3_leavesNone_189 f n189) f u x2 x3 x4 (0 : Int32)
def m_X3_leavesNone_184 (f : Nat) (u : TS) (x2 : Int32) : Option TS := m_X3_leavesNone_189 f f u x2 (0 : Int32) (0 : Int32)
def m_X3_leavesNone_181 (f : Nat) (k4 : TS → Int32 → Int32 → Option TS) (u : TS) (x1 : Int32) (x2 : Int32) : Option TS := k4 u x1 x2
def m_X3_leavesNone_175 (f : Nat) (k4 : TS → Int32 → Int32 → Option TS) (k64 : TS → Int32 → Int32 → Int32 → Option TS) (u : TS) (x1 : Int32) (x2 : Int32) (x3 : Int32) : Option TS := nmv ((x3 + 1) : Int32) fun v1 =>
    k64 u x1 x2 v1
def m_X3_leavesNone_174 (f : Nat) (k4 : TS → Int32 → Int32 → Option TS) (k64 : TS → Int32 → Int32 → Int32 → Option TS) (u : TS) (x2 : Int32) (x3 : Int32) (y0 : Int32) : Option TS := m_X3_leavesNone_175 f k4 k64 u y0 x2 x3
def m_X3_leavesNone_169 (f : Nat) (k4 : TS → Int32 → Int32 → Option TS) (k64 : TS → Int32 → Int32 → Int32 → Option TS) (u : TS) (x2 : Int32) (x3 : Int32) : Option TS := m_X3_leavesNone_174 f k4 k64 u x2 x3 (1 : Int32)
def m_X3_leavesNone_152 (f : Nat) (k4 : TS → Int32 → Int32 → Option TS) (k64 : TS → Int32 → Int32 → Int32 → Option TS) (u : TS) (x1 : Int32) (x2 : Int32) (x3 : Int32) : Option TS := if ¬ x1 = 0 then
    m_X3_leavesNone_169 f k4 k64 u x2 x3
    else gd (ix ((4 : Int32) * x3) 16) <|
    if (tB u 33 (Int32.toNatClampNeg ((4 : Int32) * x3))) = (0 : Int64) then
    m_X3_leavesNone_174 f k4 k64 u x2 x3 (0 : Int32)
    else m_X3_leavesNone_169 f k4 k64 u x2 x3
def m_X3_leavesNone_112 (f : Nat) (k4 : TS → Int32 → Int32 → Option TS) (k64 : TS → Int32 → Int32 → Int32 → Option TS) : Nat → TS → Int32 → Int32 → Int32 → Int64 → Int32 → Option TS
  | 0, _, _, _, _, _, _ => none
  | n112 + 1, u, x1, x2, x3, x4, x6 => if (4 : Int32) ≤ x6 then
    m_X3_leavesNone_152 f k4 k64 u x1 x2 x3
    else gd (ix (((4 : Int32) * x3) + x6) 16) <|
    gd (ix (((4 : Int32) * x2) + x6) 16) <|
    gd (ix (((4 : Int32) * x3) + x6) 16) <|
    nmv (sB u 33 (Int32.toNatClampNeg (((4 : Int32) * x3) + x6)) ((tB u 33 (Int32.toNatClampNeg (((4 : Int32) * x3) + x6))) - (x4 * (tB u 33 (Int32.toNatClampNeg (((4 : Int32) * x2) + x6)))))) fun u5 =>
    nmv ((x6 + 1) : Int32) fun v6 =>
    m_X3_leavesNone_112 f k4 k64 n112 u5 x1 x2 x3 x4 v6
def m_X3_leavesNone_64 (f : Nat) (k4 : TS → Int32 → Int32 → Option TS) : Nat → TS → Int32 → Int32 → Int32 → Option TS
  | 0, _, _, _, _ => none
  | n64 + 1, u, x1, x2, x3 => if (4 : Int32) ≤ x3 then
    m_X3_leavesNone_181 f k4 u x1 x2
    else if x3 = x2 then
    m_X3_leavesNone_175 f k4 (m_X3_leavesNone_64 f k4 n64) u x1 x2 x3
    else gd (ix ((4 : Int32) * x3) 16) <|
    if ¬ (tB u 33 (Int32.toNatClampNeg ((4 : Int32) * x3))) = (0 : Int64) then
    gd (ix ((4 : Int32) * x3) 16) <|
    gd (ix ((4 : Int32) * x2) 16) <|
    gd (nzL (tB u 33 (Int32.toNatClampNeg ((4 : Int32) * x2)))) <|
    nmv (((tB u 33 (Int32.toNatClampNeg ((4 : Int32) * x3))) / (tB u 33 (Int32.toNatClampNeg ((4 : Int32) * x2)))) : Int64) fun v8 =>
    m_X3_leavesNone_112 f k4 (m_X3_leavesNone_64 f k4 n64) f u x1 x2 x3 v8 (0 : Int32)
    else m_X3_leavesNone_175 f k4 (m_X3_leavesNone_64 f k4 n64) u x1 x2 x3
def m_X3_leavesNone_62 (f : Nat) (k4 : TS → Int32 → Int32 → Option TS) (u : TS) (x1 : Int32) (x2 : Int32) : Option TS := m_X3_leavesNone_64 f k4 f u x1 x2 (0 : Int32)
def m_X3_leavesNone_55 (f : Nat) (k4 : TS → Int32 → Int32 → Option TS) (k12 : TS → Int32 → Int32 → Int32 → Option TS) (u : TS) (x1 : Int32) (x3 : Int32) (y0 : Int32) : Option TS := nmv ((x3 + 1) : Int32) fun v1 =>
    k12 u x1 y0 v1
def m_X3_leavesNone_54 (f : Nat) (k4 : TS → Int32 → Int32 → Option TS) (k12 : TS → Int32 → Int32 → Int32 → Option TS) (u : TS) (x1 : Int32) (x2 : Int32) (x3 : Int32) : Option TS := m_X3_leavesNone_55 f k4 k12 u x1 x3 x2
def m_X3_leavesNone_12 (f : Nat) (k4 : TS → Int32 → Int32 → Option TS) : Nat → TS → Int32 → Int32 → Int32 → Option TS
  | 0, _, _, _, _ => none
  | n12 + 1, u, x1, x2, x3 => if (4 : Int32) ≤ x3 then
    m_X3_leavesNone_62 f k4 u x1 x2
    else gd (ix ((4 : Int32) * x3) 16) <|
    if (tB u 33 (Int32.toNatClampNeg ((4 : Int32) * x3))) = (0 : Int64) then
    m_X3_leavesNone_54 f k4 (m_X3_leavesNone_12 f k4 n12) u x1 x2 x3
    else gd (ix ((4 : Int32) * x3) 16) <|
    gd (ix ((4 : Int32) * x2) 16) <|
    if (tB u 33 (Int32.toNatClampNeg ((4 : Int32) * x2))) ≤ (tB u 33 (Int32.toNatClampNeg ((4 : Int32) * x3))) then
    m_X3_leavesNone_54 f k4 (m_X3_leavesNone_12 f k4 n12) u x1 x2 x3
    else m_X3_leavesNone_55 f k4 (m_X3_leavesNone_12 f k4 n12) u x1 x3 x3
def m_X3_leavesNone_4 (f : Nat) : Nat → TS → Int32 → Int32 → Option TS
  | 0, _, _, _ => none
  | n4 + 1, u, x1, x2 => if x1 = 0 then
    m_X3_leavesNone_184 f u x2
    else m_X3_leavesNone_12 f (m_X3_leavesNone_4 f n4) f u (0 : Int32) x2 (0 : Int32)
def m_X3_leavesNone (f : Nat) (u : TS) : Option TS := m_X3_leavesNone_4 f f u (1 : Int32) (3 : Int32)
abbrev rm_X3_leavesNone : Room := { frames := 4, cells := 0, slots := 0, locals := 95 }
theorem cw_X3_leavesNone {R : Room} {s : State} {args : Array Value} {own : String} {idx : Nat} (hts : ∀ w ∈ lw_all, w.before args s = true) (hl : Cond.methodLink own idx yX3_leavesNone ∈ lw_all) (hR : rm_X3_leavesNone.frames + 1 ≤ R.frames ∧ 8 + (7 + 11) + rm_X3_leavesNone.locals ≤ R.locals) : CallW R s args own RX3 idx yX3_leavesNone cX3_leavesNone 7 (Option.none : Option Jvm.ClassFile.FieldType) (ws_ yX3_leavesNone cX3_leavesNone 7 (Option.none : Option Jvm.ClassFile.FieldType)) rm_X3_leavesNone 0 0 0 := cwV 0 hts (lw_V hl q1948 qs91 q125 q1949) rfl rfl rfl (by decide +kernel) hR
set_option maxHeartbeats 4000000 in
set_option maxRecDepth 100000 in
theorem w_X3_leavesNone (l : Launch) {D : va_G} {ad : Nat → Nat} {dI dJ : ClassId} {A : Nat → Prop} {f : Nat} {u u9 : TS}  (hm : m_X3_leavesNone f u = some u9) : Met l yX3_leavesNone (ws_ yX3_leavesNone cX3_leavesNone 7 (Option.none : Option Jvm.ClassFile.FieldType)) rm_X3_leavesNone (va_Pc [.ref (ad 40)] (TPre D ad dI dJ A u)) (va_Qv (fun u => u = u9) (TPost D ad dI dJ A) A) 0 0 A := by
  refine Met.ofW (cc := cX3_leavesNone) (maxL := 7) (ret := (Option.none : Option Jvm.ClassFile.FieldType)) (by decide) rfl ?_
  intro p e s m args below meth c s₁ B hml hv
  have hx := B.exec
  have hb := B.bytes
  have hr := B.returns
  have hts := atoms_spec (ws := (ws_ yX3_leavesNone cX3_leavesNone 7 (Option.none : Option Jvm.ClassFile.FieldType))) B.pre
  have hts : ∀ w ∈ lw_all, w.before args s = true := fun w h => hts w (List.mem_cons_of_mem _ h)
  have hown : s.vm.findClass RX3 = some m.cls := findClass_of_methodNamed B.named
  have hlocks := B.notSynchronized
  obtain ⟨hav, hv⟩ := hv
  have C : TC p s m args c cX3_leavesNone D dI dJ := ⟨hx, hb, hown, hts, hv.2.1⟩
  have hw : TH D ad dI dJ A s.heap u s.heap [] := ⟨hv.1, hv.2.2.1, va_S.rf, hv.2.2.2⟩
  generalize hQ : MQ below (va_Qv (fun u => u = u9) (TPost D ad dI dJ A) A) args s 0 0 A = QQ
  have hent := lg_entry_eq m [.ref (ad 40)] 7
  rw [← hav] at hent
  rw [hent]
  have hl := lv_entry ([.ref (ad 40)]) (n := 7) (Nat.le_of_ble_eq_true rfl)
  generalize (lg_sl ([.ref (ad 40)]) ++ List.replicate (7 - (lg_sl ([.ref (ad 40)])).length) Slot.unset).toArray = ls at hl ⊢
  have hl : lv_has ls 7 [(0, .ref (ad 40))] := hl
  change W p l e rm_X3_leavesNone s m args below meth c s.heap [] 0 0 QQ (F0 m 0 ls [])
  have hB261 : ∀ (u : TS) (H : Heap) (locs : List Loc) (ls : Array Slot), m_X3_leavesNone_261 f u = some u9 → TH D ad dI dJ A s.heap u H locs → lv_has ls 7 [(0, .ref (ad 40))] → W p l e rm_X3_leavesNone s m args below meth c H locs 0 0 QQ (F0 m 261 ls []) := by
    intro u H locs ls hm hw hl
    rw [m_X3_leavesNone_261] at hm
    refine lv_aload_n hx hb dX3_leavesNone_261 rfl (lv_at hl 0 rfl) ?_
    obtain ⟨u1, eu1, hm⟩ := bdE hm
    refine tg_callv hw (va_runV (As := []) (rest := []) ⟨hx, hb, hml, hown, hts⟩ (w_X3_smallens l eu1) (cw_X3_smallens hts q1950 ⟨Nat.le_of_ble_eq_true rfl, Nat.le_of_ble_eq_true rfl⟩) (tg_pre C hw _) rfl rfl hl.1 rfl (lv_room (Nat.le_of_ble_eq_true rfl)) dX3_leavesNone_262 ⟨Nat.le_of_ble_eq_true rfl, Nat.le_of_ble_eq_true rfl⟩) (fun H locs hw => ?_)
    rw [← hQ]
    exact W.vret hx hb hr (fun t ht hW => ⟨⟨u1, rfl, ret1 hm, by rw [ht]; exact hw.1, hw.2.1⟩, hw.2.2.1.F ht⟩) hw.2.2.1.2.2 dX3_leavesNone_265
  have hB189 : ∀ (n189 : Nat), ∀ (u : TS) (x2 : Int32) (x3 : Int32) (x4 : Int32) (H : Heap) (locs : List Loc) (ls : Array Slot), m_X3_leavesNone_189 f n189 u x2 x3 x4 = some u9 → TH D ad dI dJ A s.heap u H locs → lv_has ls 7 [(0, .ref (ad 40)), (2, .int x2), (3, .int x3), (4, .int x4)] → W p l e rm_X3_leavesNone s m args below meth c H locs 0 0 QQ (F0 m 189 ls []) := by
    intro n189
    induction n189 with
    | zero => intro u x2 x3 x4 H locs ls hm hw hl; rw [m_X3_leavesNone_189] at hm; exact noE hm
    | succ n189 ih189 =>
      have hB253 : ∀ (u : TS) (x2 : Int32) (x4 : Int32) (y0 : Int32) (y1 : Int32) (H : Heap) (locs : List Loc) (ls : Array Slot), m_X3_leavesNone_253 f (m_X3_leavesNone_189 f n189) u x2 x4 y0 y1 = some u9 → TH D ad dI dJ A s.heap u H locs → lv_has ls 7 [(0, .ref (ad 40)), (2, .int x2), (4, .int x4)] → W p l e rm_X3_leavesNone s m args below meth c H locs 0 0 QQ (F0 m 253 ls [.int y1, .int y0]) := by
        intro u x2 x4 y0 y1 H locs ls hm hw hl
        rw [m_X3_leavesNone_253] at hm
        refine lv_iadd hx hb dX3_leavesNone_253 ?_
        refine lv_topi (fun v1 ev1 => ?_)
        have hm := nmK hm ev1
        refine lv_istore_n (lv' := [(3, .int v1), (0, .ref (ad 40)), (2, .int x2), (4, .int x4)]) hx hb dX3_leavesNone_254 rfl hl (by decide) rfl (fun ls hl => ?_)
        obtain ⟨v2, ev2, hm⟩ := nmE hm
        refine lv_iinc (v := v2) (lv' := [(4, .int v2), (3, .int v1), (0, .ref (ad 40)), (2, .int x2)]) hx hb dX3_leavesNone_255 hl (k := 3) rfl (by rw [ev2]; rfl) (by decide) rfl (fun ls hl => ?_)
        refine lv_goto (tgt := 189) hx hb dX3_leavesNone_258 (by decide) ?_
        exact ih189 u x2 v1 v2 _ _ _ hm hw (lv_sub hl [2, 3, 1, 0] rfl)
      have hB241 : ∀ (u : TS) (x2 : Int32) (x3 : Int32) (x4 : Int32) (H : Heap) (locs : List Loc) (ls : Array Slot), m_X3_leavesNone_241 f (m_X3_leavesNone_189 f n189) u x2 x3 x4 = some u9 → TH D ad dI dJ A s.heap u H locs → lv_has ls 7 [(0, .ref (ad 40)), (2, .int x2), (3, .int x3), (4, .int x4)] → W p l e rm_X3_leavesNone s m args below meth c H locs 0 0 QQ (F0 m 241 ls []) := by
        intro u x2 x3 x4 H locs ls hm hw hl
        rw [m_X3_leavesNone_241] at hm
        refine lv_iload_n hx hb dX3_leavesNone_241 rfl (lv_at hl 2 rfl) ?_
        refine lv_iload hx hb dX3_leavesNone_242 (lv_at hl 3 rfl) ?_
        refine lv_iload_n hx hb dX3_leavesNone_244 rfl (lv_at hl 1 rfl) ?_
        refine lv_icmp_ne (tgt := 252) hx hb dX3_leavesNone_245 (by decide) (fun c1 => ?_) (fun c1 => ?_)
        · have hm := ifT hm c1
          refine lv_iconst (v := 1) hx hb dX3_leavesNone_252 (by decide) ?_
          exact hB253 u x2 x4 x3 (1 : Int32) _ _ _ hm hw (lv_sub hl [0, 1, 3] rfl)
        · have hm := ifT' hm c1
          refine lv_iconst (v := 0) hx hb dX3_leavesNone_248 (by decide) ?_
          refine lv_goto (tgt := 253) hx hb dX3_leavesNone_249 (by decide) ?_
          exact hB253 u x2 x4 x3 (0 : Int32) _ _ _ hm hw (lv_sub hl [0, 1, 3] rfl)
      have hB198 : ∀ (n198 : Nat), ∀ (u : TS) (x2 : Int32) (x3 : Int32) (x4 : Int32) (x5 : Int32) (H : Heap) (locs : List Loc) (ls : Array Slot), m_X3_leavesNone_198 f (m_X3_leavesNone_189 f n189) n198 u x2 x3 x4 x5 = some u9 → TH D ad dI dJ A s.heap u H locs → lv_has ls 7 [(0, .ref (ad 40)), (2, .int x2), (3, .int x3), (4, .int x4), (5, .int x5)] → W p l e rm_X3_leavesNone s m args below meth c H locs 0 0 QQ (F0 m 198 ls []) := by
        intro n198
        induction n198 with
        | zero => intro u x2 x3 x4 x5 H locs ls hm hw hl; rw [m_X3_leavesNone_198] at hm; exact noE hm
        | succ n198 ih198 =>
          intro u x2 x3 x4 x5 H locs ls hm hw hl
          rw [m_X3_leavesNone_198] at hm
          refine lv_iload hx hb dX3_leavesNone_198 (lv_at hl 4 rfl) ?_
          refine lv_iconst (v := 3) hx hb dX3_leavesNone_200 (by decide) ?_
          refine lv_icmp_ge (tgt := 241) hx hb dX3_leavesNone_201 (by decide) (fun c1 => ?_) (fun c1 => ?_)
          · have hm := ifT hm c1
            exact hB241 u x2 x3 x4 _ _ _ hm hw (lv_sub hl [0, 1, 2, 3] rfl)
          · have hm := ifF hm c1
            refine lv_iload hx hb dX3_leavesNone_204 (lv_at hl 3 rfl) ?_
            refine lv_iload_n hx hb dX3_leavesNone_206 rfl (lv_at hl 1 rfl) ?_
            refine lv_icmp_eq (tgt := 241) hx hb dX3_leavesNone_207 (by decide) (fun c2 => ?_) (fun c2 => ?_)
            · have hm := ifT hm c2
              exact hB241 u x2 x3 x4 _ _ _ hm hw (lv_sub hl [0, 1, 2, 3] rfl)
            · have hm := ifF hm c2
              refine lv_aload_n hx hb dX3_leavesNone_210 rfl (lv_at hl 0 rfl) ?_
              refine tg_get C hw 32 (by decide) q1598 rfl dX3_leavesNone_211 ?_
              refine lv_iconst (v := 3) hx hb dX3_leavesNone_214 (by decide) ?_
              refine lv_iload_n hx hb dX3_leavesNone_215 rfl (lv_at hl 2 rfl) ?_
              refine lv_imul hx hb dX3_leavesNone_216 ?_
              refine lv_iload hx hb dX3_leavesNone_217 (lv_at hl 4 rfl) ?_
              refine lv_iadd hx hb dX3_leavesNone_219 ?_
              refine lv_aload_n hx hb dX3_leavesNone_220 rfl (lv_at hl 0 rfl) ?_
              refine tg_get C hw 33 (by decide) q1599 rfl dX3_leavesNone_221 ?_
              refine lv_iconst (v := 4) hx hb dX3_leavesNone_224 (by decide) ?_
              refine lv_iload hx hb dX3_leavesNone_225 (lv_at hl 3 rfl) ?_
              refine lv_imul hx hb dX3_leavesNone_227 ?_
              refine lv_iconst (v := 1) hx hb dX3_leavesNone_228 (by decide) ?_
              refine lv_iadd hx hb dX3_leavesNone_229 ?_
              refine lv_iload hx hb dX3_leavesNone_230 (lv_at hl 4 rfl) ?_
              refine lv_iadd hx hb dX3_leavesNone_232 ?_
              obtain ⟨g3, hm⟩ := gdE hm
              refine tg_lald C hw (tp_33 ad dI dJ u) g3 dX3_leavesNone_233 ?_
              obtain ⟨g4, hm⟩ := gdE hm
              refine tg_last C hw (tp_32 ad dI dJ u) g4 (ts_32 ad dI dJ u _ _) dX3_leavesNone_234 (fun H locs hw => ?_)
              obtain ⟨u5, eu5, hm⟩ := nmE hm
              rw [← eu5] at hw
              obtain ⟨v6, ev6, hm⟩ := nmE hm
              refine lv_iinc (v := v6) (lv' := [(5, .int v6), (0, .ref (ad 40)), (2, .int x2), (3, .int x3), (4, .int x4)]) hx hb dX3_leavesNone_235 hl (k := 4) rfl (by rw [ev6]; rfl) (by decide) rfl (fun ls hl => ?_)
              refine lv_goto (tgt := 198) hx hb dX3_leavesNone_238 (by decide) ?_
              exact ih198 u5 x2 x3 x4 v6 _ _ _ hm hw (lv_sub hl [1, 2, 3, 4, 0] rfl)
      intro u x2 x3 x4 H locs ls hm hw hl
      rw [m_X3_leavesNone_189] at hm
      refine lv_iload hx hb dX3_leavesNone_189 (lv_at hl 3 rfl) ?_
      refine lv_iconst (v := 4) hx hb dX3_leavesNone_191 (by decide) ?_
      refine lv_icmp_ge (tgt := 261) hx hb dX3_leavesNone_192 (by decide) (fun c1 => ?_) (fun c1 => ?_)
      · have hm := ifT hm c1
        exact hB261 u _ _ _ hm hw (lv_sub hl [0] rfl)
      · have hm := ifF hm c1
        refine lv_iconst (v := 0) hx hb dX3_leavesNone_195 (by decide) ?_
        refine lv_istore (lv' := [(5, .int (0 : Int32)), (0, .ref (ad 40)), (2, .int x2), (3, .int x3), (4, .int x4)]) hx hb dX3_leavesNone_196 hl (by decide) rfl (fun ls hl => ?_)
        exact hB198 f u x2 x3 x4 (0 : Int32) _ _ _ hm hw (lv_sub hl [1, 2, 3, 4, 0] rfl)
  have hB184 : ∀ (u : TS) (x2 : Int32) (H : Heap) (locs : List Loc) (ls : Array Slot), m_X3_leavesNone_184 f u x2 = some u9 → TH D ad dI dJ A s.heap u H locs → lv_has ls 7 [(0, .ref (ad 40)), (2, .int x2)] → W p l e rm_X3_leavesNone s m args below meth c H locs 0 0 QQ (F0 m 184 ls []) := by
    intro u x2 H locs ls hm hw hl
    rw [m_X3_leavesNone_184] at hm
    refine lv_iconst (v := 0) hx hb dX3_leavesNone_184 (by decide) ?_
    refine lv_istore_n (lv' := [(3, .int (0 : Int32)), (0, .ref (ad 40)), (2, .int x2)]) hx hb dX3_leavesNone_185 rfl hl (by decide) rfl (fun ls hl => ?_)
    refine lv_iconst (v := 0) hx hb dX3_leavesNone_186 (by decide) ?_
    refine lv_istore (lv' := [(4, .int (0 : Int32)), (3, .int (0 : Int32)), (0, .ref (ad 40)), (2, .int x2)]) hx hb dX3_leavesNone_187 hl (by decide) rfl (fun ls hl => ?_)
    exact hB189 f u x2 (0 : Int32) (0 : Int32) _ _ _ hm hw (lv_sub hl [2, 3, 1, 0] rfl)
  have hB4 : ∀ (n4 : Nat), ∀ (u : TS) (x1 : Int32) (x2 : Int32) (H : Heap) (locs : List Loc) (ls : Array Slot), m_X3_leavesNone_4 f n4 u x1 x2 = some u9 → TH D ad dI dJ A s.heap u H locs → lv_has ls 7 [(0, .ref (ad 40)), (1, .int x1), (2, .int x2)] → W p l e rm_X3_leavesNone s m args below meth c H locs 0 0 QQ (F0 m 4 ls []) := by
    intro n4
    induction n4 with
    | zero => intro u x1 x2 H locs ls hm hw hl; rw [m_X3_leavesNone_4] at hm; exact noE hm
    | succ n4 ih4 =>
      have hB181 : ∀ (u : TS) (x1 : Int32) (x2 : Int32) (H : Heap) (locs : List Loc) (ls : Array Slot), m_X3_leavesNone_181 f (m_X3_leavesNone_4 f n4) u x1 x2 = some u9 → TH D ad dI dJ A s.heap u H locs → lv_has ls 7 [(0, .ref (ad 40)), (1, .int x1), (2, .int x2)] → W p l e rm_X3_leavesNone s m args below meth c H locs 0 0 QQ (F0 m 181 ls []) := by
        intro u x1 x2 H locs ls hm hw hl
        rw [m_X3_leavesNone_181] at hm
        refine lv_goto (tgt := 4) hx hb dX3_leavesNone_181 (by decide) ?_
        exact ih4 u x1 x2 _ _ _ hm hw (lv_sub hl [0, 1, 2] rfl)
      have hB64 : ∀ (n64 : Nat), ∀ (u : TS) (x1 : Int32) (x2 : Int32) (x3 : Int32) (H : Heap) (locs : List Loc) (ls : Array Slot), m_X3_leavesNone_64 f (m_X3_leavesNone_4 f n4) n64 u x1 x2 x3 = some u9 → TH D ad dI dJ A s.heap u H locs → lv_has ls 7 [(0, .ref (ad 40)), (1, .int x1), (2, .int x2), (3, .int x3)] → W p l e rm_X3_leavesNone s m args below meth c H locs 0 0 QQ (F0 m 64 ls []) := by
        intro n64
        induction n64 with
        | zero => intro u x1 x2 x3 H locs ls hm hw hl; rw [m_X3_leavesNone_64] at hm; exact noE hm
        | succ n64 ih64 =>
          have hB175 : ∀ (u : TS) (x1 : Int32) (x2 : Int32) (x3 : Int32) (H : Heap) (locs : List Loc) (ls : Array Slot), m_X3_leavesNone_175 f (m_X3_leavesNone_4 f n4) (m_X3_leavesNone_64 f (m_X3_leavesNone_4 f n4) n64) u x1 x2 x3 = some u9 → TH D ad dI dJ A s.heap u H locs → lv_has ls 7 [(0, .ref (ad 40)), (1, .int x1), (2, .int x2), (3, .int x3)] → W p l e rm_X3_leavesNone s m args below meth c H locs 0 0 QQ (F0 m 175 ls []) := by
            intro u x1 x2 x3 H locs ls hm hw hl
            rw [m_X3_leavesNone_175] at hm
            obtain ⟨v1, ev1, hm⟩ := nmE hm
            refine lv_iinc (v := v1) (lv' := [(3, .int v1), (0, .ref (ad 40)), (1, .int x1), (2, .int x2)]) hx hb dX3_leavesNone_175 hl (k := 3) rfl (by rw [ev1]; rfl) (by decide) rfl (fun ls hl => ?_)
            refine lv_goto (tgt := 64) hx hb dX3_leavesNone_178 (by decide) ?_
            exact ih64 u x1 x2 v1 _ _ _ hm hw (lv_sub hl [1, 2, 3, 0] rfl)
          have hB174 : ∀ (u : TS) (x2 : Int32) (x3 : Int32) (y0 : Int32) (H : Heap) (locs : List Loc) (ls : Array Slot), m_X3_leavesNone_174 f (m_X3_leavesNone_4 f n4) (m_X3_leavesNone_64 f (m_X3_leavesNone_4 f n4) n64) u x2 x3 y0 = some u9 → TH D ad dI dJ A s.heap u H locs → lv_has ls 7 [(0, .ref (ad 40)), (2, .int x2), (3, .int x3)] → W p l e rm_X3_leavesNone s m args below meth c H locs 0 0 QQ (F0 m 174 ls [.int y0]) := by
            intro u x2 x3 y0 H locs ls hm hw hl
            rw [m_X3_leavesNone_174] at hm
            refine lv_istore_n (lv' := [(1, .int y0), (0, .ref (ad 40)), (2, .int x2), (3, .int x3)]) hx hb dX3_leavesNone_174 rfl hl (by decide) rfl (fun ls hl => ?_)
            exact hB175 u y0 x2 x3 _ _ _ hm hw (lv_sub hl [1, 0, 2, 3] rfl)
          have hB169 : ∀ (u : TS) (x2 : Int32) (x3 : Int32) (H : Heap) (locs : List Loc) (ls : Array Slot), m_X3_leavesNone_169 f (m_X3_leavesNone_4 f n4) (m_X3_leavesNone_64 f (m_X3_leavesNone_4 f n4) n64) u x2 x3 = some u9 → TH D ad dI dJ A s.heap u H locs → lv_has ls 7 [(0, .ref (ad 40)), (2, .int x2), (3, .int x3)] → W p l e rm_X3_leavesNone s m args below meth c H locs 0 0 QQ (F0 m 169 ls []) := by
            intro u x2 x3 H locs ls hm hw hl
            rw [m_X3_leavesNone_169] at hm
            refine lv_iconst (v := 1) hx hb dX3_leavesNone_169 (by decide) ?_
            refine lv_goto (tgt := 174) hx hb dX3_leavesNone_170 (by decide) ?_
            exact hB174 u x2 x3 (1 : Int32) _ _ _ hm hw (lv_sub hl [0, 1, 2] rfl)
          have hB152 : ∀ (u : TS) (x1 : Int32) (x2 : Int32) (x3 : Int32) (H : Heap) (locs : List Loc) (ls : Array Slot), m_X3_leavesNone_152 f (m_X3_leavesNone_4 f n4) (m_X3_leavesNone_64 f (m_X3_leavesNone_4 f n4) n64) u x1 x2 x3 = some u9 → TH D ad dI dJ A s.heap u H locs → lv_has ls 7 [(0, .ref (ad 40)), (1, .int x1), (2, .int x2), (3, .int x3)] → W p l e rm_X3_leavesNone s m args below meth c H locs 0 0 QQ (F0 m 152 ls []) := by
            intro u x1 x2 x3 H locs ls hm hw hl
            rw [m_X3_leavesNone_152] at hm
            refine lv_iload_n hx hb dX3_leavesNone_152 rfl (lv_at hl 1 rfl) ?_
            refine lv_if_ne (tgt := 169) hx hb dX3_leavesNone_153 (by decide) (fun c1 => ?_) (fun c1 => ?_)
            · have hm := ifT hm c1
              exact hB169 u x2 x3 _ _ _ hm hw (lv_sub hl [0, 2, 3] rfl)
            · have hm := ifT' hm c1
              refine lv_aload_n hx hb dX3_leavesNone_156 rfl (lv_at hl 0 rfl) ?_
              refine tg_get C hw 33 (by decide) q1599 rfl dX3_leavesNone_157 ?_
              refine lv_iconst (v := 4) hx hb dX3_leavesNone_160 (by decide) ?_
              refine lv_iload_n hx hb dX3_leavesNone_161 rfl (lv_at hl 3 rfl) ?_
              refine lv_imul hx hb dX3_leavesNone_162 ?_
              obtain ⟨g2, hm⟩ := gdE hm
              refine tg_lald C hw (tp_33 ad dI dJ u) g2 dX3_leavesNone_163 ?_
              refine lv_lconst (v := 0) hx hb dX3_leavesNone_164 (by decide) ?_
              refine lc_eq (tgt := 173) hx hb dX3_leavesNone_165 dX3_leavesNone_166 (by decide) (fun c3 => ?_) (fun c3 => ?_)
              · have hm := ifT hm c3
                refine lv_iconst (v := 0) hx hb dX3_leavesNone_173 (by decide) ?_
                exact hB174 u x2 x3 (0 : Int32) _ _ _ hm hw (lv_sub hl [0, 2, 3] rfl)
              · have hm := ifF hm c3
                exact hB169 u x2 x3 _ _ _ hm hw (lv_sub hl [0, 2, 3] rfl)
          have hB112 : ∀ (n112 : Nat), ∀ (u : TS) (x1 : Int32) (x2 : Int32) (x3 : Int32) (x4 : Int64) (x6 : Int32) (H : Heap) (locs : List Loc) (ls : Array Slot), m_X3_leavesNone_112 f (m_X3_leavesNone_4 f n4) (m_X3_leavesNone_64 f (m_X3_leavesNone_4 f n4) n64) n112 u x1 x2 x3 x4 x6 = some u9 → TH D ad dI dJ A s.heap u H locs → lv_has ls 7 [(0, .ref (ad 40)), (1, .int x1), (2, .int x2), (3, .int x3), (4, .long x4), (6, .int x6)] → W p l e rm_X3_leavesNone s m args below meth c H locs 0 0 QQ (F0 m 112 ls []) := by
            intro n112
            induction n112 with
            | zero => intro u x1 x2 x3 x4 x6 H locs ls hm hw hl; rw [m_X3_leavesNone_112] at hm; exact noE hm
            | succ n112 ih112 =>
              intro u x1 x2 x3 x4 x6 H locs ls hm hw hl
              rw [m_X3_leavesNone_112] at hm
              refine lv_iload hx hb dX3_leavesNone_112 (lv_at hl 5 rfl) ?_
              refine lv_iconst (v := 4) hx hb dX3_leavesNone_114 (by decide) ?_
              refine lv_icmp_ge (tgt := 152) hx hb dX3_leavesNone_115 (by decide) (fun c1 => ?_) (fun c1 => ?_)
              · have hm := ifT hm c1
                exact hB152 u x1 x2 x3 _ _ _ hm hw (lv_sub hl [0, 1, 2, 3] rfl)
              · have hm := ifF hm c1
                refine lv_aload_n hx hb dX3_leavesNone_118 rfl (lv_at hl 0 rfl) ?_
                refine tg_get C hw 33 (by decide) q1599 rfl dX3_leavesNone_119 ?_
                refine lv_iconst (v := 4) hx hb dX3_leavesNone_122 (by decide) ?_
                refine lv_iload_n hx hb dX3_leavesNone_123 rfl (lv_at hl 3 rfl) ?_
                refine lv_imul hx hb dX3_leavesNone_124 ?_
                refine lv_iload hx hb dX3_leavesNone_125 (lv_at hl 5 rfl) ?_
                refine lv_iadd hx hb dX3_leavesNone_127 ?_
                refine lv_dup2_11 hx hb dX3_leavesNone_128 rfl rfl ?_
                obtain ⟨g2, hm⟩ := gdE hm
                refine tg_lald C hw (tp_33 ad dI dJ u) g2 dX3_leavesNone_129 ?_
                refine lv_lload hx hb dX3_leavesNone_130 (lv_at hl 4 rfl) ?_
                refine lv_aload_n hx hb dX3_leavesNone_132 rfl (lv_at hl 0 rfl) ?_
                refine tg_get C hw 33 (by decide) q1599 rfl dX3_leavesNone_133 ?_
                refine lv_iconst (v := 4) hx hb dX3_leavesNone_136 (by decide) ?_
                refine lv_iload_n hx hb dX3_leavesNone_137 rfl (lv_at hl 2 rfl) ?_
                refine lv_imul hx hb dX3_leavesNone_138 ?_
                refine lv_iload hx hb dX3_leavesNone_139 (lv_at hl 5 rfl) ?_
                refine lv_iadd hx hb dX3_leavesNone_141 ?_
                obtain ⟨g3, hm⟩ := gdE hm
                refine tg_lald C hw (tp_33 ad dI dJ u) g3 dX3_leavesNone_142 ?_
                refine lv_lmul hx hb dX3_leavesNone_143 ?_
                refine lv_lsub hx hb dX3_leavesNone_144 ?_
                obtain ⟨g4, hm⟩ := gdE hm
                refine tg_last C hw (tp_33 ad dI dJ u) g4 (ts_33 ad dI dJ u _ _) dX3_leavesNone_145 (fun H locs hw => ?_)
                obtain ⟨u5, eu5, hm⟩ := nmE hm
                rw [← eu5] at hw
                obtain ⟨v6, ev6, hm⟩ := nmE hm
                refine lv_iinc (v := v6) (lv' := [(6, .int v6), (0, .ref (ad 40)), (1, .int x1), (2, .int x2), (3, .int x3), (4, .long x4)]) hx hb dX3_leavesNone_146 hl (k := 5) rfl (by rw [ev6]; rfl) (by decide) rfl (fun ls hl => ?_)
                refine lv_goto (tgt := 112) hx hb dX3_leavesNone_149 (by decide) ?_
                exact ih112 u5 x1 x2 x3 x4 v6 _ _ _ hm hw (lv_sub hl [1, 2, 3, 4, 5, 0] rfl)
          intro u x1 x2 x3 H locs ls hm hw hl
          rw [m_X3_leavesNone_64] at hm
          refine lv_iload_n hx hb dX3_leavesNone_64 rfl (lv_at hl 3 rfl) ?_
          refine lv_iconst (v := 4) hx hb dX3_leavesNone_65 (by decide) ?_
          refine lv_icmp_ge (tgt := 181) hx hb dX3_leavesNone_66 (by decide) (fun c1 => ?_) (fun c1 => ?_)
          · have hm := ifT hm c1
            exact hB181 u x1 x2 _ _ _ hm hw (lv_sub hl [0, 1, 2] rfl)
          · have hm := ifF hm c1
            refine lv_iload_n hx hb dX3_leavesNone_69 rfl (lv_at hl 3 rfl) ?_
            refine lv_iload_n hx hb dX3_leavesNone_70 rfl (lv_at hl 2 rfl) ?_
            refine lv_icmp_eq (tgt := 175) hx hb dX3_leavesNone_71 (by decide) (fun c2 => ?_) (fun c2 => ?_)
            · have hm := ifT hm c2
              exact hB175 u x1 x2 x3 _ _ _ hm hw (lv_sub hl [0, 1, 2, 3] rfl)
            · have hm := ifF hm c2
              refine lv_aload_n hx hb dX3_leavesNone_74 rfl (lv_at hl 0 rfl) ?_
              refine tg_get C hw 33 (by decide) q1599 rfl dX3_leavesNone_75 ?_
              refine lv_iconst (v := 4) hx hb dX3_leavesNone_78 (by decide) ?_
              refine lv_iload_n hx hb dX3_leavesNone_79 rfl (lv_at hl 3 rfl) ?_
              refine lv_imul hx hb dX3_leavesNone_80 ?_
              obtain ⟨g3, hm⟩ := gdE hm
              refine tg_lald C hw (tp_33 ad dI dJ u) g3 dX3_leavesNone_81 ?_
              refine lv_lconst (v := 0) hx hb dX3_leavesNone_82 (by decide) ?_
              refine lc_ne (tgt := 90) hx hb dX3_leavesNone_83 dX3_leavesNone_84 (by decide) (fun c4 => ?_) (fun c4 => ?_)
              · have hm := ifT hm c4
                refine lv_aload_n hx hb dX3_leavesNone_90 rfl (lv_at hl 0 rfl) ?_
                refine tg_get C hw 33 (by decide) q1599 rfl dX3_leavesNone_91 ?_
                refine lv_iconst (v := 4) hx hb dX3_leavesNone_94 (by decide) ?_
                refine lv_iload_n hx hb dX3_leavesNone_95 rfl (lv_at hl 3 rfl) ?_
                refine lv_imul hx hb dX3_leavesNone_96 ?_
                obtain ⟨g5, hm⟩ := gdE hm
                refine tg_lald C hw (tp_33 ad dI dJ u) g5 dX3_leavesNone_97 ?_
                refine lv_aload_n hx hb dX3_leavesNone_98 rfl (lv_at hl 0 rfl) ?_
                refine tg_get C hw 33 (by decide) q1599 rfl dX3_leavesNone_99 ?_
                refine lv_iconst (v := 4) hx hb dX3_leavesNone_102 (by decide) ?_
                refine lv_iload_n hx hb dX3_leavesNone_103 rfl (lv_at hl 2 rfl) ?_
                refine lv_imul hx hb dX3_leavesNone_104 ?_
                obtain ⟨g6, hm⟩ := gdE hm
                refine tg_lald C hw (tp_33 ad dI dJ u) g6 dX3_leavesNone_105 ?_
                obtain ⟨g7, hm⟩ := gdE hm
                refine lv_ldiv hx hb dX3_leavesNone_106 (nzL_ne g7) ?_
                refine lv_topl (fun v8 ev8 => ?_)
                have hm := nmK hm ev8
                refine lv_lstore (lv' := [(4, .long v8), (0, .ref (ad 40)), (1, .int x1), (2, .int x2), (3, .int x3)]) hx hb dX3_leavesNone_107 hl (by decide) rfl (fun ls hl => ?_)
                refine lv_iconst (v := 0) hx hb dX3_leavesNone_109 (by decide) ?_
                refine lv_istore (lv' := [(6, .int (0 : Int32)), (4, .long v8), (0, .ref (ad 40)), (1, .int x1), (2, .int x2), (3, .int x3)]) hx hb dX3_leavesNone_110 hl (by decide) rfl (fun ls hl => ?_)
                exact hB112 f u x1 x2 x3 v8 (0 : Int32) _ _ _ hm hw (lv_sub hl [2, 3, 4, 5, 1, 0] rfl)
              · have hm := ifT' hm c4
                refine lv_goto (tgt := 175) hx hb dX3_leavesNone_87 (by decide) ?_
                exact hB175 u x1 x2 x3 _ _ _ hm hw (lv_sub hl [0, 1, 2, 3] rfl)
      have hB62 : ∀ (u : TS) (x1 : Int32) (x2 : Int32) (H : Heap) (locs : List Loc) (ls : Array Slot), m_X3_leavesNone_62 f (m_X3_leavesNone_4 f n4) u x1 x2 = some u9 → TH D ad dI dJ A s.heap u H locs → lv_has ls 7 [(0, .ref (ad 40)), (1, .int x1), (2, .int x2)] → W p l e rm_X3_leavesNone s m args below meth c H locs 0 0 QQ (F0 m 62 ls []) := by
        intro u x1 x2 H locs ls hm hw hl
        rw [m_X3_leavesNone_62] at hm
        refine lv_iconst (v := 0) hx hb dX3_leavesNone_62 (by decide) ?_
        refine lv_istore_n (lv' := [(3, .int (0 : Int32)), (0, .ref (ad 40)), (1, .int x1), (2, .int x2)]) hx hb dX3_leavesNone_63 rfl hl (by decide) rfl (fun ls hl => ?_)
        exact hB64 f u x1 x2 (0 : Int32) _ _ _ hm hw (lv_sub hl [1, 2, 3, 0] rfl)
      have hB12 : ∀ (n12 : Nat), ∀ (u : TS) (x1 : Int32) (x2 : Int32) (x3 : Int32) (H : Heap) (locs : List Loc) (ls : Array Slot), m_X3_leavesNone_12 f (m_X3_leavesNone_4 f n4) n12 u x1 x2 x3 = some u9 → TH D ad dI dJ A s.heap u H locs → lv_has ls 7 [(0, .ref (ad 40)), (1, .int x1), (2, .int x2), (3, .int x3)] → W p l e rm_X3_leavesNone s m args below meth c H locs 0 0 QQ (F0 m 12 ls []) := by
        intro n12
        induction n12 with
        | zero => intro u x1 x2 x3 H locs ls hm hw hl; rw [m_X3_leavesNone_12] at hm; exact noE hm
        | succ n12 ih12 =>
          have hB55 : ∀ (u : TS) (x1 : Int32) (x3 : Int32) (y0 : Int32) (H : Heap) (locs : List Loc) (ls : Array Slot), m_X3_leavesNone_55 f (m_X3_leavesNone_4 f n4) (m_X3_leavesNone_12 f (m_X3_leavesNone_4 f n4) n12) u x1 x3 y0 = some u9 → TH D ad dI dJ A s.heap u H locs → lv_has ls 7 [(0, .ref (ad 40)), (1, .int x1), (3, .int x3)] → W p l e rm_X3_leavesNone s m args below meth c H locs 0 0 QQ (F0 m 55 ls [.int y0]) := by
            intro u x1 x3 y0 H locs ls hm hw hl
            rw [m_X3_leavesNone_55] at hm
            refine lv_istore_n (lv' := [(2, .int y0), (0, .ref (ad 40)), (1, .int x1), (3, .int x3)]) hx hb dX3_leavesNone_55 rfl hl (by decide) rfl (fun ls hl => ?_)
            obtain ⟨v1, ev1, hm⟩ := nmE hm
            refine lv_iinc (v := v1) (lv' := [(3, .int v1), (2, .int y0), (0, .ref (ad 40)), (1, .int x1)]) hx hb dX3_leavesNone_56 hl (k := 3) rfl (by rw [ev1]; rfl) (by decide) rfl (fun ls hl => ?_)
            refine lv_goto (tgt := 12) hx hb dX3_leavesNone_59 (by decide) ?_
            exact ih12 u x1 y0 v1 _ _ _ hm hw (lv_sub hl [2, 3, 1, 0] rfl)
          have hB54 : ∀ (u : TS) (x1 : Int32) (x2 : Int32) (x3 : Int32) (H : Heap) (locs : List Loc) (ls : Array Slot), m_X3_leavesNone_54 f (m_X3_leavesNone_4 f n4) (m_X3_leavesNone_12 f (m_X3_leavesNone_4 f n4) n12) u x1 x2 x3 = some u9 → TH D ad dI dJ A s.heap u H locs → lv_has ls 7 [(0, .ref (ad 40)), (1, .int x1), (2, .int x2), (3, .int x3)] → W p l e rm_X3_leavesNone s m args below meth c H locs 0 0 QQ (F0 m 54 ls []) := by
            intro u x1 x2 x3 H locs ls hm hw hl
            rw [m_X3_leavesNone_54] at hm
            refine lv_iload_n hx hb dX3_leavesNone_54 rfl (lv_at hl 2 rfl) ?_
            exact hB55 u x1 x3 x2 _ _ _ hm hw (lv_sub hl [0, 1, 3] rfl)
          intro u x1 x2 x3 H locs ls hm hw hl
          rw [m_X3_leavesNone_12] at hm
          refine lv_iload_n hx hb dX3_leavesNone_12 rfl (lv_at hl 3 rfl) ?_
          refine lv_iconst (v := 4) hx hb dX3_leavesNone_13 (by decide) ?_
          refine lv_icmp_ge (tgt := 62) hx hb dX3_leavesNone_14 (by decide) (fun c1 => ?_) (fun c1 => ?_)
          · have hm := ifT hm c1
            exact hB62 u x1 x2 _ _ _ hm hw (lv_sub hl [0, 1, 2] rfl)
          · have hm := ifF hm c1
            refine lv_aload_n hx hb dX3_leavesNone_17 rfl (lv_at hl 0 rfl) ?_
            refine tg_get C hw 33 (by decide) q1599 rfl dX3_leavesNone_18 ?_
            refine lv_iconst (v := 4) hx hb dX3_leavesNone_21 (by decide) ?_
            refine lv_iload_n hx hb dX3_leavesNone_22 rfl (lv_at hl 3 rfl) ?_
            refine lv_imul hx hb dX3_leavesNone_23 ?_
            obtain ⟨g2, hm⟩ := gdE hm
            refine tg_lald C hw (tp_33 ad dI dJ u) g2 dX3_leavesNone_24 ?_
            refine lv_lconst (v := 0) hx hb dX3_leavesNone_25 (by decide) ?_
            refine lc_eq (tgt := 54) hx hb dX3_leavesNone_26 dX3_leavesNone_27 (by decide) (fun c3 => ?_) (fun c3 => ?_)
            · have hm := ifT hm c3
              exact hB54 u x1 x2 x3 _ _ _ hm hw (lv_sub hl [0, 1, 2, 3] rfl)
            · have hm := ifF hm c3
              refine lv_aload_n hx hb dX3_leavesNone_30 rfl (lv_at hl 0 rfl) ?_
              refine tg_get C hw 33 (by decide) q1599 rfl dX3_leavesNone_31 ?_
              refine lv_iconst (v := 4) hx hb dX3_leavesNone_34 (by decide) ?_
              refine lv_iload_n hx hb dX3_leavesNone_35 rfl (lv_at hl 3 rfl) ?_
              refine lv_imul hx hb dX3_leavesNone_36 ?_
              obtain ⟨g4, hm⟩ := gdE hm
              refine tg_lald C hw (tp_33 ad dI dJ u) g4 dX3_leavesNone_37 ?_
              refine lv_aload_n hx hb dX3_leavesNone_38 rfl (lv_at hl 0 rfl) ?_
              refine tg_get C hw 33 (by decide) q1599 rfl dX3_leavesNone_39 ?_
              refine lv_iconst (v := 4) hx hb dX3_leavesNone_42 (by decide) ?_
              refine lv_iload_n hx hb dX3_leavesNone_43 rfl (lv_at hl 2 rfl) ?_
              refine lv_imul hx hb dX3_leavesNone_44 ?_
              obtain ⟨g5, hm⟩ := gdE hm
              refine tg_lald C hw (tp_33 ad dI dJ u) g5 dX3_leavesNone_45 ?_
              refine lc_ge (tgt := 54) hx hb dX3_leavesNone_46 dX3_leavesNone_47 (by decide) (fun c6 => ?_) (fun c6 => ?_)
              · have hm := ifT hm c6
                exact hB54 u x1 x2 x3 _ _ _ hm hw (lv_sub hl [0, 1, 2, 3] rfl)
              · have hm := ifF hm c6
                refine lv_iload_n hx hb dX3_leavesNone_50 rfl (lv_at hl 3 rfl) ?_
                refine lv_goto (tgt := 55) hx hb dX3_leavesNone_51 (by decide) ?_
                exact hB55 u x1 x3 x3 _ _ _ hm hw (lv_sub hl [0, 1, 3] rfl)
      intro u x1 x2 H locs ls hm hw hl
      rw [m_X3_leavesNone_4] at hm
      refine lv_iload_n hx hb dX3_leavesNone_4 rfl (lv_at hl 1 rfl) ?_
      refine lv_if_eq (tgt := 184) hx hb dX3_leavesNone_5 (by decide) (fun c1 => ?_) (fun c1 => ?_)
      · have hm := ifT hm c1
        exact hB184 u x2 _ _ _ hm hw (lv_sub hl [0, 2] rfl)
      · have hm := ifF hm c1
        refine lv_iconst (v := 0) hx hb dX3_leavesNone_8 (by decide) ?_
        refine lv_istore_n (lv' := [(1, .int (0 : Int32)), (0, .ref (ad 40)), (2, .int x2)]) hx hb dX3_leavesNone_9 rfl hl (by decide) rfl (fun ls hl => ?_)
        refine lv_iconst (v := 0) hx hb dX3_leavesNone_10 (by decide) ?_
        refine lv_istore_n (lv' := [(3, .int (0 : Int32)), (1, .int (0 : Int32)), (0, .ref (ad 40)), (2, .int x2)]) hx hb dX3_leavesNone_11 rfl hl (by decide) rfl (fun ls hl => ?_)
        exact hB12 f u (0 : Int32) x2 (0 : Int32) _ _ _ hm hw (lv_sub hl [2, 1, 3, 0] rfl)
  rw [m_X3_leavesNone] at hm
  refine lv_iconst (v := 1) hx hb dX3_leavesNone_0 (by decide) ?_
  refine lv_istore_n (lv' := [(1, .int (1 : Int32)), (0, .ref (ad 40))]) hx hb dX3_leavesNone_1 rfl hl (by decide) rfl (fun ls hl => ?_)
  refine lv_iconst (v := 3) hx hb dX3_leavesNone_2 (by decide) ?_
  refine lv_istore_n (lv' := [(2, .int (3 : Int32)), (1, .int (1 : Int32)), (0, .ref (ad 40))]) hx hb dX3_leavesNone_3 rfl hl (by decide) rfl (fun ls hl => ?_)
  exact hB4 f u (1 : Int32) (3 : Int32) _ _ _ hm hw (lv_sub hl [2, 1, 0] rfl)
def m_X3_tells_245 (f : Nat) (u : TS) : Option TS := some u
def m_X3_tells_203 (f : Nat) (k38 : TS → Int64 → Int32 → Option TS) (u : TS) (x1 : Int64) (x3 : Int32) : Option TS := nmv (sB u 33 (Int32.toNatClampNeg (12 : Int32)) x1) fun u1 =>
    nmv (sB u1 33 (Int32.toNatClampNeg (13 : Int32)) (0 : Int64)) fun u2 =>
    nmv (sB u2 33 (Int32.toNatClampNeg (14 : Int32)) (0 : Int64)) fun u3 =>
    nmv (sB u3 33 (Int32.toNatClampNeg (15 : Int32)) (0 : Int64)) fun u4 =>
    bd (m_X3_leavesNone f u4) fun u5 =>
    nmv ((x3 + 1) : Int32) fun v6 =>
    k38 u5 x1 v6
def m_X3_tells_197 (f : Nat) (k38 : TS → Int64 → Int32 → Option TS) (k46 : TS → Int64 → Int32 → Int32 → Option TS) (u : TS) (x1 : Int64) (x3 : Int32) (x4 : Int32) : Option TS := nmv ((x4 + 1) : Int32) fun v1 =>
    k46 u x1 x3 v1
def m_X3_tells_159 (f : Nat) (k38 : TS → Int64 → Int32 → Option TS) (k46 : TS → Int64 → Int32 → Int32 → Option TS) : Nat → TS → Int64 → Int32 → Int32 → Int32 → Option TS
  | 0, _, _, _, _, _ => none
  | n159 + 1, u, x1, x3, x4, x7 => if (3 : Int32) ≤ x7 then
    m_X3_tells_197 f k38 k46 u x1 x3 x4
    else gd (ix (((3 : Int32) * x4) + x7) 9) <|
    gd (ix ((((4 : Int32) * x4) + (1 : Int32)) + x7) 16) <|
    nmv (sB u 33 (Int32.toNatClampNeg ((((4 : Int32) * x4) + (1 : Int32)) + x7)) (tB u 32 (Int32.toNatClampNeg (((3 : Int32) * x4) + x7)))) fun u4 =>
    nmv ((x7 + 1) : Int32) fun v5 =>
    m_X3_tells_159 f k38 k46 n159 u4 x1 x3 x4 v5
def m_X3_tells_141 (f : Nat) (k38 : TS → Int64 → Int32 → Option TS) (k46 : TS → Int64 → Int32 → Int32 → Option TS) (u : TS) (x1 : Int64) (x3 : Int32) (x4 : Int32) (x5 : Int64) : Option TS := bd (m_J9_floorMod f x5 x1) fun r1 =>
    gd (ix ((4 : Int32) * x4) 16) <|
    nmv (sB u 33 (Int32.toNatClampNeg ((4 : Int32) * x4)) r1) fun u3 =>
    m_X3_tells_159 f k38 k46 f u3 x1 x3 x4 (0 : Int32)
def m_X3_tells_109 (f : Nat) (k38 : TS → Int64 → Int32 → Option TS) (k46 : TS → Int64 → Int32 → Int32 → Option TS) (k58 : TS → Int64 → Int32 → Int32 → Int64 → Int32 → Option TS) (u : TS) (x1 : Int64) (x3 : Int32) (x4 : Int32) (x5 : Int64) (x7 : Int32) (x8 : Int64) : Option TS := gd (ix (((3 : Int32) * x4) + x7) 9) <|
    gd (nzL x1) <|
    gd (nzL x1) <|
    gd (nzL x1) <|
    nmv ((x5 + (rmL ((rmL (tB u 32 (Int32.toNatClampNeg (((3 : Int32) * x4) + x7))) x1) * (rmL x8 x1)) x1)) : Int64) fun v5 =>
    nmv ((x7 + 1) : Int32) fun v6 =>
    k58 u x1 x3 x4 v5 v6
def m_X3_tells_70 (f : Nat) (k38 : TS → Int64 → Int32 → Option TS) (k46 : TS → Int64 → Int32 → Int32 → Option TS) (k58 : TS → Int64 → Int32 → Int32 → Int64 → Int32 → Option TS) : Nat → TS → Int64 → Int32 → Int32 → Int64 → Int32 → Int64 → Int32 → Option TS
  | 0, _, _, _, _, _, _, _, _ => none
  | n70 + 1, u, x1, x3, x4, x5, x7, x8, x10 => if (3 : Int32) ≤ x10 then
    m_X3_tells_109 f k38 k46 k58 u x1 x3 x4 x5 x7 x8
    else gd (ix (((3 : Int32) * x7) + x10) 9) <|
    bd2 (m_X3_adjugate f u x10 x3) fun r4 u3 =>
    gd (nzL x1) <|
    nmv ((x8 + (rmL ((tB u 27 (Int32.toNatClampNeg (((3 : Int32) * x7) + x10))) * r4) x1)) : Int64) fun v6 =>
    nmv ((x10 + 1) : Int32) fun v7 =>
    m_X3_tells_70 f k38 k46 k58 n70 u3 x1 x3 x4 x5 x7 v6 v7
def m_X3_tells_58 (f : Nat) (k38 : TS → Int64 → Int32 → Option TS) (k46 : TS → Int64 → Int32 → Int32 → Option TS) : Nat → TS → Int64 → Int32 → Int32 → Int64 → Int32 → Option TS
  | 0, _, _, _, _, _, _ => none
  | n58 + 1, u, x1, x3, x4, x5, x7 => if (3 : Int32) ≤ x7 then
    m_X3_tells_141 f k38 k46 u x1 x3 x4 x5
    else m_X3_tells_70 f k38 k46 (m_X3_tells_58 f k38 k46 n58) f u x1 x3 x4 x5 x7 (0 : Int64) (0 : Int32)
def m_X3_tells_46 (f : Nat) (k38 : TS → Int64 → Int32 → Option TS) : Nat → TS → Int64 → Int32 → Int32 → Option TS
  | 0, _, _, _, _ => none
  | n46 + 1, u, x1, x3, x4 => if (3 : Int32) ≤ x4 then
    m_X3_tells_203 f k38 u x1 x3
    else m_X3_tells_58 f k38 (m_X3_tells_46 f k38 n46) f u x1 x3 x4 (0 : Int64) (0 : Int32)
def m_X3_tells_38 (f : Nat) : Nat → TS → Int64 → Int32 → Option TS
  | 0, _, _, _ => none
  | n38 + 1, u, x1, x3 => if (3 : Int32) ≤ x3 then
    m_X3_tells_245 f u
    else m_X3_tells_46 f (m_X3_tells_38 f n38) f u x1 x3 (0 : Int32)
def m_X3_tells_36 (f : Nat) (u : TS) (x1 : Int64) : Option TS := m_X3_tells_38 f f u x1 (0 : Int32)
def m_X3_tells_29 (f : Nat) (k7 : TS → Int64 → Int32 → Option TS) (u : TS) (x1 : Int64) (x3 : Int32) (y1 : Int32) (y2 : Int64) : Option TS := gd (ix y1 9) <|
    nmv (sB u 32 (Int32.toNatClampNeg y1) y2) fun u2 =>
    nmv ((x3 + 1) : Int32) fun v3 =>
    k7 u2 x1 v3
def m_X3_tells_7 (f : Nat) : Nat → TS → Int64 → Int32 → Option TS
  | 0, _, _, _ => none
  | n7 + 1, u, x1, x3 => if (9 : Int32) ≤ x3 then
    m_X3_tells_36 f u x1
    else if ¬ (rmI x3 (4 : Int32)) = 0 then
    m_X3_tells_29 f (m_X3_tells_7 f n7) u x1 x3 x3 (0 : Int64)
    else m_X3_tells_29 f (m_X3_tells_7 f n7) u x1 x3 x3 (1 : Int64)
def m_X3_tells (f : Nat) (u : TS) : Option TS := bd2 (m_X3_otherDet f u) fun r2 u1 =>
    m_X3_tells_7 f f u1 r2 (0 : Int32)
abbrev rm_X3_tells : Room := { frames := 5, cells := 0, slots := 0, locals := 121 }
theorem cw_X3_tells {R : Room} {s : State} {args : Array Value} {own : String} {idx : Nat} (hts : ∀ w ∈ lw_all, w.before args s = true) (hl : Cond.methodLink own idx yX3_tells ∈ lw_all) (hR : rm_X3_tells.frames + 1 ≤ R.frames ∧ 8 + (11 + 11) + rm_X3_tells.locals ≤ R.locals) : CallW R s args own RX3 idx yX3_tells cX3_tells 11 (Option.none : Option Jvm.ClassFile.FieldType) (ws_ yX3_tells cX3_tells 11 (Option.none : Option Jvm.ClassFile.FieldType)) rm_X3_tells 0 0 0 := cwV 0 hts (lw_V hl q1935 qs88 q125 q1936) rfl rfl rfl (by decide +kernel) hR
set_option maxHeartbeats 4000000 in
set_option maxRecDepth 100000 in
theorem w_X3_tells (l : Launch) {D : va_G} {ad : Nat → Nat} {dI dJ : ClassId} {A : Nat → Prop} {f : Nat} {u u9 : TS}  (hm : m_X3_tells f u = some u9) : Met l yX3_tells (ws_ yX3_tells cX3_tells 11 (Option.none : Option Jvm.ClassFile.FieldType)) rm_X3_tells (va_Pc [.ref (ad 40)] (TPre D ad dI dJ A u)) (va_Qv (fun u => u = u9) (TPost D ad dI dJ A) A) 0 0 A := by
  refine Met.ofW (cc := cX3_tells) (maxL := 11) (ret := (Option.none : Option Jvm.ClassFile.FieldType)) (by decide) rfl ?_
  intro p e s m args below meth c s₁ B hml hv
  have hx := B.exec
  have hb := B.bytes
  have hr := B.returns
  have hts := atoms_spec (ws := (ws_ yX3_tells cX3_tells 11 (Option.none : Option Jvm.ClassFile.FieldType))) B.pre
  have hts : ∀ w ∈ lw_all, w.before args s = true := fun w h => hts w (List.mem_cons_of_mem _ h)
  have hown : s.vm.findClass RX3 = some m.cls := findClass_of_methodNamed B.named
  have hlocks := B.notSynchronized
  obtain ⟨hav, hv⟩ := hv
  have C : TC p s m args c cX3_tells D dI dJ := ⟨hx, hb, hown, hts, hv.2.1⟩
  have hw : TH D ad dI dJ A s.heap u s.heap [] := ⟨hv.1, hv.2.2.1, va_S.rf, hv.2.2.2⟩
  generalize hQ : MQ below (va_Qv (fun u => u = u9) (TPost D ad dI dJ A) A) args s 0 0 A = QQ
  have hent := lg_entry_eq m [.ref (ad 40)] 11
  rw [← hav] at hent
  rw [hent]
  have hl := lv_entry ([.ref (ad 40)]) (n := 11) (Nat.le_of_ble_eq_true rfl)
  generalize (lg_sl ([.ref (ad 40)]) ++ List.replicate (11 - (lg_sl ([.ref (ad 40)])).length) Slot.unset).toArray = ls at hl ⊢
  have hl : lv_has ls 11 [(0, .ref (ad 40))] := hl
  change W p l e rm_X3_tells s m args below meth c s.heap [] 0 0 QQ (F0 m 0 ls [])
  have hB245 : ∀ (u : TS) (H : Heap) (locs : List Loc) (ls : Array Slot), m_X3_tells_245 f u = some u9 → TH D ad dI dJ A s.heap u H locs → lv_has ls 11 [] → W p l e rm_X3_tells s m args below meth c H locs 0 0 QQ (F0 m 245 ls []) := by
    intro u H locs ls hm hw hl
    rw [m_X3_tells_245] at hm
    rw [← hQ]
    exact W.vret hx hb hr (fun t ht hW => ⟨⟨u, rfl, ret1 hm, by rw [ht]; exact hw.1, hw.2.1⟩, hw.2.2.1.F ht⟩) hw.2.2.1.2.2 dX3_tells_245
  have hB38 : ∀ (n38 : Nat), ∀ (u : TS) (x1 : Int64) (x3 : Int32) (H : Heap) (locs : List Loc) (ls : Array Slot), m_X3_tells_38 f n38 u x1 x3 = some u9 → TH D ad dI dJ A s.heap u H locs → lv_has ls 11 [(0, .ref (ad 40)), (1, .long x1), (3, .int x3)] → W p l e rm_X3_tells s m args below meth c H locs 0 0 QQ (F0 m 38 ls []) := by
    intro n38
    induction n38 with
    | zero => intro u x1 x3 H locs ls hm hw hl; rw [m_X3_tells_38] at hm; exact noE hm
    | succ n38 ih38 =>
      have hB203 : ∀ (u : TS) (x1 : Int64) (x3 : Int32) (H : Heap) (locs : List Loc) (ls : Array Slot), m_X3_tells_203 f (m_X3_tells_38 f n38) u x1 x3 = some u9 → TH D ad dI dJ A s.heap u H locs → lv_has ls 11 [(0, .ref (ad 40)), (1, .long x1), (3, .int x3)] → W p l e rm_X3_tells s m args below meth c H locs 0 0 QQ (F0 m 203 ls []) := by
        intro u x1 x3 H locs ls hm hw hl
        rw [m_X3_tells_203] at hm
        refine lv_aload_n hx hb dX3_tells_203 rfl (lv_at hl 0 rfl) ?_
        refine tg_get C hw 33 (by decide) q1599 rfl dX3_tells_204 ?_
        refine lv_bipush (v := 12) hx hb dX3_tells_207 (by decide) ?_
        refine lv_lload_n hx hb dX3_tells_209 rfl (lv_at hl 1 rfl) ?_
        refine tg_last C hw (tp_33 ad dI dJ u) (by decide) (ts_33 ad dI dJ u _ _) dX3_tells_210 (fun H locs hw => ?_)
        obtain ⟨u1, eu1, hm⟩ := nmE hm
        rw [← eu1] at hw
        refine lv_aload_n hx hb dX3_tells_211 rfl (lv_at hl 0 rfl) ?_
        refine tg_get C hw 33 (by decide) q1599 rfl dX3_tells_212 ?_
        refine lv_bipush (v := 13) hx hb dX3_tells_215 (by decide) ?_
        refine lv_lconst (v := 0) hx hb dX3_tells_217 (by decide) ?_
        refine tg_last C hw (tp_33 ad dI dJ u1) (by decide) (ts_33 ad dI dJ u1 _ _) dX3_tells_218 (fun H locs hw => ?_)
        obtain ⟨u2, eu2, hm⟩ := nmE hm
        rw [← eu2] at hw
        refine lv_aload_n hx hb dX3_tells_219 rfl (lv_at hl 0 rfl) ?_
        refine tg_get C hw 33 (by decide) q1599 rfl dX3_tells_220 ?_
        refine lv_bipush (v := 14) hx hb dX3_tells_223 (by decide) ?_
        refine lv_lconst (v := 0) hx hb dX3_tells_225 (by decide) ?_
        refine tg_last C hw (tp_33 ad dI dJ u2) (by decide) (ts_33 ad dI dJ u2 _ _) dX3_tells_226 (fun H locs hw => ?_)
        obtain ⟨u3, eu3, hm⟩ := nmE hm
        rw [← eu3] at hw
        refine lv_aload_n hx hb dX3_tells_227 rfl (lv_at hl 0 rfl) ?_
        refine tg_get C hw 33 (by decide) q1599 rfl dX3_tells_228 ?_
        refine lv_bipush (v := 15) hx hb dX3_tells_231 (by decide) ?_
        refine lv_lconst (v := 0) hx hb dX3_tells_233 (by decide) ?_
        refine tg_last C hw (tp_33 ad dI dJ u3) (by decide) (ts_33 ad dI dJ u3 _ _) dX3_tells_234 (fun H locs hw => ?_)
        obtain ⟨u4, eu4, hm⟩ := nmE hm
        rw [← eu4] at hw
        refine lv_aload_n hx hb dX3_tells_235 rfl (lv_at hl 0 rfl) ?_
        obtain ⟨u5, eu5, hm⟩ := bdE hm
        refine tg_callv hw (va_runV (As := []) (rest := []) ⟨hx, hb, hml, hown, hts⟩ (w_X3_leavesNone l eu5) (cw_X3_leavesNone hts q1946 ⟨Nat.le_of_ble_eq_true rfl, Nat.le_of_ble_eq_true rfl⟩) (tg_pre C hw _) rfl rfl hl.1 rfl (lv_room (Nat.le_of_ble_eq_true rfl)) dX3_tells_236 ⟨Nat.le_of_ble_eq_true rfl, Nat.le_of_ble_eq_true rfl⟩) (fun H locs hw => ?_)
        obtain ⟨v6, ev6, hm⟩ := nmE hm
        refine lv_iinc (v := v6) (lv' := [(3, .int v6), (0, .ref (ad 40)), (1, .long x1)]) hx hb dX3_tells_239 hl (k := 2) rfl (by rw [ev6]; rfl) (by decide) rfl (fun ls hl => ?_)
        refine lv_goto (tgt := 38) hx hb dX3_tells_242 (by decide) ?_
        exact ih38 u5 x1 v6 _ _ _ hm hw (lv_sub hl [1, 2, 0] rfl)
      have hB46 : ∀ (n46 : Nat), ∀ (u : TS) (x1 : Int64) (x3 : Int32) (x4 : Int32) (H : Heap) (locs : List Loc) (ls : Array Slot), m_X3_tells_46 f (m_X3_tells_38 f n38) n46 u x1 x3 x4 = some u9 → TH D ad dI dJ A s.heap u H locs → lv_has ls 11 [(0, .ref (ad 40)), (1, .long x1), (3, .int x3), (4, .int x4)] → W p l e rm_X3_tells s m args below meth c H locs 0 0 QQ (F0 m 46 ls []) := by
        intro n46
        induction n46 with
        | zero => intro u x1 x3 x4 H locs ls hm hw hl; rw [m_X3_tells_46] at hm; exact noE hm
        | succ n46 ih46 =>
          have hB197 : ∀ (u : TS) (x1 : Int64) (x3 : Int32) (x4 : Int32) (H : Heap) (locs : List Loc) (ls : Array Slot), m_X3_tells_197 f (m_X3_tells_38 f n38) (m_X3_tells_46 f (m_X3_tells_38 f n38) n46) u x1 x3 x4 = some u9 → TH D ad dI dJ A s.heap u H locs → lv_has ls 11 [(0, .ref (ad 40)), (1, .long x1), (3, .int x3), (4, .int x4)] → W p l e rm_X3_tells s m args below meth c H locs 0 0 QQ (F0 m 197 ls []) := by
            intro u x1 x3 x4 H locs ls hm hw hl
            rw [m_X3_tells_197] at hm
            obtain ⟨v1, ev1, hm⟩ := nmE hm
            refine lv_iinc (v := v1) (lv' := [(4, .int v1), (0, .ref (ad 40)), (1, .long x1), (3, .int x3)]) hx hb dX3_tells_197 hl (k := 3) rfl (by rw [ev1]; rfl) (by decide) rfl (fun ls hl => ?_)
            refine lv_goto (tgt := 46) hx hb dX3_tells_200 (by decide) ?_
            exact ih46 u x1 x3 v1 _ _ _ hm hw (lv_sub hl [1, 2, 3, 0] rfl)
          have hB159 : ∀ (n159 : Nat), ∀ (u : TS) (x1 : Int64) (x3 : Int32) (x4 : Int32) (x7 : Int32) (H : Heap) (locs : List Loc) (ls : Array Slot), m_X3_tells_159 f (m_X3_tells_38 f n38) (m_X3_tells_46 f (m_X3_tells_38 f n38) n46) n159 u x1 x3 x4 x7 = some u9 → TH D ad dI dJ A s.heap u H locs → lv_has ls 11 [(0, .ref (ad 40)), (1, .long x1), (3, .int x3), (4, .int x4), (7, .int x7)] → W p l e rm_X3_tells s m args below meth c H locs 0 0 QQ (F0 m 159 ls []) := by
            intro n159
            induction n159 with
            | zero => intro u x1 x3 x4 x7 H locs ls hm hw hl; rw [m_X3_tells_159] at hm; exact noE hm
            | succ n159 ih159 =>
              intro u x1 x3 x4 x7 H locs ls hm hw hl
              rw [m_X3_tells_159] at hm
              refine lv_iload hx hb dX3_tells_159 (lv_at hl 4 rfl) ?_
              refine lv_iconst (v := 3) hx hb dX3_tells_161 (by decide) ?_
              refine lv_icmp_ge (tgt := 197) hx hb dX3_tells_162 (by decide) (fun c1 => ?_) (fun c1 => ?_)
              · have hm := ifT hm c1
                exact hB197 u x1 x3 x4 _ _ _ hm hw (lv_sub hl [0, 1, 2, 3] rfl)
              · have hm := ifF hm c1
                refine lv_aload_n hx hb dX3_tells_165 rfl (lv_at hl 0 rfl) ?_
                refine tg_get C hw 33 (by decide) q1599 rfl dX3_tells_166 ?_
                refine lv_iconst (v := 4) hx hb dX3_tells_169 (by decide) ?_
                refine lv_iload hx hb dX3_tells_170 (lv_at hl 3 rfl) ?_
                refine lv_imul hx hb dX3_tells_172 ?_
                refine lv_iconst (v := 1) hx hb dX3_tells_173 (by decide) ?_
                refine lv_iadd hx hb dX3_tells_174 ?_
                refine lv_iload hx hb dX3_tells_175 (lv_at hl 4 rfl) ?_
                refine lv_iadd hx hb dX3_tells_177 ?_
                refine lv_aload_n hx hb dX3_tells_178 rfl (lv_at hl 0 rfl) ?_
                refine tg_get C hw 32 (by decide) q1598 rfl dX3_tells_179 ?_
                refine lv_iconst (v := 3) hx hb dX3_tells_182 (by decide) ?_
                refine lv_iload hx hb dX3_tells_183 (lv_at hl 3 rfl) ?_
                refine lv_imul hx hb dX3_tells_185 ?_
                refine lv_iload hx hb dX3_tells_186 (lv_at hl 4 rfl) ?_
                refine lv_iadd hx hb dX3_tells_188 ?_
                obtain ⟨g2, hm⟩ := gdE hm
                refine tg_lald C hw (tp_32 ad dI dJ u) g2 dX3_tells_189 ?_
                obtain ⟨g3, hm⟩ := gdE hm
                refine tg_last C hw (tp_33 ad dI dJ u) g3 (ts_33 ad dI dJ u _ _) dX3_tells_190 (fun H locs hw => ?_)
                obtain ⟨u4, eu4, hm⟩ := nmE hm
                rw [← eu4] at hw
                obtain ⟨v5, ev5, hm⟩ := nmE hm
                refine lv_iinc (v := v5) (lv' := [(7, .int v5), (0, .ref (ad 40)), (1, .long x1), (3, .int x3), (4, .int x4)]) hx hb dX3_tells_191 hl (k := 4) rfl (by rw [ev5]; rfl) (by decide) rfl (fun ls hl => ?_)
                refine lv_goto (tgt := 159) hx hb dX3_tells_194 (by decide) ?_
                exact ih159 u4 x1 x3 x4 v5 _ _ _ hm hw (lv_sub hl [1, 2, 3, 4, 0] rfl)
          have hB141 : ∀ (u : TS) (x1 : Int64) (x3 : Int32) (x4 : Int32) (x5 : Int64) (H : Heap) (locs : List Loc) (ls : Array Slot), m_X3_tells_141 f (m_X3_tells_38 f n38) (m_X3_tells_46 f (m_X3_tells_38 f n38) n46) u x1 x3 x4 x5 = some u9 → TH D ad dI dJ A s.heap u H locs → lv_has ls 11 [(0, .ref (ad 40)), (1, .long x1), (3, .int x3), (4, .int x4), (5, .long x5)] → W p l e rm_X3_tells s m args below meth c H locs 0 0 QQ (F0 m 141 ls []) := by
            intro u x1 x3 x4 x5 H locs ls hm hw hl
            rw [m_X3_tells_141] at hm
            refine lv_aload_n hx hb dX3_tells_141 rfl (lv_at hl 0 rfl) ?_
            refine tg_get C hw 33 (by decide) q1599 rfl dX3_tells_142 ?_
            refine lv_iconst (v := 4) hx hb dX3_tells_145 (by decide) ?_
            refine lv_iload hx hb dX3_tells_146 (lv_at hl 3 rfl) ?_
            refine lv_imul hx hb dX3_tells_148 ?_
            refine lv_lload hx hb dX3_tells_149 (lv_at hl 4 rfl) ?_
            refine lv_lload_n hx hb dX3_tells_151 rfl (lv_at hl 1 rfl) ?_
            obtain ⟨r1, er1, hm⟩ := bdE hm
            refine scl (va_runS (As := [.long x5, .long x1]) (rest := [.int ((4 : Int32) * x4), .ref (ad 33)]) ⟨hx, hb, hml, hown, hts⟩ (w_J9_floorMod l er1) (cw_J9_floorMod hts q1945 ⟨Nat.le_of_ble_eq_true rfl, Nat.le_of_ble_eq_true rfl⟩) (pre_s _) rfl rfl hl.1 rfl (lv_room (Nat.le_of_ble_eq_true rfl)) dX3_tells_152 ⟨Nat.le_of_ble_eq_true rfl, Nat.le_of_ble_eq_true rfl⟩) ?_
            obtain ⟨g2, hm⟩ := gdE hm
            refine tg_last C hw (tp_33 ad dI dJ u) g2 (ts_33 ad dI dJ u _ _) dX3_tells_155 (fun H locs hw => ?_)
            obtain ⟨u3, eu3, hm⟩ := nmE hm
            rw [← eu3] at hw
            refine lv_iconst (v := 0) hx hb dX3_tells_156 (by decide) ?_
            refine lv_istore (lv' := [(7, .int (0 : Int32)), (0, .ref (ad 40)), (1, .long x1), (3, .int x3), (4, .int x4), (5, .long x5)]) hx hb dX3_tells_157 hl (by decide) rfl (fun ls hl => ?_)
            exact hB159 f u3 x1 x3 x4 (0 : Int32) _ _ _ hm hw (lv_sub hl [1, 2, 3, 4, 0] rfl)
          have hB58 : ∀ (n58 : Nat), ∀ (u : TS) (x1 : Int64) (x3 : Int32) (x4 : Int32) (x5 : Int64) (x7 : Int32) (H : Heap) (locs : List Loc) (ls : Array Slot), m_X3_tells_58 f (m_X3_tells_38 f n38) (m_X3_tells_46 f (m_X3_tells_38 f n38) n46) n58 u x1 x3 x4 x5 x7 = some u9 → TH D ad dI dJ A s.heap u H locs → lv_has ls 11 [(0, .ref (ad 40)), (1, .long x1), (3, .int x3), (4, .int x4), (5, .long x5), (7, .int x7)] → W p l e rm_X3_tells s m args below meth c H locs 0 0 QQ (F0 m 58 ls []) := by
            intro n58
            induction n58 with
            | zero => intro u x1 x3 x4 x5 x7 H locs ls hm hw hl; rw [m_X3_tells_58] at hm; exact noE hm
            | succ n58 ih58 =>
              have hB109 : ∀ (u : TS) (x1 : Int64) (x3 : Int32) (x4 : Int32) (x5 : Int64) (x7 : Int32) (x8 : Int64) (H : Heap) (locs : List Loc) (ls : Array Slot), m_X3_tells_109 f (m_X3_tells_38 f n38) (m_X3_tells_46 f (m_X3_tells_38 f n38) n46) (m_X3_tells_58 f (m_X3_tells_38 f n38) (m_X3_tells_46 f (m_X3_tells_38 f n38) n46) n58) u x1 x3 x4 x5 x7 x8 = some u9 → TH D ad dI dJ A s.heap u H locs → lv_has ls 11 [(0, .ref (ad 40)), (1, .long x1), (3, .int x3), (4, .int x4), (5, .long x5), (7, .int x7), (8, .long x8)] → W p l e rm_X3_tells s m args below meth c H locs 0 0 QQ (F0 m 109 ls []) := by
                intro u x1 x3 x4 x5 x7 x8 H locs ls hm hw hl
                rw [m_X3_tells_109] at hm
                refine lv_lload hx hb dX3_tells_109 (lv_at hl 4 rfl) ?_
                refine lv_aload_n hx hb dX3_tells_111 rfl (lv_at hl 0 rfl) ?_
                refine tg_get C hw 32 (by decide) q1598 rfl dX3_tells_112 ?_
                refine lv_iconst (v := 3) hx hb dX3_tells_115 (by decide) ?_
                refine lv_iload hx hb dX3_tells_116 (lv_at hl 3 rfl) ?_
                refine lv_imul hx hb dX3_tells_118 ?_
                refine lv_iload hx hb dX3_tells_119 (lv_at hl 5 rfl) ?_
                refine lv_iadd hx hb dX3_tells_121 ?_
                obtain ⟨g1, hm⟩ := gdE hm
                refine tg_lald C hw (tp_32 ad dI dJ u) g1 dX3_tells_122 ?_
                refine lv_lload_n hx hb dX3_tells_123 rfl (lv_at hl 1 rfl) ?_
                obtain ⟨g2, hm⟩ := gdE hm
                refine w_lrem hx hb dX3_tells_124 (nzL_ne g2) ?_
                refine lv_lload hx hb dX3_tells_125 (lv_at hl 6 rfl) ?_
                refine lv_lload_n hx hb dX3_tells_127 rfl (lv_at hl 1 rfl) ?_
                obtain ⟨g3, hm⟩ := gdE hm
                refine w_lrem hx hb dX3_tells_128 (nzL_ne g3) ?_
                refine lv_lmul hx hb dX3_tells_129 ?_
                refine lv_lload_n hx hb dX3_tells_130 rfl (lv_at hl 1 rfl) ?_
                obtain ⟨g4, hm⟩ := gdE hm
                refine w_lrem hx hb dX3_tells_131 (nzL_ne g4) ?_
                refine lv_ladd hx hb dX3_tells_132 ?_
                refine lv_topl (fun v5 ev5 => ?_)
                have hm := nmK hm ev5
                refine lv_lstore (lv' := [(5, .long v5), (0, .ref (ad 40)), (1, .long x1), (3, .int x3), (4, .int x4), (7, .int x7), (8, .long x8)]) hx hb dX3_tells_133 hl (by decide) rfl (fun ls hl => ?_)
                obtain ⟨v6, ev6, hm⟩ := nmE hm
                refine lv_iinc (v := v6) (lv' := [(7, .int v6), (5, .long v5), (0, .ref (ad 40)), (1, .long x1), (3, .int x3), (4, .int x4), (8, .long x8)]) hx hb dX3_tells_135 hl (k := 5) rfl (by rw [ev6]; rfl) (by decide) rfl (fun ls hl => ?_)
                refine lv_goto (tgt := 58) hx hb dX3_tells_138 (by decide) ?_
                exact ih58 u x1 x3 x4 v5 v6 _ _ _ hm hw (lv_sub hl [2, 3, 4, 5, 1, 0] rfl)
              have hB70 : ∀ (n70 : Nat), ∀ (u : TS) (x1 : Int64) (x3 : Int32) (x4 : Int32) (x5 : Int64) (x7 : Int32) (x8 : Int64) (x10 : Int32) (H : Heap) (locs : List Loc) (ls : Array Slot), m_X3_tells_70 f (m_X3_tells_38 f n38) (m_X3_tells_46 f (m_X3_tells_38 f n38) n46) (m_X3_tells_58 f (m_X3_tells_38 f n38) (m_X3_tells_46 f (m_X3_tells_38 f n38) n46) n58) n70 u x1 x3 x4 x5 x7 x8 x10 = some u9 → TH D ad dI dJ A s.heap u H locs → lv_has ls 11 [(0, .ref (ad 40)), (1, .long x1), (3, .int x3), (4, .int x4), (5, .long x5), (7, .int x7), (8, .long x8), (10, .int x10)] → W p l e rm_X3_tells s m args below meth c H locs 0 0 QQ (F0 m 70 ls []) := by
                intro n70
                induction n70 with
                | zero => intro u x1 x3 x4 x5 x7 x8 x10 H locs ls hm hw hl; rw [m_X3_tells_70] at hm; exact noE hm
                | succ n70 ih70 =>
                  intro u x1 x3 x4 x5 x7 x8 x10 H locs ls hm hw hl
                  rw [m_X3_tells_70] at hm
                  refine lv_iload hx hb dX3_tells_70 (lv_at hl 7 rfl) ?_
                  refine lv_iconst (v := 3) hx hb dX3_tells_72 (by decide) ?_
                  refine lv_icmp_ge (tgt := 109) hx hb dX3_tells_73 (by decide) (fun c1 => ?_) (fun c1 => ?_)
                  · have hm := ifT hm c1
                    exact hB109 u x1 x3 x4 x5 x7 x8 _ _ _ hm hw (lv_sub hl [0, 1, 2, 3, 4, 5, 6] rfl)
                  · have hm := ifF hm c1
                    refine lv_lload hx hb dX3_tells_76 (lv_at hl 6 rfl) ?_
                    refine lv_aload_n hx hb dX3_tells_78 rfl (lv_at hl 0 rfl) ?_
                    refine tg_get C hw 27 (by decide) q1593 rfl dX3_tells_79 ?_
                    refine lv_iconst (v := 3) hx hb dX3_tells_82 (by decide) ?_
                    refine lv_iload hx hb dX3_tells_83 (lv_at hl 5 rfl) ?_
                    refine lv_imul hx hb dX3_tells_85 ?_
                    refine lv_iload hx hb dX3_tells_86 (lv_at hl 7 rfl) ?_
                    refine lv_iadd hx hb dX3_tells_88 ?_
                    obtain ⟨g2, hm⟩ := gdE hm
                    refine tg_lald C hw (tp_27 ad dI dJ u) g2 dX3_tells_89 ?_
                    refine lv_aload_n hx hb dX3_tells_90 rfl (lv_at hl 0 rfl) ?_
                    refine lv_iload hx hb dX3_tells_91 (lv_at hl 7 rfl) ?_
                    refine lv_iload_n hx hb dX3_tells_93 rfl (lv_at hl 2 rfl) ?_
                    obtain ⟨r4, u3, er4, hm⟩ := bd2E hm
                    refine tg_calll hw (va_runV (As := [.int x10, .int x3]) (rest := [.long (tB u 27 (Int32.toNatClampNeg (((3 : Int32) * x7) + x10))), .long x8]) ⟨hx, hb, hml, hown, hts⟩ (w_X3_adjugate l er4) (cw_X3_adjugate hts q1941 ⟨Nat.le_of_ble_eq_true rfl, Nat.le_of_ble_eq_true rfl⟩) (tg_pre C hw _) rfl rfl hl.1 rfl (lv_room (Nat.le_of_ble_eq_true rfl)) dX3_tells_94 ⟨Nat.le_of_ble_eq_true rfl, Nat.le_of_ble_eq_true rfl⟩) (fun H locs hw => ?_)
                    refine lv_lmul hx hb dX3_tells_97 ?_
                    refine lv_lload_n hx hb dX3_tells_98 rfl (lv_at hl 1 rfl) ?_
                    obtain ⟨g5, hm⟩ := gdE hm
                    refine w_lrem hx hb dX3_tells_99 (nzL_ne g5) ?_
                    refine lv_ladd hx hb dX3_tells_100 ?_
                    refine lv_topl (fun v6 ev6 => ?_)
                    have hm := nmK hm ev6
                    refine lv_lstore (lv' := [(8, .long v6), (0, .ref (ad 40)), (1, .long x1), (3, .int x3), (4, .int x4), (5, .long x5), (7, .int x7), (10, .int x10)]) hx hb dX3_tells_101 hl (by decide) rfl (fun ls hl => ?_)
                    obtain ⟨v7, ev7, hm⟩ := nmE hm
                    refine lv_iinc (v := v7) (lv' := [(10, .int v7), (8, .long v6), (0, .ref (ad 40)), (1, .long x1), (3, .int x3), (4, .int x4), (5, .long x5), (7, .int x7)]) hx hb dX3_tells_103 hl (k := 7) rfl (by rw [ev7]; rfl) (by decide) rfl (fun ls hl => ?_)
                    refine lv_goto (tgt := 70) hx hb dX3_tells_106 (by decide) ?_
                    exact ih70 u3 x1 x3 x4 x5 x7 v6 v7 _ _ _ hm hw (lv_sub hl [2, 3, 4, 5, 6, 7, 1, 0] rfl)
              intro u x1 x3 x4 x5 x7 H locs ls hm hw hl
              rw [m_X3_tells_58] at hm
              refine lv_iload hx hb dX3_tells_58 (lv_at hl 5 rfl) ?_
              refine lv_iconst (v := 3) hx hb dX3_tells_60 (by decide) ?_
              refine lv_icmp_ge (tgt := 141) hx hb dX3_tells_61 (by decide) (fun c1 => ?_) (fun c1 => ?_)
              · have hm := ifT hm c1
                exact hB141 u x1 x3 x4 x5 _ _ _ hm hw (lv_sub hl [0, 1, 2, 3, 4] rfl)
              · have hm := ifF hm c1
                refine lv_lconst (v := 0) hx hb dX3_tells_64 (by decide) ?_
                refine lv_lstore (lv' := [(8, .long (0 : Int64)), (0, .ref (ad 40)), (1, .long x1), (3, .int x3), (4, .int x4), (5, .long x5), (7, .int x7)]) hx hb dX3_tells_65 hl (by decide) rfl (fun ls hl => ?_)
                refine lv_iconst (v := 0) hx hb dX3_tells_67 (by decide) ?_
                refine lv_istore (lv' := [(10, .int (0 : Int32)), (8, .long (0 : Int64)), (0, .ref (ad 40)), (1, .long x1), (3, .int x3), (4, .int x4), (5, .long x5), (7, .int x7)]) hx hb dX3_tells_68 hl (by decide) rfl (fun ls hl => ?_)
                exact hB70 f u x1 x3 x4 x5 x7 (0 : Int64) (0 : Int32) _ _ _ hm hw (lv_sub hl [2, 3, 4, 5, 6, 7, 1, 0] rfl)
          intro u x1 x3 x4 H locs ls hm hw hl
          rw [m_X3_tells_46] at hm
          refine lv_iload hx hb dX3_tells_46 (lv_at hl 3 rfl) ?_
          refine lv_iconst (v := 3) hx hb dX3_tells_48 (by decide) ?_
          refine lv_icmp_ge (tgt := 203) hx hb dX3_tells_49 (by decide) (fun c1 => ?_) (fun c1 => ?_)
          · have hm := ifT hm c1
            exact hB203 u x1 x3 _ _ _ hm hw (lv_sub hl [0, 1, 2] rfl)
          · have hm := ifF hm c1
            refine lv_lconst (v := 0) hx hb dX3_tells_52 (by decide) ?_
            refine lv_lstore (lv' := [(5, .long (0 : Int64)), (0, .ref (ad 40)), (1, .long x1), (3, .int x3), (4, .int x4)]) hx hb dX3_tells_53 hl (by decide) rfl (fun ls hl => ?_)
            refine lv_iconst (v := 0) hx hb dX3_tells_55 (by decide) ?_
            refine lv_istore (lv' := [(7, .int (0 : Int32)), (5, .long (0 : Int64)), (0, .ref (ad 40)), (1, .long x1), (3, .int x3), (4, .int x4)]) hx hb dX3_tells_56 hl (by decide) rfl (fun ls hl => ?_)
            exact hB58 f u x1 x3 x4 (0 : Int64) (0 : Int32) _ _ _ hm hw (lv_sub hl [2, 3, 4, 5, 1, 0] rfl)
      intro u x1 x3 H locs ls hm hw hl
      rw [m_X3_tells_38] at hm
      refine lv_iload_n hx hb dX3_tells_38 rfl (lv_at hl 2 rfl) ?_
      refine lv_iconst (v := 3) hx hb dX3_tells_39 (by decide) ?_
      refine lv_icmp_ge (tgt := 245) hx hb dX3_tells_40 (by decide) (fun c1 => ?_) (fun c1 => ?_)
      · have hm := ifT hm c1
        exact hB245 u _ _ _ hm hw (lv_sub hl [] rfl)
      · have hm := ifF hm c1
        refine lv_iconst (v := 0) hx hb dX3_tells_43 (by decide) ?_
        refine lv_istore (lv' := [(4, .int (0 : Int32)), (0, .ref (ad 40)), (1, .long x1), (3, .int x3)]) hx hb dX3_tells_44 hl (by decide) rfl (fun ls hl => ?_)
        exact hB46 f u x1 x3 (0 : Int32) _ _ _ hm hw (lv_sub hl [1, 2, 3, 0] rfl)
  have hB36 : ∀ (u : TS) (x1 : Int64) (H : Heap) (locs : List Loc) (ls : Array Slot), m_X3_tells_36 f u x1 = some u9 → TH D ad dI dJ A s.heap u H locs → lv_has ls 11 [(0, .ref (ad 40)), (1, .long x1)] → W p l e rm_X3_tells s m args below meth c H locs 0 0 QQ (F0 m 36 ls []) := by
    intro u x1 H locs ls hm hw hl
    rw [m_X3_tells_36] at hm
    refine lv_iconst (v := 0) hx hb dX3_tells_36 (by decide) ?_
    refine lv_istore_n (lv' := [(3, .int (0 : Int32)), (0, .ref (ad 40)), (1, .long x1)]) hx hb dX3_tells_37 rfl hl (by decide) rfl (fun ls hl => ?_)
    exact hB38 f u x1 (0 : Int32) _ _ _ hm hw (lv_sub hl [1, 2, 0] rfl)
  have hB7 : ∀ (n7 : Nat), ∀ (u : TS) (x1 : Int64) (x3 : Int32) (H : Heap) (locs : List Loc) (ls : Array Slot), m_X3_tells_7 f n7 u x1 x3 = some u9 → TH D ad dI dJ A s.heap u H locs → lv_has ls 11 [(0, .ref (ad 40)), (1, .long x1), (3, .int x3)] → W p l e rm_X3_tells s m args below meth c H locs 0 0 QQ (F0 m 7 ls []) := by
    intro n7
    induction n7 with
    | zero => intro u x1 x3 H locs ls hm hw hl; rw [m_X3_tells_7] at hm; exact noE hm
    | succ n7 ih7 =>
      have hB29 : ∀ (u : TS) (x1 : Int64) (x3 : Int32) (y1 : Int32) (y2 : Int64) (H : Heap) (locs : List Loc) (ls : Array Slot), m_X3_tells_29 f (m_X3_tells_7 f n7) u x1 x3 y1 y2 = some u9 → TH D ad dI dJ A s.heap u H locs → lv_has ls 11 [(0, .ref (ad 40)), (1, .long x1), (3, .int x3)] → W p l e rm_X3_tells s m args below meth c H locs 0 0 QQ (F0 m 29 ls [.long y2, .int y1, .ref (ad 32)]) := by
        intro u x1 x3 y1 y2 H locs ls hm hw hl
        rw [m_X3_tells_29] at hm
        obtain ⟨g1, hm⟩ := gdE hm
        refine tg_last C hw (tp_32 ad dI dJ u) g1 (ts_32 ad dI dJ u _ _) dX3_tells_29 (fun H locs hw => ?_)
        obtain ⟨u2, eu2, hm⟩ := nmE hm
        rw [← eu2] at hw
        obtain ⟨v3, ev3, hm⟩ := nmE hm
        refine lv_iinc (v := v3) (lv' := [(3, .int v3), (0, .ref (ad 40)), (1, .long x1)]) hx hb dX3_tells_30 hl (k := 2) rfl (by rw [ev3]; rfl) (by decide) rfl (fun ls hl => ?_)
        refine lv_goto (tgt := 7) hx hb dX3_tells_33 (by decide) ?_
        exact ih7 u2 x1 v3 _ _ _ hm hw (lv_sub hl [1, 2, 0] rfl)
      intro u x1 x3 H locs ls hm hw hl
      rw [m_X3_tells_7] at hm
      refine lv_iload_n hx hb dX3_tells_7 rfl (lv_at hl 2 rfl) ?_
      refine lv_bipush (v := 9) hx hb dX3_tells_8 (by decide) ?_
      refine lv_icmp_ge (tgt := 36) hx hb dX3_tells_10 (by decide) (fun c1 => ?_) (fun c1 => ?_)
      · have hm := ifT hm c1
        exact hB36 u x1 _ _ _ hm hw (lv_sub hl [0, 1] rfl)
      · have hm := ifF hm c1
        refine lv_aload_n hx hb dX3_tells_13 rfl (lv_at hl 0 rfl) ?_
        refine tg_get C hw 32 (by decide) q1598 rfl dX3_tells_14 ?_
        refine lv_iload_n hx hb dX3_tells_17 rfl (lv_at hl 2 rfl) ?_
        refine lv_iload_n hx hb dX3_tells_18 rfl (lv_at hl 2 rfl) ?_
        refine lv_iconst (v := 4) hx hb dX3_tells_19 (by decide) ?_
        refine w_irem hx hb dX3_tells_20 (by decide) ?_
        refine lv_if_ne (tgt := 28) hx hb dX3_tells_21 (by decide) (fun c2 => ?_) (fun c2 => ?_)
        · have hm := ifT hm c2
          refine lv_lconst (v := 0) hx hb dX3_tells_28 (by decide) ?_
          exact hB29 u x1 x3 x3 (0 : Int64) _ _ _ hm hw (lv_sub hl [0, 1, 2] rfl)
        · have hm := ifT' hm c2
          refine lv_lconst (v := 1) hx hb dX3_tells_24 (by decide) ?_
          refine lv_goto (tgt := 29) hx hb dX3_tells_25 (by decide) ?_
          exact hB29 u x1 x3 x3 (1 : Int64) _ _ _ hm hw (lv_sub hl [0, 1, 2] rfl)
  rw [m_X3_tells] at hm
  refine lv_aload_n hx hb dX3_tells_0 rfl (lv_at hl 0 rfl) ?_
  obtain ⟨r2, u1, er2, hm⟩ := bd2E hm
  refine tg_calll hw (va_runV (As := []) (rest := []) ⟨hx, hb, hml, hown, hts⟩ (w_X3_otherDet l er2) (cw_X3_otherDet hts q1937 ⟨Nat.le_of_ble_eq_true rfl, Nat.le_of_ble_eq_true rfl⟩) (tg_pre C hw _) rfl rfl hl.1 rfl (lv_room (Nat.le_of_ble_eq_true rfl)) dX3_tells_1 ⟨Nat.le_of_ble_eq_true rfl, Nat.le_of_ble_eq_true rfl⟩) (fun H locs hw => ?_)
  refine lv_lstore_n (lv' := [(1, .long r2), (0, .ref (ad 40))]) hx hb dX3_tells_4 rfl hl (by decide) rfl (fun ls hl => ?_)
  refine lv_iconst (v := 0) hx hb dX3_tells_5 (by decide) ?_
  refine lv_istore_n (lv' := [(3, .int (0 : Int32)), (1, .long r2), (0, .ref (ad 40))]) hx hb dX3_tells_6 rfl hl (by decide) rfl (fun ls hl => ?_)
  exact hB7 f u1 r2 (0 : Int32) _ _ _ hm hw (lv_sub hl [2, 1, 0] rfl)
def m_X3_meets_98 (f : Nat) (u : TS) : Option TS := nmv (sL u 19 (tL u 31)) fun u1 =>
    bd (m_X3_forms f u1) fun u2 =>
    bd (m_X3_lessens f u2) fun u3 =>
    some u3
def m_X3_meets_92 (f : Nat) (k12 : TS → Int32 → Option TS) (u : TS) (x3 : Int32) : Option TS := nmv ((x3 + 1) : Int32) fun v1 =>
    k12 u v1
def m_X3_meets_73 (f : Nat) (k12 : TS → Int32 → Option TS) (k20 : TS → Int32 → Int32 → Option TS) (u : TS) (x3 : Int32) (x4 : Int32) (x5 : Int64) : Option TS := gd (ix (((3 : Int32) * x3) + x4) 9) <|
    nmv (sB u 18 (Int32.toNatClampNeg (((3 : Int32) * x3) + x4)) x5) fun u2 =>
    nmv ((x4 + 1) : Int32) fun v3 =>
    k20 u2 x3 v3
def m_X3_meets_32 (f : Nat) (k12 : TS → Int32 → Option TS) (k20 : TS → Int32 → Int32 → Option TS) : Nat → TS → Int32 → Int32 → Int64 → Int32 → Option TS
  | 0, _, _, _, _, _ => none
  | n32 + 1, u, x3, x4, x5, x7 => if (3 : Int32) ≤ x7 then
    m_X3_meets_73 f k12 k20 u x3 x4 x5
    else gd (ix (((3 : Int32) * x3) + x7) 9) <|
    gd (ix (((3 : Int32) * x7) + x4) 9) <|
    nmv ((x5 + ((tB u 32 (Int32.toNatClampNeg (((3 : Int32) * x3) + x7))) * (tB u 27 (Int32.toNatClampNeg (((3 : Int32) * x7) + x4))))) : Int64) fun v4 =>
    nmv ((x7 + 1) : Int32) fun v5 =>
    m_X3_meets_32 f k12 k20 n32 u x3 x4 v4 v5
def m_X3_meets_20 (f : Nat) (k12 : TS → Int32 → Option TS) : Nat → TS → Int32 → Int32 → Option TS
  | 0, _, _, _ => none
  | n20 + 1, u, x3, x4 => if (3 : Int32) ≤ x4 then
    m_X3_meets_92 f k12 u x3
    else m_X3_meets_32 f k12 (m_X3_meets_20 f k12 n20) f u x3 x4 (0 : Int64) (0 : Int32)
def m_X3_meets_12 (f : Nat) : Nat → TS → Int32 → Option TS
  | 0, _, _ => none
  | n12 + 1, u, x3 => if (3 : Int32) ≤ x3 then
    m_X3_meets_98 f u
    else m_X3_meets_20 f (m_X3_meets_12 f n12) f u x3 (0 : Int32)
def m_X3_meets (f : Nat) (u : TS) (x1 : Int32) (x2 : Int32) : Option TS := bd (m_X3_laysBoth f u x1 x2) fun u1 =>
    bd (m_X3_tells f u1) fun u2 =>
    m_X3_meets_12 f f u2 (0 : Int32)
abbrev rm_X3_meets : Room := { frames := 7, cells := 0, slots := 0, locals := 168 }
theorem cw_X3_meets {R : Room} {s : State} {args : Array Value} {own : String} {idx : Nat} (hts : ∀ w ∈ lw_all, w.before args s = true) (hl : Cond.methodLink own idx yX3_meets ∈ lw_all) (hR : rm_X3_meets.frames + 1 ≤ R.frames ∧ 8 + (8 + 11) + rm_X3_meets.locals ≤ R.locals) : CallW R s args own RX3 idx yX3_meets cX3_meets 8 (Option.none : Option Jvm.ClassFile.FieldType) (ws_ yX3_meets cX3_meets 8 (Option.none : Option Jvm.ClassFile.FieldType)) rm_X3_meets 0 0 2 := cwV 2 hts (lw_V hl q1931 qs87 q125 q1932) rfl rfl rfl (by decide +kernel) hR
set_option maxHeartbeats 4000000 in
set_option maxRecDepth 100000 in
theorem w_X3_meets (l : Launch) {D : va_G} {ad : Nat → Nat} {dI dJ : ClassId} {A : Nat → Prop} {f : Nat} {u u9 : TS} {x1 : Int32} {x2 : Int32} (hm : m_X3_meets f u x1 x2 = some u9) : Met l yX3_meets (ws_ yX3_meets cX3_meets 8 (Option.none : Option Jvm.ClassFile.FieldType)) rm_X3_meets (va_Pc [.ref (ad 40), .int x1, .int x2] (TPre D ad dI dJ A u)) (va_Qv (fun u => u = u9) (TPost D ad dI dJ A) A) 0 0 A := by
  refine Met.ofW (cc := cX3_meets) (maxL := 8) (ret := (Option.none : Option Jvm.ClassFile.FieldType)) (by decide) rfl ?_
  intro p e s m args below meth c s₁ B hml hv
  have hx := B.exec
  have hb := B.bytes
  have hr := B.returns
  have hts := atoms_spec (ws := (ws_ yX3_meets cX3_meets 8 (Option.none : Option Jvm.ClassFile.FieldType))) B.pre
  have hts : ∀ w ∈ lw_all, w.before args s = true := fun w h => hts w (List.mem_cons_of_mem _ h)
  have hown : s.vm.findClass RX3 = some m.cls := findClass_of_methodNamed B.named
  have hlocks := B.notSynchronized
  obtain ⟨hav, hv⟩ := hv
  have C : TC p s m args c cX3_meets D dI dJ := ⟨hx, hb, hown, hts, hv.2.1⟩
  have hw : TH D ad dI dJ A s.heap u s.heap [] := ⟨hv.1, hv.2.2.1, va_S.rf, hv.2.2.2⟩
  generalize hQ : MQ below (va_Qv (fun u => u = u9) (TPost D ad dI dJ A) A) args s 0 0 A = QQ
  have hent := lg_entry_eq m [.ref (ad 40), .int x1, .int x2] 8
  rw [← hav] at hent
  rw [hent]
  have hl := lv_entry ([.ref (ad 40), .int x1, .int x2]) (n := 8) (Nat.le_of_ble_eq_true rfl)
  generalize (lg_sl ([.ref (ad 40), .int x1, .int x2]) ++ List.replicate (8 - (lg_sl ([.ref (ad 40), .int x1, .int x2])).length) Slot.unset).toArray = ls at hl ⊢
  have hl : lv_has ls 8 [(0, .ref (ad 40)), (1, .int x1), (2, .int x2)] := hl
  change W p l e rm_X3_meets s m args below meth c s.heap [] 0 0 QQ (F0 m 0 ls [])
  have hB98 : ∀ (u : TS) (H : Heap) (locs : List Loc) (ls : Array Slot), m_X3_meets_98 f u = some u9 → TH D ad dI dJ A s.heap u H locs → lv_has ls 8 [(0, .ref (ad 40))] → W p l e rm_X3_meets s m args below meth c H locs 0 0 QQ (F0 m 98 ls []) := by
    intro u H locs ls hm hw hl
    rw [m_X3_meets_98] at hm
    refine lv_aload_n hx hb dX3_meets_98 rfl (lv_at hl 0 rfl) ?_
    refine lv_aload_n hx hb dX3_meets_99 rfl (lv_at hl 0 rfl) ?_
    refine tg_get C hw 31 (by decide) q1597 rfl dX3_meets_100 ?_
    refine tg_put C hw 19 (by decide) q1585 rfl rfl rfl (ts_19 ad dI dJ u (tL u 31)) dX3_meets_103 (fun H locs hw => ?_)
    obtain ⟨u1, eu1, hm⟩ := nmE hm
    rw [← eu1] at hw
    refine lv_aload_n hx hb dX3_meets_106 rfl (lv_at hl 0 rfl) ?_
    obtain ⟨u2, eu2, hm⟩ := bdE hm
    refine tg_callv hw (va_runV (As := []) (rest := []) ⟨hx, hb, hml, hown, hts⟩ (w_X3_forms l eu2) (cw_X3_forms hts q1832 ⟨Nat.le_of_ble_eq_true rfl, Nat.le_of_ble_eq_true rfl⟩) (tg_pre C hw _) rfl rfl hl.1 rfl (lv_room (Nat.le_of_ble_eq_true rfl)) dX3_meets_107 ⟨Nat.le_of_ble_eq_true rfl, Nat.le_of_ble_eq_true rfl⟩) (fun H locs hw => ?_)
    refine lv_aload_n hx hb dX3_meets_110 rfl (lv_at hl 0 rfl) ?_
    obtain ⟨u3, eu3, hm⟩ := bdE hm
    refine tg_callv hw (va_runV (As := []) (rest := []) ⟨hx, hb, hml, hown, hts⟩ (w_X3_lessens l eu3) (cw_X3_lessens hts q1816 ⟨Nat.le_of_ble_eq_true rfl, Nat.le_of_ble_eq_true rfl⟩) (tg_pre C hw _) rfl rfl hl.1 rfl (lv_room (Nat.le_of_ble_eq_true rfl)) dX3_meets_111 ⟨Nat.le_of_ble_eq_true rfl, Nat.le_of_ble_eq_true rfl⟩) (fun H locs hw => ?_)
    rw [← hQ]
    exact W.vret hx hb hr (fun t ht hW => ⟨⟨u3, rfl, ret1 hm, by rw [ht]; exact hw.1, hw.2.1⟩, hw.2.2.1.F ht⟩) hw.2.2.1.2.2 dX3_meets_114
  have hB12 : ∀ (n12 : Nat), ∀ (u : TS) (x3 : Int32) (H : Heap) (locs : List Loc) (ls : Array Slot), m_X3_meets_12 f n12 u x3 = some u9 → TH D ad dI dJ A s.heap u H locs → lv_has ls 8 [(0, .ref (ad 40)), (3, .int x3)] → W p l e rm_X3_meets s m args below meth c H locs 0 0 QQ (F0 m 12 ls []) := by
    intro n12
    induction n12 with
    | zero => intro u x3 H locs ls hm hw hl; rw [m_X3_meets_12] at hm; exact noE hm
    | succ n12 ih12 =>
      have hB92 : ∀ (u : TS) (x3 : Int32) (H : Heap) (locs : List Loc) (ls : Array Slot), m_X3_meets_92 f (m_X3_meets_12 f n12) u x3 = some u9 → TH D ad dI dJ A s.heap u H locs → lv_has ls 8 [(0, .ref (ad 40)), (3, .int x3)] → W p l e rm_X3_meets s m args below meth c H locs 0 0 QQ (F0 m 92 ls []) := by
        intro u x3 H locs ls hm hw hl
        rw [m_X3_meets_92] at hm
        obtain ⟨v1, ev1, hm⟩ := nmE hm
        refine lv_iinc (v := v1) (lv' := [(3, .int v1), (0, .ref (ad 40))]) hx hb dX3_meets_92 hl (k := 1) rfl (by rw [ev1]; rfl) (by decide) rfl (fun ls hl => ?_)
        refine lv_goto (tgt := 12) hx hb dX3_meets_95 (by decide) ?_
        exact ih12 u v1 _ _ _ hm hw (lv_sub hl [1, 0] rfl)
      have hB20 : ∀ (n20 : Nat), ∀ (u : TS) (x3 : Int32) (x4 : Int32) (H : Heap) (locs : List Loc) (ls : Array Slot), m_X3_meets_20 f (m_X3_meets_12 f n12) n20 u x3 x4 = some u9 → TH D ad dI dJ A s.heap u H locs → lv_has ls 8 [(0, .ref (ad 40)), (3, .int x3), (4, .int x4)] → W p l e rm_X3_meets s m args below meth c H locs 0 0 QQ (F0 m 20 ls []) := by
        intro n20
        induction n20 with
        | zero => intro u x3 x4 H locs ls hm hw hl; rw [m_X3_meets_20] at hm; exact noE hm
        | succ n20 ih20 =>
          have hB73 : ∀ (u : TS) (x3 : Int32) (x4 : Int32) (x5 : Int64) (H : Heap) (locs : List Loc) (ls : Array Slot), m_X3_meets_73 f (m_X3_meets_12 f n12) (m_X3_meets_20 f (m_X3_meets_12 f n12) n20) u x3 x4 x5 = some u9 → TH D ad dI dJ A s.heap u H locs → lv_has ls 8 [(0, .ref (ad 40)), (3, .int x3), (4, .int x4), (5, .long x5)] → W p l e rm_X3_meets s m args below meth c H locs 0 0 QQ (F0 m 73 ls []) := by
            intro u x3 x4 x5 H locs ls hm hw hl
            rw [m_X3_meets_73] at hm
            refine lv_aload_n hx hb dX3_meets_73 rfl (lv_at hl 0 rfl) ?_
            refine tg_get C hw 18 (by decide) q1584 rfl dX3_meets_74 ?_
            refine lv_iconst (v := 3) hx hb dX3_meets_77 (by decide) ?_
            refine lv_iload_n hx hb dX3_meets_78 rfl (lv_at hl 1 rfl) ?_
            refine lv_imul hx hb dX3_meets_79 ?_
            refine lv_iload hx hb dX3_meets_80 (lv_at hl 2 rfl) ?_
            refine lv_iadd hx hb dX3_meets_82 ?_
            refine lv_lload hx hb dX3_meets_83 (lv_at hl 3 rfl) ?_
            obtain ⟨g1, hm⟩ := gdE hm
            refine tg_last C hw (tp_18 ad dI dJ u) g1 (ts_18 ad dI dJ u _ _) dX3_meets_85 (fun H locs hw => ?_)
            obtain ⟨u2, eu2, hm⟩ := nmE hm
            rw [← eu2] at hw
            obtain ⟨v3, ev3, hm⟩ := nmE hm
            refine lv_iinc (v := v3) (lv' := [(4, .int v3), (0, .ref (ad 40)), (3, .int x3), (5, .long x5)]) hx hb dX3_meets_86 hl (k := 2) rfl (by rw [ev3]; rfl) (by decide) rfl (fun ls hl => ?_)
            refine lv_goto (tgt := 20) hx hb dX3_meets_89 (by decide) ?_
            exact ih20 u2 x3 v3 _ _ _ hm hw (lv_sub hl [1, 2, 0] rfl)
          have hB32 : ∀ (n32 : Nat), ∀ (u : TS) (x3 : Int32) (x4 : Int32) (x5 : Int64) (x7 : Int32) (H : Heap) (locs : List Loc) (ls : Array Slot), m_X3_meets_32 f (m_X3_meets_12 f n12) (m_X3_meets_20 f (m_X3_meets_12 f n12) n20) n32 u x3 x4 x5 x7 = some u9 → TH D ad dI dJ A s.heap u H locs → lv_has ls 8 [(0, .ref (ad 40)), (3, .int x3), (4, .int x4), (5, .long x5), (7, .int x7)] → W p l e rm_X3_meets s m args below meth c H locs 0 0 QQ (F0 m 32 ls []) := by
            intro n32
            induction n32 with
            | zero => intro u x3 x4 x5 x7 H locs ls hm hw hl; rw [m_X3_meets_32] at hm; exact noE hm
            | succ n32 ih32 =>
              intro u x3 x4 x5 x7 H locs ls hm hw hl
              rw [m_X3_meets_32] at hm
              refine lv_iload hx hb dX3_meets_32 (lv_at hl 4 rfl) ?_
              refine lv_iconst (v := 3) hx hb dX3_meets_34 (by decide) ?_
              refine lv_icmp_ge (tgt := 73) hx hb dX3_meets_35 (by decide) (fun c1 => ?_) (fun c1 => ?_)
              · have hm := ifT hm c1
                exact hB73 u x3 x4 x5 _ _ _ hm hw (lv_sub hl [0, 1, 2, 3] rfl)
              · have hm := ifF hm c1
                refine lv_lload hx hb dX3_meets_38 (lv_at hl 3 rfl) ?_
                refine lv_aload_n hx hb dX3_meets_40 rfl (lv_at hl 0 rfl) ?_
                refine tg_get C hw 32 (by decide) q1598 rfl dX3_meets_41 ?_
                refine lv_iconst (v := 3) hx hb dX3_meets_44 (by decide) ?_
                refine lv_iload_n hx hb dX3_meets_45 rfl (lv_at hl 1 rfl) ?_
                refine lv_imul hx hb dX3_meets_46 ?_
                refine lv_iload hx hb dX3_meets_47 (lv_at hl 4 rfl) ?_
                refine lv_iadd hx hb dX3_meets_49 ?_
                obtain ⟨g2, hm⟩ := gdE hm
                refine tg_lald C hw (tp_32 ad dI dJ u) g2 dX3_meets_50 ?_
                refine lv_aload_n hx hb dX3_meets_51 rfl (lv_at hl 0 rfl) ?_
                refine tg_get C hw 27 (by decide) q1593 rfl dX3_meets_52 ?_
                refine lv_iconst (v := 3) hx hb dX3_meets_55 (by decide) ?_
                refine lv_iload hx hb dX3_meets_56 (lv_at hl 4 rfl) ?_
                refine lv_imul hx hb dX3_meets_58 ?_
                refine lv_iload hx hb dX3_meets_59 (lv_at hl 2 rfl) ?_
                refine lv_iadd hx hb dX3_meets_61 ?_
                obtain ⟨g3, hm⟩ := gdE hm
                refine tg_lald C hw (tp_27 ad dI dJ u) g3 dX3_meets_62 ?_
                refine lv_lmul hx hb dX3_meets_63 ?_
                refine lv_ladd hx hb dX3_meets_64 ?_
                refine lv_topl (fun v4 ev4 => ?_)
                have hm := nmK hm ev4
                refine lv_lstore (lv' := [(5, .long v4), (0, .ref (ad 40)), (3, .int x3), (4, .int x4), (7, .int x7)]) hx hb dX3_meets_65 hl (by decide) rfl (fun ls hl => ?_)
                obtain ⟨v5, ev5, hm⟩ := nmE hm
                refine lv_iinc (v := v5) (lv' := [(7, .int v5), (5, .long v4), (0, .ref (ad 40)), (3, .int x3), (4, .int x4)]) hx hb dX3_meets_67 hl (k := 4) rfl (by rw [ev5]; rfl) (by decide) rfl (fun ls hl => ?_)
                refine lv_goto (tgt := 32) hx hb dX3_meets_70 (by decide) ?_
                exact ih32 u x3 x4 v4 v5 _ _ _ hm hw (lv_sub hl [2, 3, 4, 1, 0] rfl)
          intro u x3 x4 H locs ls hm hw hl
          rw [m_X3_meets_20] at hm
          refine lv_iload hx hb dX3_meets_20 (lv_at hl 2 rfl) ?_
          refine lv_iconst (v := 3) hx hb dX3_meets_22 (by decide) ?_
          refine lv_icmp_ge (tgt := 92) hx hb dX3_meets_23 (by decide) (fun c1 => ?_) (fun c1 => ?_)
          · have hm := ifT hm c1
            exact hB92 u x3 _ _ _ hm hw (lv_sub hl [0, 1] rfl)
          · have hm := ifF hm c1
            refine lv_lconst (v := 0) hx hb dX3_meets_26 (by decide) ?_
            refine lv_lstore (lv' := [(5, .long (0 : Int64)), (0, .ref (ad 40)), (3, .int x3), (4, .int x4)]) hx hb dX3_meets_27 hl (by decide) rfl (fun ls hl => ?_)
            refine lv_iconst (v := 0) hx hb dX3_meets_29 (by decide) ?_
            refine lv_istore (lv' := [(7, .int (0 : Int32)), (5, .long (0 : Int64)), (0, .ref (ad 40)), (3, .int x3), (4, .int x4)]) hx hb dX3_meets_30 hl (by decide) rfl (fun ls hl => ?_)
            exact hB32 f u x3 x4 (0 : Int64) (0 : Int32) _ _ _ hm hw (lv_sub hl [2, 3, 4, 1, 0] rfl)
      intro u x3 H locs ls hm hw hl
      rw [m_X3_meets_12] at hm
      refine lv_iload_n hx hb dX3_meets_12 rfl (lv_at hl 1 rfl) ?_
      refine lv_iconst (v := 3) hx hb dX3_meets_13 (by decide) ?_
      refine lv_icmp_ge (tgt := 98) hx hb dX3_meets_14 (by decide) (fun c1 => ?_) (fun c1 => ?_)
      · have hm := ifT hm c1
        exact hB98 u _ _ _ hm hw (lv_sub hl [0] rfl)
      · have hm := ifF hm c1
        refine lv_iconst (v := 0) hx hb dX3_meets_17 (by decide) ?_
        refine lv_istore (lv' := [(4, .int (0 : Int32)), (0, .ref (ad 40)), (3, .int x3)]) hx hb dX3_meets_18 hl (by decide) rfl (fun ls hl => ?_)
        exact hB20 f u x3 (0 : Int32) _ _ _ hm hw (lv_sub hl [1, 2, 0] rfl)
  rw [m_X3_meets] at hm
  refine lv_aload_n hx hb dX3_meets_0 rfl (lv_at hl 0 rfl) ?_
  refine lv_iload_n hx hb dX3_meets_1 rfl (lv_at hl 1 rfl) ?_
  refine lv_iload_n hx hb dX3_meets_2 rfl (lv_at hl 2 rfl) ?_
  obtain ⟨u1, eu1, hm⟩ := bdE hm
  refine tg_callv hw (va_runV (As := [.int x1, .int x2]) (rest := []) ⟨hx, hb, hml, hown, hts⟩ (w_X3_laysBoth l eu1) (cw_X3_laysBoth hts q1913 ⟨Nat.le_of_ble_eq_true rfl, Nat.le_of_ble_eq_true rfl⟩) (tg_pre C hw _) rfl rfl hl.1 rfl (lv_room (Nat.le_of_ble_eq_true rfl)) dX3_meets_3 ⟨Nat.le_of_ble_eq_true rfl, Nat.le_of_ble_eq_true rfl⟩) (fun H locs hw => ?_)
  refine lv_aload_n hx hb dX3_meets_6 rfl (lv_at hl 0 rfl) ?_
  obtain ⟨u2, eu2, hm⟩ := bdE hm
  refine tg_callv hw (va_runV (As := []) (rest := []) ⟨hx, hb, hml, hown, hts⟩ (w_X3_tells l eu2) (cw_X3_tells hts q1933 ⟨Nat.le_of_ble_eq_true rfl, Nat.le_of_ble_eq_true rfl⟩) (tg_pre C hw _) rfl rfl hl.1 rfl (lv_room (Nat.le_of_ble_eq_true rfl)) dX3_meets_7 ⟨Nat.le_of_ble_eq_true rfl, Nat.le_of_ble_eq_true rfl⟩) (fun H locs hw => ?_)
  refine lv_iconst (v := 0) hx hb dX3_meets_10 (by decide) ?_
  refine lv_istore_n (lv' := [(3, .int (0 : Int32)), (0, .ref (ad 40)), (1, .int x1), (2, .int x2)]) hx hb dX3_meets_11 rfl hl (by decide) rfl (fun ls hl => ?_)
  exact hB12 f u2 (0 : Int32) _ _ _ hm hw (lv_sub hl [1, 0] rfl)
def m_X3_meetOver (f : Nat) (u : TS) (x1 : Int32) (x2 : Int32) : Option (Int32 × TS) := bd2 (m_X3_whyNot f u x1 x2) fun r2 u1 =>
    if 0 ≤ r2 then
    bd (m_X3_meets f u1 x1 x2) fun u4 =>
    some ((Int64.toInt32 (tL u4 19)), u4)
    else some (r2, u1)
abbrev rm_X3_meetOver : Room := { frames := 8, cells := 0, slots := 0, locals := 195 }
theorem cw_X3_meetOver {R : Room} {s : State} {args : Array Value} {own : String} {idx : Nat} (hts : ∀ w ∈ lw_all, w.before args s = true) (hl : Cond.methodLink own idx yX3_meetOver ∈ lw_all) (hR : rm_X3_meetOver.frames + 1 ≤ R.frames ∧ 8 + (4 + 11) + rm_X3_meetOver.locals ≤ R.locals) : CallW R s args own RX3 idx yX3_meetOver cX3_meetOver 4 (Option.some Jvm.ClassFile.FieldType.int) (ws_ yX3_meetOver cX3_meetOver 4 (Option.some Jvm.ClassFile.FieldType.int)) rm_X3_meetOver 0 0 2 := cwV 2 hts (lw_V hl q1926 q1927 q125 q1928) rfl rfl rfl (by decide +kernel) hR
set_option maxHeartbeats 4000000 in
set_option maxRecDepth 100000 in
theorem w_X3_meetOver (l : Launch) {D : va_G} {ad : Nat → Nat} {dI dJ : ClassId} {A : Nat → Prop} {f : Nat} {u u9 : TS} {r0 : Int32} {x1 : Int32} {x2 : Int32} (hm : m_X3_meetOver f u x1 x2 = some (r0, u9)) : Met l yX3_meetOver (ws_ yX3_meetOver cX3_meetOver 4 (Option.some Jvm.ClassFile.FieldType.int)) rm_X3_meetOver (va_Pc [.ref (ad 40), .int x1, .int x2] (TPre D ad dI dJ A u)) (va_Qi (fun r u => r = r0 ∧ u = u9) (TPost D ad dI dJ A) A) 0 0 A := by
  refine Met.ofW (cc := cX3_meetOver) (maxL := 4) (ret := (Option.some Jvm.ClassFile.FieldType.int)) (by decide) rfl ?_
  intro p e s m args below meth c s₁ B hml hv
  have hx := B.exec
  have hb := B.bytes
  have hr := B.returns
  have hts := atoms_spec (ws := (ws_ yX3_meetOver cX3_meetOver 4 (Option.some Jvm.ClassFile.FieldType.int))) B.pre
  have hts : ∀ w ∈ lw_all, w.before args s = true := fun w h => hts w (List.mem_cons_of_mem _ h)
  have hown : s.vm.findClass RX3 = some m.cls := findClass_of_methodNamed B.named
  have hlocks := B.notSynchronized
  obtain ⟨hav, hv⟩ := hv
  have C : TC p s m args c cX3_meetOver D dI dJ := ⟨hx, hb, hown, hts, hv.2.1⟩
  have hw : TH D ad dI dJ A s.heap u s.heap [] := ⟨hv.1, hv.2.2.1, va_S.rf, hv.2.2.2⟩
  generalize hQ : MQ below (va_Qi (fun r u => r = r0 ∧ u = u9) (TPost D ad dI dJ A) A) args s 0 0 A = QQ
  have hent := lg_entry_eq m [.ref (ad 40), .int x1, .int x2] 4
  rw [← hav] at hent
  rw [hent]
  have hl := lv_entry ([.ref (ad 40), .int x1, .int x2]) (n := 4) (Nat.le_of_ble_eq_true rfl)
  generalize (lg_sl ([.ref (ad 40), .int x1, .int x2]) ++ List.replicate (4 - (lg_sl ([.ref (ad 40), .int x1, .int x2])).length) Slot.unset).toArray = ls at hl ⊢
  have hl : lv_has ls 4 [(0, .ref (ad 40)), (1, .int x1), (2, .int x2)] := hl
  change W p l e rm_X3_meetOver s m args below meth c s.heap [] 0 0 QQ (F0 m 0 ls [])
  rw [m_X3_meetOver] at hm
  refine lv_aload_n hx hb dX3_meetOver_0 rfl (lv_at hl 0 rfl) ?_
  refine lv_iload_n hx hb dX3_meetOver_1 rfl (lv_at hl 1 rfl) ?_
  refine lv_iload_n hx hb dX3_meetOver_2 rfl (lv_at hl 2 rfl) ?_
  obtain ⟨r2, u1, er2, hm⟩ := bd2E hm
  refine tg_calli hw (va_runV (As := [.int x1, .int x2]) (rest := []) ⟨hx, hb, hml, hown, hts⟩ (w_X3_whyNot l er2) (cw_X3_whyNot hts q1909 ⟨Nat.le_of_ble_eq_true rfl, Nat.le_of_ble_eq_true rfl⟩) (tg_pre C hw _) rfl rfl hl.1 rfl (lv_room (Nat.le_of_ble_eq_true rfl)) dX3_meetOver_3 ⟨Nat.le_of_ble_eq_true rfl, Nat.le_of_ble_eq_true rfl⟩) (fun H locs hw => ?_)
  refine lv_istore_n (lv' := [(3, .int r2), (0, .ref (ad 40)), (1, .int x1), (2, .int x2)]) hx hb dX3_meetOver_6 rfl hl (by decide) rfl (fun ls hl => ?_)
  refine lv_iload_n hx hb dX3_meetOver_7 rfl (lv_at hl 0 rfl) ?_
  refine lv_if_ge (tgt := 13) hx hb dX3_meetOver_8 (by decide) (fun c3 => ?_) (fun c3 => ?_)
  · have hm := ifT hm c3
    refine lv_aload_n hx hb dX3_meetOver_13 rfl (lv_at hl 1 rfl) ?_
    refine lv_iload_n hx hb dX3_meetOver_14 rfl (lv_at hl 2 rfl) ?_
    refine lv_iload_n hx hb dX3_meetOver_15 rfl (lv_at hl 3 rfl) ?_
    obtain ⟨u4, eu4, hm⟩ := bdE hm
    refine tg_callv hw (va_runV (As := [.int x1, .int x2]) (rest := []) ⟨hx, hb, hml, hown, hts⟩ (w_X3_meets l eu4) (cw_X3_meets hts q1929 ⟨Nat.le_of_ble_eq_true rfl, Nat.le_of_ble_eq_true rfl⟩) (tg_pre C hw _) rfl rfl hl.1 rfl (lv_room (Nat.le_of_ble_eq_true rfl)) dX3_meetOver_16 ⟨Nat.le_of_ble_eq_true rfl, Nat.le_of_ble_eq_true rfl⟩) (fun H locs hw => ?_)
    refine lv_aload_n hx hb dX3_meetOver_19 rfl (lv_at hl 1 rfl) ?_
    refine tg_get C hw 19 (by decide) q1585 rfl dX3_meetOver_20 ?_
    refine lv_l2i hx hb dX3_meetOver_23 rfl ?_
    rw [← hQ]
    exact W.iret (v := (Int64.toInt32 (tL u4 19))) hx hb hr (fun t ht hW => ⟨⟨(Int64.toInt32 (tL u4 19)), u4, rfl, retE hm, by rw [ht]; exact hw.1, hw.2.1⟩, hw.2.2.1.F ht⟩) hw.2.2.1.2.2 dX3_meetOver_24
  · have hm := ifF hm c3
    refine lv_iload_n hx hb dX3_meetOver_11 rfl (lv_at hl 0 rfl) ?_
    rw [← hQ]
    exact W.iret (v := r2) hx hb hr (fun t ht hW => ⟨⟨r2, u1, rfl, retE hm, by rw [ht]; exact hw.1, hw.2.1⟩, hw.2.2.1.F ht⟩) hw.2.2.1.2.2 dX3_meetOver_12
def m_X3_meet_24 (f : Nat) (u : TS) : Option (Int64 × TS) := some ((-1 : Int64), u)
def m_X3_meet (f : Nat) (u : TS) (x1 : Int32) (x2 : Int32) (x3 : Int32) (x4 : Int32) : Option (Int64 × TS) := bd2 (m_X3_whyNot f u x1 x2) fun r2 u1 =>
    if r2 = (-2 : Int32) then
    m_X3_meet_24 f u1
    else bd (m_X3_isAt2 f x3 x4) fun r4 =>
    if ¬ r4 = 0 then
    if 0 ≤ r2 then
    bd (m_X3_meets f u1 x1 x2) fun u7 =>
    gd (ix (((3 : Int32) * x3) + x4) 9) <|
    some ((tB u7 18 (Int32.toNatClampNeg (((3 : Int32) * x3) + x4))), u7)
    else some ((Int32.toInt64 r2), u1)
    else m_X3_meet_24 f u1
abbrev rm_X3_meet : Room := { frames := 8, cells := 0, slots := 0, locals := 195 }
theorem cw_X3_meet {R : Room} {s : State} {args : Array Value} {own : String} {idx : Nat} (hts : ∀ w ∈ lw_all, w.before args s = true) (hl : Cond.methodLink own idx yX3_meet ∈ lw_all) (hR : rm_X3_meet.frames + 1 ≤ R.frames ∧ 8 + (6 + 11) + rm_X3_meet.locals ≤ R.locals) : CallW R s args own RX3 idx yX3_meet cX3_meet 6 (Option.some Jvm.ClassFile.FieldType.long) (ws_ yX3_meet cX3_meet 6 (Option.some Jvm.ClassFile.FieldType.long)) rm_X3_meet 0 0 4 := cwV 4 hts (lw_V hl q1955 q1956 q125 q1957) rfl rfl rfl (by decide +kernel) hR
set_option maxHeartbeats 4000000 in
set_option maxRecDepth 100000 in
theorem w_X3_meet (l : Launch) {D : va_G} {ad : Nat → Nat} {dI dJ : ClassId} {A : Nat → Prop} {f : Nat} {u u9 : TS} {r0 : Int64} {x1 : Int32} {x2 : Int32} {x3 : Int32} {x4 : Int32} (hm : m_X3_meet f u x1 x2 x3 x4 = some (r0, u9)) : Met l yX3_meet (ws_ yX3_meet cX3_meet 6 (Option.some Jvm.ClassFile.FieldType.long)) rm_X3_meet (va_Pc [.ref (ad 40), .int x1, .int x2, .int x3, .int x4] (TPre D ad dI dJ A u)) (va_Ql (fun r u => r = r0 ∧ u = u9) (TPost D ad dI dJ A) A) 0 0 A := by
  refine Met.ofW (cc := cX3_meet) (maxL := 6) (ret := (Option.some Jvm.ClassFile.FieldType.long)) (by decide) rfl ?_
  intro p e s m args below meth c s₁ B hml hv
  have hx := B.exec
  have hb := B.bytes
  have hr := B.returns
  have hts := atoms_spec (ws := (ws_ yX3_meet cX3_meet 6 (Option.some Jvm.ClassFile.FieldType.long))) B.pre
  have hts : ∀ w ∈ lw_all, w.before args s = true := fun w h => hts w (List.mem_cons_of_mem _ h)
  have hown : s.vm.findClass RX3 = some m.cls := findClass_of_methodNamed B.named
  have hlocks := B.notSynchronized
  obtain ⟨hav, hv⟩ := hv
  have C : TC p s m args c cX3_meet D dI dJ := ⟨hx, hb, hown, hts, hv.2.1⟩
  have hw : TH D ad dI dJ A s.heap u s.heap [] := ⟨hv.1, hv.2.2.1, va_S.rf, hv.2.2.2⟩
  generalize hQ : MQ below (va_Ql (fun r u => r = r0 ∧ u = u9) (TPost D ad dI dJ A) A) args s 0 0 A = QQ
  have hent := lg_entry_eq m [.ref (ad 40), .int x1, .int x2, .int x3, .int x4] 6
  rw [← hav] at hent
  rw [hent]
  have hl := lv_entry ([.ref (ad 40), .int x1, .int x2, .int x3, .int x4]) (n := 6) (Nat.le_of_ble_eq_true rfl)
  generalize (lg_sl ([.ref (ad 40), .int x1, .int x2, .int x3, .int x4]) ++ List.replicate (6 - (lg_sl ([.ref (ad 40), .int x1, .int x2, .int x3, .int x4])).length) Slot.unset).toArray = ls at hl ⊢
  have hl : lv_has ls 6 [(0, .ref (ad 40)), (1, .int x1), (2, .int x2), (3, .int x3), (4, .int x4)] := hl
  change W p l e rm_X3_meet s m args below meth c s.heap [] 0 0 QQ (F0 m 0 ls [])
  have hB24 : ∀ (u : TS) (H : Heap) (locs : List Loc) (ls : Array Slot), m_X3_meet_24 f u = some (r0, u9) → TH D ad dI dJ A s.heap u H locs → lv_has ls 6 [] → W p l e rm_X3_meet s m args below meth c H locs 0 0 QQ (F0 m 24 ls []) := by
    intro u H locs ls hm hw hl
    rw [m_X3_meet_24] at hm
    refine lv_ldc2 hx hb hown (hts _ q1831) dX3_meet_24 ?_
    rw [← hQ]
    exact W.lret (v := (-1 : Int64)) hx hb hr (fun t ht hW => ⟨⟨(-1 : Int64), u, rfl, retE hm, by rw [ht]; exact hw.1, hw.2.1⟩, hw.2.2.1.F ht⟩) hw.2.2.1.2.2 dX3_meet_27
  rw [m_X3_meet] at hm
  refine lv_aload_n hx hb dX3_meet_0 rfl (lv_at hl 0 rfl) ?_
  refine lv_iload_n hx hb dX3_meet_1 rfl (lv_at hl 1 rfl) ?_
  refine lv_iload_n hx hb dX3_meet_2 rfl (lv_at hl 2 rfl) ?_
  obtain ⟨r2, u1, er2, hm⟩ := bd2E hm
  refine tg_calli hw (va_runV (As := [.int x1, .int x2]) (rest := []) ⟨hx, hb, hml, hown, hts⟩ (w_X3_whyNot l er2) (cw_X3_whyNot hts q1909 ⟨Nat.le_of_ble_eq_true rfl, Nat.le_of_ble_eq_true rfl⟩) (tg_pre C hw _) rfl rfl hl.1 rfl (lv_room (Nat.le_of_ble_eq_true rfl)) dX3_meet_3 ⟨Nat.le_of_ble_eq_true rfl, Nat.le_of_ble_eq_true rfl⟩) (fun H locs hw => ?_)
  refine lv_istore (lv' := [(5, .int r2), (0, .ref (ad 40)), (1, .int x1), (2, .int x2), (3, .int x3), (4, .int x4)]) hx hb dX3_meet_6 hl (by decide) rfl (fun ls hl => ?_)
  refine lv_iload hx hb dX3_meet_8 (lv_at hl 0 rfl) ?_
  refine lv_bipush (v := -2) hx hb dX3_meet_10 (by decide) ?_
  refine lv_icmp_eq (tgt := 24) hx hb dX3_meet_12 (by decide) (fun c3 => ?_) (fun c3 => ?_)
  · have hm := ifT hm c3
    exact hB24 u1 _ _ _ hm hw (lv_sub hl [] rfl)
  · have hm := ifF hm c3
    refine lv_iload_n hx hb dX3_meet_15 rfl (lv_at hl 4 rfl) ?_
    refine lv_iload hx hb dX3_meet_16 (lv_at hl 5 rfl) ?_
    obtain ⟨r4, er4, hm⟩ := bdE hm
    refine sci (va_runS (As := [.int x3, .int x4]) (rest := []) ⟨hx, hb, hml, hown, hts⟩ (w_X3_isAt2 l er4) (cw_X3_isAt2 hts q1800 ⟨Nat.le_of_ble_eq_true rfl, Nat.le_of_ble_eq_true rfl⟩) (pre_s _) rfl rfl hl.1 rfl (lv_room (Nat.le_of_ble_eq_true rfl)) dX3_meet_18 ⟨Nat.le_of_ble_eq_true rfl, Nat.le_of_ble_eq_true rfl⟩) ?_
    refine lv_if_ne (tgt := 28) hx hb dX3_meet_21 (by decide) (fun c5 => ?_) (fun c5 => ?_)
    · have hm := ifT hm c5
      refine lv_iload hx hb dX3_meet_28 (lv_at hl 0 rfl) ?_
      refine lv_if_ge (tgt := 37) hx hb dX3_meet_30 (by decide) (fun c6 => ?_) (fun c6 => ?_)
      · have hm := ifT hm c6
        refine lv_aload_n hx hb dX3_meet_37 rfl (lv_at hl 1 rfl) ?_
        refine lv_iload_n hx hb dX3_meet_38 rfl (lv_at hl 2 rfl) ?_
        refine lv_iload_n hx hb dX3_meet_39 rfl (lv_at hl 3 rfl) ?_
        obtain ⟨u7, eu7, hm⟩ := bdE hm
        refine tg_callv hw (va_runV (As := [.int x1, .int x2]) (rest := []) ⟨hx, hb, hml, hown, hts⟩ (w_X3_meets l eu7) (cw_X3_meets hts q1929 ⟨Nat.le_of_ble_eq_true rfl, Nat.le_of_ble_eq_true rfl⟩) (tg_pre C hw _) rfl rfl hl.1 rfl (lv_room (Nat.le_of_ble_eq_true rfl)) dX3_meet_40 ⟨Nat.le_of_ble_eq_true rfl, Nat.le_of_ble_eq_true rfl⟩) (fun H locs hw => ?_)
        refine lv_aload_n hx hb dX3_meet_43 rfl (lv_at hl 1 rfl) ?_
        refine tg_get C hw 18 (by decide) q1584 rfl dX3_meet_44 ?_
        refine lv_iconst (v := 3) hx hb dX3_meet_47 (by decide) ?_
        refine lv_iload_n hx hb dX3_meet_48 rfl (lv_at hl 4 rfl) ?_
        refine lv_imul hx hb dX3_meet_49 ?_
        refine lv_iload hx hb dX3_meet_50 (lv_at hl 5 rfl) ?_
        refine lv_iadd hx hb dX3_meet_52 ?_
        obtain ⟨g8, hm⟩ := gdE hm
        refine tg_lald C hw (tp_18 ad dI dJ u7) g8 dX3_meet_53 ?_
        rw [← hQ]
        exact W.lret (v := (tB u7 18 (Int32.toNatClampNeg (((3 : Int32) * x3) + x4)))) hx hb hr (fun t ht hW => ⟨⟨(tB u7 18 (Int32.toNatClampNeg (((3 : Int32) * x3) + x4))), u7, rfl, retE hm, by rw [ht]; exact hw.1, hw.2.1⟩, hw.2.2.1.F ht⟩) hw.2.2.1.2.2 dX3_meet_54
      · have hm := ifF hm c6
        refine lv_iload hx hb dX3_meet_33 (lv_at hl 0 rfl) ?_
        refine lv_i2l hx hb dX3_meet_35 rfl ?_
        rw [← hQ]
        exact W.lret (v := (Int32.toInt64 r2)) hx hb hr (fun t ht hW => ⟨⟨(Int32.toInt64 r2), u1, rfl, retE hm, by rw [ht]; exact hw.1, hw.2.1⟩, hw.2.2.1.F ht⟩) hw.2.2.1.2.2 dX3_meet_36
    · have hm := ifT' hm c5
      exact hB24 u1 _ _ _ hm hw (lv_sub hl [] rfl)
def m_X3_gathers_258 (f : Nat) (u : TS) : Option TS := some u
def m_X3_gathers_255 (f : Nat) (k2 : TS → Int32 → Int32 → Option TS) (u : TS) (x1 : Int32) (x2 : Int32) : Option TS := k2 u x1 x2
def m_X3_gathers_248 (f : Nat) (k2 : TS → Int32 → Int32 → Option TS) (k148 : TS → Int32 → Int32 → Int32 → Option TS) (u : TS) (x1 : Int32) (x4 : Int32) (y0 : Int32) : Option TS := nmv ((x4 + 1) : Int32) fun v1 =>
    k148 u x1 y0 v1
def m_X3_gathers_243 (f : Nat) (k2 : TS → Int32 → Int32 → Option TS) (k148 : TS → Int32 → Int32 → Int32 → Option TS) (u : TS) (x1 : Int32) (x4 : Int32) : Option TS := m_X3_gathers_248 f k2 k148 u x1 x4 (1 : Int32)
def m_X3_gathers_223 (f : Nat) (k2 : TS → Int32 → Int32 → Option TS) (k148 : TS → Int32 → Int32 → Int32 → Option TS) (u : TS) (x1 : Int32) (x2 : Int32) (x4 : Int32) : Option TS := if ¬ x2 = 0 then
    m_X3_gathers_243 f k2 k148 u x1 x4
    else gd (ix (((3 : Int32) * x4) + x1) 18) <|
    if (tB u 34 (Int32.toNatClampNeg (((3 : Int32) * x4) + x1))) = (0 : Int64) then
    m_X3_gathers_248 f k2 k148 u x1 x4 (0 : Int32)
    else m_X3_gathers_243 f k2 k148 u x1 x4
def m_X3_gathers_182 (f : Nat) (k2 : TS → Int32 → Int32 → Option TS) (k148 : TS → Int32 → Int32 → Int32 → Option TS) : Nat → TS → Int32 → Int32 → Int32 → Int64 → Int32 → Option TS
  | 0, _, _, _, _, _, _ => none
  | n182 + 1, u, x1, x2, x4, x5, x7 => if (3 : Int32) ≤ x7 then
    m_X3_gathers_223 f k2 k148 u x1 x2 x4
    else gd (ix (((3 : Int32) * x4) + x7) 18) <|
    gd (ix (((3 : Int32) * x1) + x7) 18) <|
    gd (ix (((3 : Int32) * x4) + x7) 18) <|
    nmv (sB u 34 (Int32.toNatClampNeg (((3 : Int32) * x4) + x7)) ((tB u 34 (Int32.toNatClampNeg (((3 : Int32) * x4) + x7))) - (x5 * (tB u 34 (Int32.toNatClampNeg (((3 : Int32) * x1) + x7)))))) fun u5 =>
    nmv ((x7 + 1) : Int32) fun v6 =>
    m_X3_gathers_182 f k2 k148 n182 u5 x1 x2 x4 x5 v6
def m_X3_gathers_148 (f : Nat) (k2 : TS → Int32 → Int32 → Option TS) : Nat → TS → Int32 → Int32 → Int32 → Option TS
  | 0, _, _, _, _ => none
  | n148 + 1, u, x1, x2, x4 => if (6 : Int32) ≤ x4 then
    m_X3_gathers_255 f k2 u x1 x2
    else gd (ix (((3 : Int32) * x4) + x1) 18) <|
    gd (ix (((3 : Int32) * x1) + x1) 18) <|
    gd (nzL (tB u 34 (Int32.toNatClampNeg (((3 : Int32) * x1) + x1)))) <|
    nmv (((tB u 34 (Int32.toNatClampNeg (((3 : Int32) * x4) + x1))) / (tB u 34 (Int32.toNatClampNeg (((3 : Int32) * x1) + x1)))) : Int64) fun v5 =>
    m_X3_gathers_182 f k2 (m_X3_gathers_148 f k2 n148) f u x1 x2 x4 v5 (0 : Int32)
def m_X3_gathers_141 (f : Nat) (k2 : TS → Int32 → Int32 → Option TS) (u : TS) (x1 : Int32) : Option TS := nmv ((x1 + (1 : Int32)) : Int32) fun v1 =>
    m_X3_gathers_148 f k2 f u x1 (0 : Int32) v1
def m_X3_gathers_81 (f : Nat) (k2 : TS → Int32 → Int32 → Option TS) : Nat → TS → Int32 → Int32 → Int32 → Option TS
  | 0, _, _, _, _ => none
  | n81 + 1, u, x1, x3, x4 => if (3 : Int32) ≤ x4 then
    m_X3_gathers_141 f k2 u x1
    else gd (ix (((3 : Int32) * x3) + x4) 18) <|
    nmv ((tB u 34 (Int32.toNatClampNeg (((3 : Int32) * x3) + x4))) : Int64) fun v3 =>
    gd (ix (((3 : Int32) * x1) + x4) 18) <|
    gd (ix (((3 : Int32) * x3) + x4) 18) <|
    nmv (sB u 34 (Int32.toNatClampNeg (((3 : Int32) * x3) + x4)) (tB u 34 (Int32.toNatClampNeg (((3 : Int32) * x1) + x4)))) fun u6 =>
    gd (ix (((3 : Int32) * x1) + x4) 18) <|
    nmv (sB u6 34 (Int32.toNatClampNeg (((3 : Int32) * x1) + x4)) v3) fun u8 =>
    nmv ((x4 + 1) : Int32) fun v9 =>
    m_X3_gathers_81 f k2 n81 u8 x1 x3 v9
def m_X3_gathers_78 (f : Nat) (k2 : TS → Int32 → Int32 → Option TS) (u : TS) (x1 : Int32) (x3 : Int32) : Option TS := m_X3_gathers_81 f k2 f u x1 x3 (0 : Int32)
def m_X3_gathers_71 (f : Nat) (k2 : TS → Int32 → Int32 → Option TS) (k11 : TS → Int32 → Int32 → Int32 → Option TS) (u : TS) (x1 : Int32) (x4 : Int32) (y0 : Int32) : Option TS := nmv ((x4 + 1) : Int32) fun v1 =>
    k11 u x1 y0 v1
def m_X3_gathers_70 (f : Nat) (k2 : TS → Int32 → Int32 → Option TS) (k11 : TS → Int32 → Int32 → Int32 → Option TS) (u : TS) (x1 : Int32) (x3 : Int32) (x4 : Int32) : Option TS := m_X3_gathers_71 f k2 k11 u x1 x4 x3
def m_X3_gathers_65 (f : Nat) (k2 : TS → Int32 → Int32 → Option TS) (k11 : TS → Int32 → Int32 → Int32 → Option TS) (u : TS) (x1 : Int32) (x4 : Int32) : Option TS := m_X3_gathers_71 f k2 k11 u x1 x4 x4
def m_X3_gathers_11 (f : Nat) (k2 : TS → Int32 → Int32 → Option TS) : Nat → TS → Int32 → Int32 → Int32 → Option TS
  | 0, _, _, _, _ => none
  | n11 + 1, u, x1, x3, x4 => if (6 : Int32) ≤ x4 then
    m_X3_gathers_78 f k2 u x1 x3
    else gd (ix (((3 : Int32) * x4) + x1) 18) <|
    bd (m_X3_sized f (tB u 34 (Int32.toNatClampNeg (((3 : Int32) * x4) + x1)))) fun r3 =>
    if r3 = (0 : Int64) then
    m_X3_gathers_70 f k2 (m_X3_gathers_11 f k2 n11) u x1 x3 x4
    else if x3 = (-1 : Int32) then
    m_X3_gathers_65 f k2 (m_X3_gathers_11 f k2 n11) u x1 x4
    else gd (ix (((3 : Int32) * x3) + x1) 18) <|
    bd (m_X3_sized f (tB u 34 (Int32.toNatClampNeg (((3 : Int32) * x3) + x1)))) fun r7 =>
    if r7 ≤ r3 then
    m_X3_gathers_70 f k2 (m_X3_gathers_11 f k2 n11) u x1 x3 x4
    else m_X3_gathers_65 f k2 (m_X3_gathers_11 f k2 n11) u x1 x4
def m_X3_gathers_2 (f : Nat) : Nat → TS → Int32 → Int32 → Option TS
  | 0, _, _, _ => none
  | n2 + 1, u, x1, x2 => if x2 = 0 then
    m_X3_gathers_258 f u
    else m_X3_gathers_11 f (m_X3_gathers_2 f n2) f u x1 (-1 : Int32) x1
def m_X3_gathers (f : Nat) (u : TS) (x1 : Int32) : Option TS := m_X3_gathers_2 f f u x1 (1 : Int32)
abbrev rm_X3_gathers : Room := { frames := 1, cells := 0, slots := 0, locals := 21 }
theorem cw_X3_gathers {R : Room} {s : State} {args : Array Value} {own : String} {idx : Nat} (hts : ∀ w ∈ lw_all, w.before args s = true) (hl : Cond.methodLink own idx yX3_gathers ∈ lw_all) (hR : rm_X3_gathers.frames + 1 ≤ R.frames ∧ 8 + (8 + 11) + rm_X3_gathers.locals ≤ R.locals) : CallW R s args own RX3 idx yX3_gathers cX3_gathers 8 (Option.none : Option Jvm.ClassFile.FieldType) (ws_ yX3_gathers cX3_gathers 8 (Option.none : Option Jvm.ClassFile.FieldType)) rm_X3_gathers 0 0 1 := cwV 1 hts (lw_V hl q1968 qs94 q125 q1969) rfl rfl rfl (by decide +kernel) hR
set_option maxHeartbeats 4000000 in
set_option maxRecDepth 100000 in
theorem w_X3_gathers (l : Launch) {D : va_G} {ad : Nat → Nat} {dI dJ : ClassId} {A : Nat → Prop} {f : Nat} {u u9 : TS} {x1 : Int32} (hm : m_X3_gathers f u x1 = some u9) : Met l yX3_gathers (ws_ yX3_gathers cX3_gathers 8 (Option.none : Option Jvm.ClassFile.FieldType)) rm_X3_gathers (va_Pc [.ref (ad 40), .int x1] (TPre D ad dI dJ A u)) (va_Qv (fun u => u = u9) (TPost D ad dI dJ A) A) 0 0 A := by
  refine Met.ofW (cc := cX3_gathers) (maxL := 8) (ret := (Option.none : Option Jvm.ClassFile.FieldType)) (by decide) rfl ?_
  intro p e s m args below meth c s₁ B hml hv
  have hx := B.exec
  have hb := B.bytes
  have hr := B.returns
  have hts := atoms_spec (ws := (ws_ yX3_gathers cX3_gathers 8 (Option.none : Option Jvm.ClassFile.FieldType))) B.pre
  have hts : ∀ w ∈ lw_all, w.before args s = true := fun w h => hts w (List.mem_cons_of_mem _ h)
  have hown : s.vm.findClass RX3 = some m.cls := findClass_of_methodNamed B.named
  have hlocks := B.notSynchronized
  obtain ⟨hav, hv⟩ := hv
  have C : TC p s m args c cX3_gathers D dI dJ := ⟨hx, hb, hown, hts, hv.2.1⟩
  have hw : TH D ad dI dJ A s.heap u s.heap [] := ⟨hv.1, hv.2.2.1, va_S.rf, hv.2.2.2⟩
  generalize hQ : MQ below (va_Qv (fun u => u = u9) (TPost D ad dI dJ A) A) args s 0 0 A = QQ
  have hent := lg_entry_eq m [.ref (ad 40), .int x1] 8
  rw [← hav] at hent
  rw [hent]
  have hl := lv_entry ([.ref (ad 40), .int x1]) (n := 8) (Nat.le_of_ble_eq_true rfl)
  generalize (lg_sl ([.ref (ad 40), .int x1]) ++ List.replicate (8 - (lg_sl ([.ref (ad 40), .int x1])).length) Slot.unset).toArray = ls at hl ⊢
  have hl : lv_has ls 8 [(0, .ref (ad 40)), (1, .int x1)] := hl
  change W p l e rm_X3_gathers s m args below meth c s.heap [] 0 0 QQ (F0 m 0 ls [])
  have hB258 : ∀ (u : TS) (H : Heap) (locs : List Loc) (ls : Array Slot), m_X3_gathers_258 f u = some u9 → TH D ad dI dJ A s.heap u H locs → lv_has ls 8 [] → W p l e rm_X3_gathers s m args below meth c H locs 0 0 QQ (F0 m 258 ls []) := by
    intro u H locs ls hm hw hl
    rw [m_X3_gathers_258] at hm
    rw [← hQ]
    exact W.vret hx hb hr (fun t ht hW => ⟨⟨u, rfl, ret1 hm, by rw [ht]; exact hw.1, hw.2.1⟩, hw.2.2.1.F ht⟩) hw.2.2.1.2.2 dX3_gathers_258
  have hB2 : ∀ (n2 : Nat), ∀ (u : TS) (x1 : Int32) (x2 : Int32) (H : Heap) (locs : List Loc) (ls : Array Slot), m_X3_gathers_2 f n2 u x1 x2 = some u9 → TH D ad dI dJ A s.heap u H locs → lv_has ls 8 [(0, .ref (ad 40)), (1, .int x1), (2, .int x2)] → W p l e rm_X3_gathers s m args below meth c H locs 0 0 QQ (F0 m 2 ls []) := by
    intro n2
    induction n2 with
    | zero => intro u x1 x2 H locs ls hm hw hl; rw [m_X3_gathers_2] at hm; exact noE hm
    | succ n2 ih2 =>
      have hB255 : ∀ (u : TS) (x1 : Int32) (x2 : Int32) (H : Heap) (locs : List Loc) (ls : Array Slot), m_X3_gathers_255 f (m_X3_gathers_2 f n2) u x1 x2 = some u9 → TH D ad dI dJ A s.heap u H locs → lv_has ls 8 [(0, .ref (ad 40)), (1, .int x1), (2, .int x2)] → W p l e rm_X3_gathers s m args below meth c H locs 0 0 QQ (F0 m 255 ls []) := by
        intro u x1 x2 H locs ls hm hw hl
        rw [m_X3_gathers_255] at hm
        refine lv_goto (tgt := 2) hx hb dX3_gathers_255 (by decide) ?_
        exact ih2 u x1 x2 _ _ _ hm hw (lv_sub hl [0, 1, 2] rfl)
      have hB148 : ∀ (n148 : Nat), ∀ (u : TS) (x1 : Int32) (x2 : Int32) (x4 : Int32) (H : Heap) (locs : List Loc) (ls : Array Slot), m_X3_gathers_148 f (m_X3_gathers_2 f n2) n148 u x1 x2 x4 = some u9 → TH D ad dI dJ A s.heap u H locs → lv_has ls 8 [(0, .ref (ad 40)), (1, .int x1), (2, .int x2), (4, .int x4)] → W p l e rm_X3_gathers s m args below meth c H locs 0 0 QQ (F0 m 148 ls []) := by
        intro n148
        induction n148 with
        | zero => intro u x1 x2 x4 H locs ls hm hw hl; rw [m_X3_gathers_148] at hm; exact noE hm
        | succ n148 ih148 =>
          have hB248 : ∀ (u : TS) (x1 : Int32) (x4 : Int32) (y0 : Int32) (H : Heap) (locs : List Loc) (ls : Array Slot), m_X3_gathers_248 f (m_X3_gathers_2 f n2) (m_X3_gathers_148 f (m_X3_gathers_2 f n2) n148) u x1 x4 y0 = some u9 → TH D ad dI dJ A s.heap u H locs → lv_has ls 8 [(0, .ref (ad 40)), (1, .int x1), (4, .int x4)] → W p l e rm_X3_gathers s m args below meth c H locs 0 0 QQ (F0 m 248 ls [.int y0]) := by
            intro u x1 x4 y0 H locs ls hm hw hl
            rw [m_X3_gathers_248] at hm
            refine lv_istore_n (lv' := [(2, .int y0), (0, .ref (ad 40)), (1, .int x1), (4, .int x4)]) hx hb dX3_gathers_248 rfl hl (by decide) rfl (fun ls hl => ?_)
            obtain ⟨v1, ev1, hm⟩ := nmE hm
            refine lv_iinc (v := v1) (lv' := [(4, .int v1), (2, .int y0), (0, .ref (ad 40)), (1, .int x1)]) hx hb dX3_gathers_249 hl (k := 3) rfl (by rw [ev1]; rfl) (by decide) rfl (fun ls hl => ?_)
            refine lv_goto (tgt := 148) hx hb dX3_gathers_252 (by decide) ?_
            exact ih148 u x1 y0 v1 _ _ _ hm hw (lv_sub hl [2, 3, 1, 0] rfl)
          have hB243 : ∀ (u : TS) (x1 : Int32) (x4 : Int32) (H : Heap) (locs : List Loc) (ls : Array Slot), m_X3_gathers_243 f (m_X3_gathers_2 f n2) (m_X3_gathers_148 f (m_X3_gathers_2 f n2) n148) u x1 x4 = some u9 → TH D ad dI dJ A s.heap u H locs → lv_has ls 8 [(0, .ref (ad 40)), (1, .int x1), (4, .int x4)] → W p l e rm_X3_gathers s m args below meth c H locs 0 0 QQ (F0 m 243 ls []) := by
            intro u x1 x4 H locs ls hm hw hl
            rw [m_X3_gathers_243] at hm
            refine lv_iconst (v := 1) hx hb dX3_gathers_243 (by decide) ?_
            refine lv_goto (tgt := 248) hx hb dX3_gathers_244 (by decide) ?_
            exact hB248 u x1 x4 (1 : Int32) _ _ _ hm hw (lv_sub hl [0, 1, 2] rfl)
          have hB223 : ∀ (u : TS) (x1 : Int32) (x2 : Int32) (x4 : Int32) (H : Heap) (locs : List Loc) (ls : Array Slot), m_X3_gathers_223 f (m_X3_gathers_2 f n2) (m_X3_gathers_148 f (m_X3_gathers_2 f n2) n148) u x1 x2 x4 = some u9 → TH D ad dI dJ A s.heap u H locs → lv_has ls 8 [(0, .ref (ad 40)), (1, .int x1), (2, .int x2), (4, .int x4)] → W p l e rm_X3_gathers s m args below meth c H locs 0 0 QQ (F0 m 223 ls []) := by
            intro u x1 x2 x4 H locs ls hm hw hl
            rw [m_X3_gathers_223] at hm
            refine lv_iload_n hx hb dX3_gathers_223 rfl (lv_at hl 2 rfl) ?_
            refine lv_if_ne (tgt := 243) hx hb dX3_gathers_224 (by decide) (fun c1 => ?_) (fun c1 => ?_)
            · have hm := ifT hm c1
              exact hB243 u x1 x4 _ _ _ hm hw (lv_sub hl [0, 1, 3] rfl)
            · have hm := ifT' hm c1
              refine lv_aload_n hx hb dX3_gathers_227 rfl (lv_at hl 0 rfl) ?_
              refine tg_get C hw 34 (by decide) q1600 rfl dX3_gathers_228 ?_
              refine lv_iconst (v := 3) hx hb dX3_gathers_231 (by decide) ?_
              refine lv_iload hx hb dX3_gathers_232 (lv_at hl 3 rfl) ?_
              refine lv_imul hx hb dX3_gathers_234 ?_
              refine lv_iload_n hx hb dX3_gathers_235 rfl (lv_at hl 1 rfl) ?_
              refine lv_iadd hx hb dX3_gathers_236 ?_
              obtain ⟨g2, hm⟩ := gdE hm
              refine tg_lald C hw (tp_34 ad dI dJ u) g2 dX3_gathers_237 ?_
              refine lv_lconst (v := 0) hx hb dX3_gathers_238 (by decide) ?_
              refine lc_eq (tgt := 247) hx hb dX3_gathers_239 dX3_gathers_240 (by decide) (fun c3 => ?_) (fun c3 => ?_)
              · have hm := ifT hm c3
                refine lv_iconst (v := 0) hx hb dX3_gathers_247 (by decide) ?_
                exact hB248 u x1 x4 (0 : Int32) _ _ _ hm hw (lv_sub hl [0, 1, 3] rfl)
              · have hm := ifF hm c3
                exact hB243 u x1 x4 _ _ _ hm hw (lv_sub hl [0, 1, 3] rfl)
          have hB182 : ∀ (n182 : Nat), ∀ (u : TS) (x1 : Int32) (x2 : Int32) (x4 : Int32) (x5 : Int64) (x7 : Int32) (H : Heap) (locs : List Loc) (ls : Array Slot), m_X3_gathers_182 f (m_X3_gathers_2 f n2) (m_X3_gathers_148 f (m_X3_gathers_2 f n2) n148) n182 u x1 x2 x4 x5 x7 = some u9 → TH D ad dI dJ A s.heap u H locs → lv_has ls 8 [(0, .ref (ad 40)), (1, .int x1), (2, .int x2), (4, .int x4), (5, .long x5), (7, .int x7)] → W p l e rm_X3_gathers s m args below meth c H locs 0 0 QQ (F0 m 182 ls []) := by
            intro n182
            induction n182 with
            | zero => intro u x1 x2 x4 x5 x7 H locs ls hm hw hl; rw [m_X3_gathers_182] at hm; exact noE hm
            | succ n182 ih182 =>
              intro u x1 x2 x4 x5 x7 H locs ls hm hw hl
              rw [m_X3_gathers_182] at hm
              refine lv_iload hx hb dX3_gathers_182 (lv_at hl 5 rfl) ?_
              refine lv_iconst (v := 3) hx hb dX3_gathers_184 (by decide) ?_
              refine lv_icmp_ge (tgt := 223) hx hb dX3_gathers_185 (by decide) (fun c1 => ?_) (fun c1 => ?_)
              · have hm := ifT hm c1
                exact hB223 u x1 x2 x4 _ _ _ hm hw (lv_sub hl [0, 1, 2, 3] rfl)
              · have hm := ifF hm c1
                refine lv_aload_n hx hb dX3_gathers_188 rfl (lv_at hl 0 rfl) ?_
                refine tg_get C hw 34 (by decide) q1600 rfl dX3_gathers_189 ?_
                refine lv_iconst (v := 3) hx hb dX3_gathers_192 (by decide) ?_
                refine lv_iload hx hb dX3_gathers_193 (lv_at hl 3 rfl) ?_
                refine lv_imul hx hb dX3_gathers_195 ?_
                refine lv_iload hx hb dX3_gathers_196 (lv_at hl 5 rfl) ?_
                refine lv_iadd hx hb dX3_gathers_198 ?_
                refine lv_dup2_11 hx hb dX3_gathers_199 rfl rfl ?_
                obtain ⟨g2, hm⟩ := gdE hm
                refine tg_lald C hw (tp_34 ad dI dJ u) g2 dX3_gathers_200 ?_
                refine lv_lload hx hb dX3_gathers_201 (lv_at hl 4 rfl) ?_
                refine lv_aload_n hx hb dX3_gathers_203 rfl (lv_at hl 0 rfl) ?_
                refine tg_get C hw 34 (by decide) q1600 rfl dX3_gathers_204 ?_
                refine lv_iconst (v := 3) hx hb dX3_gathers_207 (by decide) ?_
                refine lv_iload_n hx hb dX3_gathers_208 rfl (lv_at hl 1 rfl) ?_
                refine lv_imul hx hb dX3_gathers_209 ?_
                refine lv_iload hx hb dX3_gathers_210 (lv_at hl 5 rfl) ?_
                refine lv_iadd hx hb dX3_gathers_212 ?_
                obtain ⟨g3, hm⟩ := gdE hm
                refine tg_lald C hw (tp_34 ad dI dJ u) g3 dX3_gathers_213 ?_
                refine lv_lmul hx hb dX3_gathers_214 ?_
                refine lv_lsub hx hb dX3_gathers_215 ?_
                obtain ⟨g4, hm⟩ := gdE hm
                refine tg_last C hw (tp_34 ad dI dJ u) g4 (ts_34 ad dI dJ u _ _) dX3_gathers_216 (fun H locs hw => ?_)
                obtain ⟨u5, eu5, hm⟩ := nmE hm
                rw [← eu5] at hw
                obtain ⟨v6, ev6, hm⟩ := nmE hm
                refine lv_iinc (v := v6) (lv' := [(7, .int v6), (0, .ref (ad 40)), (1, .int x1), (2, .int x2), (4, .int x4), (5, .long x5)]) hx hb dX3_gathers_217 hl (k := 5) rfl (by rw [ev6]; rfl) (by decide) rfl (fun ls hl => ?_)
                refine lv_goto (tgt := 182) hx hb dX3_gathers_220 (by decide) ?_
                exact ih182 u5 x1 x2 x4 x5 v6 _ _ _ hm hw (lv_sub hl [1, 2, 3, 4, 5, 0] rfl)
          intro u x1 x2 x4 H locs ls hm hw hl
          rw [m_X3_gathers_148] at hm
          refine lv_iload hx hb dX3_gathers_148 (lv_at hl 3 rfl) ?_
          refine lv_bipush (v := 6) hx hb dX3_gathers_150 (by decide) ?_
          refine lv_icmp_ge (tgt := 255) hx hb dX3_gathers_152 (by decide) (fun c1 => ?_) (fun c1 => ?_)
          · have hm := ifT hm c1
            exact hB255 u x1 x2 _ _ _ hm hw (lv_sub hl [0, 1, 2] rfl)
          · have hm := ifF hm c1
            refine lv_aload_n hx hb dX3_gathers_155 rfl (lv_at hl 0 rfl) ?_
            refine tg_get C hw 34 (by decide) q1600 rfl dX3_gathers_156 ?_
            refine lv_iconst (v := 3) hx hb dX3_gathers_159 (by decide) ?_
            refine lv_iload hx hb dX3_gathers_160 (lv_at hl 3 rfl) ?_
            refine lv_imul hx hb dX3_gathers_162 ?_
            refine lv_iload_n hx hb dX3_gathers_163 rfl (lv_at hl 1 rfl) ?_
            refine lv_iadd hx hb dX3_gathers_164 ?_
            obtain ⟨g2, hm⟩ := gdE hm
            refine tg_lald C hw (tp_34 ad dI dJ u) g2 dX3_gathers_165 ?_
            refine lv_aload_n hx hb dX3_gathers_166 rfl (lv_at hl 0 rfl) ?_
            refine tg_get C hw 34 (by decide) q1600 rfl dX3_gathers_167 ?_
            refine lv_iconst (v := 3) hx hb dX3_gathers_170 (by decide) ?_
            refine lv_iload_n hx hb dX3_gathers_171 rfl (lv_at hl 1 rfl) ?_
            refine lv_imul hx hb dX3_gathers_172 ?_
            refine lv_iload_n hx hb dX3_gathers_173 rfl (lv_at hl 1 rfl) ?_
            refine lv_iadd hx hb dX3_gathers_174 ?_
            obtain ⟨g3, hm⟩ := gdE hm
            refine tg_lald C hw (tp_34 ad dI dJ u) g3 dX3_gathers_175 ?_
            obtain ⟨g4, hm⟩ := gdE hm
            refine lv_ldiv hx hb dX3_gathers_176 (nzL_ne g4) ?_
            refine lv_topl (fun v5 ev5 => ?_)
            have hm := nmK hm ev5
            refine lv_lstore (lv' := [(5, .long v5), (0, .ref (ad 40)), (1, .int x1), (2, .int x2), (4, .int x4)]) hx hb dX3_gathers_177 hl (by decide) rfl (fun ls hl => ?_)
            refine lv_iconst (v := 0) hx hb dX3_gathers_179 (by decide) ?_
            refine lv_istore (lv' := [(7, .int (0 : Int32)), (5, .long v5), (0, .ref (ad 40)), (1, .int x1), (2, .int x2), (4, .int x4)]) hx hb dX3_gathers_180 hl (by decide) rfl (fun ls hl => ?_)
            exact hB182 f u x1 x2 x4 v5 (0 : Int32) _ _ _ hm hw (lv_sub hl [2, 3, 4, 5, 1, 0] rfl)
      have hB141 : ∀ (u : TS) (x1 : Int32) (H : Heap) (locs : List Loc) (ls : Array Slot), m_X3_gathers_141 f (m_X3_gathers_2 f n2) u x1 = some u9 → TH D ad dI dJ A s.heap u H locs → lv_has ls 8 [(0, .ref (ad 40)), (1, .int x1)] → W p l e rm_X3_gathers s m args below meth c H locs 0 0 QQ (F0 m 141 ls []) := by
        intro u x1 H locs ls hm hw hl
        rw [m_X3_gathers_141] at hm
        refine lv_iconst (v := 0) hx hb dX3_gathers_141 (by decide) ?_
        refine lv_istore_n (lv' := [(2, .int (0 : Int32)), (0, .ref (ad 40)), (1, .int x1)]) hx hb dX3_gathers_142 rfl hl (by decide) rfl (fun ls hl => ?_)
        refine lv_iload_n hx hb dX3_gathers_143 rfl (lv_at hl 2 rfl) ?_
        refine lv_iconst (v := 1) hx hb dX3_gathers_144 (by decide) ?_
        refine lv_iadd hx hb dX3_gathers_145 ?_
        refine lv_topi (fun v1 ev1 => ?_)
        have hm := nmK hm ev1
        refine lv_istore (lv' := [(4, .int v1), (2, .int (0 : Int32)), (0, .ref (ad 40)), (1, .int x1)]) hx hb dX3_gathers_146 hl (by decide) rfl (fun ls hl => ?_)
        exact hB148 f u x1 (0 : Int32) v1 _ _ _ hm hw (lv_sub hl [2, 3, 1, 0] rfl)
      have hB81 : ∀ (n81 : Nat), ∀ (u : TS) (x1 : Int32) (x3 : Int32) (x4 : Int32) (H : Heap) (locs : List Loc) (ls : Array Slot), m_X3_gathers_81 f (m_X3_gathers_2 f n2) n81 u x1 x3 x4 = some u9 → TH D ad dI dJ A s.heap u H locs → lv_has ls 8 [(0, .ref (ad 40)), (1, .int x1), (3, .int x3), (4, .int x4)] → W p l e rm_X3_gathers s m args below meth c H locs 0 0 QQ (F0 m 81 ls []) := by
        intro n81
        induction n81 with
        | zero => intro u x1 x3 x4 H locs ls hm hw hl; rw [m_X3_gathers_81] at hm; exact noE hm
        | succ n81 ih81 =>
          intro u x1 x3 x4 H locs ls hm hw hl
          rw [m_X3_gathers_81] at hm
          refine lv_iload hx hb dX3_gathers_81 (lv_at hl 3 rfl) ?_
          refine lv_iconst (v := 3) hx hb dX3_gathers_83 (by decide) ?_
          refine lv_icmp_ge (tgt := 141) hx hb dX3_gathers_84 (by decide) (fun c1 => ?_) (fun c1 => ?_)
          · have hm := ifT hm c1
            exact hB141 u x1 _ _ _ hm hw (lv_sub hl [0, 1] rfl)
          · have hm := ifF hm c1
            refine lv_aload_n hx hb dX3_gathers_87 rfl (lv_at hl 0 rfl) ?_
            refine tg_get C hw 34 (by decide) q1600 rfl dX3_gathers_88 ?_
            refine lv_iconst (v := 3) hx hb dX3_gathers_91 (by decide) ?_
            refine lv_iload_n hx hb dX3_gathers_92 rfl (lv_at hl 2 rfl) ?_
            refine lv_imul hx hb dX3_gathers_93 ?_
            refine lv_iload hx hb dX3_gathers_94 (lv_at hl 3 rfl) ?_
            refine lv_iadd hx hb dX3_gathers_96 ?_
            obtain ⟨g2, hm⟩ := gdE hm
            refine tg_lald C hw (tp_34 ad dI dJ u) g2 dX3_gathers_97 ?_
            refine lv_topl (fun v3 ev3 => ?_)
            have hm := nmK hm ev3
            refine lv_lstore (lv' := [(5, .long v3), (0, .ref (ad 40)), (1, .int x1), (3, .int x3), (4, .int x4)]) hx hb dX3_gathers_98 hl (by decide) rfl (fun ls hl => ?_)
            refine lv_aload_n hx hb dX3_gathers_100 rfl (lv_at hl 1 rfl) ?_
            refine tg_get C hw 34 (by decide) q1600 rfl dX3_gathers_101 ?_
            refine lv_iconst (v := 3) hx hb dX3_gathers_104 (by decide) ?_
            refine lv_iload_n hx hb dX3_gathers_105 rfl (lv_at hl 3 rfl) ?_
            refine lv_imul hx hb dX3_gathers_106 ?_
            refine lv_iload hx hb dX3_gathers_107 (lv_at hl 4 rfl) ?_
            refine lv_iadd hx hb dX3_gathers_109 ?_
            refine lv_aload_n hx hb dX3_gathers_110 rfl (lv_at hl 1 rfl) ?_
            refine tg_get C hw 34 (by decide) q1600 rfl dX3_gathers_111 ?_
            refine lv_iconst (v := 3) hx hb dX3_gathers_114 (by decide) ?_
            refine lv_iload_n hx hb dX3_gathers_115 rfl (lv_at hl 2 rfl) ?_
            refine lv_imul hx hb dX3_gathers_116 ?_
            refine lv_iload hx hb dX3_gathers_117 (lv_at hl 4 rfl) ?_
            refine lv_iadd hx hb dX3_gathers_119 ?_
            obtain ⟨g4, hm⟩ := gdE hm
            refine tg_lald C hw (tp_34 ad dI dJ u) g4 dX3_gathers_120 ?_
            obtain ⟨g5, hm⟩ := gdE hm
            refine tg_last C hw (tp_34 ad dI dJ u) g5 (ts_34 ad dI dJ u _ _) dX3_gathers_121 (fun H locs hw => ?_)
            obtain ⟨u6, eu6, hm⟩ := nmE hm
            rw [← eu6] at hw
            refine lv_aload_n hx hb dX3_gathers_122 rfl (lv_at hl 1 rfl) ?_
            refine tg_get C hw 34 (by decide) q1600 rfl dX3_gathers_123 ?_
            refine lv_iconst (v := 3) hx hb dX3_gathers_126 (by decide) ?_
            refine lv_iload_n hx hb dX3_gathers_127 rfl (lv_at hl 2 rfl) ?_
            refine lv_imul hx hb dX3_gathers_128 ?_
            refine lv_iload hx hb dX3_gathers_129 (lv_at hl 4 rfl) ?_
            refine lv_iadd hx hb dX3_gathers_131 ?_
            refine lv_lload hx hb dX3_gathers_132 (lv_at hl 0 rfl) ?_
            obtain ⟨g7, hm⟩ := gdE hm
            refine tg_last C hw (tp_34 ad dI dJ u6) g7 (ts_34 ad dI dJ u6 _ _) dX3_gathers_134 (fun H locs hw => ?_)
            obtain ⟨u8, eu8, hm⟩ := nmE hm
            rw [← eu8] at hw
            obtain ⟨v9, ev9, hm⟩ := nmE hm
            refine lv_iinc (v := v9) (lv' := [(4, .int v9), (5, .long v3), (0, .ref (ad 40)), (1, .int x1), (3, .int x3)]) hx hb dX3_gathers_135 hl (k := 4) rfl (by rw [ev9]; rfl) (by decide) rfl (fun ls hl => ?_)
            refine lv_goto (tgt := 81) hx hb dX3_gathers_138 (by decide) ?_
            exact ih81 u8 x1 x3 v9 _ _ _ hm hw (lv_sub hl [2, 3, 4, 0] rfl)
      have hB78 : ∀ (u : TS) (x1 : Int32) (x3 : Int32) (H : Heap) (locs : List Loc) (ls : Array Slot), m_X3_gathers_78 f (m_X3_gathers_2 f n2) u x1 x3 = some u9 → TH D ad dI dJ A s.heap u H locs → lv_has ls 8 [(0, .ref (ad 40)), (1, .int x1), (3, .int x3)] → W p l e rm_X3_gathers s m args below meth c H locs 0 0 QQ (F0 m 78 ls []) := by
        intro u x1 x3 H locs ls hm hw hl
        rw [m_X3_gathers_78] at hm
        refine lv_iconst (v := 0) hx hb dX3_gathers_78 (by decide) ?_
        refine lv_istore (lv' := [(4, .int (0 : Int32)), (0, .ref (ad 40)), (1, .int x1), (3, .int x3)]) hx hb dX3_gathers_79 hl (by decide) rfl (fun ls hl => ?_)
        exact hB81 f u x1 x3 (0 : Int32) _ _ _ hm hw (lv_sub hl [1, 2, 3, 0] rfl)
      have hB11 : ∀ (n11 : Nat), ∀ (u : TS) (x1 : Int32) (x3 : Int32) (x4 : Int32) (H : Heap) (locs : List Loc) (ls : Array Slot), m_X3_gathers_11 f (m_X3_gathers_2 f n2) n11 u x1 x3 x4 = some u9 → TH D ad dI dJ A s.heap u H locs → lv_has ls 8 [(0, .ref (ad 40)), (1, .int x1), (3, .int x3), (4, .int x4)] → W p l e rm_X3_gathers s m args below meth c H locs 0 0 QQ (F0 m 11 ls []) := by
        intro n11
        induction n11 with
        | zero => intro u x1 x3 x4 H locs ls hm hw hl; rw [m_X3_gathers_11] at hm; exact noE hm
        | succ n11 ih11 =>
          have hB71 : ∀ (u : TS) (x1 : Int32) (x4 : Int32) (y0 : Int32) (H : Heap) (locs : List Loc) (ls : Array Slot), m_X3_gathers_71 f (m_X3_gathers_2 f n2) (m_X3_gathers_11 f (m_X3_gathers_2 f n2) n11) u x1 x4 y0 = some u9 → TH D ad dI dJ A s.heap u H locs → lv_has ls 8 [(0, .ref (ad 40)), (1, .int x1), (4, .int x4)] → W p l e rm_X3_gathers s m args below meth c H locs 0 0 QQ (F0 m 71 ls [.int y0]) := by
            intro u x1 x4 y0 H locs ls hm hw hl
            rw [m_X3_gathers_71] at hm
            refine lv_istore_n (lv' := [(3, .int y0), (0, .ref (ad 40)), (1, .int x1), (4, .int x4)]) hx hb dX3_gathers_71 rfl hl (by decide) rfl (fun ls hl => ?_)
            obtain ⟨v1, ev1, hm⟩ := nmE hm
            refine lv_iinc (v := v1) (lv' := [(4, .int v1), (3, .int y0), (0, .ref (ad 40)), (1, .int x1)]) hx hb dX3_gathers_72 hl (k := 3) rfl (by rw [ev1]; rfl) (by decide) rfl (fun ls hl => ?_)
            refine lv_goto (tgt := 11) hx hb dX3_gathers_75 (by decide) ?_
            exact ih11 u x1 y0 v1 _ _ _ hm hw (lv_sub hl [2, 3, 1, 0] rfl)
          have hB70 : ∀ (u : TS) (x1 : Int32) (x3 : Int32) (x4 : Int32) (H : Heap) (locs : List Loc) (ls : Array Slot), m_X3_gathers_70 f (m_X3_gathers_2 f n2) (m_X3_gathers_11 f (m_X3_gathers_2 f n2) n11) u x1 x3 x4 = some u9 → TH D ad dI dJ A s.heap u H locs → lv_has ls 8 [(0, .ref (ad 40)), (1, .int x1), (3, .int x3), (4, .int x4)] → W p l e rm_X3_gathers s m args below meth c H locs 0 0 QQ (F0 m 70 ls []) := by
            intro u x1 x3 x4 H locs ls hm hw hl
            rw [m_X3_gathers_70] at hm
            refine lv_iload_n hx hb dX3_gathers_70 rfl (lv_at hl 2 rfl) ?_
            exact hB71 u x1 x4 x3 _ _ _ hm hw (lv_sub hl [0, 1, 3] rfl)
          have hB65 : ∀ (u : TS) (x1 : Int32) (x4 : Int32) (H : Heap) (locs : List Loc) (ls : Array Slot), m_X3_gathers_65 f (m_X3_gathers_2 f n2) (m_X3_gathers_11 f (m_X3_gathers_2 f n2) n11) u x1 x4 = some u9 → TH D ad dI dJ A s.heap u H locs → lv_has ls 8 [(0, .ref (ad 40)), (1, .int x1), (4, .int x4)] → W p l e rm_X3_gathers s m args below meth c H locs 0 0 QQ (F0 m 65 ls []) := by
            intro u x1 x4 H locs ls hm hw hl
            rw [m_X3_gathers_65] at hm
            refine lv_iload hx hb dX3_gathers_65 (lv_at hl 2 rfl) ?_
            refine lv_goto (tgt := 71) hx hb dX3_gathers_67 (by decide) ?_
            exact hB71 u x1 x4 x4 _ _ _ hm hw (lv_sub hl [0, 1, 2] rfl)
          intro u x1 x3 x4 H locs ls hm hw hl
          rw [m_X3_gathers_11] at hm
          refine lv_iload hx hb dX3_gathers_11 (lv_at hl 3 rfl) ?_
          refine lv_bipush (v := 6) hx hb dX3_gathers_13 (by decide) ?_
          refine lv_icmp_ge (tgt := 78) hx hb dX3_gathers_15 (by decide) (fun c1 => ?_) (fun c1 => ?_)
          · have hm := ifT hm c1
            exact hB78 u x1 x3 _ _ _ hm hw (lv_sub hl [0, 1, 2] rfl)
          · have hm := ifF hm c1
            refine lv_aload_n hx hb dX3_gathers_18 rfl (lv_at hl 0 rfl) ?_
            refine tg_get C hw 34 (by decide) q1600 rfl dX3_gathers_19 ?_
            refine lv_iconst (v := 3) hx hb dX3_gathers_22 (by decide) ?_
            refine lv_iload hx hb dX3_gathers_23 (lv_at hl 3 rfl) ?_
            refine lv_imul hx hb dX3_gathers_25 ?_
            refine lv_iload_n hx hb dX3_gathers_26 rfl (lv_at hl 1 rfl) ?_
            refine lv_iadd hx hb dX3_gathers_27 ?_
            obtain ⟨g2, hm⟩ := gdE hm
            refine tg_lald C hw (tp_34 ad dI dJ u) g2 dX3_gathers_28 ?_
            obtain ⟨r3, er3, hm⟩ := bdE hm
            refine scl (va_runS (As := [.long (tB u 34 (Int32.toNatClampNeg (((3 : Int32) * x4) + x1)))]) (rest := []) ⟨hx, hb, hml, hown, hts⟩ (w_X3_sized l er3) (cw_X3_sized hts q1772 ⟨Nat.le_of_ble_eq_true rfl, Nat.le_of_ble_eq_true rfl⟩) (pre_s _) rfl rfl hl.1 rfl (lv_room (Nat.le_of_ble_eq_true rfl)) dX3_gathers_29 ⟨Nat.le_of_ble_eq_true rfl, Nat.le_of_ble_eq_true rfl⟩) ?_
            refine lv_lstore (lv' := [(5, .long r3), (0, .ref (ad 40)), (1, .int x1), (3, .int x3), (4, .int x4)]) hx hb dX3_gathers_32 hl (by decide) rfl (fun ls hl => ?_)
            refine lv_lload hx hb dX3_gathers_34 (lv_at hl 0 rfl) ?_
            refine lv_lconst (v := 0) hx hb dX3_gathers_36 (by decide) ?_
            refine lc_eq (tgt := 70) hx hb dX3_gathers_37 dX3_gathers_38 (by decide) (fun c4 => ?_) (fun c4 => ?_)
            · have hm := ifT hm c4
              exact hB70 u x1 x3 x4 _ _ _ hm hw (lv_sub hl [1, 2, 3, 4] rfl)
            · have hm := ifF hm c4
              refine lv_iload_n hx hb dX3_gathers_41 rfl (lv_at hl 3 rfl) ?_
              refine lv_iconst (v := -1) hx hb dX3_gathers_42 (by decide) ?_
              refine lv_icmp_eq (tgt := 65) hx hb dX3_gathers_43 (by decide) (fun c5 => ?_) (fun c5 => ?_)
              · have hm := ifT hm c5
                exact hB65 u x1 x4 _ _ _ hm hw (lv_sub hl [1, 2, 4] rfl)
              · have hm := ifF hm c5
                refine lv_lload hx hb dX3_gathers_46 (lv_at hl 0 rfl) ?_
                refine lv_aload_n hx hb dX3_gathers_48 rfl (lv_at hl 1 rfl) ?_
                refine tg_get C hw 34 (by decide) q1600 rfl dX3_gathers_49 ?_
                refine lv_iconst (v := 3) hx hb dX3_gathers_52 (by decide) ?_
                refine lv_iload_n hx hb dX3_gathers_53 rfl (lv_at hl 3 rfl) ?_
                refine lv_imul hx hb dX3_gathers_54 ?_
                refine lv_iload_n hx hb dX3_gathers_55 rfl (lv_at hl 2 rfl) ?_
                refine lv_iadd hx hb dX3_gathers_56 ?_
                obtain ⟨g6, hm⟩ := gdE hm
                refine tg_lald C hw (tp_34 ad dI dJ u) g6 dX3_gathers_57 ?_
                obtain ⟨r7, er7, hm⟩ := bdE hm
                refine scl (va_runS (As := [.long (tB u 34 (Int32.toNatClampNeg (((3 : Int32) * x3) + x1)))]) (rest := [.long r3]) ⟨hx, hb, hml, hown, hts⟩ (w_X3_sized l er7) (cw_X3_sized hts q1772 ⟨Nat.le_of_ble_eq_true rfl, Nat.le_of_ble_eq_true rfl⟩) (pre_s _) rfl rfl hl.1 rfl (lv_room (Nat.le_of_ble_eq_true rfl)) dX3_gathers_58 ⟨Nat.le_of_ble_eq_true rfl, Nat.le_of_ble_eq_true rfl⟩) ?_
                refine lc_ge (tgt := 70) hx hb dX3_gathers_61 dX3_gathers_62 (by decide) (fun c8 => ?_) (fun c8 => ?_)
                · have hm := ifT hm c8
                  exact hB70 u x1 x3 x4 _ _ _ hm hw (lv_sub hl [1, 2, 3, 4] rfl)
                · have hm := ifF hm c8
                  exact hB65 u x1 x4 _ _ _ hm hw (lv_sub hl [1, 2, 4] rfl)
      intro u x1 x2 H locs ls hm hw hl
      rw [m_X3_gathers_2] at hm
      refine lv_iload_n hx hb dX3_gathers_2 rfl (lv_at hl 2 rfl) ?_
      refine lv_if_eq (tgt := 258) hx hb dX3_gathers_3 (by decide) (fun c1 => ?_) (fun c1 => ?_)
      · have hm := ifT hm c1
        exact hB258 u _ _ _ hm hw (lv_sub hl [] rfl)
      · have hm := ifF hm c1
        refine lv_iconst (v := -1) hx hb dX3_gathers_6 (by decide) ?_
        refine lv_istore_n (lv' := [(3, .int (-1 : Int32)), (0, .ref (ad 40)), (1, .int x1), (2, .int x2)]) hx hb dX3_gathers_7 rfl hl (by decide) rfl (fun ls hl => ?_)
        refine lv_iload_n hx hb dX3_gathers_8 rfl (lv_at hl 2 rfl) ?_
        refine lv_istore (lv' := [(4, .int x1), (3, .int (-1 : Int32)), (0, .ref (ad 40)), (1, .int x1), (2, .int x2)]) hx hb dX3_gathers_9 hl (by decide) rfl (fun ls hl => ?_)
        exact hB11 f u x1 (-1 : Int32) x1 _ _ _ hm hw (lv_sub hl [2, 3, 1, 0] rfl)
  rw [m_X3_gathers] at hm
  refine lv_iconst (v := 1) hx hb dX3_gathers_0 (by decide) ?_
  refine lv_istore_n (lv' := [(2, .int (1 : Int32)), (0, .ref (ad 40)), (1, .int x1)]) hx hb dX3_gathers_1 rfl hl (by decide) rfl (fun ls hl => ?_)
  exact hB2 f u x1 (1 : Int32) _ _ _ hm hw (lv_sub hl [1, 2, 0] rfl)
def m_X3_joins_91 (f : Nat) (u : TS) : Option TS := nmv (sL u 19 (tL u 31)) fun u1 =>
    bd (m_X3_forms f u1) fun u2 =>
    bd (m_X3_lessens f u2) fun u3 =>
    some u3
def m_X3_joins_67 (f : Nat) : Nat → TS → Int32 → Option TS
  | 0, _, _ => none
  | n67 + 1, u, x3 => if (9 : Int32) ≤ x3 then
    m_X3_joins_91 f u
    else gd (ix x3 18) <|
    gd (ix x3 9) <|
    nmv (sB u 18 (Int32.toNatClampNeg x3) (tB u 34 (Int32.toNatClampNeg x3))) fun u4 =>
    nmv ((x3 + 1) : Int32) fun v5 =>
    m_X3_joins_67 f n67 u4 v5
def m_X3_joins_65 (f : Nat) (u : TS) : Option TS := m_X3_joins_67 f f u (0 : Int32)
def m_X3_joins_49 (f : Nat) : Nat → TS → Int32 → Option TS
  | 0, _, _ => none
  | n49 + 1, u, x3 => if (3 : Int32) ≤ x3 then
    m_X3_joins_65 f u
    else bd (m_X3_gathers f u x3) fun u2 =>
    nmv ((x3 + 1) : Int32) fun v3 =>
    m_X3_joins_49 f n49 u2 v3
def m_X3_joins_47 (f : Nat) (u : TS) : Option TS := m_X3_joins_49 f f u (0 : Int32)
def m_X3_joins_8 (f : Nat) : Nat → TS → Int32 → Option TS
  | 0, _, _ => none
  | n8 + 1, u, x3 => if (9 : Int32) ≤ x3 then
    m_X3_joins_47 f u
    else gd (ix x3 9) <|
    gd (ix x3 18) <|
    nmv (sB u 34 (Int32.toNatClampNeg x3) (tB u 27 (Int32.toNatClampNeg x3))) fun u4 =>
    gd (ix x3 9) <|
    gd (ix ((9 : Int32) + x3) 18) <|
    nmv (sB u4 34 (Int32.toNatClampNeg ((9 : Int32) + x3)) (tB u4 29 (Int32.toNatClampNeg x3))) fun u7 =>
    nmv ((x3 + 1) : Int32) fun v8 =>
    m_X3_joins_8 f n8 u7 v8
def m_X3_joins (f : Nat) (u : TS) (x1 : Int32) (x2 : Int32) : Option TS := bd (m_X3_laysBoth f u x1 x2) fun u1 =>
    m_X3_joins_8 f f u1 (0 : Int32)
abbrev rm_X3_joins : Room := { frames := 7, cells := 0, slots := 0, locals := 168 }
theorem cw_X3_joins {R : Room} {s : State} {args : Array Value} {own : String} {idx : Nat} (hts : ∀ w ∈ lw_all, w.before args s = true) (hl : Cond.methodLink own idx yX3_joins ∈ lw_all) (hR : rm_X3_joins.frames + 1 ≤ R.frames ∧ 8 + (4 + 11) + rm_X3_joins.locals ≤ R.locals) : CallW R s args own RX3 idx yX3_joins cX3_joins 4 (Option.none : Option Jvm.ClassFile.FieldType) (ws_ yX3_joins cX3_joins 4 (Option.none : Option Jvm.ClassFile.FieldType)) rm_X3_joins 0 0 2 := cwV 2 hts (lw_V hl q1964 qs93 q125 q1965) rfl rfl rfl (by decide +kernel) hR
set_option maxHeartbeats 4000000 in
set_option maxRecDepth 100000 in
theorem w_X3_joins (l : Launch) {D : va_G} {ad : Nat → Nat} {dI dJ : ClassId} {A : Nat → Prop} {f : Nat} {u u9 : TS} {x1 : Int32} {x2 : Int32} (hm : m_X3_joins f u x1 x2 = some u9) : Met l yX3_joins (ws_ yX3_joins cX3_joins 4 (Option.none : Option Jvm.ClassFile.FieldType)) rm_X3_joins (va_Pc [.ref (ad 40), .int x1, .int x2] (TPre D ad dI dJ A u)) (va_Qv (fun u => u = u9) (TPost D ad dI dJ A) A) 0 0 A := by
  refine Met.ofW (cc := cX3_joins) (maxL := 4) (ret := (Option.none : Option Jvm.ClassFile.FieldType)) (by decide) rfl ?_
  intro p e s m args below meth c s₁ B hml hv
  have hx := B.exec
  have hb := B.bytes
  have hr := B.returns
  have hts := atoms_spec (ws := (ws_ yX3_joins cX3_joins 4 (Option.none : Option Jvm.ClassFile.FieldType))) B.pre
  have hts : ∀ w ∈ lw_all, w.before args s = true := fun w h => hts w (List.mem_cons_of_mem _ h)
  have hown : s.vm.findClass RX3 = some m.cls := findClass_of_methodNamed B.named
  have hlocks := B.notSynchronized
  obtain ⟨hav, hv⟩ := hv
  have C : TC p s m args c cX3_joins D dI dJ := ⟨hx, hb, hown, hts, hv.2.1⟩
  have hw : TH D ad dI dJ A s.heap u s.heap [] := ⟨hv.1, hv.2.2.1, va_S.rf, hv.2.2.2⟩
  generalize hQ : MQ below (va_Qv (fun u => u = u9) (TPost D ad dI dJ A) A) args s 0 0 A = QQ
  have hent := lg_entry_eq m [.ref (ad 40), .int x1, .int x2] 4
  rw [← hav] at hent
  rw [hent]
  have hl := lv_entry ([.ref (ad 40), .int x1, .int x2]) (n := 4) (Nat.le_of_ble_eq_true rfl)
  generalize (lg_sl ([.ref (ad 40), .int x1, .int x2]) ++ List.replicate (4 - (lg_sl ([.ref (ad 40), .int x1, .int x2])).length) Slot.unset).toArray = ls at hl ⊢
  have hl : lv_has ls 4 [(0, .ref (ad 40)), (1, .int x1), (2, .int x2)] := hl
  change W p l e rm_X3_joins s m args below meth c s.heap [] 0 0 QQ (F0 m 0 ls [])
  have hB91 : ∀ (u : TS) (H : Heap) (locs : List Loc) (ls : Array Slot), m_X3_joins_91 f u = some u9 → TH D ad dI dJ A s.heap u H locs → lv_has ls 4 [(0, .ref (ad 40))] → W p l e rm_X3_joins s m args below meth c H locs 0 0 QQ (F0 m 91 ls []) := by
    intro u H locs ls hm hw hl
    rw [m_X3_joins_91] at hm
    refine lv_aload_n hx hb dX3_joins_91 rfl (lv_at hl 0 rfl) ?_
    refine lv_aload_n hx hb dX3_joins_92 rfl (lv_at hl 0 rfl) ?_
    refine tg_get C hw 31 (by decide) q1597 rfl dX3_joins_93 ?_
    refine tg_put C hw 19 (by decide) q1585 rfl rfl rfl (ts_19 ad dI dJ u (tL u 31)) dX3_joins_96 (fun H locs hw => ?_)
    obtain ⟨u1, eu1, hm⟩ := nmE hm
    rw [← eu1] at hw
    refine lv_aload_n hx hb dX3_joins_99 rfl (lv_at hl 0 rfl) ?_
    obtain ⟨u2, eu2, hm⟩ := bdE hm
    refine tg_callv hw (va_runV (As := []) (rest := []) ⟨hx, hb, hml, hown, hts⟩ (w_X3_forms l eu2) (cw_X3_forms hts q1832 ⟨Nat.le_of_ble_eq_true rfl, Nat.le_of_ble_eq_true rfl⟩) (tg_pre C hw _) rfl rfl hl.1 rfl (lv_room (Nat.le_of_ble_eq_true rfl)) dX3_joins_100 ⟨Nat.le_of_ble_eq_true rfl, Nat.le_of_ble_eq_true rfl⟩) (fun H locs hw => ?_)
    refine lv_aload_n hx hb dX3_joins_103 rfl (lv_at hl 0 rfl) ?_
    obtain ⟨u3, eu3, hm⟩ := bdE hm
    refine tg_callv hw (va_runV (As := []) (rest := []) ⟨hx, hb, hml, hown, hts⟩ (w_X3_lessens l eu3) (cw_X3_lessens hts q1816 ⟨Nat.le_of_ble_eq_true rfl, Nat.le_of_ble_eq_true rfl⟩) (tg_pre C hw _) rfl rfl hl.1 rfl (lv_room (Nat.le_of_ble_eq_true rfl)) dX3_joins_104 ⟨Nat.le_of_ble_eq_true rfl, Nat.le_of_ble_eq_true rfl⟩) (fun H locs hw => ?_)
    rw [← hQ]
    exact W.vret hx hb hr (fun t ht hW => ⟨⟨u3, rfl, ret1 hm, by rw [ht]; exact hw.1, hw.2.1⟩, hw.2.2.1.F ht⟩) hw.2.2.1.2.2 dX3_joins_107
  have hB67 : ∀ (n67 : Nat), ∀ (u : TS) (x3 : Int32) (H : Heap) (locs : List Loc) (ls : Array Slot), m_X3_joins_67 f n67 u x3 = some u9 → TH D ad dI dJ A s.heap u H locs → lv_has ls 4 [(0, .ref (ad 40)), (3, .int x3)] → W p l e rm_X3_joins s m args below meth c H locs 0 0 QQ (F0 m 67 ls []) := by
    intro n67
    induction n67 with
    | zero => intro u x3 H locs ls hm hw hl; rw [m_X3_joins_67] at hm; exact noE hm
    | succ n67 ih67 =>
      intro u x3 H locs ls hm hw hl
      rw [m_X3_joins_67] at hm
      refine lv_iload_n hx hb dX3_joins_67 rfl (lv_at hl 1 rfl) ?_
      refine lv_bipush (v := 9) hx hb dX3_joins_68 (by decide) ?_
      refine lv_icmp_ge (tgt := 91) hx hb dX3_joins_70 (by decide) (fun c1 => ?_) (fun c1 => ?_)
      · have hm := ifT hm c1
        exact hB91 u _ _ _ hm hw (lv_sub hl [0] rfl)
      · have hm := ifF hm c1
        refine lv_aload_n hx hb dX3_joins_73 rfl (lv_at hl 0 rfl) ?_
        refine tg_get C hw 18 (by decide) q1584 rfl dX3_joins_74 ?_
        refine lv_iload_n hx hb dX3_joins_77 rfl (lv_at hl 1 rfl) ?_
        refine lv_aload_n hx hb dX3_joins_78 rfl (lv_at hl 0 rfl) ?_
        refine tg_get C hw 34 (by decide) q1600 rfl dX3_joins_79 ?_
        refine lv_iload_n hx hb dX3_joins_82 rfl (lv_at hl 1 rfl) ?_
        obtain ⟨g2, hm⟩ := gdE hm
        refine tg_lald C hw (tp_34 ad dI dJ u) g2 dX3_joins_83 ?_
        obtain ⟨g3, hm⟩ := gdE hm
        refine tg_last C hw (tp_18 ad dI dJ u) g3 (ts_18 ad dI dJ u _ _) dX3_joins_84 (fun H locs hw => ?_)
        obtain ⟨u4, eu4, hm⟩ := nmE hm
        rw [← eu4] at hw
        obtain ⟨v5, ev5, hm⟩ := nmE hm
        refine lv_iinc (v := v5) (lv' := [(3, .int v5), (0, .ref (ad 40))]) hx hb dX3_joins_85 hl (k := 1) rfl (by rw [ev5]; rfl) (by decide) rfl (fun ls hl => ?_)
        refine lv_goto (tgt := 67) hx hb dX3_joins_88 (by decide) ?_
        exact ih67 u4 v5 _ _ _ hm hw (lv_sub hl [1, 0] rfl)
  have hB65 : ∀ (u : TS) (H : Heap) (locs : List Loc) (ls : Array Slot), m_X3_joins_65 f u = some u9 → TH D ad dI dJ A s.heap u H locs → lv_has ls 4 [(0, .ref (ad 40))] → W p l e rm_X3_joins s m args below meth c H locs 0 0 QQ (F0 m 65 ls []) := by
    intro u H locs ls hm hw hl
    rw [m_X3_joins_65] at hm
    refine lv_iconst (v := 0) hx hb dX3_joins_65 (by decide) ?_
    refine lv_istore_n (lv' := [(3, .int (0 : Int32)), (0, .ref (ad 40))]) hx hb dX3_joins_66 rfl hl (by decide) rfl (fun ls hl => ?_)
    exact hB67 f u (0 : Int32) _ _ _ hm hw (lv_sub hl [1, 0] rfl)
  have hB49 : ∀ (n49 : Nat), ∀ (u : TS) (x3 : Int32) (H : Heap) (locs : List Loc) (ls : Array Slot), m_X3_joins_49 f n49 u x3 = some u9 → TH D ad dI dJ A s.heap u H locs → lv_has ls 4 [(0, .ref (ad 40)), (3, .int x3)] → W p l e rm_X3_joins s m args below meth c H locs 0 0 QQ (F0 m 49 ls []) := by
    intro n49
    induction n49 with
    | zero => intro u x3 H locs ls hm hw hl; rw [m_X3_joins_49] at hm; exact noE hm
    | succ n49 ih49 =>
      intro u x3 H locs ls hm hw hl
      rw [m_X3_joins_49] at hm
      refine lv_iload_n hx hb dX3_joins_49 rfl (lv_at hl 1 rfl) ?_
      refine lv_iconst (v := 3) hx hb dX3_joins_50 (by decide) ?_
      refine lv_icmp_ge (tgt := 65) hx hb dX3_joins_51 (by decide) (fun c1 => ?_) (fun c1 => ?_)
      · have hm := ifT hm c1
        exact hB65 u _ _ _ hm hw (lv_sub hl [0] rfl)
      · have hm := ifF hm c1
        refine lv_aload_n hx hb dX3_joins_54 rfl (lv_at hl 0 rfl) ?_
        refine lv_iload_n hx hb dX3_joins_55 rfl (lv_at hl 1 rfl) ?_
        obtain ⟨u2, eu2, hm⟩ := bdE hm
        refine tg_callv hw (va_runV (As := [.int x3]) (rest := []) ⟨hx, hb, hml, hown, hts⟩ (w_X3_gathers l eu2) (cw_X3_gathers hts q1966 ⟨Nat.le_of_ble_eq_true rfl, Nat.le_of_ble_eq_true rfl⟩) (tg_pre C hw _) rfl rfl hl.1 rfl (lv_room (Nat.le_of_ble_eq_true rfl)) dX3_joins_56 ⟨Nat.le_of_ble_eq_true rfl, Nat.le_of_ble_eq_true rfl⟩) (fun H locs hw => ?_)
        obtain ⟨v3, ev3, hm⟩ := nmE hm
        refine lv_iinc (v := v3) (lv' := [(3, .int v3), (0, .ref (ad 40))]) hx hb dX3_joins_59 hl (k := 1) rfl (by rw [ev3]; rfl) (by decide) rfl (fun ls hl => ?_)
        refine lv_goto (tgt := 49) hx hb dX3_joins_62 (by decide) ?_
        exact ih49 u2 v3 _ _ _ hm hw (lv_sub hl [1, 0] rfl)
  have hB47 : ∀ (u : TS) (H : Heap) (locs : List Loc) (ls : Array Slot), m_X3_joins_47 f u = some u9 → TH D ad dI dJ A s.heap u H locs → lv_has ls 4 [(0, .ref (ad 40))] → W p l e rm_X3_joins s m args below meth c H locs 0 0 QQ (F0 m 47 ls []) := by
    intro u H locs ls hm hw hl
    rw [m_X3_joins_47] at hm
    refine lv_iconst (v := 0) hx hb dX3_joins_47 (by decide) ?_
    refine lv_istore_n (lv' := [(3, .int (0 : Int32)), (0, .ref (ad 40))]) hx hb dX3_joins_48 rfl hl (by decide) rfl (fun ls hl => ?_)
    exact hB49 f u (0 : Int32) _ _ _ hm hw (lv_sub hl [1, 0] rfl)
  have hB8 : ∀ (n8 : Nat), ∀ (u : TS) (x3 : Int32) (H : Heap) (locs : List Loc) (ls : Array Slot), m_X3_joins_8 f n8 u x3 = some u9 → TH D ad dI dJ A s.heap u H locs → lv_has ls 4 [(0, .ref (ad 40)), (3, .int x3)] → W p l e rm_X3_joins s m args below meth c H locs 0 0 QQ (F0 m 8 ls []) := by
    intro n8
    induction n8 with
    | zero => intro u x3 H locs ls hm hw hl; rw [m_X3_joins_8] at hm; exact noE hm
    | succ n8 ih8 =>
      intro u x3 H locs ls hm hw hl
      rw [m_X3_joins_8] at hm
      refine lv_iload_n hx hb dX3_joins_8 rfl (lv_at hl 1 rfl) ?_
      refine lv_bipush (v := 9) hx hb dX3_joins_9 (by decide) ?_
      refine lv_icmp_ge (tgt := 47) hx hb dX3_joins_11 (by decide) (fun c1 => ?_) (fun c1 => ?_)
      · have hm := ifT hm c1
        exact hB47 u _ _ _ hm hw (lv_sub hl [0] rfl)
      · have hm := ifF hm c1
        refine lv_aload_n hx hb dX3_joins_14 rfl (lv_at hl 0 rfl) ?_
        refine tg_get C hw 34 (by decide) q1600 rfl dX3_joins_15 ?_
        refine lv_iload_n hx hb dX3_joins_18 rfl (lv_at hl 1 rfl) ?_
        refine lv_aload_n hx hb dX3_joins_19 rfl (lv_at hl 0 rfl) ?_
        refine tg_get C hw 27 (by decide) q1593 rfl dX3_joins_20 ?_
        refine lv_iload_n hx hb dX3_joins_23 rfl (lv_at hl 1 rfl) ?_
        obtain ⟨g2, hm⟩ := gdE hm
        refine tg_lald C hw (tp_27 ad dI dJ u) g2 dX3_joins_24 ?_
        obtain ⟨g3, hm⟩ := gdE hm
        refine tg_last C hw (tp_34 ad dI dJ u) g3 (ts_34 ad dI dJ u _ _) dX3_joins_25 (fun H locs hw => ?_)
        obtain ⟨u4, eu4, hm⟩ := nmE hm
        rw [← eu4] at hw
        refine lv_aload_n hx hb dX3_joins_26 rfl (lv_at hl 0 rfl) ?_
        refine tg_get C hw 34 (by decide) q1600 rfl dX3_joins_27 ?_
        refine lv_bipush (v := 9) hx hb dX3_joins_30 (by decide) ?_
        refine lv_iload_n hx hb dX3_joins_32 rfl (lv_at hl 1 rfl) ?_
        refine lv_iadd hx hb dX3_joins_33 ?_
        refine lv_aload_n hx hb dX3_joins_34 rfl (lv_at hl 0 rfl) ?_
        refine tg_get C hw 29 (by decide) q1595 rfl dX3_joins_35 ?_
        refine lv_iload_n hx hb dX3_joins_38 rfl (lv_at hl 1 rfl) ?_
        obtain ⟨g5, hm⟩ := gdE hm
        refine tg_lald C hw (tp_29 ad dI dJ u4) g5 dX3_joins_39 ?_
        obtain ⟨g6, hm⟩ := gdE hm
        refine tg_last C hw (tp_34 ad dI dJ u4) g6 (ts_34 ad dI dJ u4 _ _) dX3_joins_40 (fun H locs hw => ?_)
        obtain ⟨u7, eu7, hm⟩ := nmE hm
        rw [← eu7] at hw
        obtain ⟨v8, ev8, hm⟩ := nmE hm
        refine lv_iinc (v := v8) (lv' := [(3, .int v8), (0, .ref (ad 40))]) hx hb dX3_joins_41 hl (k := 1) rfl (by rw [ev8]; rfl) (by decide) rfl (fun ls hl => ?_)
        refine lv_goto (tgt := 8) hx hb dX3_joins_44 (by decide) ?_
        exact ih8 u7 v8 _ _ _ hm hw (lv_sub hl [1, 0] rfl)
  rw [m_X3_joins] at hm
  refine lv_aload_n hx hb dX3_joins_0 rfl (lv_at hl 0 rfl) ?_
  refine lv_iload_n hx hb dX3_joins_1 rfl (lv_at hl 1 rfl) ?_
  refine lv_iload_n hx hb dX3_joins_2 rfl (lv_at hl 2 rfl) ?_
  obtain ⟨u1, eu1, hm⟩ := bdE hm
  refine tg_callv hw (va_runV (As := [.int x1, .int x2]) (rest := []) ⟨hx, hb, hml, hown, hts⟩ (w_X3_laysBoth l eu1) (cw_X3_laysBoth hts q1913 ⟨Nat.le_of_ble_eq_true rfl, Nat.le_of_ble_eq_true rfl⟩) (tg_pre C hw _) rfl rfl hl.1 rfl (lv_room (Nat.le_of_ble_eq_true rfl)) dX3_joins_3 ⟨Nat.le_of_ble_eq_true rfl, Nat.le_of_ble_eq_true rfl⟩) (fun H locs hw => ?_)
  refine lv_iconst (v := 0) hx hb dX3_joins_6 (by decide) ?_
  refine lv_istore_n (lv' := [(3, .int (0 : Int32)), (0, .ref (ad 40)), (1, .int x1), (2, .int x2)]) hx hb dX3_joins_7 rfl hl (by decide) rfl (fun ls hl => ?_)
  exact hB8 f u1 (0 : Int32) _ _ _ hm hw (lv_sub hl [1, 0] rfl)
def m_X3_joinOver (f : Nat) (u : TS) (x1 : Int32) (x2 : Int32) : Option (Int32 × TS) := bd2 (m_X3_whyNot f u x1 x2) fun r2 u1 =>
    if 0 ≤ r2 then
    bd (m_X3_joins f u1 x1 x2) fun u4 =>
    some ((Int64.toInt32 (tL u4 19)), u4)
    else some (r2, u1)
abbrev rm_X3_joinOver : Room := { frames := 8, cells := 0, slots := 0, locals := 191 }
theorem cw_X3_joinOver {R : Room} {s : State} {args : Array Value} {own : String} {idx : Nat} (hts : ∀ w ∈ lw_all, w.before args s = true) (hl : Cond.methodLink own idx yX3_joinOver ∈ lw_all) (hR : rm_X3_joinOver.frames + 1 ≤ R.frames ∧ 8 + (4 + 11) + rm_X3_joinOver.locals ≤ R.locals) : CallW R s args own RX3 idx yX3_joinOver cX3_joinOver 4 (Option.some Jvm.ClassFile.FieldType.int) (ws_ yX3_joinOver cX3_joinOver 4 (Option.some Jvm.ClassFile.FieldType.int)) rm_X3_joinOver 0 0 2 := cwV 2 hts (lw_V hl q1959 q1960 q125 q1961) rfl rfl rfl (by decide +kernel) hR
set_option maxHeartbeats 4000000 in
set_option maxRecDepth 100000 in
theorem w_X3_joinOver (l : Launch) {D : va_G} {ad : Nat → Nat} {dI dJ : ClassId} {A : Nat → Prop} {f : Nat} {u u9 : TS} {r0 : Int32} {x1 : Int32} {x2 : Int32} (hm : m_X3_joinOver f u x1 x2 = some (r0, u9)) : Met l yX3_joinOver (ws_ yX3_joinOver cX3_joinOver 4 (Option.some Jvm.ClassFile.FieldType.int)) rm_X3_joinOver (va_Pc [.ref (ad 40), .int x1, .int x2] (TPre D ad dI dJ A u)) (va_Qi (fun r u => r = r0 ∧ u = u9) (TPost D ad dI dJ A) A) 0 0 A := by
  refine Met.ofW (cc := cX3_joinOver) (maxL := 4) (ret := (Option.some Jvm.ClassFile.FieldType.int)) (by decide) rfl ?_
  intro p e s m args below meth c s₁ B hml hv
  have hx := B.exec
  have hb := B.bytes
  have hr := B.returns
  have hts := atoms_spec (ws := (ws_ yX3_joinOver cX3_joinOver 4 (Option.some Jvm.ClassFile.FieldType.int))) B.pre
  have hts : ∀ w ∈ lw_all, w.before args s = true := fun w h => hts w (List.mem_cons_of_mem _ h)
  have hown : s.vm.findClass RX3 = some m.cls := findClass_of_methodNamed B.named
  have hlocks := B.notSynchronized
  obtain ⟨hav, hv⟩ := hv
  have C : TC p s m args c cX3_joinOver D dI dJ := ⟨hx, hb, hown, hts, hv.2.1⟩
  have hw : TH D ad dI dJ A s.heap u s.heap [] := ⟨hv.1, hv.2.2.1, va_S.rf, hv.2.2.2⟩
  generalize hQ : MQ below (va_Qi (fun r u => r = r0 ∧ u = u9) (TPost D ad dI dJ A) A) args s 0 0 A = QQ
  have hent := lg_entry_eq m [.ref (ad 40), .int x1, .int x2] 4
  rw [← hav] at hent
  rw [hent]
  have hl := lv_entry ([.ref (ad 40), .int x1, .int x2]) (n := 4) (Nat.le_of_ble_eq_true rfl)
  generalize (lg_sl ([.ref (ad 40), .int x1, .int x2]) ++ List.replicate (4 - (lg_sl ([.ref (ad 40), .int x1, .int x2])).length) Slot.unset).toArray = ls at hl ⊢
  have hl : lv_has ls 4 [(0, .ref (ad 40)), (1, .int x1), (2, .int x2)] := hl
  change W p l e rm_X3_joinOver s m args below meth c s.heap [] 0 0 QQ (F0 m 0 ls [])
  rw [m_X3_joinOver] at hm
  refine lv_aload_n hx hb dX3_joinOver_0 rfl (lv_at hl 0 rfl) ?_
  refine lv_iload_n hx hb dX3_joinOver_1 rfl (lv_at hl 1 rfl) ?_
  refine lv_iload_n hx hb dX3_joinOver_2 rfl (lv_at hl 2 rfl) ?_
  obtain ⟨r2, u1, er2, hm⟩ := bd2E hm
  refine tg_calli hw (va_runV (As := [.int x1, .int x2]) (rest := []) ⟨hx, hb, hml, hown, hts⟩ (w_X3_whyNot l er2) (cw_X3_whyNot hts q1909 ⟨Nat.le_of_ble_eq_true rfl, Nat.le_of_ble_eq_true rfl⟩) (tg_pre C hw _) rfl rfl hl.1 rfl (lv_room (Nat.le_of_ble_eq_true rfl)) dX3_joinOver_3 ⟨Nat.le_of_ble_eq_true rfl, Nat.le_of_ble_eq_true rfl⟩) (fun H locs hw => ?_)
  refine lv_istore_n (lv' := [(3, .int r2), (0, .ref (ad 40)), (1, .int x1), (2, .int x2)]) hx hb dX3_joinOver_6 rfl hl (by decide) rfl (fun ls hl => ?_)
  refine lv_iload_n hx hb dX3_joinOver_7 rfl (lv_at hl 0 rfl) ?_
  refine lv_if_ge (tgt := 13) hx hb dX3_joinOver_8 (by decide) (fun c3 => ?_) (fun c3 => ?_)
  · have hm := ifT hm c3
    refine lv_aload_n hx hb dX3_joinOver_13 rfl (lv_at hl 1 rfl) ?_
    refine lv_iload_n hx hb dX3_joinOver_14 rfl (lv_at hl 2 rfl) ?_
    refine lv_iload_n hx hb dX3_joinOver_15 rfl (lv_at hl 3 rfl) ?_
    obtain ⟨u4, eu4, hm⟩ := bdE hm
    refine tg_callv hw (va_runV (As := [.int x1, .int x2]) (rest := []) ⟨hx, hb, hml, hown, hts⟩ (w_X3_joins l eu4) (cw_X3_joins hts q1962 ⟨Nat.le_of_ble_eq_true rfl, Nat.le_of_ble_eq_true rfl⟩) (tg_pre C hw _) rfl rfl hl.1 rfl (lv_room (Nat.le_of_ble_eq_true rfl)) dX3_joinOver_16 ⟨Nat.le_of_ble_eq_true rfl, Nat.le_of_ble_eq_true rfl⟩) (fun H locs hw => ?_)
    refine lv_aload_n hx hb dX3_joinOver_19 rfl (lv_at hl 1 rfl) ?_
    refine tg_get C hw 19 (by decide) q1585 rfl dX3_joinOver_20 ?_
    refine lv_l2i hx hb dX3_joinOver_23 rfl ?_
    rw [← hQ]
    exact W.iret (v := (Int64.toInt32 (tL u4 19))) hx hb hr (fun t ht hW => ⟨⟨(Int64.toInt32 (tL u4 19)), u4, rfl, retE hm, by rw [ht]; exact hw.1, hw.2.1⟩, hw.2.2.1.F ht⟩) hw.2.2.1.2.2 dX3_joinOver_24
  · have hm := ifF hm c3
    refine lv_iload_n hx hb dX3_joinOver_11 rfl (lv_at hl 0 rfl) ?_
    rw [← hQ]
    exact W.iret (v := r2) hx hb hr (fun t ht hW => ⟨⟨r2, u1, rfl, retE hm, by rw [ht]; exact hw.1, hw.2.1⟩, hw.2.2.1.F ht⟩) hw.2.2.1.2.2 dX3_joinOver_12
