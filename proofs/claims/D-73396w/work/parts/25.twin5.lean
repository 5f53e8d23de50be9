/-! walks of the twin (printed by gen/walk.py) -/
set_option maxRecDepth 100000
def m_X3_stays_97 (f : Nat) (u : TS) (x1 : Int32) (x2 : Int32) (x3 : Int32) (y0 : Int32) : Option (Int32 × TS) := if ¬ y0 = 0 then
    bd (m_X3_goesBack f u ((tA u 0 (Int32.toNatClampNeg (2 : Int32))) - (1 : Int32))) fun u2 =>
    bd2 (m_X3_refuses f u2 x1 y0 x2 x3) fun r4 u3 =>
    some (r4, u3)
    else some ((0 : Int32), u)
def m_X3_stays_59 (f : Nat) (u : TS) (x1 : Int32) (x2 : Int32) (x3 : Int32) (x4 : Int32) : Option (Int32 × TS) := if x4 = 0 then
    bd2 (m_X3_detOf f u ((28 : Int32) + ((9 : Int32) * x2))) fun r3 u2 =>
    bd (m_X3_sized f r3) fun r4 =>
    bd (m_X3_in f r4 (1 : Int64) (60 : Int64)) fun r5 =>
    if ¬ r5 = 0 then
    m_X3_stays_97 f u2 x1 x2 x3 (0 : Int32)
    else m_X3_stays_97 f u2 x1 x2 x3 (2 : Int32)
    else m_X3_stays_97 f u x1 x2 x3 (1 : Int32)
def m_X3_stays_51 (f : Nat) (k6 : TS → Int32 → Int32 → Int32 → Int32 → Int32 → Option (Int32 × TS)) (u : TS) (x1 : Int32) (x2 : Int32) (x3 : Int32) (x5 : Int32) (y0 : Int32) : Option (Int32 × TS) := nmv ((x5 + 1) : Int32) fun v1 =>
    k6 u x1 x2 x3 y0 v1
def m_X3_stays_46 (f : Nat) (k6 : TS → Int32 → Int32 → Int32 → Int32 → Int32 → Option (Int32 × TS)) (u : TS) (x1 : Int32) (x2 : Int32) (x3 : Int32) (x5 : Int32) : Option (Int32 × TS) := m_X3_stays_51 f k6 u x1 x2 x3 x5 (1 : Int32)
def m_X3_stays_6 (f : Nat) : Nat → TS → Int32 → Int32 → Int32 → Int32 → Int32 → Option (Int32 × TS)
  | 0, _, _, _, _, _, _ => none
  | n6 + 1, u, x1, x2, x3, x4, x5 => if (9 : Int32) ≤ x5 then
    m_X3_stays_59 f u x1 x2 x3 x4
    else if ¬ x4 = 0 then
    m_X3_stays_46 f (m_X3_stays_6 f n6) u x1 x2 x3 x5
    else gd (ix (((28 : Int32) + ((9 : Int32) * x2)) + x5) 73) <|
    bd (m_X3_in f (Int32.toInt64 (tA u 0 (Int32.toNatClampNeg (((28 : Int32) + ((9 : Int32) * x2)) + x5)))) (-20 : Int64) (20 : Int64)) fun r4 =>
    if ¬ r4 = 0 then
    m_X3_stays_51 f (m_X3_stays_6 f n6) u x1 x2 x3 x5 (0 : Int32)
    else m_X3_stays_46 f (m_X3_stays_6 f n6) u x1 x2 x3 x5
def m_X3_stays (f : Nat) (u : TS) (x1 : Int32) (x2 : Int32) (x3 : Int32) : Option (Int32 × TS) := m_X3_stays_6 f f u x1 x2 x3 (0 : Int32) (0 : Int32)
abbrev rm_X3_stays : Room := { frames := 1, cells := 0, slots := 0, locals := 25 }
theorem cw_X3_stays {R : Room} {s : State} {args : Array Value} {own : String} {idx : Nat} (hts : ∀ w ∈ lw_all, w.before args s = true) (hl : Cond.methodLink own idx yX3_stays ∈ lw_all) (hR : rm_X3_stays.frames + 1 ≤ R.frames ∧ 8 + (6 + 11) + rm_X3_stays.locals ≤ R.locals) : CallW R s args own RX3 idx yX3_stays cX3_stays 6 (Option.some Jvm.ClassFile.FieldType.int) (ws_ yX3_stays cX3_stays 6 (Option.some Jvm.ClassFile.FieldType.int)) rm_X3_stays 0 0 3 := cwV 3 hts (lw_V hl q2152 qs116 q125 q2153) rfl rfl rfl (by decide +kernel) hR
set_option maxHeartbeats 4000000 in
set_option maxRecDepth 100000 in
theorem w_X3_stays (l : Launch) {D : va_G} {ad : Nat → Nat} {dI dJ : ClassId} {A : Nat → Prop} {f : Nat} {u u9 : TS} {r0 : Int32} {x1 : Int32} {x2 : Int32} {x3 : Int32} (hm : m_X3_stays f u x1 x2 x3 = some (r0, u9)) : Met l yX3_stays (ws_ yX3_stays cX3_stays 6 (Option.some Jvm.ClassFile.FieldType.int)) rm_X3_stays (va_Pc [.ref (ad 40), .int x1, .int x2, .int x3] (TPre D ad dI dJ A u)) (va_Qi (fun r u => r = r0 ∧ u = u9) (TPost D ad dI dJ A) A) 0 0 A := by
  refine Met.ofW (cc := cX3_stays) (maxL := 6) (ret := (Option.some Jvm.ClassFile.FieldType.int)) (by decide) rfl ?_
  intro p e s m args below meth c s₁ B hml hv
  have hx := B.exec
  have hb := B.bytes
  have hr := B.returns
  have hts := atoms_spec (ws := (ws_ yX3_stays cX3_stays 6 (Option.some Jvm.ClassFile.FieldType.int))) B.pre
  have hts : ∀ w ∈ lw_all, w.before args s = true := fun w h => hts w (List.mem_cons_of_mem _ h)
  have hown : s.vm.findClass RX3 = some m.cls := findClass_of_methodNamed B.named
  have hlocks := B.notSynchronized
  obtain ⟨hav, hv⟩ := hv
  have C : TC p s m args c cX3_stays D dI dJ := ⟨hx, hb, hown, hts, hv.2.1⟩
  have hw : TH D ad dI dJ A s.heap u s.heap [] := ⟨hv.1, hv.2.2.1, va_S.rf, hv.2.2.2⟩
  generalize hQ : MQ below (va_Qi (fun r u => r = r0 ∧ u = u9) (TPost D ad dI dJ A) A) args s 0 0 A = QQ
  have hent := lg_entry_eq m [.ref (ad 40), .int x1, .int x2, .int x3] 6
  rw [← hav] at hent
  rw [hent]
  have hl := lv_entry ([.ref (ad 40), .int x1, .int x2, .int x3]) (n := 6) (Nat.le_of_ble_eq_true rfl)
  generalize (lg_sl ([.ref (ad 40), .int x1, .int x2, .int x3]) ++ List.replicate (6 - (lg_sl ([.ref (ad 40), .int x1, .int x2, .int x3])).length) Slot.unset).toArray = ls at hl ⊢
  have hl : lv_has ls 6 [(0, .ref (ad 40)), (1, .int x1), (2, .int x2), (3, .int x3)] := hl
  change W p l e rm_X3_stays s m args below meth c s.heap [] 0 0 QQ (F0 m 0 ls [])
  have hB97 : ∀ (u : TS) (x1 : Int32) (x2 : Int32) (x3 : Int32) (y0 : Int32) (H : Heap) (locs : List Loc) (ls : Array Slot), m_X3_stays_97 f u x1 x2 x3 y0 = some (r0, u9) → TH D ad dI dJ A s.heap u H locs → lv_has ls 6 [(0, .ref (ad 40)), (1, .int x1), (2, .int x2), (3, .int x3)] → W p l e rm_X3_stays s m args below meth c H locs 0 0 QQ (F0 m 97 ls [.int y0]) := by
    intro u x1 x2 x3 y0 H locs ls hm hw hl
    rw [m_X3_stays_97] at hm
    refine lv_istore (lv' := [(5, .int y0), (0, .ref (ad 40)), (1, .int x1), (2, .int x2), (3, .int x3)]) hx hb dX3_stays_97 hl (by decide) rfl (fun ls hl => ?_)
    refine lv_iload hx hb dX3_stays_99 (lv_at hl 0 rfl) ?_
    refine lv_if_ne (tgt := 106) hx hb dX3_stays_101 (by decide) (fun c1 => ?_) (fun c1 => ?_)
    · have hm := ifT hm c1
      refine lv_aload_n hx hb dX3_stays_106 rfl (lv_at hl 1 rfl) ?_
      refine lv_aload_n hx hb dX3_stays_107 rfl (lv_at hl 1 rfl) ?_
      refine tg_get C hw 0 (by decide) q1566 rfl dX3_stays_108 ?_
      refine lv_iconst (v := 2) hx hb dX3_stays_111 (by decide) ?_
      refine tg_iald C hw (tp_0 ad dI dJ u) (by decide) dX3_stays_112 ?_
      refine lv_iconst (v := 1) hx hb dX3_stays_113 (by decide) ?_
      refine lv_isub hx hb dX3_stays_114 ?_
      obtain ⟨u2, eu2, hm⟩ := bdE hm
      refine tg_callv hw (va_runV (As := [.int ((tA u 0 (Int32.toNatClampNeg (2 : Int32))) - (1 : Int32))]) (rest := []) ⟨hx, hb, hml, hown, hts⟩ (w_X3_goesBack l eu2) (cw_X3_goesBack hts q2156 ⟨Nat.le_of_ble_eq_true rfl, Nat.le_of_ble_eq_true rfl⟩) (tg_pre C hw _) rfl rfl hl.1 rfl (lv_room (Nat.le_of_ble_eq_true rfl)) dX3_stays_115 ⟨Nat.le_of_ble_eq_true rfl, Nat.le_of_ble_eq_true rfl⟩) (fun H locs hw => ?_)
      refine lv_aload_n hx hb dX3_stays_118 rfl (lv_at hl 1 rfl) ?_
      refine lv_iload_n hx hb dX3_stays_119 rfl (lv_at hl 2 rfl) ?_
      refine lv_iload hx hb dX3_stays_120 (lv_at hl 0 rfl) ?_
      refine lv_iload_n hx hb dX3_stays_122 rfl (lv_at hl 3 rfl) ?_
      refine lv_iload_n hx hb dX3_stays_123 rfl (lv_at hl 4 rfl) ?_
      obtain ⟨r4, u3, er4, hm⟩ := bd2E hm
      refine tg_calli hw (va_runV (As := [.int x1, .int y0, .int x2, .int x3]) (rest := []) ⟨hx, hb, hml, hown, hts⟩ (w_X3_refuses l er4) (cw_X3_refuses hts q2142 ⟨Nat.le_of_ble_eq_true rfl, Nat.le_of_ble_eq_true rfl⟩) (tg_pre C hw _) rfl rfl hl.1 rfl (lv_room (Nat.le_of_ble_eq_true rfl)) dX3_stays_124 ⟨Nat.le_of_ble_eq_true rfl, Nat.le_of_ble_eq_true rfl⟩) (fun H locs hw => ?_)
      rw [← hQ]
      exact W.iret (v := r4) hx hb hr (fun t ht hW => ⟨⟨r4, u3, rfl, retE hm, by rw [ht]; exact hw.1, hw.2.1⟩, hw.2.2.1.F ht⟩) hw.2.2.1.2.2 dX3_stays_127
    · have hm := ifT' hm c1
      refine lv_iconst (v := 0) hx hb dX3_stays_104 (by decide) ?_
      rw [← hQ]
      exact W.iret (v := (0 : Int32)) hx hb hr (fun t ht hW => ⟨⟨(0 : Int32), u, rfl, retE hm, by rw [ht]; exact hw.1, hw.2.1⟩, hw.2.2.1.F ht⟩) hw.2.2.1.2.2 dX3_stays_105
  have hB59 : ∀ (u : TS) (x1 : Int32) (x2 : Int32) (x3 : Int32) (x4 : Int32) (H : Heap) (locs : List Loc) (ls : Array Slot), m_X3_stays_59 f u x1 x2 x3 x4 = some (r0, u9) → TH D ad dI dJ A s.heap u H locs → lv_has ls 6 [(0, .ref (ad 40)), (1, .int x1), (2, .int x2), (3, .int x3), (4, .int x4)] → W p l e rm_X3_stays s m args below meth c H locs 0 0 QQ (F0 m 59 ls []) := by
    intro u x1 x2 x3 x4 H locs ls hm hw hl
    rw [m_X3_stays_59] at hm
    refine lv_iload hx hb dX3_stays_59 (lv_at hl 4 rfl) ?_
    refine lv_if_eq (tgt := 68) hx hb dX3_stays_61 (by decide) (fun c1 => ?_) (fun c1 => ?_)
    · have hm := ifT hm c1
      refine lv_aload_n hx hb dX3_stays_68 rfl (lv_at hl 0 rfl) ?_
      refine lv_bipush (v := 28) hx hb dX3_stays_69 (by decide) ?_
      refine lv_bipush (v := 9) hx hb dX3_stays_71 (by decide) ?_
      refine lv_iload_n hx hb dX3_stays_73 rfl (lv_at hl 2 rfl) ?_
      refine lv_imul hx hb dX3_stays_74 ?_
      refine lv_iadd hx hb dX3_stays_75 ?_
      obtain ⟨r3, u2, er3, hm⟩ := bd2E hm
      refine tg_calll hw (va_runV (As := [.int ((28 : Int32) + ((9 : Int32) * x2))]) (rest := []) ⟨hx, hb, hml, hown, hts⟩ (w_X3_detOf l er3) (cw_X3_detOf hts q1768 ⟨Nat.le_of_ble_eq_true rfl, Nat.le_of_ble_eq_true rfl⟩) (tg_pre C hw _) rfl rfl hl.1 rfl (lv_room (Nat.le_of_ble_eq_true rfl)) dX3_stays_76 ⟨Nat.le_of_ble_eq_true rfl, Nat.le_of_ble_eq_true rfl⟩) (fun H locs hw => ?_)
      obtain ⟨r4, er4, hm⟩ := bdE hm
      refine scl (va_runS (As := [.long r3]) (rest := []) ⟨hx, hb, hml, hown, hts⟩ (w_X3_sized l er4) (cw_X3_sized hts q1772 ⟨Nat.le_of_ble_eq_true rfl, Nat.le_of_ble_eq_true rfl⟩) (pre_s _) rfl rfl hl.1 rfl (lv_room (Nat.le_of_ble_eq_true rfl)) dX3_stays_79 ⟨Nat.le_of_ble_eq_true rfl, Nat.le_of_ble_eq_true rfl⟩) ?_
      refine lv_lconst (v := 1) hx hb dX3_stays_82 (by decide) ?_
      refine lv_ldc2 hx hb hown (hts _ q1775) dX3_stays_83 ?_
      obtain ⟨r5, er5, hm⟩ := bdE hm
      refine sci (va_runS (As := [.long r4, .long (1 : Int64), .long (60 : Int64)]) (rest := []) ⟨hx, hb, hml, hown, hts⟩ (w_X3_in l er5) (cw_X3_in hts q1695 ⟨Nat.le_of_ble_eq_true rfl, Nat.le_of_ble_eq_true rfl⟩) (pre_s _) rfl rfl hl.1 rfl (lv_room (Nat.le_of_ble_eq_true rfl)) dX3_stays_86 ⟨Nat.le_of_ble_eq_true rfl, Nat.le_of_ble_eq_true rfl⟩) ?_
      refine lv_if_ne (tgt := 96) hx hb dX3_stays_89 (by decide) (fun c6 => ?_) (fun c6 => ?_)
      · have hm := ifT hm c6
        refine lv_iconst (v := 0) hx hb dX3_stays_96 (by decide) ?_
        exact hB97 u2 x1 x2 x3 (0 : Int32) _ _ _ hm hw (lv_sub hl [0, 1, 2, 3] rfl)
      · have hm := ifT' hm c6
        refine lv_iconst (v := 2) hx hb dX3_stays_92 (by decide) ?_
        refine lv_goto (tgt := 97) hx hb dX3_stays_93 (by decide) ?_
        exact hB97 u2 x1 x2 x3 (2 : Int32) _ _ _ hm hw (lv_sub hl [0, 1, 2, 3] rfl)
    · have hm := ifF hm c1
      refine lv_iconst (v := 1) hx hb dX3_stays_64 (by decide) ?_
      refine lv_goto (tgt := 97) hx hb dX3_stays_65 (by decide) ?_
      exact hB97 u x1 x2 x3 (1 : Int32) _ _ _ hm hw (lv_sub hl [0, 1, 2, 3] rfl)
  have hB6 : ∀ (n6 : Nat), ∀ (u : TS) (x1 : Int32) (x2 : Int32) (x3 : Int32) (x4 : Int32) (x5 : Int32) (H : Heap) (locs : List Loc) (ls : Array Slot), m_X3_stays_6 f n6 u x1 x2 x3 x4 x5 = some (r0, u9) → TH D ad dI dJ A s.heap u H locs → lv_has ls 6 [(0, .ref (ad 40)), (1, .int x1), (2, .int x2), (3, .int x3), (4, .int x4), (5, .int x5)] → W p l e rm_X3_stays s m args below meth c H locs 0 0 QQ (F0 m 6 ls []) := by
    intro n6
    induction n6 with
    | zero => intro u x1 x2 x3 x4 x5 H locs ls hm hw hl; rw [m_X3_stays_6] at hm; exact noE hm
    | succ n6 ih6 =>
      have hB51 : ∀ (u : TS) (x1 : Int32) (x2 : Int32) (x3 : Int32) (x5 : Int32) (y0 : Int32) (H : Heap) (locs : List Loc) (ls : Array Slot), m_X3_stays_51 f (m_X3_stays_6 f n6) u x1 x2 x3 x5 y0 = some (r0, u9) → TH D ad dI dJ A s.heap u H locs → lv_has ls 6 [(0, .ref (ad 40)), (1, .int x1), (2, .int x2), (3, .int x3), (5, .int x5)] → W p l e rm_X3_stays s m args below meth c H locs 0 0 QQ (F0 m 51 ls [.int y0]) := by
        intro u x1 x2 x3 x5 y0 H locs ls hm hw hl
        rw [m_X3_stays_51] at hm
        refine lv_istore (lv' := [(4, .int y0), (0, .ref (ad 40)), (1, .int x1), (2, .int x2), (3, .int x3), (5, .int x5)]) hx hb dX3_stays_51 hl (by decide) rfl (fun ls hl => ?_)
        obtain ⟨v1, ev1, hm⟩ := nmE hm
        refine lv_iinc (v := v1) (lv' := [(5, .int v1), (4, .int y0), (0, .ref (ad 40)), (1, .int x1), (2, .int x2), (3, .int x3)]) hx hb dX3_stays_53 hl (k := 5) rfl (by rw [ev1]; rfl) (by decide) rfl (fun ls hl => ?_)
        refine lv_goto (tgt := 6) hx hb dX3_stays_56 (by decide) ?_
        exact ih6 u x1 x2 x3 y0 v1 _ _ _ hm hw (lv_sub hl [2, 3, 4, 5, 1, 0] rfl)
      have hB46 : ∀ (u : TS) (x1 : Int32) (x2 : Int32) (x3 : Int32) (x5 : Int32) (H : Heap) (locs : List Loc) (ls : Array Slot), m_X3_stays_46 f (m_X3_stays_6 f n6) u x1 x2 x3 x5 = some (r0, u9) → TH D ad dI dJ A s.heap u H locs → lv_has ls 6 [(0, .ref (ad 40)), (1, .int x1), (2, .int x2), (3, .int x3), (5, .int x5)] → W p l e rm_X3_stays s m args below meth c H locs 0 0 QQ (F0 m 46 ls []) := by
        intro u x1 x2 x3 x5 H locs ls hm hw hl
        rw [m_X3_stays_46] at hm
        refine lv_iconst (v := 1) hx hb dX3_stays_46 (by decide) ?_
        refine lv_goto (tgt := 51) hx hb dX3_stays_47 (by decide) ?_
        exact hB51 u x1 x2 x3 x5 (1 : Int32) _ _ _ hm hw (lv_sub hl [0, 1, 2, 3, 4] rfl)
      intro u x1 x2 x3 x4 x5 H locs ls hm hw hl
      rw [m_X3_stays_6] at hm
      refine lv_iload hx hb dX3_stays_6 (lv_at hl 5 rfl) ?_
      refine lv_bipush (v := 9) hx hb dX3_stays_8 (by decide) ?_
      refine lv_icmp_ge (tgt := 59) hx hb dX3_stays_10 (by decide) (fun c1 => ?_) (fun c1 => ?_)
      · have hm := ifT hm c1
        exact hB59 u x1 x2 x3 x4 _ _ _ hm hw (lv_sub hl [0, 1, 2, 3, 4] rfl)
      · have hm := ifF hm c1
        refine lv_iload hx hb dX3_stays_13 (lv_at hl 4 rfl) ?_
        refine lv_if_ne (tgt := 46) hx hb dX3_stays_15 (by decide) (fun c2 => ?_) (fun c2 => ?_)
        · have hm := ifT hm c2
          exact hB46 u x1 x2 x3 x5 _ _ _ hm hw (lv_sub hl [0, 1, 2, 3, 5] rfl)
        · have hm := ifT' hm c2
          refine lv_aload_n hx hb dX3_stays_18 rfl (lv_at hl 0 rfl) ?_
          refine tg_get C hw 0 (by decide) q1566 rfl dX3_stays_19 ?_
          refine lv_bipush (v := 28) hx hb dX3_stays_22 (by decide) ?_
          refine lv_bipush (v := 9) hx hb dX3_stays_24 (by decide) ?_
          refine lv_iload_n hx hb dX3_stays_26 rfl (lv_at hl 2 rfl) ?_
          refine lv_imul hx hb dX3_stays_27 ?_
          refine lv_iadd hx hb dX3_stays_28 ?_
          refine lv_iload hx hb dX3_stays_29 (lv_at hl 5 rfl) ?_
          refine lv_iadd hx hb dX3_stays_31 ?_
          obtain ⟨g3, hm⟩ := gdE hm
          refine tg_iald C hw (tp_0 ad dI dJ u) g3 dX3_stays_32 ?_
          refine lv_i2l hx hb dX3_stays_33 rfl ?_
          refine lv_ldc2 hx hb hown (hts _ q2154) dX3_stays_34 ?_
          refine lv_ldc2 hx hb hown (hts _ q2155) dX3_stays_37 ?_
          obtain ⟨r4, er4, hm⟩ := bdE hm
          refine sci (va_runS (As := [.long (Int32.toInt64 (tA u 0 (Int32.toNatClampNeg (((28 : Int32) + ((9 : Int32) * x2)) + x5)))), .long (-20 : Int64), .long (20 : Int64)]) (rest := []) ⟨hx, hb, hml, hown, hts⟩ (w_X3_in l er4) (cw_X3_in hts q1695 ⟨Nat.le_of_ble_eq_true rfl, Nat.le_of_ble_eq_true rfl⟩) (pre_s _) rfl rfl hl.1 rfl (lv_room (Nat.le_of_ble_eq_true rfl)) dX3_stays_40 ⟨Nat.le_of_ble_eq_true rfl, Nat.le_of_ble_eq_true rfl⟩) ?_
          refine lv_if_ne (tgt := 50) hx hb dX3_stays_43 (by decide) (fun c5 => ?_) (fun c5 => ?_)
          · have hm := ifT hm c5
            refine lv_iconst (v := 0) hx hb dX3_stays_50 (by decide) ?_
            exact hB51 u x1 x2 x3 x5 (0 : Int32) _ _ _ hm hw (lv_sub hl [0, 1, 2, 3, 5] rfl)
          · have hm := ifT' hm c5
            exact hB46 u x1 x2 x3 x5 _ _ _ hm hw (lv_sub hl [0, 1, 2, 3, 5] rfl)
  rw [m_X3_stays] at hm
  refine lv_iconst (v := 0) hx hb dX3_stays_0 (by decide) ?_
  refine lv_istore (lv' := [(4, .int (0 : Int32)), (0, .ref (ad 40)), (1, .int x1), (2, .int x2), (3, .int x3)]) hx hb dX3_stays_1 hl (by decide) rfl (fun ls hl => ?_)
  refine lv_iconst (v := 0) hx hb dX3_stays_3 (by decide) ?_
  refine lv_istore (lv' := [(5, .int (0 : Int32)), (4, .int (0 : Int32)), (0, .ref (ad 40)), (1, .int x1), (2, .int x2), (3, .int x3)]) hx hb dX3_stays_4 hl (by decide) rfl (fun ls hl => ?_)
  exact hB6 f u x1 x2 x3 (0 : Int32) (0 : Int32) _ _ _ hm hw (lv_sub hl [2, 3, 4, 5, 1, 0] rfl)
def m_X3_add_42 (f : Nat) (u : TS) : Option (Int32 × TS) := some ((-2 : Int32), u)
def m_X3_add_128 (f : Nat) (u : TS) (x1 : Int32) (x2 : Int32) : Option (Int32 × TS) := bd2 (m_X3_stays f u (1 : Int32) x1 x2) fun r2 u1 =>
    some (r2, u1)
def m_X3_add_72 (f : Nat) : Nat → TS → Int32 → Int32 → Int32 → Int32 → Int32 → Option (Int32 × TS)
  | 0, _, _, _, _, _, _ => none
  | n72 + 1, u, x1, x2, x3, x4, x5 => if (3 : Int32) ≤ x5 then
    m_X3_add_128 f u x1 x2
    else gd (ix ((((28 : Int32) + ((9 : Int32) * x1)) + ((3 : Int32) * x2)) + x5) 73) <|
    gd (ix ((((28 : Int32) + ((9 : Int32) * x1)) + ((3 : Int32) * x3)) + x5) 73) <|
    gd (ix ((((28 : Int32) + ((9 : Int32) * x1)) + ((3 : Int32) * x2)) + x5) 73) <|
    nmv (sA u 0 (Int32.toNatClampNeg ((((28 : Int32) + ((9 : Int32) * x1)) + ((3 : Int32) * x2)) + x5)) ((tA u 0 (Int32.toNatClampNeg ((((28 : Int32) + ((9 : Int32) * x1)) + ((3 : Int32) * x2)) + x5))) + (x4 * (tA u 0 (Int32.toNatClampNeg ((((28 : Int32) + ((9 : Int32) * x1)) + ((3 : Int32) * x3)) + x5)))))) fun u5 =>
    nmv ((x5 + 1) : Int32) fun v6 =>
    m_X3_add_72 f n72 u5 x1 x2 x3 x4 v6
def m_X3_add (f : Nat) (u : TS) (x1 : Int32) (x2 : Int32) (x3 : Int32) (x4 : Int32) : Option (Int32 × TS) := bd2 (m_X3_isOwn f u x1) fun r2 u1 =>
    if r2 = 0 then
    m_X3_add_42 f u1
    else bd (m_X3_isRow f x2) fun r4 =>
    if r4 = 0 then
    m_X3_add_42 f u1
    else bd (m_X3_isRow f x3) fun r6 =>
    if r6 = 0 then
    m_X3_add_42 f u1
    else if x2 = x3 then
    m_X3_add_42 f u1
    else bd (m_X3_in f (Int32.toInt64 x4) (-99 : Int64) (99 : Int64)) fun r9 =>
    if ¬ r9 = 0 then
    if ¬ (tA u1 0 (Int32.toNatClampNeg (2 : Int32))) = (20 : Int32) then
    bd (m_X3_keeps f u1) fun u12 =>
    m_X3_add_72 f f u12 x1 x2 x3 x4 (0 : Int32)
    else bd2 (m_X3_refuses f u1 (1 : Int32) (3 : Int32) x1 x2) fun r14 u13 =>
    some (r14, u13)
    else m_X3_add_42 f u1
abbrev rm_X3_add : Room := { frames := 3, cells := 0, slots := 0, locals := 67 }
theorem cw_X3_add {R : Room} {s : State} {args : Array Value} {own : String} {idx : Nat} (hts : ∀ w ∈ lw_all, w.before args s = true) (hl : Cond.methodLink own idx yX3_add ∈ lw_all) (hR : rm_X3_add.frames + 1 ≤ R.frames ∧ 8 + (6 + 11) + rm_X3_add.locals ≤ R.locals) : CallW R s args own RX3 idx yX3_add cX3_add 6 (Option.some Jvm.ClassFile.FieldType.int) (ws_ yX3_add cX3_add 6 (Option.some Jvm.ClassFile.FieldType.int)) rm_X3_add 0 0 4 := cwV 4 hts (lw_V hl q2130 q2131 q125 q2132) rfl rfl rfl (by decide +kernel) hR
set_option maxHeartbeats 4000000 in
set_option maxRecDepth 100000 in
theorem w_X3_add (l : Launch) {D : va_G} {ad : Nat → Nat} {dI dJ : ClassId} {A : Nat → Prop} {f : Nat} {u u9 : TS} {r0 : Int32} {x1 : Int32} {x2 : Int32} {x3 : Int32} {x4 : Int32} (hm : m_X3_add f u x1 x2 x3 x4 = some (r0, u9)) : Met l yX3_add (ws_ yX3_add cX3_add 6 (Option.some Jvm.ClassFile.FieldType.int)) rm_X3_add (va_Pc [.ref (ad 40), .int x1, .int x2, .int x3, .int x4] (TPre D ad dI dJ A u)) (va_Qi (fun r u => r = r0 ∧ u = u9) (TPost D ad dI dJ A) A) 0 0 A := by
  refine Met.ofW (cc := cX3_add) (maxL := 6) (ret := (Option.some Jvm.ClassFile.FieldType.int)) (by decide) rfl ?_
  intro p e s m args below meth c s₁ B hml hv
  have hx := B.exec
  have hb := B.bytes
  have hr := B.returns
  have hts := atoms_spec (ws := (ws_ yX3_add cX3_add 6 (Option.some Jvm.ClassFile.FieldType.int))) B.pre
  have hts : ∀ w ∈ lw_all, w.before args s = true := fun w h => hts w (List.mem_cons_of_mem _ h)
  have hown : s.vm.findClass RX3 = some m.cls := findClass_of_methodNamed B.named
  have hlocks := B.notSynchronized
  obtain ⟨hav, hv⟩ := hv
  have C : TC p s m args c cX3_add D dI dJ := ⟨hx, hb, hown, hts, hv.2.1⟩
  have hw : TH D ad dI dJ A s.heap u s.heap [] := ⟨hv.1, hv.2.2.1, va_S.rf, hv.2.2.2⟩
  generalize hQ : MQ below (va_Qi (fun r u => r = r0 ∧ u = u9) (TPost D ad dI dJ A) A) args s 0 0 A = QQ
  have hent := lg_entry_eq m [.ref (ad 40), .int x1, .int x2, .int x3, .int x4] 6
  rw [← hav] at hent
  rw [hent]
  have hl := lv_entry ([.ref (ad 40), .int x1, .int x2, .int x3, .int x4]) (n := 6) (Nat.le_of_ble_eq_true rfl)
  generalize (lg_sl ([.ref (ad 40), .int x1, .int x2, .int x3, .int x4]) ++ List.replicate (6 - (lg_sl ([.ref (ad 40), .int x1, .int x2, .int x3, .int x4])).length) Slot.unset).toArray = ls at hl ⊢
  have hl : lv_has ls 6 [(0, .ref (ad 40)), (1, .int x1), (2, .int x2), (3, .int x3), (4, .int x4)] := hl
  change W p l e rm_X3_add s m args below meth c s.heap [] 0 0 QQ (F0 m 0 ls [])
  have hB42 : ∀ (u : TS) (H : Heap) (locs : List Loc) (ls : Array Slot), m_X3_add_42 f u = some (r0, u9) → TH D ad dI dJ A s.heap u H locs → lv_has ls 6 [] → W p l e rm_X3_add s m args below meth c H locs 0 0 QQ (F0 m 42 ls []) := by
    intro u H locs ls hm hw hl
    rw [m_X3_add_42] at hm
    refine lv_bipush (v := -2) hx hb dX3_add_42 (by decide) ?_
    rw [← hQ]
    exact W.iret (v := (-2 : Int32)) hx hb hr (fun t ht hW => ⟨⟨(-2 : Int32), u, rfl, retE hm, by rw [ht]; exact hw.1, hw.2.1⟩, hw.2.2.1.F ht⟩) hw.2.2.1.2.2 dX3_add_44
  have hB128 : ∀ (u : TS) (x1 : Int32) (x2 : Int32) (H : Heap) (locs : List Loc) (ls : Array Slot), m_X3_add_128 f u x1 x2 = some (r0, u9) → TH D ad dI dJ A s.heap u H locs → lv_has ls 6 [(0, .ref (ad 40)), (1, .int x1), (2, .int x2)] → W p l e rm_X3_add s m args below meth c H locs 0 0 QQ (F0 m 128 ls []) := by
    intro u x1 x2 H locs ls hm hw hl
    rw [m_X3_add_128] at hm
    refine lv_aload_n hx hb dX3_add_128 rfl (lv_at hl 0 rfl) ?_
    refine lv_iconst (v := 1) hx hb dX3_add_129 (by decide) ?_
    refine lv_iload_n hx hb dX3_add_130 rfl (lv_at hl 1 rfl) ?_
    refine lv_iload_n hx hb dX3_add_131 rfl (lv_at hl 2 rfl) ?_
    obtain ⟨r2, u1, er2, hm⟩ := bd2E hm
    refine tg_calli hw (va_runV (As := [.int (1 : Int32), .int x1, .int x2]) (rest := []) ⟨hx, hb, hml, hown, hts⟩ (w_X3_stays l er2) (cw_X3_stays hts q2150 ⟨Nat.le_of_ble_eq_true rfl, Nat.le_of_ble_eq_true rfl⟩) (tg_pre C hw _) rfl rfl hl.1 rfl (lv_room (Nat.le_of_ble_eq_true rfl)) dX3_add_132 ⟨Nat.le_of_ble_eq_true rfl, Nat.le_of_ble_eq_true rfl⟩) (fun H locs hw => ?_)
    rw [← hQ]
    exact W.iret (v := r2) hx hb hr (fun t ht hW => ⟨⟨r2, u1, rfl, retE hm, by rw [ht]; exact hw.1, hw.2.1⟩, hw.2.2.1.F ht⟩) hw.2.2.1.2.2 dX3_add_135
  have hB72 : ∀ (n72 : Nat), ∀ (u : TS) (x1 : Int32) (x2 : Int32) (x3 : Int32) (x4 : Int32) (x5 : Int32) (H : Heap) (locs : List Loc) (ls : Array Slot), m_X3_add_72 f n72 u x1 x2 x3 x4 x5 = some (r0, u9) → TH D ad dI dJ A s.heap u H locs → lv_has ls 6 [(0, .ref (ad 40)), (1, .int x1), (2, .int x2), (3, .int x3), (4, .int x4), (5, .int x5)] → W p l e rm_X3_add s m args below meth c H locs 0 0 QQ (F0 m 72 ls []) := by
    intro n72
    induction n72 with
    | zero => intro u x1 x2 x3 x4 x5 H locs ls hm hw hl; rw [m_X3_add_72] at hm; exact noE hm
    | succ n72 ih72 =>
      intro u x1 x2 x3 x4 x5 H locs ls hm hw hl
      rw [m_X3_add_72] at hm
      refine lv_iload hx hb dX3_add_72 (lv_at hl 5 rfl) ?_
      refine lv_iconst (v := 3) hx hb dX3_add_74 (by decide) ?_
      refine lv_icmp_ge (tgt := 128) hx hb dX3_add_75 (by decide) (fun c1 => ?_) (fun c1 => ?_)
      · have hm := ifT hm c1
        exact hB128 u x1 x2 _ _ _ hm hw (lv_sub hl [0, 1, 2] rfl)
      · have hm := ifF hm c1
        refine lv_aload_n hx hb dX3_add_78 rfl (lv_at hl 0 rfl) ?_
        refine tg_get C hw 0 (by decide) q1566 rfl dX3_add_79 ?_
        refine lv_bipush (v := 28) hx hb dX3_add_82 (by decide) ?_
        refine lv_bipush (v := 9) hx hb dX3_add_84 (by decide) ?_
        refine lv_iload_n hx hb dX3_add_86 rfl (lv_at hl 1 rfl) ?_
        refine lv_imul hx hb dX3_add_87 ?_
        refine lv_iadd hx hb dX3_add_88 ?_
        refine lv_iconst (v := 3) hx hb dX3_add_89 (by decide) ?_
        refine lv_iload_n hx hb dX3_add_90 rfl (lv_at hl 2 rfl) ?_
        refine lv_imul hx hb dX3_add_91 ?_
        refine lv_iadd hx hb dX3_add_92 ?_
        refine lv_iload hx hb dX3_add_93 (lv_at hl 5 rfl) ?_
        refine lv_iadd hx hb dX3_add_95 ?_
        refine lv_dup2_11 hx hb dX3_add_96 rfl rfl ?_
        obtain ⟨g2, hm⟩ := gdE hm
        refine tg_iald C hw (tp_0 ad dI dJ u) g2 dX3_add_97 ?_
        refine lv_iload hx hb dX3_add_98 (lv_at hl 4 rfl) ?_
        refine lv_aload_n hx hb dX3_add_100 rfl (lv_at hl 0 rfl) ?_
        refine tg_get C hw 0 (by decide) q1566 rfl dX3_add_101 ?_
        refine lv_bipush (v := 28) hx hb dX3_add_104 (by decide) ?_
        refine lv_bipush (v := 9) hx hb dX3_add_106 (by decide) ?_
        refine lv_iload_n hx hb dX3_add_108 rfl (lv_at hl 1 rfl) ?_
        refine lv_imul hx hb dX3_add_109 ?_
        refine lv_iadd hx hb dX3_add_110 ?_
        refine lv_iconst (v := 3) hx hb dX3_add_111 (by decide) ?_
        refine lv_iload_n hx hb dX3_add_112 rfl (lv_at hl 3 rfl) ?_
        refine lv_imul hx hb dX3_add_113 ?_
        refine lv_iadd hx hb dX3_add_114 ?_
        refine lv_iload hx hb dX3_add_115 (lv_at hl 5 rfl) ?_
        refine lv_iadd hx hb dX3_add_117 ?_
        obtain ⟨g3, hm⟩ := gdE hm
        refine tg_iald C hw (tp_0 ad dI dJ u) g3 dX3_add_118 ?_
        refine lv_imul hx hb dX3_add_119 ?_
        refine lv_iadd hx hb dX3_add_120 ?_
        obtain ⟨g4, hm⟩ := gdE hm
        refine tg_iast C hw (tp_0 ad dI dJ u) g4 (ts_0 ad dI dJ u _ _) dX3_add_121 (fun H locs hw => ?_)
        obtain ⟨u5, eu5, hm⟩ := nmE hm
        rw [← eu5] at hw
        obtain ⟨v6, ev6, hm⟩ := nmE hm
        refine lv_iinc (v := v6) (lv' := [(5, .int v6), (0, .ref (ad 40)), (1, .int x1), (2, .int x2), (3, .int x3), (4, .int x4)]) hx hb dX3_add_122 hl (k := 5) rfl (by rw [ev6]; rfl) (by decide) rfl (fun ls hl => ?_)
        refine lv_goto (tgt := 72) hx hb dX3_add_125 (by decide) ?_
        exact ih72 u5 x1 x2 x3 x4 v6 _ _ _ hm hw (lv_sub hl [1, 2, 3, 4, 5, 0] rfl)
  rw [m_X3_add] at hm
  refine lv_aload_n hx hb dX3_add_0 rfl (lv_at hl 0 rfl) ?_
  refine lv_iload_n hx hb dX3_add_1 rfl (lv_at hl 1 rfl) ?_
  obtain ⟨r2, u1, er2, hm⟩ := bd2E hm
  refine tg_calli hw (va_runV (As := [.int x1]) (rest := []) ⟨hx, hb, hml, hown, hts⟩ (w_X3_isOwn l er2) (cw_X3_isOwn hts q2133 ⟨Nat.le_of_ble_eq_true rfl, Nat.le_of_ble_eq_true rfl⟩) (tg_pre C hw _) rfl rfl hl.1 rfl (lv_room (Nat.le_of_ble_eq_true rfl)) dX3_add_2 ⟨Nat.le_of_ble_eq_true rfl, Nat.le_of_ble_eq_true rfl⟩) (fun H locs hw => ?_)
  refine lv_if_eq (tgt := 42) hx hb dX3_add_5 (by decide) (fun c3 => ?_) (fun c3 => ?_)
  · have hm := ifT hm c3
    exact hB42 u1 _ _ _ hm hw (lv_sub hl [] rfl)
  · have hm := ifF hm c3
    refine lv_iload_n hx hb dX3_add_8 rfl (lv_at hl 2 rfl) ?_
    obtain ⟨r4, er4, hm⟩ := bdE hm
    refine sci (va_runS (As := [.int x2]) (rest := []) ⟨hx, hb, hml, hown, hts⟩ (w_X3_isRow l er4) (cw_X3_isRow hts q2137 ⟨Nat.le_of_ble_eq_true rfl, Nat.le_of_ble_eq_true rfl⟩) (pre_s _) rfl rfl hl.1 rfl (lv_room (Nat.le_of_ble_eq_true rfl)) dX3_add_9 ⟨Nat.le_of_ble_eq_true rfl, Nat.le_of_ble_eq_true rfl⟩) ?_
    refine lv_if_eq (tgt := 42) hx hb dX3_add_12 (by decide) (fun c5 => ?_) (fun c5 => ?_)
    · have hm := ifT hm c5
      exact hB42 u1 _ _ _ hm hw (lv_sub hl [] rfl)
    · have hm := ifF hm c5
      refine lv_iload_n hx hb dX3_add_15 rfl (lv_at hl 3 rfl) ?_
      obtain ⟨r6, er6, hm⟩ := bdE hm
      refine sci (va_runS (As := [.int x3]) (rest := []) ⟨hx, hb, hml, hown, hts⟩ (w_X3_isRow l er6) (cw_X3_isRow hts q2137 ⟨Nat.le_of_ble_eq_true rfl, Nat.le_of_ble_eq_true rfl⟩) (pre_s _) rfl rfl hl.1 rfl (lv_room (Nat.le_of_ble_eq_true rfl)) dX3_add_16 ⟨Nat.le_of_ble_eq_true rfl, Nat.le_of_ble_eq_true rfl⟩) ?_
      refine lv_if_eq (tgt := 42) hx hb dX3_add_19 (by decide) (fun c7 => ?_) (fun c7 => ?_)
      · have hm := ifT hm c7
        exact hB42 u1 _ _ _ hm hw (lv_sub hl [] rfl)
      · have hm := ifF hm c7
        refine lv_iload_n hx hb dX3_add_22 rfl (lv_at hl 2 rfl) ?_
        refine lv_iload_n hx hb dX3_add_23 rfl (lv_at hl 3 rfl) ?_
        refine lv_icmp_eq (tgt := 42) hx hb dX3_add_24 (by decide) (fun c8 => ?_) (fun c8 => ?_)
        · have hm := ifT hm c8
          exact hB42 u1 _ _ _ hm hw (lv_sub hl [] rfl)
        · have hm := ifF hm c8
          refine lv_iload hx hb dX3_add_27 (lv_at hl 4 rfl) ?_
          refine lv_i2l hx hb dX3_add_29 rfl ?_
          refine lv_ldc2 hx hb hown (hts _ q2140) dX3_add_30 ?_
          refine lv_ldc2 hx hb hown (hts _ q2141) dX3_add_33 ?_
          obtain ⟨r9, er9, hm⟩ := bdE hm
          refine sci (va_runS (As := [.long (Int32.toInt64 x4), .long (-99 : Int64), .long (99 : Int64)]) (rest := []) ⟨hx, hb, hml, hown, hts⟩ (w_X3_in l er9) (cw_X3_in hts q1695 ⟨Nat.le_of_ble_eq_true rfl, Nat.le_of_ble_eq_true rfl⟩) (pre_s _) rfl rfl hl.1 rfl (lv_room (Nat.le_of_ble_eq_true rfl)) dX3_add_36 ⟨Nat.le_of_ble_eq_true rfl, Nat.le_of_ble_eq_true rfl⟩) ?_
          refine lv_if_ne (tgt := 45) hx hb dX3_add_39 (by decide) (fun c10 => ?_) (fun c10 => ?_)
          · have hm := ifT hm c10
            refine lv_aload_n hx hb dX3_add_45 rfl (lv_at hl 0 rfl) ?_
            refine tg_get C hw 0 (by decide) q1566 rfl dX3_add_46 ?_
            refine lv_iconst (v := 2) hx hb dX3_add_49 (by decide) ?_
            refine tg_iald C hw (tp_0 ad dI dJ u1) (by decide) dX3_add_50 ?_
            refine lv_bipush (v := 20) hx hb dX3_add_51 (by decide) ?_
            refine lv_icmp_ne (tgt := 65) hx hb dX3_add_53 (by decide) (fun c11 => ?_) (fun c11 => ?_)
            · have hm := ifT hm c11
              refine lv_aload_n hx hb dX3_add_65 rfl (lv_at hl 0 rfl) ?_
              obtain ⟨u12, eu12, hm⟩ := bdE hm
              refine tg_callv hw (va_runV (As := []) (rest := []) ⟨hx, hb, hml, hown, hts⟩ (w_X3_keeps l eu12) (cw_X3_keeps hts q2146 ⟨Nat.le_of_ble_eq_true rfl, Nat.le_of_ble_eq_true rfl⟩) (tg_pre C hw _) rfl rfl hl.1 rfl (lv_room (Nat.le_of_ble_eq_true rfl)) dX3_add_66 ⟨Nat.le_of_ble_eq_true rfl, Nat.le_of_ble_eq_true rfl⟩) (fun H locs hw => ?_)
              refine lv_iconst (v := 0) hx hb dX3_add_69 (by decide) ?_
              refine lv_istore (lv' := [(5, .int (0 : Int32)), (0, .ref (ad 40)), (1, .int x1), (2, .int x2), (3, .int x3), (4, .int x4)]) hx hb dX3_add_70 hl (by decide) rfl (fun ls hl => ?_)
              exact hB72 f u12 x1 x2 x3 x4 (0 : Int32) _ _ _ hm hw (lv_sub hl [1, 2, 3, 4, 5, 0] rfl)
            · have hm := ifT' hm c11
              refine lv_aload_n hx hb dX3_add_56 rfl (lv_at hl 0 rfl) ?_
              refine lv_iconst (v := 1) hx hb dX3_add_57 (by decide) ?_
              refine lv_iconst (v := 3) hx hb dX3_add_58 (by decide) ?_
              refine lv_iload_n hx hb dX3_add_59 rfl (lv_at hl 1 rfl) ?_
              refine lv_iload_n hx hb dX3_add_60 rfl (lv_at hl 2 rfl) ?_
              obtain ⟨r14, u13, er14, hm⟩ := bd2E hm
              refine tg_calli hw (va_runV (As := [.int (1 : Int32), .int (3 : Int32), .int x1, .int x2]) (rest := []) ⟨hx, hb, hml, hown, hts⟩ (w_X3_refuses l er14) (cw_X3_refuses hts q2142 ⟨Nat.le_of_ble_eq_true rfl, Nat.le_of_ble_eq_true rfl⟩) (tg_pre C hw _) rfl rfl hl.1 rfl (lv_room (Nat.le_of_ble_eq_true rfl)) dX3_add_61 ⟨Nat.le_of_ble_eq_true rfl, Nat.le_of_ble_eq_true rfl⟩) (fun H locs hw => ?_)
              rw [← hQ]
              exact W.iret (v := r14) hx hb hr (fun t ht hW => ⟨⟨r14, u13, rfl, retE hm, by rw [ht]; exact hw.1, hw.2.1⟩, hw.2.2.1.F ht⟩) hw.2.2.1.2.2 dX3_add_64
          · have hm := ifT' hm c10
            exact hB42 u1 _ _ _ hm hw (lv_sub hl [] rfl)
def m_X3_exchange_27 (f : Nat) (u : TS) : Option (Int32 × TS) := some ((-2 : Int32), u)
def m_X3_exchange_149 (f : Nat) (u : TS) : Option (Int32 × TS) := some ((0 : Int32), u)
def m_X3_exchange_57 (f : Nat) : Nat → TS → Int32 → Int32 → Int32 → Int32 → Option (Int32 × TS)
  | 0, _, _, _, _, _ => none
  | n57 + 1, u, x1, x2, x3, x4 => if (3 : Int32) ≤ x4 then
    m_X3_exchange_149 f u
    else gd (ix ((((28 : Int32) + ((9 : Int32) * x1)) + ((3 : Int32) * x2)) + x4) 73) <|
    nmv ((tA u 0 (Int32.toNatClampNeg ((((28 : Int32) + ((9 : Int32) * x1)) + ((3 : Int32) * x2)) + x4))) : Int32) fun v3 =>
    gd (ix ((((28 : Int32) + ((9 : Int32) * x1)) + ((3 : Int32) * x3)) + x4) 73) <|
    gd (ix ((((28 : Int32) + ((9 : Int32) * x1)) + ((3 : Int32) * x2)) + x4) 73) <|
    nmv (sA u 0 (Int32.toNatClampNeg ((((28 : Int32) + ((9 : Int32) * x1)) + ((3 : Int32) * x2)) + x4)) (tA u 0 (Int32.toNatClampNeg ((((28 : Int32) + ((9 : Int32) * x1)) + ((3 : Int32) * x3)) + x4)))) fun u6 =>
    gd (ix ((((28 : Int32) + ((9 : Int32) * x1)) + ((3 : Int32) * x3)) + x4) 73) <|
    nmv (sA u6 0 (Int32.toNatClampNeg ((((28 : Int32) + ((9 : Int32) * x1)) + ((3 : Int32) * x3)) + x4)) v3) fun u8 =>
    nmv ((x4 + 1) : Int32) fun v9 =>
    m_X3_exchange_57 f n57 u8 x1 x2 x3 v9
def m_X3_exchange (f : Nat) (u : TS) (x1 : Int32) (x2 : Int32) (x3 : Int32) : Option (Int32 × TS) := bd2 (m_X3_isOwn f u x1) fun r2 u1 =>
    if r2 = 0 then
    m_X3_exchange_27 f u1
    else bd (m_X3_isRow f x2) fun r4 =>
    if r4 = 0 then
    m_X3_exchange_27 f u1
    else bd (m_X3_isRow f x3) fun r6 =>
    if r6 = 0 then
    m_X3_exchange_27 f u1
    else if ¬ x2 = x3 then
    if ¬ (tA u1 0 (Int32.toNatClampNeg (2 : Int32))) = (20 : Int32) then
    bd (m_X3_keeps f u1) fun u10 =>
    m_X3_exchange_57 f f u10 x1 x2 x3 (0 : Int32)
    else bd2 (m_X3_refuses f u1 (2 : Int32) (3 : Int32) x1 x2) fun r12 u11 =>
    some (r12, u11)
    else m_X3_exchange_27 f u1
abbrev rm_X3_exchange : Room := { frames := 3, cells := 0, slots := 0, locals := 67 }
theorem cw_X3_exchange {R : Room} {s : State} {args : Array Value} {own : String} {idx : Nat} (hts : ∀ w ∈ lw_all, w.before args s = true) (hl : Cond.methodLink own idx yX3_exchange ∈ lw_all) (hR : rm_X3_exchange.frames + 1 ≤ R.frames ∧ 8 + (6 + 11) + rm_X3_exchange.locals ≤ R.locals) : CallW R s args own RX3 idx yX3_exchange cX3_exchange 6 (Option.some Jvm.ClassFile.FieldType.int) (ws_ yX3_exchange cX3_exchange 6 (Option.some Jvm.ClassFile.FieldType.int)) rm_X3_exchange 0 0 3 := cwV 3 hts (lw_V hl q2161 q2162 q125 q2163) rfl rfl rfl (by decide +kernel) hR
set_option maxHeartbeats 4000000 in
set_option maxRecDepth 100000 in
theorem w_X3_exchange (l : Launch) {D : va_G} {ad : Nat → Nat} {dI dJ : ClassId} {A : Nat → Prop} {f : Nat} {u u9 : TS} {r0 : Int32} {x1 : Int32} {x2 : Int32} {x3 : Int32} (hm : m_X3_exchange f u x1 x2 x3 = some (r0, u9)) : Met l yX3_exchange (ws_ yX3_exchange cX3_exchange 6 (Option.some Jvm.ClassFile.FieldType.int)) rm_X3_exchange (va_Pc [.ref (ad 40), .int x1, .int x2, .int x3] (TPre D ad dI dJ A u)) (va_Qi (fun r u => r = r0 ∧ u = u9) (TPost D ad dI dJ A) A) 0 0 A := by
  refine Met.ofW (cc := cX3_exchange) (maxL := 6) (ret := (Option.some Jvm.ClassFile.FieldType.int)) (by decide) rfl ?_
  intro p e s m args below meth c s₁ B hml hv
  have hx := B.exec
  have hb := B.bytes
  have hr := B.returns
  have hts := atoms_spec (ws := (ws_ yX3_exchange cX3_exchange 6 (Option.some Jvm.ClassFile.FieldType.int))) B.pre
  have hts : ∀ w ∈ lw_all, w.before args s = true := fun w h => hts w (List.mem_cons_of_mem _ h)
  have hown : s.vm.findClass RX3 = some m.cls := findClass_of_methodNamed B.named
  have hlocks := B.notSynchronized
  obtain ⟨hav, hv⟩ := hv
  have C : TC p s m args c cX3_exchange D dI dJ := ⟨hx, hb, hown, hts, hv.2.1⟩
  have hw : TH D ad dI dJ A s.heap u s.heap [] := ⟨hv.1, hv.2.2.1, va_S.rf, hv.2.2.2⟩
  generalize hQ : MQ below (va_Qi (fun r u => r = r0 ∧ u = u9) (TPost D ad dI dJ A) A) args s 0 0 A = QQ
  have hent := lg_entry_eq m [.ref (ad 40), .int x1, .int x2, .int x3] 6
  rw [← hav] at hent
  rw [hent]
  have hl := lv_entry ([.ref (ad 40), .int x1, .int x2, .int x3]) (n := 6) (Nat.le_of_ble_eq_true rfl)
  generalize (lg_sl ([.ref (ad 40), .int x1, .int x2, .int x3]) ++ List.replicate (6 - (lg_sl ([.ref (ad 40), .int x1, .int x2, .int x3])).length) Slot.unset).toArray = ls at hl ⊢
  have hl : lv_has ls 6 [(0, .ref (ad 40)), (1, .int x1), (2, .int x2), (3, .int x3)] := hl
  change W p l e rm_X3_exchange s m args below meth c s.heap [] 0 0 QQ (F0 m 0 ls [])
  have hB27 : ∀ (u : TS) (H : Heap) (locs : List Loc) (ls : Array Slot), m_X3_exchange_27 f u = some (r0, u9) → TH D ad dI dJ A s.heap u H locs → lv_has ls 6 [] → W p l e rm_X3_exchange s m args below meth c H locs 0 0 QQ (F0 m 27 ls []) := by
    intro u H locs ls hm hw hl
    rw [m_X3_exchange_27] at hm
    refine lv_bipush (v := -2) hx hb dX3_exchange_27 (by decide) ?_
    rw [← hQ]
    exact W.iret (v := (-2 : Int32)) hx hb hr (fun t ht hW => ⟨⟨(-2 : Int32), u, rfl, retE hm, by rw [ht]; exact hw.1, hw.2.1⟩, hw.2.2.1.F ht⟩) hw.2.2.1.2.2 dX3_exchange_29
  have hB149 : ∀ (u : TS) (H : Heap) (locs : List Loc) (ls : Array Slot), m_X3_exchange_149 f u = some (r0, u9) → TH D ad dI dJ A s.heap u H locs → lv_has ls 6 [] → W p l e rm_X3_exchange s m args below meth c H locs 0 0 QQ (F0 m 149 ls []) := by
    intro u H locs ls hm hw hl
    rw [m_X3_exchange_149] at hm
    refine lv_iconst (v := 0) hx hb dX3_exchange_149 (by decide) ?_
    rw [← hQ]
    exact W.iret (v := (0 : Int32)) hx hb hr (fun t ht hW => ⟨⟨(0 : Int32), u, rfl, retE hm, by rw [ht]; exact hw.1, hw.2.1⟩, hw.2.2.1.F ht⟩) hw.2.2.1.2.2 dX3_exchange_150
  have hB57 : ∀ (n57 : Nat), ∀ (u : TS) (x1 : Int32) (x2 : Int32) (x3 : Int32) (x4 : Int32) (H : Heap) (locs : List Loc) (ls : Array Slot), m_X3_exchange_57 f n57 u x1 x2 x3 x4 = some (r0, u9) → TH D ad dI dJ A s.heap u H locs → lv_has ls 6 [(0, .ref (ad 40)), (1, .int x1), (2, .int x2), (3, .int x3), (4, .int x4)] → W p l e rm_X3_exchange s m args below meth c H locs 0 0 QQ (F0 m 57 ls []) := by
    intro n57
    induction n57 with
    | zero => intro u x1 x2 x3 x4 H locs ls hm hw hl; rw [m_X3_exchange_57] at hm; exact noE hm
    | succ n57 ih57 =>
      intro u x1 x2 x3 x4 H locs ls hm hw hl
      rw [m_X3_exchange_57] at hm
      refine lv_iload hx hb dX3_exchange_57 (lv_at hl 4 rfl) ?_
      refine lv_iconst (v := 3) hx hb dX3_exchange_59 (by decide) ?_
      refine lv_icmp_ge (tgt := 149) hx hb dX3_exchange_60 (by decide) (fun c1 => ?_) (fun c1 => ?_)
      · have hm := ifT hm c1
        exact hB149 u _ _ _ hm hw (lv_sub hl [] rfl)
      · have hm := ifF hm c1
        refine lv_aload_n hx hb dX3_exchange_63 rfl (lv_at hl 0 rfl) ?_
        refine tg_get C hw 0 (by decide) q1566 rfl dX3_exchange_64 ?_
        refine lv_bipush (v := 28) hx hb dX3_exchange_67 (by decide) ?_
        refine lv_bipush (v := 9) hx hb dX3_exchange_69 (by decide) ?_
        refine lv_iload_n hx hb dX3_exchange_71 rfl (lv_at hl 1 rfl) ?_
        refine lv_imul hx hb dX3_exchange_72 ?_
        refine lv_iadd hx hb dX3_exchange_73 ?_
        refine lv_iconst (v := 3) hx hb dX3_exchange_74 (by decide) ?_
        refine lv_iload_n hx hb dX3_exchange_75 rfl (lv_at hl 2 rfl) ?_
        refine lv_imul hx hb dX3_exchange_76 ?_
        refine lv_iadd hx hb dX3_exchange_77 ?_
        refine lv_iload hx hb dX3_exchange_78 (lv_at hl 4 rfl) ?_
        refine lv_iadd hx hb dX3_exchange_80 ?_
        obtain ⟨g2, hm⟩ := gdE hm
        refine tg_iald C hw (tp_0 ad dI dJ u) g2 dX3_exchange_81 ?_
        refine lv_topi (fun v3 ev3 => ?_)
        have hm := nmK hm ev3
        refine lv_istore (lv' := [(5, .int v3), (0, .ref (ad 40)), (1, .int x1), (2, .int x2), (3, .int x3), (4, .int x4)]) hx hb dX3_exchange_82 hl (by decide) rfl (fun ls hl => ?_)
        refine lv_aload_n hx hb dX3_exchange_84 rfl (lv_at hl 1 rfl) ?_
        refine tg_get C hw 0 (by decide) q1566 rfl dX3_exchange_85 ?_
        refine lv_bipush (v := 28) hx hb dX3_exchange_88 (by decide) ?_
        refine lv_bipush (v := 9) hx hb dX3_exchange_90 (by decide) ?_
        refine lv_iload_n hx hb dX3_exchange_92 rfl (lv_at hl 2 rfl) ?_
        refine lv_imul hx hb dX3_exchange_93 ?_
        refine lv_iadd hx hb dX3_exchange_94 ?_
        refine lv_iconst (v := 3) hx hb dX3_exchange_95 (by decide) ?_
        refine lv_iload_n hx hb dX3_exchange_96 rfl (lv_at hl 3 rfl) ?_
        refine lv_imul hx hb dX3_exchange_97 ?_
        refine lv_iadd hx hb dX3_exchange_98 ?_
        refine lv_iload hx hb dX3_exchange_99 (lv_at hl 5 rfl) ?_
        refine lv_iadd hx hb dX3_exchange_101 ?_
        refine lv_aload_n hx hb dX3_exchange_102 rfl (lv_at hl 1 rfl) ?_
        refine tg_get C hw 0 (by decide) q1566 rfl dX3_exchange_103 ?_
        refine lv_bipush (v := 28) hx hb dX3_exchange_106 (by decide) ?_
        refine lv_bipush (v := 9) hx hb dX3_exchange_108 (by decide) ?_
        refine lv_iload_n hx hb dX3_exchange_110 rfl (lv_at hl 2 rfl) ?_
        refine lv_imul hx hb dX3_exchange_111 ?_
        refine lv_iadd hx hb dX3_exchange_112 ?_
        refine lv_iconst (v := 3) hx hb dX3_exchange_113 (by decide) ?_
        refine lv_iload_n hx hb dX3_exchange_114 rfl (lv_at hl 4 rfl) ?_
        refine lv_imul hx hb dX3_exchange_115 ?_
        refine lv_iadd hx hb dX3_exchange_116 ?_
        refine lv_iload hx hb dX3_exchange_117 (lv_at hl 5 rfl) ?_
        refine lv_iadd hx hb dX3_exchange_119 ?_
        obtain ⟨g4, hm⟩ := gdE hm
        refine tg_iald C hw (tp_0 ad dI dJ u) g4 dX3_exchange_120 ?_
        obtain ⟨g5, hm⟩ := gdE hm
        refine tg_iast C hw (tp_0 ad dI dJ u) g5 (ts_0 ad dI dJ u _ _) dX3_exchange_121 (fun H locs hw => ?_)
        obtain ⟨u6, eu6, hm⟩ := nmE hm
        rw [← eu6] at hw
        refine lv_aload_n hx hb dX3_exchange_122 rfl (lv_at hl 1 rfl) ?_
        refine tg_get C hw 0 (by decide) q1566 rfl dX3_exchange_123 ?_
        refine lv_bipush (v := 28) hx hb dX3_exchange_126 (by decide) ?_
        refine lv_bipush (v := 9) hx hb dX3_exchange_128 (by decide) ?_
        refine lv_iload_n hx hb dX3_exchange_130 rfl (lv_at hl 2 rfl) ?_
        refine lv_imul hx hb dX3_exchange_131 ?_
        refine lv_iadd hx hb dX3_exchange_132 ?_
        refine lv_iconst (v := 3) hx hb dX3_exchange_133 (by decide) ?_
        refine lv_iload_n hx hb dX3_exchange_134 rfl (lv_at hl 4 rfl) ?_
        refine lv_imul hx hb dX3_exchange_135 ?_
        refine lv_iadd hx hb dX3_exchange_136 ?_
        refine lv_iload hx hb dX3_exchange_137 (lv_at hl 5 rfl) ?_
        refine lv_iadd hx hb dX3_exchange_139 ?_
        refine lv_iload hx hb dX3_exchange_140 (lv_at hl 0 rfl) ?_
        obtain ⟨g7, hm⟩ := gdE hm
        refine tg_iast C hw (tp_0 ad dI dJ u6) g7 (ts_0 ad dI dJ u6 _ _) dX3_exchange_142 (fun H locs hw => ?_)
        obtain ⟨u8, eu8, hm⟩ := nmE hm
        rw [← eu8] at hw
        obtain ⟨v9, ev9, hm⟩ := nmE hm
        refine lv_iinc (v := v9) (lv' := [(4, .int v9), (5, .int v3), (0, .ref (ad 40)), (1, .int x1), (2, .int x2), (3, .int x3)]) hx hb dX3_exchange_143 hl (k := 5) rfl (by rw [ev9]; rfl) (by decide) rfl (fun ls hl => ?_)
        refine lv_goto (tgt := 57) hx hb dX3_exchange_146 (by decide) ?_
        exact ih57 u8 x1 x2 x3 v9 _ _ _ hm hw (lv_sub hl [2, 3, 4, 5, 0] rfl)
  rw [m_X3_exchange] at hm
  refine lv_aload_n hx hb dX3_exchange_0 rfl (lv_at hl 0 rfl) ?_
  refine lv_iload_n hx hb dX3_exchange_1 rfl (lv_at hl 1 rfl) ?_
  obtain ⟨r2, u1, er2, hm⟩ := bd2E hm
  refine tg_calli hw (va_runV (As := [.int x1]) (rest := []) ⟨hx, hb, hml, hown, hts⟩ (w_X3_isOwn l er2) (cw_X3_isOwn hts q2133 ⟨Nat.le_of_ble_eq_true rfl, Nat.le_of_ble_eq_true rfl⟩) (tg_pre C hw _) rfl rfl hl.1 rfl (lv_room (Nat.le_of_ble_eq_true rfl)) dX3_exchange_2 ⟨Nat.le_of_ble_eq_true rfl, Nat.le_of_ble_eq_true rfl⟩) (fun H locs hw => ?_)
  refine lv_if_eq (tgt := 27) hx hb dX3_exchange_5 (by decide) (fun c3 => ?_) (fun c3 => ?_)
  · have hm := ifT hm c3
    exact hB27 u1 _ _ _ hm hw (lv_sub hl [] rfl)
  · have hm := ifF hm c3
    refine lv_iload_n hx hb dX3_exchange_8 rfl (lv_at hl 2 rfl) ?_
    obtain ⟨r4, er4, hm⟩ := bdE hm
    refine sci (va_runS (As := [.int x2]) (rest := []) ⟨hx, hb, hml, hown, hts⟩ (w_X3_isRow l er4) (cw_X3_isRow hts q2137 ⟨Nat.le_of_ble_eq_true rfl, Nat.le_of_ble_eq_true rfl⟩) (pre_s _) rfl rfl hl.1 rfl (lv_room (Nat.le_of_ble_eq_true rfl)) dX3_exchange_9 ⟨Nat.le_of_ble_eq_true rfl, Nat.le_of_ble_eq_true rfl⟩) ?_
    refine lv_if_eq (tgt := 27) hx hb dX3_exchange_12 (by decide) (fun c5 => ?_) (fun c5 => ?_)
    · have hm := ifT hm c5
      exact hB27 u1 _ _ _ hm hw (lv_sub hl [] rfl)
    · have hm := ifF hm c5
      refine lv_iload_n hx hb dX3_exchange_15 rfl (lv_at hl 3 rfl) ?_
      obtain ⟨r6, er6, hm⟩ := bdE hm
      refine sci (va_runS (As := [.int x3]) (rest := []) ⟨hx, hb, hml, hown, hts⟩ (w_X3_isRow l er6) (cw_X3_isRow hts q2137 ⟨Nat.le_of_ble_eq_true rfl, Nat.le_of_ble_eq_true rfl⟩) (pre_s _) rfl rfl hl.1 rfl (lv_room (Nat.le_of_ble_eq_true rfl)) dX3_exchange_16 ⟨Nat.le_of_ble_eq_true rfl, Nat.le_of_ble_eq_true rfl⟩) ?_
      refine lv_if_eq (tgt := 27) hx hb dX3_exchange_19 (by decide) (fun c7 => ?_) (fun c7 => ?_)
      · have hm := ifT hm c7
        exact hB27 u1 _ _ _ hm hw (lv_sub hl [] rfl)
      · have hm := ifF hm c7
        refine lv_iload_n hx hb dX3_exchange_22 rfl (lv_at hl 2 rfl) ?_
        refine lv_iload_n hx hb dX3_exchange_23 rfl (lv_at hl 3 rfl) ?_
        refine lv_icmp_ne (tgt := 30) hx hb dX3_exchange_24 (by decide) (fun c8 => ?_) (fun c8 => ?_)
        · have hm := ifT hm c8
          refine lv_aload_n hx hb dX3_exchange_30 rfl (lv_at hl 0 rfl) ?_
          refine tg_get C hw 0 (by decide) q1566 rfl dX3_exchange_31 ?_
          refine lv_iconst (v := 2) hx hb dX3_exchange_34 (by decide) ?_
          refine tg_iald C hw (tp_0 ad dI dJ u1) (by decide) dX3_exchange_35 ?_
          refine lv_bipush (v := 20) hx hb dX3_exchange_36 (by decide) ?_
          refine lv_icmp_ne (tgt := 50) hx hb dX3_exchange_38 (by decide) (fun c9 => ?_) (fun c9 => ?_)
          · have hm := ifT hm c9
            refine lv_aload_n hx hb dX3_exchange_50 rfl (lv_at hl 0 rfl) ?_
            obtain ⟨u10, eu10, hm⟩ := bdE hm
            refine tg_callv hw (va_runV (As := []) (rest := []) ⟨hx, hb, hml, hown, hts⟩ (w_X3_keeps l eu10) (cw_X3_keeps hts q2146 ⟨Nat.le_of_ble_eq_true rfl, Nat.le_of_ble_eq_true rfl⟩) (tg_pre C hw _) rfl rfl hl.1 rfl (lv_room (Nat.le_of_ble_eq_true rfl)) dX3_exchange_51 ⟨Nat.le_of_ble_eq_true rfl, Nat.le_of_ble_eq_true rfl⟩) (fun H locs hw => ?_)
            refine lv_iconst (v := 0) hx hb dX3_exchange_54 (by decide) ?_
            refine lv_istore (lv' := [(4, .int (0 : Int32)), (0, .ref (ad 40)), (1, .int x1), (2, .int x2), (3, .int x3)]) hx hb dX3_exchange_55 hl (by decide) rfl (fun ls hl => ?_)
            exact hB57 f u10 x1 x2 x3 (0 : Int32) _ _ _ hm hw (lv_sub hl [1, 2, 3, 4, 0] rfl)
          · have hm := ifT' hm c9
            refine lv_aload_n hx hb dX3_exchange_41 rfl (lv_at hl 0 rfl) ?_
            refine lv_iconst (v := 2) hx hb dX3_exchange_42 (by decide) ?_
            refine lv_iconst (v := 3) hx hb dX3_exchange_43 (by decide) ?_
            refine lv_iload_n hx hb dX3_exchange_44 rfl (lv_at hl 1 rfl) ?_
            refine lv_iload_n hx hb dX3_exchange_45 rfl (lv_at hl 2 rfl) ?_
            obtain ⟨r12, u11, er12, hm⟩ := bd2E hm
            refine tg_calli hw (va_runV (As := [.int (2 : Int32), .int (3 : Int32), .int x1, .int x2]) (rest := []) ⟨hx, hb, hml, hown, hts⟩ (w_X3_refuses l er12) (cw_X3_refuses hts q2142 ⟨Nat.le_of_ble_eq_true rfl, Nat.le_of_ble_eq_true rfl⟩) (tg_pre C hw _) rfl rfl hl.1 rfl (lv_room (Nat.le_of_ble_eq_true rfl)) dX3_exchange_46 ⟨Nat.le_of_ble_eq_true rfl, Nat.le_of_ble_eq_true rfl⟩) (fun H locs hw => ?_)
            rw [← hQ]
            exact W.iret (v := r12) hx hb hr (fun t ht hW => ⟨⟨r12, u11, rfl, retE hm, by rw [ht]; exact hw.1, hw.2.1⟩, hw.2.2.1.F ht⟩) hw.2.2.1.2.2 dX3_exchange_49
        · have hm := ifT' hm c8
          exact hB27 u1 _ _ _ hm hw (lv_sub hl [] rfl)
def m_X3_negate_15 (f : Nat) (u : TS) : Option (Int32 × TS) := some ((-2 : Int32), u)
def m_X3_negate_92 (f : Nat) (u : TS) : Option (Int32 × TS) := some ((0 : Int32), u)
def m_X3_negate_44 (f : Nat) : Nat → TS → Int32 → Int32 → Int32 → Option (Int32 × TS)
  | 0, _, _, _, _ => none
  | n44 + 1, u, x1, x2, x3 => if (3 : Int32) ≤ x3 then
    m_X3_negate_92 f u
    else gd (ix ((((28 : Int32) + ((9 : Int32) * x1)) + ((3 : Int32) * x2)) + x3) 73) <|
    gd (ix ((((28 : Int32) + ((9 : Int32) * x1)) + ((3 : Int32) * x2)) + x3) 73) <|
    nmv (sA u 0 (Int32.toNatClampNeg ((((28 : Int32) + ((9 : Int32) * x1)) + ((3 : Int32) * x2)) + x3)) (-(tA u 0 (Int32.toNatClampNeg ((((28 : Int32) + ((9 : Int32) * x1)) + ((3 : Int32) * x2)) + x3))))) fun u4 =>
    nmv ((x3 + 1) : Int32) fun v5 =>
    m_X3_negate_44 f n44 u4 x1 x2 v5
def m_X3_negate (f : Nat) (u : TS) (x1 : Int32) (x2 : Int32) : Option (Int32 × TS) := bd2 (m_X3_isOwn f u x1) fun r2 u1 =>
    if r2 = 0 then
    m_X3_negate_15 f u1
    else bd (m_X3_isRow f x2) fun r4 =>
    if ¬ r4 = 0 then
    if ¬ (tA u1 0 (Int32.toNatClampNeg (2 : Int32))) = (20 : Int32) then
    bd (m_X3_keeps f u1) fun u7 =>
    m_X3_negate_44 f f u7 x1 x2 (0 : Int32)
    else bd2 (m_X3_refuses f u1 (3 : Int32) (3 : Int32) x1 x2) fun r9 u8 =>
    some (r9, u8)
    else m_X3_negate_15 f u1
abbrev rm_X3_negate : Room := { frames := 3, cells := 0, slots := 0, locals := 67 }
theorem cw_X3_negate {R : Room} {s : State} {args : Array Value} {own : String} {idx : Nat} (hts : ∀ w ∈ lw_all, w.before args s = true) (hl : Cond.methodLink own idx yX3_negate ∈ lw_all) (hR : rm_X3_negate.frames + 1 ≤ R.frames ∧ 8 + (4 + 11) + rm_X3_negate.locals ≤ R.locals) : CallW R s args own RX3 idx yX3_negate cX3_negate 4 (Option.some Jvm.ClassFile.FieldType.int) (ws_ yX3_negate cX3_negate 4 (Option.some Jvm.ClassFile.FieldType.int)) rm_X3_negate 0 0 2 := cwV 2 hts (lw_V hl q2165 q2166 q125 q2167) rfl rfl rfl (by decide +kernel) hR
set_option maxHeartbeats 4000000 in
set_option maxRecDepth 100000 in
theorem w_X3_negate (l : Launch) {D : va_G} {ad : Nat → Nat} {dI dJ : ClassId} {A : Nat → Prop} {f : Nat} {u u9 : TS} {r0 : Int32} {x1 : Int32} {x2 : Int32} (hm : m_X3_negate f u x1 x2 = some (r0, u9)) : Met l yX3_negate (ws_ yX3_negate cX3_negate 4 (Option.some Jvm.ClassFile.FieldType.int)) rm_X3_negate (va_Pc [.ref (ad 40), .int x1, .int x2] (TPre D ad dI dJ A u)) (va_Qi (fun r u => r = r0 ∧ u = u9) (TPost D ad dI dJ A) A) 0 0 A := by
  refine Met.ofW (cc := cX3_negate) (maxL := 4) (ret := (Option.some Jvm.ClassFile.FieldType.int)) (by decide) rfl ?_
  intro p e s m args below meth c s₁ B hml hv
  have hx := B.exec
  have hb := B.bytes
  have hr := B.returns
  have hts := atoms_spec (ws := (ws_ yX3_negate cX3_negate 4 (Option.some Jvm.ClassFile.FieldType.int))) B.pre
  have hts : ∀ w ∈ lw_all, w.before args s = true := fun w h => hts w (List.mem_cons_of_mem _ h)
  have hown : s.vm.findClass RX3 = some m.cls := findClass_of_methodNamed B.named
  have hlocks := B.notSynchronized
  obtain ⟨hav, hv⟩ := hv
  have C : TC p s m args c cX3_negate D dI dJ := ⟨hx, hb, hown, hts, hv.2.1⟩
  have hw : TH D ad dI dJ A s.heap u s.heap [] := ⟨hv.1, hv.2.2.1, va_S.rf, hv.2.2.2⟩
  generalize hQ : MQ below (va_Qi (fun r u => r = r0 ∧ u = u9) (TPost D ad dI dJ A) A) args s 0 0 A = QQ
  have hent := lg_entry_eq m [.ref (ad 40), .int x1, .int x2] 4
  rw [← hav] at hent
  rw [hent]
  have hl := lv_entry ([.ref (ad 40), .int x1, .int x2]) (n := 4) (Nat.le_of_ble_eq_true rfl)
  generalize (lg_sl ([.ref (ad 40), .int x1, .int x2]) ++ List.replicate (4 - (lg_sl ([.ref (ad 40), .int x1, .int x2])).length) Slot.unset).toArray = ls at hl ⊢
  have hl : lv_has ls 4 [(0, .ref (ad 40)), (1, .int x1), (2, .int x2)] := hl
  change W p l e rm_X3_negate s m args below meth c s.heap [] 0 0 QQ (F0 m 0 ls [])
  have hB15 : ∀ (u : TS) (H : Heap) (locs : List Loc) (ls : Array Slot), m_X3_negate_15 f u = some (r0, u9) → TH D ad dI dJ A s.heap u H locs → lv_has ls 4 [] → W p l e rm_X3_negate s m args below meth c H locs 0 0 QQ (F0 m 15 ls []) := by
    intro u H locs ls hm hw hl
    rw [m_X3_negate_15] at hm
    refine lv_bipush (v := -2) hx hb dX3_negate_15 (by decide) ?_
    rw [← hQ]
    exact W.iret (v := (-2 : Int32)) hx hb hr (fun t ht hW => ⟨⟨(-2 : Int32), u, rfl, retE hm, by rw [ht]; exact hw.1, hw.2.1⟩, hw.2.2.1.F ht⟩) hw.2.2.1.2.2 dX3_negate_17
  have hB92 : ∀ (u : TS) (H : Heap) (locs : List Loc) (ls : Array Slot), m_X3_negate_92 f u = some (r0, u9) → TH D ad dI dJ A s.heap u H locs → lv_has ls 4 [] → W p l e rm_X3_negate s m args below meth c H locs 0 0 QQ (F0 m 92 ls []) := by
    intro u H locs ls hm hw hl
    rw [m_X3_negate_92] at hm
    refine lv_iconst (v := 0) hx hb dX3_negate_92 (by decide) ?_
    rw [← hQ]
    exact W.iret (v := (0 : Int32)) hx hb hr (fun t ht hW => ⟨⟨(0 : Int32), u, rfl, retE hm, by rw [ht]; exact hw.1, hw.2.1⟩, hw.2.2.1.F ht⟩) hw.2.2.1.2.2 dX3_negate_93
  have hB44 : ∀ (n44 : Nat), ∀ (u : TS) (x1 : Int32) (x2 : Int32) (x3 : Int32) (H : Heap) (locs : List Loc) (ls : Array Slot), m_X3_negate_44 f n44 u x1 x2 x3 = some (r0, u9) → TH D ad dI dJ A s.heap u H locs → lv_has ls 4 [(0, .ref (ad 40)), (1, .int x1), (2, .int x2), (3, .int x3)] → W p l e rm_X3_negate s m args below meth c H locs 0 0 QQ (F0 m 44 ls []) := by
    intro n44
    induction n44 with
    | zero => intro u x1 x2 x3 H locs ls hm hw hl; rw [m_X3_negate_44] at hm; exact noE hm
    | succ n44 ih44 =>
      intro u x1 x2 x3 H locs ls hm hw hl
      rw [m_X3_negate_44] at hm
      refine lv_iload_n hx hb dX3_negate_44 rfl (lv_at hl 3 rfl) ?_
      refine lv_iconst (v := 3) hx hb dX3_negate_45 (by decide) ?_
      refine lv_icmp_ge (tgt := 92) hx hb dX3_negate_46 (by decide) (fun c1 => ?_) (fun c1 => ?_)
      · have hm := ifT hm c1
        exact hB92 u _ _ _ hm hw (lv_sub hl [] rfl)
      · have hm := ifF hm c1
        refine lv_aload_n hx hb dX3_negate_49 rfl (lv_at hl 0 rfl) ?_
        refine tg_get C hw 0 (by decide) q1566 rfl dX3_negate_50 ?_
        refine lv_bipush (v := 28) hx hb dX3_negate_53 (by decide) ?_
        refine lv_bipush (v := 9) hx hb dX3_negate_55 (by decide) ?_
        refine lv_iload_n hx hb dX3_negate_57 rfl (lv_at hl 1 rfl) ?_
        refine lv_imul hx hb dX3_negate_58 ?_
        refine lv_iadd hx hb dX3_negate_59 ?_
        refine lv_iconst (v := 3) hx hb dX3_negate_60 (by decide) ?_
        refine lv_iload_n hx hb dX3_negate_61 rfl (lv_at hl 2 rfl) ?_
        refine lv_imul hx hb dX3_negate_62 ?_
        refine lv_iadd hx hb dX3_negate_63 ?_
        refine lv_iload_n hx hb dX3_negate_64 rfl (lv_at hl 3 rfl) ?_
        refine lv_iadd hx hb dX3_negate_65 ?_
        refine lv_aload_n hx hb dX3_negate_66 rfl (lv_at hl 0 rfl) ?_
        refine tg_get C hw 0 (by decide) q1566 rfl dX3_negate_67 ?_
        refine lv_bipush (v := 28) hx hb dX3_negate_70 (by decide) ?_
        refine lv_bipush (v := 9) hx hb dX3_negate_72 (by decide) ?_
        refine lv_iload_n hx hb dX3_negate_74 rfl (lv_at hl 1 rfl) ?_
        refine lv_imul hx hb dX3_negate_75 ?_
        refine lv_iadd hx hb dX3_negate_76 ?_
        refine lv_iconst (v := 3) hx hb dX3_negate_77 (by decide) ?_
        refine lv_iload_n hx hb dX3_negate_78 rfl (lv_at hl 2 rfl) ?_
        refine lv_imul hx hb dX3_negate_79 ?_
        refine lv_iadd hx hb dX3_negate_80 ?_
        refine lv_iload_n hx hb dX3_negate_81 rfl (lv_at hl 3 rfl) ?_
        refine lv_iadd hx hb dX3_negate_82 ?_
        obtain ⟨g2, hm⟩ := gdE hm
        refine tg_iald C hw (tp_0 ad dI dJ u) g2 dX3_negate_83 ?_
        refine lv_ineg hx hb dX3_negate_84 ?_
        obtain ⟨g3, hm⟩ := gdE hm
        refine tg_iast C hw (tp_0 ad dI dJ u) g3 (ts_0 ad dI dJ u _ _) dX3_negate_85 (fun H locs hw => ?_)
        obtain ⟨u4, eu4, hm⟩ := nmE hm
        rw [← eu4] at hw
        obtain ⟨v5, ev5, hm⟩ := nmE hm
        refine lv_iinc (v := v5) (lv' := [(3, .int v5), (0, .ref (ad 40)), (1, .int x1), (2, .int x2)]) hx hb dX3_negate_86 hl (k := 3) rfl (by rw [ev5]; rfl) (by decide) rfl (fun ls hl => ?_)
        refine lv_goto (tgt := 44) hx hb dX3_negate_89 (by decide) ?_
        exact ih44 u4 x1 x2 v5 _ _ _ hm hw (lv_sub hl [1, 2, 3, 0] rfl)
  rw [m_X3_negate] at hm
  refine lv_aload_n hx hb dX3_negate_0 rfl (lv_at hl 0 rfl) ?_
  refine lv_iload_n hx hb dX3_negate_1 rfl (lv_at hl 1 rfl) ?_
  obtain ⟨r2, u1, er2, hm⟩ := bd2E hm
  refine tg_calli hw (va_runV (As := [.int x1]) (rest := []) ⟨hx, hb, hml, hown, hts⟩ (w_X3_isOwn l er2) (cw_X3_isOwn hts q2133 ⟨Nat.le_of_ble_eq_true rfl, Nat.le_of_ble_eq_true rfl⟩) (tg_pre C hw _) rfl rfl hl.1 rfl (lv_room (Nat.le_of_ble_eq_true rfl)) dX3_negate_2 ⟨Nat.le_of_ble_eq_true rfl, Nat.le_of_ble_eq_true rfl⟩) (fun H locs hw => ?_)
  refine lv_if_eq (tgt := 15) hx hb dX3_negate_5 (by decide) (fun c3 => ?_) (fun c3 => ?_)
  · have hm := ifT hm c3
    exact hB15 u1 _ _ _ hm hw (lv_sub hl [] rfl)
  · have hm := ifF hm c3
    refine lv_iload_n hx hb dX3_negate_8 rfl (lv_at hl 2 rfl) ?_
    obtain ⟨r4, er4, hm⟩ := bdE hm
    refine sci (va_runS (As := [.int x2]) (rest := []) ⟨hx, hb, hml, hown, hts⟩ (w_X3_isRow l er4) (cw_X3_isRow hts q2137 ⟨Nat.le_of_ble_eq_true rfl, Nat.le_of_ble_eq_true rfl⟩) (pre_s _) rfl rfl hl.1 rfl (lv_room (Nat.le_of_ble_eq_true rfl)) dX3_negate_9 ⟨Nat.le_of_ble_eq_true rfl, Nat.le_of_ble_eq_true rfl⟩) ?_
    refine lv_if_ne (tgt := 18) hx hb dX3_negate_12 (by decide) (fun c5 => ?_) (fun c5 => ?_)
    · have hm := ifT hm c5
      refine lv_aload_n hx hb dX3_negate_18 rfl (lv_at hl 0 rfl) ?_
      refine tg_get C hw 0 (by decide) q1566 rfl dX3_negate_19 ?_
      refine lv_iconst (v := 2) hx hb dX3_negate_22 (by decide) ?_
      refine tg_iald C hw (tp_0 ad dI dJ u1) (by decide) dX3_negate_23 ?_
      refine lv_bipush (v := 20) hx hb dX3_negate_24 (by decide) ?_
      refine lv_icmp_ne (tgt := 38) hx hb dX3_negate_26 (by decide) (fun c6 => ?_) (fun c6 => ?_)
      · have hm := ifT hm c6
        refine lv_aload_n hx hb dX3_negate_38 rfl (lv_at hl 0 rfl) ?_
        obtain ⟨u7, eu7, hm⟩ := bdE hm
        refine tg_callv hw (va_runV (As := []) (rest := []) ⟨hx, hb, hml, hown, hts⟩ (w_X3_keeps l eu7) (cw_X3_keeps hts q2146 ⟨Nat.le_of_ble_eq_true rfl, Nat.le_of_ble_eq_true rfl⟩) (tg_pre C hw _) rfl rfl hl.1 rfl (lv_room (Nat.le_of_ble_eq_true rfl)) dX3_negate_39 ⟨Nat.le_of_ble_eq_true rfl, Nat.le_of_ble_eq_true rfl⟩) (fun H locs hw => ?_)
        refine lv_iconst (v := 0) hx hb dX3_negate_42 (by decide) ?_
        refine lv_istore_n (lv' := [(3, .int (0 : Int32)), (0, .ref (ad 40)), (1, .int x1), (2, .int x2)]) hx hb dX3_negate_43 rfl hl (by decide) rfl (fun ls hl => ?_)
        exact hB44 f u7 x1 x2 (0 : Int32) _ _ _ hm hw (lv_sub hl [1, 2, 3, 0] rfl)
      · have hm := ifT' hm c6
        refine lv_aload_n hx hb dX3_negate_29 rfl (lv_at hl 0 rfl) ?_
        refine lv_iconst (v := 3) hx hb dX3_negate_30 (by decide) ?_
        refine lv_iconst (v := 3) hx hb dX3_negate_31 (by decide) ?_
        refine lv_iload_n hx hb dX3_negate_32 rfl (lv_at hl 1 rfl) ?_
        refine lv_iload_n hx hb dX3_negate_33 rfl (lv_at hl 2 rfl) ?_
        obtain ⟨r9, u8, er9, hm⟩ := bd2E hm
        refine tg_calli hw (va_runV (As := [.int (3 : Int32), .int (3 : Int32), .int x1, .int x2]) (rest := []) ⟨hx, hb, hml, hown, hts⟩ (w_X3_refuses l er9) (cw_X3_refuses hts q2142 ⟨Nat.le_of_ble_eq_true rfl, Nat.le_of_ble_eq_true rfl⟩) (tg_pre C hw _) rfl rfl hl.1 rfl (lv_room (Nat.le_of_ble_eq_true rfl)) dX3_negate_34 ⟨Nat.le_of_ble_eq_true rfl, Nat.le_of_ble_eq_true rfl⟩) (fun H locs hw => ?_)
        rw [← hQ]
        exact W.iret (v := r9) hx hb hr (fun t ht hW => ⟨⟨r9, u8, rfl, retE hm, by rw [ht]; exact hw.1, hw.2.1⟩, hw.2.2.1.F ht⟩) hw.2.2.1.2.2 dX3_negate_37
    · have hm := ifT' hm c5
      exact hB15 u1 _ _ _ hm hw (lv_sub hl [] rfl)
def m_X3_put_31 (f : Nat) (u : TS) : Option (Int32 × TS) := some ((-1000 : Int32), u)
def m_X3_put_114 (f : Nat) (u : TS) (y0 : Int32) : Option (Int32 × TS) := some (y0, u)
def m_X3_put (f : Nat) (u : TS) (x1 : Int32) (x2 : Int32) (x3 : Int32) (x4 : Int32) : Option (Int32 × TS) := bd2 (m_X3_isOwn f u x1) fun r2 u1 =>
    if r2 = 0 then
    m_X3_put_31 f u1
    else bd (m_X3_isAt2 f x2 x3) fun r4 =>
    if r4 = 0 then
    m_X3_put_31 f u1
    else bd (m_X3_in f (Int32.toInt64 x4) (-6 : Int64) (6 : Int64)) fun r6 =>
    if ¬ r6 = 0 then
    if ¬ (tA u1 0 (Int32.toNatClampNeg (2 : Int32))) = (20 : Int32) then
    nmv (((((28 : Int32) + ((9 : Int32) * x1)) + ((3 : Int32) * x2)) + x3) : Int32) fun v9 =>
    gd (ix v9 73) <|
    nmv ((tA u1 0 (Int32.toNatClampNeg v9)) : Int32) fun v11 =>
    bd (m_X3_keeps f u1) fun u12 =>
    gd (ix v9 73) <|
    nmv (sA u12 0 (Int32.toNatClampNeg v9) x4) fun u14 =>
    bd2 (m_X3_stays f u14 (4 : Int32) x1 x2) fun r16 u15 =>
    if 0 ≤ r16 then
    m_X3_put_114 f u15 v11
    else m_X3_put_114 f u15 (-2000 : Int32)
    else bd2 (m_X3_refuses f u1 (4 : Int32) (3 : Int32) x1 x2) fun r19 u18 =>
    some ((-2000 : Int32), u18)
    else m_X3_put_31 f u1
abbrev rm_X3_put : Room := { frames := 3, cells := 0, slots := 0, locals := 67 }
theorem cw_X3_put {R : Room} {s : State} {args : Array Value} {own : String} {idx : Nat} (hts : ∀ w ∈ lw_all, w.before args s = true) (hl : Cond.methodLink own idx yX3_put ∈ lw_all) (hR : rm_X3_put.frames + 1 ≤ R.frames ∧ 8 + (7 + 11) + rm_X3_put.locals ≤ R.locals) : CallW R s args own RX3 idx yX3_put cX3_put 7 (Option.some Jvm.ClassFile.FieldType.int) (ws_ yX3_put cX3_put 7 (Option.some Jvm.ClassFile.FieldType.int)) rm_X3_put 0 0 4 := cwV 4 hts (lw_V hl q2169 q2170 q125 q2171) rfl rfl rfl (by decide +kernel) hR
set_option maxHeartbeats 4000000 in
set_option maxRecDepth 100000 in
theorem w_X3_put (l : Launch) {D : va_G} {ad : Nat → Nat} {dI dJ : ClassId} {A : Nat → Prop} {f : Nat} {u u9 : TS} {r0 : Int32} {x1 : Int32} {x2 : Int32} {x3 : Int32} {x4 : Int32} (hm : m_X3_put f u x1 x2 x3 x4 = some (r0, u9)) : Met l yX3_put (ws_ yX3_put cX3_put 7 (Option.some Jvm.ClassFile.FieldType.int)) rm_X3_put (va_Pc [.ref (ad 40), .int x1, .int x2, .int x3, .int x4] (TPre D ad dI dJ A u)) (va_Qi (fun r u => r = r0 ∧ u = u9) (TPost D ad dI dJ A) A) 0 0 A := by
  refine Met.ofW (cc := cX3_put) (maxL := 7) (ret := (Option.some Jvm.ClassFile.FieldType.int)) (by decide) rfl ?_
  intro p e s m args below meth c s₁ B hml hv
  have hx := B.exec
  have hb := B.bytes
  have hr := B.returns
  have hts := atoms_spec (ws := (ws_ yX3_put cX3_put 7 (Option.some Jvm.ClassFile.FieldType.int))) B.pre
  have hts : ∀ w ∈ lw_all, w.before args s = true := fun w h => hts w (List.mem_cons_of_mem _ h)
  have hown : s.vm.findClass RX3 = some m.cls := findClass_of_methodNamed B.named
  have hlocks := B.notSynchronized
  obtain ⟨hav, hv⟩ := hv
  have C : TC p s m args c cX3_put D dI dJ := ⟨hx, hb, hown, hts, hv.2.1⟩
  have hw : TH D ad dI dJ A s.heap u s.heap [] := ⟨hv.1, hv.2.2.1, va_S.rf, hv.2.2.2⟩
  generalize hQ : MQ below (va_Qi (fun r u => r = r0 ∧ u = u9) (TPost D ad dI dJ A) A) args s 0 0 A = QQ
  have hent := lg_entry_eq m [.ref (ad 40), .int x1, .int x2, .int x3, .int x4] 7
  rw [← hav] at hent
  rw [hent]
  have hl := lv_entry ([.ref (ad 40), .int x1, .int x2, .int x3, .int x4]) (n := 7) (Nat.le_of_ble_eq_true rfl)
  generalize (lg_sl ([.ref (ad 40), .int x1, .int x2, .int x3, .int x4]) ++ List.replicate (7 - (lg_sl ([.ref (ad 40), .int x1, .int x2, .int x3, .int x4])).length) Slot.unset).toArray = ls at hl ⊢
  have hl : lv_has ls 7 [(0, .ref (ad 40)), (1, .int x1), (2, .int x2), (3, .int x3), (4, .int x4)] := hl
  change W p l e rm_X3_put s m args below meth c s.heap [] 0 0 QQ (F0 m 0 ls [])
  have hB31 : ∀ (u : TS) (H : Heap) (locs : List Loc) (ls : Array Slot), m_X3_put_31 f u = some (r0, u9) → TH D ad dI dJ A s.heap u H locs → lv_has ls 7 [] → W p l e rm_X3_put s m args below meth c H locs 0 0 QQ (F0 m 31 ls []) := by
    intro u H locs ls hm hw hl
    rw [m_X3_put_31] at hm
    refine lv_sipush (v := -1000) hx hb dX3_put_31 (by decide) ?_
    rw [← hQ]
    exact W.iret (v := (-1000 : Int32)) hx hb hr (fun t ht hW => ⟨⟨(-1000 : Int32), u, rfl, retE hm, by rw [ht]; exact hw.1, hw.2.1⟩, hw.2.2.1.F ht⟩) hw.2.2.1.2.2 dX3_put_34
  have hB114 : ∀ (u : TS) (y0 : Int32) (H : Heap) (locs : List Loc) (ls : Array Slot), m_X3_put_114 f u y0 = some (r0, u9) → TH D ad dI dJ A s.heap u H locs → lv_has ls 7 [] → W p l e rm_X3_put s m args below meth c H locs 0 0 QQ (F0 m 114 ls [.int y0]) := by
    intro u y0 H locs ls hm hw hl
    rw [m_X3_put_114] at hm
    rw [← hQ]
    exact W.iret (v := y0) hx hb hr (fun t ht hW => ⟨⟨y0, u, rfl, retE hm, by rw [ht]; exact hw.1, hw.2.1⟩, hw.2.2.1.F ht⟩) hw.2.2.1.2.2 dX3_put_114
  rw [m_X3_put] at hm
  refine lv_aload_n hx hb dX3_put_0 rfl (lv_at hl 0 rfl) ?_
  refine lv_iload_n hx hb dX3_put_1 rfl (lv_at hl 1 rfl) ?_
  obtain ⟨r2, u1, er2, hm⟩ := bd2E hm
  refine tg_calli hw (va_runV (As := [.int x1]) (rest := []) ⟨hx, hb, hml, hown, hts⟩ (w_X3_isOwn l er2) (cw_X3_isOwn hts q2133 ⟨Nat.le_of_ble_eq_true rfl, Nat.le_of_ble_eq_true rfl⟩) (tg_pre C hw _) rfl rfl hl.1 rfl (lv_room (Nat.le_of_ble_eq_true rfl)) dX3_put_2 ⟨Nat.le_of_ble_eq_true rfl, Nat.le_of_ble_eq_true rfl⟩) (fun H locs hw => ?_)
  refine lv_if_eq (tgt := 31) hx hb dX3_put_5 (by decide) (fun c3 => ?_) (fun c3 => ?_)
  · have hm := ifT hm c3
    exact hB31 u1 _ _ _ hm hw (lv_sub hl [] rfl)
  · have hm := ifF hm c3
    refine lv_iload_n hx hb dX3_put_8 rfl (lv_at hl 2 rfl) ?_
    refine lv_iload_n hx hb dX3_put_9 rfl (lv_at hl 3 rfl) ?_
    obtain ⟨r4, er4, hm⟩ := bdE hm
    refine sci (va_runS (As := [.int x2, .int x3]) (rest := []) ⟨hx, hb, hml, hown, hts⟩ (w_X3_isAt2 l er4) (cw_X3_isAt2 hts q1800 ⟨Nat.le_of_ble_eq_true rfl, Nat.le_of_ble_eq_true rfl⟩) (pre_s _) rfl rfl hl.1 rfl (lv_room (Nat.le_of_ble_eq_true rfl)) dX3_put_10 ⟨Nat.le_of_ble_eq_true rfl, Nat.le_of_ble_eq_true rfl⟩) ?_
    refine lv_if_eq (tgt := 31) hx hb dX3_put_13 (by decide) (fun c5 => ?_) (fun c5 => ?_)
    · have hm := ifT hm c5
      exact hB31 u1 _ _ _ hm hw (lv_sub hl [] rfl)
    · have hm := ifF hm c5
      refine lv_iload hx hb dX3_put_16 (lv_at hl 4 rfl) ?_
      refine lv_i2l hx hb dX3_put_18 rfl ?_
      refine lv_ldc2 hx hb hown (hts _ q2172) dX3_put_19 ?_
      refine lv_ldc2 hx hb hown (hts _ q2173) dX3_put_22 ?_
      obtain ⟨r6, er6, hm⟩ := bdE hm
      refine sci (va_runS (As := [.long (Int32.toInt64 x4), .long (-6 : Int64), .long (6 : Int64)]) (rest := []) ⟨hx, hb, hml, hown, hts⟩ (w_X3_in l er6) (cw_X3_in hts q1695 ⟨Nat.le_of_ble_eq_true rfl, Nat.le_of_ble_eq_true rfl⟩) (pre_s _) rfl rfl hl.1 rfl (lv_room (Nat.le_of_ble_eq_true rfl)) dX3_put_25 ⟨Nat.le_of_ble_eq_true rfl, Nat.le_of_ble_eq_true rfl⟩) ?_
      refine lv_if_ne (tgt := 35) hx hb dX3_put_28 (by decide) (fun c7 => ?_) (fun c7 => ?_)
      · have hm := ifT hm c7
        refine lv_aload_n hx hb dX3_put_35 rfl (lv_at hl 0 rfl) ?_
        refine tg_get C hw 0 (by decide) q1566 rfl dX3_put_36 ?_
        refine lv_iconst (v := 2) hx hb dX3_put_39 (by decide) ?_
        refine tg_iald C hw (tp_0 ad dI dJ u1) (by decide) dX3_put_40 ?_
        refine lv_bipush (v := 20) hx hb dX3_put_41 (by decide) ?_
        refine lv_icmp_ne (tgt := 59) hx hb dX3_put_43 (by decide) (fun c8 => ?_) (fun c8 => ?_)
        · have hm := ifT hm c8
          refine lv_bipush (v := 28) hx hb dX3_put_59 (by decide) ?_
          refine lv_bipush (v := 9) hx hb dX3_put_61 (by decide) ?_
          refine lv_iload_n hx hb dX3_put_63 rfl (lv_at hl 1 rfl) ?_
          refine lv_imul hx hb dX3_put_64 ?_
          refine lv_iadd hx hb dX3_put_65 ?_
          refine lv_iconst (v := 3) hx hb dX3_put_66 (by decide) ?_
          refine lv_iload_n hx hb dX3_put_67 rfl (lv_at hl 2 rfl) ?_
          refine lv_imul hx hb dX3_put_68 ?_
          refine lv_iadd hx hb dX3_put_69 ?_
          refine lv_iload_n hx hb dX3_put_70 rfl (lv_at hl 3 rfl) ?_
          refine lv_iadd hx hb dX3_put_71 ?_
          refine lv_topi (fun v9 ev9 => ?_)
          have hm := nmK hm ev9
          refine lv_istore (lv' := [(5, .int v9), (0, .ref (ad 40)), (1, .int x1), (2, .int x2), (3, .int x3), (4, .int x4)]) hx hb dX3_put_72 hl (by decide) rfl (fun ls hl => ?_)
          refine lv_aload_n hx hb dX3_put_74 rfl (lv_at hl 1 rfl) ?_
          refine tg_get C hw 0 (by decide) q1566 rfl dX3_put_75 ?_
          refine lv_iload hx hb dX3_put_78 (lv_at hl 0 rfl) ?_
          obtain ⟨g10, hm⟩ := gdE hm
          refine tg_iald C hw (tp_0 ad dI dJ u1) g10 dX3_put_80 ?_
          refine lv_topi (fun v11 ev11 => ?_)
          have hm := nmK hm ev11
          refine lv_istore (lv' := [(6, .int v11), (5, .int v9), (0, .ref (ad 40)), (1, .int x1), (2, .int x2), (3, .int x3), (4, .int x4)]) hx hb dX3_put_81 hl (by decide) rfl (fun ls hl => ?_)
          refine lv_aload_n hx hb dX3_put_83 rfl (lv_at hl 2 rfl) ?_
          obtain ⟨u12, eu12, hm⟩ := bdE hm
          refine tg_callv hw (va_runV (As := []) (rest := []) ⟨hx, hb, hml, hown, hts⟩ (w_X3_keeps l eu12) (cw_X3_keeps hts q2146 ⟨Nat.le_of_ble_eq_true rfl, Nat.le_of_ble_eq_true rfl⟩) (tg_pre C hw _) rfl rfl hl.1 rfl (lv_room (Nat.le_of_ble_eq_true rfl)) dX3_put_84 ⟨Nat.le_of_ble_eq_true rfl, Nat.le_of_ble_eq_true rfl⟩) (fun H locs hw => ?_)
          refine lv_aload_n hx hb dX3_put_87 rfl (lv_at hl 2 rfl) ?_
          refine tg_get C hw 0 (by decide) q1566 rfl dX3_put_88 ?_
          refine lv_iload hx hb dX3_put_91 (lv_at hl 1 rfl) ?_
          refine lv_iload hx hb dX3_put_93 (lv_at hl 6 rfl) ?_
          obtain ⟨g13, hm⟩ := gdE hm
          refine tg_iast C hw (tp_0 ad dI dJ u12) g13 (ts_0 ad dI dJ u12 _ _) dX3_put_95 (fun H locs hw => ?_)
          obtain ⟨u14, eu14, hm⟩ := nmE hm
          rw [← eu14] at hw
          refine lv_aload_n hx hb dX3_put_96 rfl (lv_at hl 2 rfl) ?_
          refine lv_iconst (v := 4) hx hb dX3_put_97 (by decide) ?_
          refine lv_iload_n hx hb dX3_put_98 rfl (lv_at hl 3 rfl) ?_
          refine lv_iload_n hx hb dX3_put_99 rfl (lv_at hl 4 rfl) ?_
          obtain ⟨r16, u15, er16, hm⟩ := bd2E hm
          refine tg_calli hw (va_runV (As := [.int (4 : Int32), .int x1, .int x2]) (rest := []) ⟨hx, hb, hml, hown, hts⟩ (w_X3_stays l er16) (cw_X3_stays hts q2150 ⟨Nat.le_of_ble_eq_true rfl, Nat.le_of_ble_eq_true rfl⟩) (tg_pre C hw _) rfl rfl hl.1 rfl (lv_room (Nat.le_of_ble_eq_true rfl)) dX3_put_100 ⟨Nat.le_of_ble_eq_true rfl, Nat.le_of_ble_eq_true rfl⟩) (fun H locs hw => ?_)
          refine lv_if_ge (tgt := 112) hx hb dX3_put_103 (by decide) (fun c17 => ?_) (fun c17 => ?_)
          · have hm := ifT hm c17
            refine lv_iload hx hb dX3_put_112 (lv_at hl 0 rfl) ?_
            exact hB114 u15 v11 _ _ _ hm hw (lv_sub hl [] rfl)
          · have hm := ifF hm c17
            refine lv_sipush (v := -2000) hx hb dX3_put_106 (by decide) ?_
            refine lv_goto (tgt := 114) hx hb dX3_put_109 (by decide) ?_
            exact hB114 u15 (-2000 : Int32) _ _ _ hm hw (lv_sub hl [] rfl)
        · have hm := ifT' hm c8
          refine lv_aload_n hx hb dX3_put_46 rfl (lv_at hl 0 rfl) ?_
          refine lv_iconst (v := 4) hx hb dX3_put_47 (by decide) ?_
          refine lv_iconst (v := 3) hx hb dX3_put_48 (by decide) ?_
          refine lv_iload_n hx hb dX3_put_49 rfl (lv_at hl 1 rfl) ?_
          refine lv_iload_n hx hb dX3_put_50 rfl (lv_at hl 2 rfl) ?_
          obtain ⟨r19, u18, er19, hm⟩ := bd2E hm
          refine tg_calli hw (va_runV (As := [.int (4 : Int32), .int (3 : Int32), .int x1, .int x2]) (rest := []) ⟨hx, hb, hml, hown, hts⟩ (w_X3_refuses l er19) (cw_X3_refuses hts q2142 ⟨Nat.le_of_ble_eq_true rfl, Nat.le_of_ble_eq_true rfl⟩) (tg_pre C hw _) rfl rfl hl.1 rfl (lv_room (Nat.le_of_ble_eq_true rfl)) dX3_put_51 ⟨Nat.le_of_ble_eq_true rfl, Nat.le_of_ble_eq_true rfl⟩) (fun H locs hw => ?_)
          refine lv_pop hx hb dX3_put_54 rfl ?_
          refine lv_sipush (v := -2000) hx hb dX3_put_55 (by decide) ?_
          rw [← hQ]
          exact W.iret (v := (-2000 : Int32)) hx hb hr (fun t ht hW => ⟨⟨(-2000 : Int32), u18, rfl, retE hm, by rw [ht]; exact hw.1, hw.2.1⟩, hw.2.2.1.F ht⟩) hw.2.2.1.2.2 dX3_put_58
      · have hm := ifT' hm c7
        exact hB31 u1 _ _ _ hm hw (lv_sub hl [] rfl)
def m_X3_why_63 (f : Nat) (u : TS) (y0 : Int32) : Option (Int32 × TS) := some (y0, u)
def m_X3_why (f : Nat) (u : TS) (x1 : Int32) : Option (Int32 × TS) := bd (m_X3_in f (Int32.toInt64 x1) (0 : Int64) (3 : Int64)) fun r1 =>
    if ¬ r1 = 0 then
    if ¬ (tI u 7) = 0 then
    if ¬ x1 = 0 then
    if ¬ x1 = (1 : Int32) then
    if ¬ x1 = (2 : Int32) then
    m_X3_why_63 f u (tI u 10)
    else m_X3_why_63 f u (tI u 9)
    else m_X3_why_63 f u (tI u 8)
    else m_X3_why_63 f u (tI u 7)
    else some ((-1 : Int32), u)
    else some ((-2 : Int32), u)
abbrev rm_X3_why : Room := { frames := 1, cells := 0, slots := 0, locals := 25 }
theorem cw_X3_why {R : Room} {s : State} {args : Array Value} {own : String} {idx : Nat} (hts : ∀ w ∈ lw_all, w.before args s = true) (hl : Cond.methodLink own idx yX3_why ∈ lw_all) (hR : rm_X3_why.frames + 1 ≤ R.frames ∧ 8 + (2 + 11) + rm_X3_why.locals ≤ R.locals) : CallW R s args own RX3 idx yX3_why cX3_why 2 (Option.some Jvm.ClassFile.FieldType.int) (ws_ yX3_why cX3_why 2 (Option.some Jvm.ClassFile.FieldType.int)) rm_X3_why 0 0 1 := cwV 1 hts (lw_V hl q2175 q2176 q125 q2177) rfl rfl rfl (by decide +kernel) hR
set_option maxHeartbeats 4000000 in
set_option maxRecDepth 100000 in
theorem w_X3_why (l : Launch) {D : va_G} {ad : Nat → Nat} {dI dJ : ClassId} {A : Nat → Prop} {f : Nat} {u u9 : TS} {r0 : Int32} {x1 : Int32} (hm : m_X3_why f u x1 = some (r0, u9)) : Met l yX3_why (ws_ yX3_why cX3_why 2 (Option.some Jvm.ClassFile.FieldType.int)) rm_X3_why (va_Pc [.ref (ad 40), .int x1] (TPre D ad dI dJ A u)) (va_Qi (fun r u => r = r0 ∧ u = u9) (TPost D ad dI dJ A) A) 0 0 A := by
  refine Met.ofW (cc := cX3_why) (maxL := 2) (ret := (Option.some Jvm.ClassFile.FieldType.int)) (by decide) rfl ?_
  intro p e s m args below meth c s₁ B hml hv
  have hx := B.exec
  have hb := B.bytes
  have hr := B.returns
  have hts := atoms_spec (ws := (ws_ yX3_why cX3_why 2 (Option.some Jvm.ClassFile.FieldType.int))) B.pre
  have hts : ∀ w ∈ lw_all, w.before args s = true := fun w h => hts w (List.mem_cons_of_mem _ h)
  have hown : s.vm.findClass RX3 = some m.cls := findClass_of_methodNamed B.named
  have hlocks := B.notSynchronized
  obtain ⟨hav, hv⟩ := hv
  have C : TC p s m args c cX3_why D dI dJ := ⟨hx, hb, hown, hts, hv.2.1⟩
  have hw : TH D ad dI dJ A s.heap u s.heap [] := ⟨hv.1, hv.2.2.1, va_S.rf, hv.2.2.2⟩
  generalize hQ : MQ below (va_Qi (fun r u => r = r0 ∧ u = u9) (TPost D ad dI dJ A) A) args s 0 0 A = QQ
  have hent := lg_entry_eq m [.ref (ad 40), .int x1] 2
  rw [← hav] at hent
  rw [hent]
  have hl := lv_entry ([.ref (ad 40), .int x1]) (n := 2) (Nat.le_of_ble_eq_true rfl)
  generalize (lg_sl ([.ref (ad 40), .int x1]) ++ List.replicate (2 - (lg_sl ([.ref (ad 40), .int x1])).length) Slot.unset).toArray = ls at hl ⊢
  have hl : lv_has ls 2 [(0, .ref (ad 40)), (1, .int x1)] := hl
  change W p l e rm_X3_why s m args below meth c s.heap [] 0 0 QQ (F0 m 0 ls [])
  have hB63 : ∀ (u : TS) (y0 : Int32) (H : Heap) (locs : List Loc) (ls : Array Slot), m_X3_why_63 f u y0 = some (r0, u9) → TH D ad dI dJ A s.heap u H locs → lv_has ls 2 [] → W p l e rm_X3_why s m args below meth c H locs 0 0 QQ (F0 m 63 ls [.int y0]) := by
    intro u y0 H locs ls hm hw hl
    rw [m_X3_why_63] at hm
    rw [← hQ]
    exact W.iret (v := y0) hx hb hr (fun t ht hW => ⟨⟨y0, u, rfl, retE hm, by rw [ht]; exact hw.1, hw.2.1⟩, hw.2.2.1.F ht⟩) hw.2.2.1.2.2 dX3_why_63
  rw [m_X3_why] at hm
  refine lv_iload_n hx hb dX3_why_0 rfl (lv_at hl 1 rfl) ?_
  refine lv_i2l hx hb dX3_why_1 rfl ?_
  refine lv_lconst (v := 0) hx hb dX3_why_2 (by decide) ?_
  refine lv_ldc2 hx hb hown (hts _ q1865) dX3_why_3 ?_
  obtain ⟨r1, er1, hm⟩ := bdE hm
  refine sci (va_runS (As := [.long (Int32.toInt64 x1), .long (0 : Int64), .long (3 : Int64)]) (rest := []) ⟨hx, hb, hml, hown, hts⟩ (w_X3_in l er1) (cw_X3_in hts q1695 ⟨Nat.le_of_ble_eq_true rfl, Nat.le_of_ble_eq_true rfl⟩) (pre_s _) rfl rfl hl.1 rfl (lv_room (Nat.le_of_ble_eq_true rfl)) dX3_why_6 ⟨Nat.le_of_ble_eq_true rfl, Nat.le_of_ble_eq_true rfl⟩) ?_
  refine lv_if_ne (tgt := 15) hx hb dX3_why_9 (by decide) (fun c2 => ?_) (fun c2 => ?_)
  · have hm := ifT hm c2
    refine lv_aload_n hx hb dX3_why_15 rfl (lv_at hl 0 rfl) ?_
    refine tg_get C hw 7 (by decide) q1573 rfl dX3_why_16 ?_
    refine lv_if_ne (tgt := 24) hx hb dX3_why_19 (by decide) (fun c3 => ?_) (fun c3 => ?_)
    · have hm := ifT hm c3
      refine lv_iload_n hx hb dX3_why_24 rfl (lv_at hl 1 rfl) ?_
      refine lv_if_ne (tgt := 35) hx hb dX3_why_25 (by decide) (fun c4 => ?_) (fun c4 => ?_)
      · have hm := ifT hm c4
        refine lv_iload_n hx hb dX3_why_35 rfl (lv_at hl 1 rfl) ?_
        refine lv_iconst (v := 1) hx hb dX3_why_36 (by decide) ?_
        refine lv_icmp_ne (tgt := 47) hx hb dX3_why_37 (by decide) (fun c5 => ?_) (fun c5 => ?_)
        · have hm := ifT hm c5
          refine lv_iload_n hx hb dX3_why_47 rfl (lv_at hl 1 rfl) ?_
          refine lv_iconst (v := 2) hx hb dX3_why_48 (by decide) ?_
          refine lv_icmp_ne (tgt := 59) hx hb dX3_why_49 (by decide) (fun c6 => ?_) (fun c6 => ?_)
          · have hm := ifT hm c6
            refine lv_aload_n hx hb dX3_why_59 rfl (lv_at hl 0 rfl) ?_
            refine tg_get C hw 10 (by decide) q1576 rfl dX3_why_60 ?_
            exact hB63 u (tI u 10) _ _ _ hm hw (lv_sub hl [] rfl)
          · have hm := ifT' hm c6
            refine lv_aload_n hx hb dX3_why_52 rfl (lv_at hl 0 rfl) ?_
            refine tg_get C hw 9 (by decide) q1575 rfl dX3_why_53 ?_
            refine lv_goto (tgt := 63) hx hb dX3_why_56 (by decide) ?_
            exact hB63 u (tI u 9) _ _ _ hm hw (lv_sub hl [] rfl)
        · have hm := ifT' hm c5
          refine lv_aload_n hx hb dX3_why_40 rfl (lv_at hl 0 rfl) ?_
          refine tg_get C hw 8 (by decide) q1574 rfl dX3_why_41 ?_
          refine lv_goto (tgt := 63) hx hb dX3_why_44 (by decide) ?_
          exact hB63 u (tI u 8) _ _ _ hm hw (lv_sub hl [] rfl)
      · have hm := ifT' hm c4
        refine lv_aload_n hx hb dX3_why_28 rfl (lv_at hl 0 rfl) ?_
        refine tg_get C hw 7 (by decide) q1573 rfl dX3_why_29 ?_
        refine lv_goto (tgt := 63) hx hb dX3_why_32 (by decide) ?_
        exact hB63 u (tI u 7) _ _ _ hm hw (lv_sub hl [] rfl)
    · have hm := ifT' hm c3
      refine lv_iconst (v := -1) hx hb dX3_why_22 (by decide) ?_
      rw [← hQ]
      exact W.iret (v := (-1 : Int32)) hx hb hr (fun t ht hW => ⟨⟨(-1 : Int32), u, rfl, retE hm, by rw [ht]; exact hw.1, hw.2.1⟩, hw.2.2.1.F ht⟩) hw.2.2.1.2.2 dX3_why_23
  · have hm := ifT' hm c2
    refine lv_bipush (v := -2) hx hb dX3_why_12 (by decide) ?_
    rw [← hQ]
    exact W.iret (v := (-2 : Int32)) hx hb hr (fun t ht hW => ⟨⟨(-2 : Int32), u, rfl, retE hm, by rw [ht]; exact hw.1, hw.2.1⟩, hw.2.2.1.F ht⟩) hw.2.2.1.2.2 dX3_why_14
def m_X3_undo (f : Nat) (u : TS) : Option (Int32 × TS) := if ¬ (tA u 0 (Int32.toNatClampNeg (1 : Int32))) = 0 then
    if ¬ (tA u 0 (Int32.toNatClampNeg (2 : Int32))) = 0 then
    bd (m_X3_goesBack f u ((tA u 0 (Int32.toNatClampNeg (2 : Int32))) - (1 : Int32))) fun u3 =>
    some ((tA u3 0 (Int32.toNatClampNeg (2 : Int32))), u3)
    else some ((-5 : Int32), u)
    else some ((-2 : Int32), u)
abbrev rm_X3_undo : Room := { frames := 1, cells := 0, slots := 0, locals := 22 }
theorem cw_X3_undo {R : Room} {s : State} {args : Array Value} {own : String} {idx : Nat} (hts : ∀ w ∈ lw_all, w.before args s = true) (hl : Cond.methodLink own idx yX3_undo ∈ lw_all) (hR : rm_X3_undo.frames + 1 ≤ R.frames ∧ 8 + (1 + 11) + rm_X3_undo.locals ≤ R.locals) : CallW R s args own RX3 idx yX3_undo cX3_undo 1 (Option.some Jvm.ClassFile.FieldType.int) (ws_ yX3_undo cX3_undo 1 (Option.some Jvm.ClassFile.FieldType.int)) rm_X3_undo 0 0 0 := cwV 0 hts (lw_V hl q2179 q2180 q125 q2181) rfl rfl rfl (by decide +kernel) hR
set_option maxHeartbeats 4000000 in
set_option maxRecDepth 100000 in
theorem w_X3_undo (l : Launch) {D : va_G} {ad : Nat → Nat} {dI dJ : ClassId} {A : Nat → Prop} {f : Nat} {u u9 : TS} {r0 : Int32}  (hm : m_X3_undo f u = some (r0, u9)) : Met l yX3_undo (ws_ yX3_undo cX3_undo 1 (Option.some Jvm.ClassFile.FieldType.int)) rm_X3_undo (va_Pc [.ref (ad 40)] (TPre D ad dI dJ A u)) (va_Qi (fun r u => r = r0 ∧ u = u9) (TPost D ad dI dJ A) A) 0 0 A := by
  refine Met.ofW (cc := cX3_undo) (maxL := 1) (ret := (Option.some Jvm.ClassFile.FieldType.int)) (by decide) rfl ?_
  intro p e s m args below meth c s₁ B hml hv
  have hx := B.exec
  have hb := B.bytes
  have hr := B.returns
  have hts := atoms_spec (ws := (ws_ yX3_undo cX3_undo 1 (Option.some Jvm.ClassFile.FieldType.int))) B.pre
  have hts : ∀ w ∈ lw_all, w.before args s = true := fun w h => hts w (List.mem_cons_of_mem _ h)
  have hown : s.vm.findClass RX3 = some m.cls := findClass_of_methodNamed B.named
  have hlocks := B.notSynchronized
  obtain ⟨hav, hv⟩ := hv
  have C : TC p s m args c cX3_undo D dI dJ := ⟨hx, hb, hown, hts, hv.2.1⟩
  have hw : TH D ad dI dJ A s.heap u s.heap [] := ⟨hv.1, hv.2.2.1, va_S.rf, hv.2.2.2⟩
  generalize hQ : MQ below (va_Qi (fun r u => r = r0 ∧ u = u9) (TPost D ad dI dJ A) A) args s 0 0 A = QQ
  have hent := lg_entry_eq m [.ref (ad 40)] 1
  rw [← hav] at hent
  rw [hent]
  have hl := lv_entry ([.ref (ad 40)]) (n := 1) (Nat.le_of_ble_eq_true rfl)
  generalize (lg_sl ([.ref (ad 40)]) ++ List.replicate (1 - (lg_sl ([.ref (ad 40)])).length) Slot.unset).toArray = ls at hl ⊢
  have hl : lv_has ls 1 [(0, .ref (ad 40))] := hl
  change W p l e rm_X3_undo s m args below meth c s.heap [] 0 0 QQ (F0 m 0 ls [])
  rw [m_X3_undo] at hm
  refine lv_aload_n hx hb dX3_undo_0 rfl (lv_at hl 0 rfl) ?_
  refine tg_get C hw 0 (by decide) q1566 rfl dX3_undo_1 ?_
  refine lv_iconst (v := 1) hx hb dX3_undo_4 (by decide) ?_
  refine tg_iald C hw (tp_0 ad dI dJ u) (by decide) dX3_undo_5 ?_
  refine lv_if_ne (tgt := 12) hx hb dX3_undo_6 (by decide) (fun c1 => ?_) (fun c1 => ?_)
  · have hm := ifT hm c1
    refine lv_aload_n hx hb dX3_undo_12 rfl (lv_at hl 0 rfl) ?_
    refine tg_get C hw 0 (by decide) q1566 rfl dX3_undo_13 ?_
    refine lv_iconst (v := 2) hx hb dX3_undo_16 (by decide) ?_
    refine tg_iald C hw (tp_0 ad dI dJ u) (by decide) dX3_undo_17 ?_
    refine lv_if_ne (tgt := 24) hx hb dX3_undo_18 (by decide) (fun c2 => ?_) (fun c2 => ?_)
    · have hm := ifT hm c2
      refine lv_aload_n hx hb dX3_undo_24 rfl (lv_at hl 0 rfl) ?_
      refine lv_aload_n hx hb dX3_undo_25 rfl (lv_at hl 0 rfl) ?_
      refine tg_get C hw 0 (by decide) q1566 rfl dX3_undo_26 ?_
      refine lv_iconst (v := 2) hx hb dX3_undo_29 (by decide) ?_
      refine tg_iald C hw (tp_0 ad dI dJ u) (by decide) dX3_undo_30 ?_
      refine lv_iconst (v := 1) hx hb dX3_undo_31 (by decide) ?_
      refine lv_isub hx hb dX3_undo_32 ?_
      obtain ⟨u3, eu3, hm⟩ := bdE hm
      refine tg_callv hw (va_runV (As := [.int ((tA u 0 (Int32.toNatClampNeg (2 : Int32))) - (1 : Int32))]) (rest := []) ⟨hx, hb, hml, hown, hts⟩ (w_X3_goesBack l eu3) (cw_X3_goesBack hts q2156 ⟨Nat.le_of_ble_eq_true rfl, Nat.le_of_ble_eq_true rfl⟩) (tg_pre C hw _) rfl rfl hl.1 rfl (lv_room (Nat.le_of_ble_eq_true rfl)) dX3_undo_33 ⟨Nat.le_of_ble_eq_true rfl, Nat.le_of_ble_eq_true rfl⟩) (fun H locs hw => ?_)
      refine lv_aload_n hx hb dX3_undo_36 rfl (lv_at hl 0 rfl) ?_
      refine tg_get C hw 0 (by decide) q1566 rfl dX3_undo_37 ?_
      refine lv_iconst (v := 2) hx hb dX3_undo_40 (by decide) ?_
      refine tg_iald C hw (tp_0 ad dI dJ u3) (by decide) dX3_undo_41 ?_
      rw [← hQ]
      exact W.iret (v := (tA u3 0 (Int32.toNatClampNeg (2 : Int32)))) hx hb hr (fun t ht hW => ⟨⟨(tA u3 0 (Int32.toNatClampNeg (2 : Int32))), u3, rfl, retE hm, by rw [ht]; exact hw.1, hw.2.1⟩, hw.2.2.1.F ht⟩) hw.2.2.1.2.2 dX3_undo_42
    · have hm := ifT' hm c2
      refine lv_bipush (v := -5) hx hb dX3_undo_21 (by decide) ?_
      rw [← hQ]
      exact W.iret (v := (-5 : Int32)) hx hb hr (fun t ht hW => ⟨⟨(-5 : Int32), u, rfl, retE hm, by rw [ht]; exact hw.1, hw.2.1⟩, hw.2.2.1.F ht⟩) hw.2.2.1.2.2 dX3_undo_23
  · have hm := ifT' hm c1
    refine lv_bipush (v := -2) hx hb dX3_undo_9 (by decide) ?_
    rw [← hQ]
    exact W.iret (v := (-2 : Int32)) hx hb hr (fun t ht hW => ⟨⟨(-2 : Int32), u, rfl, retE hm, by rw [ht]; exact hw.1, hw.2.1⟩, hw.2.2.1.F ht⟩) hw.2.2.1.2.2 dX3_undo_11
def m_X3_anew_28 (f : Nat) (u : TS) (x1 : Int32) : Option (Int32 × TS) := some (x1, u)
def m_X3_anew (f : Nat) (u : TS) : Option (Int32 × TS) := if ¬ (tA u 0 (Int32.toNatClampNeg (1 : Int32))) = 0 then
    nmv ((tA u 0 (Int32.toNatClampNeg (2 : Int32))) : Int32) fun v2 =>
    if v2 ≤ 0 then
    m_X3_anew_28 f u v2
    else bd (m_X3_goesBack f u (0 : Int32)) fun u4 =>
    m_X3_anew_28 f u4 v2
    else some ((-2 : Int32), u)
abbrev rm_X3_anew : Room := { frames := 1, cells := 0, slots := 0, locals := 22 }
theorem cw_X3_anew {R : Room} {s : State} {args : Array Value} {own : String} {idx : Nat} (hts : ∀ w ∈ lw_all, w.before args s = true) (hl : Cond.methodLink own idx yX3_anew ∈ lw_all) (hR : rm_X3_anew.frames + 1 ≤ R.frames ∧ 8 + (2 + 11) + rm_X3_anew.locals ≤ R.locals) : CallW R s args own RX3 idx yX3_anew cX3_anew 2 (Option.some Jvm.ClassFile.FieldType.int) (ws_ yX3_anew cX3_anew 2 (Option.some Jvm.ClassFile.FieldType.int)) rm_X3_anew 0 0 0 := cwV 0 hts (lw_V hl q2183 q2184 q125 q2185) rfl rfl rfl (by decide +kernel) hR
set_option maxHeartbeats 4000000 in
set_option maxRecDepth 100000 in
theorem w_X3_anew (l : Launch) {D : va_G} {ad : Nat → Nat} {dI dJ : ClassId} {A : Nat → Prop} {f : Nat} {u u9 : TS} {r0 : Int32}  (hm : m_X3_anew f u = some (r0, u9)) : Met l yX3_anew (ws_ yX3_anew cX3_anew 2 (Option.some Jvm.ClassFile.FieldType.int)) rm_X3_anew (va_Pc [.ref (ad 40)] (TPre D ad dI dJ A u)) (va_Qi (fun r u => r = r0 ∧ u = u9) (TPost D ad dI dJ A) A) 0 0 A := by
  refine Met.ofW (cc := cX3_anew) (maxL := 2) (ret := (Option.some Jvm.ClassFile.FieldType.int)) (by decide) rfl ?_
  intro p e s m args below meth c s₁ B hml hv
  have hx := B.exec
  have hb := B.bytes
  have hr := B.returns
  have hts := atoms_spec (ws := (ws_ yX3_anew cX3_anew 2 (Option.some Jvm.ClassFile.FieldType.int))) B.pre
  have hts : ∀ w ∈ lw_all, w.before args s = true := fun w h => hts w (List.mem_cons_of_mem _ h)
  have hown : s.vm.findClass RX3 = some m.cls := findClass_of_methodNamed B.named
  have hlocks := B.notSynchronized
  obtain ⟨hav, hv⟩ := hv
  have C : TC p s m args c cX3_anew D dI dJ := ⟨hx, hb, hown, hts, hv.2.1⟩
  have hw : TH D ad dI dJ A s.heap u s.heap [] := ⟨hv.1, hv.2.2.1, va_S.rf, hv.2.2.2⟩
  generalize hQ : MQ below (va_Qi (fun r u => r = r0 ∧ u = u9) (TPost D ad dI dJ A) A) args s 0 0 A = QQ
  have hent := lg_entry_eq m [.ref (ad 40)] 2
  rw [← hav] at hent
  rw [hent]
  have hl := lv_entry ([.ref (ad 40)]) (n := 2) (Nat.le_of_ble_eq_true rfl)
  generalize (lg_sl ([.ref (ad 40)]) ++ List.replicate (2 - (lg_sl ([.ref (ad 40)])).length) Slot.unset).toArray = ls at hl ⊢
  have hl : lv_has ls 2 [(0, .ref (ad 40))] := hl
  change W p l e rm_X3_anew s m args below meth c s.heap [] 0 0 QQ (F0 m 0 ls [])
  have hB28 : ∀ (u : TS) (x1 : Int32) (H : Heap) (locs : List Loc) (ls : Array Slot), m_X3_anew_28 f u x1 = some (r0, u9) → TH D ad dI dJ A s.heap u H locs → lv_has ls 2 [(1, .int x1)] → W p l e rm_X3_anew s m args below meth c H locs 0 0 QQ (F0 m 28 ls []) := by
    intro u x1 H locs ls hm hw hl
    rw [m_X3_anew_28] at hm
    refine lv_iload_n hx hb dX3_anew_28 rfl (lv_at hl 0 rfl) ?_
    rw [← hQ]
    exact W.iret (v := x1) hx hb hr (fun t ht hW => ⟨⟨x1, u, rfl, retE hm, by rw [ht]; exact hw.1, hw.2.1⟩, hw.2.2.1.F ht⟩) hw.2.2.1.2.2 dX3_anew_29
  rw [m_X3_anew] at hm
  refine lv_aload_n hx hb dX3_anew_0 rfl (lv_at hl 0 rfl) ?_
  refine tg_get C hw 0 (by decide) q1566 rfl dX3_anew_1 ?_
  refine lv_iconst (v := 1) hx hb dX3_anew_4 (by decide) ?_
  refine tg_iald C hw (tp_0 ad dI dJ u) (by decide) dX3_anew_5 ?_
  refine lv_if_ne (tgt := 12) hx hb dX3_anew_6 (by decide) (fun c1 => ?_) (fun c1 => ?_)
  · have hm := ifT hm c1
    refine lv_aload_n hx hb dX3_anew_12 rfl (lv_at hl 0 rfl) ?_
    refine tg_get C hw 0 (by decide) q1566 rfl dX3_anew_13 ?_
    refine lv_iconst (v := 2) hx hb dX3_anew_16 (by decide) ?_
    refine tg_iald C hw (tp_0 ad dI dJ u) (by decide) dX3_anew_17 ?_
    refine lv_topi (fun v2 ev2 => ?_)
    have hm := nmK hm ev2
    refine lv_istore_n (lv' := [(1, .int v2), (0, .ref (ad 40))]) hx hb dX3_anew_18 rfl hl (by decide) rfl (fun ls hl => ?_)
    refine lv_iload_n hx hb dX3_anew_19 rfl (lv_at hl 0 rfl) ?_
    refine lv_if_le (tgt := 28) hx hb dX3_anew_20 (by decide) (fun c3 => ?_) (fun c3 => ?_)
    · have hm := ifT hm c3
      exact hB28 u v2 _ _ _ hm hw (lv_sub hl [0] rfl)
    · have hm := ifF hm c3
      refine lv_aload_n hx hb dX3_anew_23 rfl (lv_at hl 1 rfl) ?_
      refine lv_iconst (v := 0) hx hb dX3_anew_24 (by decide) ?_
      obtain ⟨u4, eu4, hm⟩ := bdE hm
      refine tg_callv hw (va_runV (As := [.int (0 : Int32)]) (rest := []) ⟨hx, hb, hml, hown, hts⟩ (w_X3_goesBack l eu4) (cw_X3_goesBack hts q2156 ⟨Nat.le_of_ble_eq_true rfl, Nat.le_of_ble_eq_true rfl⟩) (tg_pre C hw _) rfl rfl hl.1 rfl (lv_room (Nat.le_of_ble_eq_true rfl)) dX3_anew_25 ⟨Nat.le_of_ble_eq_true rfl, Nat.le_of_ble_eq_true rfl⟩) (fun H locs hw => ?_)
      exact hB28 u4 v2 _ _ _ hm hw (lv_sub hl [0] rfl)
  · have hm := ifT' hm c1
    refine lv_bipush (v := -2) hx hb dX3_anew_9 (by decide) ?_
    rw [← hQ]
    exact W.iret (v := (-2 : Int32)) hx hb hr (fun t ht hW => ⟨⟨(-2 : Int32), u, rfl, retE hm, by rw [ht]; exact hw.1, hw.2.1⟩, hw.2.2.1.F ht⟩) hw.2.2.1.2.2 dX3_anew_11
