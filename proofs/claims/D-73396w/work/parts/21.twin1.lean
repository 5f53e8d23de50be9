/-! walks of the twin (printed by gen/walk.py) -/
set_option maxRecDepth 100000
def m_X3_hasBelow_32 (f : Nat) (u : TS) : Option (Int32 × TS) := some ((0 : Int32), u)
def m_X3_hasBelow_24 (f : Nat) (u : TS) : Option (Int32 × TS) := some ((1 : Int32), u)
def m_X3_hasBelow_4 (f : Nat) : Nat → TS → Int32 → Int32 → Option (Int32 × TS)
  | 0, _, _, _ => none
  | n4 + 1, u, x1, x2 => if (3 : Int32) ≤ x2 then
    m_X3_hasBelow_32 f u
    else gd (ix (((3 : Int32) * x2) + x1) 9) <|
    if (tB u 18 (Int32.toNatClampNeg (((3 : Int32) * x2) + x1))) = (0 : Int64) then
    nmv ((x2 + 1) : Int32) fun v4 =>
    m_X3_hasBelow_4 f n4 u x1 v4
    else m_X3_hasBelow_24 f u
def m_X3_hasBelow (f : Nat) (u : TS) (x1 : Int32) : Option (Int32 × TS) := nmv ((x1 + (1 : Int32)) : Int32) fun v1 =>
    m_X3_hasBelow_4 f f u x1 v1
abbrev rm_X3_hasBelow : Room := { frames := 0, cells := 0, slots := 0, locals := 0 }
theorem cw_X3_hasBelow {R : Room} {s : State} {args : Array Value} {own : String} {idx : Nat} (hts : ∀ w ∈ lw_all, w.before args s = true) (hl : Cond.methodLink own idx yX3_hasBelow ∈ lw_all) (hR : rm_X3_hasBelow.frames + 1 ≤ R.frames ∧ 8 + (3 + 11) + rm_X3_hasBelow.locals ≤ R.locals) : CallW R s args own RX3 idx yX3_hasBelow cX3_hasBelow 3 (Option.some Jvm.ClassFile.FieldType.boolean) (ws_ yX3_hasBelow cX3_hasBelow 3 (Option.some Jvm.ClassFile.FieldType.boolean)) rm_X3_hasBelow 0 0 1 := cwV 1 hts (lw_V hl q1838 qs74 q125 q1839) rfl rfl rfl (by decide +kernel) hR
set_option maxHeartbeats 4000000 in
set_option maxRecDepth 100000 in
theorem w_X3_hasBelow (l : Launch) {D : va_G} {ad : Nat → Nat} {dI dJ : ClassId} {A : Nat → Prop} {f : Nat} {u u9 : TS} {r0 : Int32} {x1 : Int32} (hm : m_X3_hasBelow f u x1 = some (r0, u9)) : Met l yX3_hasBelow (ws_ yX3_hasBelow cX3_hasBelow 3 (Option.some Jvm.ClassFile.FieldType.boolean)) rm_X3_hasBelow (va_Pc [.ref (ad 40), .int x1] (TPre D ad dI dJ A u)) (va_Qi (fun r u => r = r0 ∧ u = u9) (TPost D ad dI dJ A) A) 0 0 A := by
  refine Met.ofW (cc := cX3_hasBelow) (maxL := 3) (ret := (Option.some Jvm.ClassFile.FieldType.boolean)) (by decide) rfl ?_
  intro p e s m args below meth c s₁ B hml hv
  have hx := B.exec
  have hb := B.bytes
  have hr := B.returns
  have hts := atoms_spec (ws := (ws_ yX3_hasBelow cX3_hasBelow 3 (Option.some Jvm.ClassFile.FieldType.boolean))) B.pre
  have hts : ∀ w ∈ lw_all, w.before args s = true := fun w h => hts w (List.mem_cons_of_mem _ h)
  have hown : s.vm.findClass RX3 = some m.cls := findClass_of_methodNamed B.named
  have hlocks := B.notSynchronized
  obtain ⟨hav, hv⟩ := hv
  have C : TC p s m args c cX3_hasBelow D dI dJ := ⟨hx, hb, hown, hts, hv.2.1⟩
  have hw : TH D ad dI dJ A s.heap u s.heap [] := ⟨hv.1, hv.2.2.1, va_S.rf, hv.2.2.2⟩
  generalize hQ : MQ below (va_Qi (fun r u => r = r0 ∧ u = u9) (TPost D ad dI dJ A) A) args s 0 0 A = QQ
  have hent := lg_entry_eq m [.ref (ad 40), .int x1] 3
  rw [← hav] at hent
  rw [hent]
  have hl := lv_entry ([.ref (ad 40), .int x1]) (n := 3) (Nat.le_of_ble_eq_true rfl)
  generalize (lg_sl ([.ref (ad 40), .int x1]) ++ List.replicate (3 - (lg_sl ([.ref (ad 40), .int x1])).length) Slot.unset).toArray = ls at hl ⊢
  have hl : lv_has ls 3 [(0, .ref (ad 40)), (1, .int x1)] := hl
  change W p l e rm_X3_hasBelow s m args below meth c s.heap [] 0 0 QQ (F0 m 0 ls [])
  have hB32 : ∀ (u : TS) (H : Heap) (locs : List Loc) (ls : Array Slot), m_X3_hasBelow_32 f u = some (r0, u9) → TH D ad dI dJ A s.heap u H locs → lv_has ls 3 [] → W p l e rm_X3_hasBelow s m args below meth c H locs 0 0 QQ (F0 m 32 ls []) := by
    intro u H locs ls hm hw hl
    rw [m_X3_hasBelow_32] at hm
    refine lv_iconst (v := 0) hx hb dX3_hasBelow_32 (by decide) ?_
    rw [← hQ]
    exact W.zret (v := (0 : Int32)) hx hb hr rfl (fun t ht hW => ⟨⟨(0 : Int32), u, rfl, retE hm, by rw [ht]; exact hw.1, hw.2.1⟩, hw.2.2.1.F ht⟩) hw.2.2.1.2.2 dX3_hasBelow_33
  have hB24 : ∀ (u : TS) (H : Heap) (locs : List Loc) (ls : Array Slot), m_X3_hasBelow_24 f u = some (r0, u9) → TH D ad dI dJ A s.heap u H locs → lv_has ls 3 [] → W p l e rm_X3_hasBelow s m args below meth c H locs 0 0 QQ (F0 m 24 ls []) := by
    intro u H locs ls hm hw hl
    rw [m_X3_hasBelow_24] at hm
    refine lv_iconst (v := 1) hx hb dX3_hasBelow_24 (by decide) ?_
    rw [← hQ]
    exact W.zret (v := (1 : Int32)) hx hb hr rfl (fun t ht hW => ⟨⟨(1 : Int32), u, rfl, retE hm, by rw [ht]; exact hw.1, hw.2.1⟩, hw.2.2.1.F ht⟩) hw.2.2.1.2.2 dX3_hasBelow_25
  have hB4 : ∀ (n4 : Nat), ∀ (u : TS) (x1 : Int32) (x2 : Int32) (H : Heap) (locs : List Loc) (ls : Array Slot), m_X3_hasBelow_4 f n4 u x1 x2 = some (r0, u9) → TH D ad dI dJ A s.heap u H locs → lv_has ls 3 [(0, .ref (ad 40)), (1, .int x1), (2, .int x2)] → W p l e rm_X3_hasBelow s m args below meth c H locs 0 0 QQ (F0 m 4 ls []) := by
    intro n4
    induction n4 with
    | zero => intro u x1 x2 H locs ls hm hw hl; rw [m_X3_hasBelow_4] at hm; exact noE hm
    | succ n4 ih4 =>
      intro u x1 x2 H locs ls hm hw hl
      rw [m_X3_hasBelow_4] at hm
      refine lv_iload_n hx hb dX3_hasBelow_4 rfl (lv_at hl 2 rfl) ?_
      refine lv_iconst (v := 3) hx hb dX3_hasBelow_5 (by decide) ?_
      refine lv_icmp_ge (tgt := 32) hx hb dX3_hasBelow_6 (by decide) (fun c1 => ?_) (fun c1 => ?_)
      · have hm := ifT hm c1
        exact hB32 u _ _ _ hm hw (lv_sub hl [] rfl)
      · have hm := ifF hm c1
        refine lv_aload_n hx hb dX3_hasBelow_9 rfl (lv_at hl 0 rfl) ?_
        refine tg_get C hw 18 (by decide) q1584 rfl dX3_hasBelow_10 ?_
        refine lv_iconst (v := 3) hx hb dX3_hasBelow_13 (by decide) ?_
        refine lv_iload_n hx hb dX3_hasBelow_14 rfl (lv_at hl 2 rfl) ?_
        refine lv_imul hx hb dX3_hasBelow_15 ?_
        refine lv_iload_n hx hb dX3_hasBelow_16 rfl (lv_at hl 1 rfl) ?_
        refine lv_iadd hx hb dX3_hasBelow_17 ?_
        obtain ⟨g2, hm⟩ := gdE hm
        refine tg_lald C hw (tp_18 ad dI dJ u) g2 dX3_hasBelow_18 ?_
        refine lv_lconst (v := 0) hx hb dX3_hasBelow_19 (by decide) ?_
        refine lc_eq (tgt := 26) hx hb dX3_hasBelow_20 dX3_hasBelow_21 (by decide) (fun c3 => ?_) (fun c3 => ?_)
        · have hm := ifT hm c3
          obtain ⟨v4, ev4, hm⟩ := nmE hm
          refine lv_iinc (v := v4) (lv' := [(2, .int v4), (0, .ref (ad 40)), (1, .int x1)]) hx hb dX3_hasBelow_26 hl (k := 2) rfl (by rw [ev4]; rfl) (by decide) rfl (fun ls hl => ?_)
          refine lv_goto (tgt := 4) hx hb dX3_hasBelow_29 (by decide) ?_
          exact ih4 u x1 v4 _ _ _ hm hw (lv_sub hl [1, 2, 0] rfl)
        · have hm := ifF hm c3
          exact hB24 u _ _ _ hm hw (lv_sub hl [] rfl)
  rw [m_X3_hasBelow] at hm
  refine lv_iload_n hx hb dX3_hasBelow_0 rfl (lv_at hl 1 rfl) ?_
  refine lv_iconst (v := 1) hx hb dX3_hasBelow_1 (by decide) ?_
  refine lv_iadd hx hb dX3_hasBelow_2 ?_
  refine lv_topi (fun v1 ev1 => ?_)
  have hm := nmK hm ev1
  refine lv_istore_n (lv' := [(2, .int v1), (0, .ref (ad 40)), (1, .int x1)]) hx hb dX3_hasBelow_3 rfl hl (by decide) rfl (fun ls hl => ?_)
  exact hB4 f u x1 v1 _ _ _ hm hw (lv_sub hl [1, 2, 0] rfl)
def m_X3_leastRow_63 (f : Nat) (u : TS) (x2 : Int32) : Option (Int32 × TS) := some (x2, u)
def m_X3_leastRow_57 (f : Nat) (k4 : TS → Int32 → Int32 → Int32 → Option (Int32 × TS)) (u : TS) (x1 : Int32) (x2 : Int32) (x3 : Int32) : Option (Int32 × TS) := nmv ((x3 + 1) : Int32) fun v1 =>
    k4 u x1 x2 v1
def m_X3_leastRow_55 (f : Nat) (k4 : TS → Int32 → Int32 → Int32 → Option (Int32 × TS)) (u : TS) (x1 : Int32) (x3 : Int32) : Option (Int32 × TS) := m_X3_leastRow_57 f k4 u x1 x3 x3
def m_X3_leastRow_4 (f : Nat) : Nat → TS → Int32 → Int32 → Int32 → Option (Int32 × TS)
  | 0, _, _, _, _ => none
  | n4 + 1, u, x1, x2, x3 => if (3 : Int32) ≤ x3 then
    m_X3_leastRow_63 f u x2
    else gd (ix (((3 : Int32) * x3) + x1) 9) <|
    bd (m_X3_sized f (tB u 18 (Int32.toNatClampNeg (((3 : Int32) * x3) + x1)))) fun r3 =>
    if r3 = (0 : Int64) then
    m_X3_leastRow_57 f (m_X3_leastRow_4 f n4) u x1 x2 x3
    else if x2 = (-1 : Int32) then
    m_X3_leastRow_55 f (m_X3_leastRow_4 f n4) u x1 x3
    else gd (ix (((3 : Int32) * x2) + x1) 9) <|
    bd (m_X3_sized f (tB u 18 (Int32.toNatClampNeg (((3 : Int32) * x2) + x1)))) fun r7 =>
    if r7 ≤ r3 then
    m_X3_leastRow_57 f (m_X3_leastRow_4 f n4) u x1 x2 x3
    else m_X3_leastRow_55 f (m_X3_leastRow_4 f n4) u x1 x3
def m_X3_leastRow (f : Nat) (u : TS) (x1 : Int32) : Option (Int32 × TS) := m_X3_leastRow_4 f f u x1 (-1 : Int32) x1
abbrev rm_X3_leastRow : Room := { frames := 1, cells := 0, slots := 0, locals := 21 }
theorem cw_X3_leastRow {R : Room} {s : State} {args : Array Value} {own : String} {idx : Nat} (hts : ∀ w ∈ lw_all, w.before args s = true) (hl : Cond.methodLink own idx yX3_leastRow ∈ lw_all) (hR : rm_X3_leastRow.frames + 1 ≤ R.frames ∧ 8 + (6 + 11) + rm_X3_leastRow.locals ≤ R.locals) : CallW R s args own RX3 idx yX3_leastRow cX3_leastRow 6 (Option.some Jvm.ClassFile.FieldType.int) (ws_ yX3_leastRow cX3_leastRow 6 (Option.some Jvm.ClassFile.FieldType.int)) rm_X3_leastRow 0 0 1 := cwV 1 hts (lw_V hl q1842 qs75 q125 q1843) rfl rfl rfl (by decide +kernel) hR
set_option maxHeartbeats 4000000 in
set_option maxRecDepth 100000 in
theorem w_X3_leastRow (l : Launch) {D : va_G} {ad : Nat → Nat} {dI dJ : ClassId} {A : Nat → Prop} {f : Nat} {u u9 : TS} {r0 : Int32} {x1 : Int32} (hm : m_X3_leastRow f u x1 = some (r0, u9)) : Met l yX3_leastRow (ws_ yX3_leastRow cX3_leastRow 6 (Option.some Jvm.ClassFile.FieldType.int)) rm_X3_leastRow (va_Pc [.ref (ad 40), .int x1] (TPre D ad dI dJ A u)) (va_Qi (fun r u => r = r0 ∧ u = u9) (TPost D ad dI dJ A) A) 0 0 A := by
  refine Met.ofW (cc := cX3_leastRow) (maxL := 6) (ret := (Option.some Jvm.ClassFile.FieldType.int)) (by decide) rfl ?_
  intro p e s m args below meth c s₁ B hml hv
  have hx := B.exec
  have hb := B.bytes
  have hr := B.returns
  have hts := atoms_spec (ws := (ws_ yX3_leastRow cX3_leastRow 6 (Option.some Jvm.ClassFile.FieldType.int))) B.pre
  have hts : ∀ w ∈ lw_all, w.before args s = true := fun w h => hts w (List.mem_cons_of_mem _ h)
  have hown : s.vm.findClass RX3 = some m.cls := findClass_of_methodNamed B.named
  have hlocks := B.notSynchronized
  obtain ⟨hav, hv⟩ := hv
  have C : TC p s m args c cX3_leastRow D dI dJ := ⟨hx, hb, hown, hts, hv.2.1⟩
  have hw : TH D ad dI dJ A s.heap u s.heap [] := ⟨hv.1, hv.2.2.1, va_S.rf, hv.2.2.2⟩
  generalize hQ : MQ below (va_Qi (fun r u => r = r0 ∧ u = u9) (TPost D ad dI dJ A) A) args s 0 0 A = QQ
  have hent := lg_entry_eq m [.ref (ad 40), .int x1] 6
  rw [← hav] at hent
  rw [hent]
  have hl := lv_entry ([.ref (ad 40), .int x1]) (n := 6) (Nat.le_of_ble_eq_true rfl)
  generalize (lg_sl ([.ref (ad 40), .int x1]) ++ List.replicate (6 - (lg_sl ([.ref (ad 40), .int x1])).length) Slot.unset).toArray = ls at hl ⊢
  have hl : lv_has ls 6 [(0, .ref (ad 40)), (1, .int x1)] := hl
  change W p l e rm_X3_leastRow s m args below meth c s.heap [] 0 0 QQ (F0 m 0 ls [])
  have hB63 : ∀ (u : TS) (x2 : Int32) (H : Heap) (locs : List Loc) (ls : Array Slot), m_X3_leastRow_63 f u x2 = some (r0, u9) → TH D ad dI dJ A s.heap u H locs → lv_has ls 6 [(2, .int x2)] → W p l e rm_X3_leastRow s m args below meth c H locs 0 0 QQ (F0 m 63 ls []) := by
    intro u x2 H locs ls hm hw hl
    rw [m_X3_leastRow_63] at hm
    refine lv_iload_n hx hb dX3_leastRow_63 rfl (lv_at hl 0 rfl) ?_
    rw [← hQ]
    exact W.iret (v := x2) hx hb hr (fun t ht hW => ⟨⟨x2, u, rfl, retE hm, by rw [ht]; exact hw.1, hw.2.1⟩, hw.2.2.1.F ht⟩) hw.2.2.1.2.2 dX3_leastRow_64
  have hB4 : ∀ (n4 : Nat), ∀ (u : TS) (x1 : Int32) (x2 : Int32) (x3 : Int32) (H : Heap) (locs : List Loc) (ls : Array Slot), m_X3_leastRow_4 f n4 u x1 x2 x3 = some (r0, u9) → TH D ad dI dJ A s.heap u H locs → lv_has ls 6 [(0, .ref (ad 40)), (1, .int x1), (2, .int x2), (3, .int x3)] → W p l e rm_X3_leastRow s m args below meth c H locs 0 0 QQ (F0 m 4 ls []) := by
    intro n4
    induction n4 with
    | zero => intro u x1 x2 x3 H locs ls hm hw hl; rw [m_X3_leastRow_4] at hm; exact noE hm
    | succ n4 ih4 =>
      have hB57 : ∀ (u : TS) (x1 : Int32) (x2 : Int32) (x3 : Int32) (H : Heap) (locs : List Loc) (ls : Array Slot), m_X3_leastRow_57 f (m_X3_leastRow_4 f n4) u x1 x2 x3 = some (r0, u9) → TH D ad dI dJ A s.heap u H locs → lv_has ls 6 [(0, .ref (ad 40)), (1, .int x1), (2, .int x2), (3, .int x3)] → W p l e rm_X3_leastRow s m args below meth c H locs 0 0 QQ (F0 m 57 ls []) := by
        intro u x1 x2 x3 H locs ls hm hw hl
        rw [m_X3_leastRow_57] at hm
        obtain ⟨v1, ev1, hm⟩ := nmE hm
        refine lv_iinc (v := v1) (lv' := [(3, .int v1), (0, .ref (ad 40)), (1, .int x1), (2, .int x2)]) hx hb dX3_leastRow_57 hl (k := 3) rfl (by rw [ev1]; rfl) (by decide) rfl (fun ls hl => ?_)
        refine lv_goto (tgt := 4) hx hb dX3_leastRow_60 (by decide) ?_
        exact ih4 u x1 x2 v1 _ _ _ hm hw (lv_sub hl [1, 2, 3, 0] rfl)
      have hB55 : ∀ (u : TS) (x1 : Int32) (x3 : Int32) (H : Heap) (locs : List Loc) (ls : Array Slot), m_X3_leastRow_55 f (m_X3_leastRow_4 f n4) u x1 x3 = some (r0, u9) → TH D ad dI dJ A s.heap u H locs → lv_has ls 6 [(0, .ref (ad 40)), (1, .int x1), (3, .int x3)] → W p l e rm_X3_leastRow s m args below meth c H locs 0 0 QQ (F0 m 55 ls []) := by
        intro u x1 x3 H locs ls hm hw hl
        rw [m_X3_leastRow_55] at hm
        refine lv_iload_n hx hb dX3_leastRow_55 rfl (lv_at hl 2 rfl) ?_
        refine lv_istore_n (lv' := [(2, .int x3), (0, .ref (ad 40)), (1, .int x1), (3, .int x3)]) hx hb dX3_leastRow_56 rfl hl (by decide) rfl (fun ls hl => ?_)
        exact hB57 u x1 x3 x3 _ _ _ hm hw (lv_sub hl [1, 2, 0, 3] rfl)
      intro u x1 x2 x3 H locs ls hm hw hl
      rw [m_X3_leastRow_4] at hm
      refine lv_iload_n hx hb dX3_leastRow_4 rfl (lv_at hl 3 rfl) ?_
      refine lv_iconst (v := 3) hx hb dX3_leastRow_5 (by decide) ?_
      refine lv_icmp_ge (tgt := 63) hx hb dX3_leastRow_6 (by decide) (fun c1 => ?_) (fun c1 => ?_)
      · have hm := ifT hm c1
        exact hB63 u x2 _ _ _ hm hw (lv_sub hl [2] rfl)
      · have hm := ifF hm c1
        refine lv_aload_n hx hb dX3_leastRow_9 rfl (lv_at hl 0 rfl) ?_
        refine tg_get C hw 18 (by decide) q1584 rfl dX3_leastRow_10 ?_
        refine lv_iconst (v := 3) hx hb dX3_leastRow_13 (by decide) ?_
        refine lv_iload_n hx hb dX3_leastRow_14 rfl (lv_at hl 3 rfl) ?_
        refine lv_imul hx hb dX3_leastRow_15 ?_
        refine lv_iload_n hx hb dX3_leastRow_16 rfl (lv_at hl 1 rfl) ?_
        refine lv_iadd hx hb dX3_leastRow_17 ?_
        obtain ⟨g2, hm⟩ := gdE hm
        refine tg_lald C hw (tp_18 ad dI dJ u) g2 dX3_leastRow_18 ?_
        obtain ⟨r3, er3, hm⟩ := bdE hm
        refine scl (va_runS (As := [.long (tB u 18 (Int32.toNatClampNeg (((3 : Int32) * x3) + x1)))]) (rest := []) ⟨hx, hb, hml, hown, hts⟩ (w_X3_sized l er3) (cw_X3_sized hts q1772 ⟨Nat.le_of_ble_eq_true rfl, Nat.le_of_ble_eq_true rfl⟩) (pre_s _) rfl rfl hl.1 rfl (lv_room (Nat.le_of_ble_eq_true rfl)) dX3_leastRow_19 ⟨Nat.le_of_ble_eq_true rfl, Nat.le_of_ble_eq_true rfl⟩) ?_
        refine lv_lstore (lv' := [(4, .long r3), (0, .ref (ad 40)), (1, .int x1), (2, .int x2), (3, .int x3)]) hx hb dX3_leastRow_22 hl (by decide) rfl (fun ls hl => ?_)
        refine lv_lload hx hb dX3_leastRow_24 (lv_at hl 0 rfl) ?_
        refine lv_lconst (v := 0) hx hb dX3_leastRow_26 (by decide) ?_
        refine lc_eq (tgt := 57) hx hb dX3_leastRow_27 dX3_leastRow_28 (by decide) (fun c4 => ?_) (fun c4 => ?_)
        · have hm := ifT hm c4
          exact hB57 u x1 x2 x3 _ _ _ hm hw (lv_sub hl [1, 2, 3, 4] rfl)
        · have hm := ifF hm c4
          refine lv_iload_n hx hb dX3_leastRow_31 rfl (lv_at hl 3 rfl) ?_
          refine lv_iconst (v := -1) hx hb dX3_leastRow_32 (by decide) ?_
          refine lv_icmp_eq (tgt := 55) hx hb dX3_leastRow_33 (by decide) (fun c5 => ?_) (fun c5 => ?_)
          · have hm := ifT hm c5
            exact hB55 u x1 x3 _ _ _ hm hw (lv_sub hl [1, 2, 4] rfl)
          · have hm := ifF hm c5
            refine lv_lload hx hb dX3_leastRow_36 (lv_at hl 0 rfl) ?_
            refine lv_aload_n hx hb dX3_leastRow_38 rfl (lv_at hl 1 rfl) ?_
            refine tg_get C hw 18 (by decide) q1584 rfl dX3_leastRow_39 ?_
            refine lv_iconst (v := 3) hx hb dX3_leastRow_42 (by decide) ?_
            refine lv_iload_n hx hb dX3_leastRow_43 rfl (lv_at hl 3 rfl) ?_
            refine lv_imul hx hb dX3_leastRow_44 ?_
            refine lv_iload_n hx hb dX3_leastRow_45 rfl (lv_at hl 2 rfl) ?_
            refine lv_iadd hx hb dX3_leastRow_46 ?_
            obtain ⟨g6, hm⟩ := gdE hm
            refine tg_lald C hw (tp_18 ad dI dJ u) g6 dX3_leastRow_47 ?_
            obtain ⟨r7, er7, hm⟩ := bdE hm
            refine scl (va_runS (As := [.long (tB u 18 (Int32.toNatClampNeg (((3 : Int32) * x2) + x1)))]) (rest := [.long r3]) ⟨hx, hb, hml, hown, hts⟩ (w_X3_sized l er7) (cw_X3_sized hts q1772 ⟨Nat.le_of_ble_eq_true rfl, Nat.le_of_ble_eq_true rfl⟩) (pre_s _) rfl rfl hl.1 rfl (lv_room (Nat.le_of_ble_eq_true rfl)) dX3_leastRow_48 ⟨Nat.le_of_ble_eq_true rfl, Nat.le_of_ble_eq_true rfl⟩) ?_
            refine lc_ge (tgt := 57) hx hb dX3_leastRow_51 dX3_leastRow_52 (by decide) (fun c8 => ?_) (fun c8 => ?_)
            · have hm := ifT hm c8
              exact hB57 u x1 x2 x3 _ _ _ hm hw (lv_sub hl [1, 2, 3, 4] rfl)
            · have hm := ifF hm c8
              exact hB55 u x1 x3 _ _ _ hm hw (lv_sub hl [1, 2, 4] rfl)
  rw [m_X3_leastRow] at hm
  refine lv_iconst (v := -1) hx hb dX3_leastRow_0 (by decide) ?_
  refine lv_istore_n (lv' := [(2, .int (-1 : Int32)), (0, .ref (ad 40)), (1, .int x1)]) hx hb dX3_leastRow_1 rfl hl (by decide) rfl (fun ls hl => ?_)
  refine lv_iload_n hx hb dX3_leastRow_2 rfl (lv_at hl 2 rfl) ?_
  refine lv_istore_n (lv' := [(3, .int x1), (2, .int (-1 : Int32)), (0, .ref (ad 40)), (1, .int x1)]) hx hb dX3_leastRow_3 rfl hl (by decide) rfl (fun ls hl => ?_)
  exact hB4 f u x1 (-1 : Int32) x1 _ _ _ hm hw (lv_sub hl [2, 3, 1, 0] rfl)
def m_X3_step (f : Nat) (u : TS) (x1 : Int32) (x2 : Int32) (x3 : Int32) (x4 : Int64) : Option TS := gd (ix (tI u 25) 400) <|
    nmv (sA u 21 (Int32.toNatClampNeg (tI u 25)) x1) fun u2 =>
    gd (ix (tI u2 25) 400) <|
    nmv (sA u2 22 (Int32.toNatClampNeg (tI u2 25)) x2) fun u4 =>
    gd (ix (tI u4 25) 400) <|
    nmv (sA u4 23 (Int32.toNatClampNeg (tI u4 25)) x3) fun u6 =>
    gd (ix (tI u6 25) 400) <|
    nmv (sB u6 24 (Int32.toNatClampNeg (tI u6 25)) x4) fun u8 =>
    nmv (sI u8 25 ((tI u8 25) + (1 : Int32))) fun u9 =>
    some u9
abbrev rm_X3_step : Room := { frames := 0, cells := 0, slots := 0, locals := 0 }
theorem cw_X3_step {R : Room} {s : State} {args : Array Value} {own : String} {idx : Nat} (hts : ∀ w ∈ lw_all, w.before args s = true) (hl : Cond.methodLink own idx yX3_step ∈ lw_all) (hR : rm_X3_step.frames + 1 ≤ R.frames ∧ 8 + (6 + 11) + rm_X3_step.locals ≤ R.locals) : CallW R s args own RX3 idx yX3_step cX3_step 6 (Option.none : Option Jvm.ClassFile.FieldType) (ws_ yX3_step cX3_step 6 (Option.none : Option Jvm.ClassFile.FieldType)) rm_X3_step 0 0 4 := cwV 4 hts (lw_V hl q1850 qs77 q125 q1851) rfl rfl rfl (by decide +kernel) hR
set_option maxHeartbeats 4000000 in
set_option maxRecDepth 100000 in
theorem w_X3_step (l : Launch) {D : va_G} {ad : Nat → Nat} {dI dJ : ClassId} {A : Nat → Prop} {f : Nat} {u u9 : TS} {x1 : Int32} {x2 : Int32} {x3 : Int32} {x4 : Int64} (hm : m_X3_step f u x1 x2 x3 x4 = some u9) : Met l yX3_step (ws_ yX3_step cX3_step 6 (Option.none : Option Jvm.ClassFile.FieldType)) rm_X3_step (va_Pc [.ref (ad 40), .int x1, .int x2, .int x3, .long x4] (TPre D ad dI dJ A u)) (va_Qv (fun u => u = u9) (TPost D ad dI dJ A) A) 0 0 A := by
  refine Met.ofW (cc := cX3_step) (maxL := 6) (ret := (Option.none : Option Jvm.ClassFile.FieldType)) (by decide) rfl ?_
  intro p e s m args below meth c s₁ B hml hv
  have hx := B.exec
  have hb := B.bytes
  have hr := B.returns
  have hts := atoms_spec (ws := (ws_ yX3_step cX3_step 6 (Option.none : Option Jvm.ClassFile.FieldType))) B.pre
  have hts : ∀ w ∈ lw_all, w.before args s = true := fun w h => hts w (List.mem_cons_of_mem _ h)
  have hown : s.vm.findClass RX3 = some m.cls := findClass_of_methodNamed B.named
  have hlocks := B.notSynchronized
  obtain ⟨hav, hv⟩ := hv
  have C : TC p s m args c cX3_step D dI dJ := ⟨hx, hb, hown, hts, hv.2.1⟩
  have hw : TH D ad dI dJ A s.heap u s.heap [] := ⟨hv.1, hv.2.2.1, va_S.rf, hv.2.2.2⟩
  generalize hQ : MQ below (va_Qv (fun u => u = u9) (TPost D ad dI dJ A) A) args s 0 0 A = QQ
  have hent := lg_entry_eq m [.ref (ad 40), .int x1, .int x2, .int x3, .long x4] 6
  rw [← hav] at hent
  rw [hent]
  have hl := lv_entry ([.ref (ad 40), .int x1, .int x2, .int x3, .long x4]) (n := 6) (Nat.le_of_ble_eq_true rfl)
  generalize (lg_sl ([.ref (ad 40), .int x1, .int x2, .int x3, .long x4]) ++ List.replicate (6 - (lg_sl ([.ref (ad 40), .int x1, .int x2, .int x3, .long x4])).length) Slot.unset).toArray = ls at hl ⊢
  have hl : lv_has ls 6 [(0, .ref (ad 40)), (1, .int x1), (2, .int x2), (3, .int x3), (4, .long x4)] := hl
  change W p l e rm_X3_step s m args below meth c s.heap [] 0 0 QQ (F0 m 0 ls [])
  rw [m_X3_step] at hm
  refine lv_aload_n hx hb dX3_step_0 rfl (lv_at hl 0 rfl) ?_
  refine tg_get C hw 21 (by decide) q1587 rfl dX3_step_1 ?_
  refine lv_aload_n hx hb dX3_step_4 rfl (lv_at hl 0 rfl) ?_
  refine tg_get C hw 25 (by decide) q1591 rfl dX3_step_5 ?_
  refine lv_iload_n hx hb dX3_step_8 rfl (lv_at hl 1 rfl) ?_
  obtain ⟨g1, hm⟩ := gdE hm
  refine tg_iast C hw (tp_21 ad dI dJ u) g1 (ts_21 ad dI dJ u _ _) dX3_step_9 (fun H locs hw => ?_)
  obtain ⟨u2, eu2, hm⟩ := nmE hm
  rw [← eu2] at hw
  refine lv_aload_n hx hb dX3_step_10 rfl (lv_at hl 0 rfl) ?_
  refine tg_get C hw 22 (by decide) q1588 rfl dX3_step_11 ?_
  refine lv_aload_n hx hb dX3_step_14 rfl (lv_at hl 0 rfl) ?_
  refine tg_get C hw 25 (by decide) q1591 rfl dX3_step_15 ?_
  refine lv_iload_n hx hb dX3_step_18 rfl (lv_at hl 2 rfl) ?_
  obtain ⟨g3, hm⟩ := gdE hm
  refine tg_iast C hw (tp_22 ad dI dJ u2) g3 (ts_22 ad dI dJ u2 _ _) dX3_step_19 (fun H locs hw => ?_)
  obtain ⟨u4, eu4, hm⟩ := nmE hm
  rw [← eu4] at hw
  refine lv_aload_n hx hb dX3_step_20 rfl (lv_at hl 0 rfl) ?_
  refine tg_get C hw 23 (by decide) q1589 rfl dX3_step_21 ?_
  refine lv_aload_n hx hb dX3_step_24 rfl (lv_at hl 0 rfl) ?_
  refine tg_get C hw 25 (by decide) q1591 rfl dX3_step_25 ?_
  refine lv_iload_n hx hb dX3_step_28 rfl (lv_at hl 3 rfl) ?_
  obtain ⟨g5, hm⟩ := gdE hm
  refine tg_iast C hw (tp_23 ad dI dJ u4) g5 (ts_23 ad dI dJ u4 _ _) dX3_step_29 (fun H locs hw => ?_)
  obtain ⟨u6, eu6, hm⟩ := nmE hm
  rw [← eu6] at hw
  refine lv_aload_n hx hb dX3_step_30 rfl (lv_at hl 0 rfl) ?_
  refine tg_get C hw 24 (by decide) q1590 rfl dX3_step_31 ?_
  refine lv_aload_n hx hb dX3_step_34 rfl (lv_at hl 0 rfl) ?_
  refine tg_get C hw 25 (by decide) q1591 rfl dX3_step_35 ?_
  refine lv_lload hx hb dX3_step_38 (lv_at hl 4 rfl) ?_
  obtain ⟨g7, hm⟩ := gdE hm
  refine tg_last C hw (tp_24 ad dI dJ u6) g7 (ts_24 ad dI dJ u6 _ _) dX3_step_40 (fun H locs hw => ?_)
  obtain ⟨u8, eu8, hm⟩ := nmE hm
  rw [← eu8] at hw
  refine lv_aload_n hx hb dX3_step_41 rfl (lv_at hl 0 rfl) ?_
  refine lv_dup hx hb dX3_step_42 rfl ?_
  refine tg_get C hw 25 (by decide) q1591 rfl dX3_step_43 ?_
  refine lv_iconst (v := 1) hx hb dX3_step_46 (by decide) ?_
  refine lv_iadd hx hb dX3_step_47 ?_
  refine tg_put C hw 25 (by decide) q1591 rfl rfl rfl (ts_25 ad dI dJ u8 ((tI u8 25) + (1 : Int32))) dX3_step_48 (fun H locs hw => ?_)
  obtain ⟨u9, eu9, hm⟩ := nmE hm
  rw [← eu9] at hw
  rw [← hQ]
  exact W.vret hx hb hr (fun t ht hW => ⟨⟨u9, rfl, ret1 hm, by rw [ht]; exact hw.1, hw.2.1⟩, hw.2.2.1.F ht⟩) hw.2.2.1.2.2 dX3_step_51
def m_X3_exchangesRows_57 (f : Nat) (u : TS) (x1 : Int32) (x2 : Int32) : Option TS := bd (m_X3_step f u (0 : Int32) x1 x2 (0 : Int64)) fun u1 =>
    some u1
def m_X3_exchangesRows_2 (f : Nat) : Nat → TS → Int32 → Int32 → Int32 → Option TS
  | 0, _, _, _, _ => none
  | n2 + 1, u, x1, x2, x3 => if (3 : Int32) ≤ x3 then
    m_X3_exchangesRows_57 f u x1 x2
    else gd (ix (((3 : Int32) * x1) + x3) 9) <|
    nmv ((tB u 18 (Int32.toNatClampNeg (((3 : Int32) * x1) + x3))) : Int64) fun v3 =>
    gd (ix (((3 : Int32) * x2) + x3) 9) <|
    gd (ix (((3 : Int32) * x1) + x3) 9) <|
    nmv (sB u 18 (Int32.toNatClampNeg (((3 : Int32) * x1) + x3)) (tB u 18 (Int32.toNatClampNeg (((3 : Int32) * x2) + x3)))) fun u6 =>
    gd (ix (((3 : Int32) * x2) + x3) 9) <|
    nmv (sB u6 18 (Int32.toNatClampNeg (((3 : Int32) * x2) + x3)) v3) fun u8 =>
    nmv ((x3 + 1) : Int32) fun v9 =>
    m_X3_exchangesRows_2 f n2 u8 x1 x2 v9
def m_X3_exchangesRows (f : Nat) (u : TS) (x1 : Int32) (x2 : Int32) : Option TS := m_X3_exchangesRows_2 f f u x1 x2 (0 : Int32)
abbrev rm_X3_exchangesRows : Room := { frames := 1, cells := 0, slots := 0, locals := 25 }
theorem cw_X3_exchangesRows {R : Room} {s : State} {args : Array Value} {own : String} {idx : Nat} (hts : ∀ w ∈ lw_all, w.before args s = true) (hl : Cond.methodLink own idx yX3_exchangesRows ∈ lw_all) (hR : rm_X3_exchangesRows.frames + 1 ≤ R.frames ∧ 8 + (6 + 11) + rm_X3_exchangesRows.locals ≤ R.locals) : CallW R s args own RX3 idx yX3_exchangesRows cX3_exchangesRows 6 (Option.none : Option Jvm.ClassFile.FieldType) (ws_ yX3_exchangesRows cX3_exchangesRows 6 (Option.none : Option Jvm.ClassFile.FieldType)) rm_X3_exchangesRows 0 0 2 := cwV 2 hts (lw_V hl q1846 qs76 q125 q1847) rfl rfl rfl (by decide +kernel) hR
set_option maxHeartbeats 4000000 in
set_option maxRecDepth 100000 in
theorem w_X3_exchangesRows (l : Launch) {D : va_G} {ad : Nat → Nat} {dI dJ : ClassId} {A : Nat → Prop} {f : Nat} {u u9 : TS} {x1 : Int32} {x2 : Int32} (hm : m_X3_exchangesRows f u x1 x2 = some u9) : Met l yX3_exchangesRows (ws_ yX3_exchangesRows cX3_exchangesRows 6 (Option.none : Option Jvm.ClassFile.FieldType)) rm_X3_exchangesRows (va_Pc [.ref (ad 40), .int x1, .int x2] (TPre D ad dI dJ A u)) (va_Qv (fun u => u = u9) (TPost D ad dI dJ A) A) 0 0 A := by
  refine Met.ofW (cc := cX3_exchangesRows) (maxL := 6) (ret := (Option.none : Option Jvm.ClassFile.FieldType)) (by decide) rfl ?_
  intro p e s m args below meth c s₁ B hml hv
  have hx := B.exec
  have hb := B.bytes
  have hr := B.returns
  have hts := atoms_spec (ws := (ws_ yX3_exchangesRows cX3_exchangesRows 6 (Option.none : Option Jvm.ClassFile.FieldType))) B.pre
  have hts : ∀ w ∈ lw_all, w.before args s = true := fun w h => hts w (List.mem_cons_of_mem _ h)
  have hown : s.vm.findClass RX3 = some m.cls := findClass_of_methodNamed B.named
  have hlocks := B.notSynchronized
  obtain ⟨hav, hv⟩ := hv
  have C : TC p s m args c cX3_exchangesRows D dI dJ := ⟨hx, hb, hown, hts, hv.2.1⟩
  have hw : TH D ad dI dJ A s.heap u s.heap [] := ⟨hv.1, hv.2.2.1, va_S.rf, hv.2.2.2⟩
  generalize hQ : MQ below (va_Qv (fun u => u = u9) (TPost D ad dI dJ A) A) args s 0 0 A = QQ
  have hent := lg_entry_eq m [.ref (ad 40), .int x1, .int x2] 6
  rw [← hav] at hent
  rw [hent]
  have hl := lv_entry ([.ref (ad 40), .int x1, .int x2]) (n := 6) (Nat.le_of_ble_eq_true rfl)
  generalize (lg_sl ([.ref (ad 40), .int x1, .int x2]) ++ List.replicate (6 - (lg_sl ([.ref (ad 40), .int x1, .int x2])).length) Slot.unset).toArray = ls at hl ⊢
  have hl : lv_has ls 6 [(0, .ref (ad 40)), (1, .int x1), (2, .int x2)] := hl
  change W p l e rm_X3_exchangesRows s m args below meth c s.heap [] 0 0 QQ (F0 m 0 ls [])
  have hB57 : ∀ (u : TS) (x1 : Int32) (x2 : Int32) (H : Heap) (locs : List Loc) (ls : Array Slot), m_X3_exchangesRows_57 f u x1 x2 = some u9 → TH D ad dI dJ A s.heap u H locs → lv_has ls 6 [(0, .ref (ad 40)), (1, .int x1), (2, .int x2)] → W p l e rm_X3_exchangesRows s m args below meth c H locs 0 0 QQ (F0 m 57 ls []) := by
    intro u x1 x2 H locs ls hm hw hl
    rw [m_X3_exchangesRows_57] at hm
    refine lv_aload_n hx hb dX3_exchangesRows_57 rfl (lv_at hl 0 rfl) ?_
    refine lv_iconst (v := 0) hx hb dX3_exchangesRows_58 (by decide) ?_
    refine lv_iload_n hx hb dX3_exchangesRows_59 rfl (lv_at hl 1 rfl) ?_
    refine lv_iload_n hx hb dX3_exchangesRows_60 rfl (lv_at hl 2 rfl) ?_
    refine lv_lconst (v := 0) hx hb dX3_exchangesRows_61 (by decide) ?_
    obtain ⟨u1, eu1, hm⟩ := bdE hm
    refine tg_callv hw (va_runV (As := [.int (0 : Int32), .int x1, .int x2, .long (0 : Int64)]) (rest := []) ⟨hx, hb, hml, hown, hts⟩ (w_X3_step l eu1) (cw_X3_step hts q1848 ⟨Nat.le_of_ble_eq_true rfl, Nat.le_of_ble_eq_true rfl⟩) (tg_pre C hw _) rfl rfl hl.1 rfl (lv_room (Nat.le_of_ble_eq_true rfl)) dX3_exchangesRows_62 ⟨Nat.le_of_ble_eq_true rfl, Nat.le_of_ble_eq_true rfl⟩) (fun H locs hw => ?_)
    rw [← hQ]
    exact W.vret hx hb hr (fun t ht hW => ⟨⟨u1, rfl, ret1 hm, by rw [ht]; exact hw.1, hw.2.1⟩, hw.2.2.1.F ht⟩) hw.2.2.1.2.2 dX3_exchangesRows_65
  have hB2 : ∀ (n2 : Nat), ∀ (u : TS) (x1 : Int32) (x2 : Int32) (x3 : Int32) (H : Heap) (locs : List Loc) (ls : Array Slot), m_X3_exchangesRows_2 f n2 u x1 x2 x3 = some u9 → TH D ad dI dJ A s.heap u H locs → lv_has ls 6 [(0, .ref (ad 40)), (1, .int x1), (2, .int x2), (3, .int x3)] → W p l e rm_X3_exchangesRows s m args below meth c H locs 0 0 QQ (F0 m 2 ls []) := by
    intro n2
    induction n2 with
    | zero => intro u x1 x2 x3 H locs ls hm hw hl; rw [m_X3_exchangesRows_2] at hm; exact noE hm
    | succ n2 ih2 =>
      intro u x1 x2 x3 H locs ls hm hw hl
      rw [m_X3_exchangesRows_2] at hm
      refine lv_iload_n hx hb dX3_exchangesRows_2 rfl (lv_at hl 3 rfl) ?_
      refine lv_iconst (v := 3) hx hb dX3_exchangesRows_3 (by decide) ?_
      refine lv_icmp_ge (tgt := 57) hx hb dX3_exchangesRows_4 (by decide) (fun c1 => ?_) (fun c1 => ?_)
      · have hm := ifT hm c1
        exact hB57 u x1 x2 _ _ _ hm hw (lv_sub hl [0, 1, 2] rfl)
      · have hm := ifF hm c1
        refine lv_aload_n hx hb dX3_exchangesRows_7 rfl (lv_at hl 0 rfl) ?_
        refine tg_get C hw 18 (by decide) q1584 rfl dX3_exchangesRows_8 ?_
        refine lv_iconst (v := 3) hx hb dX3_exchangesRows_11 (by decide) ?_
        refine lv_iload_n hx hb dX3_exchangesRows_12 rfl (lv_at hl 1 rfl) ?_
        refine lv_imul hx hb dX3_exchangesRows_13 ?_
        refine lv_iload_n hx hb dX3_exchangesRows_14 rfl (lv_at hl 3 rfl) ?_
        refine lv_iadd hx hb dX3_exchangesRows_15 ?_
        obtain ⟨g2, hm⟩ := gdE hm
        refine tg_lald C hw (tp_18 ad dI dJ u) g2 dX3_exchangesRows_16 ?_
        refine lv_topl (fun v3 ev3 => ?_)
        have hm := nmK hm ev3
        refine lv_lstore (lv' := [(4, .long v3), (0, .ref (ad 40)), (1, .int x1), (2, .int x2), (3, .int x3)]) hx hb dX3_exchangesRows_17 hl (by decide) rfl (fun ls hl => ?_)
        refine lv_aload_n hx hb dX3_exchangesRows_19 rfl (lv_at hl 1 rfl) ?_
        refine tg_get C hw 18 (by decide) q1584 rfl dX3_exchangesRows_20 ?_
        refine lv_iconst (v := 3) hx hb dX3_exchangesRows_23 (by decide) ?_
        refine lv_iload_n hx hb dX3_exchangesRows_24 rfl (lv_at hl 2 rfl) ?_
        refine lv_imul hx hb dX3_exchangesRows_25 ?_
        refine lv_iload_n hx hb dX3_exchangesRows_26 rfl (lv_at hl 4 rfl) ?_
        refine lv_iadd hx hb dX3_exchangesRows_27 ?_
        refine lv_aload_n hx hb dX3_exchangesRows_28 rfl (lv_at hl 1 rfl) ?_
        refine tg_get C hw 18 (by decide) q1584 rfl dX3_exchangesRows_29 ?_
        refine lv_iconst (v := 3) hx hb dX3_exchangesRows_32 (by decide) ?_
        refine lv_iload_n hx hb dX3_exchangesRows_33 rfl (lv_at hl 3 rfl) ?_
        refine lv_imul hx hb dX3_exchangesRows_34 ?_
        refine lv_iload_n hx hb dX3_exchangesRows_35 rfl (lv_at hl 4 rfl) ?_
        refine lv_iadd hx hb dX3_exchangesRows_36 ?_
        obtain ⟨g4, hm⟩ := gdE hm
        refine tg_lald C hw (tp_18 ad dI dJ u) g4 dX3_exchangesRows_37 ?_
        obtain ⟨g5, hm⟩ := gdE hm
        refine tg_last C hw (tp_18 ad dI dJ u) g5 (ts_18 ad dI dJ u _ _) dX3_exchangesRows_38 (fun H locs hw => ?_)
        obtain ⟨u6, eu6, hm⟩ := nmE hm
        rw [← eu6] at hw
        refine lv_aload_n hx hb dX3_exchangesRows_39 rfl (lv_at hl 1 rfl) ?_
        refine tg_get C hw 18 (by decide) q1584 rfl dX3_exchangesRows_40 ?_
        refine lv_iconst (v := 3) hx hb dX3_exchangesRows_43 (by decide) ?_
        refine lv_iload_n hx hb dX3_exchangesRows_44 rfl (lv_at hl 3 rfl) ?_
        refine lv_imul hx hb dX3_exchangesRows_45 ?_
        refine lv_iload_n hx hb dX3_exchangesRows_46 rfl (lv_at hl 4 rfl) ?_
        refine lv_iadd hx hb dX3_exchangesRows_47 ?_
        refine lv_lload hx hb dX3_exchangesRows_48 (lv_at hl 0 rfl) ?_
        obtain ⟨g7, hm⟩ := gdE hm
        refine tg_last C hw (tp_18 ad dI dJ u6) g7 (ts_18 ad dI dJ u6 _ _) dX3_exchangesRows_50 (fun H locs hw => ?_)
        obtain ⟨u8, eu8, hm⟩ := nmE hm
        rw [← eu8] at hw
        obtain ⟨v9, ev9, hm⟩ := nmE hm
        refine lv_iinc (v := v9) (lv' := [(3, .int v9), (4, .long v3), (0, .ref (ad 40)), (1, .int x1), (2, .int x2)]) hx hb dX3_exchangesRows_51 hl (k := 4) rfl (by rw [ev9]; rfl) (by decide) rfl (fun ls hl => ?_)
        refine lv_goto (tgt := 2) hx hb dX3_exchangesRows_54 (by decide) ?_
        exact ih2 u8 x1 x2 v9 _ _ _ hm hw (lv_sub hl [2, 3, 4, 0] rfl)
  rw [m_X3_exchangesRows] at hm
  refine lv_iconst (v := 0) hx hb dX3_exchangesRows_0 (by decide) ?_
  refine lv_istore_n (lv' := [(3, .int (0 : Int32)), (0, .ref (ad 40)), (1, .int x1), (2, .int x2)]) hx hb dX3_exchangesRows_1 rfl hl (by decide) rfl (fun ls hl => ?_)
  exact hB2 f u x1 x2 (0 : Int32) _ _ _ hm hw (lv_sub hl [1, 2, 3, 0] rfl)
def m_X3_addsRow_42 (f : Nat) (u : TS) (x1 : Int32) (x2 : Int32) (x3 : Int64) : Option TS := bd (m_X3_step f u (1 : Int32) x1 x2 x3) fun u1 =>
    some u1
def m_X3_addsRow_3 (f : Nat) : Nat → TS → Int32 → Int32 → Int64 → Int32 → Option TS
  | 0, _, _, _, _, _ => none
  | n3 + 1, u, x1, x2, x3, x5 => if (3 : Int32) ≤ x5 then
    m_X3_addsRow_42 f u x1 x2 x3
    else gd (ix (((3 : Int32) * x1) + x5) 9) <|
    gd (ix (((3 : Int32) * x2) + x5) 9) <|
    gd (ix (((3 : Int32) * x1) + x5) 9) <|
    nmv (sB u 18 (Int32.toNatClampNeg (((3 : Int32) * x1) + x5)) ((tB u 18 (Int32.toNatClampNeg (((3 : Int32) * x1) + x5))) + (x3 * (tB u 18 (Int32.toNatClampNeg (((3 : Int32) * x2) + x5)))))) fun u5 =>
    nmv ((x5 + 1) : Int32) fun v6 =>
    m_X3_addsRow_3 f n3 u5 x1 x2 x3 v6
def m_X3_addsRow (f : Nat) (u : TS) (x1 : Int32) (x2 : Int32) (x3 : Int64) : Option TS := m_X3_addsRow_3 f f u x1 x2 x3 (0 : Int32)
abbrev rm_X3_addsRow : Room := { frames := 1, cells := 0, slots := 0, locals := 25 }
theorem cw_X3_addsRow {R : Room} {s : State} {args : Array Value} {own : String} {idx : Nat} (hts : ∀ w ∈ lw_all, w.before args s = true) (hl : Cond.methodLink own idx yX3_addsRow ∈ lw_all) (hR : rm_X3_addsRow.frames + 1 ≤ R.frames ∧ 8 + (6 + 11) + rm_X3_addsRow.locals ≤ R.locals) : CallW R s args own RX3 idx yX3_addsRow cX3_addsRow 6 (Option.none : Option Jvm.ClassFile.FieldType) (ws_ yX3_addsRow cX3_addsRow 6 (Option.none : Option Jvm.ClassFile.FieldType)) rm_X3_addsRow 0 0 3 := cwV 3 hts (lw_V hl q1854 qs78 q125 q1855) rfl rfl rfl (by decide +kernel) hR
set_option maxHeartbeats 4000000 in
set_option maxRecDepth 100000 in
theorem w_X3_addsRow (l : Launch) {D : va_G} {ad : Nat → Nat} {dI dJ : ClassId} {A : Nat → Prop} {f : Nat} {u u9 : TS} {x1 : Int32} {x2 : Int32} {x3 : Int64} (hm : m_X3_addsRow f u x1 x2 x3 = some u9) : Met l yX3_addsRow (ws_ yX3_addsRow cX3_addsRow 6 (Option.none : Option Jvm.ClassFile.FieldType)) rm_X3_addsRow (va_Pc [.ref (ad 40), .int x1, .int x2, .long x3] (TPre D ad dI dJ A u)) (va_Qv (fun u => u = u9) (TPost D ad dI dJ A) A) 0 0 A := by
  refine Met.ofW (cc := cX3_addsRow) (maxL := 6) (ret := (Option.none : Option Jvm.ClassFile.FieldType)) (by decide) rfl ?_
  intro p e s m args below meth c s₁ B hml hv
  have hx := B.exec
  have hb := B.bytes
  have hr := B.returns
  have hts := atoms_spec (ws := (ws_ yX3_addsRow cX3_addsRow 6 (Option.none : Option Jvm.ClassFile.FieldType))) B.pre
  have hts : ∀ w ∈ lw_all, w.before args s = true := fun w h => hts w (List.mem_cons_of_mem _ h)
  have hown : s.vm.findClass RX3 = some m.cls := findClass_of_methodNamed B.named
  have hlocks := B.notSynchronized
  obtain ⟨hav, hv⟩ := hv
  have C : TC p s m args c cX3_addsRow D dI dJ := ⟨hx, hb, hown, hts, hv.2.1⟩
  have hw : TH D ad dI dJ A s.heap u s.heap [] := ⟨hv.1, hv.2.2.1, va_S.rf, hv.2.2.2⟩
  generalize hQ : MQ below (va_Qv (fun u => u = u9) (TPost D ad dI dJ A) A) args s 0 0 A = QQ
  have hent := lg_entry_eq m [.ref (ad 40), .int x1, .int x2, .long x3] 6
  rw [← hav] at hent
  rw [hent]
  have hl := lv_entry ([.ref (ad 40), .int x1, .int x2, .long x3]) (n := 6) (Nat.le_of_ble_eq_true rfl)
  generalize (lg_sl ([.ref (ad 40), .int x1, .int x2, .long x3]) ++ List.replicate (6 - (lg_sl ([.ref (ad 40), .int x1, .int x2, .long x3])).length) Slot.unset).toArray = ls at hl ⊢
  have hl : lv_has ls 6 [(0, .ref (ad 40)), (1, .int x1), (2, .int x2), (3, .long x3)] := hl
  change W p l e rm_X3_addsRow s m args below meth c s.heap [] 0 0 QQ (F0 m 0 ls [])
  have hB42 : ∀ (u : TS) (x1 : Int32) (x2 : Int32) (x3 : Int64) (H : Heap) (locs : List Loc) (ls : Array Slot), m_X3_addsRow_42 f u x1 x2 x3 = some u9 → TH D ad dI dJ A s.heap u H locs → lv_has ls 6 [(0, .ref (ad 40)), (1, .int x1), (2, .int x2), (3, .long x3)] → W p l e rm_X3_addsRow s m args below meth c H locs 0 0 QQ (F0 m 42 ls []) := by
    intro u x1 x2 x3 H locs ls hm hw hl
    rw [m_X3_addsRow_42] at hm
    refine lv_aload_n hx hb dX3_addsRow_42 rfl (lv_at hl 0 rfl) ?_
    refine lv_iconst (v := 1) hx hb dX3_addsRow_43 (by decide) ?_
    refine lv_iload_n hx hb dX3_addsRow_44 rfl (lv_at hl 1 rfl) ?_
    refine lv_iload_n hx hb dX3_addsRow_45 rfl (lv_at hl 2 rfl) ?_
    refine lv_lload_n hx hb dX3_addsRow_46 rfl (lv_at hl 3 rfl) ?_
    obtain ⟨u1, eu1, hm⟩ := bdE hm
    refine tg_callv hw (va_runV (As := [.int (1 : Int32), .int x1, .int x2, .long x3]) (rest := []) ⟨hx, hb, hml, hown, hts⟩ (w_X3_step l eu1) (cw_X3_step hts q1848 ⟨Nat.le_of_ble_eq_true rfl, Nat.le_of_ble_eq_true rfl⟩) (tg_pre C hw _) rfl rfl hl.1 rfl (lv_room (Nat.le_of_ble_eq_true rfl)) dX3_addsRow_47 ⟨Nat.le_of_ble_eq_true rfl, Nat.le_of_ble_eq_true rfl⟩) (fun H locs hw => ?_)
    rw [← hQ]
    exact W.vret hx hb hr (fun t ht hW => ⟨⟨u1, rfl, ret1 hm, by rw [ht]; exact hw.1, hw.2.1⟩, hw.2.2.1.F ht⟩) hw.2.2.1.2.2 dX3_addsRow_50
  have hB3 : ∀ (n3 : Nat), ∀ (u : TS) (x1 : Int32) (x2 : Int32) (x3 : Int64) (x5 : Int32) (H : Heap) (locs : List Loc) (ls : Array Slot), m_X3_addsRow_3 f n3 u x1 x2 x3 x5 = some u9 → TH D ad dI dJ A s.heap u H locs → lv_has ls 6 [(0, .ref (ad 40)), (1, .int x1), (2, .int x2), (3, .long x3), (5, .int x5)] → W p l e rm_X3_addsRow s m args below meth c H locs 0 0 QQ (F0 m 3 ls []) := by
    intro n3
    induction n3 with
    | zero => intro u x1 x2 x3 x5 H locs ls hm hw hl; rw [m_X3_addsRow_3] at hm; exact noE hm
    | succ n3 ih3 =>
      intro u x1 x2 x3 x5 H locs ls hm hw hl
      rw [m_X3_addsRow_3] at hm
      refine lv_iload hx hb dX3_addsRow_3 (lv_at hl 4 rfl) ?_
      refine lv_iconst (v := 3) hx hb dX3_addsRow_5 (by decide) ?_
      refine lv_icmp_ge (tgt := 42) hx hb dX3_addsRow_6 (by decide) (fun c1 => ?_) (fun c1 => ?_)
      · have hm := ifT hm c1
        exact hB42 u x1 x2 x3 _ _ _ hm hw (lv_sub hl [0, 1, 2, 3] rfl)
      · have hm := ifF hm c1
        refine lv_aload_n hx hb dX3_addsRow_9 rfl (lv_at hl 0 rfl) ?_
        refine tg_get C hw 18 (by decide) q1584 rfl dX3_addsRow_10 ?_
        refine lv_iconst (v := 3) hx hb dX3_addsRow_13 (by decide) ?_
        refine lv_iload_n hx hb dX3_addsRow_14 rfl (lv_at hl 1 rfl) ?_
        refine lv_imul hx hb dX3_addsRow_15 ?_
        refine lv_iload hx hb dX3_addsRow_16 (lv_at hl 4 rfl) ?_
        refine lv_iadd hx hb dX3_addsRow_18 ?_
        refine lv_dup2_11 hx hb dX3_addsRow_19 rfl rfl ?_
        obtain ⟨g2, hm⟩ := gdE hm
        refine tg_lald C hw (tp_18 ad dI dJ u) g2 dX3_addsRow_20 ?_
        refine lv_lload_n hx hb dX3_addsRow_21 rfl (lv_at hl 3 rfl) ?_
        refine lv_aload_n hx hb dX3_addsRow_22 rfl (lv_at hl 0 rfl) ?_
        refine tg_get C hw 18 (by decide) q1584 rfl dX3_addsRow_23 ?_
        refine lv_iconst (v := 3) hx hb dX3_addsRow_26 (by decide) ?_
        refine lv_iload_n hx hb dX3_addsRow_27 rfl (lv_at hl 2 rfl) ?_
        refine lv_imul hx hb dX3_addsRow_28 ?_
        refine lv_iload hx hb dX3_addsRow_29 (lv_at hl 4 rfl) ?_
        refine lv_iadd hx hb dX3_addsRow_31 ?_
        obtain ⟨g3, hm⟩ := gdE hm
        refine tg_lald C hw (tp_18 ad dI dJ u) g3 dX3_addsRow_32 ?_
        refine lv_lmul hx hb dX3_addsRow_33 ?_
        refine lv_ladd hx hb dX3_addsRow_34 ?_
        obtain ⟨g4, hm⟩ := gdE hm
        refine tg_last C hw (tp_18 ad dI dJ u) g4 (ts_18 ad dI dJ u _ _) dX3_addsRow_35 (fun H locs hw => ?_)
        obtain ⟨u5, eu5, hm⟩ := nmE hm
        rw [← eu5] at hw
        obtain ⟨v6, ev6, hm⟩ := nmE hm
        refine lv_iinc (v := v6) (lv' := [(5, .int v6), (0, .ref (ad 40)), (1, .int x1), (2, .int x2), (3, .long x3)]) hx hb dX3_addsRow_36 hl (k := 4) rfl (by rw [ev6]; rfl) (by decide) rfl (fun ls hl => ?_)
        refine lv_goto (tgt := 3) hx hb dX3_addsRow_39 (by decide) ?_
        exact ih3 u5 x1 x2 x3 v6 _ _ _ hm hw (lv_sub hl [1, 2, 3, 4, 0] rfl)
  rw [m_X3_addsRow] at hm
  refine lv_iconst (v := 0) hx hb dX3_addsRow_0 (by decide) ?_
  refine lv_istore (lv' := [(5, .int (0 : Int32)), (0, .ref (ad 40)), (1, .int x1), (2, .int x2), (3, .long x3)]) hx hb dX3_addsRow_1 hl (by decide) rfl (fun ls hl => ?_)
  exact hB3 f u x1 x2 x3 (0 : Int32) _ _ _ hm hw (lv_sub hl [1, 2, 3, 4, 0] rfl)
def m_J9_floorDiv_27 (f : Nat) (x4 : Int64) : Option Int64 := some x4
def m_J9_floorDiv (f : Nat) (x0 : Int64) (x2 : Int64) : Option Int64 := gd (nzL x2) <|
    nmv ((x0 / x2) : Int64) fun v2 =>
    if (0 : Int64) ≤ (x0 ^^^ x2) then
    m_J9_floorDiv_27 f v2
    else if (v2 * x2) = x0 then
    m_J9_floorDiv_27 f v2
    else some (v2 - (1 : Int64))
abbrev rm_J9_floorDiv : Room := { frames := 0, cells := 0, slots := 0, locals := 0 }
theorem cw_J9_floorDiv {R : Room} {s : State} {args : Array Value} {own : String} {idx : Nat} (hts : ∀ w ∈ lw_all, w.before args s = true) (hl : Cond.methodLink own idx yJ9_floorDiv ∈ lw_all) (hR : rm_J9_floorDiv.frames + 1 ≤ R.frames ∧ 8 + (6 + 11) + rm_J9_floorDiv.locals ≤ R.locals) : CallB R s args own idx yJ9_floorDiv cJ9_floorDiv 6 (Option.some Jvm.ClassFile.FieldType.long) (ws_ yJ9_floorDiv cJ9_floorDiv 6 (Option.some Jvm.ClassFile.FieldType.long)) rm_J9_floorDiv 0 0 2 ∧ (Cond.static yJ9_floorDiv).before args s = true := va_cwS 2 hts (lw_S hl q1029 q134 q1030) rfl rfl rfl (by decide +kernel) hR
set_option maxHeartbeats 4000000 in
set_option maxRecDepth 100000 in
theorem w_J9_floorDiv (l : Launch) {f : Nat} {x0 : Int64} {x2 : Int64} {r0 : Int64} (hm : m_J9_floorDiv f x0 x2 = some r0) : Met l yJ9_floorDiv (ws_ yJ9_floorDiv cJ9_floorDiv 6 (Option.some Jvm.ClassFile.FieldType.long)) rm_J9_floorDiv (va_Pc [.long x0, .long x2] (fun _ => True)) (vp_Sl (fun r => r = r0)) 0 0 (fun _ => False) := by
  refine metOfWF (cc := cJ9_floorDiv) (maxL := 6) (ret := (Option.some Jvm.ClassFile.FieldType.long)) (by decide +kernel) rfl ?_
  intro p e s m args below meth c s₁ B hml hv
  have hx := B.exec
  have hb := B.bytes
  have hr := B.returns
  have hts := atoms_spec (ws := (ws_ yJ9_floorDiv cJ9_floorDiv 6 (Option.some Jvm.ClassFile.FieldType.long))) B.pre
  have hts : ∀ w ∈ lw_all, w.before args s = true := fun w h => hts w (List.mem_cons_of_mem _ h)
  have hown : s.vm.findClass RJ9 = some m.cls := findClass_of_methodNamed B.named
  have hlocks := B.notSynchronized
  obtain ⟨hav, hv⟩ := hv
  generalize hQ : MQ below (vp_Sl (fun r => r = r0)) args s 0 0 (fun _ => False) = QQ
  have hent := lg_entry_eq m [.long x0, .long x2] 6
  rw [← hav] at hent
  rw [hent]
  have hl := lv_entry ([.long x0, .long x2]) (n := 6) (Nat.le_of_ble_eq_true rfl)
  generalize (lg_sl ([.long x0, .long x2]) ++ List.replicate (6 - (lg_sl ([.long x0, .long x2])).length) Slot.unset).toArray = ls at hl ⊢
  have hl : lv_has ls 6 [(0, .long x0), (2, .long x2)] := hl
  change W p l e rm_J9_floorDiv s m args below meth c s.heap [] 0 0 QQ (F0 m 0 ls [])
  have hB27 : ∀ (x4 : Int64) (ls : Array Slot), m_J9_floorDiv_27 f x4 = some r0 → lv_has ls 6 [(4, .long x4)] → W p l e rm_J9_floorDiv s m args below meth c s.heap [] 0 0 QQ (F0 m 27 ls []) := by
    intro x4 ls hm hl
    rw [m_J9_floorDiv_27] at hm
    refine lv_lload hx hb dJ9_floorDiv_27 (lv_at hl 0 rfl) ?_
    rw [← hQ]
    exact W.lret (v := x4) hx hb hr (fun t ht hW => ⟨x4, rfl, ret1 hm, ht⟩) (fun q h => absurd h List.not_mem_nil) dJ9_floorDiv_29
  rw [m_J9_floorDiv] at hm
  refine lv_lload_n hx hb dJ9_floorDiv_0 rfl (lv_at hl 0 rfl) ?_
  refine lv_lload_n hx hb dJ9_floorDiv_1 rfl (lv_at hl 1 rfl) ?_
  obtain ⟨g1, hm⟩ := gdE hm
  refine lv_ldiv hx hb dJ9_floorDiv_2 (nzL_ne g1) ?_
  refine lv_topl (fun v2 ev2 => ?_)
  have hm := nmK hm ev2
  refine lv_lstore (lv' := [(4, .long v2), (0, .long x0), (2, .long x2)]) hx hb dJ9_floorDiv_3 hl (by decide) rfl (fun ls hl => ?_)
  refine lv_lload_n hx hb dJ9_floorDiv_5 rfl (lv_at hl 1 rfl) ?_
  refine lv_lload_n hx hb dJ9_floorDiv_6 rfl (lv_at hl 2 rfl) ?_
  refine lv_lxor hx hb dJ9_floorDiv_7 ?_
  refine lv_lconst (v := 0) hx hb dJ9_floorDiv_8 (by decide) ?_
  refine lc_ge (tgt := 27) hx hb dJ9_floorDiv_9 dJ9_floorDiv_10 (by decide) (fun c3 => ?_) (fun c3 => ?_)
  · have hm := ifT hm c3
    exact hB27 v2 _ hm (lv_sub hl [0] rfl)
  · have hm := ifF hm c3
    refine lv_lload hx hb dJ9_floorDiv_13 (lv_at hl 0 rfl) ?_
    refine lv_lload_n hx hb dJ9_floorDiv_15 rfl (lv_at hl 2 rfl) ?_
    refine lv_lmul hx hb dJ9_floorDiv_16 ?_
    refine lv_lload_n hx hb dJ9_floorDiv_17 rfl (lv_at hl 1 rfl) ?_
    refine lc_eq (tgt := 27) hx hb dJ9_floorDiv_18 dJ9_floorDiv_19 (by decide) (fun c4 => ?_) (fun c4 => ?_)
    · have hm := ifT hm c4
      exact hB27 v2 _ hm (lv_sub hl [0] rfl)
    · have hm := ifF hm c4
      refine lv_lload hx hb dJ9_floorDiv_22 (lv_at hl 0 rfl) ?_
      refine lv_lconst (v := 1) hx hb dJ9_floorDiv_24 (by decide) ?_
      refine lv_lsub hx hb dJ9_floorDiv_25 ?_
      rw [← hQ]
      exact W.lret (v := (v2 - (1 : Int64))) hx hb hr (fun t ht hW => ⟨(v2 - (1 : Int64)), rfl, ret1 hm, ht⟩) (fun q h => absurd h List.not_mem_nil) dJ9_floorDiv_26
def m_X3_forms_212 (f : Nat) (u : TS) : Option TS := some u
def m_X3_forms_206 (f : Nat) (k7 : TS → Int32 → Option TS) (u : TS) (x1 : Int32) : Option TS := nmv ((x1 + 1) : Int32) fun v1 =>
    k7 u v1
def m_X3_forms_200 (f : Nat) (k7 : TS → Int32 → Option TS) (k157 : TS → Int32 → Int32 → Option TS) (u : TS) (x1 : Int32) (x2 : Int32) : Option TS := nmv ((x2 + 1) : Int32) fun v1 =>
    k157 u x1 v1
def m_X3_forms_157 (f : Nat) (k7 : TS → Int32 → Option TS) : Nat → TS → Int32 → Int32 → Option TS
  | 0, _, _, _ => none
  | n157 + 1, u, x1, x2 => if x1 ≤ x2 then
    m_X3_forms_206 f k7 u x1
    else gd (ix (((3 : Int32) * x2) + x1) 9) <|
    gd (ix (((3 : Int32) * x1) + x1) 9) <|
    bd (m_J9_floorDiv f (tB u 18 (Int32.toNatClampNeg (((3 : Int32) * x2) + x1))) (tB u 18 (Int32.toNatClampNeg (((3 : Int32) * x1) + x1)))) fun r4 =>
    nmv ((-r4) : Int64) fun v5 =>
    if v5 = (0 : Int64) then
    m_X3_forms_200 f k7 (m_X3_forms_157 f k7 n157) u x1 x2
    else bd (m_X3_addsRow f u x2 x1 v5) fun u7 =>
    m_X3_forms_200 f k7 (m_X3_forms_157 f k7 n157) u7 x1 x2
def m_X3_forms_155 (f : Nat) (k7 : TS → Int32 → Option TS) (u : TS) (x1 : Int32) : Option TS := m_X3_forms_157 f k7 f u x1 (0 : Int32)
def m_X3_forms_147 (f : Nat) (k7 : TS → Int32 → Option TS) (u : TS) (x1 : Int32) : Option TS := bd (m_X3_step f u (2 : Int32) x1 (-1 : Int32) (0 : Int64)) fun u1 =>
    m_X3_forms_155 f k7 u1 x1
def m_X3_forms_115 (f : Nat) (k7 : TS → Int32 → Option TS) : Nat → TS → Int32 → Int32 → Option TS
  | 0, _, _, _ => none
  | n115 + 1, u, x1, x2 => if (3 : Int32) ≤ x2 then
    m_X3_forms_147 f k7 u x1
    else gd (ix (((3 : Int32) * x1) + x2) 9) <|
    gd (ix (((3 : Int32) * x1) + x2) 9) <|
    nmv (sB u 18 (Int32.toNatClampNeg (((3 : Int32) * x1) + x2)) (-(tB u 18 (Int32.toNatClampNeg (((3 : Int32) * x1) + x2))))) fun u4 =>
    nmv ((x2 + 1) : Int32) fun v5 =>
    m_X3_forms_115 f k7 n115 u4 x1 v5
def m_X3_forms_98 (f : Nat) (k7 : TS → Int32 → Option TS) (u : TS) (x1 : Int32) : Option TS := gd (ix (((3 : Int32) * x1) + x1) 9) <|
    if (0 : Int64) ≤ (tB u 18 (Int32.toNatClampNeg (((3 : Int32) * x1) + x1))) then
    m_X3_forms_155 f k7 u x1
    else m_X3_forms_115 f k7 f u x1 (0 : Int32)
def m_X3_forms_95 (f : Nat) (k7 : TS → Int32 → Option TS) (k12 : TS → Int32 → Option TS) (u : TS) (x1 : Int32) : Option TS := k12 u x1
def m_X3_forms_89 (f : Nat) (k7 : TS → Int32 → Option TS) (k12 : TS → Int32 → Option TS) (k41 : TS → Int32 → Int32 → Option TS) (u : TS) (x1 : Int32) (x3 : Int32) : Option TS := nmv ((x3 + 1) : Int32) fun v1 =>
    k41 u x1 v1
def m_X3_forms_41 (f : Nat) (k7 : TS → Int32 → Option TS) (k12 : TS → Int32 → Option TS) : Nat → TS → Int32 → Int32 → Option TS
  | 0, _, _, _ => none
  | n41 + 1, u, x1, x3 => if (3 : Int32) ≤ x3 then
    m_X3_forms_95 f k7 k12 u x1
    else gd (ix (((3 : Int32) * x3) + x1) 9) <|
    if (tB u 18 (Int32.toNatClampNeg (((3 : Int32) * x3) + x1))) = (0 : Int64) then
    m_X3_forms_89 f k7 k12 (m_X3_forms_41 f k7 k12 n41) u x1 x3
    else gd (ix (((3 : Int32) * x3) + x1) 9) <|
    gd (ix (((3 : Int32) * x1) + x1) 9) <|
    gd (nzL (tB u 18 (Int32.toNatClampNeg (((3 : Int32) * x1) + x1)))) <|
    bd (m_X3_addsRow f u x3 x1 (-((tB u 18 (Int32.toNatClampNeg (((3 : Int32) * x3) + x1))) / (tB u 18 (Int32.toNatClampNeg (((3 : Int32) * x1) + x1)))))) fun u7 =>
    m_X3_forms_89 f k7 k12 (m_X3_forms_41 f k7 k12 n41) u7 x1 x3
def m_X3_forms_37 (f : Nat) (k7 : TS → Int32 → Option TS) (k12 : TS → Int32 → Option TS) (u : TS) (x1 : Int32) : Option TS := nmv ((x1 + (1 : Int32)) : Int32) fun v1 =>
    m_X3_forms_41 f k7 k12 f u x1 v1
def m_X3_forms_12 (f : Nat) (k7 : TS → Int32 → Option TS) : Nat → TS → Int32 → Option TS
  | 0, _, _ => none
  | n12 + 1, u, x1 => bd2 (m_X3_hasBelow f u x1) fun r2 u1 =>
    if r2 = 0 then
    m_X3_forms_98 f k7 u1 x1
    else bd2 (m_X3_leastRow f u1 x1) fun r5 u4 =>
    if r5 = x1 then
    m_X3_forms_37 f k7 (m_X3_forms_12 f k7 n12) u4 x1
    else bd (m_X3_exchangesRows f u4 x1 r5) fun u7 =>
    m_X3_forms_37 f k7 (m_X3_forms_12 f k7 n12) u7 x1
def m_X3_forms_7 (f : Nat) : Nat → TS → Int32 → Option TS
  | 0, _, _ => none
  | n7 + 1, u, x1 => if (3 : Int32) ≤ x1 then
    m_X3_forms_212 f u
    else m_X3_forms_12 f (m_X3_forms_7 f n7) f u x1
def m_X3_forms (f : Nat) (u : TS) : Option TS := nmv (sI u 25 (0 : Int32)) fun u1 =>
    m_X3_forms_7 f f u1 (0 : Int32)
abbrev rm_X3_forms : Room := { frames := 2, cells := 0, slots := 0, locals := 50 }
theorem cw_X3_forms {R : Room} {s : State} {args : Array Value} {own : String} {idx : Nat} (hts : ∀ w ∈ lw_all, w.before args s = true) (hl : Cond.methodLink own idx yX3_forms ∈ lw_all) (hR : rm_X3_forms.frames + 1 ≤ R.frames ∧ 8 + (5 + 11) + rm_X3_forms.locals ≤ R.locals) : CallW R s args own RX3 idx yX3_forms cX3_forms 5 (Option.none : Option Jvm.ClassFile.FieldType) (ws_ yX3_forms cX3_forms 5 (Option.none : Option Jvm.ClassFile.FieldType)) rm_X3_forms 0 0 0 := cwV 0 hts (lw_V hl q1834 qs73 q125 q1835) rfl rfl rfl (by decide +kernel) hR
set_option maxHeartbeats 4000000 in
set_option maxRecDepth 100000 in
theorem w_X3_forms (l : Launch) {D : va_G} {ad : Nat → Nat} {dI dJ : ClassId} {A : Nat → Prop} {f : Nat} {u u9 : TS}  (hm : m_X3_forms f u = some u9) : Met l yX3_forms (ws_ yX3_forms cX3_forms 5 (Option.none : Option Jvm.ClassFile.FieldType)) rm_X3_forms (va_Pc [.ref (ad 40)] (TPre D ad dI dJ A u)) (va_Qv (fun u => u = u9) (TPost D ad dI dJ A) A) 0 0 A := by
  refine Met.ofW (cc := cX3_forms) (maxL := 5) (ret := (Option.none : Option Jvm.ClassFile.FieldType)) (by decide) rfl ?_
  intro p e s m args below meth c s₁ B hml hv
  have hx := B.exec
  have hb := B.bytes
  have hr := B.returns
  have hts := atoms_spec (ws := (ws_ yX3_forms cX3_forms 5 (Option.none : Option Jvm.ClassFile.FieldType))) B.pre
  have hts : ∀ w ∈ lw_all, w.before args s = true := fun w h => hts w (List.mem_cons_of_mem _ h)
  have hown : s.vm.findClass RX3 = some m.cls := findClass_of_methodNamed B.named
  have hlocks := B.notSynchronized
  obtain ⟨hav, hv⟩ := hv
  have C : TC p s m args c cX3_forms D dI dJ := ⟨hx, hb, hown, hts, hv.2.1⟩
  have hw : TH D ad dI dJ A s.heap u s.heap [] := ⟨hv.1, hv.2.2.1, va_S.rf, hv.2.2.2⟩
  generalize hQ : MQ below (va_Qv (fun u => u = u9) (TPost D ad dI dJ A) A) args s 0 0 A = QQ
  have hent := lg_entry_eq m [.ref (ad 40)] 5
  rw [← hav] at hent
  rw [hent]
  have hl := lv_entry ([.ref (ad 40)]) (n := 5) (Nat.le_of_ble_eq_true rfl)
  generalize (lg_sl ([.ref (ad 40)]) ++ List.replicate (5 - (lg_sl ([.ref (ad 40)])).length) Slot.unset).toArray = ls at hl ⊢
  have hl : lv_has ls 5 [(0, .ref (ad 40))] := hl
  change W p l e rm_X3_forms s m args below meth c s.heap [] 0 0 QQ (F0 m 0 ls [])
  have hB212 : ∀ (u : TS) (H : Heap) (locs : List Loc) (ls : Array Slot), m_X3_forms_212 f u = some u9 → TH D ad dI dJ A s.heap u H locs → lv_has ls 5 [] → W p l e rm_X3_forms s m args below meth c H locs 0 0 QQ (F0 m 212 ls []) := by
    intro u H locs ls hm hw hl
    rw [m_X3_forms_212] at hm
    rw [← hQ]
    exact W.vret hx hb hr (fun t ht hW => ⟨⟨u, rfl, ret1 hm, by rw [ht]; exact hw.1, hw.2.1⟩, hw.2.2.1.F ht⟩) hw.2.2.1.2.2 dX3_forms_212
  have hB7 : ∀ (n7 : Nat), ∀ (u : TS) (x1 : Int32) (H : Heap) (locs : List Loc) (ls : Array Slot), m_X3_forms_7 f n7 u x1 = some u9 → TH D ad dI dJ A s.heap u H locs → lv_has ls 5 [(0, .ref (ad 40)), (1, .int x1)] → W p l e rm_X3_forms s m args below meth c H locs 0 0 QQ (F0 m 7 ls []) := by
    intro n7
    induction n7 with
    | zero => intro u x1 H locs ls hm hw hl; rw [m_X3_forms_7] at hm; exact noE hm
    | succ n7 ih7 =>
      have hB206 : ∀ (u : TS) (x1 : Int32) (H : Heap) (locs : List Loc) (ls : Array Slot), m_X3_forms_206 f (m_X3_forms_7 f n7) u x1 = some u9 → TH D ad dI dJ A s.heap u H locs → lv_has ls 5 [(0, .ref (ad 40)), (1, .int x1)] → W p l e rm_X3_forms s m args below meth c H locs 0 0 QQ (F0 m 206 ls []) := by
        intro u x1 H locs ls hm hw hl
        rw [m_X3_forms_206] at hm
        obtain ⟨v1, ev1, hm⟩ := nmE hm
        refine lv_iinc (v := v1) (lv' := [(1, .int v1), (0, .ref (ad 40))]) hx hb dX3_forms_206 hl (k := 1) rfl (by rw [ev1]; rfl) (by decide) rfl (fun ls hl => ?_)
        refine lv_goto (tgt := 7) hx hb dX3_forms_209 (by decide) ?_
        exact ih7 u v1 _ _ _ hm hw (lv_sub hl [1, 0] rfl)
      have hB157 : ∀ (n157 : Nat), ∀ (u : TS) (x1 : Int32) (x2 : Int32) (H : Heap) (locs : List Loc) (ls : Array Slot), m_X3_forms_157 f (m_X3_forms_7 f n7) n157 u x1 x2 = some u9 → TH D ad dI dJ A s.heap u H locs → lv_has ls 5 [(0, .ref (ad 40)), (1, .int x1), (2, .int x2)] → W p l e rm_X3_forms s m args below meth c H locs 0 0 QQ (F0 m 157 ls []) := by
        intro n157
        induction n157 with
        | zero => intro u x1 x2 H locs ls hm hw hl; rw [m_X3_forms_157] at hm; exact noE hm
        | succ n157 ih157 =>
          have hB200 : ∀ (u : TS) (x1 : Int32) (x2 : Int32) (H : Heap) (locs : List Loc) (ls : Array Slot), m_X3_forms_200 f (m_X3_forms_7 f n7) (m_X3_forms_157 f (m_X3_forms_7 f n7) n157) u x1 x2 = some u9 → TH D ad dI dJ A s.heap u H locs → lv_has ls 5 [(0, .ref (ad 40)), (1, .int x1), (2, .int x2)] → W p l e rm_X3_forms s m args below meth c H locs 0 0 QQ (F0 m 200 ls []) := by
            intro u x1 x2 H locs ls hm hw hl
            rw [m_X3_forms_200] at hm
            obtain ⟨v1, ev1, hm⟩ := nmE hm
            refine lv_iinc (v := v1) (lv' := [(2, .int v1), (0, .ref (ad 40)), (1, .int x1)]) hx hb dX3_forms_200 hl (k := 2) rfl (by rw [ev1]; rfl) (by decide) rfl (fun ls hl => ?_)
            refine lv_goto (tgt := 157) hx hb dX3_forms_203 (by decide) ?_
            exact ih157 u x1 v1 _ _ _ hm hw (lv_sub hl [1, 2, 0] rfl)
          intro u x1 x2 H locs ls hm hw hl
          rw [m_X3_forms_157] at hm
          refine lv_iload_n hx hb dX3_forms_157 rfl (lv_at hl 2 rfl) ?_
          refine lv_iload_n hx hb dX3_forms_158 rfl (lv_at hl 1 rfl) ?_
          refine lv_icmp_ge (tgt := 206) hx hb dX3_forms_159 (by decide) (fun c1 => ?_) (fun c1 => ?_)
          · have hm := ifT hm c1
            exact hB206 u x1 _ _ _ hm hw (lv_sub hl [0, 1] rfl)
          · have hm := ifF hm c1
            refine lv_aload_n hx hb dX3_forms_162 rfl (lv_at hl 0 rfl) ?_
            refine tg_get C hw 18 (by decide) q1584 rfl dX3_forms_163 ?_
            refine lv_iconst (v := 3) hx hb dX3_forms_166 (by decide) ?_
            refine lv_iload_n hx hb dX3_forms_167 rfl (lv_at hl 2 rfl) ?_
            refine lv_imul hx hb dX3_forms_168 ?_
            refine lv_iload_n hx hb dX3_forms_169 rfl (lv_at hl 1 rfl) ?_
            refine lv_iadd hx hb dX3_forms_170 ?_
            obtain ⟨g2, hm⟩ := gdE hm
            refine tg_lald C hw (tp_18 ad dI dJ u) g2 dX3_forms_171 ?_
            refine lv_aload_n hx hb dX3_forms_172 rfl (lv_at hl 0 rfl) ?_
            refine tg_get C hw 18 (by decide) q1584 rfl dX3_forms_173 ?_
            refine lv_iconst (v := 3) hx hb dX3_forms_176 (by decide) ?_
            refine lv_iload_n hx hb dX3_forms_177 rfl (lv_at hl 1 rfl) ?_
            refine lv_imul hx hb dX3_forms_178 ?_
            refine lv_iload_n hx hb dX3_forms_179 rfl (lv_at hl 1 rfl) ?_
            refine lv_iadd hx hb dX3_forms_180 ?_
            obtain ⟨g3, hm⟩ := gdE hm
            refine tg_lald C hw (tp_18 ad dI dJ u) g3 dX3_forms_181 ?_
            obtain ⟨r4, er4, hm⟩ := bdE hm
            refine scl (va_runS (As := [.long (tB u 18 (Int32.toNatClampNeg (((3 : Int32) * x2) + x1))), .long (tB u 18 (Int32.toNatClampNeg (((3 : Int32) * x1) + x1)))]) (rest := []) ⟨hx, hb, hml, hown, hts⟩ (w_J9_floorDiv l er4) (cw_J9_floorDiv hts q1856 ⟨Nat.le_of_ble_eq_true rfl, Nat.le_of_ble_eq_true rfl⟩) (pre_s _) rfl rfl hl.1 rfl (lv_room (Nat.le_of_ble_eq_true rfl)) dX3_forms_182 ⟨Nat.le_of_ble_eq_true rfl, Nat.le_of_ble_eq_true rfl⟩) ?_
            refine lv_lneg hx hb dX3_forms_185 ?_
            refine lv_topl (fun v5 ev5 => ?_)
            have hm := nmK hm ev5
            refine lv_lstore_n (lv' := [(3, .long v5), (0, .ref (ad 40)), (1, .int x1), (2, .int x2)]) hx hb dX3_forms_186 rfl hl (by decide) rfl (fun ls hl => ?_)
            refine lv_lload_n hx hb dX3_forms_187 rfl (lv_at hl 0 rfl) ?_
            refine lv_lconst (v := 0) hx hb dX3_forms_188 (by decide) ?_
            refine lc_eq (tgt := 200) hx hb dX3_forms_189 dX3_forms_190 (by decide) (fun c6 => ?_) (fun c6 => ?_)
            · have hm := ifT hm c6
              exact hB200 u x1 x2 _ _ _ hm hw (lv_sub hl [1, 2, 3] rfl)
            · have hm := ifF hm c6
              refine lv_aload_n hx hb dX3_forms_193 rfl (lv_at hl 1 rfl) ?_
              refine lv_iload_n hx hb dX3_forms_194 rfl (lv_at hl 3 rfl) ?_
              refine lv_iload_n hx hb dX3_forms_195 rfl (lv_at hl 2 rfl) ?_
              refine lv_lload_n hx hb dX3_forms_196 rfl (lv_at hl 0 rfl) ?_
              obtain ⟨u7, eu7, hm⟩ := bdE hm
              refine tg_callv hw (va_runV (As := [.int x2, .int x1, .long v5]) (rest := []) ⟨hx, hb, hml, hown, hts⟩ (w_X3_addsRow l eu7) (cw_X3_addsRow hts q1852 ⟨Nat.le_of_ble_eq_true rfl, Nat.le_of_ble_eq_true rfl⟩) (tg_pre C hw _) rfl rfl hl.1 rfl (lv_room (Nat.le_of_ble_eq_true rfl)) dX3_forms_197 ⟨Nat.le_of_ble_eq_true rfl, Nat.le_of_ble_eq_true rfl⟩) (fun H locs hw => ?_)
              exact hB200 u7 x1 x2 _ _ _ hm hw (lv_sub hl [1, 2, 3] rfl)
      have hB155 : ∀ (u : TS) (x1 : Int32) (H : Heap) (locs : List Loc) (ls : Array Slot), m_X3_forms_155 f (m_X3_forms_7 f n7) u x1 = some u9 → TH D ad dI dJ A s.heap u H locs → lv_has ls 5 [(0, .ref (ad 40)), (1, .int x1)] → W p l e rm_X3_forms s m args below meth c H locs 0 0 QQ (F0 m 155 ls []) := by
        intro u x1 H locs ls hm hw hl
        rw [m_X3_forms_155] at hm
        refine lv_iconst (v := 0) hx hb dX3_forms_155 (by decide) ?_
        refine lv_istore_n (lv' := [(2, .int (0 : Int32)), (0, .ref (ad 40)), (1, .int x1)]) hx hb dX3_forms_156 rfl hl (by decide) rfl (fun ls hl => ?_)
        exact hB157 f u x1 (0 : Int32) _ _ _ hm hw (lv_sub hl [1, 2, 0] rfl)
      have hB147 : ∀ (u : TS) (x1 : Int32) (H : Heap) (locs : List Loc) (ls : Array Slot), m_X3_forms_147 f (m_X3_forms_7 f n7) u x1 = some u9 → TH D ad dI dJ A s.heap u H locs → lv_has ls 5 [(0, .ref (ad 40)), (1, .int x1)] → W p l e rm_X3_forms s m args below meth c H locs 0 0 QQ (F0 m 147 ls []) := by
        intro u x1 H locs ls hm hw hl
        rw [m_X3_forms_147] at hm
        refine lv_aload_n hx hb dX3_forms_147 rfl (lv_at hl 0 rfl) ?_
        refine lv_iconst (v := 2) hx hb dX3_forms_148 (by decide) ?_
        refine lv_iload_n hx hb dX3_forms_149 rfl (lv_at hl 1 rfl) ?_
        refine lv_iconst (v := -1) hx hb dX3_forms_150 (by decide) ?_
        refine lv_lconst (v := 0) hx hb dX3_forms_151 (by decide) ?_
        obtain ⟨u1, eu1, hm⟩ := bdE hm
        refine tg_callv hw (va_runV (As := [.int (2 : Int32), .int x1, .int (-1 : Int32), .long (0 : Int64)]) (rest := []) ⟨hx, hb, hml, hown, hts⟩ (w_X3_step l eu1) (cw_X3_step hts q1848 ⟨Nat.le_of_ble_eq_true rfl, Nat.le_of_ble_eq_true rfl⟩) (tg_pre C hw _) rfl rfl hl.1 rfl (lv_room (Nat.le_of_ble_eq_true rfl)) dX3_forms_152 ⟨Nat.le_of_ble_eq_true rfl, Nat.le_of_ble_eq_true rfl⟩) (fun H locs hw => ?_)
        exact hB155 u1 x1 _ _ _ hm hw (lv_sub hl [0, 1] rfl)
      have hB115 : ∀ (n115 : Nat), ∀ (u : TS) (x1 : Int32) (x2 : Int32) (H : Heap) (locs : List Loc) (ls : Array Slot), m_X3_forms_115 f (m_X3_forms_7 f n7) n115 u x1 x2 = some u9 → TH D ad dI dJ A s.heap u H locs → lv_has ls 5 [(0, .ref (ad 40)), (1, .int x1), (2, .int x2)] → W p l e rm_X3_forms s m args below meth c H locs 0 0 QQ (F0 m 115 ls []) := by
        intro n115
        induction n115 with
        | zero => intro u x1 x2 H locs ls hm hw hl; rw [m_X3_forms_115] at hm; exact noE hm
        | succ n115 ih115 =>
          intro u x1 x2 H locs ls hm hw hl
          rw [m_X3_forms_115] at hm
          refine lv_iload_n hx hb dX3_forms_115 rfl (lv_at hl 2 rfl) ?_
          refine lv_iconst (v := 3) hx hb dX3_forms_116 (by decide) ?_
          refine lv_icmp_ge (tgt := 147) hx hb dX3_forms_117 (by decide) (fun c1 => ?_) (fun c1 => ?_)
          · have hm := ifT hm c1
            exact hB147 u x1 _ _ _ hm hw (lv_sub hl [0, 1] rfl)
          · have hm := ifF hm c1
            refine lv_aload_n hx hb dX3_forms_120 rfl (lv_at hl 0 rfl) ?_
            refine tg_get C hw 18 (by decide) q1584 rfl dX3_forms_121 ?_
            refine lv_iconst (v := 3) hx hb dX3_forms_124 (by decide) ?_
            refine lv_iload_n hx hb dX3_forms_125 rfl (lv_at hl 1 rfl) ?_
            refine lv_imul hx hb dX3_forms_126 ?_
            refine lv_iload_n hx hb dX3_forms_127 rfl (lv_at hl 2 rfl) ?_
            refine lv_iadd hx hb dX3_forms_128 ?_
            refine lv_aload_n hx hb dX3_forms_129 rfl (lv_at hl 0 rfl) ?_
            refine tg_get C hw 18 (by decide) q1584 rfl dX3_forms_130 ?_
            refine lv_iconst (v := 3) hx hb dX3_forms_133 (by decide) ?_
            refine lv_iload_n hx hb dX3_forms_134 rfl (lv_at hl 1 rfl) ?_
            refine lv_imul hx hb dX3_forms_135 ?_
            refine lv_iload_n hx hb dX3_forms_136 rfl (lv_at hl 2 rfl) ?_
            refine lv_iadd hx hb dX3_forms_137 ?_
            obtain ⟨g2, hm⟩ := gdE hm
            refine tg_lald C hw (tp_18 ad dI dJ u) g2 dX3_forms_138 ?_
            refine lv_lneg hx hb dX3_forms_139 ?_
            obtain ⟨g3, hm⟩ := gdE hm
            refine tg_last C hw (tp_18 ad dI dJ u) g3 (ts_18 ad dI dJ u _ _) dX3_forms_140 (fun H locs hw => ?_)
            obtain ⟨u4, eu4, hm⟩ := nmE hm
            rw [← eu4] at hw
            obtain ⟨v5, ev5, hm⟩ := nmE hm
            refine lv_iinc (v := v5) (lv' := [(2, .int v5), (0, .ref (ad 40)), (1, .int x1)]) hx hb dX3_forms_141 hl (k := 2) rfl (by rw [ev5]; rfl) (by decide) rfl (fun ls hl => ?_)
            refine lv_goto (tgt := 115) hx hb dX3_forms_144 (by decide) ?_
            exact ih115 u4 x1 v5 _ _ _ hm hw (lv_sub hl [1, 2, 0] rfl)
      have hB98 : ∀ (u : TS) (x1 : Int32) (H : Heap) (locs : List Loc) (ls : Array Slot), m_X3_forms_98 f (m_X3_forms_7 f n7) u x1 = some u9 → TH D ad dI dJ A s.heap u H locs → lv_has ls 5 [(0, .ref (ad 40)), (1, .int x1)] → W p l e rm_X3_forms s m args below meth c H locs 0 0 QQ (F0 m 98 ls []) := by
        intro u x1 H locs ls hm hw hl
        rw [m_X3_forms_98] at hm
        refine lv_aload_n hx hb dX3_forms_98 rfl (lv_at hl 0 rfl) ?_
        refine tg_get C hw 18 (by decide) q1584 rfl dX3_forms_99 ?_
        refine lv_iconst (v := 3) hx hb dX3_forms_102 (by decide) ?_
        refine lv_iload_n hx hb dX3_forms_103 rfl (lv_at hl 1 rfl) ?_
        refine lv_imul hx hb dX3_forms_104 ?_
        refine lv_iload_n hx hb dX3_forms_105 rfl (lv_at hl 1 rfl) ?_
        refine lv_iadd hx hb dX3_forms_106 ?_
        obtain ⟨g1, hm⟩ := gdE hm
        refine tg_lald C hw (tp_18 ad dI dJ u) g1 dX3_forms_107 ?_
        refine lv_lconst (v := 0) hx hb dX3_forms_108 (by decide) ?_
        refine lc_ge (tgt := 155) hx hb dX3_forms_109 dX3_forms_110 (by decide) (fun c2 => ?_) (fun c2 => ?_)
        · have hm := ifT hm c2
          exact hB155 u x1 _ _ _ hm hw (lv_sub hl [0, 1] rfl)
        · have hm := ifF hm c2
          refine lv_iconst (v := 0) hx hb dX3_forms_113 (by decide) ?_
          refine lv_istore_n (lv' := [(2, .int (0 : Int32)), (0, .ref (ad 40)), (1, .int x1)]) hx hb dX3_forms_114 rfl hl (by decide) rfl (fun ls hl => ?_)
          exact hB115 f u x1 (0 : Int32) _ _ _ hm hw (lv_sub hl [1, 2, 0] rfl)
      have hB12 : ∀ (n12 : Nat), ∀ (u : TS) (x1 : Int32) (H : Heap) (locs : List Loc) (ls : Array Slot), m_X3_forms_12 f (m_X3_forms_7 f n7) n12 u x1 = some u9 → TH D ad dI dJ A s.heap u H locs → lv_has ls 5 [(0, .ref (ad 40)), (1, .int x1)] → W p l e rm_X3_forms s m args below meth c H locs 0 0 QQ (F0 m 12 ls []) := by
        intro n12
        induction n12 with
        | zero => intro u x1 H locs ls hm hw hl; rw [m_X3_forms_12] at hm; exact noE hm
        | succ n12 ih12 =>
          have hB95 : ∀ (u : TS) (x1 : Int32) (H : Heap) (locs : List Loc) (ls : Array Slot), m_X3_forms_95 f (m_X3_forms_7 f n7) (m_X3_forms_12 f (m_X3_forms_7 f n7) n12) u x1 = some u9 → TH D ad dI dJ A s.heap u H locs → lv_has ls 5 [(0, .ref (ad 40)), (1, .int x1)] → W p l e rm_X3_forms s m args below meth c H locs 0 0 QQ (F0 m 95 ls []) := by
            intro u x1 H locs ls hm hw hl
            rw [m_X3_forms_95] at hm
            refine lv_goto (tgt := 12) hx hb dX3_forms_95 (by decide) ?_
            exact ih12 u x1 _ _ _ hm hw (lv_sub hl [0, 1] rfl)
          have hB41 : ∀ (n41 : Nat), ∀ (u : TS) (x1 : Int32) (x3 : Int32) (H : Heap) (locs : List Loc) (ls : Array Slot), m_X3_forms_41 f (m_X3_forms_7 f n7) (m_X3_forms_12 f (m_X3_forms_7 f n7) n12) n41 u x1 x3 = some u9 → TH D ad dI dJ A s.heap u H locs → lv_has ls 5 [(0, .ref (ad 40)), (1, .int x1), (3, .int x3)] → W p l e rm_X3_forms s m args below meth c H locs 0 0 QQ (F0 m 41 ls []) := by
            intro n41
            induction n41 with
            | zero => intro u x1 x3 H locs ls hm hw hl; rw [m_X3_forms_41] at hm; exact noE hm
            | succ n41 ih41 =>
              have hB89 : ∀ (u : TS) (x1 : Int32) (x3 : Int32) (H : Heap) (locs : List Loc) (ls : Array Slot), m_X3_forms_89 f (m_X3_forms_7 f n7) (m_X3_forms_12 f (m_X3_forms_7 f n7) n12) (m_X3_forms_41 f (m_X3_forms_7 f n7) (m_X3_forms_12 f (m_X3_forms_7 f n7) n12) n41) u x1 x3 = some u9 → TH D ad dI dJ A s.heap u H locs → lv_has ls 5 [(0, .ref (ad 40)), (1, .int x1), (3, .int x3)] → W p l e rm_X3_forms s m args below meth c H locs 0 0 QQ (F0 m 89 ls []) := by
                intro u x1 x3 H locs ls hm hw hl
                rw [m_X3_forms_89] at hm
                obtain ⟨v1, ev1, hm⟩ := nmE hm
                refine lv_iinc (v := v1) (lv' := [(3, .int v1), (0, .ref (ad 40)), (1, .int x1)]) hx hb dX3_forms_89 hl (k := 2) rfl (by rw [ev1]; rfl) (by decide) rfl (fun ls hl => ?_)
                refine lv_goto (tgt := 41) hx hb dX3_forms_92 (by decide) ?_
                exact ih41 u x1 v1 _ _ _ hm hw (lv_sub hl [1, 2, 0] rfl)
              intro u x1 x3 H locs ls hm hw hl
              rw [m_X3_forms_41] at hm
              refine lv_iload_n hx hb dX3_forms_41 rfl (lv_at hl 2 rfl) ?_
              refine lv_iconst (v := 3) hx hb dX3_forms_42 (by decide) ?_
              refine lv_icmp_ge (tgt := 95) hx hb dX3_forms_43 (by decide) (fun c1 => ?_) (fun c1 => ?_)
              · have hm := ifT hm c1
                exact hB95 u x1 _ _ _ hm hw (lv_sub hl [0, 1] rfl)
              · have hm := ifF hm c1
                refine lv_aload_n hx hb dX3_forms_46 rfl (lv_at hl 0 rfl) ?_
                refine tg_get C hw 18 (by decide) q1584 rfl dX3_forms_47 ?_
                refine lv_iconst (v := 3) hx hb dX3_forms_50 (by decide) ?_
                refine lv_iload_n hx hb dX3_forms_51 rfl (lv_at hl 2 rfl) ?_
                refine lv_imul hx hb dX3_forms_52 ?_
                refine lv_iload_n hx hb dX3_forms_53 rfl (lv_at hl 1 rfl) ?_
                refine lv_iadd hx hb dX3_forms_54 ?_
                obtain ⟨g2, hm⟩ := gdE hm
                refine tg_lald C hw (tp_18 ad dI dJ u) g2 dX3_forms_55 ?_
                refine lv_lconst (v := 0) hx hb dX3_forms_56 (by decide) ?_
                refine lc_eq (tgt := 89) hx hb dX3_forms_57 dX3_forms_58 (by decide) (fun c3 => ?_) (fun c3 => ?_)
                · have hm := ifT hm c3
                  exact hB89 u x1 x3 _ _ _ hm hw (lv_sub hl [0, 1, 2] rfl)
                · have hm := ifF hm c3
                  refine lv_aload_n hx hb dX3_forms_61 rfl (lv_at hl 0 rfl) ?_
                  refine lv_iload_n hx hb dX3_forms_62 rfl (lv_at hl 2 rfl) ?_
                  refine lv_iload_n hx hb dX3_forms_63 rfl (lv_at hl 1 rfl) ?_
                  refine lv_aload_n hx hb dX3_forms_64 rfl (lv_at hl 0 rfl) ?_
                  refine tg_get C hw 18 (by decide) q1584 rfl dX3_forms_65 ?_
                  refine lv_iconst (v := 3) hx hb dX3_forms_68 (by decide) ?_
                  refine lv_iload_n hx hb dX3_forms_69 rfl (lv_at hl 2 rfl) ?_
                  refine lv_imul hx hb dX3_forms_70 ?_
                  refine lv_iload_n hx hb dX3_forms_71 rfl (lv_at hl 1 rfl) ?_
                  refine lv_iadd hx hb dX3_forms_72 ?_
                  obtain ⟨g4, hm⟩ := gdE hm
                  refine tg_lald C hw (tp_18 ad dI dJ u) g4 dX3_forms_73 ?_
                  refine lv_aload_n hx hb dX3_forms_74 rfl (lv_at hl 0 rfl) ?_
                  refine tg_get C hw 18 (by decide) q1584 rfl dX3_forms_75 ?_
                  refine lv_iconst (v := 3) hx hb dX3_forms_78 (by decide) ?_
                  refine lv_iload_n hx hb dX3_forms_79 rfl (lv_at hl 1 rfl) ?_
                  refine lv_imul hx hb dX3_forms_80 ?_
                  refine lv_iload_n hx hb dX3_forms_81 rfl (lv_at hl 1 rfl) ?_
                  refine lv_iadd hx hb dX3_forms_82 ?_
                  obtain ⟨g5, hm⟩ := gdE hm
                  refine tg_lald C hw (tp_18 ad dI dJ u) g5 dX3_forms_83 ?_
                  obtain ⟨g6, hm⟩ := gdE hm
                  refine lv_ldiv hx hb dX3_forms_84 (nzL_ne g6) ?_
                  refine lv_lneg hx hb dX3_forms_85 ?_
                  obtain ⟨u7, eu7, hm⟩ := bdE hm
                  refine tg_callv hw (va_runV (As := [.int x3, .int x1, .long (-((tB u 18 (Int32.toNatClampNeg (((3 : Int32) * x3) + x1))) / (tB u 18 (Int32.toNatClampNeg (((3 : Int32) * x1) + x1)))))]) (rest := []) ⟨hx, hb, hml, hown, hts⟩ (w_X3_addsRow l eu7) (cw_X3_addsRow hts q1852 ⟨Nat.le_of_ble_eq_true rfl, Nat.le_of_ble_eq_true rfl⟩) (tg_pre C hw _) rfl rfl hl.1 rfl (lv_room (Nat.le_of_ble_eq_true rfl)) dX3_forms_86 ⟨Nat.le_of_ble_eq_true rfl, Nat.le_of_ble_eq_true rfl⟩) (fun H locs hw => ?_)
                  exact hB89 u7 x1 x3 _ _ _ hm hw (lv_sub hl [0, 1, 2] rfl)
          have hB37 : ∀ (u : TS) (x1 : Int32) (H : Heap) (locs : List Loc) (ls : Array Slot), m_X3_forms_37 f (m_X3_forms_7 f n7) (m_X3_forms_12 f (m_X3_forms_7 f n7) n12) u x1 = some u9 → TH D ad dI dJ A s.heap u H locs → lv_has ls 5 [(0, .ref (ad 40)), (1, .int x1)] → W p l e rm_X3_forms s m args below meth c H locs 0 0 QQ (F0 m 37 ls []) := by
            intro u x1 H locs ls hm hw hl
            rw [m_X3_forms_37] at hm
            refine lv_iload_n hx hb dX3_forms_37 rfl (lv_at hl 1 rfl) ?_
            refine lv_iconst (v := 1) hx hb dX3_forms_38 (by decide) ?_
            refine lv_iadd hx hb dX3_forms_39 ?_
            refine lv_topi (fun v1 ev1 => ?_)
            have hm := nmK hm ev1
            refine lv_istore_n (lv' := [(3, .int v1), (0, .ref (ad 40)), (1, .int x1)]) hx hb dX3_forms_40 rfl hl (by decide) rfl (fun ls hl => ?_)
            exact hB41 f u x1 v1 _ _ _ hm hw (lv_sub hl [1, 2, 0] rfl)
          intro u x1 H locs ls hm hw hl
          rw [m_X3_forms_12] at hm
          refine lv_aload_n hx hb dX3_forms_12 rfl (lv_at hl 0 rfl) ?_
          refine lv_iload_n hx hb dX3_forms_13 rfl (lv_at hl 1 rfl) ?_
          obtain ⟨r2, u1, er2, hm⟩ := bd2E hm
          refine tg_calli hw (va_runV (As := [.int x1]) (rest := []) ⟨hx, hb, hml, hown, hts⟩ (w_X3_hasBelow l er2) (cw_X3_hasBelow hts q1836 ⟨Nat.le_of_ble_eq_true rfl, Nat.le_of_ble_eq_true rfl⟩) (tg_pre C hw _) rfl rfl hl.1 rfl (lv_room (Nat.le_of_ble_eq_true rfl)) dX3_forms_14 ⟨Nat.le_of_ble_eq_true rfl, Nat.le_of_ble_eq_true rfl⟩) (fun H locs hw => ?_)
          refine lv_if_eq (tgt := 98) hx hb dX3_forms_17 (by decide) (fun c3 => ?_) (fun c3 => ?_)
          · have hm := ifT hm c3
            exact hB98 u1 x1 _ _ _ hm hw (lv_sub hl [0, 1] rfl)
          · have hm := ifF hm c3
            refine lv_aload_n hx hb dX3_forms_20 rfl (lv_at hl 0 rfl) ?_
            refine lv_iload_n hx hb dX3_forms_21 rfl (lv_at hl 1 rfl) ?_
            obtain ⟨r5, u4, er5, hm⟩ := bd2E hm
            refine tg_calli hw (va_runV (As := [.int x1]) (rest := []) ⟨hx, hb, hml, hown, hts⟩ (w_X3_leastRow l er5) (cw_X3_leastRow hts q1840 ⟨Nat.le_of_ble_eq_true rfl, Nat.le_of_ble_eq_true rfl⟩) (tg_pre C hw _) rfl rfl hl.1 rfl (lv_room (Nat.le_of_ble_eq_true rfl)) dX3_forms_22 ⟨Nat.le_of_ble_eq_true rfl, Nat.le_of_ble_eq_true rfl⟩) (fun H locs hw => ?_)
            refine lv_istore_n (lv' := [(2, .int r5), (0, .ref (ad 40)), (1, .int x1)]) hx hb dX3_forms_25 rfl hl (by decide) rfl (fun ls hl => ?_)
            refine lv_iload_n hx hb dX3_forms_26 rfl (lv_at hl 0 rfl) ?_
            refine lv_iload_n hx hb dX3_forms_27 rfl (lv_at hl 2 rfl) ?_
            refine lv_icmp_eq (tgt := 37) hx hb dX3_forms_28 (by decide) (fun c6 => ?_) (fun c6 => ?_)
            · have hm := ifT hm c6
              exact hB37 u4 x1 _ _ _ hm hw (lv_sub hl [1, 2] rfl)
            · have hm := ifF hm c6
              refine lv_aload_n hx hb dX3_forms_31 rfl (lv_at hl 1 rfl) ?_
              refine lv_iload_n hx hb dX3_forms_32 rfl (lv_at hl 2 rfl) ?_
              refine lv_iload_n hx hb dX3_forms_33 rfl (lv_at hl 0 rfl) ?_
              obtain ⟨u7, eu7, hm⟩ := bdE hm
              refine tg_callv hw (va_runV (As := [.int x1, .int r5]) (rest := []) ⟨hx, hb, hml, hown, hts⟩ (w_X3_exchangesRows l eu7) (cw_X3_exchangesRows hts q1844 ⟨Nat.le_of_ble_eq_true rfl, Nat.le_of_ble_eq_true rfl⟩) (tg_pre C hw _) rfl rfl hl.1 rfl (lv_room (Nat.le_of_ble_eq_true rfl)) dX3_forms_34 ⟨Nat.le_of_ble_eq_true rfl, Nat.le_of_ble_eq_true rfl⟩) (fun H locs hw => ?_)
              exact hB37 u7 x1 _ _ _ hm hw (lv_sub hl [1, 2] rfl)
      intro u x1 H locs ls hm hw hl
      rw [m_X3_forms_7] at hm
      refine lv_iload_n hx hb dX3_forms_7 rfl (lv_at hl 1 rfl) ?_
      refine lv_iconst (v := 3) hx hb dX3_forms_8 (by decide) ?_
      refine lv_icmp_ge (tgt := 212) hx hb dX3_forms_9 (by decide) (fun c1 => ?_) (fun c1 => ?_)
      · have hm := ifT hm c1
        exact hB212 u _ _ _ hm hw (lv_sub hl [] rfl)
      · have hm := ifF hm c1
        exact hB12 f u x1 _ _ _ hm hw (lv_sub hl [0, 1] rfl)
  rw [m_X3_forms] at hm
  refine lv_aload_n hx hb dX3_forms_0 rfl (lv_at hl 0 rfl) ?_
  refine lv_iconst (v := 0) hx hb dX3_forms_1 (by decide) ?_
  refine tg_put C hw 25 (by decide) q1591 rfl rfl rfl (ts_25 ad dI dJ u (0 : Int32)) dX3_forms_2 (fun H locs hw => ?_)
  obtain ⟨u1, eu1, hm⟩ := nmE hm
  rw [← eu1] at hw
  refine lv_iconst (v := 0) hx hb dX3_forms_5 (by decide) ?_
  refine lv_istore_n (lv' := [(1, .int (0 : Int32)), (0, .ref (ad 40))]) hx hb dX3_forms_6 rfl hl (by decide) rfl (fun ls hl => ?_)
  exact hB7 f u1 (0 : Int32) _ _ _ hm hw (lv_sub hl [1, 0] rfl)
def m_X3_hermite_16 (f : Nat) (u : TS) : Option (Int64 × TS) := some ((-1 : Int64), u)
def m_X3_hermite (f : Nat) (u : TS) (x1 : Int32) (x2 : Int32) (x3 : Int32) : Option (Int64 × TS) := bd2 (m_X3_isLattice f u x1) fun r2 u1 =>
    if r2 = 0 then
    m_X3_hermite_16 f u1
    else bd (m_X3_isAt2 f x2 x3) fun r4 =>
    if ¬ r4 = 0 then
    bd (m_X3_lays f u1 x1) fun u6 =>
    bd (m_X3_forms f u6) fun u7 =>
    gd (ix (((3 : Int32) * x2) + x3) 9) <|
    some ((tB u7 18 (Int32.toNatClampNeg (((3 : Int32) * x2) + x3))), u7)
    else m_X3_hermite_16 f u1
abbrev rm_X3_hermite : Room := { frames := 5, cells := 0, slots := 0, locals := 124 }
theorem cw_X3_hermite {R : Room} {s : State} {args : Array Value} {own : String} {idx : Nat} (hts : ∀ w ∈ lw_all, w.before args s = true) (hl : Cond.methodLink own idx yX3_hermite ∈ lw_all) (hR : rm_X3_hermite.frames + 1 ≤ R.frames ∧ 8 + (4 + 11) + rm_X3_hermite.locals ≤ R.locals) : CallW R s args own RX3 idx yX3_hermite cX3_hermite 4 (Option.some Jvm.ClassFile.FieldType.long) (ws_ yX3_hermite cX3_hermite 4 (Option.some Jvm.ClassFile.FieldType.long)) rm_X3_hermite 0 0 3 := cwV 3 hts (lw_V hl q1828 q1829 q125 q1830) rfl rfl rfl (by decide +kernel) hR
set_option maxHeartbeats 4000000 in
set_option maxRecDepth 100000 in
theorem w_X3_hermite (l : Launch) {D : va_G} {ad : Nat → Nat} {dI dJ : ClassId} {A : Nat → Prop} {f : Nat} {u u9 : TS} {r0 : Int64} {x1 : Int32} {x2 : Int32} {x3 : Int32} (hm : m_X3_hermite f u x1 x2 x3 = some (r0, u9)) : Met l yX3_hermite (ws_ yX3_hermite cX3_hermite 4 (Option.some Jvm.ClassFile.FieldType.long)) rm_X3_hermite (va_Pc [.ref (ad 40), .int x1, .int x2, .int x3] (TPre D ad dI dJ A u)) (va_Ql (fun r u => r = r0 ∧ u = u9) (TPost D ad dI dJ A) A) 0 0 A := by
  refine Met.ofW (cc := cX3_hermite) (maxL := 4) (ret := (Option.some Jvm.ClassFile.FieldType.long)) (by decide) rfl ?_
  intro p e s m args below meth c s₁ B hml hv
  have hx := B.exec
  have hb := B.bytes
  have hr := B.returns
  have hts := atoms_spec (ws := (ws_ yX3_hermite cX3_hermite 4 (Option.some Jvm.ClassFile.FieldType.long))) B.pre
  have hts : ∀ w ∈ lw_all, w.before args s = true := fun w h => hts w (List.mem_cons_of_mem _ h)
  have hown : s.vm.findClass RX3 = some m.cls := findClass_of_methodNamed B.named
  have hlocks := B.notSynchronized
  obtain ⟨hav, hv⟩ := hv
  have C : TC p s m args c cX3_hermite D dI dJ := ⟨hx, hb, hown, hts, hv.2.1⟩
  have hw : TH D ad dI dJ A s.heap u s.heap [] := ⟨hv.1, hv.2.2.1, va_S.rf, hv.2.2.2⟩
  generalize hQ : MQ below (va_Ql (fun r u => r = r0 ∧ u = u9) (TPost D ad dI dJ A) A) args s 0 0 A = QQ
  have hent := lg_entry_eq m [.ref (ad 40), .int x1, .int x2, .int x3] 4
  rw [← hav] at hent
  rw [hent]
  have hl := lv_entry ([.ref (ad 40), .int x1, .int x2, .int x3]) (n := 4) (Nat.le_of_ble_eq_true rfl)
  generalize (lg_sl ([.ref (ad 40), .int x1, .int x2, .int x3]) ++ List.replicate (4 - (lg_sl ([.ref (ad 40), .int x1, .int x2, .int x3])).length) Slot.unset).toArray = ls at hl ⊢
  have hl : lv_has ls 4 [(0, .ref (ad 40)), (1, .int x1), (2, .int x2), (3, .int x3)] := hl
  change W p l e rm_X3_hermite s m args below meth c s.heap [] 0 0 QQ (F0 m 0 ls [])
  have hB16 : ∀ (u : TS) (H : Heap) (locs : List Loc) (ls : Array Slot), m_X3_hermite_16 f u = some (r0, u9) → TH D ad dI dJ A s.heap u H locs → lv_has ls 4 [] → W p l e rm_X3_hermite s m args below meth c H locs 0 0 QQ (F0 m 16 ls []) := by
    intro u H locs ls hm hw hl
    rw [m_X3_hermite_16] at hm
    refine lv_ldc2 hx hb hown (hts _ q1831) dX3_hermite_16 ?_
    rw [← hQ]
    exact W.lret (v := (-1 : Int64)) hx hb hr (fun t ht hW => ⟨⟨(-1 : Int64), u, rfl, retE hm, by rw [ht]; exact hw.1, hw.2.1⟩, hw.2.2.1.F ht⟩) hw.2.2.1.2.2 dX3_hermite_19
  rw [m_X3_hermite] at hm
  refine lv_aload_n hx hb dX3_hermite_0 rfl (lv_at hl 0 rfl) ?_
  refine lv_iload_n hx hb dX3_hermite_1 rfl (lv_at hl 1 rfl) ?_
  obtain ⟨r2, u1, er2, hm⟩ := bd2E hm
  refine tg_calli hw (va_runV (As := [.int x1]) (rest := []) ⟨hx, hb, hml, hown, hts⟩ (w_X3_isLattice l er2) (cw_X3_isLattice hts q1796 ⟨Nat.le_of_ble_eq_true rfl, Nat.le_of_ble_eq_true rfl⟩) (tg_pre C hw _) rfl rfl hl.1 rfl (lv_room (Nat.le_of_ble_eq_true rfl)) dX3_hermite_2 ⟨Nat.le_of_ble_eq_true rfl, Nat.le_of_ble_eq_true rfl⟩) (fun H locs hw => ?_)
  refine lv_if_eq (tgt := 16) hx hb dX3_hermite_5 (by decide) (fun c3 => ?_) (fun c3 => ?_)
  · have hm := ifT hm c3
    exact hB16 u1 _ _ _ hm hw (lv_sub hl [] rfl)
  · have hm := ifF hm c3
    refine lv_iload_n hx hb dX3_hermite_8 rfl (lv_at hl 2 rfl) ?_
    refine lv_iload_n hx hb dX3_hermite_9 rfl (lv_at hl 3 rfl) ?_
    obtain ⟨r4, er4, hm⟩ := bdE hm
    refine sci (va_runS (As := [.int x2, .int x3]) (rest := []) ⟨hx, hb, hml, hown, hts⟩ (w_X3_isAt2 l er4) (cw_X3_isAt2 hts q1800 ⟨Nat.le_of_ble_eq_true rfl, Nat.le_of_ble_eq_true rfl⟩) (pre_s _) rfl rfl hl.1 rfl (lv_room (Nat.le_of_ble_eq_true rfl)) dX3_hermite_10 ⟨Nat.le_of_ble_eq_true rfl, Nat.le_of_ble_eq_true rfl⟩) ?_
    refine lv_if_ne (tgt := 20) hx hb dX3_hermite_13 (by decide) (fun c5 => ?_) (fun c5 => ?_)
    · have hm := ifT hm c5
      refine lv_aload_n hx hb dX3_hermite_20 rfl (lv_at hl 0 rfl) ?_
      refine lv_iload_n hx hb dX3_hermite_21 rfl (lv_at hl 1 rfl) ?_
      obtain ⟨u6, eu6, hm⟩ := bdE hm
      refine tg_callv hw (va_runV (As := [.int x1]) (rest := []) ⟨hx, hb, hml, hown, hts⟩ (w_X3_lays l eu6) (cw_X3_lays hts q1804 ⟨Nat.le_of_ble_eq_true rfl, Nat.le_of_ble_eq_true rfl⟩) (tg_pre C hw _) rfl rfl hl.1 rfl (lv_room (Nat.le_of_ble_eq_true rfl)) dX3_hermite_22 ⟨Nat.le_of_ble_eq_true rfl, Nat.le_of_ble_eq_true rfl⟩) (fun H locs hw => ?_)
      refine lv_aload_n hx hb dX3_hermite_25 rfl (lv_at hl 0 rfl) ?_
      obtain ⟨u7, eu7, hm⟩ := bdE hm
      refine tg_callv hw (va_runV (As := []) (rest := []) ⟨hx, hb, hml, hown, hts⟩ (w_X3_forms l eu7) (cw_X3_forms hts q1832 ⟨Nat.le_of_ble_eq_true rfl, Nat.le_of_ble_eq_true rfl⟩) (tg_pre C hw _) rfl rfl hl.1 rfl (lv_room (Nat.le_of_ble_eq_true rfl)) dX3_hermite_26 ⟨Nat.le_of_ble_eq_true rfl, Nat.le_of_ble_eq_true rfl⟩) (fun H locs hw => ?_)
      refine lv_aload_n hx hb dX3_hermite_29 rfl (lv_at hl 0 rfl) ?_
      refine tg_get C hw 18 (by decide) q1584 rfl dX3_hermite_30 ?_
      refine lv_iconst (v := 3) hx hb dX3_hermite_33 (by decide) ?_
      refine lv_iload_n hx hb dX3_hermite_34 rfl (lv_at hl 2 rfl) ?_
      refine lv_imul hx hb dX3_hermite_35 ?_
      refine lv_iload_n hx hb dX3_hermite_36 rfl (lv_at hl 3 rfl) ?_
      refine lv_iadd hx hb dX3_hermite_37 ?_
      obtain ⟨g8, hm⟩ := gdE hm
      refine tg_lald C hw (tp_18 ad dI dJ u7) g8 dX3_hermite_38 ?_
      rw [← hQ]
      exact W.lret (v := (tB u7 18 (Int32.toNatClampNeg (((3 : Int32) * x2) + x3)))) hx hb hr (fun t ht hW => ⟨⟨(tB u7 18 (Int32.toNatClampNeg (((3 : Int32) * x2) + x3))), u7, rfl, retE hm, by rw [ht]; exact hw.1, hw.2.1⟩, hw.2.2.1.F ht⟩) hw.2.2.1.2.2 dX3_hermite_39
    · have hm := ifT' hm c5
      exact hB16 u1 _ _ _ hm hw (lv_sub hl [] rfl)
def m_X3_steps (f : Nat) (u : TS) (x1 : Int32) : Option (Int32 × TS) := bd2 (m_X3_isLattice f u x1) fun r2 u1 =>
    if ¬ r2 = 0 then
    bd (m_X3_lays f u1 x1) fun u4 =>
    bd (m_X3_forms f u4) fun u5 =>
    some ((tI u5 25), u5)
    else some ((-2 : Int32), u1)
abbrev rm_X3_steps : Room := { frames := 5, cells := 0, slots := 0, locals := 124 }
theorem cw_X3_steps {R : Room} {s : State} {args : Array Value} {own : String} {idx : Nat} (hts : ∀ w ∈ lw_all, w.before args s = true) (hl : Cond.methodLink own idx yX3_steps ∈ lw_all) (hR : rm_X3_steps.frames + 1 ≤ R.frames ∧ 8 + (2 + 11) + rm_X3_steps.locals ≤ R.locals) : CallW R s args own RX3 idx yX3_steps cX3_steps 2 (Option.some Jvm.ClassFile.FieldType.int) (ws_ yX3_steps cX3_steps 2 (Option.some Jvm.ClassFile.FieldType.int)) rm_X3_steps 0 0 1 := cwV 1 hts (lw_V hl q1858 q1859 q125 q1860) rfl rfl rfl (by decide +kernel) hR
set_option maxHeartbeats 4000000 in
set_option maxRecDepth 100000 in
theorem w_X3_steps (l : Launch) {D : va_G} {ad : Nat → Nat} {dI dJ : ClassId} {A : Nat → Prop} {f : Nat} {u u9 : TS} {r0 : Int32} {x1 : Int32} (hm : m_X3_steps f u x1 = some (r0, u9)) : Met l yX3_steps (ws_ yX3_steps cX3_steps 2 (Option.some Jvm.ClassFile.FieldType.int)) rm_X3_steps (va_Pc [.ref (ad 40), .int x1] (TPre D ad dI dJ A u)) (va_Qi (fun r u => r = r0 ∧ u = u9) (TPost D ad dI dJ A) A) 0 0 A := by
  refine Met.ofW (cc := cX3_steps) (maxL := 2) (ret := (Option.some Jvm.ClassFile.FieldType.int)) (by decide) rfl ?_
  intro p e s m args below meth c s₁ B hml hv
  have hx := B.exec
  have hb := B.bytes
  have hr := B.returns
  have hts := atoms_spec (ws := (ws_ yX3_steps cX3_steps 2 (Option.some Jvm.ClassFile.FieldType.int))) B.pre
  have hts : ∀ w ∈ lw_all, w.before args s = true := fun w h => hts w (List.mem_cons_of_mem _ h)
  have hown : s.vm.findClass RX3 = some m.cls := findClass_of_methodNamed B.named
  have hlocks := B.notSynchronized
  obtain ⟨hav, hv⟩ := hv
  have C : TC p s m args c cX3_steps D dI dJ := ⟨hx, hb, hown, hts, hv.2.1⟩
  have hw : TH D ad dI dJ A s.heap u s.heap [] := ⟨hv.1, hv.2.2.1, va_S.rf, hv.2.2.2⟩
  generalize hQ : MQ below (va_Qi (fun r u => r = r0 ∧ u = u9) (TPost D ad dI dJ A) A) args s 0 0 A = QQ
  have hent := lg_entry_eq m [.ref (ad 40), .int x1] 2
  rw [← hav] at hent
  rw [hent]
  have hl := lv_entry ([.ref (ad 40), .int x1]) (n := 2) (Nat.le_of_ble_eq_true rfl)
  generalize (lg_sl ([.ref (ad 40), .int x1]) ++ List.replicate (2 - (lg_sl ([.ref (ad 40), .int x1])).length) Slot.unset).toArray = ls at hl ⊢
  have hl : lv_has ls 2 [(0, .ref (ad 40)), (1, .int x1)] := hl
  change W p l e rm_X3_steps s m args below meth c s.heap [] 0 0 QQ (F0 m 0 ls [])
  rw [m_X3_steps] at hm
  refine lv_aload_n hx hb dX3_steps_0 rfl (lv_at hl 0 rfl) ?_
  refine lv_iload_n hx hb dX3_steps_1 rfl (lv_at hl 1 rfl) ?_
  obtain ⟨r2, u1, er2, hm⟩ := bd2E hm
  refine tg_calli hw (va_runV (As := [.int x1]) (rest := []) ⟨hx, hb, hml, hown, hts⟩ (w_X3_isLattice l er2) (cw_X3_isLattice hts q1796 ⟨Nat.le_of_ble_eq_true rfl, Nat.le_of_ble_eq_true rfl⟩) (tg_pre C hw _) rfl rfl hl.1 rfl (lv_room (Nat.le_of_ble_eq_true rfl)) dX3_steps_2 ⟨Nat.le_of_ble_eq_true rfl, Nat.le_of_ble_eq_true rfl⟩) (fun H locs hw => ?_)
  refine lv_if_ne (tgt := 11) hx hb dX3_steps_5 (by decide) (fun c3 => ?_) (fun c3 => ?_)
  · have hm := ifT hm c3
    refine lv_aload_n hx hb dX3_steps_11 rfl (lv_at hl 0 rfl) ?_
    refine lv_iload_n hx hb dX3_steps_12 rfl (lv_at hl 1 rfl) ?_
    obtain ⟨u4, eu4, hm⟩ := bdE hm
    refine tg_callv hw (va_runV (As := [.int x1]) (rest := []) ⟨hx, hb, hml, hown, hts⟩ (w_X3_lays l eu4) (cw_X3_lays hts q1804 ⟨Nat.le_of_ble_eq_true rfl, Nat.le_of_ble_eq_true rfl⟩) (tg_pre C hw _) rfl rfl hl.1 rfl (lv_room (Nat.le_of_ble_eq_true rfl)) dX3_steps_13 ⟨Nat.le_of_ble_eq_true rfl, Nat.le_of_ble_eq_true rfl⟩) (fun H locs hw => ?_)
    refine lv_aload_n hx hb dX3_steps_16 rfl (lv_at hl 0 rfl) ?_
    obtain ⟨u5, eu5, hm⟩ := bdE hm
    refine tg_callv hw (va_runV (As := []) (rest := []) ⟨hx, hb, hml, hown, hts⟩ (w_X3_forms l eu5) (cw_X3_forms hts q1832 ⟨Nat.le_of_ble_eq_true rfl, Nat.le_of_ble_eq_true rfl⟩) (tg_pre C hw _) rfl rfl hl.1 rfl (lv_room (Nat.le_of_ble_eq_true rfl)) dX3_steps_17 ⟨Nat.le_of_ble_eq_true rfl, Nat.le_of_ble_eq_true rfl⟩) (fun H locs hw => ?_)
    refine lv_aload_n hx hb dX3_steps_20 rfl (lv_at hl 0 rfl) ?_
    refine tg_get C hw 25 (by decide) q1591 rfl dX3_steps_21 ?_
    rw [← hQ]
    exact W.iret (v := (tI u5 25)) hx hb hr (fun t ht hW => ⟨⟨(tI u5 25), u5, rfl, retE hm, by rw [ht]; exact hw.1, hw.2.1⟩, hw.2.2.1.F ht⟩) hw.2.2.1.2.2 dX3_steps_24
  · have hm := ifT' hm c3
    refine lv_bipush (v := -2) hx hb dX3_steps_8 (by decide) ?_
    rw [← hQ]
    exact W.iret (v := (-2 : Int32)) hx hb hr (fun t ht hW => ⟨⟨(-2 : Int32), u1, rfl, retE hm, by rw [ht]; exact hw.1, hw.2.1⟩, hw.2.2.1.F ht⟩) hw.2.2.1.2.2 dX3_steps_10
def m_X3_step_2_20 (f : Nat) (u : TS) : Option (Int32 × TS) := some ((-1000000 : Int32), u)
def m_X3_step_2_99 (f : Nat) (u : TS) (y0 : Int32) : Option (Int32 × TS) := some (y0, u)
def m_X3_step_2 (f : Nat) (u : TS) (x1 : Int32) (x2 : Int32) (x3 : Int32) : Option (Int32 × TS) := bd2 (m_X3_isLattice f u x1) fun r2 u1 =>
    if r2 = 0 then
    m_X3_step_2_20 f u1
    else bd (m_X3_in f (Int32.toInt64 x3) (0 : Int64) (3 : Int64)) fun r4 =>
    if ¬ r4 = 0 then
    bd (m_X3_lays f u1 x1) fun u6 =>
    bd (m_X3_forms f u6) fun u7 =>
    bd (m_X3_in f (Int32.toInt64 x2) (0 : Int64) (Int32.toInt64 ((tI u7 25) - (1 : Int32)))) fun r8 =>
    if ¬ r8 = 0 then
    if ¬ x3 = 0 then
    if ¬ x3 = (1 : Int32) then
    if ¬ x3 = (2 : Int32) then
    gd (ix x2 400) <|
    m_X3_step_2_99 f u7 (Int64.toInt32 (tB u7 24 (Int32.toNatClampNeg x2)))
    else gd (ix x2 400) <|
    m_X3_step_2_99 f u7 (tA u7 23 (Int32.toNatClampNeg x2))
    else gd (ix x2 400) <|
    m_X3_step_2_99 f u7 (tA u7 22 (Int32.toNatClampNeg x2))
    else gd (ix x2 400) <|
    m_X3_step_2_99 f u7 (tA u7 21 (Int32.toNatClampNeg x2))
    else some ((-1000000 : Int32), u7)
    else m_X3_step_2_20 f u1
abbrev rm_X3_step_2 : Room := { frames := 5, cells := 0, slots := 0, locals := 124 }
theorem cw_X3_step_2 {R : Room} {s : State} {args : Array Value} {own : String} {idx : Nat} (hts : ∀ w ∈ lw_all, w.before args s = true) (hl : Cond.methodLink own idx yX3_step_2 ∈ lw_all) (hR : rm_X3_step_2.frames + 1 ≤ R.frames ∧ 8 + (4 + 11) + rm_X3_step_2.locals ≤ R.locals) : CallW R s args own RX3 idx yX3_step_2 cX3_step_2 4 (Option.some Jvm.ClassFile.FieldType.int) (ws_ yX3_step_2 cX3_step_2 4 (Option.some Jvm.ClassFile.FieldType.int)) rm_X3_step_2 0 0 3 := cwV 3 hts (lw_V hl q1862 q1863 q125 q1864) rfl rfl rfl (by decide +kernel) hR
set_option maxHeartbeats 4000000 in
set_option maxRecDepth 100000 in
theorem w_X3_step_2 (l : Launch) {D : va_G} {ad : Nat → Nat} {dI dJ : ClassId} {A : Nat → Prop} {f : Nat} {u u9 : TS} {r0 : Int32} {x1 : Int32} {x2 : Int32} {x3 : Int32} (hm : m_X3_step_2 f u x1 x2 x3 = some (r0, u9)) : Met l yX3_step_2 (ws_ yX3_step_2 cX3_step_2 4 (Option.some Jvm.ClassFile.FieldType.int)) rm_X3_step_2 (va_Pc [.ref (ad 40), .int x1, .int x2, .int x3] (TPre D ad dI dJ A u)) (va_Qi (fun r u => r = r0 ∧ u = u9) (TPost D ad dI dJ A) A) 0 0 A := by
  refine Met.ofW (cc := cX3_step_2) (maxL := 4) (ret := (Option.some Jvm.ClassFile.FieldType.int)) (by decide) rfl ?_
  intro p e s m args below meth c s₁ B hml hv
  have hx := B.exec
  have hb := B.bytes
  have hr := B.returns
  have hts := atoms_spec (ws := (ws_ yX3_step_2 cX3_step_2 4 (Option.some Jvm.ClassFile.FieldType.int))) B.pre
  have hts : ∀ w ∈ lw_all, w.before args s = true := fun w h => hts w (List.mem_cons_of_mem _ h)
  have hown : s.vm.findClass RX3 = some m.cls := findClass_of_methodNamed B.named
  have hlocks := B.notSynchronized
  obtain ⟨hav, hv⟩ := hv
  have C : TC p s m args c cX3_step_2 D dI dJ := ⟨hx, hb, hown, hts, hv.2.1⟩
  have hw : TH D ad dI dJ A s.heap u s.heap [] := ⟨hv.1, hv.2.2.1, va_S.rf, hv.2.2.2⟩
  generalize hQ : MQ below (va_Qi (fun r u => r = r0 ∧ u = u9) (TPost D ad dI dJ A) A) args s 0 0 A = QQ
  have hent := lg_entry_eq m [.ref (ad 40), .int x1, .int x2, .int x3] 4
  rw [← hav] at hent
  rw [hent]
  have hl := lv_entry ([.ref (ad 40), .int x1, .int x2, .int x3]) (n := 4) (Nat.le_of_ble_eq_true rfl)
  generalize (lg_sl ([.ref (ad 40), .int x1, .int x2, .int x3]) ++ List.replicate (4 - (lg_sl ([.ref (ad 40), .int x1, .int x2, .int x3])).length) Slot.unset).toArray = ls at hl ⊢
  have hl : lv_has ls 4 [(0, .ref (ad 40)), (1, .int x1), (2, .int x2), (3, .int x3)] := hl
  change W p l e rm_X3_step_2 s m args below meth c s.heap [] 0 0 QQ (F0 m 0 ls [])
  have hB20 : ∀ (u : TS) (H : Heap) (locs : List Loc) (ls : Array Slot), m_X3_step_2_20 f u = some (r0, u9) → TH D ad dI dJ A s.heap u H locs → lv_has ls 4 [] → W p l e rm_X3_step_2 s m args below meth c H locs 0 0 QQ (F0 m 20 ls []) := by
    intro u H locs ls hm hw hl
    rw [m_X3_step_2_20] at hm
    refine lv_ldc hx hb hown (hts _ q1866) dX3_step_2_20 ?_
    rw [← hQ]
    exact W.iret (v := (-1000000 : Int32)) hx hb hr (fun t ht hW => ⟨⟨(-1000000 : Int32), u, rfl, retE hm, by rw [ht]; exact hw.1, hw.2.1⟩, hw.2.2.1.F ht⟩) hw.2.2.1.2.2 dX3_step_2_22
  have hB99 : ∀ (u : TS) (y0 : Int32) (H : Heap) (locs : List Loc) (ls : Array Slot), m_X3_step_2_99 f u y0 = some (r0, u9) → TH D ad dI dJ A s.heap u H locs → lv_has ls 4 [] → W p l e rm_X3_step_2 s m args below meth c H locs 0 0 QQ (F0 m 99 ls [.int y0]) := by
    intro u y0 H locs ls hm hw hl
    rw [m_X3_step_2_99] at hm
    rw [← hQ]
    exact W.iret (v := y0) hx hb hr (fun t ht hW => ⟨⟨y0, u, rfl, retE hm, by rw [ht]; exact hw.1, hw.2.1⟩, hw.2.2.1.F ht⟩) hw.2.2.1.2.2 dX3_step_2_99
  rw [m_X3_step_2] at hm
  refine lv_aload_n hx hb dX3_step_2_0 rfl (lv_at hl 0 rfl) ?_
  refine lv_iload_n hx hb dX3_step_2_1 rfl (lv_at hl 1 rfl) ?_
  obtain ⟨r2, u1, er2, hm⟩ := bd2E hm
  refine tg_calli hw (va_runV (As := [.int x1]) (rest := []) ⟨hx, hb, hml, hown, hts⟩ (w_X3_isLattice l er2) (cw_X3_isLattice hts q1796 ⟨Nat.le_of_ble_eq_true rfl, Nat.le_of_ble_eq_true rfl⟩) (tg_pre C hw _) rfl rfl hl.1 rfl (lv_room (Nat.le_of_ble_eq_true rfl)) dX3_step_2_2 ⟨Nat.le_of_ble_eq_true rfl, Nat.le_of_ble_eq_true rfl⟩) (fun H locs hw => ?_)
  refine lv_if_eq (tgt := 20) hx hb dX3_step_2_5 (by decide) (fun c3 => ?_) (fun c3 => ?_)
  · have hm := ifT hm c3
    exact hB20 u1 _ _ _ hm hw (lv_sub hl [] rfl)
  · have hm := ifF hm c3
    refine lv_iload_n hx hb dX3_step_2_8 rfl (lv_at hl 3 rfl) ?_
    refine lv_i2l hx hb dX3_step_2_9 rfl ?_
    refine lv_lconst (v := 0) hx hb dX3_step_2_10 (by decide) ?_
    refine lv_ldc2 hx hb hown (hts _ q1865) dX3_step_2_11 ?_
    obtain ⟨r4, er4, hm⟩ := bdE hm
    refine sci (va_runS (As := [.long (Int32.toInt64 x3), .long (0 : Int64), .long (3 : Int64)]) (rest := []) ⟨hx, hb, hml, hown, hts⟩ (w_X3_in l er4) (cw_X3_in hts q1695 ⟨Nat.le_of_ble_eq_true rfl, Nat.le_of_ble_eq_true rfl⟩) (pre_s _) rfl rfl hl.1 rfl (lv_room (Nat.le_of_ble_eq_true rfl)) dX3_step_2_14 ⟨Nat.le_of_ble_eq_true rfl, Nat.le_of_ble_eq_true rfl⟩) ?_
    refine lv_if_ne (tgt := 23) hx hb dX3_step_2_17 (by decide) (fun c5 => ?_) (fun c5 => ?_)
    · have hm := ifT hm c5
      refine lv_aload_n hx hb dX3_step_2_23 rfl (lv_at hl 0 rfl) ?_
      refine lv_iload_n hx hb dX3_step_2_24 rfl (lv_at hl 1 rfl) ?_
      obtain ⟨u6, eu6, hm⟩ := bdE hm
      refine tg_callv hw (va_runV (As := [.int x1]) (rest := []) ⟨hx, hb, hml, hown, hts⟩ (w_X3_lays l eu6) (cw_X3_lays hts q1804 ⟨Nat.le_of_ble_eq_true rfl, Nat.le_of_ble_eq_true rfl⟩) (tg_pre C hw _) rfl rfl hl.1 rfl (lv_room (Nat.le_of_ble_eq_true rfl)) dX3_step_2_25 ⟨Nat.le_of_ble_eq_true rfl, Nat.le_of_ble_eq_true rfl⟩) (fun H locs hw => ?_)
      refine lv_aload_n hx hb dX3_step_2_28 rfl (lv_at hl 0 rfl) ?_
      obtain ⟨u7, eu7, hm⟩ := bdE hm
      refine tg_callv hw (va_runV (As := []) (rest := []) ⟨hx, hb, hml, hown, hts⟩ (w_X3_forms l eu7) (cw_X3_forms hts q1832 ⟨Nat.le_of_ble_eq_true rfl, Nat.le_of_ble_eq_true rfl⟩) (tg_pre C hw _) rfl rfl hl.1 rfl (lv_room (Nat.le_of_ble_eq_true rfl)) dX3_step_2_29 ⟨Nat.le_of_ble_eq_true rfl, Nat.le_of_ble_eq_true rfl⟩) (fun H locs hw => ?_)
      refine lv_iload_n hx hb dX3_step_2_32 rfl (lv_at hl 2 rfl) ?_
      refine lv_i2l hx hb dX3_step_2_33 rfl ?_
      refine lv_lconst (v := 0) hx hb dX3_step_2_34 (by decide) ?_
      refine lv_aload_n hx hb dX3_step_2_35 rfl (lv_at hl 0 rfl) ?_
      refine tg_get C hw 25 (by decide) q1591 rfl dX3_step_2_36 ?_
      refine lv_iconst (v := 1) hx hb dX3_step_2_39 (by decide) ?_
      refine lv_isub hx hb dX3_step_2_40 ?_
      refine lv_i2l hx hb dX3_step_2_41 rfl ?_
      obtain ⟨r8, er8, hm⟩ := bdE hm
      refine sci (va_runS (As := [.long (Int32.toInt64 x2), .long (0 : Int64), .long (Int32.toInt64 ((tI u7 25) - (1 : Int32)))]) (rest := []) ⟨hx, hb, hml, hown, hts⟩ (w_X3_in l er8) (cw_X3_in hts q1695 ⟨Nat.le_of_ble_eq_true rfl, Nat.le_of_ble_eq_true rfl⟩) (pre_s _) rfl rfl hl.1 rfl (lv_room (Nat.le_of_ble_eq_true rfl)) dX3_step_2_42 ⟨Nat.le_of_ble_eq_true rfl, Nat.le_of_ble_eq_true rfl⟩) ?_
      refine lv_if_ne (tgt := 51) hx hb dX3_step_2_45 (by decide) (fun c9 => ?_) (fun c9 => ?_)
      · have hm := ifT hm c9
        refine lv_iload_n hx hb dX3_step_2_51 rfl (lv_at hl 3 rfl) ?_
        refine lv_if_ne (tgt := 64) hx hb dX3_step_2_52 (by decide) (fun c10 => ?_) (fun c10 => ?_)
        · have hm := ifT hm c10
          refine lv_iload_n hx hb dX3_step_2_64 rfl (lv_at hl 3 rfl) ?_
          refine lv_iconst (v := 1) hx hb dX3_step_2_65 (by decide) ?_
          refine lv_icmp_ne (tgt := 78) hx hb dX3_step_2_66 (by decide) (fun c11 => ?_) (fun c11 => ?_)
          · have hm := ifT hm c11
            refine lv_iload_n hx hb dX3_step_2_78 rfl (lv_at hl 3 rfl) ?_
            refine lv_iconst (v := 2) hx hb dX3_step_2_79 (by decide) ?_
            refine lv_icmp_ne (tgt := 92) hx hb dX3_step_2_80 (by decide) (fun c12 => ?_) (fun c12 => ?_)
            · have hm := ifT hm c12
              refine lv_aload_n hx hb dX3_step_2_92 rfl (lv_at hl 0 rfl) ?_
              refine tg_get C hw 24 (by decide) q1590 rfl dX3_step_2_93 ?_
              refine lv_iload_n hx hb dX3_step_2_96 rfl (lv_at hl 2 rfl) ?_
              obtain ⟨g13, hm⟩ := gdE hm
              refine tg_lald C hw (tp_24 ad dI dJ u7) g13 dX3_step_2_97 ?_
              refine lv_l2i hx hb dX3_step_2_98 rfl ?_
              exact hB99 u7 (Int64.toInt32 (tB u7 24 (Int32.toNatClampNeg x2))) _ _ _ hm hw (lv_sub hl [] rfl)
            · have hm := ifT' hm c12
              refine lv_aload_n hx hb dX3_step_2_83 rfl (lv_at hl 0 rfl) ?_
              refine tg_get C hw 23 (by decide) q1589 rfl dX3_step_2_84 ?_
              refine lv_iload_n hx hb dX3_step_2_87 rfl (lv_at hl 2 rfl) ?_
              obtain ⟨g14, hm⟩ := gdE hm
              refine tg_iald C hw (tp_23 ad dI dJ u7) g14 dX3_step_2_88 ?_
              refine lv_goto (tgt := 99) hx hb dX3_step_2_89 (by decide) ?_
              exact hB99 u7 (tA u7 23 (Int32.toNatClampNeg x2)) _ _ _ hm hw (lv_sub hl [] rfl)
          · have hm := ifT' hm c11
            refine lv_aload_n hx hb dX3_step_2_69 rfl (lv_at hl 0 rfl) ?_
            refine tg_get C hw 22 (by decide) q1588 rfl dX3_step_2_70 ?_
            refine lv_iload_n hx hb dX3_step_2_73 rfl (lv_at hl 2 rfl) ?_
            obtain ⟨g15, hm⟩ := gdE hm
            refine tg_iald C hw (tp_22 ad dI dJ u7) g15 dX3_step_2_74 ?_
            refine lv_goto (tgt := 99) hx hb dX3_step_2_75 (by decide) ?_
            exact hB99 u7 (tA u7 22 (Int32.toNatClampNeg x2)) _ _ _ hm hw (lv_sub hl [] rfl)
        · have hm := ifT' hm c10
          refine lv_aload_n hx hb dX3_step_2_55 rfl (lv_at hl 0 rfl) ?_
          refine tg_get C hw 21 (by decide) q1587 rfl dX3_step_2_56 ?_
          refine lv_iload_n hx hb dX3_step_2_59 rfl (lv_at hl 2 rfl) ?_
          obtain ⟨g16, hm⟩ := gdE hm
          refine tg_iald C hw (tp_21 ad dI dJ u7) g16 dX3_step_2_60 ?_
          refine lv_goto (tgt := 99) hx hb dX3_step_2_61 (by decide) ?_
          exact hB99 u7 (tA u7 21 (Int32.toNatClampNeg x2)) _ _ _ hm hw (lv_sub hl [] rfl)
      · have hm := ifT' hm c9
        refine lv_ldc hx hb hown (hts _ q1866) dX3_step_2_48 ?_
        rw [← hQ]
        exact W.iret (v := (-1000000 : Int32)) hx hb hr (fun t ht hW => ⟨⟨(-1000000 : Int32), u7, rfl, retE hm, by rw [ht]; exact hw.1, hw.2.1⟩, hw.2.2.1.F ht⟩) hw.2.2.1.2.2 dX3_step_2_50
    · have hm := ifT' hm c5
      exact hB20 u1 _ _ _ hm hw (lv_sub hl [] rfl)
def m_X3_det_78 (f : Nat) (u : TS) (x1 : Int64) : Option (Int64 × TS) := some (x1, u)
def m_X3_det_4 (f : Nat) : Nat → TS → Int64 → Int32 → Option (Int64 × TS)
  | 0, _, _, _ => none
  | n4 + 1, u, x1, x3 => if (3 : Int32) ≤ x3 then
    m_X3_det_78 f u x1
    else gd (ix x3 9) <|
    gd (ix ((3 : Int32) + (rmI (x3 + (1 : Int32)) (3 : Int32))) 9) <|
    gd (ix ((6 : Int32) + (rmI (x3 + (2 : Int32)) (3 : Int32))) 9) <|
    gd (ix ((3 : Int32) + (rmI (x3 + (2 : Int32)) (3 : Int32))) 9) <|
    gd (ix ((6 : Int32) + (rmI (x3 + (1 : Int32)) (3 : Int32))) 9) <|
    nmv ((x1 + ((tB u 18 (Int32.toNatClampNeg x3)) * (((tB u 18 (Int32.toNatClampNeg ((3 : Int32) + (rmI (x3 + (1 : Int32)) (3 : Int32))))) * (tB u 18 (Int32.toNatClampNeg ((6 : Int32) + (rmI (x3 + (2 : Int32)) (3 : Int32)))))) - ((tB u 18 (Int32.toNatClampNeg ((3 : Int32) + (rmI (x3 + (2 : Int32)) (3 : Int32))))) * (tB u 18 (Int32.toNatClampNeg ((6 : Int32) + (rmI (x3 + (1 : Int32)) (3 : Int32))))))))) : Int64) fun v7 =>
    nmv ((x3 + 1) : Int32) fun v8 =>
    m_X3_det_4 f n4 u v7 v8
def m_X3_det (f : Nat) (u : TS) : Option (Int64 × TS) := m_X3_det_4 f f u (0 : Int64) (0 : Int32)
abbrev rm_X3_det : Room := { frames := 0, cells := 0, slots := 0, locals := 0 }
theorem cw_X3_det {R : Room} {s : State} {args : Array Value} {own : String} {idx : Nat} (hts : ∀ w ∈ lw_all, w.before args s = true) (hl : Cond.methodLink own idx yX3_det ∈ lw_all) (hR : rm_X3_det.frames + 1 ≤ R.frames ∧ 8 + (4 + 11) + rm_X3_det.locals ≤ R.locals) : CallW R s args own RX3 idx yX3_det cX3_det 4 (Option.some Jvm.ClassFile.FieldType.long) (ws_ yX3_det cX3_det 4 (Option.some Jvm.ClassFile.FieldType.long)) rm_X3_det 0 0 0 := cwV 0 hts (lw_V hl q1874 qs79 q125 q1875) rfl rfl rfl (by decide +kernel) hR
set_option maxHeartbeats 4000000 in
set_option maxRecDepth 100000 in
theorem w_X3_det (l : Launch) {D : va_G} {ad : Nat → Nat} {dI dJ : ClassId} {A : Nat → Prop} {f : Nat} {u u9 : TS} {r0 : Int64}  (hm : m_X3_det f u = some (r0, u9)) : Met l yX3_det (ws_ yX3_det cX3_det 4 (Option.some Jvm.ClassFile.FieldType.long)) rm_X3_det (va_Pc [.ref (ad 40)] (TPre D ad dI dJ A u)) (va_Ql (fun r u => r = r0 ∧ u = u9) (TPost D ad dI dJ A) A) 0 0 A := by
  refine Met.ofW (cc := cX3_det) (maxL := 4) (ret := (Option.some Jvm.ClassFile.FieldType.long)) (by decide) rfl ?_
  intro p e s m args below meth c s₁ B hml hv
  have hx := B.exec
  have hb := B.bytes
  have hr := B.returns
  have hts := atoms_spec (ws := (ws_ yX3_det cX3_det 4 (Option.some Jvm.ClassFile.FieldType.long))) B.pre
  have hts : ∀ w ∈ lw_all, w.before args s = true := fun w h => hts w (List.mem_cons_of_mem _ h)
  have hown : s.vm.findClass RX3 = some m.cls := findClass_of_methodNamed B.named
  have hlocks := B.notSynchronized
  obtain ⟨hav, hv⟩ := hv
  have C : TC p s m args c cX3_det D dI dJ := ⟨hx, hb, hown, hts, hv.2.1⟩
  have hw : TH D ad dI dJ A s.heap u s.heap [] := ⟨hv.1, hv.2.2.1, va_S.rf, hv.2.2.2⟩
  generalize hQ : MQ below (va_Ql (fun r u => r = r0 ∧ u = u9) (TPost D ad dI dJ A) A) args s 0 0 A = QQ
  have hent := lg_entry_eq m [.ref (ad 40)] 4
  rw [← hav] at hent
  rw [hent]
  have hl := lv_entry ([.ref (ad 40)]) (n := 4) (Nat.le_of_ble_eq_true rfl)
  generalize (lg_sl ([.ref (ad 40)]) ++ List.replicate (4 - (lg_sl ([.ref (ad 40)])).length) Slot.unset).toArray = ls at hl ⊢
  have hl : lv_has ls 4 [(0, .ref (ad 40))] := hl
  change W p l e rm_X3_det s m args below meth c s.heap [] 0 0 QQ (F0 m 0 ls [])
  have hB78 : ∀ (u : TS) (x1 : Int64) (H : Heap) (locs : List Loc) (ls : Array Slot), m_X3_det_78 f u x1 = some (r0, u9) → TH D ad dI dJ A s.heap u H locs → lv_has ls 4 [(1, .long x1)] → W p l e rm_X3_det s m args below meth c H locs 0 0 QQ (F0 m 78 ls []) := by
    intro u x1 H locs ls hm hw hl
    rw [m_X3_det_78] at hm
    refine lv_lload_n hx hb dX3_det_78 rfl (lv_at hl 0 rfl) ?_
    rw [← hQ]
    exact W.lret (v := x1) hx hb hr (fun t ht hW => ⟨⟨x1, u, rfl, retE hm, by rw [ht]; exact hw.1, hw.2.1⟩, hw.2.2.1.F ht⟩) hw.2.2.1.2.2 dX3_det_79
  have hB4 : ∀ (n4 : Nat), ∀ (u : TS) (x1 : Int64) (x3 : Int32) (H : Heap) (locs : List Loc) (ls : Array Slot), m_X3_det_4 f n4 u x1 x3 = some (r0, u9) → TH D ad dI dJ A s.heap u H locs → lv_has ls 4 [(0, .ref (ad 40)), (1, .long x1), (3, .int x3)] → W p l e rm_X3_det s m args below meth c H locs 0 0 QQ (F0 m 4 ls []) := by
    intro n4
    induction n4 with
    | zero => intro u x1 x3 H locs ls hm hw hl; rw [m_X3_det_4] at hm; exact noE hm
    | succ n4 ih4 =>
      intro u x1 x3 H locs ls hm hw hl
      rw [m_X3_det_4] at hm
      refine lv_iload_n hx hb dX3_det_4 rfl (lv_at hl 2 rfl) ?_
      refine lv_iconst (v := 3) hx hb dX3_det_5 (by decide) ?_
      refine lv_icmp_ge (tgt := 78) hx hb dX3_det_6 (by decide) (fun c1 => ?_) (fun c1 => ?_)
      · have hm := ifT hm c1
        exact hB78 u x1 _ _ _ hm hw (lv_sub hl [1] rfl)
      · have hm := ifF hm c1
        refine lv_lload_n hx hb dX3_det_9 rfl (lv_at hl 1 rfl) ?_
        refine lv_aload_n hx hb dX3_det_10 rfl (lv_at hl 0 rfl) ?_
        refine tg_get C hw 18 (by decide) q1584 rfl dX3_det_11 ?_
        refine lv_iload_n hx hb dX3_det_14 rfl (lv_at hl 2 rfl) ?_
        obtain ⟨g2, hm⟩ := gdE hm
        refine tg_lald C hw (tp_18 ad dI dJ u) g2 dX3_det_15 ?_
        refine lv_aload_n hx hb dX3_det_16 rfl (lv_at hl 0 rfl) ?_
        refine tg_get C hw 18 (by decide) q1584 rfl dX3_det_17 ?_
        refine lv_iconst (v := 3) hx hb dX3_det_20 (by decide) ?_
        refine lv_iload_n hx hb dX3_det_21 rfl (lv_at hl 2 rfl) ?_
        refine lv_iconst (v := 1) hx hb dX3_det_22 (by decide) ?_
        refine lv_iadd hx hb dX3_det_23 ?_
        refine lv_iconst (v := 3) hx hb dX3_det_24 (by decide) ?_
        refine w_irem hx hb dX3_det_25 (by decide) ?_
        refine lv_iadd hx hb dX3_det_26 ?_
        obtain ⟨g3, hm⟩ := gdE hm
        refine tg_lald C hw (tp_18 ad dI dJ u) g3 dX3_det_27 ?_
        refine lv_aload_n hx hb dX3_det_28 rfl (lv_at hl 0 rfl) ?_
        refine tg_get C hw 18 (by decide) q1584 rfl dX3_det_29 ?_
        refine lv_bipush (v := 6) hx hb dX3_det_32 (by decide) ?_
        refine lv_iload_n hx hb dX3_det_34 rfl (lv_at hl 2 rfl) ?_
        refine lv_iconst (v := 2) hx hb dX3_det_35 (by decide) ?_
        refine lv_iadd hx hb dX3_det_36 ?_
        refine lv_iconst (v := 3) hx hb dX3_det_37 (by decide) ?_
        refine w_irem hx hb dX3_det_38 (by decide) ?_
        refine lv_iadd hx hb dX3_det_39 ?_
        obtain ⟨g4, hm⟩ := gdE hm
        refine tg_lald C hw (tp_18 ad dI dJ u) g4 dX3_det_40 ?_
        refine lv_lmul hx hb dX3_det_41 ?_
        refine lv_aload_n hx hb dX3_det_42 rfl (lv_at hl 0 rfl) ?_
        refine tg_get C hw 18 (by decide) q1584 rfl dX3_det_43 ?_
        refine lv_iconst (v := 3) hx hb dX3_det_46 (by decide) ?_
        refine lv_iload_n hx hb dX3_det_47 rfl (lv_at hl 2 rfl) ?_
        refine lv_iconst (v := 2) hx hb dX3_det_48 (by decide) ?_
        refine lv_iadd hx hb dX3_det_49 ?_
        refine lv_iconst (v := 3) hx hb dX3_det_50 (by decide) ?_
        refine w_irem hx hb dX3_det_51 (by decide) ?_
        refine lv_iadd hx hb dX3_det_52 ?_
        obtain ⟨g5, hm⟩ := gdE hm
        refine tg_lald C hw (tp_18 ad dI dJ u) g5 dX3_det_53 ?_
        refine lv_aload_n hx hb dX3_det_54 rfl (lv_at hl 0 rfl) ?_
        refine tg_get C hw 18 (by decide) q1584 rfl dX3_det_55 ?_
        refine lv_bipush (v := 6) hx hb dX3_det_58 (by decide) ?_
        refine lv_iload_n hx hb dX3_det_60 rfl (lv_at hl 2 rfl) ?_
        refine lv_iconst (v := 1) hx hb dX3_det_61 (by decide) ?_
        refine lv_iadd hx hb dX3_det_62 ?_
        refine lv_iconst (v := 3) hx hb dX3_det_63 (by decide) ?_
        refine w_irem hx hb dX3_det_64 (by decide) ?_
        refine lv_iadd hx hb dX3_det_65 ?_
        obtain ⟨g6, hm⟩ := gdE hm
        refine tg_lald C hw (tp_18 ad dI dJ u) g6 dX3_det_66 ?_
        refine lv_lmul hx hb dX3_det_67 ?_
        refine lv_lsub hx hb dX3_det_68 ?_
        refine lv_lmul hx hb dX3_det_69 ?_
        refine lv_ladd hx hb dX3_det_70 ?_
        refine lv_topl (fun v7 ev7 => ?_)
        have hm := nmK hm ev7
        refine lv_lstore_n (lv' := [(1, .long v7), (0, .ref (ad 40)), (3, .int x3)]) hx hb dX3_det_71 rfl hl (by decide) rfl (fun ls hl => ?_)
        obtain ⟨v8, ev8, hm⟩ := nmE hm
        refine lv_iinc (v := v8) (lv' := [(3, .int v8), (1, .long v7), (0, .ref (ad 40))]) hx hb dX3_det_72 hl (k := 2) rfl (by rw [ev8]; rfl) (by decide) rfl (fun ls hl => ?_)
        refine lv_goto (tgt := 4) hx hb dX3_det_75 (by decide) ?_
        exact ih4 u v7 v8 _ _ _ hm hw (lv_sub hl [2, 1, 0] rfl)
  rw [m_X3_det] at hm
  refine lv_lconst (v := 0) hx hb dX3_det_0 (by decide) ?_
  refine lv_lstore_n (lv' := [(1, .long (0 : Int64)), (0, .ref (ad 40))]) hx hb dX3_det_1 rfl hl (by decide) rfl (fun ls hl => ?_)
  refine lv_iconst (v := 0) hx hb dX3_det_2 (by decide) ?_
  refine lv_istore_n (lv' := [(3, .int (0 : Int32)), (1, .long (0 : Int64)), (0, .ref (ad 40))]) hx hb dX3_det_3 rfl hl (by decide) rfl (fun ls hl => ?_)
  exact hB4 f u (0 : Int64) (0 : Int32) _ _ _ hm hw (lv_sub hl [2, 1, 0] rfl)
def m_X3_part_10 (f : Nat) (x0 : Int64) (x2 : Int64) (y0 : Int64) : Option Int64 := bd (m_X3_common f x0 x2) fun r1 =>
    gd (nzL r1) <|
    some (y0 / r1)
def m_X3_part (f : Nat) (x0 : Int64) (x2 : Int64) (x4 : Int32) : Option Int64 := if ¬ x4 = 0 then
    m_X3_part_10 f x0 x2 x2
    else m_X3_part_10 f x0 x2 x0
abbrev rm_X3_part : Room := { frames := 2, cells := 0, slots := 0, locals := 50 }
theorem cw_X3_part {R : Room} {s : State} {args : Array Value} {own : String} {idx : Nat} (hts : ∀ w ∈ lw_all, w.before args s = true) (hl : Cond.methodLink own idx yX3_part ∈ lw_all) (hR : rm_X3_part.frames + 1 ≤ R.frames ∧ 8 + (5 + 11) + rm_X3_part.locals ≤ R.locals) : CallB R s args own idx yX3_part cX3_part 5 (Option.some Jvm.ClassFile.FieldType.long) (ws_ yX3_part cX3_part 5 (Option.some Jvm.ClassFile.FieldType.long)) rm_X3_part 0 0 3 ∧ (Cond.static yX3_part).before args s = true := va_cwS 3 hts (lw_S hl q1877 q125 q1878) rfl rfl rfl (by decide +kernel) hR
set_option maxHeartbeats 4000000 in
set_option maxRecDepth 100000 in
theorem w_X3_part (l : Launch) {f : Nat} {x0 : Int64} {x2 : Int64} {x4 : Int32} {r0 : Int64} (hm : m_X3_part f x0 x2 x4 = some r0) : Met l yX3_part (ws_ yX3_part cX3_part 5 (Option.some Jvm.ClassFile.FieldType.long)) rm_X3_part (va_Pc [.long x0, .long x2, .int x4] (fun _ => True)) (vp_Sl (fun r => r = r0)) 0 0 (fun _ => False) := by
  refine Met.ofW (cc := cX3_part) (maxL := 5) (ret := (Option.some Jvm.ClassFile.FieldType.long)) (by decide) rfl ?_
  intro p e s m args below meth c s₁ B hml hv
  have hx := B.exec
  have hb := B.bytes
  have hr := B.returns
  have hts := atoms_spec (ws := (ws_ yX3_part cX3_part 5 (Option.some Jvm.ClassFile.FieldType.long))) B.pre
  have hts : ∀ w ∈ lw_all, w.before args s = true := fun w h => hts w (List.mem_cons_of_mem _ h)
  have hown : s.vm.findClass RX3 = some m.cls := findClass_of_methodNamed B.named
  have hlocks := B.notSynchronized
  obtain ⟨hav, hv⟩ := hv
  generalize hQ : MQ below (vp_Sl (fun r => r = r0)) args s 0 0 (fun _ => False) = QQ
  have hent := lg_entry_eq m [.long x0, .long x2, .int x4] 5
  rw [← hav] at hent
  rw [hent]
  have hl := lv_entry ([.long x0, .long x2, .int x4]) (n := 5) (Nat.le_of_ble_eq_true rfl)
  generalize (lg_sl ([.long x0, .long x2, .int x4]) ++ List.replicate (5 - (lg_sl ([.long x0, .long x2, .int x4])).length) Slot.unset).toArray = ls at hl ⊢
  have hl : lv_has ls 5 [(0, .long x0), (2, .long x2), (4, .int x4)] := hl
  change W p l e rm_X3_part s m args below meth c s.heap [] 0 0 QQ (F0 m 0 ls [])
  have hB10 : ∀ (x0 : Int64) (x2 : Int64) (y0 : Int64) (ls : Array Slot), m_X3_part_10 f x0 x2 y0 = some r0 → lv_has ls 5 [(0, .long x0), (2, .long x2)] → W p l e rm_X3_part s m args below meth c s.heap [] 0 0 QQ (F0 m 10 ls [.long y0]) := by
    intro x0 x2 y0 ls hm hl
    rw [m_X3_part_10] at hm
    refine lv_lload_n hx hb dX3_part_10 rfl (lv_at hl 0 rfl) ?_
    refine lv_lload_n hx hb dX3_part_11 rfl (lv_at hl 1 rfl) ?_
    obtain ⟨r1, er1, hm⟩ := bdE hm
    refine scl (va_runS (As := [.long x0, .long x2]) (rest := [.long y0]) ⟨hx, hb, hml, hown, hts⟩ (w_X3_common l er1) (cw_X3_common hts q1820 ⟨Nat.le_of_ble_eq_true rfl, Nat.le_of_ble_eq_true rfl⟩) (pre_s _) rfl rfl hl.1 rfl (lv_room (Nat.le_of_ble_eq_true rfl)) dX3_part_12 ⟨Nat.le_of_ble_eq_true rfl, Nat.le_of_ble_eq_true rfl⟩) ?_
    obtain ⟨g2, hm⟩ := gdE hm
    refine lv_ldiv hx hb dX3_part_15 (nzL_ne g2) ?_
    rw [← hQ]
    exact W.lret (v := (y0 / r1)) hx hb hr (fun t ht hW => ⟨(y0 / r1), rfl, ret1 hm, ht⟩) (fun q h => absurd h List.not_mem_nil) dX3_part_16
  rw [m_X3_part] at hm
  refine lv_iload hx hb dX3_part_0 (lv_at hl 2 rfl) ?_
  refine lv_if_ne (tgt := 9) hx hb dX3_part_2 (by decide) (fun c1 => ?_) (fun c1 => ?_)
  · have hm := ifT hm c1
    refine lv_lload_n hx hb dX3_part_9 rfl (lv_at hl 1 rfl) ?_
    exact hB10 x0 x2 x2 _ hm (lv_sub hl [0, 1] rfl)
  · have hm := ifT' hm c1
    refine lv_lload_n hx hb dX3_part_5 rfl (lv_at hl 0 rfl) ?_
    refine lv_goto (tgt := 10) hx hb dX3_part_6 (by decide) ?_
    exact hB10 x0 x2 x0 _ hm (lv_sub hl [0, 1] rfl)
def m_X3_volume_18 (f : Nat) (u : TS) : Option (Int64 × TS) := some ((-2 : Int64), u)
def m_X3_volume (f : Nat) (u : TS) (x1 : Int32) (x2 : Int32) : Option (Int64 × TS) := bd2 (m_X3_isLattice f u x1) fun r2 u1 =>
    if r2 = 0 then
    m_X3_volume_18 f u1
    else bd (m_X3_in f (Int32.toInt64 x2) (0 : Int64) (1 : Int64)) fun r4 =>
    if ¬ r4 = 0 then
    bd (m_X3_lays f u1 x1) fun u6 =>
    bd2 (m_X3_det f u6) fun r8 u7 =>
    bd (m_X3_sized f r8) fun r9 =>
    bd (m_X3_part f r9 (((tL u7 19) * (tL u7 19)) * (tL u7 19)) x2) fun r10 =>
    some (r10, u7)
    else m_X3_volume_18 f u1
abbrev rm_X3_volume : Room := { frames := 5, cells := 0, slots := 0, locals := 124 }
theorem cw_X3_volume {R : Room} {s : State} {args : Array Value} {own : String} {idx : Nat} (hts : ∀ w ∈ lw_all, w.before args s = true) (hl : Cond.methodLink own idx yX3_volume ∈ lw_all) (hR : rm_X3_volume.frames + 1 ≤ R.frames ∧ 8 + (3 + 11) + rm_X3_volume.locals ≤ R.locals) : CallW R s args own RX3 idx yX3_volume cX3_volume 3 (Option.some Jvm.ClassFile.FieldType.long) (ws_ yX3_volume cX3_volume 3 (Option.some Jvm.ClassFile.FieldType.long)) rm_X3_volume 0 0 2 := cwV 2 hts (lw_V hl q1868 q1869 q125 q1870) rfl rfl rfl (by decide +kernel) hR
set_option maxHeartbeats 4000000 in
set_option maxRecDepth 100000 in
theorem w_X3_volume (l : Launch) {D : va_G} {ad : Nat → Nat} {dI dJ : ClassId} {A : Nat → Prop} {f : Nat} {u u9 : TS} {r0 : Int64} {x1 : Int32} {x2 : Int32} (hm : m_X3_volume f u x1 x2 = some (r0, u9)) : Met l yX3_volume (ws_ yX3_volume cX3_volume 3 (Option.some Jvm.ClassFile.FieldType.long)) rm_X3_volume (va_Pc [.ref (ad 40), .int x1, .int x2] (TPre D ad dI dJ A u)) (va_Ql (fun r u => r = r0 ∧ u = u9) (TPost D ad dI dJ A) A) 0 0 A := by
  refine Met.ofW (cc := cX3_volume) (maxL := 3) (ret := (Option.some Jvm.ClassFile.FieldType.long)) (by decide) rfl ?_
  intro p e s m args below meth c s₁ B hml hv
  have hx := B.exec
  have hb := B.bytes
  have hr := B.returns
  have hts := atoms_spec (ws := (ws_ yX3_volume cX3_volume 3 (Option.some Jvm.ClassFile.FieldType.long))) B.pre
  have hts : ∀ w ∈ lw_all, w.before args s = true := fun w h => hts w (List.mem_cons_of_mem _ h)
  have hown : s.vm.findClass RX3 = some m.cls := findClass_of_methodNamed B.named
  have hlocks := B.notSynchronized
  obtain ⟨hav, hv⟩ := hv
  have C : TC p s m args c cX3_volume D dI dJ := ⟨hx, hb, hown, hts, hv.2.1⟩
  have hw : TH D ad dI dJ A s.heap u s.heap [] := ⟨hv.1, hv.2.2.1, va_S.rf, hv.2.2.2⟩
  generalize hQ : MQ below (va_Ql (fun r u => r = r0 ∧ u = u9) (TPost D ad dI dJ A) A) args s 0 0 A = QQ
  have hent := lg_entry_eq m [.ref (ad 40), .int x1, .int x2] 3
  rw [← hav] at hent
  rw [hent]
  have hl := lv_entry ([.ref (ad 40), .int x1, .int x2]) (n := 3) (Nat.le_of_ble_eq_true rfl)
  generalize (lg_sl ([.ref (ad 40), .int x1, .int x2]) ++ List.replicate (3 - (lg_sl ([.ref (ad 40), .int x1, .int x2])).length) Slot.unset).toArray = ls at hl ⊢
  have hl : lv_has ls 3 [(0, .ref (ad 40)), (1, .int x1), (2, .int x2)] := hl
  change W p l e rm_X3_volume s m args below meth c s.heap [] 0 0 QQ (F0 m 0 ls [])
  have hB18 : ∀ (u : TS) (H : Heap) (locs : List Loc) (ls : Array Slot), m_X3_volume_18 f u = some (r0, u9) → TH D ad dI dJ A s.heap u H locs → lv_has ls 3 [] → W p l e rm_X3_volume s m args below meth c H locs 0 0 QQ (F0 m 18 ls []) := by
    intro u H locs ls hm hw hl
    rw [m_X3_volume_18] at hm
    refine lv_ldc2 hx hb hown (hts _ q1871) dX3_volume_18 ?_
    rw [← hQ]
    exact W.lret (v := (-2 : Int64)) hx hb hr (fun t ht hW => ⟨⟨(-2 : Int64), u, rfl, retE hm, by rw [ht]; exact hw.1, hw.2.1⟩, hw.2.2.1.F ht⟩) hw.2.2.1.2.2 dX3_volume_21
  rw [m_X3_volume] at hm
  refine lv_aload_n hx hb dX3_volume_0 rfl (lv_at hl 0 rfl) ?_
  refine lv_iload_n hx hb dX3_volume_1 rfl (lv_at hl 1 rfl) ?_
  obtain ⟨r2, u1, er2, hm⟩ := bd2E hm
  refine tg_calli hw (va_runV (As := [.int x1]) (rest := []) ⟨hx, hb, hml, hown, hts⟩ (w_X3_isLattice l er2) (cw_X3_isLattice hts q1796 ⟨Nat.le_of_ble_eq_true rfl, Nat.le_of_ble_eq_true rfl⟩) (tg_pre C hw _) rfl rfl hl.1 rfl (lv_room (Nat.le_of_ble_eq_true rfl)) dX3_volume_2 ⟨Nat.le_of_ble_eq_true rfl, Nat.le_of_ble_eq_true rfl⟩) (fun H locs hw => ?_)
  refine lv_if_eq (tgt := 18) hx hb dX3_volume_5 (by decide) (fun c3 => ?_) (fun c3 => ?_)
  · have hm := ifT hm c3
    exact hB18 u1 _ _ _ hm hw (lv_sub hl [] rfl)
  · have hm := ifF hm c3
    refine lv_iload_n hx hb dX3_volume_8 rfl (lv_at hl 2 rfl) ?_
    refine lv_i2l hx hb dX3_volume_9 rfl ?_
    refine lv_lconst (v := 0) hx hb dX3_volume_10 (by decide) ?_
    refine lv_lconst (v := 1) hx hb dX3_volume_11 (by decide) ?_
    obtain ⟨r4, er4, hm⟩ := bdE hm
    refine sci (va_runS (As := [.long (Int32.toInt64 x2), .long (0 : Int64), .long (1 : Int64)]) (rest := []) ⟨hx, hb, hml, hown, hts⟩ (w_X3_in l er4) (cw_X3_in hts q1695 ⟨Nat.le_of_ble_eq_true rfl, Nat.le_of_ble_eq_true rfl⟩) (pre_s _) rfl rfl hl.1 rfl (lv_room (Nat.le_of_ble_eq_true rfl)) dX3_volume_12 ⟨Nat.le_of_ble_eq_true rfl, Nat.le_of_ble_eq_true rfl⟩) ?_
    refine lv_if_ne (tgt := 22) hx hb dX3_volume_15 (by decide) (fun c5 => ?_) (fun c5 => ?_)
    · have hm := ifT hm c5
      refine lv_aload_n hx hb dX3_volume_22 rfl (lv_at hl 0 rfl) ?_
      refine lv_iload_n hx hb dX3_volume_23 rfl (lv_at hl 1 rfl) ?_
      obtain ⟨u6, eu6, hm⟩ := bdE hm
      refine tg_callv hw (va_runV (As := [.int x1]) (rest := []) ⟨hx, hb, hml, hown, hts⟩ (w_X3_lays l eu6) (cw_X3_lays hts q1804 ⟨Nat.le_of_ble_eq_true rfl, Nat.le_of_ble_eq_true rfl⟩) (tg_pre C hw _) rfl rfl hl.1 rfl (lv_room (Nat.le_of_ble_eq_true rfl)) dX3_volume_24 ⟨Nat.le_of_ble_eq_true rfl, Nat.le_of_ble_eq_true rfl⟩) (fun H locs hw => ?_)
      refine lv_aload_n hx hb dX3_volume_27 rfl (lv_at hl 0 rfl) ?_
      obtain ⟨r8, u7, er8, hm⟩ := bd2E hm
      refine tg_calll hw (va_runV (As := []) (rest := []) ⟨hx, hb, hml, hown, hts⟩ (w_X3_det l er8) (cw_X3_det hts q1872 ⟨Nat.le_of_ble_eq_true rfl, Nat.le_of_ble_eq_true rfl⟩) (tg_pre C hw _) rfl rfl hl.1 rfl (lv_room (Nat.le_of_ble_eq_true rfl)) dX3_volume_28 ⟨Nat.le_of_ble_eq_true rfl, Nat.le_of_ble_eq_true rfl⟩) (fun H locs hw => ?_)
      obtain ⟨r9, er9, hm⟩ := bdE hm
      refine scl (va_runS (As := [.long r8]) (rest := []) ⟨hx, hb, hml, hown, hts⟩ (w_X3_sized l er9) (cw_X3_sized hts q1772 ⟨Nat.le_of_ble_eq_true rfl, Nat.le_of_ble_eq_true rfl⟩) (pre_s _) rfl rfl hl.1 rfl (lv_room (Nat.le_of_ble_eq_true rfl)) dX3_volume_31 ⟨Nat.le_of_ble_eq_true rfl, Nat.le_of_ble_eq_true rfl⟩) ?_
      refine lv_aload_n hx hb dX3_volume_34 rfl (lv_at hl 0 rfl) ?_
      refine tg_get C hw 19 (by decide) q1585 rfl dX3_volume_35 ?_
      refine lv_aload_n hx hb dX3_volume_38 rfl (lv_at hl 0 rfl) ?_
      refine tg_get C hw 19 (by decide) q1585 rfl dX3_volume_39 ?_
      refine lv_lmul hx hb dX3_volume_42 ?_
      refine lv_aload_n hx hb dX3_volume_43 rfl (lv_at hl 0 rfl) ?_
      refine tg_get C hw 19 (by decide) q1585 rfl dX3_volume_44 ?_
      refine lv_lmul hx hb dX3_volume_47 ?_
      refine lv_iload_n hx hb dX3_volume_48 rfl (lv_at hl 2 rfl) ?_
      obtain ⟨r10, er10, hm⟩ := bdE hm
      refine scl (va_runS (As := [.long r9, .long (((tL u7 19) * (tL u7 19)) * (tL u7 19)), .int x2]) (rest := []) ⟨hx, hb, hml, hown, hts⟩ (w_X3_part l er10) (cw_X3_part hts q1876 ⟨Nat.le_of_ble_eq_true rfl, Nat.le_of_ble_eq_true rfl⟩) (pre_s _) rfl rfl hl.1 rfl (lv_room (Nat.le_of_ble_eq_true rfl)) dX3_volume_49 ⟨Nat.le_of_ble_eq_true rfl, Nat.le_of_ble_eq_true rfl⟩) ?_
      rw [← hQ]
      exact W.lret (v := r10) hx hb hr (fun t ht hW => ⟨⟨r10, u7, rfl, retE hm, by rw [ht]; exact hw.1, hw.2.1⟩, hw.2.2.1.F ht⟩) hw.2.2.1.2.2 dX3_volume_52
    · have hm := ifT' hm c5
      exact hB18 u1 _ _ _ hm hw (lv_sub hl [] rfl)
def m_X3_smithOf_161 (f : Nat) (u : TS) (y0 : Int64) : Option (Int64 × TS) := some (y0, u)
def m_X3_smithOf_131 (f : Nat) (u : TS) (x1 : Int32) (x2 : Int64) (x4 : Int64) : Option (Int64 × TS) := if ¬ x1 = 0 then
    if ¬ x1 = (1 : Int32) then
    bd2 (m_X3_det f u) fun r4 u3 =>
    bd (m_X3_sized f r4) fun r5 =>
    gd (nzL x4) <|
    m_X3_smithOf_161 f u3 (r5 / x4)
    else gd (nzL x2) <|
    m_X3_smithOf_161 f u (x4 / x2)
    else m_X3_smithOf_161 f u x2
def m_X3_smithOf_8 (f : Nat) : Nat → TS → Int32 → Int64 → Int64 → Int32 → Option (Int64 × TS)
  | 0, _, _, _, _, _ => none
  | n8 + 1, u, x1, x2, x4, x6 => if (9 : Int32) ≤ x6 then
    m_X3_smithOf_131 f u x1 x2 x4
    else gd (ix x6 9) <|
    bd (m_X3_common f x2 (tB u 18 (Int32.toNatClampNeg x6))) fun r3 =>
    nmv ((rmI ((x6 / (3 : Int32)) + (1 : Int32)) (3 : Int32)) : Int32) fun v4 =>
    nmv ((rmI ((x6 / (3 : Int32)) + (2 : Int32)) (3 : Int32)) : Int32) fun v5 =>
    nmv ((rmI ((rmI x6 (3 : Int32)) + (1 : Int32)) (3 : Int32)) : Int32) fun v6 =>
    nmv ((rmI ((rmI x6 (3 : Int32)) + (2 : Int32)) (3 : Int32)) : Int32) fun v7 =>
    gd (ix (((3 : Int32) * v4) + v6) 9) <|
    gd (ix (((3 : Int32) * v5) + v7) 9) <|
    gd (ix (((3 : Int32) * v4) + v7) 9) <|
    gd (ix (((3 : Int32) * v5) + v6) 9) <|
    bd (m_X3_common f x4 (((tB u 18 (Int32.toNatClampNeg (((3 : Int32) * v4) + v6))) * (tB u 18 (Int32.toNatClampNeg (((3 : Int32) * v5) + v7)))) - ((tB u 18 (Int32.toNatClampNeg (((3 : Int32) * v4) + v7))) * (tB u 18 (Int32.toNatClampNeg (((3 : Int32) * v5) + v6)))))) fun r12 =>
    nmv ((x6 + 1) : Int32) fun v13 =>
    m_X3_smithOf_8 f n8 u x1 r3 r12 v13
def m_X3_smithOf (f : Nat) (u : TS) (x1 : Int32) : Option (Int64 × TS) := m_X3_smithOf_8 f f u x1 (0 : Int64) (0 : Int64) (0 : Int32)
abbrev rm_X3_smithOf : Room := { frames := 2, cells := 0, slots := 0, locals := 50 }
theorem cw_X3_smithOf {R : Room} {s : State} {args : Array Value} {own : String} {idx : Nat} (hts : ∀ w ∈ lw_all, w.before args s = true) (hl : Cond.methodLink own idx yX3_smithOf ∈ lw_all) (hR : rm_X3_smithOf.frames + 1 ≤ R.frames ∧ 8 + (11 + 11) + rm_X3_smithOf.locals ≤ R.locals) : CallW R s args own RX3 idx yX3_smithOf cX3_smithOf 11 (Option.some Jvm.ClassFile.FieldType.long) (ws_ yX3_smithOf cX3_smithOf 11 (Option.some Jvm.ClassFile.FieldType.long)) rm_X3_smithOf 0 0 1 := cwV 1 hts (lw_V hl q1885 qs80 q125 q1886) rfl rfl rfl (by decide +kernel) hR
set_option maxHeartbeats 4000000 in
set_option maxRecDepth 100000 in
theorem w_X3_smithOf (l : Launch) {D : va_G} {ad : Nat → Nat} {dI dJ : ClassId} {A : Nat → Prop} {f : Nat} {u u9 : TS} {r0 : Int64} {x1 : Int32} (hm : m_X3_smithOf f u x1 = some (r0, u9)) : Met l yX3_smithOf (ws_ yX3_smithOf cX3_smithOf 11 (Option.some Jvm.ClassFile.FieldType.long)) rm_X3_smithOf (va_Pc [.ref (ad 40), .int x1] (TPre D ad dI dJ A u)) (va_Ql (fun r u => r = r0 ∧ u = u9) (TPost D ad dI dJ A) A) 0 0 A := by
  refine Met.ofW (cc := cX3_smithOf) (maxL := 11) (ret := (Option.some Jvm.ClassFile.FieldType.long)) (by decide) rfl ?_
  intro p e s m args below meth c s₁ B hml hv
  have hx := B.exec
  have hb := B.bytes
  have hr := B.returns
  have hts := atoms_spec (ws := (ws_ yX3_smithOf cX3_smithOf 11 (Option.some Jvm.ClassFile.FieldType.long))) B.pre
  have hts : ∀ w ∈ lw_all, w.before args s = true := fun w h => hts w (List.mem_cons_of_mem _ h)
  have hown : s.vm.findClass RX3 = some m.cls := findClass_of_methodNamed B.named
  have hlocks := B.notSynchronized
  obtain ⟨hav, hv⟩ := hv
  have C : TC p s m args c cX3_smithOf D dI dJ := ⟨hx, hb, hown, hts, hv.2.1⟩
  have hw : TH D ad dI dJ A s.heap u s.heap [] := ⟨hv.1, hv.2.2.1, va_S.rf, hv.2.2.2⟩
  generalize hQ : MQ below (va_Ql (fun r u => r = r0 ∧ u = u9) (TPost D ad dI dJ A) A) args s 0 0 A = QQ
  have hent := lg_entry_eq m [.ref (ad 40), .int x1] 11
  rw [← hav] at hent
  rw [hent]
  have hl := lv_entry ([.ref (ad 40), .int x1]) (n := 11) (Nat.le_of_ble_eq_true rfl)
  generalize (lg_sl ([.ref (ad 40), .int x1]) ++ List.replicate (11 - (lg_sl ([.ref (ad 40), .int x1])).length) Slot.unset).toArray = ls at hl ⊢
  have hl : lv_has ls 11 [(0, .ref (ad 40)), (1, .int x1)] := hl
  change W p l e rm_X3_smithOf s m args below meth c s.heap [] 0 0 QQ (F0 m 0 ls [])
  have hB161 : ∀ (u : TS) (y0 : Int64) (H : Heap) (locs : List Loc) (ls : Array Slot), m_X3_smithOf_161 f u y0 = some (r0, u9) → TH D ad dI dJ A s.heap u H locs → lv_has ls 11 [] → W p l e rm_X3_smithOf s m args below meth c H locs 0 0 QQ (F0 m 161 ls [.long y0]) := by
    intro u y0 H locs ls hm hw hl
    rw [m_X3_smithOf_161] at hm
    rw [← hQ]
    exact W.lret (v := y0) hx hb hr (fun t ht hW => ⟨⟨y0, u, rfl, retE hm, by rw [ht]; exact hw.1, hw.2.1⟩, hw.2.2.1.F ht⟩) hw.2.2.1.2.2 dX3_smithOf_161
  have hB131 : ∀ (u : TS) (x1 : Int32) (x2 : Int64) (x4 : Int64) (H : Heap) (locs : List Loc) (ls : Array Slot), m_X3_smithOf_131 f u x1 x2 x4 = some (r0, u9) → TH D ad dI dJ A s.heap u H locs → lv_has ls 11 [(0, .ref (ad 40)), (1, .int x1), (2, .long x2), (4, .long x4)] → W p l e rm_X3_smithOf s m args below meth c H locs 0 0 QQ (F0 m 131 ls []) := by
    intro u x1 x2 x4 H locs ls hm hw hl
    rw [m_X3_smithOf_131] at hm
    refine lv_iload_n hx hb dX3_smithOf_131 rfl (lv_at hl 1 rfl) ?_
    refine lv_if_ne (tgt := 139) hx hb dX3_smithOf_132 (by decide) (fun c1 => ?_) (fun c1 => ?_)
    · have hm := ifT hm c1
      refine lv_iload_n hx hb dX3_smithOf_139 rfl (lv_at hl 1 rfl) ?_
      refine lv_iconst (v := 1) hx hb dX3_smithOf_140 (by decide) ?_
      refine lv_icmp_ne (tgt := 151) hx hb dX3_smithOf_141 (by decide) (fun c2 => ?_) (fun c2 => ?_)
      · have hm := ifT hm c2
        refine lv_aload_n hx hb dX3_smithOf_151 rfl (lv_at hl 0 rfl) ?_
        obtain ⟨r4, u3, er4, hm⟩ := bd2E hm
        refine tg_calll hw (va_runV (As := []) (rest := []) ⟨hx, hb, hml, hown, hts⟩ (w_X3_det l er4) (cw_X3_det hts q1872 ⟨Nat.le_of_ble_eq_true rfl, Nat.le_of_ble_eq_true rfl⟩) (tg_pre C hw _) rfl rfl hl.1 rfl (lv_room (Nat.le_of_ble_eq_true rfl)) dX3_smithOf_152 ⟨Nat.le_of_ble_eq_true rfl, Nat.le_of_ble_eq_true rfl⟩) (fun H locs hw => ?_)
        obtain ⟨r5, er5, hm⟩ := bdE hm
        refine scl (va_runS (As := [.long r4]) (rest := []) ⟨hx, hb, hml, hown, hts⟩ (w_X3_sized l er5) (cw_X3_sized hts q1772 ⟨Nat.le_of_ble_eq_true rfl, Nat.le_of_ble_eq_true rfl⟩) (pre_s _) rfl rfl hl.1 rfl (lv_room (Nat.le_of_ble_eq_true rfl)) dX3_smithOf_155 ⟨Nat.le_of_ble_eq_true rfl, Nat.le_of_ble_eq_true rfl⟩) ?_
        refine lv_lload hx hb dX3_smithOf_158 (lv_at hl 3 rfl) ?_
        obtain ⟨g6, hm⟩ := gdE hm
        refine lv_ldiv hx hb dX3_smithOf_160 (nzL_ne g6) ?_
        exact hB161 u3 (r5 / x4) _ _ _ hm hw (lv_sub hl [] rfl)
      · have hm := ifT' hm c2
        refine lv_lload hx hb dX3_smithOf_144 (lv_at hl 3 rfl) ?_
        refine lv_lload_n hx hb dX3_smithOf_146 rfl (lv_at hl 2 rfl) ?_
        obtain ⟨g7, hm⟩ := gdE hm
        refine lv_ldiv hx hb dX3_smithOf_147 (nzL_ne g7) ?_
        refine lv_goto (tgt := 161) hx hb dX3_smithOf_148 (by decide) ?_
        exact hB161 u (x4 / x2) _ _ _ hm hw (lv_sub hl [] rfl)
    · have hm := ifT' hm c1
      refine lv_lload_n hx hb dX3_smithOf_135 rfl (lv_at hl 2 rfl) ?_
      refine lv_goto (tgt := 161) hx hb dX3_smithOf_136 (by decide) ?_
      exact hB161 u x2 _ _ _ hm hw (lv_sub hl [] rfl)
  have hB8 : ∀ (n8 : Nat), ∀ (u : TS) (x1 : Int32) (x2 : Int64) (x4 : Int64) (x6 : Int32) (H : Heap) (locs : List Loc) (ls : Array Slot), m_X3_smithOf_8 f n8 u x1 x2 x4 x6 = some (r0, u9) → TH D ad dI dJ A s.heap u H locs → lv_has ls 11 [(0, .ref (ad 40)), (1, .int x1), (2, .long x2), (4, .long x4), (6, .int x6)] → W p l e rm_X3_smithOf s m args below meth c H locs 0 0 QQ (F0 m 8 ls []) := by
    intro n8
    induction n8 with
    | zero => intro u x1 x2 x4 x6 H locs ls hm hw hl; rw [m_X3_smithOf_8] at hm; exact noE hm
    | succ n8 ih8 =>
      intro u x1 x2 x4 x6 H locs ls hm hw hl
      rw [m_X3_smithOf_8] at hm
      refine lv_iload hx hb dX3_smithOf_8 (lv_at hl 4 rfl) ?_
      refine lv_bipush (v := 9) hx hb dX3_smithOf_10 (by decide) ?_
      refine lv_icmp_ge (tgt := 131) hx hb dX3_smithOf_12 (by decide) (fun c1 => ?_) (fun c1 => ?_)
      · have hm := ifT hm c1
        exact hB131 u x1 x2 x4 _ _ _ hm hw (lv_sub hl [0, 1, 2, 3] rfl)
      · have hm := ifF hm c1
        refine lv_lload_n hx hb dX3_smithOf_15 rfl (lv_at hl 2 rfl) ?_
        refine lv_aload_n hx hb dX3_smithOf_16 rfl (lv_at hl 0 rfl) ?_
        refine tg_get C hw 18 (by decide) q1584 rfl dX3_smithOf_17 ?_
        refine lv_iload hx hb dX3_smithOf_20 (lv_at hl 4 rfl) ?_
        obtain ⟨g2, hm⟩ := gdE hm
        refine tg_lald C hw (tp_18 ad dI dJ u) g2 dX3_smithOf_22 ?_
        obtain ⟨r3, er3, hm⟩ := bdE hm
        refine scl (va_runS (As := [.long x2, .long (tB u 18 (Int32.toNatClampNeg x6))]) (rest := []) ⟨hx, hb, hml, hown, hts⟩ (w_X3_common l er3) (cw_X3_common hts q1820 ⟨Nat.le_of_ble_eq_true rfl, Nat.le_of_ble_eq_true rfl⟩) (pre_s _) rfl rfl hl.1 rfl (lv_room (Nat.le_of_ble_eq_true rfl)) dX3_smithOf_23 ⟨Nat.le_of_ble_eq_true rfl, Nat.le_of_ble_eq_true rfl⟩) ?_
        refine lv_lstore_n (lv' := [(2, .long r3), (0, .ref (ad 40)), (1, .int x1), (4, .long x4), (6, .int x6)]) hx hb dX3_smithOf_26 rfl hl (by decide) rfl (fun ls hl => ?_)
        refine lv_iload hx hb dX3_smithOf_27 (lv_at hl 4 rfl) ?_
        refine lv_iconst (v := 3) hx hb dX3_smithOf_29 (by decide) ?_
        refine lv_idiv hx hb dX3_smithOf_30 (by decide) ?_
        refine lv_iconst (v := 1) hx hb dX3_smithOf_31 (by decide) ?_
        refine lv_iadd hx hb dX3_smithOf_32 ?_
        refine lv_iconst (v := 3) hx hb dX3_smithOf_33 (by decide) ?_
        refine w_irem hx hb dX3_smithOf_34 (by decide) ?_
        refine lv_topi (fun v4 ev4 => ?_)
        have hm := nmK hm ev4
        refine lv_istore (lv' := [(7, .int v4), (2, .long r3), (0, .ref (ad 40)), (1, .int x1), (4, .long x4), (6, .int x6)]) hx hb dX3_smithOf_35 hl (by decide) rfl (fun ls hl => ?_)
        refine lv_iload hx hb dX3_smithOf_37 (lv_at hl 5 rfl) ?_
        refine lv_iconst (v := 3) hx hb dX3_smithOf_39 (by decide) ?_
        refine lv_idiv hx hb dX3_smithOf_40 (by decide) ?_
        refine lv_iconst (v := 2) hx hb dX3_smithOf_41 (by decide) ?_
        refine lv_iadd hx hb dX3_smithOf_42 ?_
        refine lv_iconst (v := 3) hx hb dX3_smithOf_43 (by decide) ?_
        refine w_irem hx hb dX3_smithOf_44 (by decide) ?_
        refine lv_topi (fun v5 ev5 => ?_)
        have hm := nmK hm ev5
        refine lv_istore (lv' := [(8, .int v5), (7, .int v4), (2, .long r3), (0, .ref (ad 40)), (1, .int x1), (4, .long x4), (6, .int x6)]) hx hb dX3_smithOf_45 hl (by decide) rfl (fun ls hl => ?_)
        refine lv_iload hx hb dX3_smithOf_47 (lv_at hl 6 rfl) ?_
        refine lv_iconst (v := 3) hx hb dX3_smithOf_49 (by decide) ?_
        refine w_irem hx hb dX3_smithOf_50 (by decide) ?_
        refine lv_iconst (v := 1) hx hb dX3_smithOf_51 (by decide) ?_
        refine lv_iadd hx hb dX3_smithOf_52 ?_
        refine lv_iconst (v := 3) hx hb dX3_smithOf_53 (by decide) ?_
        refine w_irem hx hb dX3_smithOf_54 (by decide) ?_
        refine lv_topi (fun v6 ev6 => ?_)
        have hm := nmK hm ev6
        refine lv_istore (lv' := [(9, .int v6), (8, .int v5), (7, .int v4), (2, .long r3), (0, .ref (ad 40)), (1, .int x1), (4, .long x4), (6, .int x6)]) hx hb dX3_smithOf_55 hl (by decide) rfl (fun ls hl => ?_)
        refine lv_iload hx hb dX3_smithOf_57 (lv_at hl 7 rfl) ?_
        refine lv_iconst (v := 3) hx hb dX3_smithOf_59 (by decide) ?_
        refine w_irem hx hb dX3_smithOf_60 (by decide) ?_
        refine lv_iconst (v := 2) hx hb dX3_smithOf_61 (by decide) ?_
        refine lv_iadd hx hb dX3_smithOf_62 ?_
        refine lv_iconst (v := 3) hx hb dX3_smithOf_63 (by decide) ?_
        refine w_irem hx hb dX3_smithOf_64 (by decide) ?_
        refine lv_topi (fun v7 ev7 => ?_)
        have hm := nmK hm ev7
        refine lv_istore (lv' := [(10, .int v7), (9, .int v6), (8, .int v5), (7, .int v4), (2, .long r3), (0, .ref (ad 40)), (1, .int x1), (4, .long x4), (6, .int x6)]) hx hb dX3_smithOf_65 hl (by decide) rfl (fun ls hl => ?_)
        refine lv_lload hx hb dX3_smithOf_67 (lv_at hl 7 rfl) ?_
        refine lv_aload_n hx hb dX3_smithOf_69 rfl (lv_at hl 5 rfl) ?_
        refine tg_get C hw 18 (by decide) q1584 rfl dX3_smithOf_70 ?_
        refine lv_iconst (v := 3) hx hb dX3_smithOf_73 (by decide) ?_
        refine lv_iload hx hb dX3_smithOf_74 (lv_at hl 3 rfl) ?_
        refine lv_imul hx hb dX3_smithOf_76 ?_
        refine lv_iload hx hb dX3_smithOf_77 (lv_at hl 1 rfl) ?_
        refine lv_iadd hx hb dX3_smithOf_79 ?_
        obtain ⟨g8, hm⟩ := gdE hm
        refine tg_lald C hw (tp_18 ad dI dJ u) g8 dX3_smithOf_80 ?_
        refine lv_aload_n hx hb dX3_smithOf_81 rfl (lv_at hl 5 rfl) ?_
        refine tg_get C hw 18 (by decide) q1584 rfl dX3_smithOf_82 ?_
        refine lv_iconst (v := 3) hx hb dX3_smithOf_85 (by decide) ?_
        refine lv_iload hx hb dX3_smithOf_86 (lv_at hl 2 rfl) ?_
        refine lv_imul hx hb dX3_smithOf_88 ?_
        refine lv_iload hx hb dX3_smithOf_89 (lv_at hl 0 rfl) ?_
        refine lv_iadd hx hb dX3_smithOf_91 ?_
        obtain ⟨g9, hm⟩ := gdE hm
        refine tg_lald C hw (tp_18 ad dI dJ u) g9 dX3_smithOf_92 ?_
        refine lv_lmul hx hb dX3_smithOf_93 ?_
        refine lv_aload_n hx hb dX3_smithOf_94 rfl (lv_at hl 5 rfl) ?_
        refine tg_get C hw 18 (by decide) q1584 rfl dX3_smithOf_95 ?_
        refine lv_iconst (v := 3) hx hb dX3_smithOf_98 (by decide) ?_
        refine lv_iload hx hb dX3_smithOf_99 (lv_at hl 3 rfl) ?_
        refine lv_imul hx hb dX3_smithOf_101 ?_
        refine lv_iload hx hb dX3_smithOf_102 (lv_at hl 0 rfl) ?_
        refine lv_iadd hx hb dX3_smithOf_104 ?_
        obtain ⟨g10, hm⟩ := gdE hm
        refine tg_lald C hw (tp_18 ad dI dJ u) g10 dX3_smithOf_105 ?_
        refine lv_aload_n hx hb dX3_smithOf_106 rfl (lv_at hl 5 rfl) ?_
        refine tg_get C hw 18 (by decide) q1584 rfl dX3_smithOf_107 ?_
        refine lv_iconst (v := 3) hx hb dX3_smithOf_110 (by decide) ?_
        refine lv_iload hx hb dX3_smithOf_111 (lv_at hl 2 rfl) ?_
        refine lv_imul hx hb dX3_smithOf_113 ?_
        refine lv_iload hx hb dX3_smithOf_114 (lv_at hl 1 rfl) ?_
        refine lv_iadd hx hb dX3_smithOf_116 ?_
        obtain ⟨g11, hm⟩ := gdE hm
        refine tg_lald C hw (tp_18 ad dI dJ u) g11 dX3_smithOf_117 ?_
        refine lv_lmul hx hb dX3_smithOf_118 ?_
        refine lv_lsub hx hb dX3_smithOf_119 ?_
        obtain ⟨r12, er12, hm⟩ := bdE hm
        refine scl (va_runS (As := [.long x4, .long (((tB u 18 (Int32.toNatClampNeg (((3 : Int32) * v4) + v6))) * (tB u 18 (Int32.toNatClampNeg (((3 : Int32) * v5) + v7)))) - ((tB u 18 (Int32.toNatClampNeg (((3 : Int32) * v4) + v7))) * (tB u 18 (Int32.toNatClampNeg (((3 : Int32) * v5) + v6)))))]) (rest := []) ⟨hx, hb, hml, hown, hts⟩ (w_X3_common l er12) (cw_X3_common hts q1820 ⟨Nat.le_of_ble_eq_true rfl, Nat.le_of_ble_eq_true rfl⟩) (pre_s _) rfl rfl hl.1 rfl (lv_room (Nat.le_of_ble_eq_true rfl)) dX3_smithOf_120 ⟨Nat.le_of_ble_eq_true rfl, Nat.le_of_ble_eq_true rfl⟩) ?_
        refine lv_lstore (lv' := [(4, .long r12), (10, .int v7), (9, .int v6), (8, .int v5), (7, .int v4), (2, .long r3), (0, .ref (ad 40)), (1, .int x1), (6, .int x6)]) hx hb dX3_smithOf_123 hl (by decide) rfl (fun ls hl => ?_)
        obtain ⟨v13, ev13, hm⟩ := nmE hm
        refine lv_iinc (v := v13) (lv' := [(6, .int v13), (4, .long r12), (10, .int v7), (9, .int v6), (8, .int v5), (7, .int v4), (2, .long r3), (0, .ref (ad 40)), (1, .int x1)]) hx hb dX3_smithOf_125 hl (k := 8) rfl (by rw [ev13]; rfl) (by decide) rfl (fun ls hl => ?_)
        refine lv_goto (tgt := 8) hx hb dX3_smithOf_128 (by decide) ?_
        exact ih8 u x1 r3 r12 v13 _ _ _ hm hw (lv_sub hl [7, 8, 6, 1, 0] rfl)
  rw [m_X3_smithOf] at hm
  refine lv_lconst (v := 0) hx hb dX3_smithOf_0 (by decide) ?_
  refine lv_lstore_n (lv' := [(2, .long (0 : Int64)), (0, .ref (ad 40)), (1, .int x1)]) hx hb dX3_smithOf_1 rfl hl (by decide) rfl (fun ls hl => ?_)
  refine lv_lconst (v := 0) hx hb dX3_smithOf_2 (by decide) ?_
  refine lv_lstore (lv' := [(4, .long (0 : Int64)), (2, .long (0 : Int64)), (0, .ref (ad 40)), (1, .int x1)]) hx hb dX3_smithOf_3 hl (by decide) rfl (fun ls hl => ?_)
  refine lv_iconst (v := 0) hx hb dX3_smithOf_5 (by decide) ?_
  refine lv_istore (lv' := [(6, .int (0 : Int32)), (4, .long (0 : Int64)), (2, .long (0 : Int64)), (0, .ref (ad 40)), (1, .int x1)]) hx hb dX3_smithOf_6 hl (by decide) rfl (fun ls hl => ?_)
  exact hB8 f u x1 (0 : Int64) (0 : Int64) (0 : Int32) _ _ _ hm hw (lv_sub hl [3, 4, 2, 1, 0] rfl)
def m_X3_smith_20 (f : Nat) (u : TS) : Option (Int64 × TS) := some ((-2 : Int64), u)
def m_X3_smith (f : Nat) (u : TS) (x1 : Int32) (x2 : Int32) : Option (Int64 × TS) := bd2 (m_X3_isLattice f u x1) fun r2 u1 =>
    if r2 = 0 then
    m_X3_smith_20 f u1
    else bd (m_X3_in f (Int32.toInt64 x2) (0 : Int64) (2 : Int64)) fun r4 =>
    if ¬ r4 = 0 then
    bd (m_X3_lays f u1 x1) fun u6 =>
    bd2 (m_X3_smithOf f u6 x2) fun r8 u7 =>
    some (r8, u7)
    else m_X3_smith_20 f u1
abbrev rm_X3_smith : Room := { frames := 5, cells := 0, slots := 0, locals := 124 }
theorem cw_X3_smith {R : Room} {s : State} {args : Array Value} {own : String} {idx : Nat} (hts : ∀ w ∈ lw_all, w.before args s = true) (hl : Cond.methodLink own idx yX3_smith ∈ lw_all) (hR : rm_X3_smith.frames + 1 ≤ R.frames ∧ 8 + (3 + 11) + rm_X3_smith.locals ≤ R.locals) : CallW R s args own RX3 idx yX3_smith cX3_smith 3 (Option.some Jvm.ClassFile.FieldType.long) (ws_ yX3_smith cX3_smith 3 (Option.some Jvm.ClassFile.FieldType.long)) rm_X3_smith 0 0 2 := cwV 2 hts (lw_V hl q1880 q1881 q125 q1882) rfl rfl rfl (by decide +kernel) hR
set_option maxHeartbeats 4000000 in
set_option maxRecDepth 100000 in
theorem w_X3_smith (l : Launch) {D : va_G} {ad : Nat → Nat} {dI dJ : ClassId} {A : Nat → Prop} {f : Nat} {u u9 : TS} {r0 : Int64} {x1 : Int32} {x2 : Int32} (hm : m_X3_smith f u x1 x2 = some (r0, u9)) : Met l yX3_smith (ws_ yX3_smith cX3_smith 3 (Option.some Jvm.ClassFile.FieldType.long)) rm_X3_smith (va_Pc [.ref (ad 40), .int x1, .int x2] (TPre D ad dI dJ A u)) (va_Ql (fun r u => r = r0 ∧ u = u9) (TPost D ad dI dJ A) A) 0 0 A := by
  refine Met.ofW (cc := cX3_smith) (maxL := 3) (ret := (Option.some Jvm.ClassFile.FieldType.long)) (by decide) rfl ?_
  intro p e s m args below meth c s₁ B hml hv
  have hx := B.exec
  have hb := B.bytes
  have hr := B.returns
  have hts := atoms_spec (ws := (ws_ yX3_smith cX3_smith 3 (Option.some Jvm.ClassFile.FieldType.long))) B.pre
  have hts : ∀ w ∈ lw_all, w.before args s = true := fun w h => hts w (List.mem_cons_of_mem _ h)
  have hown : s.vm.findClass RX3 = some m.cls := findClass_of_methodNamed B.named
  have hlocks := B.notSynchronized
  obtain ⟨hav, hv⟩ := hv
  have C : TC p s m args c cX3_smith D dI dJ := ⟨hx, hb, hown, hts, hv.2.1⟩
  have hw : TH D ad dI dJ A s.heap u s.heap [] := ⟨hv.1, hv.2.2.1, va_S.rf, hv.2.2.2⟩
  generalize hQ : MQ below (va_Ql (fun r u => r = r0 ∧ u = u9) (TPost D ad dI dJ A) A) args s 0 0 A = QQ
  have hent := lg_entry_eq m [.ref (ad 40), .int x1, .int x2] 3
  rw [← hav] at hent
  rw [hent]
  have hl := lv_entry ([.ref (ad 40), .int x1, .int x2]) (n := 3) (Nat.le_of_ble_eq_true rfl)
  generalize (lg_sl ([.ref (ad 40), .int x1, .int x2]) ++ List.replicate (3 - (lg_sl ([.ref (ad 40), .int x1, .int x2])).length) Slot.unset).toArray = ls at hl ⊢
  have hl : lv_has ls 3 [(0, .ref (ad 40)), (1, .int x1), (2, .int x2)] := hl
  change W p l e rm_X3_smith s m args below meth c s.heap [] 0 0 QQ (F0 m 0 ls [])
  have hB20 : ∀ (u : TS) (H : Heap) (locs : List Loc) (ls : Array Slot), m_X3_smith_20 f u = some (r0, u9) → TH D ad dI dJ A s.heap u H locs → lv_has ls 3 [] → W p l e rm_X3_smith s m args below meth c H locs 0 0 QQ (F0 m 20 ls []) := by
    intro u H locs ls hm hw hl
    rw [m_X3_smith_20] at hm
    refine lv_ldc2 hx hb hown (hts _ q1871) dX3_smith_20 ?_
    rw [← hQ]
    exact W.lret (v := (-2 : Int64)) hx hb hr (fun t ht hW => ⟨⟨(-2 : Int64), u, rfl, retE hm, by rw [ht]; exact hw.1, hw.2.1⟩, hw.2.2.1.F ht⟩) hw.2.2.1.2.2 dX3_smith_23
  rw [m_X3_smith] at hm
  refine lv_aload_n hx hb dX3_smith_0 rfl (lv_at hl 0 rfl) ?_
  refine lv_iload_n hx hb dX3_smith_1 rfl (lv_at hl 1 rfl) ?_
  obtain ⟨r2, u1, er2, hm⟩ := bd2E hm
  refine tg_calli hw (va_runV (As := [.int x1]) (rest := []) ⟨hx, hb, hml, hown, hts⟩ (w_X3_isLattice l er2) (cw_X3_isLattice hts q1796 ⟨Nat.le_of_ble_eq_true rfl, Nat.le_of_ble_eq_true rfl⟩) (tg_pre C hw _) rfl rfl hl.1 rfl (lv_room (Nat.le_of_ble_eq_true rfl)) dX3_smith_2 ⟨Nat.le_of_ble_eq_true rfl, Nat.le_of_ble_eq_true rfl⟩) (fun H locs hw => ?_)
  refine lv_if_eq (tgt := 20) hx hb dX3_smith_5 (by decide) (fun c3 => ?_) (fun c3 => ?_)
  · have hm := ifT hm c3
    exact hB20 u1 _ _ _ hm hw (lv_sub hl [] rfl)
  · have hm := ifF hm c3
    refine lv_iload_n hx hb dX3_smith_8 rfl (lv_at hl 2 rfl) ?_
    refine lv_i2l hx hb dX3_smith_9 rfl ?_
    refine lv_lconst (v := 0) hx hb dX3_smith_10 (by decide) ?_
    refine lv_ldc2 hx hb hown (hts _ q1803) dX3_smith_11 ?_
    obtain ⟨r4, er4, hm⟩ := bdE hm
    refine sci (va_runS (As := [.long (Int32.toInt64 x2), .long (0 : Int64), .long (2 : Int64)]) (rest := []) ⟨hx, hb, hml, hown, hts⟩ (w_X3_in l er4) (cw_X3_in hts q1695 ⟨Nat.le_of_ble_eq_true rfl, Nat.le_of_ble_eq_true rfl⟩) (pre_s _) rfl rfl hl.1 rfl (lv_room (Nat.le_of_ble_eq_true rfl)) dX3_smith_14 ⟨Nat.le_of_ble_eq_true rfl, Nat.le_of_ble_eq_true rfl⟩) ?_
    refine lv_if_ne (tgt := 24) hx hb dX3_smith_17 (by decide) (fun c5 => ?_) (fun c5 => ?_)
    · have hm := ifT hm c5
      refine lv_aload_n hx hb dX3_smith_24 rfl (lv_at hl 0 rfl) ?_
      refine lv_iload_n hx hb dX3_smith_25 rfl (lv_at hl 1 rfl) ?_
      obtain ⟨u6, eu6, hm⟩ := bdE hm
      refine tg_callv hw (va_runV (As := [.int x1]) (rest := []) ⟨hx, hb, hml, hown, hts⟩ (w_X3_lays l eu6) (cw_X3_lays hts q1804 ⟨Nat.le_of_ble_eq_true rfl, Nat.le_of_ble_eq_true rfl⟩) (tg_pre C hw _) rfl rfl hl.1 rfl (lv_room (Nat.le_of_ble_eq_true rfl)) dX3_smith_26 ⟨Nat.le_of_ble_eq_true rfl, Nat.le_of_ble_eq_true rfl⟩) (fun H locs hw => ?_)
      refine lv_aload_n hx hb dX3_smith_29 rfl (lv_at hl 0 rfl) ?_
      refine lv_iload_n hx hb dX3_smith_30 rfl (lv_at hl 2 rfl) ?_
      obtain ⟨r8, u7, er8, hm⟩ := bd2E hm
      refine tg_calll hw (va_runV (As := [.int x2]) (rest := []) ⟨hx, hb, hml, hown, hts⟩ (w_X3_smithOf l er8) (cw_X3_smithOf hts q1883 ⟨Nat.le_of_ble_eq_true rfl, Nat.le_of_ble_eq_true rfl⟩) (tg_pre C hw _) rfl rfl hl.1 rfl (lv_room (Nat.le_of_ble_eq_true rfl)) dX3_smith_31 ⟨Nat.le_of_ble_eq_true rfl, Nat.le_of_ble_eq_true rfl⟩) (fun H locs hw => ?_)
      rw [← hQ]
      exact W.lret (v := r8) hx hb hr (fun t ht hW => ⟨⟨r8, u7, rfl, retE hm, by rw [ht]; exact hw.1, hw.2.1⟩, hw.2.2.1.F ht⟩) hw.2.2.1.2.2 dX3_smith_34
    · have hm := ifT' hm c5
      exact hB20 u1 _ _ _ hm hw (lv_sub hl [] rfl)
def m_X3_isPoint_59 (f : Nat) (y0 : Int32) : Option Int32 := gd (zb y0) <|
    some y0
def m_X3_isPoint_58 (f : Nat)  : Option Int32 := m_X3_isPoint_59 f (0 : Int32)
def m_X3_isPoint (f : Nat) (x0 : Int32) (x1 : Int32) (x2 : Int32) (x3 : Int32) : Option Int32 := bd (m_X3_in f (Int32.toInt64 x0) (-999 : Int64) (999 : Int64)) fun r1 =>
    if r1 = 0 then
    m_X3_isPoint_58 f 
    else bd (m_X3_in f (Int32.toInt64 x1) (-999 : Int64) (999 : Int64)) fun r3 =>
    if r3 = 0 then
    m_X3_isPoint_58 f 
    else bd (m_X3_in f (Int32.toInt64 x2) (-999 : Int64) (999 : Int64)) fun r5 =>
    if r5 = 0 then
    m_X3_isPoint_58 f 
    else bd (m_X3_in f (Int32.toInt64 x3) (1 : Int64) (36 : Int64)) fun r7 =>
    if r7 = 0 then
    m_X3_isPoint_58 f 
    else m_X3_isPoint_59 f (1 : Int32)
abbrev rm_X3_isPoint : Room := { frames := 1, cells := 0, slots := 0, locals := 25 }
theorem cw_X3_isPoint {R : Room} {s : State} {args : Array Value} {own : String} {idx : Nat} (hts : ∀ w ∈ lw_all, w.before args s = true) (hl : Cond.methodLink own idx yX3_isPoint ∈ lw_all) (hR : rm_X3_isPoint.frames + 1 ≤ R.frames ∧ 8 + (4 + 11) + rm_X3_isPoint.locals ≤ R.locals) : CallB R s args own idx yX3_isPoint cX3_isPoint 4 (Option.some Jvm.ClassFile.FieldType.boolean) (ws_ yX3_isPoint cX3_isPoint 4 (Option.some Jvm.ClassFile.FieldType.boolean)) rm_X3_isPoint 0 0 4 ∧ (Cond.static yX3_isPoint).before args s = true := va_cwS 4 hts (lw_S hl q1892 q125 q1893) rfl rfl rfl (by decide +kernel) hR
set_option maxHeartbeats 4000000 in
set_option maxRecDepth 100000 in
theorem w_X3_isPoint (l : Launch) {f : Nat} {x0 : Int32} {x1 : Int32} {x2 : Int32} {x3 : Int32} {r0 : Int32} (hm : m_X3_isPoint f x0 x1 x2 x3 = some r0) : Met l yX3_isPoint (ws_ yX3_isPoint cX3_isPoint 4 (Option.some Jvm.ClassFile.FieldType.boolean)) rm_X3_isPoint (va_Pc [.int x0, .int x1, .int x2, .int x3] (fun _ => True)) (vp_Si (fun r => r = r0)) 0 0 (fun _ => False) := by
  refine Met.ofW (cc := cX3_isPoint) (maxL := 4) (ret := (Option.some Jvm.ClassFile.FieldType.boolean)) (by decide) rfl ?_
  intro p e s m args below meth c s₁ B hml hv
  have hx := B.exec
  have hb := B.bytes
  have hr := B.returns
  have hts := atoms_spec (ws := (ws_ yX3_isPoint cX3_isPoint 4 (Option.some Jvm.ClassFile.FieldType.boolean))) B.pre
  have hts : ∀ w ∈ lw_all, w.before args s = true := fun w h => hts w (List.mem_cons_of_mem _ h)
  have hown : s.vm.findClass RX3 = some m.cls := findClass_of_methodNamed B.named
  have hlocks := B.notSynchronized
  obtain ⟨hav, hv⟩ := hv
  generalize hQ : MQ below (vp_Si (fun r => r = r0)) args s 0 0 (fun _ => False) = QQ
  have hent := lg_entry_eq m [.int x0, .int x1, .int x2, .int x3] 4
  rw [← hav] at hent
  rw [hent]
  have hl := lv_entry ([.int x0, .int x1, .int x2, .int x3]) (n := 4) (Nat.le_of_ble_eq_true rfl)
  generalize (lg_sl ([.int x0, .int x1, .int x2, .int x3]) ++ List.replicate (4 - (lg_sl ([.int x0, .int x1, .int x2, .int x3])).length) Slot.unset).toArray = ls at hl ⊢
  have hl : lv_has ls 4 [(0, .int x0), (1, .int x1), (2, .int x2), (3, .int x3)] := hl
  change W p l e rm_X3_isPoint s m args below meth c s.heap [] 0 0 QQ (F0 m 0 ls [])
  have hB59 : ∀ (y0 : Int32) (ls : Array Slot), m_X3_isPoint_59 f y0 = some r0 → lv_has ls 4 [] → W p l e rm_X3_isPoint s m args below meth c s.heap [] 0 0 QQ (F0 m 59 ls [.int y0]) := by
    intro y0 ls hm hl
    rw [m_X3_isPoint_59] at hm
    obtain ⟨g1, hm⟩ := gdE hm
    rw [← hQ]
    exact W.zret (v := y0) hx hb hr (zb_nar g1) (fun t ht hW => ⟨y0, rfl, ret1 hm, ht⟩) (fun q h => absurd h List.not_mem_nil) dX3_isPoint_59
  have hB58 : ∀  (ls : Array Slot), m_X3_isPoint_58 f  = some r0 → lv_has ls 4 [] → W p l e rm_X3_isPoint s m args below meth c s.heap [] 0 0 QQ (F0 m 58 ls []) := by
    intro ls hm hl
    rw [m_X3_isPoint_58] at hm
    refine lv_iconst (v := 0) hx hb dX3_isPoint_58 (by decide) ?_
    exact hB59 (0 : Int32) _ hm (lv_sub hl [] rfl)
  rw [m_X3_isPoint] at hm
  refine lv_iload_n hx hb dX3_isPoint_0 rfl (lv_at hl 0 rfl) ?_
  refine lv_i2l hx hb dX3_isPoint_1 rfl ?_
  refine lv_ldc2 hx hb hown (hts _ q1894) dX3_isPoint_2 ?_
  refine lv_ldc2 hx hb hown (hts _ q1895) dX3_isPoint_5 ?_
  obtain ⟨r1, er1, hm⟩ := bdE hm
  refine sci (va_runS (As := [.long (Int32.toInt64 x0), .long (-999 : Int64), .long (999 : Int64)]) (rest := []) ⟨hx, hb, hml, hown, hts⟩ (w_X3_in l er1) (cw_X3_in hts q1695 ⟨Nat.le_of_ble_eq_true rfl, Nat.le_of_ble_eq_true rfl⟩) (pre_s _) rfl rfl hl.1 rfl (lv_room (Nat.le_of_ble_eq_true rfl)) dX3_isPoint_8 ⟨Nat.le_of_ble_eq_true rfl, Nat.le_of_ble_eq_true rfl⟩) ?_
  refine lv_if_eq (tgt := 58) hx hb dX3_isPoint_11 (by decide) (fun c2 => ?_) (fun c2 => ?_)
  · have hm := ifT hm c2
    exact hB58  _ hm (lv_sub hl [] rfl)
  · have hm := ifF hm c2
    refine lv_iload_n hx hb dX3_isPoint_14 rfl (lv_at hl 1 rfl) ?_
    refine lv_i2l hx hb dX3_isPoint_15 rfl ?_
    refine lv_ldc2 hx hb hown (hts _ q1894) dX3_isPoint_16 ?_
    refine lv_ldc2 hx hb hown (hts _ q1895) dX3_isPoint_19 ?_
    obtain ⟨r3, er3, hm⟩ := bdE hm
    refine sci (va_runS (As := [.long (Int32.toInt64 x1), .long (-999 : Int64), .long (999 : Int64)]) (rest := []) ⟨hx, hb, hml, hown, hts⟩ (w_X3_in l er3) (cw_X3_in hts q1695 ⟨Nat.le_of_ble_eq_true rfl, Nat.le_of_ble_eq_true rfl⟩) (pre_s _) rfl rfl hl.1 rfl (lv_room (Nat.le_of_ble_eq_true rfl)) dX3_isPoint_22 ⟨Nat.le_of_ble_eq_true rfl, Nat.le_of_ble_eq_true rfl⟩) ?_
    refine lv_if_eq (tgt := 58) hx hb dX3_isPoint_25 (by decide) (fun c4 => ?_) (fun c4 => ?_)
    · have hm := ifT hm c4
      exact hB58  _ hm (lv_sub hl [] rfl)
    · have hm := ifF hm c4
      refine lv_iload_n hx hb dX3_isPoint_28 rfl (lv_at hl 2 rfl) ?_
      refine lv_i2l hx hb dX3_isPoint_29 rfl ?_
      refine lv_ldc2 hx hb hown (hts _ q1894) dX3_isPoint_30 ?_
      refine lv_ldc2 hx hb hown (hts _ q1895) dX3_isPoint_33 ?_
      obtain ⟨r5, er5, hm⟩ := bdE hm
      refine sci (va_runS (As := [.long (Int32.toInt64 x2), .long (-999 : Int64), .long (999 : Int64)]) (rest := []) ⟨hx, hb, hml, hown, hts⟩ (w_X3_in l er5) (cw_X3_in hts q1695 ⟨Nat.le_of_ble_eq_true rfl, Nat.le_of_ble_eq_true rfl⟩) (pre_s _) rfl rfl hl.1 rfl (lv_room (Nat.le_of_ble_eq_true rfl)) dX3_isPoint_36 ⟨Nat.le_of_ble_eq_true rfl, Nat.le_of_ble_eq_true rfl⟩) ?_
      refine lv_if_eq (tgt := 58) hx hb dX3_isPoint_39 (by decide) (fun c6 => ?_) (fun c6 => ?_)
      · have hm := ifT hm c6
        exact hB58  _ hm (lv_sub hl [] rfl)
      · have hm := ifF hm c6
        refine lv_iload_n hx hb dX3_isPoint_42 rfl (lv_at hl 3 rfl) ?_
        refine lv_i2l hx hb dX3_isPoint_43 rfl ?_
        refine lv_lconst (v := 1) hx hb dX3_isPoint_44 (by decide) ?_
        refine lv_ldc2 hx hb hown (hts _ q1896) dX3_isPoint_45 ?_
        obtain ⟨r7, er7, hm⟩ := bdE hm
        refine sci (va_runS (As := [.long (Int32.toInt64 x3), .long (1 : Int64), .long (36 : Int64)]) (rest := []) ⟨hx, hb, hml, hown, hts⟩ (w_X3_in l er7) (cw_X3_in hts q1695 ⟨Nat.le_of_ble_eq_true rfl, Nat.le_of_ble_eq_true rfl⟩) (pre_s _) rfl rfl hl.1 rfl (lv_room (Nat.le_of_ble_eq_true rfl)) dX3_isPoint_48 ⟨Nat.le_of_ble_eq_true rfl, Nat.le_of_ble_eq_true rfl⟩) ?_
        refine lv_if_eq (tgt := 58) hx hb dX3_isPoint_51 (by decide) (fun c8 => ?_) (fun c8 => ?_)
        · have hm := ifT hm c8
          exact hB58  _ hm (lv_sub hl [] rfl)
        · have hm := ifF hm c8
          refine lv_iconst (v := 1) hx hb dX3_isPoint_54 (by decide) ?_
          refine lv_goto (tgt := 59) hx hb dX3_isPoint_55 (by decide) ?_
          exact hB59 (1 : Int32) _ hm (lv_sub hl [] rfl)
def m_X3_hasPoint_186 (f : Nat) (u : TS) : Option (Int32 × TS) := some ((1 : Int32), u)
def m_X3_hasPoint_180 (f : Nat) (k84 : TS → Int32 → Option (Int32 × TS)) (u : TS) (x9 : Int32) : Option (Int32 × TS) := nmv ((x9 + 1) : Int32) fun v1 =>
    k84 u v1
def m_X3_hasPoint_143 (f : Nat) (k84 : TS → Int32 → Option (Int32 × TS)) : Nat → TS → Int32 → Int64 → Int32 → Option (Int32 × TS)
  | 0, _, _, _, _ => none
  | n143 + 1, u, x9, x10, x12 => if (3 : Int32) ≤ x12 then
    m_X3_hasPoint_180 f k84 u x9
    else gd (ix x12 3) <|
    gd (ix (((3 : Int32) * x9) + x12) 9) <|
    gd (ix x12 3) <|
    nmv (sB u 26 (Int32.toNatClampNeg x12) ((tB u 26 (Int32.toNatClampNeg x12)) - (x10 * (tB u 18 (Int32.toNatClampNeg (((3 : Int32) * x9) + x12)))))) fun u5 =>
    nmv ((x12 + 1) : Int32) fun v6 =>
    m_X3_hasPoint_143 f k84 n143 u5 x9 x10 v6
def m_X3_hasPoint_115 (f : Nat) (u : TS) : Option (Int32 × TS) := some ((0 : Int32), u)
def m_X3_hasPoint_84 (f : Nat) : Nat → TS → Int32 → Option (Int32 × TS)
  | 0, _, _ => none
  | n84 + 1, u, x9 => if (3 : Int32) ≤ x9 then
    m_X3_hasPoint_186 f u
    else gd (ix x9 3) <|
    gd (ix (((3 : Int32) * x9) + x9) 9) <|
    gd (nzL (tB u 18 (Int32.toNatClampNeg (((3 : Int32) * x9) + x9)))) <|
    if (rmL (tB u 26 (Int32.toNatClampNeg x9)) (tB u 18 (Int32.toNatClampNeg (((3 : Int32) * x9) + x9)))) = (0 : Int64) then
    gd (ix x9 3) <|
    gd (ix (((3 : Int32) * x9) + x9) 9) <|
    gd (nzL (tB u 18 (Int32.toNatClampNeg (((3 : Int32) * x9) + x9)))) <|
    nmv (((tB u 26 (Int32.toNatClampNeg x9)) / (tB u 18 (Int32.toNatClampNeg (((3 : Int32) * x9) + x9)))) : Int64) fun v9 =>
    m_X3_hasPoint_143 f (m_X3_hasPoint_84 f n84) f u x9 v9 x9
    else m_X3_hasPoint_115 f u
def m_X3_hasPoint_81 (f : Nat) (u : TS) : Option (Int32 × TS) := m_X3_hasPoint_84 f f u (0 : Int32)
def m_X3_hasPoint_61 (f : Nat) (u : TS) : Option (Int32 × TS) := some ((0 : Int32), u)
def m_X3_hasPoint_40 (f : Nat) : Nat → TS → Int64 → Int32 → Option (Int32 × TS)
  | 0, _, _, _ => none
  | n40 + 1, u, x7, x9 => if (3 : Int32) ≤ x9 then
    m_X3_hasPoint_81 f u
    else gd (ix x9 3) <|
    gd (nzL x7) <|
    if (rmL (tB u 26 (Int32.toNatClampNeg x9)) x7) = (0 : Int64) then
    gd (ix x9 3) <|
    gd (nzL x7) <|
    gd (ix x9 3) <|
    nmv (sB u 26 (Int32.toNatClampNeg x9) ((tB u 26 (Int32.toNatClampNeg x9)) / x7)) fun u8 =>
    nmv ((x9 + 1) : Int32) fun v9 =>
    m_X3_hasPoint_40 f n40 u8 x7 v9
    else m_X3_hasPoint_61 f u
def m_X3_hasPoint (f : Nat) (u : TS) (x1 : Int64) (x3 : Int64) (x5 : Int64) (x7 : Int64) : Option (Int32 × TS) := nmv (sB u 26 (Int32.toNatClampNeg (0 : Int32)) (x1 * (tL u 19))) fun u1 =>
    nmv (sB u1 26 (Int32.toNatClampNeg (1 : Int32)) (x3 * (tL u1 19))) fun u2 =>
    nmv (sB u2 26 (Int32.toNatClampNeg (2 : Int32)) (x5 * (tL u2 19))) fun u3 =>
    m_X3_hasPoint_40 f f u3 x7 (0 : Int32)
abbrev rm_X3_hasPoint : Room := { frames := 0, cells := 0, slots := 0, locals := 0 }
theorem cw_X3_hasPoint {R : Room} {s : State} {args : Array Value} {own : String} {idx : Nat} (hts : ∀ w ∈ lw_all, w.before args s = true) (hl : Cond.methodLink own idx yX3_hasPoint ∈ lw_all) (hR : rm_X3_hasPoint.frames + 1 ≤ R.frames ∧ 8 + (13 + 11) + rm_X3_hasPoint.locals ≤ R.locals) : CallW R s args own RX3 idx yX3_hasPoint cX3_hasPoint 13 (Option.some Jvm.ClassFile.FieldType.boolean) (ws_ yX3_hasPoint cX3_hasPoint 13 (Option.some Jvm.ClassFile.FieldType.boolean)) rm_X3_hasPoint 0 0 4 := cwV 4 hts (lw_V hl q1903 qs82 q125 q1904) rfl rfl rfl (by decide +kernel) hR
set_option maxHeartbeats 4000000 in
set_option maxRecDepth 100000 in
theorem w_X3_hasPoint (l : Launch) {D : va_G} {ad : Nat → Nat} {dI dJ : ClassId} {A : Nat → Prop} {f : Nat} {u u9 : TS} {r0 : Int32} {x1 : Int64} {x3 : Int64} {x5 : Int64} {x7 : Int64} (hm : m_X3_hasPoint f u x1 x3 x5 x7 = some (r0, u9)) : Met l yX3_hasPoint (ws_ yX3_hasPoint cX3_hasPoint 13 (Option.some Jvm.ClassFile.FieldType.boolean)) rm_X3_hasPoint (va_Pc [.ref (ad 40), .long x1, .long x3, .long x5, .long x7] (TPre D ad dI dJ A u)) (va_Qi (fun r u => r = r0 ∧ u = u9) (TPost D ad dI dJ A) A) 0 0 A := by
  refine Met.ofW (cc := cX3_hasPoint) (maxL := 13) (ret := (Option.some Jvm.ClassFile.FieldType.boolean)) (by decide) rfl ?_
  intro p e s m args below meth c s₁ B hml hv
  have hx := B.exec
  have hb := B.bytes
  have hr := B.returns
  have hts := atoms_spec (ws := (ws_ yX3_hasPoint cX3_hasPoint 13 (Option.some Jvm.ClassFile.FieldType.boolean))) B.pre
  have hts : ∀ w ∈ lw_all, w.before args s = true := fun w h => hts w (List.mem_cons_of_mem _ h)
  have hown : s.vm.findClass RX3 = some m.cls := findClass_of_methodNamed B.named
  have hlocks := B.notSynchronized
  obtain ⟨hav, hv⟩ := hv
  have C : TC p s m args c cX3_hasPoint D dI dJ := ⟨hx, hb, hown, hts, hv.2.1⟩
  have hw : TH D ad dI dJ A s.heap u s.heap [] := ⟨hv.1, hv.2.2.1, va_S.rf, hv.2.2.2⟩
  generalize hQ : MQ below (va_Qi (fun r u => r = r0 ∧ u = u9) (TPost D ad dI dJ A) A) args s 0 0 A = QQ
  have hent := lg_entry_eq m [.ref (ad 40), .long x1, .long x3, .long x5, .long x7] 13
  rw [← hav] at hent
  rw [hent]
  have hl := lv_entry ([.ref (ad 40), .long x1, .long x3, .long x5, .long x7]) (n := 13) (Nat.le_of_ble_eq_true rfl)
  generalize (lg_sl ([.ref (ad 40), .long x1, .long x3, .long x5, .long x7]) ++ List.replicate (13 - (lg_sl ([.ref (ad 40), .long x1, .long x3, .long x5, .long x7])).length) Slot.unset).toArray = ls at hl ⊢
  have hl : lv_has ls 13 [(0, .ref (ad 40)), (1, .long x1), (3, .long x3), (5, .long x5), (7, .long x7)] := hl
  change W p l e rm_X3_hasPoint s m args below meth c s.heap [] 0 0 QQ (F0 m 0 ls [])
  have hB186 : ∀ (u : TS) (H : Heap) (locs : List Loc) (ls : Array Slot), m_X3_hasPoint_186 f u = some (r0, u9) → TH D ad dI dJ A s.heap u H locs → lv_has ls 13 [] → W p l e rm_X3_hasPoint s m args below meth c H locs 0 0 QQ (F0 m 186 ls []) := by
    intro u H locs ls hm hw hl
    rw [m_X3_hasPoint_186] at hm
    refine lv_iconst (v := 1) hx hb dX3_hasPoint_186 (by decide) ?_
    rw [← hQ]
    exact W.zret (v := (1 : Int32)) hx hb hr rfl (fun t ht hW => ⟨⟨(1 : Int32), u, rfl, retE hm, by rw [ht]; exact hw.1, hw.2.1⟩, hw.2.2.1.F ht⟩) hw.2.2.1.2.2 dX3_hasPoint_187
  have hB115 : ∀ (u : TS) (H : Heap) (locs : List Loc) (ls : Array Slot), m_X3_hasPoint_115 f u = some (r0, u9) → TH D ad dI dJ A s.heap u H locs → lv_has ls 13 [] → W p l e rm_X3_hasPoint s m args below meth c H locs 0 0 QQ (F0 m 115 ls []) := by
    intro u H locs ls hm hw hl
    rw [m_X3_hasPoint_115] at hm
    refine lv_iconst (v := 0) hx hb dX3_hasPoint_115 (by decide) ?_
    rw [← hQ]
    exact W.zret (v := (0 : Int32)) hx hb hr rfl (fun t ht hW => ⟨⟨(0 : Int32), u, rfl, retE hm, by rw [ht]; exact hw.1, hw.2.1⟩, hw.2.2.1.F ht⟩) hw.2.2.1.2.2 dX3_hasPoint_116
  have hB84 : ∀ (n84 : Nat), ∀ (u : TS) (x9 : Int32) (H : Heap) (locs : List Loc) (ls : Array Slot), m_X3_hasPoint_84 f n84 u x9 = some (r0, u9) → TH D ad dI dJ A s.heap u H locs → lv_has ls 13 [(0, .ref (ad 40)), (9, .int x9)] → W p l e rm_X3_hasPoint s m args below meth c H locs 0 0 QQ (F0 m 84 ls []) := by
    intro n84
    induction n84 with
    | zero => intro u x9 H locs ls hm hw hl; rw [m_X3_hasPoint_84] at hm; exact noE hm
    | succ n84 ih84 =>
      have hB180 : ∀ (u : TS) (x9 : Int32) (H : Heap) (locs : List Loc) (ls : Array Slot), m_X3_hasPoint_180 f (m_X3_hasPoint_84 f n84) u x9 = some (r0, u9) → TH D ad dI dJ A s.heap u H locs → lv_has ls 13 [(0, .ref (ad 40)), (9, .int x9)] → W p l e rm_X3_hasPoint s m args below meth c H locs 0 0 QQ (F0 m 180 ls []) := by
        intro u x9 H locs ls hm hw hl
        rw [m_X3_hasPoint_180] at hm
        obtain ⟨v1, ev1, hm⟩ := nmE hm
        refine lv_iinc (v := v1) (lv' := [(9, .int v1), (0, .ref (ad 40))]) hx hb dX3_hasPoint_180 hl (k := 1) rfl (by rw [ev1]; rfl) (by decide) rfl (fun ls hl => ?_)
        refine lv_goto (tgt := 84) hx hb dX3_hasPoint_183 (by decide) ?_
        exact ih84 u v1 _ _ _ hm hw (lv_sub hl [1, 0] rfl)
      have hB143 : ∀ (n143 : Nat), ∀ (u : TS) (x9 : Int32) (x10 : Int64) (x12 : Int32) (H : Heap) (locs : List Loc) (ls : Array Slot), m_X3_hasPoint_143 f (m_X3_hasPoint_84 f n84) n143 u x9 x10 x12 = some (r0, u9) → TH D ad dI dJ A s.heap u H locs → lv_has ls 13 [(0, .ref (ad 40)), (9, .int x9), (10, .long x10), (12, .int x12)] → W p l e rm_X3_hasPoint s m args below meth c H locs 0 0 QQ (F0 m 143 ls []) := by
        intro n143
        induction n143 with
        | zero => intro u x9 x10 x12 H locs ls hm hw hl; rw [m_X3_hasPoint_143] at hm; exact noE hm
        | succ n143 ih143 =>
          intro u x9 x10 x12 H locs ls hm hw hl
          rw [m_X3_hasPoint_143] at hm
          refine lv_iload hx hb dX3_hasPoint_143 (lv_at hl 3 rfl) ?_
          refine lv_iconst (v := 3) hx hb dX3_hasPoint_145 (by decide) ?_
          refine lv_icmp_ge (tgt := 180) hx hb dX3_hasPoint_146 (by decide) (fun c1 => ?_) (fun c1 => ?_)
          · have hm := ifT hm c1
            exact hB180 u x9 _ _ _ hm hw (lv_sub hl [0, 1] rfl)
          · have hm := ifF hm c1
            refine lv_aload_n hx hb dX3_hasPoint_149 rfl (lv_at hl 0 rfl) ?_
            refine tg_get C hw 26 (by decide) q1592 rfl dX3_hasPoint_150 ?_
            refine lv_iload hx hb dX3_hasPoint_153 (lv_at hl 3 rfl) ?_
            refine lv_dup2_11 hx hb dX3_hasPoint_155 rfl rfl ?_
            obtain ⟨g2, hm⟩ := gdE hm
            refine tg_lald C hw (tp_26 ad dI dJ u) g2 dX3_hasPoint_156 ?_
            refine lv_lload hx hb dX3_hasPoint_157 (lv_at hl 2 rfl) ?_
            refine lv_aload_n hx hb dX3_hasPoint_159 rfl (lv_at hl 0 rfl) ?_
            refine tg_get C hw 18 (by decide) q1584 rfl dX3_hasPoint_160 ?_
            refine lv_iconst (v := 3) hx hb dX3_hasPoint_163 (by decide) ?_
            refine lv_iload hx hb dX3_hasPoint_164 (lv_at hl 1 rfl) ?_
            refine lv_imul hx hb dX3_hasPoint_166 ?_
            refine lv_iload hx hb dX3_hasPoint_167 (lv_at hl 3 rfl) ?_
            refine lv_iadd hx hb dX3_hasPoint_169 ?_
            obtain ⟨g3, hm⟩ := gdE hm
            refine tg_lald C hw (tp_18 ad dI dJ u) g3 dX3_hasPoint_170 ?_
            refine lv_lmul hx hb dX3_hasPoint_171 ?_
            refine lv_lsub hx hb dX3_hasPoint_172 ?_
            obtain ⟨g4, hm⟩ := gdE hm
            refine tg_last C hw (tp_26 ad dI dJ u) g4 (ts_26 ad dI dJ u _ _) dX3_hasPoint_173 (fun H locs hw => ?_)
            obtain ⟨u5, eu5, hm⟩ := nmE hm
            rw [← eu5] at hw
            obtain ⟨v6, ev6, hm⟩ := nmE hm
            refine lv_iinc (v := v6) (lv' := [(12, .int v6), (0, .ref (ad 40)), (9, .int x9), (10, .long x10)]) hx hb dX3_hasPoint_174 hl (k := 3) rfl (by rw [ev6]; rfl) (by decide) rfl (fun ls hl => ?_)
            refine lv_goto (tgt := 143) hx hb dX3_hasPoint_177 (by decide) ?_
            exact ih143 u5 x9 x10 v6 _ _ _ hm hw (lv_sub hl [1, 2, 3, 0] rfl)
      intro u x9 H locs ls hm hw hl
      rw [m_X3_hasPoint_84] at hm
      refine lv_iload hx hb dX3_hasPoint_84 (lv_at hl 1 rfl) ?_
      refine lv_iconst (v := 3) hx hb dX3_hasPoint_86 (by decide) ?_
      refine lv_icmp_ge (tgt := 186) hx hb dX3_hasPoint_87 (by decide) (fun c1 => ?_) (fun c1 => ?_)
      · have hm := ifT hm c1
        exact hB186 u _ _ _ hm hw (lv_sub hl [] rfl)
      · have hm := ifF hm c1
        refine lv_aload_n hx hb dX3_hasPoint_90 rfl (lv_at hl 0 rfl) ?_
        refine tg_get C hw 26 (by decide) q1592 rfl dX3_hasPoint_91 ?_
        refine lv_iload hx hb dX3_hasPoint_94 (lv_at hl 1 rfl) ?_
        obtain ⟨g2, hm⟩ := gdE hm
        refine tg_lald C hw (tp_26 ad dI dJ u) g2 dX3_hasPoint_96 ?_
        refine lv_aload_n hx hb dX3_hasPoint_97 rfl (lv_at hl 0 rfl) ?_
        refine tg_get C hw 18 (by decide) q1584 rfl dX3_hasPoint_98 ?_
        refine lv_iconst (v := 3) hx hb dX3_hasPoint_101 (by decide) ?_
        refine lv_iload hx hb dX3_hasPoint_102 (lv_at hl 1 rfl) ?_
        refine lv_imul hx hb dX3_hasPoint_104 ?_
        refine lv_iload hx hb dX3_hasPoint_105 (lv_at hl 1 rfl) ?_
        refine lv_iadd hx hb dX3_hasPoint_107 ?_
        obtain ⟨g3, hm⟩ := gdE hm
        refine tg_lald C hw (tp_18 ad dI dJ u) g3 dX3_hasPoint_108 ?_
        obtain ⟨g4, hm⟩ := gdE hm
        refine w_lrem hx hb dX3_hasPoint_109 (nzL_ne g4) ?_
        refine lv_lconst (v := 0) hx hb dX3_hasPoint_110 (by decide) ?_
        refine lc_eq (tgt := 117) hx hb dX3_hasPoint_111 dX3_hasPoint_112 (by decide) (fun c5 => ?_) (fun c5 => ?_)
        · have hm := ifT hm c5
          refine lv_aload_n hx hb dX3_hasPoint_117 rfl (lv_at hl 0 rfl) ?_
          refine tg_get C hw 26 (by decide) q1592 rfl dX3_hasPoint_118 ?_
          refine lv_iload hx hb dX3_hasPoint_121 (lv_at hl 1 rfl) ?_
          obtain ⟨g6, hm⟩ := gdE hm
          refine tg_lald C hw (tp_26 ad dI dJ u) g6 dX3_hasPoint_123 ?_
          refine lv_aload_n hx hb dX3_hasPoint_124 rfl (lv_at hl 0 rfl) ?_
          refine tg_get C hw 18 (by decide) q1584 rfl dX3_hasPoint_125 ?_
          refine lv_iconst (v := 3) hx hb dX3_hasPoint_128 (by decide) ?_
          refine lv_iload hx hb dX3_hasPoint_129 (lv_at hl 1 rfl) ?_
          refine lv_imul hx hb dX3_hasPoint_131 ?_
          refine lv_iload hx hb dX3_hasPoint_132 (lv_at hl 1 rfl) ?_
          refine lv_iadd hx hb dX3_hasPoint_134 ?_
          obtain ⟨g7, hm⟩ := gdE hm
          refine tg_lald C hw (tp_18 ad dI dJ u) g7 dX3_hasPoint_135 ?_
          obtain ⟨g8, hm⟩ := gdE hm
          refine lv_ldiv hx hb dX3_hasPoint_136 (nzL_ne g8) ?_
          refine lv_topl (fun v9 ev9 => ?_)
          have hm := nmK hm ev9
          refine lv_lstore (lv' := [(10, .long v9), (0, .ref (ad 40)), (9, .int x9)]) hx hb dX3_hasPoint_137 hl (by decide) rfl (fun ls hl => ?_)
          refine lv_iload hx hb dX3_hasPoint_139 (lv_at hl 2 rfl) ?_
          refine lv_istore (lv' := [(12, .int x9), (10, .long v9), (0, .ref (ad 40)), (9, .int x9)]) hx hb dX3_hasPoint_141 hl (by decide) rfl (fun ls hl => ?_)
          exact hB143 f u x9 v9 x9 _ _ _ hm hw (lv_sub hl [2, 3, 1, 0] rfl)
        · have hm := ifF hm c5
          exact hB115 u _ _ _ hm hw (lv_sub hl [] rfl)
  have hB81 : ∀ (u : TS) (H : Heap) (locs : List Loc) (ls : Array Slot), m_X3_hasPoint_81 f u = some (r0, u9) → TH D ad dI dJ A s.heap u H locs → lv_has ls 13 [(0, .ref (ad 40))] → W p l e rm_X3_hasPoint s m args below meth c H locs 0 0 QQ (F0 m 81 ls []) := by
    intro u H locs ls hm hw hl
    rw [m_X3_hasPoint_81] at hm
    refine lv_iconst (v := 0) hx hb dX3_hasPoint_81 (by decide) ?_
    refine lv_istore (lv' := [(9, .int (0 : Int32)), (0, .ref (ad 40))]) hx hb dX3_hasPoint_82 hl (by decide) rfl (fun ls hl => ?_)
    exact hB84 f u (0 : Int32) _ _ _ hm hw (lv_sub hl [1, 0] rfl)
  have hB61 : ∀ (u : TS) (H : Heap) (locs : List Loc) (ls : Array Slot), m_X3_hasPoint_61 f u = some (r0, u9) → TH D ad dI dJ A s.heap u H locs → lv_has ls 13 [] → W p l e rm_X3_hasPoint s m args below meth c H locs 0 0 QQ (F0 m 61 ls []) := by
    intro u H locs ls hm hw hl
    rw [m_X3_hasPoint_61] at hm
    refine lv_iconst (v := 0) hx hb dX3_hasPoint_61 (by decide) ?_
    rw [← hQ]
    exact W.zret (v := (0 : Int32)) hx hb hr rfl (fun t ht hW => ⟨⟨(0 : Int32), u, rfl, retE hm, by rw [ht]; exact hw.1, hw.2.1⟩, hw.2.2.1.F ht⟩) hw.2.2.1.2.2 dX3_hasPoint_62
  have hB40 : ∀ (n40 : Nat), ∀ (u : TS) (x7 : Int64) (x9 : Int32) (H : Heap) (locs : List Loc) (ls : Array Slot), m_X3_hasPoint_40 f n40 u x7 x9 = some (r0, u9) → TH D ad dI dJ A s.heap u H locs → lv_has ls 13 [(0, .ref (ad 40)), (7, .long x7), (9, .int x9)] → W p l e rm_X3_hasPoint s m args below meth c H locs 0 0 QQ (F0 m 40 ls []) := by
    intro n40
    induction n40 with
    | zero => intro u x7 x9 H locs ls hm hw hl; rw [m_X3_hasPoint_40] at hm; exact noE hm
    | succ n40 ih40 =>
      intro u x7 x9 H locs ls hm hw hl
      rw [m_X3_hasPoint_40] at hm
      refine lv_iload hx hb dX3_hasPoint_40 (lv_at hl 2 rfl) ?_
      refine lv_iconst (v := 3) hx hb dX3_hasPoint_42 (by decide) ?_
      refine lv_icmp_ge (tgt := 81) hx hb dX3_hasPoint_43 (by decide) (fun c1 => ?_) (fun c1 => ?_)
      · have hm := ifT hm c1
        exact hB81 u _ _ _ hm hw (lv_sub hl [0] rfl)
      · have hm := ifF hm c1
        refine lv_aload_n hx hb dX3_hasPoint_46 rfl (lv_at hl 0 rfl) ?_
        refine tg_get C hw 26 (by decide) q1592 rfl dX3_hasPoint_47 ?_
        refine lv_iload hx hb dX3_hasPoint_50 (lv_at hl 2 rfl) ?_
        obtain ⟨g2, hm⟩ := gdE hm
        refine tg_lald C hw (tp_26 ad dI dJ u) g2 dX3_hasPoint_52 ?_
        refine lv_lload hx hb dX3_hasPoint_53 (lv_at hl 1 rfl) ?_
        obtain ⟨g3, hm⟩ := gdE hm
        refine w_lrem hx hb dX3_hasPoint_55 (nzL_ne g3) ?_
        refine lv_lconst (v := 0) hx hb dX3_hasPoint_56 (by decide) ?_
        refine lc_eq (tgt := 63) hx hb dX3_hasPoint_57 dX3_hasPoint_58 (by decide) (fun c4 => ?_) (fun c4 => ?_)
        · have hm := ifT hm c4
          refine lv_aload_n hx hb dX3_hasPoint_63 rfl (lv_at hl 0 rfl) ?_
          refine tg_get C hw 26 (by decide) q1592 rfl dX3_hasPoint_64 ?_
          refine lv_iload hx hb dX3_hasPoint_67 (lv_at hl 2 rfl) ?_
          refine lv_dup2_11 hx hb dX3_hasPoint_69 rfl rfl ?_
          obtain ⟨g5, hm⟩ := gdE hm
          refine tg_lald C hw (tp_26 ad dI dJ u) g5 dX3_hasPoint_70 ?_
          refine lv_lload hx hb dX3_hasPoint_71 (lv_at hl 1 rfl) ?_
          obtain ⟨g6, hm⟩ := gdE hm
          refine lv_ldiv hx hb dX3_hasPoint_73 (nzL_ne g6) ?_
          obtain ⟨g7, hm⟩ := gdE hm
          refine tg_last C hw (tp_26 ad dI dJ u) g7 (ts_26 ad dI dJ u _ _) dX3_hasPoint_74 (fun H locs hw => ?_)
          obtain ⟨u8, eu8, hm⟩ := nmE hm
          rw [← eu8] at hw
          obtain ⟨v9, ev9, hm⟩ := nmE hm
          refine lv_iinc (v := v9) (lv' := [(9, .int v9), (0, .ref (ad 40)), (7, .long x7)]) hx hb dX3_hasPoint_75 hl (k := 2) rfl (by rw [ev9]; rfl) (by decide) rfl (fun ls hl => ?_)
          refine lv_goto (tgt := 40) hx hb dX3_hasPoint_78 (by decide) ?_
          exact ih40 u8 x7 v9 _ _ _ hm hw (lv_sub hl [1, 2, 0] rfl)
        · have hm := ifF hm c4
          exact hB61 u _ _ _ hm hw (lv_sub hl [] rfl)
  rw [m_X3_hasPoint] at hm
  refine lv_aload_n hx hb dX3_hasPoint_0 rfl (lv_at hl 0 rfl) ?_
  refine tg_get C hw 26 (by decide) q1592 rfl dX3_hasPoint_1 ?_
  refine lv_iconst (v := 0) hx hb dX3_hasPoint_4 (by decide) ?_
  refine lv_lload_n hx hb dX3_hasPoint_5 rfl (lv_at hl 1 rfl) ?_
  refine lv_aload_n hx hb dX3_hasPoint_6 rfl (lv_at hl 0 rfl) ?_
  refine tg_get C hw 19 (by decide) q1585 rfl dX3_hasPoint_7 ?_
  refine lv_lmul hx hb dX3_hasPoint_10 ?_
  refine tg_last C hw (tp_26 ad dI dJ u) (by decide) (ts_26 ad dI dJ u _ _) dX3_hasPoint_11 (fun H locs hw => ?_)
  obtain ⟨u1, eu1, hm⟩ := nmE hm
  rw [← eu1] at hw
  refine lv_aload_n hx hb dX3_hasPoint_12 rfl (lv_at hl 0 rfl) ?_
  refine tg_get C hw 26 (by decide) q1592 rfl dX3_hasPoint_13 ?_
  refine lv_iconst (v := 1) hx hb dX3_hasPoint_16 (by decide) ?_
  refine lv_lload_n hx hb dX3_hasPoint_17 rfl (lv_at hl 2 rfl) ?_
  refine lv_aload_n hx hb dX3_hasPoint_18 rfl (lv_at hl 0 rfl) ?_
  refine tg_get C hw 19 (by decide) q1585 rfl dX3_hasPoint_19 ?_
  refine lv_lmul hx hb dX3_hasPoint_22 ?_
  refine tg_last C hw (tp_26 ad dI dJ u1) (by decide) (ts_26 ad dI dJ u1 _ _) dX3_hasPoint_23 (fun H locs hw => ?_)
  obtain ⟨u2, eu2, hm⟩ := nmE hm
  rw [← eu2] at hw
  refine lv_aload_n hx hb dX3_hasPoint_24 rfl (lv_at hl 0 rfl) ?_
  refine tg_get C hw 26 (by decide) q1592 rfl dX3_hasPoint_25 ?_
  refine lv_iconst (v := 2) hx hb dX3_hasPoint_28 (by decide) ?_
  refine lv_lload hx hb dX3_hasPoint_29 (lv_at hl 3 rfl) ?_
  refine lv_aload_n hx hb dX3_hasPoint_31 rfl (lv_at hl 0 rfl) ?_
  refine tg_get C hw 19 (by decide) q1585 rfl dX3_hasPoint_32 ?_
  refine lv_lmul hx hb dX3_hasPoint_35 ?_
  refine tg_last C hw (tp_26 ad dI dJ u2) (by decide) (ts_26 ad dI dJ u2 _ _) dX3_hasPoint_36 (fun H locs hw => ?_)
  obtain ⟨u3, eu3, hm⟩ := nmE hm
  rw [← eu3] at hw
  refine lv_iconst (v := 0) hx hb dX3_hasPoint_37 (by decide) ?_
  refine lv_istore (lv' := [(9, .int (0 : Int32)), (0, .ref (ad 40)), (1, .long x1), (3, .long x3), (5, .long x5), (7, .long x7)]) hx hb dX3_hasPoint_38 hl (by decide) rfl (fun ls hl => ?_)
  exact hB40 f u3 x7 (0 : Int32) _ _ _ hm hw (lv_sub hl [1, 5, 0] rfl)
def m_X3_latticeHas (f : Nat) (u : TS) (x1 : Int32) (x2 : Int64) (x4 : Int64) (x6 : Int64) (x8 : Int64) : Option (Int32 × TS) := bd (m_X3_lays f u x1) fun u1 =>
    bd (m_X3_forms f u1) fun u2 =>
    bd2 (m_X3_hasPoint f u2 x2 x4 x6 x8) fun r4 u3 =>
    gd (zb r4) <|
    some (r4, u3)
abbrev rm_X3_latticeHas : Room := { frames := 5, cells := 0, slots := 0, locals := 124 }
theorem cw_X3_latticeHas {R : Room} {s : State} {args : Array Value} {own : String} {idx : Nat} (hts : ∀ w ∈ lw_all, w.before args s = true) (hl : Cond.methodLink own idx yX3_latticeHas ∈ lw_all) (hR : rm_X3_latticeHas.frames + 1 ≤ R.frames ∧ 8 + (10 + 11) + rm_X3_latticeHas.locals ≤ R.locals) : CallW R s args own RX3 idx yX3_latticeHas cX3_latticeHas 10 (Option.some Jvm.ClassFile.FieldType.boolean) (ws_ yX3_latticeHas cX3_latticeHas 10 (Option.some Jvm.ClassFile.FieldType.boolean)) rm_X3_latticeHas 0 0 5 := cwV 5 hts (lw_V hl q1899 qs81 q125 q1900) rfl rfl rfl (by decide +kernel) hR
set_option maxHeartbeats 4000000 in
set_option maxRecDepth 100000 in
theorem w_X3_latticeHas (l : Launch) {D : va_G} {ad : Nat → Nat} {dI dJ : ClassId} {A : Nat → Prop} {f : Nat} {u u9 : TS} {r0 : Int32} {x1 : Int32} {x2 : Int64} {x4 : Int64} {x6 : Int64} {x8 : Int64} (hm : m_X3_latticeHas f u x1 x2 x4 x6 x8 = some (r0, u9)) : Met l yX3_latticeHas (ws_ yX3_latticeHas cX3_latticeHas 10 (Option.some Jvm.ClassFile.FieldType.boolean)) rm_X3_latticeHas (va_Pc [.ref (ad 40), .int x1, .long x2, .long x4, .long x6, .long x8] (TPre D ad dI dJ A u)) (va_Qi (fun r u => r = r0 ∧ u = u9) (TPost D ad dI dJ A) A) 0 0 A := by
  refine Met.ofW (cc := cX3_latticeHas) (maxL := 10) (ret := (Option.some Jvm.ClassFile.FieldType.boolean)) (by decide) rfl ?_
  intro p e s m args below meth c s₁ B hml hv
  have hx := B.exec
  have hb := B.bytes
  have hr := B.returns
  have hts := atoms_spec (ws := (ws_ yX3_latticeHas cX3_latticeHas 10 (Option.some Jvm.ClassFile.FieldType.boolean))) B.pre
  have hts : ∀ w ∈ lw_all, w.before args s = true := fun w h => hts w (List.mem_cons_of_mem _ h)
  have hown : s.vm.findClass RX3 = some m.cls := findClass_of_methodNamed B.named
  have hlocks := B.notSynchronized
  obtain ⟨hav, hv⟩ := hv
  have C : TC p s m args c cX3_latticeHas D dI dJ := ⟨hx, hb, hown, hts, hv.2.1⟩
  have hw : TH D ad dI dJ A s.heap u s.heap [] := ⟨hv.1, hv.2.2.1, va_S.rf, hv.2.2.2⟩
  generalize hQ : MQ below (va_Qi (fun r u => r = r0 ∧ u = u9) (TPost D ad dI dJ A) A) args s 0 0 A = QQ
  have hent := lg_entry_eq m [.ref (ad 40), .int x1, .long x2, .long x4, .long x6, .long x8] 10
  rw [← hav] at hent
  rw [hent]
  have hl := lv_entry ([.ref (ad 40), .int x1, .long x2, .long x4, .long x6, .long x8]) (n := 10) (Nat.le_of_ble_eq_true rfl)
  generalize (lg_sl ([.ref (ad 40), .int x1, .long x2, .long x4, .long x6, .long x8]) ++ List.replicate (10 - (lg_sl ([.ref (ad 40), .int x1, .long x2, .long x4, .long x6, .long x8])).length) Slot.unset).toArray = ls at hl ⊢
  have hl : lv_has ls 10 [(0, .ref (ad 40)), (1, .int x1), (2, .long x2), (4, .long x4), (6, .long x6), (8, .long x8)] := hl
  change W p l e rm_X3_latticeHas s m args below meth c s.heap [] 0 0 QQ (F0 m 0 ls [])
  rw [m_X3_latticeHas] at hm
  refine lv_aload_n hx hb dX3_latticeHas_0 rfl (lv_at hl 0 rfl) ?_
  refine lv_iload_n hx hb dX3_latticeHas_1 rfl (lv_at hl 1 rfl) ?_
  obtain ⟨u1, eu1, hm⟩ := bdE hm
  refine tg_callv hw (va_runV (As := [.int x1]) (rest := []) ⟨hx, hb, hml, hown, hts⟩ (w_X3_lays l eu1) (cw_X3_lays hts q1804 ⟨Nat.le_of_ble_eq_true rfl, Nat.le_of_ble_eq_true rfl⟩) (tg_pre C hw _) rfl rfl hl.1 rfl (lv_room (Nat.le_of_ble_eq_true rfl)) dX3_latticeHas_2 ⟨Nat.le_of_ble_eq_true rfl, Nat.le_of_ble_eq_true rfl⟩) (fun H locs hw => ?_)
  refine lv_aload_n hx hb dX3_latticeHas_5 rfl (lv_at hl 0 rfl) ?_
  obtain ⟨u2, eu2, hm⟩ := bdE hm
  refine tg_callv hw (va_runV (As := []) (rest := []) ⟨hx, hb, hml, hown, hts⟩ (w_X3_forms l eu2) (cw_X3_forms hts q1832 ⟨Nat.le_of_ble_eq_true rfl, Nat.le_of_ble_eq_true rfl⟩) (tg_pre C hw _) rfl rfl hl.1 rfl (lv_room (Nat.le_of_ble_eq_true rfl)) dX3_latticeHas_6 ⟨Nat.le_of_ble_eq_true rfl, Nat.le_of_ble_eq_true rfl⟩) (fun H locs hw => ?_)
  refine lv_aload_n hx hb dX3_latticeHas_9 rfl (lv_at hl 0 rfl) ?_
  refine lv_lload_n hx hb dX3_latticeHas_10 rfl (lv_at hl 2 rfl) ?_
  refine lv_lload hx hb dX3_latticeHas_11 (lv_at hl 3 rfl) ?_
  refine lv_lload hx hb dX3_latticeHas_13 (lv_at hl 4 rfl) ?_
  refine lv_lload hx hb dX3_latticeHas_15 (lv_at hl 5 rfl) ?_
  obtain ⟨r4, u3, er4, hm⟩ := bd2E hm
  refine tg_calli hw (va_runV (As := [.long x2, .long x4, .long x6, .long x8]) (rest := []) ⟨hx, hb, hml, hown, hts⟩ (w_X3_hasPoint l er4) (cw_X3_hasPoint hts q1901 ⟨Nat.le_of_ble_eq_true rfl, Nat.le_of_ble_eq_true rfl⟩) (tg_pre C hw _) rfl rfl hl.1 rfl (lv_room (Nat.le_of_ble_eq_true rfl)) dX3_latticeHas_17 ⟨Nat.le_of_ble_eq_true rfl, Nat.le_of_ble_eq_true rfl⟩) (fun H locs hw => ?_)
  obtain ⟨g5, hm⟩ := gdE hm
  rw [← hQ]
  exact W.zret (v := r4) hx hb hr (zb_nar g5) (fun t ht hW => ⟨⟨r4, u3, rfl, retE hm, by rw [ht]; exact hw.1, hw.2.1⟩, hw.2.2.1.F ht⟩) hw.2.2.1.2.2 dX3_latticeHas_20
def m_X3_has_20 (f : Nat) (u : TS) : Option (Int32 × TS) := some ((-2 : Int32), u)
def m_X3_has_46 (f : Nat) (u : TS) (y0 : Int32) : Option (Int32 × TS) := some (y0, u)
def m_X3_has (f : Nat) (u : TS) (x1 : Int32) (x2 : Int32) (x3 : Int32) (x4 : Int32) (x5 : Int32) : Option (Int32 × TS) := bd2 (m_X3_isLattice f u x1) fun r2 u1 =>
    if r2 = 0 then
    m_X3_has_20 f u1
    else bd (m_X3_isPoint f x2 x3 x4 x5) fun r4 =>
    if ¬ r4 = 0 then
    bd2 (m_X3_latticeHas f u1 x1 (Int32.toInt64 x2) (Int32.toInt64 x3) (Int32.toInt64 x4) (Int32.toInt64 x5)) fun r7 u6 =>
    if r7 = 0 then
    m_X3_has_46 f u6 (0 : Int32)
    else m_X3_has_46 f u6 (1 : Int32)
    else m_X3_has_20 f u1
abbrev rm_X3_has : Room := { frames := 6, cells := 0, slots := 0, locals := 153 }
theorem cw_X3_has {R : Room} {s : State} {args : Array Value} {own : String} {idx : Nat} (hts : ∀ w ∈ lw_all, w.before args s = true) (hl : Cond.methodLink own idx yX3_has ∈ lw_all) (hR : rm_X3_has.frames + 1 ≤ R.frames ∧ 8 + (6 + 11) + rm_X3_has.locals ≤ R.locals) : CallW R s args own RX3 idx yX3_has cX3_has 6 (Option.some Jvm.ClassFile.FieldType.int) (ws_ yX3_has cX3_has 6 (Option.some Jvm.ClassFile.FieldType.int)) rm_X3_has 0 0 5 := cwV 5 hts (lw_V hl q1888 q1889 q125 q1890) rfl rfl rfl (by decide +kernel) hR
set_option maxHeartbeats 4000000 in
set_option maxRecDepth 100000 in
theorem w_X3_has (l : Launch) {D : va_G} {ad : Nat → Nat} {dI dJ : ClassId} {A : Nat → Prop} {f : Nat} {u u9 : TS} {r0 : Int32} {x1 : Int32} {x2 : Int32} {x3 : Int32} {x4 : Int32} {x5 : Int32} (hm : m_X3_has f u x1 x2 x3 x4 x5 = some (r0, u9)) : Met l yX3_has (ws_ yX3_has cX3_has 6 (Option.some Jvm.ClassFile.FieldType.int)) rm_X3_has (va_Pc [.ref (ad 40), .int x1, .int x2, .int x3, .int x4, .int x5] (TPre D ad dI dJ A u)) (va_Qi (fun r u => r = r0 ∧ u = u9) (TPost D ad dI dJ A) A) 0 0 A := by
  refine Met.ofW (cc := cX3_has) (maxL := 6) (ret := (Option.some Jvm.ClassFile.FieldType.int)) (by decide) rfl ?_
  intro p e s m args below meth c s₁ B hml hv
  have hx := B.exec
  have hb := B.bytes
  have hr := B.returns
  have hts := atoms_spec (ws := (ws_ yX3_has cX3_has 6 (Option.some Jvm.ClassFile.FieldType.int))) B.pre
  have hts : ∀ w ∈ lw_all, w.before args s = true := fun w h => hts w (List.mem_cons_of_mem _ h)
  have hown : s.vm.findClass RX3 = some m.cls := findClass_of_methodNamed B.named
  have hlocks := B.notSynchronized
  obtain ⟨hav, hv⟩ := hv
  have C : TC p s m args c cX3_has D dI dJ := ⟨hx, hb, hown, hts, hv.2.1⟩
  have hw : TH D ad dI dJ A s.heap u s.heap [] := ⟨hv.1, hv.2.2.1, va_S.rf, hv.2.2.2⟩
  generalize hQ : MQ below (va_Qi (fun r u => r = r0 ∧ u = u9) (TPost D ad dI dJ A) A) args s 0 0 A = QQ
  have hent := lg_entry_eq m [.ref (ad 40), .int x1, .int x2, .int x3, .int x4, .int x5] 6
  rw [← hav] at hent
  rw [hent]
  have hl := lv_entry ([.ref (ad 40), .int x1, .int x2, .int x3, .int x4, .int x5]) (n := 6) (Nat.le_of_ble_eq_true rfl)
  generalize (lg_sl ([.ref (ad 40), .int x1, .int x2, .int x3, .int x4, .int x5]) ++ List.replicate (6 - (lg_sl ([.ref (ad 40), .int x1, .int x2, .int x3, .int x4, .int x5])).length) Slot.unset).toArray = ls at hl ⊢
  have hl : lv_has ls 6 [(0, .ref (ad 40)), (1, .int x1), (2, .int x2), (3, .int x3), (4, .int x4), (5, .int x5)] := hl
  change W p l e rm_X3_has s m args below meth c s.heap [] 0 0 QQ (F0 m 0 ls [])
  have hB20 : ∀ (u : TS) (H : Heap) (locs : List Loc) (ls : Array Slot), m_X3_has_20 f u = some (r0, u9) → TH D ad dI dJ A s.heap u H locs → lv_has ls 6 [] → W p l e rm_X3_has s m args below meth c H locs 0 0 QQ (F0 m 20 ls []) := by
    intro u H locs ls hm hw hl
    rw [m_X3_has_20] at hm
    refine lv_bipush (v := -2) hx hb dX3_has_20 (by decide) ?_
    rw [← hQ]
    exact W.iret (v := (-2 : Int32)) hx hb hr (fun t ht hW => ⟨⟨(-2 : Int32), u, rfl, retE hm, by rw [ht]; exact hw.1, hw.2.1⟩, hw.2.2.1.F ht⟩) hw.2.2.1.2.2 dX3_has_22
  have hB46 : ∀ (u : TS) (y0 : Int32) (H : Heap) (locs : List Loc) (ls : Array Slot), m_X3_has_46 f u y0 = some (r0, u9) → TH D ad dI dJ A s.heap u H locs → lv_has ls 6 [] → W p l e rm_X3_has s m args below meth c H locs 0 0 QQ (F0 m 46 ls [.int y0]) := by
    intro u y0 H locs ls hm hw hl
    rw [m_X3_has_46] at hm
    rw [← hQ]
    exact W.iret (v := y0) hx hb hr (fun t ht hW => ⟨⟨y0, u, rfl, retE hm, by rw [ht]; exact hw.1, hw.2.1⟩, hw.2.2.1.F ht⟩) hw.2.2.1.2.2 dX3_has_46
  rw [m_X3_has] at hm
  refine lv_aload_n hx hb dX3_has_0 rfl (lv_at hl 0 rfl) ?_
  refine lv_iload_n hx hb dX3_has_1 rfl (lv_at hl 1 rfl) ?_
  obtain ⟨r2, u1, er2, hm⟩ := bd2E hm
  refine tg_calli hw (va_runV (As := [.int x1]) (rest := []) ⟨hx, hb, hml, hown, hts⟩ (w_X3_isLattice l er2) (cw_X3_isLattice hts q1796 ⟨Nat.le_of_ble_eq_true rfl, Nat.le_of_ble_eq_true rfl⟩) (tg_pre C hw _) rfl rfl hl.1 rfl (lv_room (Nat.le_of_ble_eq_true rfl)) dX3_has_2 ⟨Nat.le_of_ble_eq_true rfl, Nat.le_of_ble_eq_true rfl⟩) (fun H locs hw => ?_)
  refine lv_if_eq (tgt := 20) hx hb dX3_has_5 (by decide) (fun c3 => ?_) (fun c3 => ?_)
  · have hm := ifT hm c3
    exact hB20 u1 _ _ _ hm hw (lv_sub hl [] rfl)
  · have hm := ifF hm c3
    refine lv_iload_n hx hb dX3_has_8 rfl (lv_at hl 2 rfl) ?_
    refine lv_iload_n hx hb dX3_has_9 rfl (lv_at hl 3 rfl) ?_
    refine lv_iload hx hb dX3_has_10 (lv_at hl 4 rfl) ?_
    refine lv_iload hx hb dX3_has_12 (lv_at hl 5 rfl) ?_
    obtain ⟨r4, er4, hm⟩ := bdE hm
    refine sci (va_runS (As := [.int x2, .int x3, .int x4, .int x5]) (rest := []) ⟨hx, hb, hml, hown, hts⟩ (w_X3_isPoint l er4) (cw_X3_isPoint hts q1891 ⟨Nat.le_of_ble_eq_true rfl, Nat.le_of_ble_eq_true rfl⟩) (pre_s _) rfl rfl hl.1 rfl (lv_room (Nat.le_of_ble_eq_true rfl)) dX3_has_14 ⟨Nat.le_of_ble_eq_true rfl, Nat.le_of_ble_eq_true rfl⟩) ?_
    refine lv_if_ne (tgt := 23) hx hb dX3_has_17 (by decide) (fun c5 => ?_) (fun c5 => ?_)
    · have hm := ifT hm c5
      refine lv_aload_n hx hb dX3_has_23 rfl (lv_at hl 0 rfl) ?_
      refine lv_iload_n hx hb dX3_has_24 rfl (lv_at hl 1 rfl) ?_
      refine lv_iload_n hx hb dX3_has_25 rfl (lv_at hl 2 rfl) ?_
      refine lv_i2l hx hb dX3_has_26 rfl ?_
      refine lv_iload_n hx hb dX3_has_27 rfl (lv_at hl 3 rfl) ?_
      refine lv_i2l hx hb dX3_has_28 rfl ?_
      refine lv_iload hx hb dX3_has_29 (lv_at hl 4 rfl) ?_
      refine lv_i2l hx hb dX3_has_31 rfl ?_
      refine lv_iload hx hb dX3_has_32 (lv_at hl 5 rfl) ?_
      refine lv_i2l hx hb dX3_has_34 rfl ?_
      obtain ⟨r7, u6, er7, hm⟩ := bd2E hm
      refine tg_calli hw (va_runV (As := [.int x1, .long (Int32.toInt64 x2), .long (Int32.toInt64 x3), .long (Int32.toInt64 x4), .long (Int32.toInt64 x5)]) (rest := []) ⟨hx, hb, hml, hown, hts⟩ (w_X3_latticeHas l er7) (cw_X3_latticeHas hts q1897 ⟨Nat.le_of_ble_eq_true rfl, Nat.le_of_ble_eq_true rfl⟩) (tg_pre C hw _) rfl rfl hl.1 rfl (lv_room (Nat.le_of_ble_eq_true rfl)) dX3_has_35 ⟨Nat.le_of_ble_eq_true rfl, Nat.le_of_ble_eq_true rfl⟩) (fun H locs hw => ?_)
      refine lv_if_eq (tgt := 45) hx hb dX3_has_38 (by decide) (fun c8 => ?_) (fun c8 => ?_)
      · have hm := ifT hm c8
        refine lv_iconst (v := 0) hx hb dX3_has_45 (by decide) ?_
        exact hB46 u6 (0 : Int32) _ _ _ hm hw (lv_sub hl [] rfl)
      · have hm := ifF hm c8
        refine lv_iconst (v := 1) hx hb dX3_has_41 (by decide) ?_
        refine lv_goto (tgt := 46) hx hb dX3_has_42 (by decide) ?_
        exact hB46 u6 (1 : Int32) _ _ _ hm hw (lv_sub hl [] rfl)
    · have hm := ifT' hm c5
      exact hB20 u1 _ _ _ hm hw (lv_sub hl [] rfl)
def m_X3_whyNot_16 (f : Nat) (u : TS) : Option (Int32 × TS) := some ((-2 : Int32), u)
def m_X3_whyNot_41 (f : Nat) (u : TS) (y0 : Int32) : Option (Int32 × TS) := some (y0, u)
def m_X3_whyNot_40 (f : Nat) (u : TS) : Option (Int32 × TS) := m_X3_whyNot_41 f u (0 : Int32)
def m_X3_whyNot (f : Nat) (u : TS) (x1 : Int32) (x2 : Int32) : Option (Int32 × TS) := bd2 (m_X3_isLattice f u x1) fun r2 u1 =>
    if r2 = 0 then
    m_X3_whyNot_16 f u1
    else bd2 (m_X3_isLattice f u1 x2) fun r5 u4 =>
    if ¬ r5 = 0 then
    bd2 (m_X3_isTurned f u4 x1) fun r8 u7 =>
    if r8 = 0 then
    m_X3_whyNot_40 f u7
    else bd2 (m_X3_isTurned f u7 x2) fun r11 u10 =>
    if r11 = 0 then
    m_X3_whyNot_40 f u10
    else m_X3_whyNot_41 f u10 (-3 : Int32)
    else m_X3_whyNot_16 f u4
abbrev rm_X3_whyNot : Room := { frames := 2, cells := 0, slots := 0, locals := 46 }
theorem cw_X3_whyNot {R : Room} {s : State} {args : Array Value} {own : String} {idx : Nat} (hts : ∀ w ∈ lw_all, w.before args s = true) (hl : Cond.methodLink own idx yX3_whyNot ∈ lw_all) (hR : rm_X3_whyNot.frames + 1 ≤ R.frames ∧ 8 + (3 + 11) + rm_X3_whyNot.locals ≤ R.locals) : CallW R s args own RX3 idx yX3_whyNot cX3_whyNot 3 (Option.some Jvm.ClassFile.FieldType.int) (ws_ yX3_whyNot cX3_whyNot 3 (Option.some Jvm.ClassFile.FieldType.int)) rm_X3_whyNot 0 0 2 := cwV 2 hts (lw_V hl q1911 qs83 q125 q1912) rfl rfl rfl (by decide +kernel) hR
set_option maxHeartbeats 4000000 in
set_option maxRecDepth 100000 in
theorem w_X3_whyNot (l : Launch) {D : va_G} {ad : Nat → Nat} {dI dJ : ClassId} {A : Nat → Prop} {f : Nat} {u u9 : TS} {r0 : Int32} {x1 : Int32} {x2 : Int32} (hm : m_X3_whyNot f u x1 x2 = some (r0, u9)) : Met l yX3_whyNot (ws_ yX3_whyNot cX3_whyNot 3 (Option.some Jvm.ClassFile.FieldType.int)) rm_X3_whyNot (va_Pc [.ref (ad 40), .int x1, .int x2] (TPre D ad dI dJ A u)) (va_Qi (fun r u => r = r0 ∧ u = u9) (TPost D ad dI dJ A) A) 0 0 A := by
  refine Met.ofW (cc := cX3_whyNot) (maxL := 3) (ret := (Option.some Jvm.ClassFile.FieldType.int)) (by decide) rfl ?_
  intro p e s m args below meth c s₁ B hml hv
  have hx := B.exec
  have hb := B.bytes
  have hr := B.returns
  have hts := atoms_spec (ws := (ws_ yX3_whyNot cX3_whyNot 3 (Option.some Jvm.ClassFile.FieldType.int))) B.pre
  have hts : ∀ w ∈ lw_all, w.before args s = true := fun w h => hts w (List.mem_cons_of_mem _ h)
  have hown : s.vm.findClass RX3 = some m.cls := findClass_of_methodNamed B.named
  have hlocks := B.notSynchronized
  obtain ⟨hav, hv⟩ := hv
  have C : TC p s m args c cX3_whyNot D dI dJ := ⟨hx, hb, hown, hts, hv.2.1⟩
  have hw : TH D ad dI dJ A s.heap u s.heap [] := ⟨hv.1, hv.2.2.1, va_S.rf, hv.2.2.2⟩
  generalize hQ : MQ below (va_Qi (fun r u => r = r0 ∧ u = u9) (TPost D ad dI dJ A) A) args s 0 0 A = QQ
  have hent := lg_entry_eq m [.ref (ad 40), .int x1, .int x2] 3
  rw [← hav] at hent
  rw [hent]
  have hl := lv_entry ([.ref (ad 40), .int x1, .int x2]) (n := 3) (Nat.le_of_ble_eq_true rfl)
  generalize (lg_sl ([.ref (ad 40), .int x1, .int x2]) ++ List.replicate (3 - (lg_sl ([.ref (ad 40), .int x1, .int x2])).length) Slot.unset).toArray = ls at hl ⊢
  have hl : lv_has ls 3 [(0, .ref (ad 40)), (1, .int x1), (2, .int x2)] := hl
  change W p l e rm_X3_whyNot s m args below meth c s.heap [] 0 0 QQ (F0 m 0 ls [])
  have hB16 : ∀ (u : TS) (H : Heap) (locs : List Loc) (ls : Array Slot), m_X3_whyNot_16 f u = some (r0, u9) → TH D ad dI dJ A s.heap u H locs → lv_has ls 3 [] → W p l e rm_X3_whyNot s m args below meth c H locs 0 0 QQ (F0 m 16 ls []) := by
    intro u H locs ls hm hw hl
    rw [m_X3_whyNot_16] at hm
    refine lv_bipush (v := -2) hx hb dX3_whyNot_16 (by decide) ?_
    rw [← hQ]
    exact W.iret (v := (-2 : Int32)) hx hb hr (fun t ht hW => ⟨⟨(-2 : Int32), u, rfl, retE hm, by rw [ht]; exact hw.1, hw.2.1⟩, hw.2.2.1.F ht⟩) hw.2.2.1.2.2 dX3_whyNot_18
  have hB41 : ∀ (u : TS) (y0 : Int32) (H : Heap) (locs : List Loc) (ls : Array Slot), m_X3_whyNot_41 f u y0 = some (r0, u9) → TH D ad dI dJ A s.heap u H locs → lv_has ls 3 [] → W p l e rm_X3_whyNot s m args below meth c H locs 0 0 QQ (F0 m 41 ls [.int y0]) := by
    intro u y0 H locs ls hm hw hl
    rw [m_X3_whyNot_41] at hm
    rw [← hQ]
    exact W.iret (v := y0) hx hb hr (fun t ht hW => ⟨⟨y0, u, rfl, retE hm, by rw [ht]; exact hw.1, hw.2.1⟩, hw.2.2.1.F ht⟩) hw.2.2.1.2.2 dX3_whyNot_41
  have hB40 : ∀ (u : TS) (H : Heap) (locs : List Loc) (ls : Array Slot), m_X3_whyNot_40 f u = some (r0, u9) → TH D ad dI dJ A s.heap u H locs → lv_has ls 3 [] → W p l e rm_X3_whyNot s m args below meth c H locs 0 0 QQ (F0 m 40 ls []) := by
    intro u H locs ls hm hw hl
    rw [m_X3_whyNot_40] at hm
    refine lv_iconst (v := 0) hx hb dX3_whyNot_40 (by decide) ?_
    exact hB41 u (0 : Int32) _ _ _ hm hw (lv_sub hl [] rfl)
  rw [m_X3_whyNot] at hm
  refine lv_aload_n hx hb dX3_whyNot_0 rfl (lv_at hl 0 rfl) ?_
  refine lv_iload_n hx hb dX3_whyNot_1 rfl (lv_at hl 1 rfl) ?_
  obtain ⟨r2, u1, er2, hm⟩ := bd2E hm
  refine tg_calli hw (va_runV (As := [.int x1]) (rest := []) ⟨hx, hb, hml, hown, hts⟩ (w_X3_isLattice l er2) (cw_X3_isLattice hts q1796 ⟨Nat.le_of_ble_eq_true rfl, Nat.le_of_ble_eq_true rfl⟩) (tg_pre C hw _) rfl rfl hl.1 rfl (lv_room (Nat.le_of_ble_eq_true rfl)) dX3_whyNot_2 ⟨Nat.le_of_ble_eq_true rfl, Nat.le_of_ble_eq_true rfl⟩) (fun H locs hw => ?_)
  refine lv_if_eq (tgt := 16) hx hb dX3_whyNot_5 (by decide) (fun c3 => ?_) (fun c3 => ?_)
  · have hm := ifT hm c3
    exact hB16 u1 _ _ _ hm hw (lv_sub hl [] rfl)
  · have hm := ifF hm c3
    refine lv_aload_n hx hb dX3_whyNot_8 rfl (lv_at hl 0 rfl) ?_
    refine lv_iload_n hx hb dX3_whyNot_9 rfl (lv_at hl 2 rfl) ?_
    obtain ⟨r5, u4, er5, hm⟩ := bd2E hm
    refine tg_calli hw (va_runV (As := [.int x2]) (rest := []) ⟨hx, hb, hml, hown, hts⟩ (w_X3_isLattice l er5) (cw_X3_isLattice hts q1796 ⟨Nat.le_of_ble_eq_true rfl, Nat.le_of_ble_eq_true rfl⟩) (tg_pre C hw _) rfl rfl hl.1 rfl (lv_room (Nat.le_of_ble_eq_true rfl)) dX3_whyNot_10 ⟨Nat.le_of_ble_eq_true rfl, Nat.le_of_ble_eq_true rfl⟩) (fun H locs hw => ?_)
    refine lv_if_ne (tgt := 19) hx hb dX3_whyNot_13 (by decide) (fun c6 => ?_) (fun c6 => ?_)
    · have hm := ifT hm c6
      refine lv_aload_n hx hb dX3_whyNot_19 rfl (lv_at hl 0 rfl) ?_
      refine lv_iload_n hx hb dX3_whyNot_20 rfl (lv_at hl 1 rfl) ?_
      obtain ⟨r8, u7, er8, hm⟩ := bd2E hm
      refine tg_calli hw (va_runV (As := [.int x1]) (rest := []) ⟨hx, hb, hml, hown, hts⟩ (w_X3_isTurned l er8) (cw_X3_isTurned hts q1788 ⟨Nat.le_of_ble_eq_true rfl, Nat.le_of_ble_eq_true rfl⟩) (tg_pre C hw _) rfl rfl hl.1 rfl (lv_room (Nat.le_of_ble_eq_true rfl)) dX3_whyNot_21 ⟨Nat.le_of_ble_eq_true rfl, Nat.le_of_ble_eq_true rfl⟩) (fun H locs hw => ?_)
      refine lv_if_eq (tgt := 40) hx hb dX3_whyNot_24 (by decide) (fun c9 => ?_) (fun c9 => ?_)
      · have hm := ifT hm c9
        exact hB40 u7 _ _ _ hm hw (lv_sub hl [] rfl)
      · have hm := ifF hm c9
        refine lv_aload_n hx hb dX3_whyNot_27 rfl (lv_at hl 0 rfl) ?_
        refine lv_iload_n hx hb dX3_whyNot_28 rfl (lv_at hl 2 rfl) ?_
        obtain ⟨r11, u10, er11, hm⟩ := bd2E hm
        refine tg_calli hw (va_runV (As := [.int x2]) (rest := []) ⟨hx, hb, hml, hown, hts⟩ (w_X3_isTurned l er11) (cw_X3_isTurned hts q1788 ⟨Nat.le_of_ble_eq_true rfl, Nat.le_of_ble_eq_true rfl⟩) (tg_pre C hw _) rfl rfl hl.1 rfl (lv_room (Nat.le_of_ble_eq_true rfl)) dX3_whyNot_29 ⟨Nat.le_of_ble_eq_true rfl, Nat.le_of_ble_eq_true rfl⟩) (fun H locs hw => ?_)
        refine lv_if_eq (tgt := 40) hx hb dX3_whyNot_32 (by decide) (fun c12 => ?_) (fun c12 => ?_)
        · have hm := ifT hm c12
          exact hB40 u10 _ _ _ hm hw (lv_sub hl [] rfl)
        · have hm := ifF hm c12
          refine lv_bipush (v := -3) hx hb dX3_whyNot_35 (by decide) ?_
          refine lv_goto (tgt := 41) hx hb dX3_whyNot_37 (by decide) ?_
          exact hB41 u10 (-3 : Int32) _ _ _ hm hw (lv_sub hl [] rfl)
    · have hm := ifT' hm c6
      exact hB16 u4 _ _ _ hm hw (lv_sub hl [] rfl)
def m_X3_laysFirst_39 (f : Nat) (u : TS) : Option TS := some u
def m_X3_laysFirst_15 (f : Nat) : Nat → TS → Int32 → Option TS
  | 0, _, _ => none
  | n15 + 1, u, x2 => if (9 : Int32) ≤ x2 then
    m_X3_laysFirst_39 f u
    else gd (ix x2 9) <|
    gd (ix x2 9) <|
    nmv (sB u 27 (Int32.toNatClampNeg x2) (tB u 18 (Int32.toNatClampNeg x2))) fun u4 =>
    nmv ((x2 + 1) : Int32) fun v5 =>
    m_X3_laysFirst_15 f n15 u4 v5
def m_X3_laysFirst (f : Nat) (u : TS) (x1 : Int32) : Option TS := bd (m_X3_lays f u x1) fun u1 =>
    nmv (sL u1 28 (tL u1 19)) fun u2 =>
    m_X3_laysFirst_15 f f u2 (0 : Int32)
abbrev rm_X3_laysFirst : Room := { frames := 5, cells := 0, slots := 0, locals := 124 }
theorem cw_X3_laysFirst {R : Room} {s : State} {args : Array Value} {own : String} {idx : Nat} (hts : ∀ w ∈ lw_all, w.before args s = true) (hl : Cond.methodLink own idx yX3_laysFirst ∈ lw_all) (hR : rm_X3_laysFirst.frames + 1 ≤ R.frames ∧ 8 + (3 + 11) + rm_X3_laysFirst.locals ≤ R.locals) : CallW R s args own RX3 idx yX3_laysFirst cX3_laysFirst 3 (Option.none : Option Jvm.ClassFile.FieldType) (ws_ yX3_laysFirst cX3_laysFirst 3 (Option.none : Option Jvm.ClassFile.FieldType)) rm_X3_laysFirst 0 0 1 := cwV 1 hts (lw_V hl q1919 qs85 q125 q1920) rfl rfl rfl (by decide +kernel) hR
set_option maxHeartbeats 4000000 in
set_option maxRecDepth 100000 in
theorem w_X3_laysFirst (l : Launch) {D : va_G} {ad : Nat → Nat} {dI dJ : ClassId} {A : Nat → Prop} {f : Nat} {u u9 : TS} {x1 : Int32} (hm : m_X3_laysFirst f u x1 = some u9) : Met l yX3_laysFirst (ws_ yX3_laysFirst cX3_laysFirst 3 (Option.none : Option Jvm.ClassFile.FieldType)) rm_X3_laysFirst (va_Pc [.ref (ad 40), .int x1] (TPre D ad dI dJ A u)) (va_Qv (fun u => u = u9) (TPost D ad dI dJ A) A) 0 0 A := by
  refine Met.ofW (cc := cX3_laysFirst) (maxL := 3) (ret := (Option.none : Option Jvm.ClassFile.FieldType)) (by decide) rfl ?_
  intro p e s m args below meth c s₁ B hml hv
  have hx := B.exec
  have hb := B.bytes
  have hr := B.returns
  have hts := atoms_spec (ws := (ws_ yX3_laysFirst cX3_laysFirst 3 (Option.none : Option Jvm.ClassFile.FieldType))) B.pre
  have hts : ∀ w ∈ lw_all, w.before args s = true := fun w h => hts w (List.mem_cons_of_mem _ h)
  have hown : s.vm.findClass RX3 = some m.cls := findClass_of_methodNamed B.named
  have hlocks := B.notSynchronized
  obtain ⟨hav, hv⟩ := hv
  have C : TC p s m args c cX3_laysFirst D dI dJ := ⟨hx, hb, hown, hts, hv.2.1⟩
  have hw : TH D ad dI dJ A s.heap u s.heap [] := ⟨hv.1, hv.2.2.1, va_S.rf, hv.2.2.2⟩
  generalize hQ : MQ below (va_Qv (fun u => u = u9) (TPost D ad dI dJ A) A) args s 0 0 A = QQ
  have hent := lg_entry_eq m [.ref (ad 40), .int x1] 3
  rw [← hav] at hent
  rw [hent]
  have hl := lv_entry ([.ref (ad 40), .int x1]) (n := 3) (Nat.le_of_ble_eq_true rfl)
  generalize (lg_sl ([.ref (ad 40), .int x1]) ++ List.replicate (3 - (lg_sl ([.ref (ad 40), .int x1])).length) Slot.unset).toArray = ls at hl ⊢
  have hl : lv_has ls 3 [(0, .ref (ad 40)), (1, .int x1)] := hl
  change W p l e rm_X3_laysFirst s m args below meth c s.heap [] 0 0 QQ (F0 m 0 ls [])
  have hB39 : ∀ (u : TS) (H : Heap) (locs : List Loc) (ls : Array Slot), m_X3_laysFirst_39 f u = some u9 → TH D ad dI dJ A s.heap u H locs → lv_has ls 3 [] → W p l e rm_X3_laysFirst s m args below meth c H locs 0 0 QQ (F0 m 39 ls []) := by
    intro u H locs ls hm hw hl
    rw [m_X3_laysFirst_39] at hm
    rw [← hQ]
    exact W.vret hx hb hr (fun t ht hW => ⟨⟨u, rfl, ret1 hm, by rw [ht]; exact hw.1, hw.2.1⟩, hw.2.2.1.F ht⟩) hw.2.2.1.2.2 dX3_laysFirst_39
  have hB15 : ∀ (n15 : Nat), ∀ (u : TS) (x2 : Int32) (H : Heap) (locs : List Loc) (ls : Array Slot), m_X3_laysFirst_15 f n15 u x2 = some u9 → TH D ad dI dJ A s.heap u H locs → lv_has ls 3 [(0, .ref (ad 40)), (2, .int x2)] → W p l e rm_X3_laysFirst s m args below meth c H locs 0 0 QQ (F0 m 15 ls []) := by
    intro n15
    induction n15 with
    | zero => intro u x2 H locs ls hm hw hl; rw [m_X3_laysFirst_15] at hm; exact noE hm
    | succ n15 ih15 =>
      intro u x2 H locs ls hm hw hl
      rw [m_X3_laysFirst_15] at hm
      refine lv_iload_n hx hb dX3_laysFirst_15 rfl (lv_at hl 1 rfl) ?_
      refine lv_bipush (v := 9) hx hb dX3_laysFirst_16 (by decide) ?_
      refine lv_icmp_ge (tgt := 39) hx hb dX3_laysFirst_18 (by decide) (fun c1 => ?_) (fun c1 => ?_)
      · have hm := ifT hm c1
        exact hB39 u _ _ _ hm hw (lv_sub hl [] rfl)
      · have hm := ifF hm c1
        refine lv_aload_n hx hb dX3_laysFirst_21 rfl (lv_at hl 0 rfl) ?_
        refine tg_get C hw 27 (by decide) q1593 rfl dX3_laysFirst_22 ?_
        refine lv_iload_n hx hb dX3_laysFirst_25 rfl (lv_at hl 1 rfl) ?_
        refine lv_aload_n hx hb dX3_laysFirst_26 rfl (lv_at hl 0 rfl) ?_
        refine tg_get C hw 18 (by decide) q1584 rfl dX3_laysFirst_27 ?_
        refine lv_iload_n hx hb dX3_laysFirst_30 rfl (lv_at hl 1 rfl) ?_
        obtain ⟨g2, hm⟩ := gdE hm
        refine tg_lald C hw (tp_18 ad dI dJ u) g2 dX3_laysFirst_31 ?_
        obtain ⟨g3, hm⟩ := gdE hm
        refine tg_last C hw (tp_27 ad dI dJ u) g3 (ts_27 ad dI dJ u _ _) dX3_laysFirst_32 (fun H locs hw => ?_)
        obtain ⟨u4, eu4, hm⟩ := nmE hm
        rw [← eu4] at hw
        obtain ⟨v5, ev5, hm⟩ := nmE hm
        refine lv_iinc (v := v5) (lv' := [(2, .int v5), (0, .ref (ad 40))]) hx hb dX3_laysFirst_33 hl (k := 1) rfl (by rw [ev5]; rfl) (by decide) rfl (fun ls hl => ?_)
        refine lv_goto (tgt := 15) hx hb dX3_laysFirst_36 (by decide) ?_
        exact ih15 u4 v5 _ _ _ hm hw (lv_sub hl [1, 0] rfl)
  rw [m_X3_laysFirst] at hm
  refine lv_aload_n hx hb dX3_laysFirst_0 rfl (lv_at hl 0 rfl) ?_
  refine lv_iload_n hx hb dX3_laysFirst_1 rfl (lv_at hl 1 rfl) ?_
  obtain ⟨u1, eu1, hm⟩ := bdE hm
  refine tg_callv hw (va_runV (As := [.int x1]) (rest := []) ⟨hx, hb, hml, hown, hts⟩ (w_X3_lays l eu1) (cw_X3_lays hts q1804 ⟨Nat.le_of_ble_eq_true rfl, Nat.le_of_ble_eq_true rfl⟩) (tg_pre C hw _) rfl rfl hl.1 rfl (lv_room (Nat.le_of_ble_eq_true rfl)) dX3_laysFirst_2 ⟨Nat.le_of_ble_eq_true rfl, Nat.le_of_ble_eq_true rfl⟩) (fun H locs hw => ?_)
  refine lv_aload_n hx hb dX3_laysFirst_5 rfl (lv_at hl 0 rfl) ?_
  refine lv_aload_n hx hb dX3_laysFirst_6 rfl (lv_at hl 0 rfl) ?_
  refine tg_get C hw 19 (by decide) q1585 rfl dX3_laysFirst_7 ?_
  refine tg_put C hw 28 (by decide) q1594 rfl rfl rfl (ts_28 ad dI dJ u1 (tL u1 19)) dX3_laysFirst_10 (fun H locs hw => ?_)
  obtain ⟨u2, eu2, hm⟩ := nmE hm
  rw [← eu2] at hw
  refine lv_iconst (v := 0) hx hb dX3_laysFirst_13 (by decide) ?_
  refine lv_istore_n (lv' := [(2, .int (0 : Int32)), (0, .ref (ad 40)), (1, .int x1)]) hx hb dX3_laysFirst_14 rfl hl (by decide) rfl (fun ls hl => ?_)
  exact hB15 f u2 (0 : Int32) _ _ _ hm hw (lv_sub hl [1, 0] rfl)
def m_X3_laysOther_87 (f : Nat) (u : TS) : Option TS := some u
def m_X3_laysOther_35 (f : Nat) : Nat → TS → Int32 → Option TS
  | 0, _, _ => none
  | n35 + 1, u, x1 => if (9 : Int32) ≤ x1 then
    m_X3_laysOther_87 f u
    else gd (ix x1 9) <|
    gd (nzL (tL u 30)) <|
    gd (ix x1 9) <|
    nmv (sB u 29 (Int32.toNatClampNeg x1) ((tB u 18 (Int32.toNatClampNeg x1)) * ((tL u 31) / (tL u 30)))) fun u5 =>
    gd (ix x1 9) <|
    gd (nzL (tL u5 28)) <|
    gd (ix x1 9) <|
    nmv (sB u5 27 (Int32.toNatClampNeg x1) ((tB u5 27 (Int32.toNatClampNeg x1)) * ((tL u5 31) / (tL u5 28)))) fun u9 =>
    nmv ((x1 + 1) : Int32) fun v10 =>
    m_X3_laysOther_35 f n35 u9 v10
def m_X3_laysOther (f : Nat) (u : TS) : Option TS := nmv (sL u 30 (tL u 19)) fun u1 =>
    bd (m_X3_common f (tL u1 28) (tL u1 30)) fun r2 =>
    gd (nzL r2) <|
    nmv (sL u1 31 (((tL u1 28) / r2) * (tL u1 30))) fun u4 =>
    m_X3_laysOther_35 f f u4 (0 : Int32)
abbrev rm_X3_laysOther : Room := { frames := 2, cells := 0, slots := 0, locals := 50 }
theorem cw_X3_laysOther {R : Room} {s : State} {args : Array Value} {own : String} {idx : Nat} (hts : ∀ w ∈ lw_all, w.before args s = true) (hl : Cond.methodLink own idx yX3_laysOther ∈ lw_all) (hR : rm_X3_laysOther.frames + 1 ≤ R.frames ∧ 8 + (2 + 11) + rm_X3_laysOther.locals ≤ R.locals) : CallW R s args own RX3 idx yX3_laysOther cX3_laysOther 2 (Option.none : Option Jvm.ClassFile.FieldType) (ws_ yX3_laysOther cX3_laysOther 2 (Option.none : Option Jvm.ClassFile.FieldType)) rm_X3_laysOther 0 0 0 := cwV 0 hts (lw_V hl q1923 qs86 q125 q1924) rfl rfl rfl (by decide +kernel) hR
set_option maxHeartbeats 4000000 in
set_option maxRecDepth 100000 in
theorem w_X3_laysOther (l : Launch) {D : va_G} {ad : Nat → Nat} {dI dJ : ClassId} {A : Nat → Prop} {f : Nat} {u u9 : TS}  (hm : m_X3_laysOther f u = some u9) : Met l yX3_laysOther (ws_ yX3_laysOther cX3_laysOther 2 (Option.none : Option Jvm.ClassFile.FieldType)) rm_X3_laysOther (va_Pc [.ref (ad 40)] (TPre D ad dI dJ A u)) (va_Qv (fun u => u = u9) (TPost D ad dI dJ A) A) 0 0 A := by
  refine Met.ofW (cc := cX3_laysOther) (maxL := 2) (ret := (Option.none : Option Jvm.ClassFile.FieldType)) (by decide) rfl ?_
  intro p e s m args below meth c s₁ B hml hv
  have hx := B.exec
  have hb := B.bytes
  have hr := B.returns
  have hts := atoms_spec (ws := (ws_ yX3_laysOther cX3_laysOther 2 (Option.none : Option Jvm.ClassFile.FieldType))) B.pre
  have hts : ∀ w ∈ lw_all, w.before args s = true := fun w h => hts w (List.mem_cons_of_mem _ h)
  have hown : s.vm.findClass RX3 = some m.cls := findClass_of_methodNamed B.named
  have hlocks := B.notSynchronized
  obtain ⟨hav, hv⟩ := hv
  have C : TC p s m args c cX3_laysOther D dI dJ := ⟨hx, hb, hown, hts, hv.2.1⟩
  have hw : TH D ad dI dJ A s.heap u s.heap [] := ⟨hv.1, hv.2.2.1, va_S.rf, hv.2.2.2⟩
  generalize hQ : MQ below (va_Qv (fun u => u = u9) (TPost D ad dI dJ A) A) args s 0 0 A = QQ
  have hent := lg_entry_eq m [.ref (ad 40)] 2
  rw [← hav] at hent
  rw [hent]
  have hl := lv_entry ([.ref (ad 40)]) (n := 2) (Nat.le_of_ble_eq_true rfl)
  generalize (lg_sl ([.ref (ad 40)]) ++ List.replicate (2 - (lg_sl ([.ref (ad 40)])).length) Slot.unset).toArray = ls at hl ⊢
  have hl : lv_has ls 2 [(0, .ref (ad 40))] := hl
  change W p l e rm_X3_laysOther s m args below meth c s.heap [] 0 0 QQ (F0 m 0 ls [])
  have hB87 : ∀ (u : TS) (H : Heap) (locs : List Loc) (ls : Array Slot), m_X3_laysOther_87 f u = some u9 → TH D ad dI dJ A s.heap u H locs → lv_has ls 2 [] → W p l e rm_X3_laysOther s m args below meth c H locs 0 0 QQ (F0 m 87 ls []) := by
    intro u H locs ls hm hw hl
    rw [m_X3_laysOther_87] at hm
    rw [← hQ]
    exact W.vret hx hb hr (fun t ht hW => ⟨⟨u, rfl, ret1 hm, by rw [ht]; exact hw.1, hw.2.1⟩, hw.2.2.1.F ht⟩) hw.2.2.1.2.2 dX3_laysOther_87
  have hB35 : ∀ (n35 : Nat), ∀ (u : TS) (x1 : Int32) (H : Heap) (locs : List Loc) (ls : Array Slot), m_X3_laysOther_35 f n35 u x1 = some u9 → TH D ad dI dJ A s.heap u H locs → lv_has ls 2 [(0, .ref (ad 40)), (1, .int x1)] → W p l e rm_X3_laysOther s m args below meth c H locs 0 0 QQ (F0 m 35 ls []) := by
    intro n35
    induction n35 with
    | zero => intro u x1 H locs ls hm hw hl; rw [m_X3_laysOther_35] at hm; exact noE hm
    | succ n35 ih35 =>
      intro u x1 H locs ls hm hw hl
      rw [m_X3_laysOther_35] at hm
      refine lv_iload_n hx hb dX3_laysOther_35 rfl (lv_at hl 1 rfl) ?_
      refine lv_bipush (v := 9) hx hb dX3_laysOther_36 (by decide) ?_
      refine lv_icmp_ge (tgt := 87) hx hb dX3_laysOther_38 (by decide) (fun c1 => ?_) (fun c1 => ?_)
      · have hm := ifT hm c1
        exact hB87 u _ _ _ hm hw (lv_sub hl [] rfl)
      · have hm := ifF hm c1
        refine lv_aload_n hx hb dX3_laysOther_41 rfl (lv_at hl 0 rfl) ?_
        refine tg_get C hw 29 (by decide) q1595 rfl dX3_laysOther_42 ?_
        refine lv_iload_n hx hb dX3_laysOther_45 rfl (lv_at hl 1 rfl) ?_
        refine lv_aload_n hx hb dX3_laysOther_46 rfl (lv_at hl 0 rfl) ?_
        refine tg_get C hw 18 (by decide) q1584 rfl dX3_laysOther_47 ?_
        refine lv_iload_n hx hb dX3_laysOther_50 rfl (lv_at hl 1 rfl) ?_
        obtain ⟨g2, hm⟩ := gdE hm
        refine tg_lald C hw (tp_18 ad dI dJ u) g2 dX3_laysOther_51 ?_
        refine lv_aload_n hx hb dX3_laysOther_52 rfl (lv_at hl 0 rfl) ?_
        refine tg_get C hw 31 (by decide) q1597 rfl dX3_laysOther_53 ?_
        refine lv_aload_n hx hb dX3_laysOther_56 rfl (lv_at hl 0 rfl) ?_
        refine tg_get C hw 30 (by decide) q1596 rfl dX3_laysOther_57 ?_
        obtain ⟨g3, hm⟩ := gdE hm
        refine lv_ldiv hx hb dX3_laysOther_60 (nzL_ne g3) ?_
        refine lv_lmul hx hb dX3_laysOther_61 ?_
        obtain ⟨g4, hm⟩ := gdE hm
        refine tg_last C hw (tp_29 ad dI dJ u) g4 (ts_29 ad dI dJ u _ _) dX3_laysOther_62 (fun H locs hw => ?_)
        obtain ⟨u5, eu5, hm⟩ := nmE hm
        rw [← eu5] at hw
        refine lv_aload_n hx hb dX3_laysOther_63 rfl (lv_at hl 0 rfl) ?_
        refine tg_get C hw 27 (by decide) q1593 rfl dX3_laysOther_64 ?_
        refine lv_iload_n hx hb dX3_laysOther_67 rfl (lv_at hl 1 rfl) ?_
        refine lv_dup2_11 hx hb dX3_laysOther_68 rfl rfl ?_
        obtain ⟨g6, hm⟩ := gdE hm
        refine tg_lald C hw (tp_27 ad dI dJ u5) g6 dX3_laysOther_69 ?_
        refine lv_aload_n hx hb dX3_laysOther_70 rfl (lv_at hl 0 rfl) ?_
        refine tg_get C hw 31 (by decide) q1597 rfl dX3_laysOther_71 ?_
        refine lv_aload_n hx hb dX3_laysOther_74 rfl (lv_at hl 0 rfl) ?_
        refine tg_get C hw 28 (by decide) q1594 rfl dX3_laysOther_75 ?_
        obtain ⟨g7, hm⟩ := gdE hm
        refine lv_ldiv hx hb dX3_laysOther_78 (nzL_ne g7) ?_
        refine lv_lmul hx hb dX3_laysOther_79 ?_
        obtain ⟨g8, hm⟩ := gdE hm
        refine tg_last C hw (tp_27 ad dI dJ u5) g8 (ts_27 ad dI dJ u5 _ _) dX3_laysOther_80 (fun H locs hw => ?_)
        obtain ⟨u9, eu9, hm⟩ := nmE hm
        rw [← eu9] at hw
        obtain ⟨v10, ev10, hm⟩ := nmE hm
        refine lv_iinc (v := v10) (lv' := [(1, .int v10), (0, .ref (ad 40))]) hx hb dX3_laysOther_81 hl (k := 1) rfl (by rw [ev10]; rfl) (by decide) rfl (fun ls hl => ?_)
        refine lv_goto (tgt := 35) hx hb dX3_laysOther_84 (by decide) ?_
        exact ih35 u9 v10 _ _ _ hm hw (lv_sub hl [1, 0] rfl)
  rw [m_X3_laysOther] at hm
  refine lv_aload_n hx hb dX3_laysOther_0 rfl (lv_at hl 0 rfl) ?_
  refine lv_aload_n hx hb dX3_laysOther_1 rfl (lv_at hl 0 rfl) ?_
  refine tg_get C hw 19 (by decide) q1585 rfl dX3_laysOther_2 ?_
  refine tg_put C hw 30 (by decide) q1596 rfl rfl rfl (ts_30 ad dI dJ u (tL u 19)) dX3_laysOther_5 (fun H locs hw => ?_)
  obtain ⟨u1, eu1, hm⟩ := nmE hm
  rw [← eu1] at hw
  refine lv_aload_n hx hb dX3_laysOther_8 rfl (lv_at hl 0 rfl) ?_
  refine lv_aload_n hx hb dX3_laysOther_9 rfl (lv_at hl 0 rfl) ?_
  refine tg_get C hw 28 (by decide) q1594 rfl dX3_laysOther_10 ?_
  refine lv_aload_n hx hb dX3_laysOther_13 rfl (lv_at hl 0 rfl) ?_
  refine tg_get C hw 28 (by decide) q1594 rfl dX3_laysOther_14 ?_
  refine lv_aload_n hx hb dX3_laysOther_17 rfl (lv_at hl 0 rfl) ?_
  refine tg_get C hw 30 (by decide) q1596 rfl dX3_laysOther_18 ?_
  obtain ⟨r2, er2, hm⟩ := bdE hm
  refine scl (va_runS (As := [.long (tL u1 28), .long (tL u1 30)]) (rest := [.long (tL u1 28), .ref (ad 40)]) ⟨hx, hb, hml, hown, hts⟩ (w_X3_common l er2) (cw_X3_common hts q1820 ⟨Nat.le_of_ble_eq_true rfl, Nat.le_of_ble_eq_true rfl⟩) (pre_s _) rfl rfl hl.1 rfl (lv_room (Nat.le_of_ble_eq_true rfl)) dX3_laysOther_21 ⟨Nat.le_of_ble_eq_true rfl, Nat.le_of_ble_eq_true rfl⟩) ?_
  obtain ⟨g3, hm⟩ := gdE hm
  refine lv_ldiv hx hb dX3_laysOther_24 (nzL_ne g3) ?_
  refine lv_aload_n hx hb dX3_laysOther_25 rfl (lv_at hl 0 rfl) ?_
  refine tg_get C hw 30 (by decide) q1596 rfl dX3_laysOther_26 ?_
  refine lv_lmul hx hb dX3_laysOther_29 ?_
  refine tg_put C hw 31 (by decide) q1597 rfl rfl rfl (ts_31 ad dI dJ u1 (((tL u1 28) / r2) * (tL u1 30))) dX3_laysOther_30 (fun H locs hw => ?_)
  obtain ⟨u4, eu4, hm⟩ := nmE hm
  rw [← eu4] at hw
  refine lv_iconst (v := 0) hx hb dX3_laysOther_33 (by decide) ?_
  refine lv_istore_n (lv' := [(1, .int (0 : Int32)), (0, .ref (ad 40))]) hx hb dX3_laysOther_34 rfl hl (by decide) rfl (fun ls hl => ?_)
  exact hB35 f u4 (0 : Int32) _ _ _ hm hw (lv_sub hl [1, 0] rfl)
