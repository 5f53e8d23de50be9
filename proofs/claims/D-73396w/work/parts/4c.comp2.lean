/-! walks of the component (printed by gen/walkc.py) -/
set_option maxRecDepth 100000
def m_J11_equals_32 (f : Nat) (h : CH) : Option (Int32 × CH) := some ((1 : Int32), h)
theorem mo_J11_equals_32 {f : Nat} : ∀ (h : CH) (r : (Int32 × CH)), m_J11_equals_32 f h = some r → le2 h r.2 := by
  intro h r hm
  rw [m_J11_equals_32] at hm
  cases hm
  exact le2.rf
def m_J11_equals_24 (f : Nat) (h : CH) : Option (Int32 × CH) := some ((0 : Int32), h)
theorem mo_J11_equals_24 {f : Nat} : ∀ (h : CH) (r : (Int32 × CH)), m_J11_equals_24 f h = some r → le2 h r.2 := by
  intro h r hm
  rw [m_J11_equals_24] at hm
  cases hm
  exact le2.rf
def m_J11_equals_9 (f : Nat) : Nat → CH → Nat → Nat → Int32 → Option (Int32 × CH)
  | 0, _, _, _, _ => none
  | n9 + 1, h, x0, x1, x2 => bd (aN h 2 x0) fun n1 =>
    if (Int32.ofNat n1) ≤ x2 then
    m_J11_equals_32 f h
    else bd (aI h 2 x0 x2) fun v3 =>
    bd (aI h 2 x1 x2) fun v4 =>
    if v3 = v4 then
    nmv ((x2 + 1) : Int32) fun v6 =>
    m_J11_equals_9 f n9 h x0 x1 v6
    else m_J11_equals_24 f h
theorem mo_J11_equals_9 {f : Nat} : ∀ (n9 : Nat) (h : CH) (x0 : Nat) (x1 : Nat) (x2 : Int32) (r : (Int32 × CH)), m_J11_equals_9 f n9 h x0 x1 x2 = some r → le2 h r.2 := by
  intro n9
  induction n9 with
  | zero => intro h x0 x1 x2 r hm; rw [m_J11_equals_9] at hm; exact noE hm
  | succ n9 ihm =>
    intro h x0 x1 x2 r hm
    rw [m_J11_equals_9] at hm
    obtain ⟨n1, en1, hm⟩ := bdE hm
    by_cases c2 : (Int32.ofNat n1) ≤ x2
    · have hm := ifT hm c2
      exact (mo_J11_equals_32  h _ hm)
    · have hm := ifF hm c2
      obtain ⟨v3, ev3, hm⟩ := bdE hm
      obtain ⟨v4, ev4, hm⟩ := bdE hm
      by_cases c5 : v3 = v4
      · have hm := ifT hm c5
        obtain ⟨v6, ev6, hm⟩ := nmE hm
        exact (ihm h x0 x1 v6 _ hm)
      · have hm := ifF hm c5
        exact (mo_J11_equals_24  h _ hm)
def m_J11_equals (f : Nat) (u : CH) (x0 : Nat) (x1 : Nat) : Option (Int32 × CH) := bd (aN u 2 x0) fun n1 =>
    bd (aN u 2 x1) fun n2 =>
    if ¬ (Int32.ofNat n1) = (Int32.ofNat n2) then
    some ((0 : Int32), u)
    else m_J11_equals_9 f f u x0 x1 (0 : Int32)
theorem mo_J11_equals {f : Nat} {u : CH} {x0 : Nat} {x1 : Nat} {r0 : Int32} {u9 : CH} (hm : m_J11_equals f u x0 x1 = some (r0, u9)) : le2 u u9 := by
  rw [m_J11_equals] at hm
  obtain ⟨n1, en1, hm⟩ := bdE hm
  obtain ⟨n2, en2, hm⟩ := bdE hm
  by_cases c3 : ¬ (Int32.ofNat n1) = (Int32.ofNat n2)
  · have hm := ifT hm c3
    cases hm
    exact le2.rf
  · have hm := ifF hm c3
    exact (mo_J11_equals_9  f u x0 x1 (0 : Int32) _ hm)
abbrev rm_J11_equals (mc ms : Nat) : Room := { frames := 0, cells := mc, slots := ms, locals := 0 }
theorem cw_J11_equals {R : Room} {s : State} {args : Array Value} {own : String} {idx mc ms : Nat} (hts : ∀ w ∈ lw_all, w.before args s = true) (hl : Cond.methodLink own idx yJ11_equals ∈ lw_all) (hR : 0 + 1 ≤ R.frames ∧ 8 + (3 + 11) + 0 ≤ R.locals) : CallB R s args own idx yJ11_equals cJ11_equals 3 (Option.some Jvm.ClassFile.FieldType.boolean) (ws_ yJ11_equals cJ11_equals 3 (Option.some Jvm.ClassFile.FieldType.boolean)) (rm_J11_equals mc ms) mc ms 2 ∧ (Cond.static yJ11_equals).before args s = true := va_cwS 2 hts (lw_S hl q579 q137 q580) rfl rfl rfl (by decide +kernel) hR
set_option maxHeartbeats 4000000 in
set_option maxRecDepth 100000 in
theorem w_J11_equals (l : Launch) {D : va_G} {dA : Nat → ClassId} {A : Nat → Prop} {f : Nat} {u u9 : CH} {r0 : Int32} {x0 : Nat} {x1 : Nat} (hm : m_J11_equals f u x0 x1 = some (r0, u9)) : Met l yJ11_equals (ws_ yJ11_equals cJ11_equals 3 (Option.some Jvm.ClassFile.FieldType.boolean)) (rm_J11_equals (u9.1 - u.1) (u9.2.1 - u.2.1)) (va_Pc [.ref x0, .ref x1] (CPre D dA A u)) (va_Qi (fun r u => r = r0 ∧ u = u9) (CPost D dA A) A) (u9.1 - u.1) (u9.2.1 - u.2.1) A := by
  refine metOfWF (cc := cJ11_equals) (maxL := 3) (ret := (Option.some Jvm.ClassFile.FieldType.boolean)) (by decide +kernel) rfl ?_
  intro p e s m args below meth c s₁ B hml hv
  have hx := B.exec
  have hb := B.bytes
  have hr := B.returns
  have hts := atoms_spec (ws := (ws_ yJ11_equals cJ11_equals 3 (Option.some Jvm.ClassFile.FieldType.boolean))) B.pre
  have hts : ∀ w ∈ lw_all, w.before args s = true := fun w h => hts w (List.mem_cons_of_mem _ h)
  have hown : s.vm.findClass RJ11 = some m.cls := findClass_of_methodNamed B.named
  have hlocks := B.notSynchronized
  obtain ⟨hav, hv⟩ := hv
  have C : CX p s m args c cJ11_equals RJ11 D dA := ⟨hx, hb, hown, hts, hv.2⟩
  have hw : CW D dA A s u s.heap [] := hv.1
  generalize hQ : MQ below (va_Qi (fun r u => r = r0 ∧ u = u9) (CPost D dA A) A) args s (u9.1 - u.1) (u9.2.1 - u.2.1) A = QQ
  have hent := lg_entry_eq m [.ref x0, .ref x1] 3
  rw [← hav] at hent
  rw [hent]
  have hl := lv_entry ([.ref x0, .ref x1]) (n := 3) (Nat.le_of_ble_eq_true rfl)
  generalize (lg_sl ([.ref x0, .ref x1]) ++ List.replicate (3 - (lg_sl ([.ref x0, .ref x1])).length) Slot.unset).toArray = ls at hl ⊢
  have hl : lv_has ls 3 [(0, .ref x0), (1, .ref x1)] := hl
  obtain ⟨cc, ecc⟩ : ∃ z : Nat, z = 0 := ⟨0, rfl⟩
  obtain ⟨ss, ess⟩ : ∃ z : Nat, z = 0 := ⟨0, rfl⟩
  have hcc : cc + u.1 = u.1 := by omega
  have hss : ss + u.2.1 = u.2.1 := by omega
  suffices hgo : W p l e (rm_J11_equals (u9.1 - u.1) (u9.2.1 - u.2.1)) s m args below meth c s.heap [] cc ss QQ (F0 m 0 ls []) by rw [ecc, ess] at hgo; exact hgo
  have ⟨pu, qu, _, _⟩ := mo_J11_equals hm
  have hB32 : ∀ (h : CH) (cc ss : Nat) (H : Heap) (locs : List Loc) (ls : Array Slot), m_J11_equals_32 f h = some (r0, u9) → CW D dA A s h H locs → cc + u.1 = h.1 → ss + u.2.1 = h.2.1 → lv_has ls 3 [] → W p l e (rm_J11_equals (u9.1 - u.1) (u9.2.1 - u.2.1)) s m args below meth c H locs cc ss QQ (F0 m 32 ls []) := by
    intro h cc ss H locs ls hm hw hcc hss hl
    have hmo := mo_J11_equals_32  h _ hm
    have sb_ : h.1 ≤ u9.1 := hmo.1
    have tb_ : h.2.1 ≤ u9.2.1 := hmo.2.1
    rw [m_J11_equals_32] at hm
    refine lv_iconst (v := 1) hx hb dJ11_equals_32 (by decide) ?_
    obtain ⟨er, eh⟩ := retE hm
    have ec : cc = u9.1 - u.1 := by rw [← eh]; omega
    have es : ss = u9.2.1 - u.2.1 := by rw [← eh]; omega
    rw [ec, es, ← hQ]
    exact W.zret (v := (1 : Int32)) hx hb hr rfl (fun t ht hW => ⟨⟨(1 : Int32), h, rfl, ⟨er, eh⟩, ⟨by rw [ht]; exact hw.1, by rw [ht]; exact hw.2.1⟩⟩, hw.2.2.1.F ht⟩) hw.2.2.1.2.2 dJ11_equals_33
  have hB24 : ∀ (h : CH) (cc ss : Nat) (H : Heap) (locs : List Loc) (ls : Array Slot), m_J11_equals_24 f h = some (r0, u9) → CW D dA A s h H locs → cc + u.1 = h.1 → ss + u.2.1 = h.2.1 → lv_has ls 3 [] → W p l e (rm_J11_equals (u9.1 - u.1) (u9.2.1 - u.2.1)) s m args below meth c H locs cc ss QQ (F0 m 24 ls []) := by
    intro h cc ss H locs ls hm hw hcc hss hl
    have hmo := mo_J11_equals_24  h _ hm
    have sb_ : h.1 ≤ u9.1 := hmo.1
    have tb_ : h.2.1 ≤ u9.2.1 := hmo.2.1
    rw [m_J11_equals_24] at hm
    refine lv_iconst (v := 0) hx hb dJ11_equals_24 (by decide) ?_
    obtain ⟨er, eh⟩ := retE hm
    have ec : cc = u9.1 - u.1 := by rw [← eh]; omega
    have es : ss = u9.2.1 - u.2.1 := by rw [← eh]; omega
    rw [ec, es, ← hQ]
    exact W.zret (v := (0 : Int32)) hx hb hr rfl (fun t ht hW => ⟨⟨(0 : Int32), h, rfl, ⟨er, eh⟩, ⟨by rw [ht]; exact hw.1, by rw [ht]; exact hw.2.1⟩⟩, hw.2.2.1.F ht⟩) hw.2.2.1.2.2 dJ11_equals_25
  have hB9 : ∀ (n9 : Nat), ∀ (h : CH) (x0 : Nat) (x1 : Nat) (x2 : Int32) (cc ss : Nat) (H : Heap) (locs : List Loc) (ls : Array Slot), m_J11_equals_9 f n9 h x0 x1 x2 = some (r0, u9) → CW D dA A s h H locs → cc + u.1 = h.1 → ss + u.2.1 = h.2.1 → lv_has ls 3 [(0, .ref x0), (1, .ref x1), (2, .int x2)] → W p l e (rm_J11_equals (u9.1 - u.1) (u9.2.1 - u.2.1)) s m args below meth c H locs cc ss QQ (F0 m 9 ls []) := by
    intro n9
    induction n9 with
    | zero => intro h x0 x1 x2 cc ss H locs ls hm hw hcc hss hl; rw [m_J11_equals_9] at hm; exact noE hm
    | succ n9 ih9 =>
      intro h x0 x1 x2 cc ss H locs ls hm hw hcc hss hl
      have hmo := mo_J11_equals_9  (n9 + 1) h x0 x1 x2 _ hm
      have sb_ : h.1 ≤ u9.1 := hmo.1
      have tb_ : h.2.1 ≤ u9.2.1 := hmo.2.1
      rw [m_J11_equals_9] at hm
      refine lv_iload_n hx hb dJ11_equals_9 rfl (lv_at hl 2 rfl) ?_
      refine lv_aload_n hx hb dJ11_equals_10 rfl (lv_at hl 0 rfl) ?_
      obtain ⟨n1, en1, hm⟩ := bdE hm
      refine cg_alen C hw (ty := .byte) rfl en1 dJ11_equals_11 ?_
      refine lv_icmp_ge (tgt := 32) hx hb dJ11_equals_12 (by decide) (fun c2 => ?_) (fun c2 => ?_)
      · have hm := ifT hm c2
        exact hB32 h _ _ _ _ _ hm hw (by omega) (by omega) (lv_sub hl [] rfl)
      · have hm := ifF hm c2
        refine lv_aload_n hx hb dJ11_equals_15 rfl (lv_at hl 0 rfl) ?_
        refine lv_iload_n hx hb dJ11_equals_16 rfl (lv_at hl 2 rfl) ?_
        obtain ⟨v3, ev3, hm⟩ := bdE hm
        refine cg_bald C hw ev3 dJ11_equals_17 ?_
        refine lv_aload_n hx hb dJ11_equals_18 rfl (lv_at hl 1 rfl) ?_
        refine lv_iload_n hx hb dJ11_equals_19 rfl (lv_at hl 2 rfl) ?_
        obtain ⟨v4, ev4, hm⟩ := bdE hm
        refine cg_bald C hw ev4 dJ11_equals_20 ?_
        refine lv_icmp_eq (tgt := 26) hx hb dJ11_equals_21 (by decide) (fun c5 => ?_) (fun c5 => ?_)
        · have hm := ifT hm c5
          obtain ⟨v6, ev6, hm⟩ := nmE hm
          refine lv_iinc (v := v6) (lv' := [(2, .int v6), (0, .ref x0), (1, .ref x1)]) hx hb dJ11_equals_26 hl (k := 2) rfl (by rw [ev6]; rfl) (by decide) rfl (fun ls hl => ?_)
          refine lv_goto (tgt := 9) hx hb dJ11_equals_29 (by decide) ?_
          exact ih9 h x0 x1 v6 _ _ _ _ _ hm hw (by omega) (by omega) (lv_sub hl [1, 2, 0] rfl)
        · have hm := ifF hm c5
          exact hB24 h _ _ _ _ _ hm hw (by omega) (by omega) (lv_sub hl [] rfl)
  rw [m_J11_equals] at hm
  refine lv_aload_n hx hb dJ11_equals_0 rfl (lv_at hl 0 rfl) ?_
  obtain ⟨n1, en1, hm⟩ := bdE hm
  refine cg_alen C hw (ty := .byte) rfl en1 dJ11_equals_1 ?_
  refine lv_aload_n hx hb dJ11_equals_2 rfl (lv_at hl 1 rfl) ?_
  obtain ⟨n2, en2, hm⟩ := bdE hm
  refine cg_alen C hw (ty := .byte) rfl en2 dJ11_equals_3 ?_
  refine lv_icmp_ne (tgt := 34) hx hb dJ11_equals_4 (by decide) (fun c3 => ?_) (fun c3 => ?_)
  · have hm := ifT hm c3
    refine lv_iconst (v := 0) hx hb dJ11_equals_34 (by decide) ?_
    obtain ⟨er, eh⟩ := retE hm
    have ec : cc = u9.1 - u.1 := by rw [← eh]; omega
    have es : ss = u9.2.1 - u.2.1 := by rw [← eh]; omega
    rw [ec, es, ← hQ]
    exact W.zret (v := (0 : Int32)) hx hb hr rfl (fun t ht hW => ⟨⟨(0 : Int32), u, rfl, ⟨er, eh⟩, ⟨by rw [ht]; exact hw.1, by rw [ht]; exact hw.2.1⟩⟩, hw.2.2.1.F ht⟩) hw.2.2.1.2.2 dJ11_equals_35
  · have hm := ifT' hm c3
    refine lv_iconst (v := 0) hx hb dJ11_equals_7 (by decide) ?_
    refine lv_istore_n (lv' := [(2, .int (0 : Int32)), (0, .ref x0), (1, .ref x1)]) hx hb dJ11_equals_8 rfl hl (by decide) rfl (fun ls hl => ?_)
    exact hB9 f u x0 x1 (0 : Int32) _ _ _ _ _ hm hw (by omega) (by omega) (lv_sub hl [1, 2, 0] rfl)
def m_J6_equals_55 (f : Nat) (h : CH) (y0 : Int32) : Option (Int32 × CH) := gd (zb y0) <|
    some (y0, h)
theorem mo_J6_equals_55 {f : Nat} : ∀ (h : CH) (y0 : Int32) (r : (Int32 × CH)), m_J6_equals_55 f h y0 = some r → le2 h r.2 := by
  intro h y0 r hm
  rw [m_J6_equals_55] at hm
  obtain ⟨g1, hm⟩ := gdE hm
  cases hm
  exact le2.rf
def m_J6_equals_54 (f : Nat) (h : CH) : Option (Int32 × CH) := m_J6_equals_55 f h (0 : Int32)
theorem mo_J6_equals_54 {f : Nat} : ∀ (h : CH) (r : (Int32 × CH)), m_J6_equals_54 f h = some r → le2 h r.2 := by
  intro h r hm
  rw [m_J6_equals_54] at hm
  exact (mo_J6_equals_55  h (0 : Int32) _ hm)
def m_J6_equals_47 (f : Nat) (h : CH) (y0 : Int32) : Option (Int32 × CH) := if y0 = 0 then
    m_J6_equals_54 f h
    else m_J6_equals_55 f h (1 : Int32)
theorem mo_J6_equals_47 {f : Nat} : ∀ (h : CH) (y0 : Int32) (r : (Int32 × CH)), m_J6_equals_47 f h y0 = some r → le2 h r.2 := by
  intro h y0 r hm
  rw [m_J6_equals_47] at hm
  by_cases c1 : y0 = 0
  · have hm := ifT hm c1
    exact (mo_J6_equals_54  h _ hm)
  · have hm := ifF hm c1
    exact (mo_J6_equals_55  h (1 : Int32) _ hm)
def m_J6_equals_36 (f : Nat) (h : CH) (x0 : Nat) (x2 : Nat) : Option (Int32 × CH) := bd (oR h 19 0 x0) fun a1 =>
    bd (oR h 19 0 x2) fun a2 =>
    bd2 (m_J11_equals f h a1 a2) fun r4 h3 =>
    m_J6_equals_47 f h3 r4
theorem mo_J6_equals_36 {f : Nat} : ∀ (h : CH) (x0 : Nat) (x2 : Nat) (r : (Int32 × CH)), m_J6_equals_36 f h x0 x2 = some r → le2 h r.2 := by
  intro h x0 x2 r hm
  rw [m_J6_equals_36] at hm
  obtain ⟨a1, ea1, hm⟩ := bdE hm
  obtain ⟨a2, ea2, hm⟩ := bdE hm
  obtain ⟨r4, h3, er4, hm⟩ := bd2E hm
  have lh3 := mo_J11_equals er4
  exact (lh3.tr (mo_J6_equals_47  h3 r4 _ hm))
def m_J6_equals (f : Nat) (u : CH) (x0 : Nat) (x1 : Nat) : Option (Int32 × CH) := if ¬ x0 = x1 then
    gd (isC u x1 19) <|
    if (1 : Int32) = 0 then
    m_J6_equals_54 f u
    else gd (isC u x1 19) <|
    if (1 : Int32) = 0 then
    m_J6_equals_36 f u x0 x1
    else bd (oI u 19 1 x0) fun v6 =>
    bd (oI u 19 1 x1) fun v7 =>
    if ¬ v6 = v7 then
    m_J6_equals_54 f u
    else m_J6_equals_36 f u x0 x1
    else some ((1 : Int32), u)
theorem mo_J6_equals {f : Nat} {u : CH} {x0 : Nat} {x1 : Nat} {r0 : Int32} {u9 : CH} (hm : m_J6_equals f u x0 x1 = some (r0, u9)) : le2 u u9 := by
  rw [m_J6_equals] at hm
  by_cases c1 : ¬ x0 = x1
  · have hm := ifT hm c1
    obtain ⟨g2, hm⟩ := gdE hm
    by_cases c3 : (1 : Int32) = 0
    · have hm := ifT hm c3
      exact (mo_J6_equals_54  u _ hm)
    · have hm := ifF hm c3
      obtain ⟨g4, hm⟩ := gdE hm
      by_cases c5 : (1 : Int32) = 0
      · have hm := ifT hm c5
        exact (mo_J6_equals_36  u x0 x1 _ hm)
      · have hm := ifF hm c5
        obtain ⟨v6, ev6, hm⟩ := bdE hm
        obtain ⟨v7, ev7, hm⟩ := bdE hm
        by_cases c8 : ¬ v6 = v7
        · have hm := ifT hm c8
          exact (mo_J6_equals_54  u _ hm)
        · have hm := ifF hm c8
          exact (mo_J6_equals_36  u x0 x1 _ hm)
  · have hm := ifF hm c1
    cases hm
    exact le2.rf
abbrev rm_J6_equals (mc ms : Nat) : Room := { frames := 1, cells := mc, slots := ms, locals := 22 }
theorem cw_J6_equals {R : Room} {s : State} {args : Array Value} {own : String} {idx mc ms : Nat} (hts : ∀ w ∈ lw_all, w.before args s = true) (hl : Cond.methodLink own idx yJ6_equals ∈ lw_all) (hR : 1 + 1 ≤ R.frames ∧ 8 + (3 + 11) + 22 ≤ R.locals) : CallW R s args own RJ6 idx yJ6_equals cJ6_equals 3 (Option.some Jvm.ClassFile.FieldType.boolean) (ws_ yJ6_equals cJ6_equals 3 (Option.some Jvm.ClassFile.FieldType.boolean)) (rm_J6_equals mc ms) mc ms 1 := cwV 1 hts (lw_V hl q574 q575 q131 q576) rfl rfl rfl (by decide +kernel) hR
set_option maxHeartbeats 4000000 in
set_option maxRecDepth 100000 in
theorem w_J6_equals (l : Launch) {D : va_G} {dA : Nat → ClassId} {A : Nat → Prop} {f : Nat} {u u9 : CH} {r0 : Int32} {x0 : Nat} {x1 : Nat} (hm : m_J6_equals f u x0 x1 = some (r0, u9)) : Met l yJ6_equals (ws_ yJ6_equals cJ6_equals 3 (Option.some Jvm.ClassFile.FieldType.boolean)) (rm_J6_equals (u9.1 - u.1) (u9.2.1 - u.2.1)) (va_Pc [.ref x0, .ref x1] (CPre D dA A u)) (va_Qi (fun r u => r = r0 ∧ u = u9) (CPost D dA A) A) (u9.1 - u.1) (u9.2.1 - u.2.1) A := by
  refine metOfWF (cc := cJ6_equals) (maxL := 3) (ret := (Option.some Jvm.ClassFile.FieldType.boolean)) (by decide +kernel) rfl ?_
  intro p e s m args below meth c s₁ B hml hv
  have hx := B.exec
  have hb := B.bytes
  have hr := B.returns
  have hts := atoms_spec (ws := (ws_ yJ6_equals cJ6_equals 3 (Option.some Jvm.ClassFile.FieldType.boolean))) B.pre
  have hts : ∀ w ∈ lw_all, w.before args s = true := fun w h => hts w (List.mem_cons_of_mem _ h)
  have hown : s.vm.findClass RJ6 = some m.cls := findClass_of_methodNamed B.named
  have hlocks := B.notSynchronized
  obtain ⟨hav, hv⟩ := hv
  have C : CX p s m args c cJ6_equals RJ6 D dA := ⟨hx, hb, hown, hts, hv.2⟩
  have hw : CW D dA A s u s.heap [] := hv.1
  generalize hQ : MQ below (va_Qi (fun r u => r = r0 ∧ u = u9) (CPost D dA A) A) args s (u9.1 - u.1) (u9.2.1 - u.2.1) A = QQ
  have hent := lg_entry_eq m [.ref x0, .ref x1] 3
  rw [← hav] at hent
  rw [hent]
  have hl := lv_entry ([.ref x0, .ref x1]) (n := 3) (Nat.le_of_ble_eq_true rfl)
  generalize (lg_sl ([.ref x0, .ref x1]) ++ List.replicate (3 - (lg_sl ([.ref x0, .ref x1])).length) Slot.unset).toArray = ls at hl ⊢
  have hl : lv_has ls 3 [(0, .ref x0), (1, .ref x1)] := hl
  obtain ⟨cc, ecc⟩ : ∃ z : Nat, z = 0 := ⟨0, rfl⟩
  obtain ⟨ss, ess⟩ : ∃ z : Nat, z = 0 := ⟨0, rfl⟩
  have hcc : cc + u.1 = u.1 := by omega
  have hss : ss + u.2.1 = u.2.1 := by omega
  suffices hgo : W p l e (rm_J6_equals (u9.1 - u.1) (u9.2.1 - u.2.1)) s m args below meth c s.heap [] cc ss QQ (F0 m 0 ls []) by rw [ecc, ess] at hgo; exact hgo
  have ⟨pu, qu, _, _⟩ := mo_J6_equals hm
  have hB55 : ∀ (h : CH) (y0 : Int32) (cc ss : Nat) (H : Heap) (locs : List Loc) (ls : Array Slot), m_J6_equals_55 f h y0 = some (r0, u9) → CW D dA A s h H locs → cc + u.1 = h.1 → ss + u.2.1 = h.2.1 → lv_has ls 3 [] → W p l e (rm_J6_equals (u9.1 - u.1) (u9.2.1 - u.2.1)) s m args below meth c H locs cc ss QQ (F0 m 55 ls [.int y0]) := by
    intro h y0 cc ss H locs ls hm hw hcc hss hl
    have hmo := mo_J6_equals_55  h y0 _ hm
    have sb_ : h.1 ≤ u9.1 := hmo.1
    have tb_ : h.2.1 ≤ u9.2.1 := hmo.2.1
    rw [m_J6_equals_55] at hm
    obtain ⟨g1, hm⟩ := gdE hm
    obtain ⟨er, eh⟩ := retE hm
    have ec : cc = u9.1 - u.1 := by rw [← eh]; omega
    have es : ss = u9.2.1 - u.2.1 := by rw [← eh]; omega
    rw [ec, es, ← hQ]
    exact W.zret (v := y0) hx hb hr (zb_nar g1) (fun t ht hW => ⟨⟨y0, h, rfl, ⟨er, eh⟩, ⟨by rw [ht]; exact hw.1, by rw [ht]; exact hw.2.1⟩⟩, hw.2.2.1.F ht⟩) hw.2.2.1.2.2 dJ6_equals_55
  have hB54 : ∀ (h : CH) (cc ss : Nat) (H : Heap) (locs : List Loc) (ls : Array Slot), m_J6_equals_54 f h = some (r0, u9) → CW D dA A s h H locs → cc + u.1 = h.1 → ss + u.2.1 = h.2.1 → lv_has ls 3 [] → W p l e (rm_J6_equals (u9.1 - u.1) (u9.2.1 - u.2.1)) s m args below meth c H locs cc ss QQ (F0 m 54 ls []) := by
    intro h cc ss H locs ls hm hw hcc hss hl
    have hmo := mo_J6_equals_54  h _ hm
    have sb_ : h.1 ≤ u9.1 := hmo.1
    have tb_ : h.2.1 ≤ u9.2.1 := hmo.2.1
    rw [m_J6_equals_54] at hm
    refine lv_iconst (v := 0) hx hb dJ6_equals_54 (by decide) ?_
    exact hB55 h (0 : Int32) _ _ _ _ _ hm hw (by omega) (by omega) (lv_sub hl [] rfl)
  have hB47 : ∀ (h : CH) (y0 : Int32) (cc ss : Nat) (H : Heap) (locs : List Loc) (ls : Array Slot), m_J6_equals_47 f h y0 = some (r0, u9) → CW D dA A s h H locs → cc + u.1 = h.1 → ss + u.2.1 = h.2.1 → lv_has ls 3 [] → W p l e (rm_J6_equals (u9.1 - u.1) (u9.2.1 - u.2.1)) s m args below meth c H locs cc ss QQ (F0 m 47 ls [.int y0]) := by
    intro h y0 cc ss H locs ls hm hw hcc hss hl
    have hmo := mo_J6_equals_47  h y0 _ hm
    have sb_ : h.1 ≤ u9.1 := hmo.1
    have tb_ : h.2.1 ≤ u9.2.1 := hmo.2.1
    rw [m_J6_equals_47] at hm
    refine lv_if_eq (tgt := 54) hx hb dJ6_equals_47 (by decide) (fun c1 => ?_) (fun c1 => ?_)
    · have hm := ifT hm c1
      exact hB54 h _ _ _ _ _ hm hw (by omega) (by omega) (lv_sub hl [] rfl)
    · have hm := ifF hm c1
      refine lv_iconst (v := 1) hx hb dJ6_equals_50 (by decide) ?_
      refine lv_goto (tgt := 55) hx hb dJ6_equals_51 (by decide) ?_
      exact hB55 h (1 : Int32) _ _ _ _ _ hm hw (by omega) (by omega) (lv_sub hl [] rfl)
  have hB36 : ∀ (h : CH) (x0 : Nat) (x2 : Nat) (cc ss : Nat) (H : Heap) (locs : List Loc) (ls : Array Slot), m_J6_equals_36 f h x0 x2 = some (r0, u9) → CW D dA A s h H locs → cc + u.1 = h.1 → ss + u.2.1 = h.2.1 → lv_has ls 3 [(0, .ref x0), (2, .ref x2)] → W p l e (rm_J6_equals (u9.1 - u.1) (u9.2.1 - u.2.1)) s m args below meth c H locs cc ss QQ (F0 m 36 ls []) := by
    intro h x0 x2 cc ss H locs ls hm hw hcc hss hl
    have hmo := mo_J6_equals_36  h x0 x2 _ hm
    have sb_ : h.1 ≤ u9.1 := hmo.1
    have tb_ : h.2.1 ≤ u9.2.1 := hmo.2.1
    rw [m_J6_equals_36] at hm
    refine lv_aload_n hx hb dJ6_equals_36 rfl (lv_at hl 0 rfl) ?_
    obtain ⟨a1, ea1, hm⟩ := bdE hm
    refine cg_get C hw (oR_E ea1) rfl in_J6 (by decide) q540 dJ6_equals_37 ?_
    refine lv_aload_n hx hb dJ6_equals_40 rfl (lv_at hl 1 rfl) ?_
    obtain ⟨a2, ea2, hm⟩ := bdE hm
    refine cg_get C hw (oR_E ea2) rfl in_J6 (by decide) q540 dJ6_equals_41 ?_
    obtain ⟨r4, h3, er4, hm⟩ := bd2E hm
    have lh3 := mo_J11_equals er4
    have ph3 : h.1 ≤ h3.1 := lh3.1
    have qh3 : h.2.1 ≤ h3.2.1 := lh3.2.1
    have hmo := mo_J6_equals_47   h3 r4 _ hm
    have sh3 : h3.1 ≤ u9.1 := hmo.1
    have th3 : h3.2.1 ≤ u9.2.1 := hmo.2.1
    refine cg_calli hw lh3 (va_runS (As := [.ref a1, .ref a2]) (rest := []) ⟨hx, hb, hml, hown, hts⟩ (w_J11_equals l er4) (cw_J11_equals hts q578 ⟨Nat.le_of_ble_eq_true rfl, Nat.le_of_ble_eq_true rfl⟩) (cg_preS C hw _) rfl rfl hl.1 rfl (lv_room (Nat.le_of_ble_eq_true rfl)) dJ6_equals_44 ⟨show cc + (h3.1 - h.1) ≤ u9.1 - u.1 by omega, show ss + (h3.2.1 - h.2.1) ≤ u9.2.1 - u.2.1 by omega⟩) (fun H locs hw => ?_)
    exact hB47 h3 r4 _ _ _ _ _ hm hw (by omega) (by omega) (lv_sub hl [] rfl)
  rw [m_J6_equals] at hm
  refine lv_aload_n hx hb dJ6_equals_0 rfl (lv_at hl 0 rfl) ?_
  refine lv_aload_n hx hb dJ6_equals_1 rfl (lv_at hl 1 rfl) ?_
  refine cg_acmp_ne (tgt := 7) hx hb dJ6_equals_2 (by decide) (fun c1 => ?_) (fun c1 => ?_)
  · have hm := ifT hm c1
    refine lv_aload_n hx hb dJ6_equals_7 rfl (lv_at hl 1 rfl) ?_
    obtain ⟨g2, hm⟩ := gdE hm
    refine cg_instS C hw g2 rfl q577 dJ6_equals_8 ?_
    refine lv_if_eq (tgt := 54) hx hb dJ6_equals_11 (by decide) (fun c3 => ?_) (fun c3 => ?_)
    · have hm := ifT hm c3
      exact hB54 u _ _ _ _ _ hm hw (by omega) (by omega) (lv_sub hl [] rfl)
    · have hm := ifF hm c3
      refine lv_aload_n hx hb dJ6_equals_14 rfl (lv_at hl 1 rfl) ?_
      obtain ⟨g4, hm⟩ := gdE hm
      refine cg_castS C hw g4 rfl q577 dJ6_equals_15 ?_
      refine lv_astore_n (lv' := [(2, .ref x1), (0, .ref x0), (1, .ref x1)]) hx hb dJ6_equals_18 rfl hl (by decide) rfl (fun ls hl => ?_)
      refine cg_getsI C hw (i := 0) rfl q526 dJ6_equals_19 ?_
      refine lv_if_eq (tgt := 36) hx hb dJ6_equals_22 (by decide) (fun c5 => ?_) (fun c5 => ?_)
      · have hm := ifT hm c5
        exact hB36 u x0 x1 _ _ _ _ _ hm hw (by omega) (by omega) (lv_sub hl [1, 0] rfl)
      · have hm := ifF hm c5
        refine lv_aload_n hx hb dJ6_equals_25 rfl (lv_at hl 1 rfl) ?_
        obtain ⟨v6, ev6, hm⟩ := bdE hm
        refine cg_get C hw (oI_E ev6) rfl in_J6 (by decide) q541 dJ6_equals_26 ?_
        refine lv_aload_n hx hb dJ6_equals_29 rfl (lv_at hl 0 rfl) ?_
        obtain ⟨v7, ev7, hm⟩ := bdE hm
        refine cg_get C hw (oI_E ev7) rfl in_J6 (by decide) q541 dJ6_equals_30 ?_
        refine lv_icmp_ne (tgt := 54) hx hb dJ6_equals_33 (by decide) (fun c8 => ?_) (fun c8 => ?_)
        · have hm := ifT hm c8
          exact hB54 u _ _ _ _ _ hm hw (by omega) (by omega) (lv_sub hl [] rfl)
        · have hm := ifT' hm c8
          exact hB36 u x0 x1 _ _ _ _ _ hm hw (by omega) (by omega) (lv_sub hl [1, 0] rfl)
  · have hm := ifT' hm c1
    refine lv_iconst (v := 1) hx hb dJ6_equals_5 (by decide) ?_
    obtain ⟨er, eh⟩ := retE hm
    have ec : cc = u9.1 - u.1 := by rw [← eh]; omega
    have es : ss = u9.2.1 - u.2.1 := by rw [← eh]; omega
    rw [ec, es, ← hQ]
    exact W.zret (v := (1 : Int32)) hx hb hr rfl (fun t ht hW => ⟨⟨(1 : Int32), u, rfl, ⟨er, eh⟩, ⟨by rw [ht]; exact hw.1, by rw [ht]; exact hw.2.1⟩⟩, hw.2.2.1.F ht⟩) hw.2.2.1.2.2 dJ6_equals_6
def m_X4_isWord_26 (f : Nat) (h : CH) (y0 : Int32) : Option (Int32 × CH) := gd (zb y0) <|
    some (y0, h)
theorem mo_X4_isWord_26 {f : Nat} : ∀ (h : CH) (y0 : Int32) (r : (Int32 × CH)), m_X4_isWord_26 f h y0 = some r → le2 h r.2 := by
  intro h y0 r hm
  rw [m_X4_isWord_26] at hm
  obtain ⟨g1, hm⟩ := gdE hm
  cases hm
  exact le2.rf
def m_X4_isWord_25 (f : Nat) (h : CH) : Option (Int32 × CH) := m_X4_isWord_26 f h (0 : Int32)
theorem mo_X4_isWord_25 {f : Nat} : ∀ (h : CH) (r : (Int32 × CH)), m_X4_isWord_25 f h = some r → le2 h r.2 := by
  intro h r hm
  rw [m_X4_isWord_25] at hm
  exact (mo_X4_isWord_26  h (0 : Int32) _ hm)
def m_X4_isWord_18 (f : Nat) (h : CH) (y0 : Int32) : Option (Int32 × CH) := if y0 = 0 then
    m_X4_isWord_25 f h
    else m_X4_isWord_26 f h (1 : Int32)
theorem mo_X4_isWord_18 {f : Nat} : ∀ (h : CH) (y0 : Int32) (r : (Int32 × CH)), m_X4_isWord_18 f h y0 = some r → le2 h r.2 := by
  intro h y0 r hm
  rw [m_X4_isWord_18] at hm
  by_cases c1 : y0 = 0
  · have hm := ifT hm c1
    exact (mo_X4_isWord_25  h _ hm)
  · have hm := ifF hm c1
    exact (mo_X4_isWord_26  h (1 : Int32) _ hm)
def m_X4_isWord (f : Nat) (u : CH) (x0 : Nat) (x1 : Nat) : Option (Int32 × CH) := bd (oR u 4 7 x0) fun a1 =>
    bd (sR u 7) fun a2 =>
    if ¬ a1 = a2 then
    m_X4_isWord_25 f u
    else bd (oR u 4 8 x0) fun a4 =>
    gd (isC u a4 19) <|
    bd2 (m_J6_equals f u a4 x1) fun r7 h6 =>
    m_X4_isWord_18 f h6 r7
theorem mo_X4_isWord {f : Nat} {u : CH} {x0 : Nat} {x1 : Nat} {r0 : Int32} {u9 : CH} (hm : m_X4_isWord f u x0 x1 = some (r0, u9)) : le2 u u9 := by
  rw [m_X4_isWord] at hm
  obtain ⟨a1, ea1, hm⟩ := bdE hm
  obtain ⟨a2, ea2, hm⟩ := bdE hm
  by_cases c3 : ¬ a1 = a2
  · have hm := ifT hm c3
    exact (mo_X4_isWord_25  u _ hm)
  · have hm := ifF hm c3
    obtain ⟨a4, ea4, hm⟩ := bdE hm
    obtain ⟨g5, hm⟩ := gdE hm
    obtain ⟨r7, h6, er7, hm⟩ := bd2E hm
    have lh6 := mo_J6_equals er7
    exact (lh6.tr (mo_X4_isWord_18  h6 r7 _ hm))
abbrev rm_X4_isWord (mc ms : Nat) : Room := { frames := 2, cells := mc, slots := ms, locals := 44 }
theorem cw_X4_isWord {R : Room} {s : State} {args : Array Value} {own : String} {idx mc ms : Nat} (hts : ∀ w ∈ lw_all, w.before args s = true) (hl : Cond.methodLink own idx yX4_isWord ∈ lw_all) (hR : 2 + 1 ≤ R.frames ∧ 8 + (2 + 11) + 44 ≤ R.locals) : CallW R s args own RX4 idx yX4_isWord cX4_isWord 2 (Option.some Jvm.ClassFile.FieldType.boolean) (ws_ yX4_isWord cX4_isWord 2 (Option.some Jvm.ClassFile.FieldType.boolean)) (rm_X4_isWord mc ms) mc ms 1 := cwV 1 hts (lw_V hl q571 qs4 q126 q572) rfl rfl rfl (by decide +kernel) hR
set_option maxHeartbeats 4000000 in
set_option maxRecDepth 100000 in
theorem w_X4_isWord (l : Launch) {D : va_G} {dA : Nat → ClassId} {A : Nat → Prop} {f : Nat} {u u9 : CH} {r0 : Int32} {x0 : Nat} {x1 : Nat} (hm : m_X4_isWord f u x0 x1 = some (r0, u9)) : Met l yX4_isWord (ws_ yX4_isWord cX4_isWord 2 (Option.some Jvm.ClassFile.FieldType.boolean)) (rm_X4_isWord (u9.1 - u.1) (u9.2.1 - u.2.1)) (va_Pc [.ref x0, .ref x1] (CPre D dA A u)) (va_Qi (fun r u => r = r0 ∧ u = u9) (CPost D dA A) A) (u9.1 - u.1) (u9.2.1 - u.2.1) A := by
  refine Met.ofW (cc := cX4_isWord) (maxL := 2) (ret := (Option.some Jvm.ClassFile.FieldType.boolean)) (by decide) rfl ?_
  intro p e s m args below meth c s₁ B hml hv
  have hx := B.exec
  have hb := B.bytes
  have hr := B.returns
  have hts := atoms_spec (ws := (ws_ yX4_isWord cX4_isWord 2 (Option.some Jvm.ClassFile.FieldType.boolean))) B.pre
  have hts : ∀ w ∈ lw_all, w.before args s = true := fun w h => hts w (List.mem_cons_of_mem _ h)
  have hown : s.vm.findClass RX4 = some m.cls := findClass_of_methodNamed B.named
  have hlocks := B.notSynchronized
  obtain ⟨hav, hv⟩ := hv
  have C : CX p s m args c cX4_isWord RX4 D dA := ⟨hx, hb, hown, hts, hv.2⟩
  have hw : CW D dA A s u s.heap [] := hv.1
  generalize hQ : MQ below (va_Qi (fun r u => r = r0 ∧ u = u9) (CPost D dA A) A) args s (u9.1 - u.1) (u9.2.1 - u.2.1) A = QQ
  have hent := lg_entry_eq m [.ref x0, .ref x1] 2
  rw [← hav] at hent
  rw [hent]
  have hl := lv_entry ([.ref x0, .ref x1]) (n := 2) (Nat.le_of_ble_eq_true rfl)
  generalize (lg_sl ([.ref x0, .ref x1]) ++ List.replicate (2 - (lg_sl ([.ref x0, .ref x1])).length) Slot.unset).toArray = ls at hl ⊢
  have hl : lv_has ls 2 [(0, .ref x0), (1, .ref x1)] := hl
  obtain ⟨cc, ecc⟩ : ∃ z : Nat, z = 0 := ⟨0, rfl⟩
  obtain ⟨ss, ess⟩ : ∃ z : Nat, z = 0 := ⟨0, rfl⟩
  have hcc : cc + u.1 = u.1 := by omega
  have hss : ss + u.2.1 = u.2.1 := by omega
  suffices hgo : W p l e (rm_X4_isWord (u9.1 - u.1) (u9.2.1 - u.2.1)) s m args below meth c s.heap [] cc ss QQ (F0 m 0 ls []) by rw [ecc, ess] at hgo; exact hgo
  have ⟨pu, qu, _, _⟩ := mo_X4_isWord hm
  have hB26 : ∀ (h : CH) (y0 : Int32) (cc ss : Nat) (H : Heap) (locs : List Loc) (ls : Array Slot), m_X4_isWord_26 f h y0 = some (r0, u9) → CW D dA A s h H locs → cc + u.1 = h.1 → ss + u.2.1 = h.2.1 → lv_has ls 2 [] → W p l e (rm_X4_isWord (u9.1 - u.1) (u9.2.1 - u.2.1)) s m args below meth c H locs cc ss QQ (F0 m 26 ls [.int y0]) := by
    intro h y0 cc ss H locs ls hm hw hcc hss hl
    have hmo := mo_X4_isWord_26  h y0 _ hm
    have sb_ : h.1 ≤ u9.1 := hmo.1
    have tb_ : h.2.1 ≤ u9.2.1 := hmo.2.1
    rw [m_X4_isWord_26] at hm
    obtain ⟨g1, hm⟩ := gdE hm
    obtain ⟨er, eh⟩ := retE hm
    have ec : cc = u9.1 - u.1 := by rw [← eh]; omega
    have es : ss = u9.2.1 - u.2.1 := by rw [← eh]; omega
    rw [ec, es, ← hQ]
    exact W.zret (v := y0) hx hb hr (zb_nar g1) (fun t ht hW => ⟨⟨y0, h, rfl, ⟨er, eh⟩, ⟨by rw [ht]; exact hw.1, by rw [ht]; exact hw.2.1⟩⟩, hw.2.2.1.F ht⟩) hw.2.2.1.2.2 dX4_isWord_26
  have hB25 : ∀ (h : CH) (cc ss : Nat) (H : Heap) (locs : List Loc) (ls : Array Slot), m_X4_isWord_25 f h = some (r0, u9) → CW D dA A s h H locs → cc + u.1 = h.1 → ss + u.2.1 = h.2.1 → lv_has ls 2 [] → W p l e (rm_X4_isWord (u9.1 - u.1) (u9.2.1 - u.2.1)) s m args below meth c H locs cc ss QQ (F0 m 25 ls []) := by
    intro h cc ss H locs ls hm hw hcc hss hl
    have hmo := mo_X4_isWord_25  h _ hm
    have sb_ : h.1 ≤ u9.1 := hmo.1
    have tb_ : h.2.1 ≤ u9.2.1 := hmo.2.1
    rw [m_X4_isWord_25] at hm
    refine lv_iconst (v := 0) hx hb dX4_isWord_25 (by decide) ?_
    exact hB26 h (0 : Int32) _ _ _ _ _ hm hw (by omega) (by omega) (lv_sub hl [] rfl)
  have hB18 : ∀ (h : CH) (y0 : Int32) (cc ss : Nat) (H : Heap) (locs : List Loc) (ls : Array Slot), m_X4_isWord_18 f h y0 = some (r0, u9) → CW D dA A s h H locs → cc + u.1 = h.1 → ss + u.2.1 = h.2.1 → lv_has ls 2 [] → W p l e (rm_X4_isWord (u9.1 - u.1) (u9.2.1 - u.2.1)) s m args below meth c H locs cc ss QQ (F0 m 18 ls [.int y0]) := by
    intro h y0 cc ss H locs ls hm hw hcc hss hl
    have hmo := mo_X4_isWord_18  h y0 _ hm
    have sb_ : h.1 ≤ u9.1 := hmo.1
    have tb_ : h.2.1 ≤ u9.2.1 := hmo.2.1
    rw [m_X4_isWord_18] at hm
    refine lv_if_eq (tgt := 25) hx hb dX4_isWord_18 (by decide) (fun c1 => ?_) (fun c1 => ?_)
    · have hm := ifT hm c1
      exact hB25 h _ _ _ _ _ hm hw (by omega) (by omega) (lv_sub hl [] rfl)
    · have hm := ifF hm c1
      refine lv_iconst (v := 1) hx hb dX4_isWord_21 (by decide) ?_
      refine lv_goto (tgt := 26) hx hb dX4_isWord_22 (by decide) ?_
      exact hB26 h (1 : Int32) _ _ _ _ _ hm hw (by omega) (by omega) (lv_sub hl [] rfl)
  rw [m_X4_isWord] at hm
  refine lv_aload_n hx hb dX4_isWord_0 rfl (lv_at hl 0 rfl) ?_
  obtain ⟨a1, ea1, hm⟩ := bdE hm
  refine cg_get C hw (oR_E ea1) rfl in_X4 (by decide) q323 dX4_isWord_1 ?_
  obtain ⟨a2, ea2, hm⟩ := bdE hm
  refine cg_gets C hw (i := 7) ea2 rfl q551 dX4_isWord_4 ?_
  refine cg_acmp_ne (tgt := 25) hx hb dX4_isWord_7 (by decide) (fun c3 => ?_) (fun c3 => ?_)
  · have hm := ifT hm c3
    exact hB25 u _ _ _ _ _ hm hw (by omega) (by omega) (lv_sub hl [] rfl)
  · have hm := ifT' hm c3
    refine lv_aload_n hx hb dX4_isWord_10 rfl (lv_at hl 0 rfl) ?_
    obtain ⟨a4, ea4, hm⟩ := bdE hm
    refine cg_get C hw (oR_E ea4) rfl in_X4 (by decide) q324 dX4_isWord_11 ?_
    refine lv_aload_n hx hb dX4_isWord_14 rfl (lv_at hl 1 rfl) ?_
    obtain ⟨g5, hm⟩ := gdE hm
    obtain ⟨r7, h6, er7, hm⟩ := bd2E hm
    have lh6 := mo_J6_equals er7
    have ph6 : u.1 ≤ h6.1 := lh6.1
    have qh6 : u.2.1 ≤ h6.2.1 := lh6.2.1
    have hmo := mo_X4_isWord_18   h6 r7 _ hm
    have sh6 : h6.1 ≤ u9.1 := hmo.1
    have th6 : h6.2.1 ≤ u9.2.1 := hmo.2.1
    refine cg_calli hw lh6 (va_runV (As := [.ref x1]) (rest := []) ⟨hx, hb, hml, hown, hts⟩ (w_J6_equals l er7) (cw_J6_equals hts q573 ⟨Nat.le_of_ble_eq_true rfl, Nat.le_of_ble_eq_true rfl⟩) (cg_preV C hw g5 rfl _) rfl rfl hl.1 rfl (lv_room (Nat.le_of_ble_eq_true rfl)) dX4_isWord_15 ⟨show cc + (h6.1 - u.1) ≤ u9.1 - u.1 by omega, show ss + (h6.2.1 - u.2.1) ≤ u9.2.1 - u.2.1 by omega⟩) (fun H locs hw => ?_)
    exact hB18 h6 r7 _ _ _ _ _ hm hw (by omega) (by omega) (lv_sub hl [] rfl)
def m_J13_init_X5 (f : Nat) (u : CH) (x0 : Nat) : Option CH := bd (pF u 5 0 x0 (.ref x0)) fun h1 =>
    bd (pF h1 5 1 x0 (va_rf (sR h1 8))) fun h2 =>
    bd (pF h2 5 2 x0 (va_rf (sR h2 9))) fun h3 =>
    gd (flk h3 5 1 4 x0) <|
    some h3
theorem mo_J13_init_X5 {f : Nat} {u : CH} {x0 : Nat} {u9 : CH} (hm : m_J13_init_X5 f u x0 = some u9) : le2 u u9 := by
  rw [m_J13_init_X5] at hm
  obtain ⟨h1, eh1, hm⟩ := bdE hm
  have lh1 := pF_le eh1
  obtain ⟨h2, eh2, hm⟩ := bdE hm
  have lh2 := pF_le eh2
  obtain ⟨h3, eh3, hm⟩ := bdE hm
  have lh3 := pF_le eh3
  obtain ⟨g4, hm⟩ := gdE hm
  cases hm
  exact (lh1.tr (lh2.tr (lh3.tr le2.rf)))
abbrev rm_J13_init_X5 (mc ms : Nat) : Room := { frames := 3, cells := mc, slots := ms, locals := 60 }
theorem cw_J13_init_X5 {R : Room} {s : State} {args : Array Value} {own : String} {idx mc ms : Nat} (hts : ∀ w ∈ lw_all, w.before args s = true) (hl : Cond.methodLink own idx yJ13_init ∈ lw_all) (hR : 3 + 1 ≤ R.frames ∧ 8 + (1 + 11) + 60 ≤ R.locals) : CallB R s args own idx yJ13_init cJ13_init 1 none (ws_ yJ13_init cJ13_init 1 (Option.none : Option Jvm.ClassFile.FieldType)) (rm_J13_init_X5 mc ms) mc ms 0 ∧ yJ13_init.name = "<init>" ∧ (Cond.instanceMethod yJ13_init).before args s = true := cwI 0 hts (lw_meth q608) rfl rfl rfl (hts _ q139) (hts _ hl) (hts _ q607) rfl (by decide +kernel) hR
set_option maxHeartbeats 4000000 in
set_option maxRecDepth 100000 in
theorem w_J13_init_X5 (l : Launch) (htl : l.stackTraces = false) {D : va_G} {dA : Nat → ClassId} {A : Nat → Prop} {f : Nat} {u u9 : CH} {x0 : Nat} (hm : m_J13_init_X5 f u x0 = some u9) : Met l yJ13_init (ws_ yJ13_init cJ13_init 1 (Option.none : Option Jvm.ClassFile.FieldType)) (rm_J13_init_X5 (u9.1 - u.1) (u9.2.1 - u.2.1)) (va_Pc [.ref x0] (CPre D dA A u)) (va_Qv (fun u => u = u9) (CPost D dA A) A) (u9.1 - u.1) (u9.2.1 - u.2.1) A := by
  refine metOfWF (cc := cJ13_init) (maxL := 1) (ret := (Option.none : Option Jvm.ClassFile.FieldType)) (by decide +kernel) rfl ?_
  intro p e s m args below meth c s₁ B hml hv
  have hx := B.exec
  have hb := B.bytes
  have hr := B.returns
  have hts := atoms_spec (ws := (ws_ yJ13_init cJ13_init 1 (Option.none : Option Jvm.ClassFile.FieldType))) B.pre
  have hts : ∀ w ∈ lw_all, w.before args s = true := fun w h => hts w (List.mem_cons_of_mem _ h)
  have hown : s.vm.findClass RJ13 = some m.cls := findClass_of_methodNamed B.named
  have hlocks := B.notSynchronized
  have hin : meth.name = "<init>" := (name_of_methodNamed B.named B.method).1
  obtain ⟨hav, hv⟩ := hv
  have C : CX p s m args c cJ13_init RJ13 D dA := ⟨hx, hb, hown, hts, hv.2⟩
  have hw : CW D dA A s u s.heap [] := hv.1
  generalize hQ : MQ below (va_Qv (fun u => u = u9) (CPost D dA A) A) args s (u9.1 - u.1) (u9.2.1 - u.2.1) A = QQ
  have hent := lg_entry_eq m [.ref x0] 1
  rw [← hav] at hent
  rw [hent]
  have hl := lv_entry ([.ref x0]) (n := 1) (Nat.le_of_ble_eq_true rfl)
  generalize (lg_sl ([.ref x0]) ++ List.replicate (1 - (lg_sl ([.ref x0])).length) Slot.unset).toArray = ls at hl ⊢
  have hl : lv_has ls 1 [(0, .ref x0)] := hl
  obtain ⟨cc, ecc⟩ : ∃ z : Nat, z = 0 := ⟨0, rfl⟩
  obtain ⟨ss, ess⟩ : ∃ z : Nat, z = 0 := ⟨0, rfl⟩
  have hcc : cc + u.1 = u.1 := by omega
  have hss : ss + u.2.1 = u.2.1 := by omega
  suffices hgo : W p l e (rm_J13_init_X5 (u9.1 - u.1) (u9.2.1 - u.2.1)) s m args below meth c s.heap [] cc ss QQ (F0 m 0 ls []) by rw [ecc, ess] at hgo; exact hgo
  have ⟨pu, qu, _, _⟩ := mo_J13_init_X5 hm
  rw [m_J13_init_X5] at hm
  refine lv_aload_n hx hb dJ13_init_0 rfl (lv_at hl 0 rfl) ?_
  refine W.objInit hx hb hown (hts _ q609) (hts _ q161) (hts _ q162) rfl (by rw [hml]; exact hl.1) rfl dJ13_init_1 (Nat.le_of_ble_eq_true rfl) (Nat.le_of_ble_eq_true rfl) ?_
  refine W.eq (g2 := F0 m 4 ls []) rfl ?_
  refine lv_aload_n hx hb dJ13_init_4 rfl (lv_at hl 0 rfl) ?_
  refine lv_aload_n hx hb dJ13_init_5 rfl (lv_at hl 0 rfl) ?_
  obtain ⟨h1, eh1, hm⟩ := bdE hm
  refine cg_put C hw eh1 rfl in_X5 tyX5 tyX5_ok nmX5 (by decide) q640 rfl rfl rfl dJ13_init_6 (fun H locs hw => ?_)
  have zh1 := pF_sz eh1
  refine lv_aload_n hx hb dJ13_init_9 rfl (lv_at hl 0 rfl) ?_
  refine cg_getsQ C hw (i := 8) rfl q610 dJ13_init_10 ?_
  obtain ⟨h2, eh2, hm⟩ := bdE hm
  refine cg_put C hw eh2 rfl in_X5 tyX5 tyX5_ok nmX5 (by decide) q641 rfl (by cases (sR h1 8) <;> rfl) (by cases (sR h1 8) <;> rfl) dJ13_init_13 (fun H locs hw => ?_)
  have zh2 := pF_sz eh2
  refine lv_aload_n hx hb dJ13_init_16 rfl (lv_at hl 0 rfl) ?_
  refine cg_getsQ C hw (i := 9) rfl q612 dJ13_init_17 ?_
  obtain ⟨h3, eh3, hm⟩ := bdE hm
  refine cg_put C hw eh3 rfl in_X5 tyX5 tyX5_ok nmX5 (by decide) q642 rfl (by cases (sR h2 9) <;> rfl) (by cases (sR h2 9) <;> rfl) dJ13_init_20 (fun H locs hw => ?_)
  have zh3 := pF_sz eh3
  refine lv_aload_n hx hb dJ13_init_23 rfl (lv_at hl 0 rfl) ?_
  obtain ⟨g4, hm⟩ := gdE hm
  refine cg_fill htl C hw (hml.trans hl.1.symm) rfl in_X5 (by decide) (by decide) q593 q594 (by decide) rfl (by decide) rfl g4 (Nat.le_of_ble_eq_true rfl) (Nat.le_of_ble_eq_true rfl) dJ13_init_24 ?_
  refine lv_pop hx hb dJ13_init_27 rfl ?_
  have eh := ret1 hm
  have ec : cc = u9.1 - u.1 := by rw [← eh]; omega
  have es : ss = u9.2.1 - u.2.1 := by rw [← eh]; omega
  rw [ec, es, ← hQ]
  exact W.vret hx hb hr (fun t ht hW => ⟨⟨h3, rfl, eh, ⟨by rw [ht]; exact hw.1, by rw [ht]; exact hw.2.1⟩⟩, hw.2.2.1.F ht⟩) hw.2.2.1.2.2 dJ13_init_28
def m_J14_init_X5_4 (f : Nat) (h : CH) : Option CH := some h
theorem mo_J14_init_X5_4 {f : Nat} : ∀ (h : CH) (r : CH), m_J14_init_X5_4 f h = some r → le2 h r := by
  intro h r hm
  rw [m_J14_init_X5_4] at hm
  cases hm
  exact le2.rf
def m_J14_init_X5 (f : Nat) (u : CH) (x0 : Nat) : Option CH := bd (m_J13_init_X5 f u x0) fun h1 =>
    m_J14_init_X5_4 f h1
theorem mo_J14_init_X5 {f : Nat} {u : CH} {x0 : Nat} {u9 : CH} (hm : m_J14_init_X5 f u x0 = some u9) : le2 u u9 := by
  rw [m_J14_init_X5] at hm
  obtain ⟨h1, eh1, hm⟩ := bdE hm
  have lh1 := mo_J13_init_X5 eh1
  exact (lh1.tr (mo_J14_init_X5_4  h1 _ hm))
abbrev rm_J14_init_X5 (mc ms : Nat) : Room := { frames := 4, cells := mc, slots := ms, locals := 80 }
theorem cw_J14_init_X5 {R : Room} {s : State} {args : Array Value} {own : String} {idx mc ms : Nat} (hts : ∀ w ∈ lw_all, w.before args s = true) (hl : Cond.methodLink own idx yJ14_init ∈ lw_all) (hR : 4 + 1 ≤ R.frames ∧ 8 + (1 + 11) + 80 ≤ R.locals) : CallB R s args own idx yJ14_init cJ14_init 1 none (ws_ yJ14_init cJ14_init 1 (Option.none : Option Jvm.ClassFile.FieldType)) (rm_J14_init_X5 mc ms) mc ms 0 ∧ yJ14_init.name = "<init>" ∧ (Cond.instanceMethod yJ14_init).before args s = true := cwI 0 hts (lw_meth q632) rfl rfl rfl (hts _ q140) (hts _ hl) (hts _ q631) rfl (by decide +kernel) hR
set_option maxHeartbeats 4000000 in
set_option maxRecDepth 100000 in
theorem w_J14_init_X5 (l : Launch) (htl : l.stackTraces = false) {D : va_G} {dA : Nat → ClassId} {A : Nat → Prop} {f : Nat} {u u9 : CH} {x0 : Nat} (hm : m_J14_init_X5 f u x0 = some u9) : Met l yJ14_init (ws_ yJ14_init cJ14_init 1 (Option.none : Option Jvm.ClassFile.FieldType)) (rm_J14_init_X5 (u9.1 - u.1) (u9.2.1 - u.2.1)) (va_Pc [.ref x0] (CPre D dA A u)) (va_Qv (fun u => u = u9) (CPost D dA A) A) (u9.1 - u.1) (u9.2.1 - u.2.1) A := by
  refine metOfWF (cc := cJ14_init) (maxL := 1) (ret := (Option.none : Option Jvm.ClassFile.FieldType)) (by decide +kernel) rfl ?_
  intro p e s m args below meth c s₁ B hml hv
  have hx := B.exec
  have hb := B.bytes
  have hr := B.returns
  have hts := atoms_spec (ws := (ws_ yJ14_init cJ14_init 1 (Option.none : Option Jvm.ClassFile.FieldType))) B.pre
  have hts : ∀ w ∈ lw_all, w.before args s = true := fun w h => hts w (List.mem_cons_of_mem _ h)
  have hown : s.vm.findClass RJ14 = some m.cls := findClass_of_methodNamed B.named
  have hlocks := B.notSynchronized
  have hin : meth.name = "<init>" := (name_of_methodNamed B.named B.method).1
  obtain ⟨hav, hv⟩ := hv
  have C : CX p s m args c cJ14_init RJ14 D dA := ⟨hx, hb, hown, hts, hv.2⟩
  have hw : CW D dA A s u s.heap [] := hv.1
  generalize hQ : MQ below (va_Qv (fun u => u = u9) (CPost D dA A) A) args s (u9.1 - u.1) (u9.2.1 - u.2.1) A = QQ
  have hent := lg_entry_eq m [.ref x0] 1
  rw [← hav] at hent
  rw [hent]
  have hl := lv_entry ([.ref x0]) (n := 1) (Nat.le_of_ble_eq_true rfl)
  generalize (lg_sl ([.ref x0]) ++ List.replicate (1 - (lg_sl ([.ref x0])).length) Slot.unset).toArray = ls at hl ⊢
  have hl : lv_has ls 1 [(0, .ref x0)] := hl
  obtain ⟨cc, ecc⟩ : ∃ z : Nat, z = 0 := ⟨0, rfl⟩
  obtain ⟨ss, ess⟩ : ∃ z : Nat, z = 0 := ⟨0, rfl⟩
  have hcc : cc + u.1 = u.1 := by omega
  have hss : ss + u.2.1 = u.2.1 := by omega
  suffices hgo : W p l e (rm_J14_init_X5 (u9.1 - u.1) (u9.2.1 - u.2.1)) s m args below meth c s.heap [] cc ss QQ (F0 m 0 ls []) by rw [ecc, ess] at hgo; exact hgo
  have ⟨pu, qu, _, _⟩ := mo_J14_init_X5 hm
  have hB4 : ∀ (h : CH) (cc ss : Nat) (H : Heap) (locs : List Loc) (ls : Array Slot), m_J14_init_X5_4 f h = some u9 → CW D dA A s h H locs → cc + u.1 = h.1 → ss + u.2.1 = h.2.1 → lv_has ls 1 [] → W p l e (rm_J14_init_X5 (u9.1 - u.1) (u9.2.1 - u.2.1)) s m args below meth c H locs cc ss QQ (F0 m 4 ls []) := by
    intro h cc ss H locs ls hm hw hcc hss hl
    have hmo := mo_J14_init_X5_4  h _ hm
    have sb_ : h.1 ≤ u9.1 := hmo.1
    have tb_ : h.2.1 ≤ u9.2.1 := hmo.2.1
    rw [m_J14_init_X5_4] at hm
    have eh := ret1 hm
    have ec : cc = u9.1 - u.1 := by rw [← eh]; omega
    have es : ss = u9.2.1 - u.2.1 := by rw [← eh]; omega
    rw [ec, es, ← hQ]
    exact W.vret hx hb hr (fun t ht hW => ⟨⟨h, rfl, eh, ⟨by rw [ht]; exact hw.1, by rw [ht]; exact hw.2.1⟩⟩, hw.2.2.1.F ht⟩) hw.2.2.1.2.2 dJ14_init_4
  rw [m_J14_init_X5] at hm
  refine lv_aload_n hx hb dJ14_init_0 rfl (lv_at hl 0 rfl) ?_
  obtain ⟨h1, eh1, hm⟩ := bdE hm
  have lh1 := mo_J13_init_X5 eh1
  have ph1 : u.1 ≤ h1.1 := lh1.1
  have qh1 : u.2.1 ≤ h1.2.1 := lh1.2.1
  have hmo := mo_J14_init_X5_4   h1 _ hm
  have sh1 : h1.1 ≤ u9.1 := hmo.1
  have th1 : h1.2.1 ≤ u9.2.1 := hmo.2.1
  refine cg_callv hw lh1 (va_runI (As := []) (rest := []) ⟨hx, hb, hml, hown, hts⟩ (w_J13_init_X5 l htl eh1) (cw_J13_init_X5 hts q633 ⟨Nat.le_of_ble_eq_true rfl, Nat.le_of_ble_eq_true rfl⟩) (cg_preS C hw _) rfl rfl hl.1 rfl (lv_room (Nat.le_of_ble_eq_true rfl)) dJ14_init_1 ⟨show cc + (h1.1 - u.1) ≤ u9.1 - u.1 by omega, show ss + (h1.2.1 - u.2.1) ≤ u9.2.1 - u.2.1 by omega⟩) (fun H locs hw => ?_)
  exact hB4 h1 _ _ _ _ _ hm hw (by omega) (by omega) (lv_sub hl [] rfl)
def m_X5_init_4 (f : Nat) (h : CH) (x0 : Nat) (x1 : Int32) (x2 : Int32) : Option CH := bd (pF h 5 6 x0 (.int x1)) fun h1 =>
    bd (pF h1 5 7 x0 (.int x2)) fun h2 =>
    some h2
theorem mo_X5_init_4 {f : Nat} : ∀ (h : CH) (x0 : Nat) (x1 : Int32) (x2 : Int32) (r : CH), m_X5_init_4 f h x0 x1 x2 = some r → le2 h r := by
  intro h x0 x1 x2 r hm
  rw [m_X5_init_4] at hm
  obtain ⟨h1, eh1, hm⟩ := bdE hm
  have lh1 := pF_le eh1
  obtain ⟨h2, eh2, hm⟩ := bdE hm
  have lh2 := pF_le eh2
  cases hm
  exact (lh1.tr (lh2.tr le2.rf))
def m_X5_init (f : Nat) (u : CH) (x0 : Nat) (x1 : Int32) (x2 : Int32) : Option CH := bd (m_J14_init_X5 f u x0) fun h1 =>
    m_X5_init_4 f h1 x0 x1 x2
theorem mo_X5_init {f : Nat} {u : CH} {x0 : Nat} {x1 : Int32} {x2 : Int32} {u9 : CH} (hm : m_X5_init f u x0 x1 x2 = some u9) : le2 u u9 := by
  rw [m_X5_init] at hm
  obtain ⟨h1, eh1, hm⟩ := bdE hm
  have lh1 := mo_J14_init_X5 eh1
  exact (lh1.tr (mo_X5_init_4  h1 x0 x1 x2 _ hm))
abbrev rm_X5_init (mc ms : Nat) : Room := { frames := 5, cells := mc, slots := ms, locals := 100 }
theorem cw_X5_init {R : Room} {s : State} {args : Array Value} {own : String} {idx mc ms : Nat} (hts : ∀ w ∈ lw_all, w.before args s = true) (hl : Cond.methodLink own idx yX5_init ∈ lw_all) (hR : 5 + 1 ≤ R.frames ∧ 8 + (3 + 11) + 100 ≤ R.locals) : CallB R s args own idx yX5_init cX5_init 3 none (ws_ yX5_init cX5_init 3 (Option.none : Option Jvm.ClassFile.FieldType)) (rm_X5_init mc ms) mc ms 2 ∧ yX5_init.name = "<init>" ∧ (Cond.instanceMethod yX5_init).before args s = true := cwI 2 hts (lw_meth q629) rfl rfl rfl (hts _ q141) (hts _ hl) (hts _ q628) rfl (by decide +kernel) hR
set_option maxHeartbeats 4000000 in
set_option maxRecDepth 100000 in
theorem w_X5_init (l : Launch) (htl : l.stackTraces = false) {D : va_G} {dA : Nat → ClassId} {A : Nat → Prop} {f : Nat} {u u9 : CH} {x0 : Nat} {x1 : Int32} {x2 : Int32} (hm : m_X5_init f u x0 x1 x2 = some u9) : Met l yX5_init (ws_ yX5_init cX5_init 3 (Option.none : Option Jvm.ClassFile.FieldType)) (rm_X5_init (u9.1 - u.1) (u9.2.1 - u.2.1)) (va_Pc [.ref x0, .int x1, .int x2] (CPre D dA A u)) (va_Qv (fun u => u = u9) (CPost D dA A) A) (u9.1 - u.1) (u9.2.1 - u.2.1) A := by
  refine Met.ofW (cc := cX5_init) (maxL := 3) (ret := (Option.none : Option Jvm.ClassFile.FieldType)) (by decide) rfl ?_
  intro p e s m args below meth c s₁ B hml hv
  have hx := B.exec
  have hb := B.bytes
  have hr := B.returns
  have hts := atoms_spec (ws := (ws_ yX5_init cX5_init 3 (Option.none : Option Jvm.ClassFile.FieldType))) B.pre
  have hts : ∀ w ∈ lw_all, w.before args s = true := fun w h => hts w (List.mem_cons_of_mem _ h)
  have hown : s.vm.findClass RX5 = some m.cls := findClass_of_methodNamed B.named
  have hlocks := B.notSynchronized
  have hin : meth.name = "<init>" := (name_of_methodNamed B.named B.method).1
  obtain ⟨hav, hv⟩ := hv
  have C : CX p s m args c cX5_init RX5 D dA := ⟨hx, hb, hown, hts, hv.2⟩
  have hw : CW D dA A s u s.heap [] := hv.1
  generalize hQ : MQ below (va_Qv (fun u => u = u9) (CPost D dA A) A) args s (u9.1 - u.1) (u9.2.1 - u.2.1) A = QQ
  have hent := lg_entry_eq m [.ref x0, .int x1, .int x2] 3
  rw [← hav] at hent
  rw [hent]
  have hl := lv_entry ([.ref x0, .int x1, .int x2]) (n := 3) (Nat.le_of_ble_eq_true rfl)
  generalize (lg_sl ([.ref x0, .int x1, .int x2]) ++ List.replicate (3 - (lg_sl ([.ref x0, .int x1, .int x2])).length) Slot.unset).toArray = ls at hl ⊢
  have hl : lv_has ls 3 [(0, .ref x0), (1, .int x1), (2, .int x2)] := hl
  obtain ⟨cc, ecc⟩ : ∃ z : Nat, z = 0 := ⟨0, rfl⟩
  obtain ⟨ss, ess⟩ : ∃ z : Nat, z = 0 := ⟨0, rfl⟩
  have hcc : cc + u.1 = u.1 := by omega
  have hss : ss + u.2.1 = u.2.1 := by omega
  suffices hgo : W p l e (rm_X5_init (u9.1 - u.1) (u9.2.1 - u.2.1)) s m args below meth c s.heap [] cc ss QQ (F0 m 0 ls []) by rw [ecc, ess] at hgo; exact hgo
  have ⟨pu, qu, _, _⟩ := mo_X5_init hm
  have hB4 : ∀ (h : CH) (x0 : Nat) (x1 : Int32) (x2 : Int32) (cc ss : Nat) (H : Heap) (locs : List Loc) (ls : Array Slot), m_X5_init_4 f h x0 x1 x2 = some u9 → CW D dA A s h H locs → cc + u.1 = h.1 → ss + u.2.1 = h.2.1 → lv_has ls 3 [(0, .ref x0), (1, .int x1), (2, .int x2)] → W p l e (rm_X5_init (u9.1 - u.1) (u9.2.1 - u.2.1)) s m args below meth c H locs cc ss QQ (F0 m 4 ls []) := by
    intro h x0 x1 x2 cc ss H locs ls hm hw hcc hss hl
    have hmo := mo_X5_init_4  h x0 x1 x2 _ hm
    have sb_ : h.1 ≤ u9.1 := hmo.1
    have tb_ : h.2.1 ≤ u9.2.1 := hmo.2.1
    rw [m_X5_init_4] at hm
    refine lv_aload_n hx hb dX5_init_4 rfl (lv_at hl 0 rfl) ?_
    refine lv_iload_n hx hb dX5_init_5 rfl (lv_at hl 1 rfl) ?_
    obtain ⟨h1, eh1, hm⟩ := bdE hm
    refine cg_putF C hw eh1 rfl in_X5 tyX5 tyX5_ok nmX5 (by decide) q634 rfl hin rfl rfl rfl dX5_init_6 (fun H locs hw => ?_)
    have zh1 := pF_sz eh1
    refine lv_aload_n hx hb dX5_init_9 rfl (lv_at hl 0 rfl) ?_
    refine lv_iload_n hx hb dX5_init_10 rfl (lv_at hl 2 rfl) ?_
    obtain ⟨h2, eh2, hm⟩ := bdE hm
    refine cg_putF C hw eh2 rfl in_X5 tyX5 tyX5_ok nmX5 (by decide) q636 rfl hin rfl rfl rfl dX5_init_11 (fun H locs hw => ?_)
    have zh2 := pF_sz eh2
    have eh := ret1 hm
    have ec : cc = u9.1 - u.1 := by rw [← eh]; omega
    have es : ss = u9.2.1 - u.2.1 := by rw [← eh]; omega
    rw [ec, es, ← hQ]
    exact W.vret hx hb hr (fun t ht hW => ⟨⟨h2, rfl, eh, ⟨by rw [ht]; exact hw.1, by rw [ht]; exact hw.2.1⟩⟩, hw.2.2.1.F ht⟩) hw.2.2.1.2.2 dX5_init_14
  rw [m_X5_init] at hm
  refine lv_aload_n hx hb dX5_init_0 rfl (lv_at hl 0 rfl) ?_
  obtain ⟨h1, eh1, hm⟩ := bdE hm
  have lh1 := mo_J14_init_X5 eh1
  have ph1 : u.1 ≤ h1.1 := lh1.1
  have qh1 : u.2.1 ≤ h1.2.1 := lh1.2.1
  have hmo := mo_X5_init_4   h1 x0 x1 x2 _ hm
  have sh1 : h1.1 ≤ u9.1 := hmo.1
  have th1 : h1.2.1 ≤ u9.2.1 := hmo.2.1
  refine cg_callv hw lh1 (va_runI (As := []) (rest := []) ⟨hx, hb, hml, hown, hts⟩ (w_J14_init_X5 l htl eh1) (cw_J14_init_X5 hts q630 ⟨Nat.le_of_ble_eq_true rfl, Nat.le_of_ble_eq_true rfl⟩) (cg_preS C hw _) rfl rfl hl.1 rfl (lv_room (Nat.le_of_ble_eq_true rfl)) dX5_init_1 ⟨show cc + (h1.1 - u.1) ≤ u9.1 - u.1 by omega, show ss + (h1.2.1 - u.2.1) ≤ u9.2.1 - u.2.1 by omega⟩) (fun H locs hw => ?_)
  exact hB4 h1 x0 x1 x2 _ _ _ _ _ hm hw (by omega) (by omega) (lv_sub hl [0, 1, 2] rfl)
def m_X4_needs_16 (f : Nat) (h : CH) (y0 : Nat) : Option ((Unit ⊕ Nat) × CH) := gd (isC h y0 5) <|
    some (.inr y0, h)
theorem mo_X4_needs_16 {f : Nat} : ∀ (h : CH) (y0 : Nat) (r : ((Unit ⊕ Nat) × CH)), m_X4_needs_16 f h y0 = some r → le2 h r.2 := by
  intro h y0 r hm
  rw [m_X4_needs_16] at hm
  obtain ⟨g1, hm⟩ := gdE hm
  cases hm
  exact le2.rf
def m_X4_needs_7 (f : Nat) (h : CH) (x0 : Nat) (x2 : Int32) (y0 : Nat) : Option ((Unit ⊕ Nat) × CH) := bd (oI h 4 3 x0) fun v1 =>
    bd (m_X5_init f h y0 x2 v1) fun h2 =>
    m_X4_needs_16 f h2 y0
theorem mo_X4_needs_7 {f : Nat} : ∀ (h : CH) (x0 : Nat) (x2 : Int32) (y0 : Nat) (r : ((Unit ⊕ Nat) × CH)), m_X4_needs_7 f h x0 x2 y0 = some r → le2 h r.2 := by
  intro h x0 x2 y0 r hm
  rw [m_X4_needs_7] at hm
  obtain ⟨v1, ev1, hm⟩ := bdE hm
  obtain ⟨h2, eh2, hm⟩ := bdE hm
  have lh2 := mo_X5_init eh2
  exact (lh2.tr (mo_X4_needs_16  h2 y0 _ hm))
def m_X4_needs (f : Nat) (u : CH) (x0 : Nat) (x1 : Int32) (x2 : Int32) : Option ((Unit ⊕ Nat) × CH) := if ¬ x1 = 0 then
    some (.inl (), u)
    else nmv (cn u 8 (.inl (5, [.null, .null, .null, .null, .null, .int 0, .int 0, .int 0]))) fun h2 =>
    nmv (u.1 : Nat) fun a3 =>
    m_X4_needs_7 f h2 x0 x2 a3
theorem mo_X4_needs {f : Nat} {u : CH} {x0 : Nat} {x1 : Int32} {x2 : Int32} {r0 : Unit ⊕ Nat} {u9 : CH} (hm : m_X4_needs f u x0 x1 x2 = some (r0, u9)) : le2 u u9 := by
  rw [m_X4_needs] at hm
  by_cases c1 : ¬ x1 = 0
  · have hm := ifT hm c1
    cases hm
    exact le2.rf
  · have hm := ifF hm c1
    obtain ⟨h2, eh2, hm⟩ := nmE hm
    have lh2 := cn_le eh2
    obtain ⟨a3, ea3, hm⟩ := nmE hm
    exact (lh2.tr (mo_X4_needs_7  h2 x0 x2 a3 _ hm))
abbrev rm_X4_needs (mc ms : Nat) : Room := { frames := 6, cells := mc, slots := ms, locals := 122 }
theorem cw_X4_needs {R : Room} {s : State} {args : Array Value} {own : String} {idx mc ms : Nat} (hts : ∀ w ∈ lw_all, w.before args s = true) (hl : Cond.methodLink own idx yX4_needs ∈ lw_all) (hR : 6 + 1 ≤ R.frames ∧ 8 + (3 + 11) + 122 ≤ R.locals) : CallW R s args own RX4 idx yX4_needs cX4_needs 3 (Option.none : Option Jvm.ClassFile.FieldType) (ws_ yX4_needs cX4_needs 3 (Option.none : Option Jvm.ClassFile.FieldType)) (rm_X4_needs mc ms) mc ms 2 := cwV 2 hts (lw_V hl q584 qs5 q126 q585) rfl rfl rfl (by decide +kernel) hR
set_option maxHeartbeats 4000000 in
set_option maxRecDepth 100000 in
theorem w_X4_needs (l : Launch) (htl : l.stackTraces = false) {D : va_G} {dA : Nat → ClassId} {A : Nat → Prop} {f : Nat} {u u9 : CH} {r0 : Unit ⊕ Nat} {x0 : Nat} {x1 : Int32} {x2 : Int32} (hm : m_X4_needs f u x0 x1 x2 = some (r0, u9)) : vy_Met l yX4_needs (ws_ yX4_needs cX4_needs 3 (Option.none : Option Jvm.ClassFile.FieldType)) (rm_X4_needs (u9.1 - u.1) (u9.2.1 - u.2.1)) (va_Pc [.ref x0, .int x1, .int x2] (CPre D dA A u)) (cxQv D dA A r0 u9) (cxX D dA A r0 u9) (u9.1 - u.1) (u9.2.1 - u.2.1) A := by
  refine vy_ofW (cc := cX4_needs) (maxL := 3) (ret := (Option.none : Option Jvm.ClassFile.FieldType)) (by decide) rfl ?_
  intro p e s m args below meth c s₁ B hml htab hv
  have hx := B.exec
  have hb := B.bytes
  have hr := B.returns
  have hts := atoms_spec (ws := (ws_ yX4_needs cX4_needs 3 (Option.none : Option Jvm.ClassFile.FieldType))) B.pre
  have hts : ∀ w ∈ lw_all, w.before args s = true := fun w h => hts w (List.mem_cons_of_mem _ h)
  have hown : s.vm.findClass RX4 = some m.cls := findClass_of_methodNamed B.named
  have hlocks := B.notSynchronized
  obtain ⟨hav, hv⟩ := hv
  have C : CX p s m args c cX4_needs RX4 D dA := ⟨hx, hb, hown, hts, hv.2⟩
  have hw : CW D dA A s u s.heap [] := hv.1
  generalize hQ : vy_MQ below (cxQv D dA A r0 u9) (cxX D dA A r0 u9) args s (u9.1 - u.1) (u9.2.1 - u.2.1) A = QQ
  have hent := lg_entry_eq m [.ref x0, .int x1, .int x2] 3
  rw [← hav] at hent
  rw [hent]
  have hl := lv_entry ([.ref x0, .int x1, .int x2]) (n := 3) (Nat.le_of_ble_eq_true rfl)
  generalize (lg_sl ([.ref x0, .int x1, .int x2]) ++ List.replicate (3 - (lg_sl ([.ref x0, .int x1, .int x2])).length) Slot.unset).toArray = ls at hl ⊢
  have hl : lv_has ls 3 [(0, .ref x0), (1, .int x1), (2, .int x2)] := hl
  obtain ⟨cc, ecc⟩ : ∃ z : Nat, z = 0 := ⟨0, rfl⟩
  obtain ⟨ss, ess⟩ : ∃ z : Nat, z = 0 := ⟨0, rfl⟩
  have hcc : cc + u.1 = u.1 := by omega
  have hss : ss + u.2.1 = u.2.1 := by omega
  suffices hgo : W p l e (rm_X4_needs (u9.1 - u.1) (u9.2.1 - u.2.1)) s m args below meth c s.heap [] cc ss QQ (F0 m 0 ls []) by rw [ecc, ess] at hgo; exact hgo
  have ⟨pu, qu, _, _⟩ := mo_X4_needs hm
  have hB16 : ∀ (h : CH) (y0 : Nat) (cc ss : Nat) (H : Heap) (locs : List Loc) (ls : Array Slot), m_X4_needs_16 f h y0 = some (r0, u9) → CW D dA A s h H locs → cc + u.1 = h.1 → ss + u.2.1 = h.2.1 → lv_has ls 3 [] → W p l e (rm_X4_needs (u9.1 - u.1) (u9.2.1 - u.2.1)) s m args below meth c H locs cc ss QQ (F0 m 16 ls [.ref y0]) := by
    intro h y0 cc ss H locs ls hm hw hcc hss hl
    have hmo := mo_X4_needs_16  h y0 _ hm
    have sb_ : h.1 ≤ u9.1 := hmo.1
    have tb_ : h.2.1 ≤ u9.2.1 := hmo.2.1
    rw [m_X4_needs_16] at hm
    obtain ⟨g1, hm⟩ := gdE hm
    refine vy_athrow hx hb dX4_needs_16 ?_
    obtain ⟨er, eh⟩ := retE hm
    rw [← hQ]
    exact cx_out C hw g1 (by decide) rfl er eh (fun x hx => (htab x hx).elim) hlocks (by rw [← eh]; omega) (by rw [← eh]; omega)
  have hB7 : ∀ (h : CH) (x0 : Nat) (x2 : Int32) (y0 : Nat) (cc ss : Nat) (H : Heap) (locs : List Loc) (ls : Array Slot), m_X4_needs_7 f h x0 x2 y0 = some (r0, u9) → CW D dA A s h H locs → cc + u.1 = h.1 → ss + u.2.1 = h.2.1 → lv_has ls 3 [(0, .ref x0), (2, .int x2)] → W p l e (rm_X4_needs (u9.1 - u.1) (u9.2.1 - u.2.1)) s m args below meth c H locs cc ss QQ (F0 m 7 ls [.ref y0]) := by
    intro h x0 x2 y0 cc ss H locs ls hm hw hcc hss hl
    have hmo := mo_X4_needs_7  h x0 x2 y0 _ hm
    have sb_ : h.1 ≤ u9.1 := hmo.1
    have tb_ : h.2.1 ≤ u9.2.1 := hmo.2.1
    rw [m_X4_needs_7] at hm
    refine lv_dup hx hb dX4_needs_7 rfl ?_
    refine lv_iload_n hx hb dX4_needs_8 rfl (lv_at hl 1 rfl) ?_
    refine lv_aload_n hx hb dX4_needs_9 rfl (lv_at hl 0 rfl) ?_
    obtain ⟨v1, ev1, hm⟩ := bdE hm
    refine cg_get C hw (oI_E ev1) rfl in_X4 (by decide) q318 dX4_needs_10 ?_
    obtain ⟨h2, eh2, hm⟩ := bdE hm
    have lh2 := mo_X5_init eh2
    have ph2 : h.1 ≤ h2.1 := lh2.1
    have qh2 : h.2.1 ≤ h2.2.1 := lh2.2.1
    have hmo := mo_X4_needs_16   h2 y0 _ hm
    have sh2 : h2.1 ≤ u9.1 := hmo.1
    have th2 : h2.2.1 ≤ u9.2.1 := hmo.2.1
    refine cg_callv hw lh2 (va_runI (As := [.int x2, .int v1]) (rest := [.ref y0]) ⟨hx, hb, hml, hown, hts⟩ (w_X5_init l htl eh2) (cw_X5_init hts q627 ⟨Nat.le_of_ble_eq_true rfl, Nat.le_of_ble_eq_true rfl⟩) (cg_preS C hw _) rfl rfl hl.1 rfl (lv_room (Nat.le_of_ble_eq_true rfl)) dX4_needs_13 ⟨show cc + (h2.1 - h.1) ≤ u9.1 - u.1 by omega, show ss + (h2.2.1 - h.2.1) ≤ u9.2.1 - u.2.1 by omega⟩) (fun H locs hw => ?_)
    exact hB16 h2 y0 _ _ _ _ _ hm hw (by omega) (by omega) (lv_sub hl [] rfl)
  rw [m_X4_needs] at hm
  refine lv_iload_n hx hb dX4_needs_0 rfl (lv_at hl 1 rfl) ?_
  refine lv_if_ne (tgt := 17) hx hb dX4_needs_1 (by decide) (fun c1 => ?_) (fun c1 => ?_)
  · have hm := ifT hm c1
    obtain ⟨er, eh⟩ := retE hm
    have ec : cc = u9.1 - u.1 := by rw [← eh]; omega
    have es : ss = u9.2.1 - u.2.1 := by rw [← eh]; omega
    rw [ec, es, ← hQ]
    refine vy_ret ?_
    exact W.vret hx hb hr (fun t ht hW => ⟨⟨u, rfl, ⟨er.symm, eh⟩, ⟨by rw [ht]; exact hw.1, by rw [ht]; exact hw.2.1⟩⟩, hw.2.2.1.F ht⟩) hw.2.2.1.2.2 dX4_needs_17
  · have hm := ifT' hm c1
    obtain ⟨h2, eh2, hm⟩ := nmE hm
    obtain ⟨_, _, hmq⟩ := nmE hm
    have hmo := mo_X4_needs_7   h2 x0 x2 _ _ hmq
    have sh2 : h2.1 ≤ u9.1 := hmo.1
    have th2 : h2.2.1 ≤ u9.2.1 := hmo.2.1
    have zh2 := cn_sz eh2
    refine cg_new (C0 := C) hw (ci := 5) (fs := [.null, .null, .null, .null, .null, .int 0, .int 0, .int 0]) rfl in_X5 tyX5 tyX5_ok q586 q587 q141 (fun j hj => by rcases (show j = 0 ∨ j = 1 ∨ j = 2 ∨ j = 3 ∨ j = 4 ∨ j = 5 ∨ j = 6 ∨ j = 7 by omega) with rfl | rfl | rfl | rfl | rfl | rfl | rfl | rfl <;> rfl) (show cc + 1 ≤ u9.1 - u.1 by omega) (show ss + 8 ≤ u9.2.1 - u.2.1 by omega) dX4_needs_4 (fun H hw => ?_)
    rw [← eh2] at hw
    refine lv_topr (fun a3 ea3 => ?_)
    have hm := nmK hm ea3
    exact hB7 h2 x0 x2 a3 _ _ _ _ _ hm hw (by omega) (by omega) (lv_sub hl [0, 2] rfl)
def m_X4_isOwn_41 (f : Nat) (h : CH) (y0 : Int32) : Option (Int32 × CH) := gd (zb y0) <|
    some (y0, h)
theorem mo_X4_isOwn_41 {f : Nat} : ∀ (h : CH) (y0 : Int32) (r : (Int32 × CH)), m_X4_isOwn_41 f h y0 = some r → le2 h r.2 := by
  intro h y0 r hm
  rw [m_X4_isOwn_41] at hm
  obtain ⟨g1, hm⟩ := gdE hm
  cases hm
  exact le2.rf
def m_X4_isOwn_36 (f : Nat) (h : CH) : Option (Int32 × CH) := m_X4_isOwn_41 f h (1 : Int32)
theorem mo_X4_isOwn_36 {f : Nat} : ∀ (h : CH) (r : (Int32 × CH)), m_X4_isOwn_36 f h = some r → le2 h r.2 := by
  intro h r hm
  rw [m_X4_isOwn_36] at hm
  exact (mo_X4_isOwn_41  h (1 : Int32) _ hm)
def m_X4_isOwn_33 (f : Nat) (h : CH) (y0 : Int32) : Option (Int32 × CH) := if y0 = 0 then
    m_X4_isOwn_41 f h (0 : Int32)
    else m_X4_isOwn_36 f h
theorem mo_X4_isOwn_33 {f : Nat} : ∀ (h : CH) (y0 : Int32) (r : (Int32 × CH)), m_X4_isOwn_33 f h y0 = some r → le2 h r.2 := by
  intro h y0 r hm
  rw [m_X4_isOwn_33] at hm
  by_cases c1 : y0 = 0
  · have hm := ifT hm c1
    exact (mo_X4_isOwn_41  h (0 : Int32) _ hm)
  · have hm := ifF hm c1
    exact (mo_X4_isOwn_36  h _ hm)
def m_X4_isOwn_24 (f : Nat) (h : CH) (x0 : Nat) (y0 : Int32) : Option (Int32 × CH) := if ¬ y0 = 0 then
    m_X4_isOwn_36 f h
    else bd (sR h (20 + 5)) fun a2 =>
    gd (isC h x0 4) <|
    bd2 (m_X4_isWord f h x0 a2) fun r5 h4 =>
    m_X4_isOwn_33 f h4 r5
theorem mo_X4_isOwn_24 {f : Nat} : ∀ (h : CH) (x0 : Nat) (y0 : Int32) (r : (Int32 × CH)), m_X4_isOwn_24 f h x0 y0 = some r → le2 h r.2 := by
  intro h x0 y0 r hm
  rw [m_X4_isOwn_24] at hm
  by_cases c1 : ¬ y0 = 0
  · have hm := ifT hm c1
    exact (mo_X4_isOwn_36  h _ hm)
  · have hm := ifF hm c1
    obtain ⟨a2, ea2, hm⟩ := bdE hm
    obtain ⟨g3, hm⟩ := gdE hm
    obtain ⟨r5, h4, er5, hm⟩ := bd2E hm
    have lh4 := mo_X4_isWord er5
    exact (lh4.tr (mo_X4_isOwn_33  h4 r5 _ hm))
def m_X4_isOwn_15 (f : Nat) (h : CH) (x0 : Nat) (y0 : Int32) : Option (Int32 × CH) := if ¬ y0 = 0 then
    m_X4_isOwn_36 f h
    else bd (sR h (20 + 4)) fun a2 =>
    gd (isC h x0 4) <|
    bd2 (m_X4_isWord f h x0 a2) fun r5 h4 =>
    m_X4_isOwn_24 f h4 x0 r5
theorem mo_X4_isOwn_15 {f : Nat} : ∀ (h : CH) (x0 : Nat) (y0 : Int32) (r : (Int32 × CH)), m_X4_isOwn_15 f h x0 y0 = some r → le2 h r.2 := by
  intro h x0 y0 r hm
  rw [m_X4_isOwn_15] at hm
  by_cases c1 : ¬ y0 = 0
  · have hm := ifT hm c1
    exact (mo_X4_isOwn_36  h _ hm)
  · have hm := ifF hm c1
    obtain ⟨a2, ea2, hm⟩ := bdE hm
    obtain ⟨g3, hm⟩ := gdE hm
    obtain ⟨r5, h4, er5, hm⟩ := bd2E hm
    have lh4 := mo_X4_isWord er5
    exact (lh4.tr (mo_X4_isOwn_24  h4 x0 r5 _ hm))
def m_X4_isOwn_6 (f : Nat) (h : CH) (x0 : Nat) (y0 : Int32) : Option (Int32 × CH) := if ¬ y0 = 0 then
    m_X4_isOwn_36 f h
    else bd (sR h (20 + 2)) fun a2 =>
    gd (isC h x0 4) <|
    bd2 (m_X4_isWord f h x0 a2) fun r5 h4 =>
    m_X4_isOwn_15 f h4 x0 r5
theorem mo_X4_isOwn_6 {f : Nat} : ∀ (h : CH) (x0 : Nat) (y0 : Int32) (r : (Int32 × CH)), m_X4_isOwn_6 f h x0 y0 = some r → le2 h r.2 := by
  intro h x0 y0 r hm
  rw [m_X4_isOwn_6] at hm
  by_cases c1 : ¬ y0 = 0
  · have hm := ifT hm c1
    exact (mo_X4_isOwn_36  h _ hm)
  · have hm := ifF hm c1
    obtain ⟨a2, ea2, hm⟩ := bdE hm
    obtain ⟨g3, hm⟩ := gdE hm
    obtain ⟨r5, h4, er5, hm⟩ := bd2E hm
    have lh4 := mo_X4_isWord er5
    exact (lh4.tr (mo_X4_isOwn_15  h4 x0 r5 _ hm))
def m_X4_isOwn (f : Nat) (u : CH) (x0 : Nat) : Option (Int32 × CH) := bd (sR u (20 + 3)) fun a1 =>
    gd (isC u x0 4) <|
    bd2 (m_X4_isWord f u x0 a1) fun r4 h3 =>
    m_X4_isOwn_6 f h3 x0 r4
theorem mo_X4_isOwn {f : Nat} {u : CH} {x0 : Nat} {r0 : Int32} {u9 : CH} (hm : m_X4_isOwn f u x0 = some (r0, u9)) : le2 u u9 := by
  rw [m_X4_isOwn] at hm
  obtain ⟨a1, ea1, hm⟩ := bdE hm
  obtain ⟨g2, hm⟩ := gdE hm
  obtain ⟨r4, h3, er4, hm⟩ := bd2E hm
  have lh3 := mo_X4_isWord er4
  exact (lh3.tr (mo_X4_isOwn_6  h3 x0 r4 _ hm))
abbrev rm_X4_isOwn (mc ms : Nat) : Room := { frames := 3, cells := mc, slots := ms, locals := 65 }
theorem cw_X4_isOwn {R : Room} {s : State} {args : Array Value} {own : String} {idx mc ms : Nat} (hts : ∀ w ∈ lw_all, w.before args s = true) (hl : Cond.methodLink own idx yX4_isOwn ∈ lw_all) (hR : 3 + 1 ≤ R.frames ∧ 8 + (1 + 11) + 65 ≤ R.locals) : CallW R s args own RX4 idx yX4_isOwn cX4_isOwn 1 (Option.some Jvm.ClassFile.FieldType.boolean) (ws_ yX4_isOwn cX4_isOwn 1 (Option.some Jvm.ClassFile.FieldType.boolean)) (rm_X4_isOwn mc ms) mc ms 0 := cwV 0 hts (lw_V hl q669 qs7 q126 q670) rfl rfl rfl (by decide +kernel) hR
set_option maxHeartbeats 4000000 in
set_option maxRecDepth 100000 in
theorem w_X4_isOwn (l : Launch) {D : va_G} {dA : Nat → ClassId} {A : Nat → Prop} {f : Nat} {u u9 : CH} {r0 : Int32} {x0 : Nat} (hm : m_X4_isOwn f u x0 = some (r0, u9)) : Met l yX4_isOwn (ws_ yX4_isOwn cX4_isOwn 1 (Option.some Jvm.ClassFile.FieldType.boolean)) (rm_X4_isOwn (u9.1 - u.1) (u9.2.1 - u.2.1)) (va_Pc [.ref x0] (CPre D dA A u)) (va_Qi (fun r u => r = r0 ∧ u = u9) (CPost D dA A) A) (u9.1 - u.1) (u9.2.1 - u.2.1) A := by
  refine Met.ofW (cc := cX4_isOwn) (maxL := 1) (ret := (Option.some Jvm.ClassFile.FieldType.boolean)) (by decide) rfl ?_
  intro p e s m args below meth c s₁ B hml hv
  have hx := B.exec
  have hb := B.bytes
  have hr := B.returns
  have hts := atoms_spec (ws := (ws_ yX4_isOwn cX4_isOwn 1 (Option.some Jvm.ClassFile.FieldType.boolean))) B.pre
  have hts : ∀ w ∈ lw_all, w.before args s = true := fun w h => hts w (List.mem_cons_of_mem _ h)
  have hown : s.vm.findClass RX4 = some m.cls := findClass_of_methodNamed B.named
  have hlocks := B.notSynchronized
  obtain ⟨hav, hv⟩ := hv
  have C : CX p s m args c cX4_isOwn RX4 D dA := ⟨hx, hb, hown, hts, hv.2⟩
  have hw : CW D dA A s u s.heap [] := hv.1
  generalize hQ : MQ below (va_Qi (fun r u => r = r0 ∧ u = u9) (CPost D dA A) A) args s (u9.1 - u.1) (u9.2.1 - u.2.1) A = QQ
  have hent := lg_entry_eq m [.ref x0] 1
  rw [← hav] at hent
  rw [hent]
  have hl := lv_entry ([.ref x0]) (n := 1) (Nat.le_of_ble_eq_true rfl)
  generalize (lg_sl ([.ref x0]) ++ List.replicate (1 - (lg_sl ([.ref x0])).length) Slot.unset).toArray = ls at hl ⊢
  have hl : lv_has ls 1 [(0, .ref x0)] := hl
  obtain ⟨cc, ecc⟩ : ∃ z : Nat, z = 0 := ⟨0, rfl⟩
  obtain ⟨ss, ess⟩ : ∃ z : Nat, z = 0 := ⟨0, rfl⟩
  have hcc : cc + u.1 = u.1 := by omega
  have hss : ss + u.2.1 = u.2.1 := by omega
  suffices hgo : W p l e (rm_X4_isOwn (u9.1 - u.1) (u9.2.1 - u.2.1)) s m args below meth c s.heap [] cc ss QQ (F0 m 0 ls []) by rw [ecc, ess] at hgo; exact hgo
  have ⟨pu, qu, _, _⟩ := mo_X4_isOwn hm
  have hB41 : ∀ (h : CH) (y0 : Int32) (cc ss : Nat) (H : Heap) (locs : List Loc) (ls : Array Slot), m_X4_isOwn_41 f h y0 = some (r0, u9) → CW D dA A s h H locs → cc + u.1 = h.1 → ss + u.2.1 = h.2.1 → lv_has ls 1 [] → W p l e (rm_X4_isOwn (u9.1 - u.1) (u9.2.1 - u.2.1)) s m args below meth c H locs cc ss QQ (F0 m 41 ls [.int y0]) := by
    intro h y0 cc ss H locs ls hm hw hcc hss hl
    have hmo := mo_X4_isOwn_41  h y0 _ hm
    have sb_ : h.1 ≤ u9.1 := hmo.1
    have tb_ : h.2.1 ≤ u9.2.1 := hmo.2.1
    rw [m_X4_isOwn_41] at hm
    obtain ⟨g1, hm⟩ := gdE hm
    obtain ⟨er, eh⟩ := retE hm
    have ec : cc = u9.1 - u.1 := by rw [← eh]; omega
    have es : ss = u9.2.1 - u.2.1 := by rw [← eh]; omega
    rw [ec, es, ← hQ]
    exact W.zret (v := y0) hx hb hr (zb_nar g1) (fun t ht hW => ⟨⟨y0, h, rfl, ⟨er, eh⟩, ⟨by rw [ht]; exact hw.1, by rw [ht]; exact hw.2.1⟩⟩, hw.2.2.1.F ht⟩) hw.2.2.1.2.2 dX4_isOwn_41
  have hB36 : ∀ (h : CH) (cc ss : Nat) (H : Heap) (locs : List Loc) (ls : Array Slot), m_X4_isOwn_36 f h = some (r0, u9) → CW D dA A s h H locs → cc + u.1 = h.1 → ss + u.2.1 = h.2.1 → lv_has ls 1 [] → W p l e (rm_X4_isOwn (u9.1 - u.1) (u9.2.1 - u.2.1)) s m args below meth c H locs cc ss QQ (F0 m 36 ls []) := by
    intro h cc ss H locs ls hm hw hcc hss hl
    have hmo := mo_X4_isOwn_36  h _ hm
    have sb_ : h.1 ≤ u9.1 := hmo.1
    have tb_ : h.2.1 ≤ u9.2.1 := hmo.2.1
    rw [m_X4_isOwn_36] at hm
    refine lv_iconst (v := 1) hx hb dX4_isOwn_36 (by decide) ?_
    refine lv_goto (tgt := 41) hx hb dX4_isOwn_37 (by decide) ?_
    exact hB41 h (1 : Int32) _ _ _ _ _ hm hw (by omega) (by omega) (lv_sub hl [] rfl)
  have hB33 : ∀ (h : CH) (y0 : Int32) (cc ss : Nat) (H : Heap) (locs : List Loc) (ls : Array Slot), m_X4_isOwn_33 f h y0 = some (r0, u9) → CW D dA A s h H locs → cc + u.1 = h.1 → ss + u.2.1 = h.2.1 → lv_has ls 1 [] → W p l e (rm_X4_isOwn (u9.1 - u.1) (u9.2.1 - u.2.1)) s m args below meth c H locs cc ss QQ (F0 m 33 ls [.int y0]) := by
    intro h y0 cc ss H locs ls hm hw hcc hss hl
    have hmo := mo_X4_isOwn_33  h y0 _ hm
    have sb_ : h.1 ≤ u9.1 := hmo.1
    have tb_ : h.2.1 ≤ u9.2.1 := hmo.2.1
    rw [m_X4_isOwn_33] at hm
    refine lv_if_eq (tgt := 40) hx hb dX4_isOwn_33 (by decide) (fun c1 => ?_) (fun c1 => ?_)
    · have hm := ifT hm c1
      refine lv_iconst (v := 0) hx hb dX4_isOwn_40 (by decide) ?_
      exact hB41 h (0 : Int32) _ _ _ _ _ hm hw (by omega) (by omega) (lv_sub hl [] rfl)
    · have hm := ifF hm c1
      exact hB36 h _ _ _ _ _ hm hw (by omega) (by omega) (lv_sub hl [] rfl)
  have hB24 : ∀ (h : CH) (x0 : Nat) (y0 : Int32) (cc ss : Nat) (H : Heap) (locs : List Loc) (ls : Array Slot), m_X4_isOwn_24 f h x0 y0 = some (r0, u9) → CW D dA A s h H locs → cc + u.1 = h.1 → ss + u.2.1 = h.2.1 → lv_has ls 1 [(0, .ref x0)] → W p l e (rm_X4_isOwn (u9.1 - u.1) (u9.2.1 - u.2.1)) s m args below meth c H locs cc ss QQ (F0 m 24 ls [.int y0]) := by
    intro h x0 y0 cc ss H locs ls hm hw hcc hss hl
    have hmo := mo_X4_isOwn_24  h x0 y0 _ hm
    have sb_ : h.1 ≤ u9.1 := hmo.1
    have tb_ : h.2.1 ≤ u9.2.1 := hmo.2.1
    rw [m_X4_isOwn_24] at hm
    refine lv_if_ne (tgt := 36) hx hb dX4_isOwn_24 (by decide) (fun c1 => ?_) (fun c1 => ?_)
    · have hm := ifT hm c1
      exact hB36 h _ _ _ _ _ hm hw (by omega) (by omega) (lv_sub hl [] rfl)
    · have hm := ifT' hm c1
      refine lv_aload_n hx hb dX4_isOwn_27 rfl (lv_at hl 0 rfl) ?_
      obtain ⟨a2, ea2, hm⟩ := bdE hm
      refine cg_ldcs C hw (i := 5) ea2 rfl dX4_isOwn_28 ?_
      obtain ⟨g3, hm⟩ := gdE hm
      obtain ⟨r5, h4, er5, hm⟩ := bd2E hm
      have lh4 := mo_X4_isWord er5
      have ph4 : h.1 ≤ h4.1 := lh4.1
      have qh4 : h.2.1 ≤ h4.2.1 := lh4.2.1
      have hmo := mo_X4_isOwn_33   h4 r5 _ hm
      have sh4 : h4.1 ≤ u9.1 := hmo.1
      have th4 : h4.2.1 ≤ u9.2.1 := hmo.2.1
      refine cg_calli hw lh4 (va_runV (As := [.ref a2]) (rest := []) ⟨hx, hb, hml, hown, hts⟩ (w_X4_isWord l er5) (cw_X4_isWord hts q569 ⟨Nat.le_of_ble_eq_true rfl, Nat.le_of_ble_eq_true rfl⟩) (cg_preV C hw g3 rfl _) rfl rfl hl.1 rfl (lv_room (Nat.le_of_ble_eq_true rfl)) dX4_isOwn_30 ⟨show cc + (h4.1 - h.1) ≤ u9.1 - u.1 by omega, show ss + (h4.2.1 - h.2.1) ≤ u9.2.1 - u.2.1 by omega⟩) (fun H locs hw => ?_)
      exact hB33 h4 r5 _ _ _ _ _ hm hw (by omega) (by omega) (lv_sub hl [] rfl)
  have hB15 : ∀ (h : CH) (x0 : Nat) (y0 : Int32) (cc ss : Nat) (H : Heap) (locs : List Loc) (ls : Array Slot), m_X4_isOwn_15 f h x0 y0 = some (r0, u9) → CW D dA A s h H locs → cc + u.1 = h.1 → ss + u.2.1 = h.2.1 → lv_has ls 1 [(0, .ref x0)] → W p l e (rm_X4_isOwn (u9.1 - u.1) (u9.2.1 - u.2.1)) s m args below meth c H locs cc ss QQ (F0 m 15 ls [.int y0]) := by
    intro h x0 y0 cc ss H locs ls hm hw hcc hss hl
    have hmo := mo_X4_isOwn_15  h x0 y0 _ hm
    have sb_ : h.1 ≤ u9.1 := hmo.1
    have tb_ : h.2.1 ≤ u9.2.1 := hmo.2.1
    rw [m_X4_isOwn_15] at hm
    refine lv_if_ne (tgt := 36) hx hb dX4_isOwn_15 (by decide) (fun c1 => ?_) (fun c1 => ?_)
    · have hm := ifT hm c1
      exact hB36 h _ _ _ _ _ hm hw (by omega) (by omega) (lv_sub hl [] rfl)
    · have hm := ifT' hm c1
      refine lv_aload_n hx hb dX4_isOwn_18 rfl (lv_at hl 0 rfl) ?_
      obtain ⟨a2, ea2, hm⟩ := bdE hm
      refine cg_ldcs C hw (i := 4) ea2 rfl dX4_isOwn_19 ?_
      obtain ⟨g3, hm⟩ := gdE hm
      obtain ⟨r5, h4, er5, hm⟩ := bd2E hm
      have lh4 := mo_X4_isWord er5
      have ph4 : h.1 ≤ h4.1 := lh4.1
      have qh4 : h.2.1 ≤ h4.2.1 := lh4.2.1
      have hmo := mo_X4_isOwn_24   h4 x0 r5 _ hm
      have sh4 : h4.1 ≤ u9.1 := hmo.1
      have th4 : h4.2.1 ≤ u9.2.1 := hmo.2.1
      refine cg_calli hw lh4 (va_runV (As := [.ref a2]) (rest := []) ⟨hx, hb, hml, hown, hts⟩ (w_X4_isWord l er5) (cw_X4_isWord hts q569 ⟨Nat.le_of_ble_eq_true rfl, Nat.le_of_ble_eq_true rfl⟩) (cg_preV C hw g3 rfl _) rfl rfl hl.1 rfl (lv_room (Nat.le_of_ble_eq_true rfl)) dX4_isOwn_21 ⟨show cc + (h4.1 - h.1) ≤ u9.1 - u.1 by omega, show ss + (h4.2.1 - h.2.1) ≤ u9.2.1 - u.2.1 by omega⟩) (fun H locs hw => ?_)
      exact hB24 h4 x0 r5 _ _ _ _ _ hm hw (by omega) (by omega) (lv_sub hl [0] rfl)
  have hB6 : ∀ (h : CH) (x0 : Nat) (y0 : Int32) (cc ss : Nat) (H : Heap) (locs : List Loc) (ls : Array Slot), m_X4_isOwn_6 f h x0 y0 = some (r0, u9) → CW D dA A s h H locs → cc + u.1 = h.1 → ss + u.2.1 = h.2.1 → lv_has ls 1 [(0, .ref x0)] → W p l e (rm_X4_isOwn (u9.1 - u.1) (u9.2.1 - u.2.1)) s m args below meth c H locs cc ss QQ (F0 m 6 ls [.int y0]) := by
    intro h x0 y0 cc ss H locs ls hm hw hcc hss hl
    have hmo := mo_X4_isOwn_6  h x0 y0 _ hm
    have sb_ : h.1 ≤ u9.1 := hmo.1
    have tb_ : h.2.1 ≤ u9.2.1 := hmo.2.1
    rw [m_X4_isOwn_6] at hm
    refine lv_if_ne (tgt := 36) hx hb dX4_isOwn_6 (by decide) (fun c1 => ?_) (fun c1 => ?_)
    · have hm := ifT hm c1
      exact hB36 h _ _ _ _ _ hm hw (by omega) (by omega) (lv_sub hl [] rfl)
    · have hm := ifT' hm c1
      refine lv_aload_n hx hb dX4_isOwn_9 rfl (lv_at hl 0 rfl) ?_
      obtain ⟨a2, ea2, hm⟩ := bdE hm
      refine cg_ldcs C hw (i := 2) ea2 rfl dX4_isOwn_10 ?_
      obtain ⟨g3, hm⟩ := gdE hm
      obtain ⟨r5, h4, er5, hm⟩ := bd2E hm
      have lh4 := mo_X4_isWord er5
      have ph4 : h.1 ≤ h4.1 := lh4.1
      have qh4 : h.2.1 ≤ h4.2.1 := lh4.2.1
      have hmo := mo_X4_isOwn_15   h4 x0 r5 _ hm
      have sh4 : h4.1 ≤ u9.1 := hmo.1
      have th4 : h4.2.1 ≤ u9.2.1 := hmo.2.1
      refine cg_calli hw lh4 (va_runV (As := [.ref a2]) (rest := []) ⟨hx, hb, hml, hown, hts⟩ (w_X4_isWord l er5) (cw_X4_isWord hts q569 ⟨Nat.le_of_ble_eq_true rfl, Nat.le_of_ble_eq_true rfl⟩) (cg_preV C hw g3 rfl _) rfl rfl hl.1 rfl (lv_room (Nat.le_of_ble_eq_true rfl)) dX4_isOwn_12 ⟨show cc + (h4.1 - h.1) ≤ u9.1 - u.1 by omega, show ss + (h4.2.1 - h.2.1) ≤ u9.2.1 - u.2.1 by omega⟩) (fun H locs hw => ?_)
      exact hB15 h4 x0 r5 _ _ _ _ _ hm hw (by omega) (by omega) (lv_sub hl [0] rfl)
  rw [m_X4_isOwn] at hm
  refine lv_aload_n hx hb dX4_isOwn_0 rfl (lv_at hl 0 rfl) ?_
  obtain ⟨a1, ea1, hm⟩ := bdE hm
  refine cg_ldcs C hw (i := 3) ea1 rfl dX4_isOwn_1 ?_
  obtain ⟨g2, hm⟩ := gdE hm
  obtain ⟨r4, h3, er4, hm⟩ := bd2E hm
  have lh3 := mo_X4_isWord er4
  have ph3 : u.1 ≤ h3.1 := lh3.1
  have qh3 : u.2.1 ≤ h3.2.1 := lh3.2.1
  have hmo := mo_X4_isOwn_6   h3 x0 r4 _ hm
  have sh3 : h3.1 ≤ u9.1 := hmo.1
  have th3 : h3.2.1 ≤ u9.2.1 := hmo.2.1
  refine cg_calli hw lh3 (va_runV (As := [.ref a1]) (rest := []) ⟨hx, hb, hml, hown, hts⟩ (w_X4_isWord l er4) (cw_X4_isWord hts q569 ⟨Nat.le_of_ble_eq_true rfl, Nat.le_of_ble_eq_true rfl⟩) (cg_preV C hw g2 rfl _) rfl rfl hl.1 rfl (lv_room (Nat.le_of_ble_eq_true rfl)) dX4_isOwn_3 ⟨show cc + (h3.1 - u.1) ≤ u9.1 - u.1 by omega, show ss + (h3.2.1 - u.2.1) ≤ u9.2.1 - u.2.1 by omega⟩) (fun H locs hw => ?_)
  exact hB6 h3 x0 r4 _ _ _ _ _ hm hw (by omega) (by omega) (lv_sub hl [0] rfl)
def m_X4_asks_14 (f : Nat) (h : CH) : Option ((Unit ⊕ Nat) × CH) := some (.inl (), h)
theorem mo_X4_asks_14 {f : Nat} : ∀ (h : CH) (r : ((Unit ⊕ Nat) × CH)), m_X4_asks_14 f h = some r → le2 h r.2 := by
  intro h r hm
  rw [m_X4_asks_14] at hm
  cases hm
  exact le2.rf
def m_X4_asks_10 (f : Nat) (h : CH) (x0 : Nat) : Option ((Unit ⊕ Nat) × CH) := gd (isC h x0 4) <|
    bd (m_X4_advance f h x0) fun h2 =>
    m_X4_asks_14 f h2
theorem mo_X4_asks_10 {f : Nat} : ∀ (h : CH) (x0 : Nat) (r : ((Unit ⊕ Nat) × CH)), m_X4_asks_10 f h x0 = some r → le2 h r.2 := by
  intro h x0 r hm
  rw [m_X4_asks_10] at hm
  obtain ⟨g1, hm⟩ := gdE hm
  obtain ⟨h2, eh2, hm⟩ := bdE hm
  have lh2 := mo_X4_advance eh2
  exact (lh2.tr (mo_X4_asks_14  h2 _ hm))
def m_X4_asks_6 (f : Nat) (h : CH) (x0 : Nat) (y0 : Nat) (y1 : Int32) : Option ((Unit ⊕ Nat) × CH) := gd (isC h y0 4) <|
    bx (m_X4_needs f h y0 y1 (1 : Int32)) (fun r3 h2 =>
    m_X4_asks_10 f h2 x0) (fun q4 h2 =>
    gd (isC h2 q4 5) <|
    some (.inr q4, h2))
theorem mo_X4_asks_6 {f : Nat} : ∀ (h : CH) (x0 : Nat) (y0 : Nat) (y1 : Int32) (r : ((Unit ⊕ Nat) × CH)), m_X4_asks_6 f h x0 y0 y1 = some r → le2 h r.2 := by
  intro h x0 y0 y1 r hm
  rw [m_X4_asks_6] at hm
  obtain ⟨g1, hm⟩ := gdE hm
  rcases bxE hm with ⟨r3, h2, eh2, hm⟩ | ⟨q4, h2, eh2, hm⟩
  · have lh2 := mo_X4_needs eh2
    exact (lh2.tr (mo_X4_asks_10  h2 x0 _ hm))
  · have lh2 := mo_X4_needs eh2
    obtain ⟨g5, hm⟩ := gdE hm
    cases hm
    exact (lh2.tr le2.rf)
def m_X4_asks (f : Nat) (u : CH) (x0 : Nat) (x1 : Nat) : Option ((Unit ⊕ Nat) × CH) := gd (isC u x0 4) <|
    bd2 (m_X4_isWord f u x0 x1) fun r3 h2 =>
    m_X4_asks_6 f h2 x0 x0 r3
theorem mo_X4_asks {f : Nat} {u : CH} {x0 : Nat} {x1 : Nat} {r0 : Unit ⊕ Nat} {u9 : CH} (hm : m_X4_asks f u x0 x1 = some (r0, u9)) : le2 u u9 := by
  rw [m_X4_asks] at hm
  obtain ⟨g1, hm⟩ := gdE hm
  obtain ⟨r3, h2, er3, hm⟩ := bd2E hm
  have lh2 := mo_X4_isWord er3
  exact (lh2.tr (mo_X4_asks_6  h2 x0 x0 r3 _ hm))
abbrev rm_X4_asks (mc ms : Nat) : Room := { frames := 7, cells := mc, slots := ms, locals := 193 }
theorem cw_X4_asks {R : Room} {s : State} {args : Array Value} {own : String} {idx mc ms : Nat} (hts : ∀ w ∈ lw_all, w.before args s = true) (hl : Cond.methodLink own idx yX4_asks ∈ lw_all) (hR : 7 + 1 ≤ R.frames ∧ 8 + (2 + 11) + 193 ≤ R.locals) : CallW R s args own RX4 idx yX4_asks cX4_asks 2 (Option.none : Option Jvm.ClassFile.FieldType) (ws_ yX4_asks cX4_asks 2 (Option.none : Option Jvm.ClassFile.FieldType)) (rm_X4_asks mc ms) mc ms 1 := cwV 1 hts (lw_V hl q718 qs9 q126 q719) rfl rfl rfl (by decide +kernel) hR
set_option maxHeartbeats 4000000 in
set_option maxRecDepth 100000 in
theorem w_X4_asks (l : Launch) (htl : l.stackTraces = false) {D : va_G} {dA : Nat → ClassId} {A : Nat → Prop} {f : Nat} {u u9 : CH} {r0 : Unit ⊕ Nat} {x0 : Nat} {x1 : Nat} (hm : m_X4_asks f u x0 x1 = some (r0, u9)) : vy_Met l yX4_asks (ws_ yX4_asks cX4_asks 2 (Option.none : Option Jvm.ClassFile.FieldType)) (rm_X4_asks (u9.1 - u.1) (u9.2.1 - u.2.1)) (va_Pc [.ref x0, .ref x1] (CPre D dA A u)) (cxQv D dA A r0 u9) (cxX D dA A r0 u9) (u9.1 - u.1) (u9.2.1 - u.2.1) A := by
  refine vy_ofW (cc := cX4_asks) (maxL := 2) (ret := (Option.none : Option Jvm.ClassFile.FieldType)) (by decide) rfl ?_
  intro p e s m args below meth c s₁ B hml htab hv
  have hx := B.exec
  have hb := B.bytes
  have hr := B.returns
  have hts := atoms_spec (ws := (ws_ yX4_asks cX4_asks 2 (Option.none : Option Jvm.ClassFile.FieldType))) B.pre
  have hts : ∀ w ∈ lw_all, w.before args s = true := fun w h => hts w (List.mem_cons_of_mem _ h)
  have hown : s.vm.findClass RX4 = some m.cls := findClass_of_methodNamed B.named
  have hlocks := B.notSynchronized
  obtain ⟨hav, hv⟩ := hv
  have C : CX p s m args c cX4_asks RX4 D dA := ⟨hx, hb, hown, hts, hv.2⟩
  have hw : CW D dA A s u s.heap [] := hv.1
  generalize hQ : vy_MQ below (cxQv D dA A r0 u9) (cxX D dA A r0 u9) args s (u9.1 - u.1) (u9.2.1 - u.2.1) A = QQ
  have hent := lg_entry_eq m [.ref x0, .ref x1] 2
  rw [← hav] at hent
  rw [hent]
  have hl := lv_entry ([.ref x0, .ref x1]) (n := 2) (Nat.le_of_ble_eq_true rfl)
  generalize (lg_sl ([.ref x0, .ref x1]) ++ List.replicate (2 - (lg_sl ([.ref x0, .ref x1])).length) Slot.unset).toArray = ls at hl ⊢
  have hl : lv_has ls 2 [(0, .ref x0), (1, .ref x1)] := hl
  obtain ⟨cc, ecc⟩ : ∃ z : Nat, z = 0 := ⟨0, rfl⟩
  obtain ⟨ss, ess⟩ : ∃ z : Nat, z = 0 := ⟨0, rfl⟩
  have hcc : cc + u.1 = u.1 := by omega
  have hss : ss + u.2.1 = u.2.1 := by omega
  suffices hgo : W p l e (rm_X4_asks (u9.1 - u.1) (u9.2.1 - u.2.1)) s m args below meth c s.heap [] cc ss QQ (F0 m 0 ls []) by rw [ecc, ess] at hgo; exact hgo
  have ⟨pu, qu, _, _⟩ := mo_X4_asks hm
  have hB14 : ∀ (h : CH) (cc ss : Nat) (H : Heap) (locs : List Loc) (ls : Array Slot), m_X4_asks_14 f h = some (r0, u9) → CW D dA A s h H locs → cc + u.1 = h.1 → ss + u.2.1 = h.2.1 → lv_has ls 2 [] → W p l e (rm_X4_asks (u9.1 - u.1) (u9.2.1 - u.2.1)) s m args below meth c H locs cc ss QQ (F0 m 14 ls []) := by
    intro h cc ss H locs ls hm hw hcc hss hl
    have hmo := mo_X4_asks_14  h _ hm
    have sb_ : h.1 ≤ u9.1 := hmo.1
    have tb_ : h.2.1 ≤ u9.2.1 := hmo.2.1
    rw [m_X4_asks_14] at hm
    obtain ⟨er, eh⟩ := retE hm
    have ec : cc = u9.1 - u.1 := by rw [← eh]; omega
    have es : ss = u9.2.1 - u.2.1 := by rw [← eh]; omega
    rw [ec, es, ← hQ]
    refine vy_ret ?_
    exact W.vret hx hb hr (fun t ht hW => ⟨⟨h, rfl, ⟨er.symm, eh⟩, ⟨by rw [ht]; exact hw.1, by rw [ht]; exact hw.2.1⟩⟩, hw.2.2.1.F ht⟩) hw.2.2.1.2.2 dX4_asks_14
  have hB10 : ∀ (h : CH) (x0 : Nat) (cc ss : Nat) (H : Heap) (locs : List Loc) (ls : Array Slot), m_X4_asks_10 f h x0 = some (r0, u9) → CW D dA A s h H locs → cc + u.1 = h.1 → ss + u.2.1 = h.2.1 → lv_has ls 2 [(0, .ref x0)] → W p l e (rm_X4_asks (u9.1 - u.1) (u9.2.1 - u.2.1)) s m args below meth c H locs cc ss QQ (F0 m 10 ls []) := by
    intro h x0 cc ss H locs ls hm hw hcc hss hl
    have hmo := mo_X4_asks_10  h x0 _ hm
    have sb_ : h.1 ≤ u9.1 := hmo.1
    have tb_ : h.2.1 ≤ u9.2.1 := hmo.2.1
    rw [m_X4_asks_10] at hm
    refine lv_aload_n hx hb dX4_asks_10 rfl (lv_at hl 0 rfl) ?_
    obtain ⟨g1, hm⟩ := gdE hm
    obtain ⟨h2, eh2, hm⟩ := bdE hm
    have lh2 := mo_X4_advance eh2
    have ph2 : h.1 ≤ h2.1 := lh2.1
    have qh2 : h.2.1 ≤ h2.2.1 := lh2.2.1
    have hmo := mo_X4_asks_14   h2 _ hm
    have sh2 : h2.1 ≤ u9.1 := hmo.1
    have th2 : h2.2.1 ≤ u9.2.1 := hmo.2.1
    refine cg_callv hw lh2 (va_runV (As := []) (rest := []) ⟨hx, hb, hml, hown, hts⟩ (w_X4_advance l eh2) (cw_X4_advance hts q351 ⟨Nat.le_of_ble_eq_true rfl, Nat.le_of_ble_eq_true rfl⟩) (cg_preV C hw g1 rfl _) rfl rfl hl.1 rfl (lv_room (Nat.le_of_ble_eq_true rfl)) dX4_asks_11 ⟨show cc + (h2.1 - h.1) ≤ u9.1 - u.1 by omega, show ss + (h2.2.1 - h.2.1) ≤ u9.2.1 - u.2.1 by omega⟩) (fun H locs hw => ?_)
    exact hB14 h2 _ _ _ _ _ hm hw (by omega) (by omega) (lv_sub hl [] rfl)
  have hB6 : ∀ (h : CH) (x0 : Nat) (y0 : Nat) (y1 : Int32) (cc ss : Nat) (H : Heap) (locs : List Loc) (ls : Array Slot), m_X4_asks_6 f h x0 y0 y1 = some (r0, u9) → CW D dA A s h H locs → cc + u.1 = h.1 → ss + u.2.1 = h.2.1 → lv_has ls 2 [(0, .ref x0)] → W p l e (rm_X4_asks (u9.1 - u.1) (u9.2.1 - u.2.1)) s m args below meth c H locs cc ss QQ (F0 m 6 ls [.int y1, .ref y0]) := by
    intro h x0 y0 y1 cc ss H locs ls hm hw hcc hss hl
    have hmo := mo_X4_asks_6  h x0 y0 y1 _ hm
    have sb_ : h.1 ≤ u9.1 := hmo.1
    have tb_ : h.2.1 ≤ u9.2.1 := hmo.2.1
    rw [m_X4_asks_6] at hm
    refine lv_iconst (v := 1) hx hb dX4_asks_6 (by decide) ?_
    obtain ⟨g1, hm⟩ := gdE hm
    rcases bxE hm with ⟨r3, h2, eh2, hm⟩ | ⟨q4, h2, eh2, hm⟩
    · have lh2 := mo_X4_needs eh2
      have ph2 : h.1 ≤ h2.1 := lh2.1
      have qh2 : h.2.1 ≤ h2.2.1 := lh2.2.1
      have hmo := mo_X4_asks_10   h2 x0 _ hm
      have sh2 : h2.1 ≤ u9.1 := hmo.1
      have th2 : h2.2.1 ≤ u9.2.1 := hmo.2.1
      refine cx_callv hw lh2 (vy_runV (As := [.int y1, .int (1 : Int32)]) (rest := []) ⟨hx, hb, hml, hown, hts⟩ (w_X4_needs l htl eh2) (cw_X4_needs hts q582 ⟨Nat.le_of_ble_eq_true rfl, Nat.le_of_ble_eq_true rfl⟩) (cg_preV C hw g1 rfl _) rfl rfl hl.1 rfl (lv_room (Nat.le_of_ble_eq_true rfl)) dX4_asks_7 ⟨show cc + (h2.1 - h.1) ≤ u9.1 - u.1 by omega, show ss + (h2.2.1 - h.2.1) ≤ u9.2.1 - u.2.1 by omega⟩) (fun H locs hw => ?_)
      exact hB10 h2 x0 _ _ _ _ _ hm hw (by omega) (by omega) (lv_sub hl [0] rfl)
    · have lh2 := mo_X4_needs eh2
      have ph2 : h.1 ≤ h2.1 := lh2.1
      have qh2 : h.2.1 ≤ h2.2.1 := lh2.2.1
      obtain ⟨g5, hm⟩ := gdE hm
      have sh2 : h2.1 ≤ u9.1 := by rw [← (retE hm).2]; exact Nat.le_refl _
      have th2 : h2.2.1 ≤ u9.2.1 := by rw [← (retE hm).2]; exact Nat.le_refl _
      refine cx_callX hw lh2 noQv (vy_runV (As := [.int y1, .int (1 : Int32)]) (rest := []) ⟨hx, hb, hml, hown, hts⟩ (w_X4_needs l htl eh2) (cw_X4_needs hts q582 ⟨Nat.le_of_ble_eq_true rfl, Nat.le_of_ble_eq_true rfl⟩) (cg_preV C hw g1 rfl _) rfl rfl hl.1 rfl (lv_room (Nat.le_of_ble_eq_true rfl)) dX4_asks_7 ⟨show cc + (h2.1 - h.1) ≤ u9.1 - u.1 by omega, show ss + (h2.2.1 - h.2.1) ≤ u9.2.1 - u.2.1 by omega⟩) (fun H locs hw => ?_)
      obtain ⟨er, eh⟩ := retE hm
      rw [← hQ]
      exact cx_out C hw g5 (by decide) rfl er eh (fun x hx => (htab x hx).elim) hlocks (by rw [← eh]; omega) (by rw [← eh]; omega)
  rw [m_X4_asks] at hm
  refine lv_aload_n hx hb dX4_asks_0 rfl (lv_at hl 0 rfl) ?_
  refine lv_aload_n hx hb dX4_asks_1 rfl (lv_at hl 0 rfl) ?_
  refine lv_aload_n hx hb dX4_asks_2 rfl (lv_at hl 1 rfl) ?_
  obtain ⟨g1, hm⟩ := gdE hm
  obtain ⟨r3, h2, er3, hm⟩ := bd2E hm
  have lh2 := mo_X4_isWord er3
  have ph2 : u.1 ≤ h2.1 := lh2.1
  have qh2 : u.2.1 ≤ h2.2.1 := lh2.2.1
  have hmo := mo_X4_asks_6   h2 x0 x0 r3 _ hm
  have sh2 : h2.1 ≤ u9.1 := hmo.1
  have th2 : h2.2.1 ≤ u9.2.1 := hmo.2.1
  refine cg_calli hw lh2 (va_runV (As := [.ref x1]) (rest := [.ref x0]) ⟨hx, hb, hml, hown, hts⟩ (w_X4_isWord l er3) (cw_X4_isWord hts q569 ⟨Nat.le_of_ble_eq_true rfl, Nat.le_of_ble_eq_true rfl⟩) (cg_preV C hw g1 rfl _) rfl rfl hl.1 rfl (lv_room (Nat.le_of_ble_eq_true rfl)) dX4_asks_3 ⟨show cc + (h2.1 - u.1) ≤ u9.1 - u.1 by omega, show ss + (h2.2.1 - u.2.1) ≤ u9.2.1 - u.2.1 by omega⟩) (fun H locs hw => ?_)
  exact hB6 h2 x0 x0 r3 _ _ _ _ _ hm hw (by omega) (by omega) (lv_sub hl [0] rfl)
def m_X6_isTurned (f : Nat) (u : CH) (x0 : Nat) : Option (Int32 × CH) := some ((0 : Int32), u)
theorem mo_X6_isTurned {f : Nat} {u : CH} {x0 : Nat} {r0 : Int32} {u9 : CH} (hm : m_X6_isTurned f u x0 = some (r0, u9)) : le2 u u9 := by
  rw [m_X6_isTurned] at hm
  cases hm
  exact le2.rf
abbrev rm_X6_isTurned (mc ms : Nat) : Room := { frames := 0, cells := mc, slots := ms, locals := 0 }
theorem cw_X6_isTurned {R : Room} {s : State} {args : Array Value} {own : String} {idx mc ms : Nat} (hts : ∀ w ∈ lw_all, w.before args s = true) (hl : Cond.methodLink own idx yX6_isTurned ∈ lw_all) (hR : 0 + 1 ≤ R.frames ∧ 8 + (1 + 11) + 0 ≤ R.locals) : CallW R s args own RX6 idx yX6_isTurned cX6_isTurned 1 (Option.some Jvm.ClassFile.FieldType.boolean) (ws_ yX6_isTurned cX6_isTurned 1 (Option.some Jvm.ClassFile.FieldType.boolean)) (rm_X6_isTurned mc ms) mc ms 0 := cwV 0 hts (lw_V hl q735 q736 q143 q741) rfl rfl rfl (by decide +kernel) hR
set_option maxHeartbeats 4000000 in
set_option maxRecDepth 100000 in
theorem w_X6_isTurned (l : Launch) {D : va_G} {dA : Nat → ClassId} {A : Nat → Prop} {f : Nat} {u u9 : CH} {r0 : Int32} {x0 : Nat} (hm : m_X6_isTurned f u x0 = some (r0, u9)) : Met l yX6_isTurned (ws_ yX6_isTurned cX6_isTurned 1 (Option.some Jvm.ClassFile.FieldType.boolean)) (rm_X6_isTurned (u9.1 - u.1) (u9.2.1 - u.2.1)) (va_Pc [.ref x0] (CPre D dA A u)) (va_Qi (fun r u => r = r0 ∧ u = u9) (CPost D dA A) A) (u9.1 - u.1) (u9.2.1 - u.2.1) A := by
  refine Met.ofW (cc := cX6_isTurned) (maxL := 1) (ret := (Option.some Jvm.ClassFile.FieldType.boolean)) (by decide) rfl ?_
  intro p e s m args below meth c s₁ B hml hv
  have hx := B.exec
  have hb := B.bytes
  have hr := B.returns
  have hts := atoms_spec (ws := (ws_ yX6_isTurned cX6_isTurned 1 (Option.some Jvm.ClassFile.FieldType.boolean))) B.pre
  have hts : ∀ w ∈ lw_all, w.before args s = true := fun w h => hts w (List.mem_cons_of_mem _ h)
  have hown : s.vm.findClass RX6 = some m.cls := findClass_of_methodNamed B.named
  have hlocks := B.notSynchronized
  obtain ⟨hav, hv⟩ := hv
  have C : CX p s m args c cX6_isTurned RX6 D dA := ⟨hx, hb, hown, hts, hv.2⟩
  have hw : CW D dA A s u s.heap [] := hv.1
  generalize hQ : MQ below (va_Qi (fun r u => r = r0 ∧ u = u9) (CPost D dA A) A) args s (u9.1 - u.1) (u9.2.1 - u.2.1) A = QQ
  have hent := lg_entry_eq m [.ref x0] 1
  rw [← hav] at hent
  rw [hent]
  have hl := lv_entry ([.ref x0]) (n := 1) (Nat.le_of_ble_eq_true rfl)
  generalize (lg_sl ([.ref x0]) ++ List.replicate (1 - (lg_sl ([.ref x0])).length) Slot.unset).toArray = ls at hl ⊢
  have hl : lv_has ls 1 [(0, .ref x0)] := hl
  obtain ⟨cc, ecc⟩ : ∃ z : Nat, z = 0 := ⟨0, rfl⟩
  obtain ⟨ss, ess⟩ : ∃ z : Nat, z = 0 := ⟨0, rfl⟩
  have hcc : cc + u.1 = u.1 := by omega
  have hss : ss + u.2.1 = u.2.1 := by omega
  suffices hgo : W p l e (rm_X6_isTurned (u9.1 - u.1) (u9.2.1 - u.2.1)) s m args below meth c s.heap [] cc ss QQ (F0 m 0 ls []) by rw [ecc, ess] at hgo; exact hgo
  have ⟨pu, qu, _, _⟩ := mo_X6_isTurned hm
  rw [m_X6_isTurned] at hm
  refine lv_iconst (v := 0) hx hb dX6_isTurned_0 (by decide) ?_
  obtain ⟨er, eh⟩ := retE hm
  have ec : cc = u9.1 - u.1 := by rw [← eh]; omega
  have es : ss = u9.2.1 - u.2.1 := by rw [← eh]; omega
  rw [ec, es, ← hQ]
  exact W.zret (v := (0 : Int32)) hx hb hr rfl (fun t ht hW => ⟨⟨(0 : Int32), u, rfl, ⟨er, eh⟩, ⟨by rw [ht]; exact hw.1, by rw [ht]; exact hw.2.1⟩⟩, hw.2.2.1.F ht⟩) hw.2.2.1.2.2 dX6_isTurned_1
def m_X4_signed_91 (f : Nat) (h : CH) (x3 : Int32) : Option ((Int32 ⊕ Nat) × CH) := some (.inl x3, h)
theorem mo_X4_signed_91 {f : Nat} : ∀ (h : CH) (x3 : Int32) (r : ((Int32 ⊕ Nat) × CH)), m_X4_signed_91 f h x3 = some r → le2 h r.2 := by
  intro h x3 r hm
  rw [m_X4_signed_91] at hm
  cases hm
  exact le2.rf
def m_X4_signed_86 (f : Nat) (h : CH) (x0 : Nat) (y0 : Int32) : Option ((Int32 ⊕ Nat) × CH) := gd (isC h x0 4) <|
    bd (m_X4_advance f h x0) fun h2 =>
    m_X4_signed_91 f h2 y0
theorem mo_X4_signed_86 {f : Nat} : ∀ (h : CH) (x0 : Nat) (y0 : Int32) (r : ((Int32 ⊕ Nat) × CH)), m_X4_signed_86 f h x0 y0 = some r → le2 h r.2 := by
  intro h x0 y0 r hm
  rw [m_X4_signed_86] at hm
  obtain ⟨g1, hm⟩ := gdE hm
  obtain ⟨h2, eh2, hm⟩ := bdE hm
  have lh2 := mo_X4_advance eh2
  exact (lh2.tr (mo_X4_signed_91  h2 y0 _ hm))
def m_X4_signed_62 (f : Nat) (h : CH) (x0 : Nat) (x2 : Int32) : Option ((Int32 ⊕ Nat) × CH) := bd (oI h 4 3 x0) fun v1 =>
    bd (pF h 4 6 x0 (.int v1)) fun h2 =>
    if x2 = 0 then
    bd (oI h2 4 4 x0) fun v4 =>
    m_X4_signed_86 f h2 x0 v4
    else bd (oI h2 4 4 x0) fun v5 =>
    m_X4_signed_86 f h2 x0 (-v5)
theorem mo_X4_signed_62 {f : Nat} : ∀ (h : CH) (x0 : Nat) (x2 : Int32) (r : ((Int32 ⊕ Nat) × CH)), m_X4_signed_62 f h x0 x2 = some r → le2 h r.2 := by
  intro h x0 x2 r hm
  rw [m_X4_signed_62] at hm
  obtain ⟨v1, ev1, hm⟩ := bdE hm
  obtain ⟨h2, eh2, hm⟩ := bdE hm
  have lh2 := pF_le eh2
  by_cases c3 : x2 = 0
  · have hm := ifT hm c3
    obtain ⟨v4, ev4, hm⟩ := bdE hm
    exact (lh2.tr (mo_X4_signed_86  h2 x0 v4 _ hm))
  · have hm := ifF hm c3
    obtain ⟨v5, ev5, hm⟩ := bdE hm
    exact (lh2.tr (mo_X4_signed_86  h2 x0 (-v5) _ hm))
def m_X4_signed_58 (f : Nat) (h : CH) (x0 : Nat) (x2 : Int32) (y0 : Nat) (y1 : Int32) : Option ((Int32 ⊕ Nat) × CH) := gd (isC h y0 4) <|
    bx (m_X4_needs f h y0 y1 (2 : Int32)) (fun r3 h2 =>
    m_X4_signed_62 f h2 x0 x2) (fun q4 h2 =>
    gd (isC h2 q4 5) <|
    some (.inr q4, h2))
theorem mo_X4_signed_58 {f : Nat} : ∀ (h : CH) (x0 : Nat) (x2 : Int32) (y0 : Nat) (y1 : Int32) (r : ((Int32 ⊕ Nat) × CH)), m_X4_signed_58 f h x0 x2 y0 y1 = some r → le2 h r.2 := by
  intro h x0 x2 y0 y1 r hm
  rw [m_X4_signed_58] at hm
  obtain ⟨g1, hm⟩ := gdE hm
  rcases bxE hm with ⟨r3, h2, eh2, hm⟩ | ⟨q4, h2, eh2, hm⟩
  · have lh2 := mo_X4_needs eh2
    exact (lh2.tr (mo_X4_signed_62  h2 x0 x2 _ hm))
  · have lh2 := mo_X4_needs eh2
    obtain ⟨g5, hm⟩ := gdE hm
    cases hm
    exact (lh2.tr le2.rf)
def m_X4_signed_44 (f : Nat) (h : CH) (x0 : Nat) (x1 : Int32) (x2 : Int32) : Option ((Int32 ⊕ Nat) × CH) := bd (oI h 4 4 x0) fun v1 =>
    if x1 < v1 then
    m_X4_signed_58 f h x0 x2 x0 (0 : Int32)
    else m_X4_signed_58 f h x0 x2 x0 (1 : Int32)
theorem mo_X4_signed_44 {f : Nat} : ∀ (h : CH) (x0 : Nat) (x1 : Int32) (x2 : Int32) (r : ((Int32 ⊕ Nat) × CH)), m_X4_signed_44 f h x0 x1 x2 = some r → le2 h r.2 := by
  intro h x0 x1 x2 r hm
  rw [m_X4_signed_44] at hm
  obtain ⟨v1, ev1, hm⟩ := bdE hm
  by_cases c2 : x1 < v1
  · have hm := ifT hm c2
    exact (mo_X4_signed_58  h x0 x2 x0 (0 : Int32) _ hm)
  · have hm := ifF hm c2
    exact (mo_X4_signed_58  h x0 x2 x0 (1 : Int32) _ hm)
def m_X4_signed_40 (f : Nat) (h : CH) (x0 : Nat) (x1 : Int32) (x2 : Int32) (y0 : Nat) (y1 : Int32) : Option ((Int32 ⊕ Nat) × CH) := gd (isC h y0 4) <|
    bx (m_X4_needs f h y0 y1 (1 : Int32)) (fun r3 h2 =>
    m_X4_signed_44 f h2 x0 x1 x2) (fun q4 h2 =>
    gd (isC h2 q4 5) <|
    some (.inr q4, h2))
theorem mo_X4_signed_40 {f : Nat} : ∀ (h : CH) (x0 : Nat) (x1 : Int32) (x2 : Int32) (y0 : Nat) (y1 : Int32) (r : ((Int32 ⊕ Nat) × CH)), m_X4_signed_40 f h x0 x1 x2 y0 y1 = some r → le2 h r.2 := by
  intro h x0 x1 x2 y0 y1 r hm
  rw [m_X4_signed_40] at hm
  obtain ⟨g1, hm⟩ := gdE hm
  rcases bxE hm with ⟨r3, h2, eh2, hm⟩ | ⟨q4, h2, eh2, hm⟩
  · have lh2 := mo_X4_needs eh2
    exact (lh2.tr (mo_X4_signed_44  h2 x0 x1 x2 _ hm))
  · have lh2 := mo_X4_needs eh2
    obtain ⟨g5, hm⟩ := gdE hm
    cases hm
    exact (lh2.tr le2.rf)
def m_X4_signed_24 (f : Nat) (h : CH) (x0 : Nat) (x1 : Int32) (x2 : Int32) : Option ((Int32 ⊕ Nat) × CH) := bd (oR h 4 7 x0) fun a1 =>
    bd (sR h 5) fun a2 =>
    if ¬ a1 = a2 then
    m_X4_signed_40 f h x0 x1 x2 x0 (0 : Int32)
    else m_X4_signed_40 f h x0 x1 x2 x0 (1 : Int32)
theorem mo_X4_signed_24 {f : Nat} : ∀ (h : CH) (x0 : Nat) (x1 : Int32) (x2 : Int32) (r : ((Int32 ⊕ Nat) × CH)), m_X4_signed_24 f h x0 x1 x2 = some r → le2 h r.2 := by
  intro h x0 x1 x2 r hm
  rw [m_X4_signed_24] at hm
  obtain ⟨a1, ea1, hm⟩ := bdE hm
  obtain ⟨a2, ea2, hm⟩ := bdE hm
  by_cases c3 : ¬ a1 = a2
  · have hm := ifT hm c3
    exact (mo_X4_signed_40  h x0 x1 x2 x0 (0 : Int32) _ hm)
  · have hm := ifF hm c3
    exact (mo_X4_signed_40  h x0 x1 x2 x0 (1 : Int32) _ hm)
def m_X4_signed_15 (f : Nat) (h : CH) (x0 : Nat) (x1 : Int32) (y0 : Int32) : Option ((Int32 ⊕ Nat) × CH) := if y0 = 0 then
    m_X4_signed_24 f h x0 x1 y0
    else gd (isC h x0 4) <|
    bd (m_X4_advance f h x0) fun h3 =>
    m_X4_signed_24 f h3 x0 x1 y0
theorem mo_X4_signed_15 {f : Nat} : ∀ (h : CH) (x0 : Nat) (x1 : Int32) (y0 : Int32) (r : ((Int32 ⊕ Nat) × CH)), m_X4_signed_15 f h x0 x1 y0 = some r → le2 h r.2 := by
  intro h x0 x1 y0 r hm
  rw [m_X4_signed_15] at hm
  by_cases c1 : y0 = 0
  · have hm := ifT hm c1
    exact (mo_X4_signed_24  h x0 x1 y0 _ hm)
  · have hm := ifF hm c1
    obtain ⟨g2, hm⟩ := gdE hm
    obtain ⟨h3, eh3, hm⟩ := bdE hm
    have lh3 := mo_X4_advance eh3
    exact (lh3.tr (mo_X4_signed_24  h3 x0 x1 y0 _ hm))
def m_X4_signed (f : Nat) (u : CH) (x0 : Nat) (x1 : Int32) : Option ((Int32 ⊕ Nat) × CH) := bd (oR u 4 7 x0) fun a1 =>
    bd (sR u 3) fun a2 =>
    if ¬ a1 = a2 then
    m_X4_signed_15 f u x0 x1 (0 : Int32)
    else m_X4_signed_15 f u x0 x1 (1 : Int32)
theorem mo_X4_signed {f : Nat} {u : CH} {x0 : Nat} {x1 : Int32} {r0 : Int32 ⊕ Nat} {u9 : CH} (hm : m_X4_signed f u x0 x1 = some (r0, u9)) : le2 u u9 := by
  rw [m_X4_signed] at hm
  obtain ⟨a1, ea1, hm⟩ := bdE hm
  obtain ⟨a2, ea2, hm⟩ := bdE hm
  by_cases c3 : ¬ a1 = a2
  · have hm := ifT hm c3
    exact (mo_X4_signed_15  u x0 x1 (0 : Int32) _ hm)
  · have hm := ifF hm c3
    exact (mo_X4_signed_15  u x0 x1 (1 : Int32) _ hm)
abbrev rm_X4_signed (mc ms : Nat) : Room := { frames := 7, cells := mc, slots := ms, locals := 193 }
theorem cw_X4_signed {R : Room} {s : State} {args : Array Value} {own : String} {idx mc ms : Nat} (hts : ∀ w ∈ lw_all, w.before args s = true) (hl : Cond.methodLink own idx yX4_signed ∈ lw_all) (hR : 7 + 1 ≤ R.frames ∧ 8 + (4 + 11) + 193 ≤ R.locals) : CallW R s args own RX4 idx yX4_signed cX4_signed 4 (Option.some Jvm.ClassFile.FieldType.int) (ws_ yX4_signed cX4_signed 4 (Option.some Jvm.ClassFile.FieldType.int)) (rm_X4_signed mc ms) mc ms 1 := cwV 1 hts (lw_V hl q744 qs10 q126 q745) rfl rfl rfl (by decide +kernel) hR
set_option maxHeartbeats 4000000 in
set_option maxRecDepth 100000 in
theorem w_X4_signed (l : Launch) (htl : l.stackTraces = false) {D : va_G} {dA : Nat → ClassId} {A : Nat → Prop} {f : Nat} {u u9 : CH} {r0 : Int32 ⊕ Nat} {x0 : Nat} {x1 : Int32} (hm : m_X4_signed f u x0 x1 = some (r0, u9)) : vy_Met l yX4_signed (ws_ yX4_signed cX4_signed 4 (Option.some Jvm.ClassFile.FieldType.int)) (rm_X4_signed (u9.1 - u.1) (u9.2.1 - u.2.1)) (va_Pc [.ref x0, .int x1] (CPre D dA A u)) (cxQi D dA A r0 u9) (cxX D dA A r0 u9) (u9.1 - u.1) (u9.2.1 - u.2.1) A := by
  refine vy_ofW (cc := cX4_signed) (maxL := 4) (ret := (Option.some Jvm.ClassFile.FieldType.int)) (by decide) rfl ?_
  intro p e s m args below meth c s₁ B hml htab hv
  have hx := B.exec
  have hb := B.bytes
  have hr := B.returns
  have hts := atoms_spec (ws := (ws_ yX4_signed cX4_signed 4 (Option.some Jvm.ClassFile.FieldType.int))) B.pre
  have hts : ∀ w ∈ lw_all, w.before args s = true := fun w h => hts w (List.mem_cons_of_mem _ h)
  have hown : s.vm.findClass RX4 = some m.cls := findClass_of_methodNamed B.named
  have hlocks := B.notSynchronized
  obtain ⟨hav, hv⟩ := hv
  have C : CX p s m args c cX4_signed RX4 D dA := ⟨hx, hb, hown, hts, hv.2⟩
  have hw : CW D dA A s u s.heap [] := hv.1
  generalize hQ : vy_MQ below (cxQi D dA A r0 u9) (cxX D dA A r0 u9) args s (u9.1 - u.1) (u9.2.1 - u.2.1) A = QQ
  have hent := lg_entry_eq m [.ref x0, .int x1] 4
  rw [← hav] at hent
  rw [hent]
  have hl := lv_entry ([.ref x0, .int x1]) (n := 4) (Nat.le_of_ble_eq_true rfl)
  generalize (lg_sl ([.ref x0, .int x1]) ++ List.replicate (4 - (lg_sl ([.ref x0, .int x1])).length) Slot.unset).toArray = ls at hl ⊢
  have hl : lv_has ls 4 [(0, .ref x0), (1, .int x1)] := hl
  obtain ⟨cc, ecc⟩ : ∃ z : Nat, z = 0 := ⟨0, rfl⟩
  obtain ⟨ss, ess⟩ : ∃ z : Nat, z = 0 := ⟨0, rfl⟩
  have hcc : cc + u.1 = u.1 := by omega
  have hss : ss + u.2.1 = u.2.1 := by omega
  suffices hgo : W p l e (rm_X4_signed (u9.1 - u.1) (u9.2.1 - u.2.1)) s m args below meth c s.heap [] cc ss QQ (F0 m 0 ls []) by rw [ecc, ess] at hgo; exact hgo
  have ⟨pu, qu, _, _⟩ := mo_X4_signed hm
  have hB91 : ∀ (h : CH) (x3 : Int32) (cc ss : Nat) (H : Heap) (locs : List Loc) (ls : Array Slot), m_X4_signed_91 f h x3 = some (r0, u9) → CW D dA A s h H locs → cc + u.1 = h.1 → ss + u.2.1 = h.2.1 → lv_has ls 4 [(3, .int x3)] → W p l e (rm_X4_signed (u9.1 - u.1) (u9.2.1 - u.2.1)) s m args below meth c H locs cc ss QQ (F0 m 91 ls []) := by
    intro h x3 cc ss H locs ls hm hw hcc hss hl
    have hmo := mo_X4_signed_91  h x3 _ hm
    have sb_ : h.1 ≤ u9.1 := hmo.1
    have tb_ : h.2.1 ≤ u9.2.1 := hmo.2.1
    rw [m_X4_signed_91] at hm
    refine lv_iload_n hx hb dX4_signed_91 rfl (lv_at hl 0 rfl) ?_
    obtain ⟨er, eh⟩ := retE hm
    have ec : cc = u9.1 - u.1 := by rw [← eh]; omega
    have es : ss = u9.2.1 - u.2.1 := by rw [← eh]; omega
    rw [ec, es, ← hQ]
    refine vy_ret ?_
    exact W.iret (v := x3) hx hb hr (fun t ht hW => ⟨⟨x3, h, rfl, ⟨er.symm, eh⟩, ⟨by rw [ht]; exact hw.1, by rw [ht]; exact hw.2.1⟩⟩, hw.2.2.1.F ht⟩) hw.2.2.1.2.2 dX4_signed_92
  have hB86 : ∀ (h : CH) (x0 : Nat) (y0 : Int32) (cc ss : Nat) (H : Heap) (locs : List Loc) (ls : Array Slot), m_X4_signed_86 f h x0 y0 = some (r0, u9) → CW D dA A s h H locs → cc + u.1 = h.1 → ss + u.2.1 = h.2.1 → lv_has ls 4 [(0, .ref x0)] → W p l e (rm_X4_signed (u9.1 - u.1) (u9.2.1 - u.2.1)) s m args below meth c H locs cc ss QQ (F0 m 86 ls [.int y0]) := by
    intro h x0 y0 cc ss H locs ls hm hw hcc hss hl
    have hmo := mo_X4_signed_86  h x0 y0 _ hm
    have sb_ : h.1 ≤ u9.1 := hmo.1
    have tb_ : h.2.1 ≤ u9.2.1 := hmo.2.1
    rw [m_X4_signed_86] at hm
    refine lv_istore_n (lv' := [(3, .int y0), (0, .ref x0)]) hx hb dX4_signed_86 rfl hl (by decide) rfl (fun ls hl => ?_)
    refine lv_aload_n hx hb dX4_signed_87 rfl (lv_at hl 1 rfl) ?_
    obtain ⟨g1, hm⟩ := gdE hm
    obtain ⟨h2, eh2, hm⟩ := bdE hm
    have lh2 := mo_X4_advance eh2
    have ph2 : h.1 ≤ h2.1 := lh2.1
    have qh2 : h.2.1 ≤ h2.2.1 := lh2.2.1
    have hmo := mo_X4_signed_91   h2 y0 _ hm
    have sh2 : h2.1 ≤ u9.1 := hmo.1
    have th2 : h2.2.1 ≤ u9.2.1 := hmo.2.1
    refine cg_callv hw lh2 (va_runV (As := []) (rest := []) ⟨hx, hb, hml, hown, hts⟩ (w_X4_advance l eh2) (cw_X4_advance hts q351 ⟨Nat.le_of_ble_eq_true rfl, Nat.le_of_ble_eq_true rfl⟩) (cg_preV C hw g1 rfl _) rfl rfl hl.1 rfl (lv_room (Nat.le_of_ble_eq_true rfl)) dX4_signed_88 ⟨show cc + (h2.1 - h.1) ≤ u9.1 - u.1 by omega, show ss + (h2.2.1 - h.2.1) ≤ u9.2.1 - u.2.1 by omega⟩) (fun H locs hw => ?_)
    exact hB91 h2 y0 _ _ _ _ _ hm hw (by omega) (by omega) (lv_sub hl [0] rfl)
  have hB62 : ∀ (h : CH) (x0 : Nat) (x2 : Int32) (cc ss : Nat) (H : Heap) (locs : List Loc) (ls : Array Slot), m_X4_signed_62 f h x0 x2 = some (r0, u9) → CW D dA A s h H locs → cc + u.1 = h.1 → ss + u.2.1 = h.2.1 → lv_has ls 4 [(0, .ref x0), (2, .int x2)] → W p l e (rm_X4_signed (u9.1 - u.1) (u9.2.1 - u.2.1)) s m args below meth c H locs cc ss QQ (F0 m 62 ls []) := by
    intro h x0 x2 cc ss H locs ls hm hw hcc hss hl
    have hmo := mo_X4_signed_62  h x0 x2 _ hm
    have sb_ : h.1 ≤ u9.1 := hmo.1
    have tb_ : h.2.1 ≤ u9.2.1 := hmo.2.1
    rw [m_X4_signed_62] at hm
    refine lv_aload_n hx hb dX4_signed_62 rfl (lv_at hl 0 rfl) ?_
    refine lv_aload_n hx hb dX4_signed_63 rfl (lv_at hl 0 rfl) ?_
    obtain ⟨v1, ev1, hm⟩ := bdE hm
    refine cg_get C hw (oI_E ev1) rfl in_X4 (by decide) q318 dX4_signed_64 ?_
    obtain ⟨h2, eh2, hm⟩ := bdE hm
    refine cg_put C hw eh2 rfl in_X4 tyX4 tyX4_ok nmX4 (by decide) q322 rfl rfl rfl dX4_signed_67 (fun H locs hw => ?_)
    have zh2 := pF_sz eh2
    refine lv_iload_n hx hb dX4_signed_70 rfl (lv_at hl 1 rfl) ?_
    refine lv_if_eq (tgt := 82) hx hb dX4_signed_71 (by decide) (fun c3 => ?_) (fun c3 => ?_)
    · have hm := ifT hm c3
      refine lv_aload_n hx hb dX4_signed_82 rfl (lv_at hl 0 rfl) ?_
      obtain ⟨v4, ev4, hm⟩ := bdE hm
      refine cg_get C hw (oI_E ev4) rfl in_X4 (by decide) q319 dX4_signed_83 ?_
      exact hB86 h2 x0 v4 _ _ _ _ _ hm hw (by omega) (by omega) (lv_sub hl [0] rfl)
    · have hm := ifF hm c3
      refine lv_aload_n hx hb dX4_signed_74 rfl (lv_at hl 0 rfl) ?_
      obtain ⟨v5, ev5, hm⟩ := bdE hm
      refine cg_get C hw (oI_E ev5) rfl in_X4 (by decide) q319 dX4_signed_75 ?_
      refine lv_ineg hx hb dX4_signed_78 ?_
      refine lv_goto (tgt := 86) hx hb dX4_signed_79 (by decide) ?_
      exact hB86 h2 x0 (-v5) _ _ _ _ _ hm hw (by omega) (by omega) (lv_sub hl [0] rfl)
  have hB58 : ∀ (h : CH) (x0 : Nat) (x2 : Int32) (y0 : Nat) (y1 : Int32) (cc ss : Nat) (H : Heap) (locs : List Loc) (ls : Array Slot), m_X4_signed_58 f h x0 x2 y0 y1 = some (r0, u9) → CW D dA A s h H locs → cc + u.1 = h.1 → ss + u.2.1 = h.2.1 → lv_has ls 4 [(0, .ref x0), (2, .int x2)] → W p l e (rm_X4_signed (u9.1 - u.1) (u9.2.1 - u.2.1)) s m args below meth c H locs cc ss QQ (F0 m 58 ls [.int y1, .ref y0]) := by
    intro h x0 x2 y0 y1 cc ss H locs ls hm hw hcc hss hl
    have hmo := mo_X4_signed_58  h x0 x2 y0 y1 _ hm
    have sb_ : h.1 ≤ u9.1 := hmo.1
    have tb_ : h.2.1 ≤ u9.2.1 := hmo.2.1
    rw [m_X4_signed_58] at hm
    refine lv_iconst (v := 2) hx hb dX4_signed_58 (by decide) ?_
    obtain ⟨g1, hm⟩ := gdE hm
    rcases bxE hm with ⟨r3, h2, eh2, hm⟩ | ⟨q4, h2, eh2, hm⟩
    · have lh2 := mo_X4_needs eh2
      have ph2 : h.1 ≤ h2.1 := lh2.1
      have qh2 : h.2.1 ≤ h2.2.1 := lh2.2.1
      have hmo := mo_X4_signed_62   h2 x0 x2 _ hm
      have sh2 : h2.1 ≤ u9.1 := hmo.1
      have th2 : h2.2.1 ≤ u9.2.1 := hmo.2.1
      refine cx_callv hw lh2 (vy_runV (As := [.int y1, .int (2 : Int32)]) (rest := []) ⟨hx, hb, hml, hown, hts⟩ (w_X4_needs l htl eh2) (cw_X4_needs hts q582 ⟨Nat.le_of_ble_eq_true rfl, Nat.le_of_ble_eq_true rfl⟩) (cg_preV C hw g1 rfl _) rfl rfl hl.1 rfl (lv_room (Nat.le_of_ble_eq_true rfl)) dX4_signed_59 ⟨show cc + (h2.1 - h.1) ≤ u9.1 - u.1 by omega, show ss + (h2.2.1 - h.2.1) ≤ u9.2.1 - u.2.1 by omega⟩) (fun H locs hw => ?_)
      exact hB62 h2 x0 x2 _ _ _ _ _ hm hw (by omega) (by omega) (lv_sub hl [0, 1] rfl)
    · have lh2 := mo_X4_needs eh2
      have ph2 : h.1 ≤ h2.1 := lh2.1
      have qh2 : h.2.1 ≤ h2.2.1 := lh2.2.1
      obtain ⟨g5, hm⟩ := gdE hm
      have sh2 : h2.1 ≤ u9.1 := by rw [← (retE hm).2]; exact Nat.le_refl _
      have th2 : h2.2.1 ≤ u9.2.1 := by rw [← (retE hm).2]; exact Nat.le_refl _
      refine cx_callX hw lh2 noQv (vy_runV (As := [.int y1, .int (2 : Int32)]) (rest := []) ⟨hx, hb, hml, hown, hts⟩ (w_X4_needs l htl eh2) (cw_X4_needs hts q582 ⟨Nat.le_of_ble_eq_true rfl, Nat.le_of_ble_eq_true rfl⟩) (cg_preV C hw g1 rfl _) rfl rfl hl.1 rfl (lv_room (Nat.le_of_ble_eq_true rfl)) dX4_signed_59 ⟨show cc + (h2.1 - h.1) ≤ u9.1 - u.1 by omega, show ss + (h2.2.1 - h.2.1) ≤ u9.2.1 - u.2.1 by omega⟩) (fun H locs hw => ?_)
      obtain ⟨er, eh⟩ := retE hm
      rw [← hQ]
      exact cx_out C hw g5 (by decide) rfl er eh (fun x hx => (htab x hx).elim) hlocks (by rw [← eh]; omega) (by rw [← eh]; omega)
  have hB44 : ∀ (h : CH) (x0 : Nat) (x1 : Int32) (x2 : Int32) (cc ss : Nat) (H : Heap) (locs : List Loc) (ls : Array Slot), m_X4_signed_44 f h x0 x1 x2 = some (r0, u9) → CW D dA A s h H locs → cc + u.1 = h.1 → ss + u.2.1 = h.2.1 → lv_has ls 4 [(0, .ref x0), (1, .int x1), (2, .int x2)] → W p l e (rm_X4_signed (u9.1 - u.1) (u9.2.1 - u.2.1)) s m args below meth c H locs cc ss QQ (F0 m 44 ls []) := by
    intro h x0 x1 x2 cc ss H locs ls hm hw hcc hss hl
    have hmo := mo_X4_signed_44  h x0 x1 x2 _ hm
    have sb_ : h.1 ≤ u9.1 := hmo.1
    have tb_ : h.2.1 ≤ u9.2.1 := hmo.2.1
    rw [m_X4_signed_44] at hm
    refine lv_aload_n hx hb dX4_signed_44 rfl (lv_at hl 0 rfl) ?_
    refine lv_aload_n hx hb dX4_signed_45 rfl (lv_at hl 0 rfl) ?_
    obtain ⟨v1, ev1, hm⟩ := bdE hm
    refine cg_get C hw (oI_E ev1) rfl in_X4 (by decide) q319 dX4_signed_46 ?_
    refine lv_iload_n hx hb dX4_signed_49 rfl (lv_at hl 1 rfl) ?_
    refine lv_icmp_gt (tgt := 57) hx hb dX4_signed_50 (by decide) (fun c2 => ?_) (fun c2 => ?_)
    · have hm := ifT hm c2
      refine lv_iconst (v := 0) hx hb dX4_signed_57 (by decide) ?_
      exact hB58 h x0 x2 x0 (0 : Int32) _ _ _ _ _ hm hw (by omega) (by omega) (lv_sub hl [0, 2] rfl)
    · have hm := ifF hm c2
      refine lv_iconst (v := 1) hx hb dX4_signed_53 (by decide) ?_
      refine lv_goto (tgt := 58) hx hb dX4_signed_54 (by decide) ?_
      exact hB58 h x0 x2 x0 (1 : Int32) _ _ _ _ _ hm hw (by omega) (by omega) (lv_sub hl [0, 2] rfl)
  have hB40 : ∀ (h : CH) (x0 : Nat) (x1 : Int32) (x2 : Int32) (y0 : Nat) (y1 : Int32) (cc ss : Nat) (H : Heap) (locs : List Loc) (ls : Array Slot), m_X4_signed_40 f h x0 x1 x2 y0 y1 = some (r0, u9) → CW D dA A s h H locs → cc + u.1 = h.1 → ss + u.2.1 = h.2.1 → lv_has ls 4 [(0, .ref x0), (1, .int x1), (2, .int x2)] → W p l e (rm_X4_signed (u9.1 - u.1) (u9.2.1 - u.2.1)) s m args below meth c H locs cc ss QQ (F0 m 40 ls [.int y1, .ref y0]) := by
    intro h x0 x1 x2 y0 y1 cc ss H locs ls hm hw hcc hss hl
    have hmo := mo_X4_signed_40  h x0 x1 x2 y0 y1 _ hm
    have sb_ : h.1 ≤ u9.1 := hmo.1
    have tb_ : h.2.1 ≤ u9.2.1 := hmo.2.1
    rw [m_X4_signed_40] at hm
    refine lv_iconst (v := 1) hx hb dX4_signed_40 (by decide) ?_
    obtain ⟨g1, hm⟩ := gdE hm
    rcases bxE hm with ⟨r3, h2, eh2, hm⟩ | ⟨q4, h2, eh2, hm⟩
    · have lh2 := mo_X4_needs eh2
      have ph2 : h.1 ≤ h2.1 := lh2.1
      have qh2 : h.2.1 ≤ h2.2.1 := lh2.2.1
      have hmo := mo_X4_signed_44   h2 x0 x1 x2 _ hm
      have sh2 : h2.1 ≤ u9.1 := hmo.1
      have th2 : h2.2.1 ≤ u9.2.1 := hmo.2.1
      refine cx_callv hw lh2 (vy_runV (As := [.int y1, .int (1 : Int32)]) (rest := []) ⟨hx, hb, hml, hown, hts⟩ (w_X4_needs l htl eh2) (cw_X4_needs hts q582 ⟨Nat.le_of_ble_eq_true rfl, Nat.le_of_ble_eq_true rfl⟩) (cg_preV C hw g1 rfl _) rfl rfl hl.1 rfl (lv_room (Nat.le_of_ble_eq_true rfl)) dX4_signed_41 ⟨show cc + (h2.1 - h.1) ≤ u9.1 - u.1 by omega, show ss + (h2.2.1 - h.2.1) ≤ u9.2.1 - u.2.1 by omega⟩) (fun H locs hw => ?_)
      exact hB44 h2 x0 x1 x2 _ _ _ _ _ hm hw (by omega) (by omega) (lv_sub hl [0, 1, 2] rfl)
    · have lh2 := mo_X4_needs eh2
      have ph2 : h.1 ≤ h2.1 := lh2.1
      have qh2 : h.2.1 ≤ h2.2.1 := lh2.2.1
      obtain ⟨g5, hm⟩ := gdE hm
      have sh2 : h2.1 ≤ u9.1 := by rw [← (retE hm).2]; exact Nat.le_refl _
      have th2 : h2.2.1 ≤ u9.2.1 := by rw [← (retE hm).2]; exact Nat.le_refl _
      refine cx_callX hw lh2 noQv (vy_runV (As := [.int y1, .int (1 : Int32)]) (rest := []) ⟨hx, hb, hml, hown, hts⟩ (w_X4_needs l htl eh2) (cw_X4_needs hts q582 ⟨Nat.le_of_ble_eq_true rfl, Nat.le_of_ble_eq_true rfl⟩) (cg_preV C hw g1 rfl _) rfl rfl hl.1 rfl (lv_room (Nat.le_of_ble_eq_true rfl)) dX4_signed_41 ⟨show cc + (h2.1 - h.1) ≤ u9.1 - u.1 by omega, show ss + (h2.2.1 - h.2.1) ≤ u9.2.1 - u.2.1 by omega⟩) (fun H locs hw => ?_)
      obtain ⟨er, eh⟩ := retE hm
      rw [← hQ]
      exact cx_out C hw g5 (by decide) rfl er eh (fun x hx => (htab x hx).elim) hlocks (by rw [← eh]; omega) (by rw [← eh]; omega)
  have hB24 : ∀ (h : CH) (x0 : Nat) (x1 : Int32) (x2 : Int32) (cc ss : Nat) (H : Heap) (locs : List Loc) (ls : Array Slot), m_X4_signed_24 f h x0 x1 x2 = some (r0, u9) → CW D dA A s h H locs → cc + u.1 = h.1 → ss + u.2.1 = h.2.1 → lv_has ls 4 [(0, .ref x0), (1, .int x1), (2, .int x2)] → W p l e (rm_X4_signed (u9.1 - u.1) (u9.2.1 - u.2.1)) s m args below meth c H locs cc ss QQ (F0 m 24 ls []) := by
    intro h x0 x1 x2 cc ss H locs ls hm hw hcc hss hl
    have hmo := mo_X4_signed_24  h x0 x1 x2 _ hm
    have sb_ : h.1 ≤ u9.1 := hmo.1
    have tb_ : h.2.1 ≤ u9.2.1 := hmo.2.1
    rw [m_X4_signed_24] at hm
    refine lv_aload_n hx hb dX4_signed_24 rfl (lv_at hl 0 rfl) ?_
    refine lv_aload_n hx hb dX4_signed_25 rfl (lv_at hl 0 rfl) ?_
    obtain ⟨a1, ea1, hm⟩ := bdE hm
    refine cg_get C hw (oR_E ea1) rfl in_X4 (by decide) q323 dX4_signed_26 ?_
    obtain ⟨a2, ea2, hm⟩ := bdE hm
    refine cg_gets C hw (i := 5) ea2 rfl q556 dX4_signed_29 ?_
    refine cg_acmp_ne (tgt := 39) hx hb dX4_signed_32 (by decide) (fun c3 => ?_) (fun c3 => ?_)
    · have hm := ifT hm c3
      refine lv_iconst (v := 0) hx hb dX4_signed_39 (by decide) ?_
      exact hB40 h x0 x1 x2 x0 (0 : Int32) _ _ _ _ _ hm hw (by omega) (by omega) (lv_sub hl [0, 1, 2] rfl)
    · have hm := ifT' hm c3
      refine lv_iconst (v := 1) hx hb dX4_signed_35 (by decide) ?_
      refine lv_goto (tgt := 40) hx hb dX4_signed_36 (by decide) ?_
      exact hB40 h x0 x1 x2 x0 (1 : Int32) _ _ _ _ _ hm hw (by omega) (by omega) (lv_sub hl [0, 1, 2] rfl)
  have hB15 : ∀ (h : CH) (x0 : Nat) (x1 : Int32) (y0 : Int32) (cc ss : Nat) (H : Heap) (locs : List Loc) (ls : Array Slot), m_X4_signed_15 f h x0 x1 y0 = some (r0, u9) → CW D dA A s h H locs → cc + u.1 = h.1 → ss + u.2.1 = h.2.1 → lv_has ls 4 [(0, .ref x0), (1, .int x1)] → W p l e (rm_X4_signed (u9.1 - u.1) (u9.2.1 - u.2.1)) s m args below meth c H locs cc ss QQ (F0 m 15 ls [.int y0]) := by
    intro h x0 x1 y0 cc ss H locs ls hm hw hcc hss hl
    have hmo := mo_X4_signed_15  h x0 x1 y0 _ hm
    have sb_ : h.1 ≤ u9.1 := hmo.1
    have tb_ : h.2.1 ≤ u9.2.1 := hmo.2.1
    rw [m_X4_signed_15] at hm
    refine lv_istore_n (lv' := [(2, .int y0), (0, .ref x0), (1, .int x1)]) hx hb dX4_signed_15 rfl hl (by decide) rfl (fun ls hl => ?_)
    refine lv_iload_n hx hb dX4_signed_16 rfl (lv_at hl 0 rfl) ?_
    refine lv_if_eq (tgt := 24) hx hb dX4_signed_17 (by decide) (fun c1 => ?_) (fun c1 => ?_)
    · have hm := ifT hm c1
      exact hB24 h x0 x1 y0 _ _ _ _ _ hm hw (by omega) (by omega) (lv_sub hl [1, 2, 0] rfl)
    · have hm := ifF hm c1
      refine lv_aload_n hx hb dX4_signed_20 rfl (lv_at hl 1 rfl) ?_
      obtain ⟨g2, hm⟩ := gdE hm
      obtain ⟨h3, eh3, hm⟩ := bdE hm
      have lh3 := mo_X4_advance eh3
      have ph3 : h.1 ≤ h3.1 := lh3.1
      have qh3 : h.2.1 ≤ h3.2.1 := lh3.2.1
      have hmo := mo_X4_signed_24   h3 x0 x1 y0 _ hm
      have sh3 : h3.1 ≤ u9.1 := hmo.1
      have th3 : h3.2.1 ≤ u9.2.1 := hmo.2.1
      refine cg_callv hw lh3 (va_runV (As := []) (rest := []) ⟨hx, hb, hml, hown, hts⟩ (w_X4_advance l eh3) (cw_X4_advance hts q351 ⟨Nat.le_of_ble_eq_true rfl, Nat.le_of_ble_eq_true rfl⟩) (cg_preV C hw g2 rfl _) rfl rfl hl.1 rfl (lv_room (Nat.le_of_ble_eq_true rfl)) dX4_signed_21 ⟨show cc + (h3.1 - h.1) ≤ u9.1 - u.1 by omega, show ss + (h3.2.1 - h.2.1) ≤ u9.2.1 - u.2.1 by omega⟩) (fun H locs hw => ?_)
      exact hB24 h3 x0 x1 y0 _ _ _ _ _ hm hw (by omega) (by omega) (lv_sub hl [1, 2, 0] rfl)
  rw [m_X4_signed] at hm
  refine lv_aload_n hx hb dX4_signed_0 rfl (lv_at hl 0 rfl) ?_
  obtain ⟨a1, ea1, hm⟩ := bdE hm
  refine cg_get C hw (oR_E ea1) rfl in_X4 (by decide) q323 dX4_signed_1 ?_
  obtain ⟨a2, ea2, hm⟩ := bdE hm
  refine cg_gets C hw (i := 3) ea2 rfl q560 dX4_signed_4 ?_
  refine cg_acmp_ne (tgt := 14) hx hb dX4_signed_7 (by decide) (fun c3 => ?_) (fun c3 => ?_)
  · have hm := ifT hm c3
    refine lv_iconst (v := 0) hx hb dX4_signed_14 (by decide) ?_
    exact hB15 u x0 x1 (0 : Int32) _ _ _ _ _ hm hw (by omega) (by omega) (lv_sub hl [0, 1] rfl)
  · have hm := ifT' hm c3
    refine lv_iconst (v := 1) hx hb dX4_signed_10 (by decide) ?_
    refine lv_goto (tgt := 15) hx hb dX4_signed_11 (by decide) ?_
    exact hB15 u x0 x1 (1 : Int32) _ _ _ _ _ hm hw (by omega) (by omega) (lv_sub hl [0, 1] rfl)
def m_X6_init_12 (f : Nat) (h : CH) (y0 : Nat) (y1 : Nat) : Option CH := bd (pF h 6 0 y0 (.ref y1)) fun h1 =>
    some h1
theorem mo_X6_init_12 {f : Nat} : ∀ (h : CH) (y0 : Nat) (y1 : Nat) (r : CH), m_X6_init_12 f h y0 y1 = some r → le2 h r := by
  intro h y0 y1 r hm
  rw [m_X6_init_12] at hm
  obtain ⟨h1, eh1, hm⟩ := bdE hm
  have lh1 := pF_le eh1
  cases hm
  exact (lh1.tr le2.rf)
def m_X6_init_8 (f : Nat) (h : CH) (y0 : Nat) (y1 : Nat) : Option CH := bd (m_X2_init f h y1) fun h1 =>
    m_X6_init_12 f h1 y0 y1
theorem mo_X6_init_8 {f : Nat} : ∀ (h : CH) (y0 : Nat) (y1 : Nat) (r : CH), m_X6_init_8 f h y0 y1 = some r → le2 h r := by
  intro h y0 y1 r hm
  rw [m_X6_init_8] at hm
  obtain ⟨h1, eh1, hm⟩ := bdE hm
  have lh1 := mo_X2_init eh1
  exact (lh1.tr (mo_X6_init_12  h1 y0 y1 _ hm))
def m_X6_init (f : Nat) (u : CH) (x0 : Nat) : Option CH := nmv (cn u 1 (.inl (3, [.null]))) fun h1 =>
    nmv (u.1 : Nat) fun a2 =>
    m_X6_init_8 f h1 x0 a2
theorem mo_X6_init {f : Nat} {u : CH} {x0 : Nat} {u9 : CH} (hm : m_X6_init f u x0 = some u9) : le2 u u9 := by
  rw [m_X6_init] at hm
  obtain ⟨h1, eh1, hm⟩ := nmE hm
  have lh1 := cn_le eh1
  obtain ⟨a2, ea2, hm⟩ := nmE hm
  exact (lh1.tr (mo_X6_init_8  h1 x0 a2 _ hm))
abbrev rm_X6_init (mc ms : Nat) : Room := { frames := 2, cells := mc, slots := ms, locals := 40 }
theorem cw_X6_init {R : Room} {s : State} {args : Array Value} {own : String} {idx mc ms : Nat} (hts : ∀ w ∈ lw_all, w.before args s = true) (hl : Cond.methodLink own idx yX6_init ∈ lw_all) (hR : 2 + 1 ≤ R.frames ∧ 8 + (1 + 11) + 40 ≤ R.locals) : CallB R s args own idx yX6_init cX6_init 1 none (ws_ yX6_init cX6_init 1 (Option.none : Option Jvm.ClassFile.FieldType)) (rm_X6_init mc ms) mc ms 0 ∧ yX6_init.name = "<init>" ∧ (Cond.instanceMethod yX6_init).before args s = true := cwI 0 hts (lw_meth q753) rfl rfl rfl (hts _ q143) (hts _ hl) (hts _ q752) rfl (by decide +kernel) hR
set_option maxHeartbeats 4000000 in
set_option maxRecDepth 100000 in
theorem w_X6_init (l : Launch) {D : va_G} {dA : Nat → ClassId} {A : Nat → Prop} {f : Nat} {u u9 : CH} {x0 : Nat} (hm : m_X6_init f u x0 = some u9) : Met l yX6_init (ws_ yX6_init cX6_init 1 (Option.none : Option Jvm.ClassFile.FieldType)) (rm_X6_init (u9.1 - u.1) (u9.2.1 - u.2.1)) (va_Pc [.ref x0] (CPre D dA A u)) (va_Qv (fun u => u = u9) (CPost D dA A) A) (u9.1 - u.1) (u9.2.1 - u.2.1) A := by
  refine Met.ofW (cc := cX6_init) (maxL := 1) (ret := (Option.none : Option Jvm.ClassFile.FieldType)) (by decide) rfl ?_
  intro p e s m args below meth c s₁ B hml hv
  have hx := B.exec
  have hb := B.bytes
  have hr := B.returns
  have hts := atoms_spec (ws := (ws_ yX6_init cX6_init 1 (Option.none : Option Jvm.ClassFile.FieldType))) B.pre
  have hts : ∀ w ∈ lw_all, w.before args s = true := fun w h => hts w (List.mem_cons_of_mem _ h)
  have hown : s.vm.findClass RX6 = some m.cls := findClass_of_methodNamed B.named
  have hlocks := B.notSynchronized
  have hin : meth.name = "<init>" := (name_of_methodNamed B.named B.method).1
  obtain ⟨hav, hv⟩ := hv
  have C : CX p s m args c cX6_init RX6 D dA := ⟨hx, hb, hown, hts, hv.2⟩
  have hw : CW D dA A s u s.heap [] := hv.1
  generalize hQ : MQ below (va_Qv (fun u => u = u9) (CPost D dA A) A) args s (u9.1 - u.1) (u9.2.1 - u.2.1) A = QQ
  have hent := lg_entry_eq m [.ref x0] 1
  rw [← hav] at hent
  rw [hent]
  have hl := lv_entry ([.ref x0]) (n := 1) (Nat.le_of_ble_eq_true rfl)
  generalize (lg_sl ([.ref x0]) ++ List.replicate (1 - (lg_sl ([.ref x0])).length) Slot.unset).toArray = ls at hl ⊢
  have hl : lv_has ls 1 [(0, .ref x0)] := hl
  obtain ⟨cc, ecc⟩ : ∃ z : Nat, z = 0 := ⟨0, rfl⟩
  obtain ⟨ss, ess⟩ : ∃ z : Nat, z = 0 := ⟨0, rfl⟩
  have hcc : cc + u.1 = u.1 := by omega
  have hss : ss + u.2.1 = u.2.1 := by omega
  suffices hgo : W p l e (rm_X6_init (u9.1 - u.1) (u9.2.1 - u.2.1)) s m args below meth c s.heap [] cc ss QQ (F0 m 0 ls []) by rw [ecc, ess] at hgo; exact hgo
  have ⟨pu, qu, _, _⟩ := mo_X6_init hm
  have hB12 : ∀ (h : CH) (y0 : Nat) (y1 : Nat) (cc ss : Nat) (H : Heap) (locs : List Loc) (ls : Array Slot), m_X6_init_12 f h y0 y1 = some u9 → CW D dA A s h H locs → cc + u.1 = h.1 → ss + u.2.1 = h.2.1 → lv_has ls 1 [] → W p l e (rm_X6_init (u9.1 - u.1) (u9.2.1 - u.2.1)) s m args below meth c H locs cc ss QQ (F0 m 12 ls [.ref y1, .ref y0]) := by
    intro h y0 y1 cc ss H locs ls hm hw hcc hss hl
    have hmo := mo_X6_init_12  h y0 y1 _ hm
    have sb_ : h.1 ≤ u9.1 := hmo.1
    have tb_ : h.2.1 ≤ u9.2.1 := hmo.2.1
    rw [m_X6_init_12] at hm
    obtain ⟨h1, eh1, hm⟩ := bdE hm
    refine cg_put C hw eh1 rfl in_X6 tyX6 tyX6_ok nmX6 (by decide) q766 rfl rfl rfl dX6_init_12 (fun H locs hw => ?_)
    have zh1 := pF_sz eh1
    have eh := ret1 hm
    have ec : cc = u9.1 - u.1 := by rw [← eh]; omega
    have es : ss = u9.2.1 - u.2.1 := by rw [← eh]; omega
    rw [ec, es, ← hQ]
    exact W.vret hx hb hr (fun t ht hW => ⟨⟨h1, rfl, eh, ⟨by rw [ht]; exact hw.1, by rw [ht]; exact hw.2.1⟩⟩, hw.2.2.1.F ht⟩) hw.2.2.1.2.2 dX6_init_15
  have hB8 : ∀ (h : CH) (y0 : Nat) (y1 : Nat) (cc ss : Nat) (H : Heap) (locs : List Loc) (ls : Array Slot), m_X6_init_8 f h y0 y1 = some u9 → CW D dA A s h H locs → cc + u.1 = h.1 → ss + u.2.1 = h.2.1 → lv_has ls 1 [] → W p l e (rm_X6_init (u9.1 - u.1) (u9.2.1 - u.2.1)) s m args below meth c H locs cc ss QQ (F0 m 8 ls [.ref y1, .ref y0]) := by
    intro h y0 y1 cc ss H locs ls hm hw hcc hss hl
    have hmo := mo_X6_init_8  h y0 y1 _ hm
    have sb_ : h.1 ≤ u9.1 := hmo.1
    have tb_ : h.2.1 ≤ u9.2.1 := hmo.2.1
    rw [m_X6_init_8] at hm
    refine lv_dup hx hb dX6_init_8 rfl ?_
    obtain ⟨h1, eh1, hm⟩ := bdE hm
    have lh1 := mo_X2_init eh1
    have ph1 : h.1 ≤ h1.1 := lh1.1
    have qh1 : h.2.1 ≤ h1.2.1 := lh1.2.1
    have hmo := mo_X6_init_12   h1 y0 y1 _ hm
    have sh1 : h1.1 ≤ u9.1 := hmo.1
    have th1 : h1.2.1 ≤ u9.2.1 := hmo.2.1
    refine cg_callv hw lh1 (va_runIN (As := []) (rest := [.ref y1, .ref y0]) ⟨hx, hb, hml, hown, hts⟩ (w_X2_init l eh1) ⟨va_cnB 0 hts (lw_meth q201) rfl rfl rfl (hw.2.2.2.2.1 _ (List.mem_of_getElem? (i := 71) rfl)) (hts _ q124) (by decide +kernel) ⟨Nat.le_of_ble_eq_true rfl, Nat.le_of_ble_eq_true rfl⟩, rfl, hts _ q200⟩ (cg_preS C hw _) rfl rfl hl.1 rfl (lv_room (Nat.le_of_ble_eq_true rfl)) dX6_init_9 ⟨show cc + (h1.1 - h.1) ≤ u9.1 - u.1 by omega, show ss + (h1.2.1 - h.2.1) ≤ u9.2.1 - u.2.1 by omega⟩) (fun H locs hw => ?_)
    exact hB12 h1 y0 y1 _ _ _ _ _ hm hw (by omega) (by omega) (lv_sub hl [] rfl)
  rw [m_X6_init] at hm
  refine lv_aload_n hx hb dX6_init_0 rfl (lv_at hl 0 rfl) ?_
  refine W.objInit hx hb hown (hts _ q754) (hts _ q161) (hts _ q162) rfl (by rw [hml]; exact hl.1) rfl dX6_init_1 (Nat.le_of_ble_eq_true rfl) (Nat.le_of_ble_eq_true rfl) ?_
  refine W.eq (g2 := F0 m 4 ls []) rfl ?_
  refine lv_aload_n hx hb dX6_init_4 rfl (lv_at hl 0 rfl) ?_
  obtain ⟨h1, eh1, hm⟩ := nmE hm
  obtain ⟨_, _, hmq⟩ := nmE hm
  have hmo := mo_X6_init_8   h1 x0 _ _ hmq
  have sh1 : h1.1 ≤ u9.1 := hmo.1
  have th1 : h1.2.1 ≤ u9.2.1 := hmo.2.1
  have zh1 := cn_sz eh1
  refine cg_new (C0 := C) hw (ci := 3) (fs := [.null]) rfl in_X2 tyX2 tyX2_ok q755 q198 q124 (fun j hj => by rcases (show j = 0 by omega) with rfl <;> rfl) (show cc + 1 ≤ u9.1 - u.1 by omega) (show ss + 1 ≤ u9.2.1 - u.2.1 by omega) dX6_init_5 (fun H hw => ?_)
  rw [← eh1] at hw
  refine lv_topr (fun a2 ea2 => ?_)
  have hm := nmK hm ea2
  exact hB8 h1 x0 a2 _ _ _ _ _ hm hw (by omega) (by omega) (lv_sub hl [] rfl)
def m_X6_init_X7_12 (f : Nat) (h : CH) (y0 : Nat) (y1 : Nat) : Option CH := bd (pF h 7 0 y0 (.ref y1)) fun h1 =>
    some h1
theorem mo_X6_init_X7_12 {f : Nat} : ∀ (h : CH) (y0 : Nat) (y1 : Nat) (r : CH), m_X6_init_X7_12 f h y0 y1 = some r → le2 h r := by
  intro h y0 y1 r hm
  rw [m_X6_init_X7_12] at hm
  obtain ⟨h1, eh1, hm⟩ := bdE hm
  have lh1 := pF_le eh1
  cases hm
  exact (lh1.tr le2.rf)
def m_X6_init_X7_8 (f : Nat) (h : CH) (y0 : Nat) (y1 : Nat) : Option CH := bd (m_X2_init f h y1) fun h1 =>
    m_X6_init_X7_12 f h1 y0 y1
theorem mo_X6_init_X7_8 {f : Nat} : ∀ (h : CH) (y0 : Nat) (y1 : Nat) (r : CH), m_X6_init_X7_8 f h y0 y1 = some r → le2 h r := by
  intro h y0 y1 r hm
  rw [m_X6_init_X7_8] at hm
  obtain ⟨h1, eh1, hm⟩ := bdE hm
  have lh1 := mo_X2_init eh1
  exact (lh1.tr (mo_X6_init_X7_12  h1 y0 y1 _ hm))
def m_X6_init_X7 (f : Nat) (u : CH) (x0 : Nat) : Option CH := nmv (cn u 1 (.inl (3, [.null]))) fun h1 =>
    nmv (u.1 : Nat) fun a2 =>
    m_X6_init_X7_8 f h1 x0 a2
theorem mo_X6_init_X7 {f : Nat} {u : CH} {x0 : Nat} {u9 : CH} (hm : m_X6_init_X7 f u x0 = some u9) : le2 u u9 := by
  rw [m_X6_init_X7] at hm
  obtain ⟨h1, eh1, hm⟩ := nmE hm
  have lh1 := cn_le eh1
  obtain ⟨a2, ea2, hm⟩ := nmE hm
  exact (lh1.tr (mo_X6_init_X7_8  h1 x0 a2 _ hm))
abbrev rm_X6_init_X7 (mc ms : Nat) : Room := { frames := 2, cells := mc, slots := ms, locals := 40 }
theorem cw_X6_init_X7 {R : Room} {s : State} {args : Array Value} {own : String} {idx mc ms : Nat} (hts : ∀ w ∈ lw_all, w.before args s = true) (hl : Cond.methodLink own idx yX6_init ∈ lw_all) (hR : 2 + 1 ≤ R.frames ∧ 8 + (1 + 11) + 40 ≤ R.locals) : CallB R s args own idx yX6_init cX6_init 1 none (ws_ yX6_init cX6_init 1 (Option.none : Option Jvm.ClassFile.FieldType)) (rm_X6_init_X7 mc ms) mc ms 0 ∧ yX6_init.name = "<init>" ∧ (Cond.instanceMethod yX6_init).before args s = true := cwI 0 hts (lw_meth q753) rfl rfl rfl (hts _ q143) (hts _ hl) (hts _ q752) rfl (by decide +kernel) hR
set_option maxHeartbeats 4000000 in
set_option maxRecDepth 100000 in
theorem w_X6_init_X7 (l : Launch) {D : va_G} {dA : Nat → ClassId} {A : Nat → Prop} {f : Nat} {u u9 : CH} {x0 : Nat} (hm : m_X6_init_X7 f u x0 = some u9) : Met l yX6_init (ws_ yX6_init cX6_init 1 (Option.none : Option Jvm.ClassFile.FieldType)) (rm_X6_init_X7 (u9.1 - u.1) (u9.2.1 - u.2.1)) (va_Pc [.ref x0] (CPre D dA A u)) (va_Qv (fun u => u = u9) (CPost D dA A) A) (u9.1 - u.1) (u9.2.1 - u.2.1) A := by
  refine Met.ofW (cc := cX6_init) (maxL := 1) (ret := (Option.none : Option Jvm.ClassFile.FieldType)) (by decide) rfl ?_
  intro p e s m args below meth c s₁ B hml hv
  have hx := B.exec
  have hb := B.bytes
  have hr := B.returns
  have hts := atoms_spec (ws := (ws_ yX6_init cX6_init 1 (Option.none : Option Jvm.ClassFile.FieldType))) B.pre
  have hts : ∀ w ∈ lw_all, w.before args s = true := fun w h => hts w (List.mem_cons_of_mem _ h)
  have hown : s.vm.findClass RX6 = some m.cls := findClass_of_methodNamed B.named
  have hlocks := B.notSynchronized
  have hin : meth.name = "<init>" := (name_of_methodNamed B.named B.method).1
  obtain ⟨hav, hv⟩ := hv
  have C : CX p s m args c cX6_init RX6 D dA := ⟨hx, hb, hown, hts, hv.2⟩
  have hw : CW D dA A s u s.heap [] := hv.1
  generalize hQ : MQ below (va_Qv (fun u => u = u9) (CPost D dA A) A) args s (u9.1 - u.1) (u9.2.1 - u.2.1) A = QQ
  have hent := lg_entry_eq m [.ref x0] 1
  rw [← hav] at hent
  rw [hent]
  have hl := lv_entry ([.ref x0]) (n := 1) (Nat.le_of_ble_eq_true rfl)
  generalize (lg_sl ([.ref x0]) ++ List.replicate (1 - (lg_sl ([.ref x0])).length) Slot.unset).toArray = ls at hl ⊢
  have hl : lv_has ls 1 [(0, .ref x0)] := hl
  obtain ⟨cc, ecc⟩ : ∃ z : Nat, z = 0 := ⟨0, rfl⟩
  obtain ⟨ss, ess⟩ : ∃ z : Nat, z = 0 := ⟨0, rfl⟩
  have hcc : cc + u.1 = u.1 := by omega
  have hss : ss + u.2.1 = u.2.1 := by omega
  suffices hgo : W p l e (rm_X6_init_X7 (u9.1 - u.1) (u9.2.1 - u.2.1)) s m args below meth c s.heap [] cc ss QQ (F0 m 0 ls []) by rw [ecc, ess] at hgo; exact hgo
  have ⟨pu, qu, _, _⟩ := mo_X6_init_X7 hm
  have hB12 : ∀ (h : CH) (y0 : Nat) (y1 : Nat) (cc ss : Nat) (H : Heap) (locs : List Loc) (ls : Array Slot), m_X6_init_X7_12 f h y0 y1 = some u9 → CW D dA A s h H locs → cc + u.1 = h.1 → ss + u.2.1 = h.2.1 → lv_has ls 1 [] → W p l e (rm_X6_init_X7 (u9.1 - u.1) (u9.2.1 - u.2.1)) s m args below meth c H locs cc ss QQ (F0 m 12 ls [.ref y1, .ref y0]) := by
    intro h y0 y1 cc ss H locs ls hm hw hcc hss hl
    have hmo := mo_X6_init_X7_12  h y0 y1 _ hm
    have sb_ : h.1 ≤ u9.1 := hmo.1
    have tb_ : h.2.1 ≤ u9.2.1 := hmo.2.1
    rw [m_X6_init_X7_12] at hm
    obtain ⟨h1, eh1, hm⟩ := bdE hm
    refine cg_put C hw eh1 rfl in_X7 tyX7 tyX7_ok nmX7 (by decide) q766 rfl rfl rfl dX6_init_12 (fun H locs hw => ?_)
    have zh1 := pF_sz eh1
    have eh := ret1 hm
    have ec : cc = u9.1 - u.1 := by rw [← eh]; omega
    have es : ss = u9.2.1 - u.2.1 := by rw [← eh]; omega
    rw [ec, es, ← hQ]
    exact W.vret hx hb hr (fun t ht hW => ⟨⟨h1, rfl, eh, ⟨by rw [ht]; exact hw.1, by rw [ht]; exact hw.2.1⟩⟩, hw.2.2.1.F ht⟩) hw.2.2.1.2.2 dX6_init_15
  have hB8 : ∀ (h : CH) (y0 : Nat) (y1 : Nat) (cc ss : Nat) (H : Heap) (locs : List Loc) (ls : Array Slot), m_X6_init_X7_8 f h y0 y1 = some u9 → CW D dA A s h H locs → cc + u.1 = h.1 → ss + u.2.1 = h.2.1 → lv_has ls 1 [] → W p l e (rm_X6_init_X7 (u9.1 - u.1) (u9.2.1 - u.2.1)) s m args below meth c H locs cc ss QQ (F0 m 8 ls [.ref y1, .ref y0]) := by
    intro h y0 y1 cc ss H locs ls hm hw hcc hss hl
    have hmo := mo_X6_init_X7_8  h y0 y1 _ hm
    have sb_ : h.1 ≤ u9.1 := hmo.1
    have tb_ : h.2.1 ≤ u9.2.1 := hmo.2.1
    rw [m_X6_init_X7_8] at hm
    refine lv_dup hx hb dX6_init_8 rfl ?_
    obtain ⟨h1, eh1, hm⟩ := bdE hm
    have lh1 := mo_X2_init eh1
    have ph1 : h.1 ≤ h1.1 := lh1.1
    have qh1 : h.2.1 ≤ h1.2.1 := lh1.2.1
    have hmo := mo_X6_init_X7_12   h1 y0 y1 _ hm
    have sh1 : h1.1 ≤ u9.1 := hmo.1
    have th1 : h1.2.1 ≤ u9.2.1 := hmo.2.1
    refine cg_callv hw lh1 (va_runIN (As := []) (rest := [.ref y1, .ref y0]) ⟨hx, hb, hml, hown, hts⟩ (w_X2_init l eh1) ⟨va_cnB 0 hts (lw_meth q201) rfl rfl rfl (hw.2.2.2.2.1 _ (List.mem_of_getElem? (i := 71) rfl)) (hts _ q124) (by decide +kernel) ⟨Nat.le_of_ble_eq_true rfl, Nat.le_of_ble_eq_true rfl⟩, rfl, hts _ q200⟩ (cg_preS C hw _) rfl rfl hl.1 rfl (lv_room (Nat.le_of_ble_eq_true rfl)) dX6_init_9 ⟨show cc + (h1.1 - h.1) ≤ u9.1 - u.1 by omega, show ss + (h1.2.1 - h.2.1) ≤ u9.2.1 - u.2.1 by omega⟩) (fun H locs hw => ?_)
    exact hB12 h1 y0 y1 _ _ _ _ _ hm hw (by omega) (by omega) (lv_sub hl [] rfl)
  rw [m_X6_init_X7] at hm
  refine lv_aload_n hx hb dX6_init_0 rfl (lv_at hl 0 rfl) ?_
  refine W.objInit hx hb hown (hts _ q754) (hts _ q161) (hts _ q162) rfl (by rw [hml]; exact hl.1) rfl dX6_init_1 (Nat.le_of_ble_eq_true rfl) (Nat.le_of_ble_eq_true rfl) ?_
  refine W.eq (g2 := F0 m 4 ls []) rfl ?_
  refine lv_aload_n hx hb dX6_init_4 rfl (lv_at hl 0 rfl) ?_
  obtain ⟨h1, eh1, hm⟩ := nmE hm
  obtain ⟨_, _, hmq⟩ := nmE hm
  have hmo := mo_X6_init_X7_8   h1 x0 _ _ hmq
  have sh1 : h1.1 ≤ u9.1 := hmo.1
  have th1 : h1.2.1 ≤ u9.2.1 := hmo.2.1
  have zh1 := cn_sz eh1
  refine cg_new (C0 := C) hw (ci := 3) (fs := [.null]) rfl in_X2 tyX2 tyX2_ok q755 q198 q124 (fun j hj => by rcases (show j = 0 by omega) with rfl <;> rfl) (show cc + 1 ≤ u9.1 - u.1 by omega) (show ss + 1 ≤ u9.2.1 - u.2.1 by omega) dX6_init_5 (fun H hw => ?_)
  rw [← eh1] at hw
  refine lv_topr (fun a2 ea2 => ?_)
  have hm := nmK hm ea2
  exact hB8 h1 x0 a2 _ _ _ _ _ hm hw (by omega) (by omega) (lv_sub hl [] rfl)
def m_X7_init_277 (f : Nat) (h : CH) (x0 : Nat) (x3 : Int32) (x4 : Int32) (x5 : Int32) (x6 : Int32) : Option CH := bd (pF h 7 3 x0 (.long (Int32.toInt64 ((((x3 * x3) + (x4 * x4)) + (x5 * x5)) + (x6 * x6))))) fun h1 =>
    bd (pF h1 7 4 x0 (.long (Int32.toInt64 ((((x3 * x3) - (x4 * x4)) - (x5 * x5)) - (x6 * x6))))) fun h2 =>
    some h2
theorem mo_X7_init_277 {f : Nat} : ∀ (h : CH) (x0 : Nat) (x3 : Int32) (x4 : Int32) (x5 : Int32) (x6 : Int32) (r : CH), m_X7_init_277 f h x0 x3 x4 x5 x6 = some r → le2 h r := by
  intro h x0 x3 x4 x5 x6 r hm
  rw [m_X7_init_277] at hm
  obtain ⟨h1, eh1, hm⟩ := bdE hm
  have lh1 := pF_le eh1
  obtain ⟨h2, eh2, hm⟩ := bdE hm
  have lh2 := pF_le eh2
  cases hm
  exact (lh1.tr (lh2.tr le2.rf))
def m_X7_init_271 (f : Nat) (k228 : CH → Nat → Int32 → Int32 → Int32 → Int32 → Nat → Int32 → Option CH) (h : CH) (x0 : Nat) (x3 : Int32) (x4 : Int32) (x5 : Int32) (x6 : Int32) (x7 : Nat) (x8 : Int32) : Option CH := nmv ((x8 + 1) : Int32) fun v1 =>
    k228 h x0 x3 x4 x5 x6 x7 v1
theorem mo_X7_init_271 {f : Nat} {k228 : CH → Nat → Int32 → Int32 → Int32 → Int32 → Nat → Int32 → Option CH} (hk228 : ∀ (h : CH) (x0 : Nat) (x3 : Int32) (x4 : Int32) (x5 : Int32) (x6 : Int32) (x7 : Nat) (x8 : Int32) (r : CH), k228 h x0 x3 x4 x5 x6 x7 x8 = some r → le2 h r) : ∀ (h : CH) (x0 : Nat) (x3 : Int32) (x4 : Int32) (x5 : Int32) (x6 : Int32) (x7 : Nat) (x8 : Int32) (r : CH), m_X7_init_271 f k228 h x0 x3 x4 x5 x6 x7 x8 = some r → le2 h r := by
  intro h x0 x3 x4 x5 x6 x7 x8 r hm
  rw [m_X7_init_271] at hm
  obtain ⟨v1, ev1, hm⟩ := nmE hm
  exact (hk228 h x0 x3 x4 x5 x6 x7 v1 _ hm)
def m_X7_init_237 (f : Nat) (k228 : CH → Nat → Int32 → Int32 → Int32 → Int32 → Nat → Int32 → Option CH) : Nat → CH → Nat → Int32 → Int32 → Int32 → Int32 → Nat → Int32 → Int32 → Option CH
  | 0, _, _, _, _, _, _, _, _, _ => none
  | n237 + 1, h, x0, x3, x4, x5, x6, x7, x8, x9 => if (3 : Int32) ≤ x9 then
    m_X7_init_271 f k228 h x0 x3 x4 x5 x6 x7 x8
    else bd (oR h 7 2 x0) fun a2 =>
    bd (oR h 3 0 a2) fun a3 =>
    bd (aR h 4 a3 x9) fun a4 =>
    bd (aR h 5 x7 x8) fun a5 =>
    bd (aI h 0 a5 x9) fun v6 =>
    bd (uL h 1 a4 x8 (Int32.toInt64 v6)) fun h7 =>
    nmv ((x9 + 1) : Int32) fun v8 =>
    m_X7_init_237 f k228 n237 h7 x0 x3 x4 x5 x6 x7 x8 v8
theorem mo_X7_init_237 {f : Nat} {k228 : CH → Nat → Int32 → Int32 → Int32 → Int32 → Nat → Int32 → Option CH} (hk228 : ∀ (h : CH) (x0 : Nat) (x3 : Int32) (x4 : Int32) (x5 : Int32) (x6 : Int32) (x7 : Nat) (x8 : Int32) (r : CH), k228 h x0 x3 x4 x5 x6 x7 x8 = some r → le2 h r) : ∀ (n237 : Nat) (h : CH) (x0 : Nat) (x3 : Int32) (x4 : Int32) (x5 : Int32) (x6 : Int32) (x7 : Nat) (x8 : Int32) (x9 : Int32) (r : CH), m_X7_init_237 f k228 n237 h x0 x3 x4 x5 x6 x7 x8 x9 = some r → le2 h r := by
  intro n237
  induction n237 with
  | zero => intro h x0 x3 x4 x5 x6 x7 x8 x9 r hm; rw [m_X7_init_237] at hm; exact noE hm
  | succ n237 ihm =>
    intro h x0 x3 x4 x5 x6 x7 x8 x9 r hm
    rw [m_X7_init_237] at hm
    by_cases c1 : (3 : Int32) ≤ x9
    · have hm := ifT hm c1
      exact (mo_X7_init_271 hk228 h x0 x3 x4 x5 x6 x7 x8 _ hm)
    · have hm := ifF hm c1
      obtain ⟨a2, ea2, hm⟩ := bdE hm
      obtain ⟨a3, ea3, hm⟩ := bdE hm
      obtain ⟨a4, ea4, hm⟩ := bdE hm
      obtain ⟨a5, ea5, hm⟩ := bdE hm
      obtain ⟨v6, ev6, hm⟩ := bdE hm
      obtain ⟨h7, eh7, hm⟩ := bdE hm
      have lh7 := uL_le eh7
      obtain ⟨v8, ev8, hm⟩ := nmE hm
      exact (lh7.tr (ihm h7 x0 x3 x4 x5 x6 x7 x8 v8 _ hm))
def m_X7_init_228 (f : Nat) : Nat → CH → Nat → Int32 → Int32 → Int32 → Int32 → Nat → Int32 → Option CH
  | 0, _, _, _, _, _, _, _, _ => none
  | n228 + 1, h, x0, x3, x4, x5, x6, x7, x8 => if (3 : Int32) ≤ x8 then
    m_X7_init_277 f h x0 x3 x4 x5 x6
    else m_X7_init_237 f (m_X7_init_228 f n228) f h x0 x3 x4 x5 x6 x7 x8 (0 : Int32)
theorem mo_X7_init_228 {f : Nat} : ∀ (n228 : Nat) (h : CH) (x0 : Nat) (x3 : Int32) (x4 : Int32) (x5 : Int32) (x6 : Int32) (x7 : Nat) (x8 : Int32) (r : CH), m_X7_init_228 f n228 h x0 x3 x4 x5 x6 x7 x8 = some r → le2 h r := by
  intro n228
  induction n228 with
  | zero => intro h x0 x3 x4 x5 x6 x7 x8 r hm; rw [m_X7_init_228] at hm; exact noE hm
  | succ n228 ihm =>
    intro h x0 x3 x4 x5 x6 x7 x8 r hm
    rw [m_X7_init_228] at hm
    by_cases c1 : (3 : Int32) ≤ x8
    · have hm := ifT hm c1
      exact (mo_X7_init_277  h x0 x3 x4 x5 x6 _ hm)
    · have hm := ifF hm c1
      exact (mo_X7_init_237 ihm f h x0 x3 x4 x5 x6 x7 x8 (0 : Int32) _ hm)
def m_X7_init_222 (f : Nat) (h : CH) (x0 : Nat) (x3 : Int32) (x4 : Int32) (x5 : Int32) (x6 : Int32) (x7 : Nat) (y0 : Nat) (y1 : Nat) : Option CH := bd (pF h 7 2 y0 (.ref y1)) fun h1 =>
    m_X7_init_228 f f h1 x0 x3 x4 x5 x6 x7 (0 : Int32)
theorem mo_X7_init_222 {f : Nat} : ∀ (h : CH) (x0 : Nat) (x3 : Int32) (x4 : Int32) (x5 : Int32) (x6 : Int32) (x7 : Nat) (y0 : Nat) (y1 : Nat) (r : CH), m_X7_init_222 f h x0 x3 x4 x5 x6 x7 y0 y1 = some r → le2 h r := by
  intro h x0 x3 x4 x5 x6 x7 y0 y1 r hm
  rw [m_X7_init_222] at hm
  obtain ⟨h1, eh1, hm⟩ := bdE hm
  have lh1 := pF_le eh1
  exact (lh1.tr (mo_X7_init_228  f h1 x0 x3 x4 x5 x6 x7 (0 : Int32) _ hm))
def m_X7_init_218 (f : Nat) (h : CH) (x0 : Nat) (x3 : Int32) (x4 : Int32) (x5 : Int32) (x6 : Int32) (x7 : Nat) (y0 : Nat) (y1 : Nat) : Option CH := bd (m_X2_init f h y1) fun h1 =>
    m_X7_init_222 f h1 x0 x3 x4 x5 x6 x7 y0 y1
theorem mo_X7_init_218 {f : Nat} : ∀ (h : CH) (x0 : Nat) (x3 : Int32) (x4 : Int32) (x5 : Int32) (x6 : Int32) (x7 : Nat) (y0 : Nat) (y1 : Nat) (r : CH), m_X7_init_218 f h x0 x3 x4 x5 x6 x7 y0 y1 = some r → le2 h r := by
  intro h x0 x3 x4 x5 x6 x7 y0 y1 r hm
  rw [m_X7_init_218] at hm
  obtain ⟨h1, eh1, hm⟩ := bdE hm
  have lh1 := mo_X2_init eh1
  exact (lh1.tr (mo_X7_init_222  h1 x0 x3 x4 x5 x6 x7 y0 y1 _ hm))
def m_X7_init_157 (f : Nat) (h : CH) (x0 : Nat) (x3 : Int32) (x4 : Int32) (x5 : Int32) (x6 : Int32) (y0 : Nat) (y1 : Nat) (y2 : Int32) (y3 : Nat) : Option CH := bd (uI h 0 y3 (0 : Int32) ((2 : Int32) * ((x4 * x6) - (x3 * x5)))) fun h1 =>
    bd (uI h1 0 y3 (1 : Int32) ((2 : Int32) * ((x5 * x6) + (x3 * x4)))) fun h2 =>
    bd (uI h2 0 y3 (2 : Int32) ((((x3 * x3) - (x4 * x4)) - (x5 * x5)) + (x6 * x6))) fun h3 =>
    bd (aN h3 0 y3) fun n4 =>
    bd (uQ h3 5 y1 y2 (some y3)) fun h5 =>
    nmv (cn h5 1 (.inl (3, [.null]))) fun h6 =>
    nmv (h5.1 : Nat) fun a7 =>
    m_X7_init_218 f h6 x0 x3 x4 x5 x6 y0 x0 a7
theorem mo_X7_init_157 {f : Nat} : ∀ (h : CH) (x0 : Nat) (x3 : Int32) (x4 : Int32) (x5 : Int32) (x6 : Int32) (y0 : Nat) (y1 : Nat) (y2 : Int32) (y3 : Nat) (r : CH), m_X7_init_157 f h x0 x3 x4 x5 x6 y0 y1 y2 y3 = some r → le2 h r := by
  intro h x0 x3 x4 x5 x6 y0 y1 y2 y3 r hm
  rw [m_X7_init_157] at hm
  obtain ⟨h1, eh1, hm⟩ := bdE hm
  have lh1 := uI_le eh1
  obtain ⟨h2, eh2, hm⟩ := bdE hm
  have lh2 := uI_le eh2
  obtain ⟨h3, eh3, hm⟩ := bdE hm
  have lh3 := uI_le eh3
  obtain ⟨n4, en4, hm⟩ := bdE hm
  obtain ⟨h5, eh5, hm⟩ := bdE hm
  have lh5 := uQ_le eh5
  obtain ⟨h6, eh6, hm⟩ := nmE hm
  have lh6 := cn_le eh6
  obtain ⟨a7, ea7, hm⟩ := nmE hm
  exact (lh1.tr (lh2.tr (lh3.tr (lh5.tr (lh6.tr (mo_X7_init_218  h6 x0 x3 x4 x5 x6 y0 x0 a7 _ hm))))))
def m_X7_init_97 (f : Nat) (h : CH) (x0 : Nat) (x3 : Int32) (x4 : Int32) (x5 : Int32) (x6 : Int32) (y0 : Nat) (y1 : Nat) (y2 : Int32) (y3 : Nat) : Option CH := bd (uI h 0 y3 (0 : Int32) ((2 : Int32) * ((x4 * x5) + (x3 * x6)))) fun h1 =>
    bd (uI h1 0 y3 (1 : Int32) ((((x3 * x3) - (x4 * x4)) + (x5 * x5)) - (x6 * x6))) fun h2 =>
    bd (uI h2 0 y3 (2 : Int32) ((2 : Int32) * ((x5 * x6) - (x3 * x4)))) fun h3 =>
    bd (aN h3 0 y3) fun n4 =>
    bd (uQ h3 5 y1 y2 (some y3)) fun h5 =>
    nmv (cn h5 3 (.inr (0, 3, .inl (fun _ => 0)))) fun h6 =>
    nmv (h5.1 : Nat) fun a7 =>
    m_X7_init_157 f h6 x0 x3 x4 x5 x6 y0 y0 (2 : Int32) a7
theorem mo_X7_init_97 {f : Nat} : ∀ (h : CH) (x0 : Nat) (x3 : Int32) (x4 : Int32) (x5 : Int32) (x6 : Int32) (y0 : Nat) (y1 : Nat) (y2 : Int32) (y3 : Nat) (r : CH), m_X7_init_97 f h x0 x3 x4 x5 x6 y0 y1 y2 y3 = some r → le2 h r := by
  intro h x0 x3 x4 x5 x6 y0 y1 y2 y3 r hm
  rw [m_X7_init_97] at hm
  obtain ⟨h1, eh1, hm⟩ := bdE hm
  have lh1 := uI_le eh1
  obtain ⟨h2, eh2, hm⟩ := bdE hm
  have lh2 := uI_le eh2
  obtain ⟨h3, eh3, hm⟩ := bdE hm
  have lh3 := uI_le eh3
  obtain ⟨n4, en4, hm⟩ := bdE hm
  obtain ⟨h5, eh5, hm⟩ := bdE hm
  have lh5 := uQ_le eh5
  obtain ⟨h6, eh6, hm⟩ := nmE hm
  have lh6 := cn_le eh6
  obtain ⟨a7, ea7, hm⟩ := nmE hm
  exact (lh1.tr (lh2.tr (lh3.tr (lh5.tr (lh6.tr (mo_X7_init_157  h6 x0 x3 x4 x5 x6 y0 y0 (2 : Int32) a7 _ hm))))))
def m_X7_init_37 (f : Nat) (h : CH) (x0 : Nat) (x3 : Int32) (x4 : Int32) (x5 : Int32) (x6 : Int32) (y0 : Nat) (y1 : Nat) (y2 : Int32) (y3 : Nat) : Option CH := bd (uI h 0 y3 (0 : Int32) ((((x3 * x3) + (x4 * x4)) - (x5 * x5)) - (x6 * x6))) fun h1 =>
    bd (uI h1 0 y3 (1 : Int32) ((2 : Int32) * ((x4 * x5) - (x3 * x6)))) fun h2 =>
    bd (uI h2 0 y3 (2 : Int32) ((2 : Int32) * ((x4 * x6) + (x3 * x5)))) fun h3 =>
    bd (aN h3 0 y3) fun n4 =>
    bd (uQ h3 5 y1 y2 (some y3)) fun h5 =>
    nmv (cn h5 3 (.inr (0, 3, .inl (fun _ => 0)))) fun h6 =>
    nmv (h5.1 : Nat) fun a7 =>
    m_X7_init_97 f h6 x0 x3 x4 x5 x6 y0 y0 (1 : Int32) a7
theorem mo_X7_init_37 {f : Nat} : ∀ (h : CH) (x0 : Nat) (x3 : Int32) (x4 : Int32) (x5 : Int32) (x6 : Int32) (y0 : Nat) (y1 : Nat) (y2 : Int32) (y3 : Nat) (r : CH), m_X7_init_37 f h x0 x3 x4 x5 x6 y0 y1 y2 y3 = some r → le2 h r := by
  intro h x0 x3 x4 x5 x6 y0 y1 y2 y3 r hm
  rw [m_X7_init_37] at hm
  obtain ⟨h1, eh1, hm⟩ := bdE hm
  have lh1 := uI_le eh1
  obtain ⟨h2, eh2, hm⟩ := bdE hm
  have lh2 := uI_le eh2
  obtain ⟨h3, eh3, hm⟩ := bdE hm
  have lh3 := uI_le eh3
  obtain ⟨n4, en4, hm⟩ := bdE hm
  obtain ⟨h5, eh5, hm⟩ := bdE hm
  have lh5 := uQ_le eh5
  obtain ⟨h6, eh6, hm⟩ := nmE hm
  have lh6 := cn_le eh6
  obtain ⟨a7, ea7, hm⟩ := nmE hm
  exact (lh1.tr (lh2.tr (lh3.tr (lh5.tr (lh6.tr (mo_X7_init_97  h6 x0 x3 x4 x5 x6 y0 y0 (1 : Int32) a7 _ hm))))))
def m_X7_init_32 (f : Nat) (h : CH) (x0 : Nat) (x3 : Int32) (x4 : Int32) (x5 : Int32) (x6 : Int32) (y0 : Nat) : Option CH := nmv (cn h 3 (.inr (0, 3, .inl (fun _ => 0)))) fun h1 =>
    nmv (h.1 : Nat) fun a2 =>
    m_X7_init_37 f h1 x0 x3 x4 x5 x6 y0 y0 (0 : Int32) a2
theorem mo_X7_init_32 {f : Nat} : ∀ (h : CH) (x0 : Nat) (x3 : Int32) (x4 : Int32) (x5 : Int32) (x6 : Int32) (y0 : Nat) (r : CH), m_X7_init_32 f h x0 x3 x4 x5 x6 y0 = some r → le2 h r := by
  intro h x0 x3 x4 x5 x6 y0 r hm
  rw [m_X7_init_32] at hm
  obtain ⟨h1, eh1, hm⟩ := nmE hm
  have lh1 := cn_le eh1
  obtain ⟨a2, ea2, hm⟩ := nmE hm
  exact (lh1.tr (mo_X7_init_37  h1 x0 x3 x4 x5 x6 y0 y0 (0 : Int32) a2 _ hm))
def m_X7_init_4 (f : Nat) (h : CH) (x0 : Nat) (x1 : Nat) (x2 : Nat) : Option CH := bd (pF h 7 1 x0 (.ref x1)) fun h1 =>
    bd (aI h1 0 x2 (0 : Int32)) fun v2 =>
    bd (aI h1 0 x2 (1 : Int32)) fun v3 =>
    bd (aI h1 0 x2 (2 : Int32)) fun v4 =>
    bd (aI h1 0 x2 (3 : Int32)) fun v5 =>
    nmv (cn h1 3 (.inr (5, 3, .inr (.inr (fun _ => none))))) fun h6 =>
    nmv (h1.1 : Nat) fun a7 =>
    m_X7_init_32 f h6 x0 v2 v3 v4 v5 a7
theorem mo_X7_init_4 {f : Nat} : ∀ (h : CH) (x0 : Nat) (x1 : Nat) (x2 : Nat) (r : CH), m_X7_init_4 f h x0 x1 x2 = some r → le2 h r := by
  intro h x0 x1 x2 r hm
  rw [m_X7_init_4] at hm
  obtain ⟨h1, eh1, hm⟩ := bdE hm
  have lh1 := pF_le eh1
  obtain ⟨v2, ev2, hm⟩ := bdE hm
  obtain ⟨v3, ev3, hm⟩ := bdE hm
  obtain ⟨v4, ev4, hm⟩ := bdE hm
  obtain ⟨v5, ev5, hm⟩ := bdE hm
  obtain ⟨h6, eh6, hm⟩ := nmE hm
  have lh6 := cn_le eh6
  obtain ⟨a7, ea7, hm⟩ := nmE hm
  exact (lh1.tr (lh6.tr (mo_X7_init_32  h6 x0 v2 v3 v4 v5 a7 _ hm)))
def m_X7_init (f : Nat) (u : CH) (x0 : Nat) (x1 : Nat) (x2 : Nat) : Option CH := bd (m_X6_init_X7 f u x0) fun h1 =>
    m_X7_init_4 f h1 x0 x1 x2
theorem mo_X7_init {f : Nat} {u : CH} {x0 : Nat} {x1 : Nat} {x2 : Nat} {u9 : CH} (hm : m_X7_init f u x0 x1 x2 = some u9) : le2 u u9 := by
  rw [m_X7_init] at hm
  obtain ⟨h1, eh1, hm⟩ := bdE hm
  have lh1 := mo_X6_init_X7 eh1
  exact (lh1.tr (mo_X7_init_4  h1 x0 x1 x2 _ hm))
abbrev rm_X7_init (mc ms : Nat) : Room := { frames := 3, cells := mc, slots := ms, locals := 60 }
theorem cw_X7_init {R : Room} {s : State} {args : Array Value} {own : String} {idx mc ms : Nat} (hts : ∀ w ∈ lw_all, w.before args s = true) (hl : Cond.methodLink own idx yX7_init ∈ lw_all) (hR : 3 + 1 ≤ R.frames ∧ 8 + (10 + 11) + 60 ≤ R.locals) : CallB R s args own idx yX7_init cX7_init 10 none (ws_ yX7_init cX7_init 10 (Option.none : Option Jvm.ClassFile.FieldType)) (rm_X7_init mc ms) mc ms 2 ∧ yX7_init.name = "<init>" ∧ (Cond.instanceMethod yX7_init).before args s = true := cwI 2 hts (lw_meth q750) rfl rfl rfl (hts _ q144) (hts _ hl) (hts _ q749) rfl (by decide +kernel) hR
set_option maxHeartbeats 4000000 in
set_option maxRecDepth 100000 in
theorem w_X7_init (l : Launch) {D : va_G} {dA : Nat → ClassId} {A : Nat → Prop} {f : Nat} {u u9 : CH} {x0 : Nat} {x1 : Nat} {x2 : Nat} (hm : m_X7_init f u x0 x1 x2 = some u9) : Met l yX7_init (ws_ yX7_init cX7_init 10 (Option.none : Option Jvm.ClassFile.FieldType)) (rm_X7_init (u9.1 - u.1) (u9.2.1 - u.2.1)) (va_Pc [.ref x0, .ref x1, .ref x2] (CPre D dA A u)) (va_Qv (fun u => u = u9) (CPost D dA A) A) (u9.1 - u.1) (u9.2.1 - u.2.1) A := by
  refine Met.ofW (cc := cX7_init) (maxL := 10) (ret := (Option.none : Option Jvm.ClassFile.FieldType)) (by decide) rfl ?_
  intro p e s m args below meth c s₁ B hml hv
  have hx := B.exec
  have hb := B.bytes
  have hr := B.returns
  have hts := atoms_spec (ws := (ws_ yX7_init cX7_init 10 (Option.none : Option Jvm.ClassFile.FieldType))) B.pre
  have hts : ∀ w ∈ lw_all, w.before args s = true := fun w h => hts w (List.mem_cons_of_mem _ h)
  have hown : s.vm.findClass RX7 = some m.cls := findClass_of_methodNamed B.named
  have hlocks := B.notSynchronized
  have hin : meth.name = "<init>" := (name_of_methodNamed B.named B.method).1
  obtain ⟨hav, hv⟩ := hv
  have C : CX p s m args c cX7_init RX7 D dA := ⟨hx, hb, hown, hts, hv.2⟩
  have hw : CW D dA A s u s.heap [] := hv.1
  generalize hQ : MQ below (va_Qv (fun u => u = u9) (CPost D dA A) A) args s (u9.1 - u.1) (u9.2.1 - u.2.1) A = QQ
  have hent := lg_entry_eq m [.ref x0, .ref x1, .ref x2] 10
  rw [← hav] at hent
  rw [hent]
  have hl := lv_entry ([.ref x0, .ref x1, .ref x2]) (n := 10) (Nat.le_of_ble_eq_true rfl)
  generalize (lg_sl ([.ref x0, .ref x1, .ref x2]) ++ List.replicate (10 - (lg_sl ([.ref x0, .ref x1, .ref x2])).length) Slot.unset).toArray = ls at hl ⊢
  have hl : lv_has ls 10 [(0, .ref x0), (1, .ref x1), (2, .ref x2)] := hl
  obtain ⟨cc, ecc⟩ : ∃ z : Nat, z = 0 := ⟨0, rfl⟩
  obtain ⟨ss, ess⟩ : ∃ z : Nat, z = 0 := ⟨0, rfl⟩
  have hcc : cc + u.1 = u.1 := by omega
  have hss : ss + u.2.1 = u.2.1 := by omega
  suffices hgo : W p l e (rm_X7_init (u9.1 - u.1) (u9.2.1 - u.2.1)) s m args below meth c s.heap [] cc ss QQ (F0 m 0 ls []) by rw [ecc, ess] at hgo; exact hgo
  have ⟨pu, qu, _, _⟩ := mo_X7_init hm
  have hB277 : ∀ (h : CH) (x0 : Nat) (x3 : Int32) (x4 : Int32) (x5 : Int32) (x6 : Int32) (cc ss : Nat) (H : Heap) (locs : List Loc) (ls : Array Slot), m_X7_init_277 f h x0 x3 x4 x5 x6 = some u9 → CW D dA A s h H locs → cc + u.1 = h.1 → ss + u.2.1 = h.2.1 → lv_has ls 10 [(0, .ref x0), (3, .int x3), (4, .int x4), (5, .int x5), (6, .int x6)] → W p l e (rm_X7_init (u9.1 - u.1) (u9.2.1 - u.2.1)) s m args below meth c H locs cc ss QQ (F0 m 277 ls []) := by
    intro h x0 x3 x4 x5 x6 cc ss H locs ls hm hw hcc hss hl
    have hmo := mo_X7_init_277  h x0 x3 x4 x5 x6 _ hm
    have sb_ : h.1 ≤ u9.1 := hmo.1
    have tb_ : h.2.1 ≤ u9.2.1 := hmo.2.1
    rw [m_X7_init_277] at hm
    refine lv_aload_n hx hb dX7_init_277 rfl (lv_at hl 0 rfl) ?_
    refine lv_iload_n hx hb dX7_init_278 rfl (lv_at hl 1 rfl) ?_
    refine lv_iload_n hx hb dX7_init_279 rfl (lv_at hl 1 rfl) ?_
    refine lv_imul hx hb dX7_init_280 ?_
    refine lv_iload hx hb dX7_init_281 (lv_at hl 2 rfl) ?_
    refine lv_iload hx hb dX7_init_283 (lv_at hl 2 rfl) ?_
    refine lv_imul hx hb dX7_init_285 ?_
    refine lv_iadd hx hb dX7_init_286 ?_
    refine lv_iload hx hb dX7_init_287 (lv_at hl 3 rfl) ?_
    refine lv_iload hx hb dX7_init_289 (lv_at hl 3 rfl) ?_
    refine lv_imul hx hb dX7_init_291 ?_
    refine lv_iadd hx hb dX7_init_292 ?_
    refine lv_iload hx hb dX7_init_293 (lv_at hl 4 rfl) ?_
    refine lv_iload hx hb dX7_init_295 (lv_at hl 4 rfl) ?_
    refine lv_imul hx hb dX7_init_297 ?_
    refine lv_iadd hx hb dX7_init_298 ?_
    refine lv_i2l hx hb dX7_init_299 rfl ?_
    obtain ⟨h1, eh1, hm⟩ := bdE hm
    refine cg_putF C hw eh1 rfl in_X7 tyX7 tyX7_ok nmX7 (by decide) q762 rfl hin rfl rfl rfl dX7_init_300 (fun H locs hw => ?_)
    have zh1 := pF_sz eh1
    refine lv_aload_n hx hb dX7_init_303 rfl (lv_at hl 0 rfl) ?_
    refine lv_iload_n hx hb dX7_init_304 rfl (lv_at hl 1 rfl) ?_
    refine lv_iload_n hx hb dX7_init_305 rfl (lv_at hl 1 rfl) ?_
    refine lv_imul hx hb dX7_init_306 ?_
    refine lv_iload hx hb dX7_init_307 (lv_at hl 2 rfl) ?_
    refine lv_iload hx hb dX7_init_309 (lv_at hl 2 rfl) ?_
    refine lv_imul hx hb dX7_init_311 ?_
    refine lv_isub hx hb dX7_init_312 ?_
    refine lv_iload hx hb dX7_init_313 (lv_at hl 3 rfl) ?_
    refine lv_iload hx hb dX7_init_315 (lv_at hl 3 rfl) ?_
    refine lv_imul hx hb dX7_init_317 ?_
    refine lv_isub hx hb dX7_init_318 ?_
    refine lv_iload hx hb dX7_init_319 (lv_at hl 4 rfl) ?_
    refine lv_iload hx hb dX7_init_321 (lv_at hl 4 rfl) ?_
    refine lv_imul hx hb dX7_init_323 ?_
    refine lv_isub hx hb dX7_init_324 ?_
    refine lv_i2l hx hb dX7_init_325 rfl ?_
    obtain ⟨h2, eh2, hm⟩ := bdE hm
    refine cg_putF C hw eh2 rfl in_X7 tyX7 tyX7_ok nmX7 (by decide) q764 rfl hin rfl rfl rfl dX7_init_326 (fun H locs hw => ?_)
    have zh2 := pF_sz eh2
    have eh := ret1 hm
    have ec : cc = u9.1 - u.1 := by rw [← eh]; omega
    have es : ss = u9.2.1 - u.2.1 := by rw [← eh]; omega
    rw [ec, es, ← hQ]
    exact W.vret hx hb hr (fun t ht hW => ⟨⟨h2, rfl, eh, ⟨by rw [ht]; exact hw.1, by rw [ht]; exact hw.2.1⟩⟩, hw.2.2.1.F ht⟩) hw.2.2.1.2.2 dX7_init_329
  have hB228 : ∀ (n228 : Nat), ∀ (h : CH) (x0 : Nat) (x3 : Int32) (x4 : Int32) (x5 : Int32) (x6 : Int32) (x7 : Nat) (x8 : Int32) (cc ss : Nat) (H : Heap) (locs : List Loc) (ls : Array Slot), m_X7_init_228 f n228 h x0 x3 x4 x5 x6 x7 x8 = some u9 → CW D dA A s h H locs → cc + u.1 = h.1 → ss + u.2.1 = h.2.1 → lv_has ls 10 [(0, .ref x0), (3, .int x3), (4, .int x4), (5, .int x5), (6, .int x6), (7, .ref x7), (8, .int x8)] → W p l e (rm_X7_init (u9.1 - u.1) (u9.2.1 - u.2.1)) s m args below meth c H locs cc ss QQ (F0 m 228 ls []) := by
    intro n228
    induction n228 with
    | zero => intro h x0 x3 x4 x5 x6 x7 x8 cc ss H locs ls hm hw hcc hss hl; rw [m_X7_init_228] at hm; exact noE hm
    | succ n228 ih228 =>
      have hB271 : ∀ (h : CH) (x0 : Nat) (x3 : Int32) (x4 : Int32) (x5 : Int32) (x6 : Int32) (x7 : Nat) (x8 : Int32) (cc ss : Nat) (H : Heap) (locs : List Loc) (ls : Array Slot), m_X7_init_271 f (m_X7_init_228 f n228) h x0 x3 x4 x5 x6 x7 x8 = some u9 → CW D dA A s h H locs → cc + u.1 = h.1 → ss + u.2.1 = h.2.1 → lv_has ls 10 [(0, .ref x0), (3, .int x3), (4, .int x4), (5, .int x5), (6, .int x6), (7, .ref x7), (8, .int x8)] → W p l e (rm_X7_init (u9.1 - u.1) (u9.2.1 - u.2.1)) s m args below meth c H locs cc ss QQ (F0 m 271 ls []) := by
        intro h x0 x3 x4 x5 x6 x7 x8 cc ss H locs ls hm hw hcc hss hl
        have hmo := mo_X7_init_271 (mo_X7_init_228 n228) h x0 x3 x4 x5 x6 x7 x8 _ hm
        have sb_ : h.1 ≤ u9.1 := hmo.1
        have tb_ : h.2.1 ≤ u9.2.1 := hmo.2.1
        rw [m_X7_init_271] at hm
        obtain ⟨v1, ev1, hm⟩ := nmE hm
        refine lv_iinc (v := v1) (lv' := [(8, .int v1), (0, .ref x0), (3, .int x3), (4, .int x4), (5, .int x5), (6, .int x6), (7, .ref x7)]) hx hb dX7_init_271 hl (k := 6) rfl (by rw [ev1]; rfl) (by decide) rfl (fun ls hl => ?_)
        refine lv_goto (tgt := 228) hx hb dX7_init_274 (by decide) ?_
        exact ih228 h x0 x3 x4 x5 x6 x7 v1 _ _ _ _ _ hm hw (by omega) (by omega) (lv_sub hl [1, 2, 3, 4, 5, 6, 0] rfl)
      have hB237 : ∀ (n237 : Nat), ∀ (h : CH) (x0 : Nat) (x3 : Int32) (x4 : Int32) (x5 : Int32) (x6 : Int32) (x7 : Nat) (x8 : Int32) (x9 : Int32) (cc ss : Nat) (H : Heap) (locs : List Loc) (ls : Array Slot), m_X7_init_237 f (m_X7_init_228 f n228) n237 h x0 x3 x4 x5 x6 x7 x8 x9 = some u9 → CW D dA A s h H locs → cc + u.1 = h.1 → ss + u.2.1 = h.2.1 → lv_has ls 10 [(0, .ref x0), (3, .int x3), (4, .int x4), (5, .int x5), (6, .int x6), (7, .ref x7), (8, .int x8), (9, .int x9)] → W p l e (rm_X7_init (u9.1 - u.1) (u9.2.1 - u.2.1)) s m args below meth c H locs cc ss QQ (F0 m 237 ls []) := by
        intro n237
        induction n237 with
        | zero => intro h x0 x3 x4 x5 x6 x7 x8 x9 cc ss H locs ls hm hw hcc hss hl; rw [m_X7_init_237] at hm; exact noE hm
        | succ n237 ih237 =>
          intro h x0 x3 x4 x5 x6 x7 x8 x9 cc ss H locs ls hm hw hcc hss hl
          have hmo := mo_X7_init_237 (mo_X7_init_228 n228) (n237 + 1) h x0 x3 x4 x5 x6 x7 x8 x9 _ hm
          have sb_ : h.1 ≤ u9.1 := hmo.1
          have tb_ : h.2.1 ≤ u9.2.1 := hmo.2.1
          rw [m_X7_init_237] at hm
          refine lv_iload hx hb dX7_init_237 (lv_at hl 7 rfl) ?_
          refine lv_iconst (v := 3) hx hb dX7_init_239 (by decide) ?_
          refine lv_icmp_ge (tgt := 271) hx hb dX7_init_240 (by decide) (fun c1 => ?_) (fun c1 => ?_)
          · have hm := ifT hm c1
            exact hB271 h x0 x3 x4 x5 x6 x7 x8 _ _ _ _ _ hm hw (by omega) (by omega) (lv_sub hl [0, 1, 2, 3, 4, 5, 6] rfl)
          · have hm := ifF hm c1
            refine lv_aload_n hx hb dX7_init_243 rfl (lv_at hl 0 rfl) ?_
            obtain ⟨a2, ea2, hm⟩ := bdE hm
            refine cg_get C hw (oR_E ea2) rfl in_X7 (by decide) q761 dX7_init_244 ?_
            obtain ⟨a3, ea3, hm⟩ := bdE hm
            refine cg_getN C hw (by decide) (oR_E ea3) rfl in_X2 (by decide) (hw.2.2.2.2.1 _ (List.mem_of_getElem? (i := 73) rfl)) dX7_init_247 ?_
            refine lv_iload hx hb dX7_init_250 (lv_at hl 7 rfl) ?_
            obtain ⟨a4, ea4, hm⟩ := bdE hm
            refine cg_aaldA C hw (ty := .array .long) rfl rfl (aR_E ea4) dX7_init_252 ?_
            refine lv_iload hx hb dX7_init_253 (lv_at hl 6 rfl) ?_
            refine lv_aload hx hb dX7_init_255 (lv_at hl 5 rfl) ?_
            refine lv_iload hx hb dX7_init_257 (lv_at hl 6 rfl) ?_
            obtain ⟨a5, ea5, hm⟩ := bdE hm
            refine cg_aaldA C hw (ty := .array .int) rfl rfl (aR_E ea5) dX7_init_259 ?_
            refine lv_iload hx hb dX7_init_260 (lv_at hl 7 rfl) ?_
            obtain ⟨v6, ev6, hm⟩ := bdE hm
            refine cg_iald C hw ev6 dX7_init_262 ?_
            refine lv_i2l hx hb dX7_init_263 rfl ?_
            obtain ⟨h7, eh7, hm⟩ := bdE hm
            refine cg_last C hw eh7 dX7_init_264 (fun H locs hw => ?_)
            have zh7 := uL_sz eh7
            obtain ⟨v8, ev8, hm⟩ := nmE hm
            refine lv_iinc (v := v8) (lv' := [(9, .int v8), (0, .ref x0), (3, .int x3), (4, .int x4), (5, .int x5), (6, .int x6), (7, .ref x7), (8, .int x8)]) hx hb dX7_init_265 hl (k := 7) rfl (by rw [ev8]; rfl) (by decide) rfl (fun ls hl => ?_)
            refine lv_goto (tgt := 237) hx hb dX7_init_268 (by decide) ?_
            exact ih237 h7 x0 x3 x4 x5 x6 x7 x8 v8 _ _ _ _ _ hm hw (by omega) (by omega) (lv_sub hl [1, 2, 3, 4, 5, 6, 7, 0] rfl)
      intro h x0 x3 x4 x5 x6 x7 x8 cc ss H locs ls hm hw hcc hss hl
      have hmo := mo_X7_init_228  (n228 + 1) h x0 x3 x4 x5 x6 x7 x8 _ hm
      have sb_ : h.1 ≤ u9.1 := hmo.1
      have tb_ : h.2.1 ≤ u9.2.1 := hmo.2.1
      rw [m_X7_init_228] at hm
      refine lv_iload hx hb dX7_init_228 (lv_at hl 6 rfl) ?_
      refine lv_iconst (v := 3) hx hb dX7_init_230 (by decide) ?_
      refine lv_icmp_ge (tgt := 277) hx hb dX7_init_231 (by decide) (fun c1 => ?_) (fun c1 => ?_)
      · have hm := ifT hm c1
        exact hB277 h x0 x3 x4 x5 x6 _ _ _ _ _ hm hw (by omega) (by omega) (lv_sub hl [0, 1, 2, 3, 4] rfl)
      · have hm := ifF hm c1
        refine lv_iconst (v := 0) hx hb dX7_init_234 (by decide) ?_
        refine lv_istore (lv' := [(9, .int (0 : Int32)), (0, .ref x0), (3, .int x3), (4, .int x4), (5, .int x5), (6, .int x6), (7, .ref x7), (8, .int x8)]) hx hb dX7_init_235 hl (by decide) rfl (fun ls hl => ?_)
        exact hB237 f h x0 x3 x4 x5 x6 x7 x8 (0 : Int32) _ _ _ _ _ hm hw (by omega) (by omega) (lv_sub hl [1, 2, 3, 4, 5, 6, 7, 0] rfl)
  have hB222 : ∀ (h : CH) (x0 : Nat) (x3 : Int32) (x4 : Int32) (x5 : Int32) (x6 : Int32) (x7 : Nat) (y0 : Nat) (y1 : Nat) (cc ss : Nat) (H : Heap) (locs : List Loc) (ls : Array Slot), m_X7_init_222 f h x0 x3 x4 x5 x6 x7 y0 y1 = some u9 → CW D dA A s h H locs → cc + u.1 = h.1 → ss + u.2.1 = h.2.1 → lv_has ls 10 [(0, .ref x0), (3, .int x3), (4, .int x4), (5, .int x5), (6, .int x6), (7, .ref x7)] → W p l e (rm_X7_init (u9.1 - u.1) (u9.2.1 - u.2.1)) s m args below meth c H locs cc ss QQ (F0 m 222 ls [.ref y1, .ref y0]) := by
    intro h x0 x3 x4 x5 x6 x7 y0 y1 cc ss H locs ls hm hw hcc hss hl
    have hmo := mo_X7_init_222  h x0 x3 x4 x5 x6 x7 y0 y1 _ hm
    have sb_ : h.1 ≤ u9.1 := hmo.1
    have tb_ : h.2.1 ≤ u9.2.1 := hmo.2.1
    rw [m_X7_init_222] at hm
    obtain ⟨h1, eh1, hm⟩ := bdE hm
    refine cg_putF C hw eh1 rfl in_X7 tyX7 tyX7_ok nmX7 (by decide) q761 rfl hin rfl rfl rfl dX7_init_222 (fun H locs hw => ?_)
    have zh1 := pF_sz eh1
    refine lv_iconst (v := 0) hx hb dX7_init_225 (by decide) ?_
    refine lv_istore (lv' := [(8, .int (0 : Int32)), (0, .ref x0), (3, .int x3), (4, .int x4), (5, .int x5), (6, .int x6), (7, .ref x7)]) hx hb dX7_init_226 hl (by decide) rfl (fun ls hl => ?_)
    exact hB228 f h1 x0 x3 x4 x5 x6 x7 (0 : Int32) _ _ _ _ _ hm hw (by omega) (by omega) (lv_sub hl [1, 2, 3, 4, 5, 6, 0] rfl)
  have hB218 : ∀ (h : CH) (x0 : Nat) (x3 : Int32) (x4 : Int32) (x5 : Int32) (x6 : Int32) (x7 : Nat) (y0 : Nat) (y1 : Nat) (cc ss : Nat) (H : Heap) (locs : List Loc) (ls : Array Slot), m_X7_init_218 f h x0 x3 x4 x5 x6 x7 y0 y1 = some u9 → CW D dA A s h H locs → cc + u.1 = h.1 → ss + u.2.1 = h.2.1 → lv_has ls 10 [(0, .ref x0), (3, .int x3), (4, .int x4), (5, .int x5), (6, .int x6), (7, .ref x7)] → W p l e (rm_X7_init (u9.1 - u.1) (u9.2.1 - u.2.1)) s m args below meth c H locs cc ss QQ (F0 m 218 ls [.ref y1, .ref y0]) := by
    intro h x0 x3 x4 x5 x6 x7 y0 y1 cc ss H locs ls hm hw hcc hss hl
    have hmo := mo_X7_init_218  h x0 x3 x4 x5 x6 x7 y0 y1 _ hm
    have sb_ : h.1 ≤ u9.1 := hmo.1
    have tb_ : h.2.1 ≤ u9.2.1 := hmo.2.1
    rw [m_X7_init_218] at hm
    refine lv_dup hx hb dX7_init_218 rfl ?_
    obtain ⟨h1, eh1, hm⟩ := bdE hm
    have lh1 := mo_X2_init eh1
    have ph1 : h.1 ≤ h1.1 := lh1.1
    have qh1 : h.2.1 ≤ h1.2.1 := lh1.2.1
    have hmo := mo_X7_init_222   h1 x0 x3 x4 x5 x6 x7 y0 y1 _ hm
    have sh1 : h1.1 ≤ u9.1 := hmo.1
    have th1 : h1.2.1 ≤ u9.2.1 := hmo.2.1
    refine cg_callv hw lh1 (va_runIN (As := []) (rest := [.ref y1, .ref y0]) ⟨hx, hb, hml, hown, hts⟩ (w_X2_init l eh1) ⟨va_cnB 0 hts (lw_meth q201) rfl rfl rfl (hw.2.2.2.2.1 _ (List.mem_of_getElem? (i := 75) rfl)) (hts _ q124) (by decide +kernel) ⟨Nat.le_of_ble_eq_true rfl, Nat.le_of_ble_eq_true rfl⟩, rfl, hts _ q200⟩ (cg_preS C hw _) rfl rfl hl.1 rfl (lv_room (Nat.le_of_ble_eq_true rfl)) dX7_init_219 ⟨show cc + (h1.1 - h.1) ≤ u9.1 - u.1 by omega, show ss + (h1.2.1 - h.2.1) ≤ u9.2.1 - u.2.1 by omega⟩) (fun H locs hw => ?_)
    exact hB222 h1 x0 x3 x4 x5 x6 x7 y0 y1 _ _ _ _ _ hm hw (by omega) (by omega) (lv_sub hl [0, 1, 2, 3, 4, 5] rfl)
  have hB157 : ∀ (h : CH) (x0 : Nat) (x3 : Int32) (x4 : Int32) (x5 : Int32) (x6 : Int32) (y0 : Nat) (y1 : Nat) (y2 : Int32) (y3 : Nat) (cc ss : Nat) (H : Heap) (locs : List Loc) (ls : Array Slot), m_X7_init_157 f h x0 x3 x4 x5 x6 y0 y1 y2 y3 = some u9 → CW D dA A s h H locs → cc + u.1 = h.1 → ss + u.2.1 = h.2.1 → lv_has ls 10 [(0, .ref x0), (3, .int x3), (4, .int x4), (5, .int x5), (6, .int x6)] → W p l e (rm_X7_init (u9.1 - u.1) (u9.2.1 - u.2.1)) s m args below meth c H locs cc ss QQ (F0 m 157 ls [.ref y3, .int y2, .ref y1, .ref y0]) := by
    intro h x0 x3 x4 x5 x6 y0 y1 y2 y3 cc ss H locs ls hm hw hcc hss hl
    have hmo := mo_X7_init_157  h x0 x3 x4 x5 x6 y0 y1 y2 y3 _ hm
    have sb_ : h.1 ≤ u9.1 := hmo.1
    have tb_ : h.2.1 ≤ u9.2.1 := hmo.2.1
    rw [m_X7_init_157] at hm
    refine lv_dup hx hb dX7_init_157 rfl ?_
    refine lv_iconst (v := 0) hx hb dX7_init_158 (by decide) ?_
    refine lv_iconst (v := 2) hx hb dX7_init_159 (by decide) ?_
    refine lv_iload hx hb dX7_init_160 (lv_at hl 2 rfl) ?_
    refine lv_iload hx hb dX7_init_162 (lv_at hl 4 rfl) ?_
    refine lv_imul hx hb dX7_init_164 ?_
    refine lv_iload_n hx hb dX7_init_165 rfl (lv_at hl 1 rfl) ?_
    refine lv_iload hx hb dX7_init_166 (lv_at hl 3 rfl) ?_
    refine lv_imul hx hb dX7_init_168 ?_
    refine lv_isub hx hb dX7_init_169 ?_
    refine lv_imul hx hb dX7_init_170 ?_
    obtain ⟨h1, eh1, hm⟩ := bdE hm
    refine cg_iast C hw eh1 dX7_init_171 (fun H locs hw => ?_)
    have zh1 := uI_sz eh1
    refine lv_dup hx hb dX7_init_172 rfl ?_
    refine lv_iconst (v := 1) hx hb dX7_init_173 (by decide) ?_
    refine lv_iconst (v := 2) hx hb dX7_init_174 (by decide) ?_
    refine lv_iload hx hb dX7_init_175 (lv_at hl 3 rfl) ?_
    refine lv_iload hx hb dX7_init_177 (lv_at hl 4 rfl) ?_
    refine lv_imul hx hb dX7_init_179 ?_
    refine lv_iload_n hx hb dX7_init_180 rfl (lv_at hl 1 rfl) ?_
    refine lv_iload hx hb dX7_init_181 (lv_at hl 2 rfl) ?_
    refine lv_imul hx hb dX7_init_183 ?_
    refine lv_iadd hx hb dX7_init_184 ?_
    refine lv_imul hx hb dX7_init_185 ?_
    obtain ⟨h2, eh2, hm⟩ := bdE hm
    refine cg_iast C hw eh2 dX7_init_186 (fun H locs hw => ?_)
    have zh2 := uI_sz eh2
    refine lv_dup hx hb dX7_init_187 rfl ?_
    refine lv_iconst (v := 2) hx hb dX7_init_188 (by decide) ?_
    refine lv_iload_n hx hb dX7_init_189 rfl (lv_at hl 1 rfl) ?_
    refine lv_iload_n hx hb dX7_init_190 rfl (lv_at hl 1 rfl) ?_
    refine lv_imul hx hb dX7_init_191 ?_
    refine lv_iload hx hb dX7_init_192 (lv_at hl 2 rfl) ?_
    refine lv_iload hx hb dX7_init_194 (lv_at hl 2 rfl) ?_
    refine lv_imul hx hb dX7_init_196 ?_
    refine lv_isub hx hb dX7_init_197 ?_
    refine lv_iload hx hb dX7_init_198 (lv_at hl 3 rfl) ?_
    refine lv_iload hx hb dX7_init_200 (lv_at hl 3 rfl) ?_
    refine lv_imul hx hb dX7_init_202 ?_
    refine lv_isub hx hb dX7_init_203 ?_
    refine lv_iload hx hb dX7_init_204 (lv_at hl 4 rfl) ?_
    refine lv_iload hx hb dX7_init_206 (lv_at hl 4 rfl) ?_
    refine lv_imul hx hb dX7_init_208 ?_
    refine lv_iadd hx hb dX7_init_209 ?_
    obtain ⟨h3, eh3, hm⟩ := bdE hm
    refine cg_iast C hw eh3 dX7_init_210 (fun H locs hw => ?_)
    have zh3 := uI_sz eh3
    obtain ⟨n4, en4, hm⟩ := bdE hm
    obtain ⟨h5, eh5, hm⟩ := bdE hm
    refine cg_aastA C hw en4 eh5 (hw.2.2.2.2.1 _ (List.mem_of_getElem? (i := 93) rfl)) dX7_init_211 (fun H locs hw => ?_)
    have zh5 := uQ_sz eh5
    refine lv_astore (lv' := [(7, .ref y0), (0, .ref x0), (3, .int x3), (4, .int x4), (5, .int x5), (6, .int x6)]) hx hb dX7_init_212 hl (by decide) rfl (fun ls hl => ?_)
    refine lv_aload_n hx hb dX7_init_214 rfl (lv_at hl 1 rfl) ?_
    obtain ⟨h6, eh6, hm⟩ := nmE hm
    obtain ⟨_, _, hmq⟩ := nmE hm
    have hmo := mo_X7_init_218   h6 x0 x3 x4 x5 x6 y0 x0 _ _ hmq
    have sh6 : h6.1 ≤ u9.1 := hmo.1
    have th6 : h6.2.1 ≤ u9.2.1 := hmo.2.1
    have zh6 := cn_sz eh6
    refine cg_new (C0 := C) hw (ci := 3) (fs := [.null]) rfl in_X2 tyX2 tyX2_ok q758 q198 q124 (fun j hj => by rcases (show j = 0 by omega) with rfl <;> rfl) (show cc + 1 ≤ u9.1 - u.1 by omega) (show ss + 1 ≤ u9.2.1 - u.2.1 by omega) dX7_init_215 (fun H hw => ?_)
    rw [← eh6] at hw
    refine lv_topr (fun a7 ea7 => ?_)
    have hm := nmK hm ea7
    exact hB218 h6 x0 x3 x4 x5 x6 y0 x0 a7 _ _ _ _ _ hm hw (by omega) (by omega) (lv_sub hl [1, 2, 3, 4, 5, 0] rfl)
  have hB97 : ∀ (h : CH) (x0 : Nat) (x3 : Int32) (x4 : Int32) (x5 : Int32) (x6 : Int32) (y0 : Nat) (y1 : Nat) (y2 : Int32) (y3 : Nat) (cc ss : Nat) (H : Heap) (locs : List Loc) (ls : Array Slot), m_X7_init_97 f h x0 x3 x4 x5 x6 y0 y1 y2 y3 = some u9 → CW D dA A s h H locs → cc + u.1 = h.1 → ss + u.2.1 = h.2.1 → lv_has ls 10 [(0, .ref x0), (3, .int x3), (4, .int x4), (5, .int x5), (6, .int x6)] → W p l e (rm_X7_init (u9.1 - u.1) (u9.2.1 - u.2.1)) s m args below meth c H locs cc ss QQ (F0 m 97 ls [.ref y3, .int y2, .ref y1, .ref y0]) := by
    intro h x0 x3 x4 x5 x6 y0 y1 y2 y3 cc ss H locs ls hm hw hcc hss hl
    have hmo := mo_X7_init_97  h x0 x3 x4 x5 x6 y0 y1 y2 y3 _ hm
    have sb_ : h.1 ≤ u9.1 := hmo.1
    have tb_ : h.2.1 ≤ u9.2.1 := hmo.2.1
    rw [m_X7_init_97] at hm
    refine lv_dup hx hb dX7_init_97 rfl ?_
    refine lv_iconst (v := 0) hx hb dX7_init_98 (by decide) ?_
    refine lv_iconst (v := 2) hx hb dX7_init_99 (by decide) ?_
    refine lv_iload hx hb dX7_init_100 (lv_at hl 2 rfl) ?_
    refine lv_iload hx hb dX7_init_102 (lv_at hl 3 rfl) ?_
    refine lv_imul hx hb dX7_init_104 ?_
    refine lv_iload_n hx hb dX7_init_105 rfl (lv_at hl 1 rfl) ?_
    refine lv_iload hx hb dX7_init_106 (lv_at hl 4 rfl) ?_
    refine lv_imul hx hb dX7_init_108 ?_
    refine lv_iadd hx hb dX7_init_109 ?_
    refine lv_imul hx hb dX7_init_110 ?_
    obtain ⟨h1, eh1, hm⟩ := bdE hm
    refine cg_iast C hw eh1 dX7_init_111 (fun H locs hw => ?_)
    have zh1 := uI_sz eh1
    refine lv_dup hx hb dX7_init_112 rfl ?_
    refine lv_iconst (v := 1) hx hb dX7_init_113 (by decide) ?_
    refine lv_iload_n hx hb dX7_init_114 rfl (lv_at hl 1 rfl) ?_
    refine lv_iload_n hx hb dX7_init_115 rfl (lv_at hl 1 rfl) ?_
    refine lv_imul hx hb dX7_init_116 ?_
    refine lv_iload hx hb dX7_init_117 (lv_at hl 2 rfl) ?_
    refine lv_iload hx hb dX7_init_119 (lv_at hl 2 rfl) ?_
    refine lv_imul hx hb dX7_init_121 ?_
    refine lv_isub hx hb dX7_init_122 ?_
    refine lv_iload hx hb dX7_init_123 (lv_at hl 3 rfl) ?_
    refine lv_iload hx hb dX7_init_125 (lv_at hl 3 rfl) ?_
    refine lv_imul hx hb dX7_init_127 ?_
    refine lv_iadd hx hb dX7_init_128 ?_
    refine lv_iload hx hb dX7_init_129 (lv_at hl 4 rfl) ?_
    refine lv_iload hx hb dX7_init_131 (lv_at hl 4 rfl) ?_
    refine lv_imul hx hb dX7_init_133 ?_
    refine lv_isub hx hb dX7_init_134 ?_
    obtain ⟨h2, eh2, hm⟩ := bdE hm
    refine cg_iast C hw eh2 dX7_init_135 (fun H locs hw => ?_)
    have zh2 := uI_sz eh2
    refine lv_dup hx hb dX7_init_136 rfl ?_
    refine lv_iconst (v := 2) hx hb dX7_init_137 (by decide) ?_
    refine lv_iconst (v := 2) hx hb dX7_init_138 (by decide) ?_
    refine lv_iload hx hb dX7_init_139 (lv_at hl 3 rfl) ?_
    refine lv_iload hx hb dX7_init_141 (lv_at hl 4 rfl) ?_
    refine lv_imul hx hb dX7_init_143 ?_
    refine lv_iload_n hx hb dX7_init_144 rfl (lv_at hl 1 rfl) ?_
    refine lv_iload hx hb dX7_init_145 (lv_at hl 2 rfl) ?_
    refine lv_imul hx hb dX7_init_147 ?_
    refine lv_isub hx hb dX7_init_148 ?_
    refine lv_imul hx hb dX7_init_149 ?_
    obtain ⟨h3, eh3, hm⟩ := bdE hm
    refine cg_iast C hw eh3 dX7_init_150 (fun H locs hw => ?_)
    have zh3 := uI_sz eh3
    obtain ⟨n4, en4, hm⟩ := bdE hm
    obtain ⟨h5, eh5, hm⟩ := bdE hm
    refine cg_aastA C hw en4 eh5 (hw.2.2.2.2.1 _ (List.mem_of_getElem? (i := 93) rfl)) dX7_init_151 (fun H locs hw => ?_)
    have zh5 := uQ_sz eh5
    refine lv_dup hx hb dX7_init_152 rfl ?_
    refine lv_iconst (v := 2) hx hb dX7_init_153 (by decide) ?_
    refine lv_iconst (v := 3) hx hb dX7_init_154 (by decide) ?_
    obtain ⟨h6, eh6, hm⟩ := nmE hm
    obtain ⟨_, _, hmq⟩ := nmE hm
    have hmo := mo_X7_init_157   h6 x0 x3 x4 x5 x6 y0 y0 (2 : Int32) _ _ hmq
    have sh6 : h6.1 ≤ u9.1 := hmo.1
    have th6 : h6.2.1 ≤ u9.2.1 := hmo.2.1
    have zh6 := cn_sz eh6
    refine cg_newI (C0 := C) hw (N := 3) (by decide) (by decide) (by decide) (show cc + 1 ≤ u9.1 - u.1 by omega) (show ss + 3 ≤ u9.2.1 - u.2.1 by omega) dX7_init_155 (fun H hw => ?_)
    rw [← eh6] at hw
    refine lv_topr (fun a7 ea7 => ?_)
    have hm := nmK hm ea7
    exact hB157 h6 x0 x3 x4 x5 x6 y0 y0 (2 : Int32) a7 _ _ _ _ _ hm hw (by omega) (by omega) (lv_sub hl [0, 1, 2, 3, 4] rfl)
  have hB37 : ∀ (h : CH) (x0 : Nat) (x3 : Int32) (x4 : Int32) (x5 : Int32) (x6 : Int32) (y0 : Nat) (y1 : Nat) (y2 : Int32) (y3 : Nat) (cc ss : Nat) (H : Heap) (locs : List Loc) (ls : Array Slot), m_X7_init_37 f h x0 x3 x4 x5 x6 y0 y1 y2 y3 = some u9 → CW D dA A s h H locs → cc + u.1 = h.1 → ss + u.2.1 = h.2.1 → lv_has ls 10 [(0, .ref x0), (3, .int x3), (4, .int x4), (5, .int x5), (6, .int x6)] → W p l e (rm_X7_init (u9.1 - u.1) (u9.2.1 - u.2.1)) s m args below meth c H locs cc ss QQ (F0 m 37 ls [.ref y3, .int y2, .ref y1, .ref y0]) := by
    intro h x0 x3 x4 x5 x6 y0 y1 y2 y3 cc ss H locs ls hm hw hcc hss hl
    have hmo := mo_X7_init_37  h x0 x3 x4 x5 x6 y0 y1 y2 y3 _ hm
    have sb_ : h.1 ≤ u9.1 := hmo.1
    have tb_ : h.2.1 ≤ u9.2.1 := hmo.2.1
    rw [m_X7_init_37] at hm
    refine lv_dup hx hb dX7_init_37 rfl ?_
    refine lv_iconst (v := 0) hx hb dX7_init_38 (by decide) ?_
    refine lv_iload_n hx hb dX7_init_39 rfl (lv_at hl 1 rfl) ?_
    refine lv_iload_n hx hb dX7_init_40 rfl (lv_at hl 1 rfl) ?_
    refine lv_imul hx hb dX7_init_41 ?_
    refine lv_iload hx hb dX7_init_42 (lv_at hl 2 rfl) ?_
    refine lv_iload hx hb dX7_init_44 (lv_at hl 2 rfl) ?_
    refine lv_imul hx hb dX7_init_46 ?_
    refine lv_iadd hx hb dX7_init_47 ?_
    refine lv_iload hx hb dX7_init_48 (lv_at hl 3 rfl) ?_
    refine lv_iload hx hb dX7_init_50 (lv_at hl 3 rfl) ?_
    refine lv_imul hx hb dX7_init_52 ?_
    refine lv_isub hx hb dX7_init_53 ?_
    refine lv_iload hx hb dX7_init_54 (lv_at hl 4 rfl) ?_
    refine lv_iload hx hb dX7_init_56 (lv_at hl 4 rfl) ?_
    refine lv_imul hx hb dX7_init_58 ?_
    refine lv_isub hx hb dX7_init_59 ?_
    obtain ⟨h1, eh1, hm⟩ := bdE hm
    refine cg_iast C hw eh1 dX7_init_60 (fun H locs hw => ?_)
    have zh1 := uI_sz eh1
    refine lv_dup hx hb dX7_init_61 rfl ?_
    refine lv_iconst (v := 1) hx hb dX7_init_62 (by decide) ?_
    refine lv_iconst (v := 2) hx hb dX7_init_63 (by decide) ?_
    refine lv_iload hx hb dX7_init_64 (lv_at hl 2 rfl) ?_
    refine lv_iload hx hb dX7_init_66 (lv_at hl 3 rfl) ?_
    refine lv_imul hx hb dX7_init_68 ?_
    refine lv_iload_n hx hb dX7_init_69 rfl (lv_at hl 1 rfl) ?_
    refine lv_iload hx hb dX7_init_70 (lv_at hl 4 rfl) ?_
    refine lv_imul hx hb dX7_init_72 ?_
    refine lv_isub hx hb dX7_init_73 ?_
    refine lv_imul hx hb dX7_init_74 ?_
    obtain ⟨h2, eh2, hm⟩ := bdE hm
    refine cg_iast C hw eh2 dX7_init_75 (fun H locs hw => ?_)
    have zh2 := uI_sz eh2
    refine lv_dup hx hb dX7_init_76 rfl ?_
    refine lv_iconst (v := 2) hx hb dX7_init_77 (by decide) ?_
    refine lv_iconst (v := 2) hx hb dX7_init_78 (by decide) ?_
    refine lv_iload hx hb dX7_init_79 (lv_at hl 2 rfl) ?_
    refine lv_iload hx hb dX7_init_81 (lv_at hl 4 rfl) ?_
    refine lv_imul hx hb dX7_init_83 ?_
    refine lv_iload_n hx hb dX7_init_84 rfl (lv_at hl 1 rfl) ?_
    refine lv_iload hx hb dX7_init_85 (lv_at hl 3 rfl) ?_
    refine lv_imul hx hb dX7_init_87 ?_
    refine lv_iadd hx hb dX7_init_88 ?_
    refine lv_imul hx hb dX7_init_89 ?_
    obtain ⟨h3, eh3, hm⟩ := bdE hm
    refine cg_iast C hw eh3 dX7_init_90 (fun H locs hw => ?_)
    have zh3 := uI_sz eh3
    obtain ⟨n4, en4, hm⟩ := bdE hm
    obtain ⟨h5, eh5, hm⟩ := bdE hm
    refine cg_aastA C hw en4 eh5 (hw.2.2.2.2.1 _ (List.mem_of_getElem? (i := 93) rfl)) dX7_init_91 (fun H locs hw => ?_)
    have zh5 := uQ_sz eh5
    refine lv_dup hx hb dX7_init_92 rfl ?_
    refine lv_iconst (v := 1) hx hb dX7_init_93 (by decide) ?_
    refine lv_iconst (v := 3) hx hb dX7_init_94 (by decide) ?_
    obtain ⟨h6, eh6, hm⟩ := nmE hm
    obtain ⟨_, _, hmq⟩ := nmE hm
    have hmo := mo_X7_init_97   h6 x0 x3 x4 x5 x6 y0 y0 (1 : Int32) _ _ hmq
    have sh6 : h6.1 ≤ u9.1 := hmo.1
    have th6 : h6.2.1 ≤ u9.2.1 := hmo.2.1
    have zh6 := cn_sz eh6
    refine cg_newI (C0 := C) hw (N := 3) (by decide) (by decide) (by decide) (show cc + 1 ≤ u9.1 - u.1 by omega) (show ss + 3 ≤ u9.2.1 - u.2.1 by omega) dX7_init_95 (fun H hw => ?_)
    rw [← eh6] at hw
    refine lv_topr (fun a7 ea7 => ?_)
    have hm := nmK hm ea7
    exact hB97 h6 x0 x3 x4 x5 x6 y0 y0 (1 : Int32) a7 _ _ _ _ _ hm hw (by omega) (by omega) (lv_sub hl [0, 1, 2, 3, 4] rfl)
  have hB32 : ∀ (h : CH) (x0 : Nat) (x3 : Int32) (x4 : Int32) (x5 : Int32) (x6 : Int32) (y0 : Nat) (cc ss : Nat) (H : Heap) (locs : List Loc) (ls : Array Slot), m_X7_init_32 f h x0 x3 x4 x5 x6 y0 = some u9 → CW D dA A s h H locs → cc + u.1 = h.1 → ss + u.2.1 = h.2.1 → lv_has ls 10 [(0, .ref x0), (3, .int x3), (4, .int x4), (5, .int x5), (6, .int x6)] → W p l e (rm_X7_init (u9.1 - u.1) (u9.2.1 - u.2.1)) s m args below meth c H locs cc ss QQ (F0 m 32 ls [.ref y0]) := by
    intro h x0 x3 x4 x5 x6 y0 cc ss H locs ls hm hw hcc hss hl
    have hmo := mo_X7_init_32  h x0 x3 x4 x5 x6 y0 _ hm
    have sb_ : h.1 ≤ u9.1 := hmo.1
    have tb_ : h.2.1 ≤ u9.2.1 := hmo.2.1
    rw [m_X7_init_32] at hm
    refine lv_dup hx hb dX7_init_32 rfl ?_
    refine lv_iconst (v := 0) hx hb dX7_init_33 (by decide) ?_
    refine lv_iconst (v := 3) hx hb dX7_init_34 (by decide) ?_
    obtain ⟨h1, eh1, hm⟩ := nmE hm
    obtain ⟨_, _, hmq⟩ := nmE hm
    have hmo := mo_X7_init_37   h1 x0 x3 x4 x5 x6 y0 y0 (0 : Int32) _ _ hmq
    have sh1 : h1.1 ≤ u9.1 := hmo.1
    have th1 : h1.2.1 ≤ u9.2.1 := hmo.2.1
    have zh1 := cn_sz eh1
    refine cg_newI (C0 := C) hw (N := 3) (by decide) (by decide) (by decide) (show cc + 1 ≤ u9.1 - u.1 by omega) (show ss + 3 ≤ u9.2.1 - u.2.1 by omega) dX7_init_35 (fun H hw => ?_)
    rw [← eh1] at hw
    refine lv_topr (fun a2 ea2 => ?_)
    have hm := nmK hm ea2
    exact hB37 h1 x0 x3 x4 x5 x6 y0 y0 (0 : Int32) a2 _ _ _ _ _ hm hw (by omega) (by omega) (lv_sub hl [0, 1, 2, 3, 4] rfl)
  have hB4 : ∀ (h : CH) (x0 : Nat) (x1 : Nat) (x2 : Nat) (cc ss : Nat) (H : Heap) (locs : List Loc) (ls : Array Slot), m_X7_init_4 f h x0 x1 x2 = some u9 → CW D dA A s h H locs → cc + u.1 = h.1 → ss + u.2.1 = h.2.1 → lv_has ls 10 [(0, .ref x0), (1, .ref x1), (2, .ref x2)] → W p l e (rm_X7_init (u9.1 - u.1) (u9.2.1 - u.2.1)) s m args below meth c H locs cc ss QQ (F0 m 4 ls []) := by
    intro h x0 x1 x2 cc ss H locs ls hm hw hcc hss hl
    have hmo := mo_X7_init_4  h x0 x1 x2 _ hm
    have sb_ : h.1 ≤ u9.1 := hmo.1
    have tb_ : h.2.1 ≤ u9.2.1 := hmo.2.1
    rw [m_X7_init_4] at hm
    refine lv_aload_n hx hb dX7_init_4 rfl (lv_at hl 0 rfl) ?_
    refine lv_aload_n hx hb dX7_init_5 rfl (lv_at hl 1 rfl) ?_
    obtain ⟨h1, eh1, hm⟩ := bdE hm
    refine cg_putF C hw eh1 rfl in_X7 tyX7 tyX7_ok nmX7 (by decide) q760 rfl hin rfl rfl rfl dX7_init_6 (fun H locs hw => ?_)
    have zh1 := pF_sz eh1
    refine lv_aload_n hx hb dX7_init_9 rfl (lv_at hl 2 rfl) ?_
    refine lv_iconst (v := 0) hx hb dX7_init_10 (by decide) ?_
    obtain ⟨v2, ev2, hm⟩ := bdE hm
    refine cg_iald C hw ev2 dX7_init_11 ?_
    refine lv_istore_n (lv' := [(3, .int v2), (0, .ref x0), (1, .ref x1), (2, .ref x2)]) hx hb dX7_init_12 rfl hl (by decide) rfl (fun ls hl => ?_)
    refine lv_aload_n hx hb dX7_init_13 rfl (lv_at hl 3 rfl) ?_
    refine lv_iconst (v := 1) hx hb dX7_init_14 (by decide) ?_
    obtain ⟨v3, ev3, hm⟩ := bdE hm
    refine cg_iald C hw ev3 dX7_init_15 ?_
    refine lv_istore (lv' := [(4, .int v3), (3, .int v2), (0, .ref x0), (1, .ref x1), (2, .ref x2)]) hx hb dX7_init_16 hl (by decide) rfl (fun ls hl => ?_)
    refine lv_aload_n hx hb dX7_init_18 rfl (lv_at hl 4 rfl) ?_
    refine lv_iconst (v := 2) hx hb dX7_init_19 (by decide) ?_
    obtain ⟨v4, ev4, hm⟩ := bdE hm
    refine cg_iald C hw ev4 dX7_init_20 ?_
    refine lv_istore (lv' := [(5, .int v4), (4, .int v3), (3, .int v2), (0, .ref x0), (1, .ref x1), (2, .ref x2)]) hx hb dX7_init_21 hl (by decide) rfl (fun ls hl => ?_)
    refine lv_aload_n hx hb dX7_init_23 rfl (lv_at hl 5 rfl) ?_
    refine lv_iconst (v := 3) hx hb dX7_init_24 (by decide) ?_
    obtain ⟨v5, ev5, hm⟩ := bdE hm
    refine cg_iald C hw ev5 dX7_init_25 ?_
    refine lv_istore (lv' := [(6, .int v5), (5, .int v4), (4, .int v3), (3, .int v2), (0, .ref x0), (1, .ref x1), (2, .ref x2)]) hx hb dX7_init_26 hl (by decide) rfl (fun ls hl => ?_)
    refine lv_iconst (v := 3) hx hb dX7_init_28 (by decide) ?_
    obtain ⟨h6, eh6, hm⟩ := nmE hm
    obtain ⟨_, _, hmq⟩ := nmE hm
    have hmo := mo_X7_init_32   h6 x0 v2 v3 v4 v5 _ _ hmq
    have sh6 : h6.1 ≤ u9.1 := hmo.1
    have th6 : h6.2.1 ≤ u9.2.1 := hmo.2.1
    have zh6 := cn_sz eh6
    refine cg_anewA (C0 := C) hw (N := 3) q757 (hw.2.2.2.2.1 _ (List.mem_of_getElem? (i := 93) rfl)) (by decide) (by decide) (by decide) (show cc + 1 ≤ u9.1 - u.1 by omega) (show ss + 3 ≤ u9.2.1 - u.2.1 by omega) dX7_init_29 (fun H hw => ?_)
    rw [← eh6] at hw
    refine lv_topr (fun a7 ea7 => ?_)
    have hm := nmK hm ea7
    exact hB32 h6 x0 v2 v3 v4 v5 a7 _ _ _ _ _ hm hw (by omega) (by omega) (lv_sub hl [4, 3, 2, 1, 0] rfl)
  rw [m_X7_init] at hm
  refine lv_aload_n hx hb dX7_init_0 rfl (lv_at hl 0 rfl) ?_
  obtain ⟨h1, eh1, hm⟩ := bdE hm
  have lh1 := mo_X6_init_X7 eh1
  have ph1 : u.1 ≤ h1.1 := lh1.1
  have qh1 : u.2.1 ≤ h1.2.1 := lh1.2.1
  have hmo := mo_X7_init_4   h1 x0 x1 x2 _ hm
  have sh1 : h1.1 ≤ u9.1 := hmo.1
  have th1 : h1.2.1 ≤ u9.2.1 := hmo.2.1
  refine cg_callv hw lh1 (va_runIN (As := []) (rest := []) ⟨hx, hb, hml, hown, hts⟩ (w_X6_init_X7 l eh1) ⟨va_cnB 0 hts (lw_meth q753) rfl rfl rfl (hw.2.2.2.2.1 _ (List.mem_of_getElem? (i := 74) rfl)) (hts _ q143) (by decide +kernel) ⟨Nat.le_of_ble_eq_true rfl, Nat.le_of_ble_eq_true rfl⟩, rfl, hts _ q752⟩ (cg_preS C hw _) rfl rfl hl.1 rfl (lv_room (Nat.le_of_ble_eq_true rfl)) dX7_init_1 ⟨show cc + (h1.1 - u.1) ≤ u9.1 - u.1 by omega, show ss + (h1.2.1 - u.2.1) ≤ u9.2.1 - u.2.1 by omega⟩) (fun H locs hw => ?_)
  exact hB4 h1 x0 x1 x2 _ _ _ _ _ hm hw (by omega) (by omega) (lv_sub hl [0, 1, 2] rfl)
def m_J2_elementData (f : Nat) (u : CH) (x0 : Nat) (x1 : Int32) : Option (Nat × CH) := bd (oR u 17 1 x0) fun a1 =>
    bd (aR u 3 a1 x1) fun a2 =>
    some (a2, u)
theorem mo_J2_elementData {f : Nat} {u : CH} {x0 : Nat} {x1 : Int32} {r0 : Nat} {u9 : CH} (hm : m_J2_elementData f u x0 x1 = some (r0, u9)) : le2 u u9 := by
  rw [m_J2_elementData] at hm
  obtain ⟨a1, ea1, hm⟩ := bdE hm
  obtain ⟨a2, ea2, hm⟩ := bdE hm
  cases hm
  exact le2.rf
abbrev rm_J2_elementData (mc ms : Nat) : Room := { frames := 0, cells := mc, slots := ms, locals := 0 }
theorem cw_J2_elementData {R : Room} {s : State} {args : Array Value} {own : String} {idx mc ms : Nat} (hts : ∀ w ∈ lw_all, w.before args s = true) (hl : Cond.methodLink own idx yJ2_elementData ∈ lw_all) (hR : 0 + 1 ≤ R.frames ∧ 8 + (2 + 11) + 0 ≤ R.locals) : CallW R s args own RJ2 idx yJ2_elementData cJ2_elementData 2 (Option.some (Jvm.ClassFile.FieldType.object "java/lang/Object")) (ws_ yJ2_elementData cJ2_elementData 2 (Option.some (Jvm.ClassFile.FieldType.object "java/lang/Object"))) (rm_J2_elementData mc ms) mc ms 1 := cwV 1 hts (lw_V hl q730 q731 q122 q732) rfl rfl rfl (by decide +kernel) hR
set_option maxHeartbeats 4000000 in
set_option maxRecDepth 100000 in
theorem w_J2_elementData (l : Launch) {D : va_G} {dA : Nat → ClassId} {A : Nat → Prop} {f : Nat} {u u9 : CH} {r0 : Nat} {x0 : Nat} {x1 : Int32} (hm : m_J2_elementData f u x0 x1 = some (r0, u9)) : Met l yJ2_elementData (ws_ yJ2_elementData cJ2_elementData 2 (Option.some (Jvm.ClassFile.FieldType.object "java/lang/Object"))) (rm_J2_elementData (u9.1 - u.1) (u9.2.1 - u.2.1)) (va_Pc [.ref x0, .int x1] (CPre D dA A u)) (va_Qr (fun u => u = u9) (fun u r t => r = r0 ∧ CPost D dA A u t) A) (u9.1 - u.1) (u9.2.1 - u.2.1) A := by
  refine metOfWF (cc := cJ2_elementData) (maxL := 2) (ret := (Option.some (Jvm.ClassFile.FieldType.object "java/lang/Object"))) (by decide +kernel) rfl ?_
  intro p e s m args below meth c s₁ B hml hv
  have hx := B.exec
  have hb := B.bytes
  have hr := B.returns
  have hts := atoms_spec (ws := (ws_ yJ2_elementData cJ2_elementData 2 (Option.some (Jvm.ClassFile.FieldType.object "java/lang/Object")))) B.pre
  have hts : ∀ w ∈ lw_all, w.before args s = true := fun w h => hts w (List.mem_cons_of_mem _ h)
  have hown : s.vm.findClass RJ2 = some m.cls := findClass_of_methodNamed B.named
  have hlocks := B.notSynchronized
  obtain ⟨hav, hv⟩ := hv
  have C : CX p s m args c cJ2_elementData RJ2 D dA := ⟨hx, hb, hown, hts, hv.2⟩
  have hw : CW D dA A s u s.heap [] := hv.1
  generalize hQ : MQ below (va_Qr (fun u => u = u9) (fun u r t => r = r0 ∧ CPost D dA A u t) A) args s (u9.1 - u.1) (u9.2.1 - u.2.1) A = QQ
  have hent := lg_entry_eq m [.ref x0, .int x1] 2
  rw [← hav] at hent
  rw [hent]
  have hl := lv_entry ([.ref x0, .int x1]) (n := 2) (Nat.le_of_ble_eq_true rfl)
  generalize (lg_sl ([.ref x0, .int x1]) ++ List.replicate (2 - (lg_sl ([.ref x0, .int x1])).length) Slot.unset).toArray = ls at hl ⊢
  have hl : lv_has ls 2 [(0, .ref x0), (1, .int x1)] := hl
  obtain ⟨cc, ecc⟩ : ∃ z : Nat, z = 0 := ⟨0, rfl⟩
  obtain ⟨ss, ess⟩ : ∃ z : Nat, z = 0 := ⟨0, rfl⟩
  have hcc : cc + u.1 = u.1 := by omega
  have hss : ss + u.2.1 = u.2.1 := by omega
  suffices hgo : W p l e (rm_J2_elementData (u9.1 - u.1) (u9.2.1 - u.2.1)) s m args below meth c s.heap [] cc ss QQ (F0 m 0 ls []) by rw [ecc, ess] at hgo; exact hgo
  have ⟨pu, qu, _, _⟩ := mo_J2_elementData hm
  rw [m_J2_elementData] at hm
  refine lv_aload_n hx hb dJ2_elementData_0 rfl (lv_at hl 0 rfl) ?_
  obtain ⟨a1, ea1, hm⟩ := bdE hm
  refine cg_get C hw (oR_E ea1) rfl in_J2 (by decide) q179 dJ2_elementData_1 ?_
  refine lv_iload_n hx hb dJ2_elementData_4 rfl (lv_at hl 1 rfl) ?_
  obtain ⟨a2, ea2, hm⟩ := bdE hm
  refine cg_aald3 C hw (aR_E ea2) dJ2_elementData_5 ?_
  obtain ⟨er, eh⟩ := retE hm
  have ec : cc = u9.1 - u.1 := by rw [← eh]; omega
  have es : ss = u9.2.1 - u.2.1 := by rw [← eh]; omega
  rw [ec, es, ← hQ]
  exact W.aret (v := .ref a2) hx hb hr (Or.inl ⟨_, rfl⟩) (Or.inr ⟨_, rfl⟩) (fun t ht hW => ⟨⟨u, a2, rfl, eh, er, ⟨by rw [ht]; exact hw.1, by rw [ht]; exact hw.2.1⟩⟩, hw.2.2.1.F ht⟩) hw.2.2.1.2.2 dJ2_elementData_6
def m_J12_checkIndex_9 (f : Nat) (h : CH) (x0 : Int32) (x1 : Int32) (x2 : Nat) : Option (Int32 × CH) := none
theorem mo_J12_checkIndex_9 {f : Nat} : ∀ (h : CH) (x0 : Int32) (x1 : Int32) (x2 : Nat) (r : (Int32 × CH)), m_J12_checkIndex_9 f h x0 x1 x2 = some r → le2 h r.2 := by
  intro h x0 x1 x2 r hm
  rw [m_J12_checkIndex_9] at hm
  exact noE hm
def m_J12_checkIndex (f : Nat) (u : CH) (x0 : Int32) (x1 : Int32) (x2 : Nat) : Option (Int32 × CH) := if x0 < 0 then
    m_J12_checkIndex_9 f u x0 x1 x2
    else if x0 < x1 then
    some (x0, u)
    else m_J12_checkIndex_9 f u x0 x1 x2
theorem mo_J12_checkIndex {f : Nat} {u : CH} {x0 : Int32} {x1 : Int32} {x2 : Nat} {r0 : Int32} {u9 : CH} (hm : m_J12_checkIndex f u x0 x1 x2 = some (r0, u9)) : le2 u u9 := by
  rw [m_J12_checkIndex] at hm
  by_cases c1 : x0 < 0
  · have hm := ifT hm c1
    exact (mo_J12_checkIndex_9  u x0 x1 x2 _ hm)
  · have hm := ifF hm c1
    by_cases c2 : x0 < x1
    · have hm := ifT hm c2
      cases hm
      exact le2.rf
    · have hm := ifF hm c2
      exact (mo_J12_checkIndex_9  u x0 x1 x2 _ hm)
abbrev rm_J12_checkIndex (mc ms : Nat) : Room := { frames := 0, cells := mc, slots := ms, locals := 0 }
theorem cw_J12_checkIndex {R : Room} {s : State} {args : Array Value} {own : String} {idx mc ms : Nat} (hts : ∀ w ∈ lw_all, w.before args s = true) (hl : Cond.methodLink own idx yJ12_checkIndex ∈ lw_all) (hR : 0 + 1 ≤ R.frames ∧ 8 + (3 + 11) + 0 ≤ R.locals) : CallB R s args own idx yJ12_checkIndex cJ12_checkIndex 3 (Option.some Jvm.ClassFile.FieldType.int) (ws_ yJ12_checkIndex cJ12_checkIndex 3 (Option.some Jvm.ClassFile.FieldType.int)) (rm_J12_checkIndex mc ms) mc ms 3 ∧ (Cond.static yJ12_checkIndex).before args s = true := va_cwS 3 hts (lw_S hl q488 q138 q489) rfl rfl rfl (by decide +kernel) hR
set_option maxHeartbeats 4000000 in
set_option maxRecDepth 100000 in
theorem w_J12_checkIndex (l : Launch) {D : va_G} {dA : Nat → ClassId} {A : Nat → Prop} {f : Nat} {u u9 : CH} {r0 : Int32} {x0 : Int32} {x1 : Int32} {x2 : Nat} (hm : m_J12_checkIndex f u x0 x1 x2 = some (r0, u9)) : Met l yJ12_checkIndex (ws_ yJ12_checkIndex cJ12_checkIndex 3 (Option.some Jvm.ClassFile.FieldType.int)) (rm_J12_checkIndex (u9.1 - u.1) (u9.2.1 - u.2.1)) (va_Pc [.int x0, .int x1, .ref x2] (CPre D dA A u)) (va_Qi (fun r u => r = r0 ∧ u = u9) (CPost D dA A) A) (u9.1 - u.1) (u9.2.1 - u.2.1) A := by
  refine metOfWF (cc := cJ12_checkIndex) (maxL := 3) (ret := (Option.some Jvm.ClassFile.FieldType.int)) (by decide +kernel) rfl ?_
  intro p e s m args below meth c s₁ B hml hv
  have hx := B.exec
  have hb := B.bytes
  have hr := B.returns
  have hts := atoms_spec (ws := (ws_ yJ12_checkIndex cJ12_checkIndex 3 (Option.some Jvm.ClassFile.FieldType.int))) B.pre
  have hts : ∀ w ∈ lw_all, w.before args s = true := fun w h => hts w (List.mem_cons_of_mem _ h)
  have hown : s.vm.findClass RJ12 = some m.cls := findClass_of_methodNamed B.named
  have hlocks := B.notSynchronized
  obtain ⟨hav, hv⟩ := hv
  have C : CX p s m args c cJ12_checkIndex RJ12 D dA := ⟨hx, hb, hown, hts, hv.2⟩
  have hw : CW D dA A s u s.heap [] := hv.1
  generalize hQ : MQ below (va_Qi (fun r u => r = r0 ∧ u = u9) (CPost D dA A) A) args s (u9.1 - u.1) (u9.2.1 - u.2.1) A = QQ
  have hent := lg_entry_eq m [.int x0, .int x1, .ref x2] 3
  rw [← hav] at hent
  rw [hent]
  have hl := lv_entry ([.int x0, .int x1, .ref x2]) (n := 3) (Nat.le_of_ble_eq_true rfl)
  generalize (lg_sl ([.int x0, .int x1, .ref x2]) ++ List.replicate (3 - (lg_sl ([.int x0, .int x1, .ref x2])).length) Slot.unset).toArray = ls at hl ⊢
  have hl : lv_has ls 3 [(0, .int x0), (1, .int x1), (2, .ref x2)] := hl
  obtain ⟨cc, ecc⟩ : ∃ z : Nat, z = 0 := ⟨0, rfl⟩
  obtain ⟨ss, ess⟩ : ∃ z : Nat, z = 0 := ⟨0, rfl⟩
  have hcc : cc + u.1 = u.1 := by omega
  have hss : ss + u.2.1 = u.2.1 := by omega
  suffices hgo : W p l e (rm_J12_checkIndex (u9.1 - u.1) (u9.2.1 - u.2.1)) s m args below meth c s.heap [] cc ss QQ (F0 m 0 ls []) by rw [ecc, ess] at hgo; exact hgo
  have ⟨pu, qu, _, _⟩ := mo_J12_checkIndex hm
  have hB9 : ∀ (h : CH) (x0 : Int32) (x1 : Int32) (x2 : Nat) (cc ss : Nat) (H : Heap) (locs : List Loc) (ls : Array Slot), m_J12_checkIndex_9 f h x0 x1 x2 = some (r0, u9) → CW D dA A s h H locs → cc + u.1 = h.1 → ss + u.2.1 = h.2.1 → lv_has ls 3 [(0, .int x0), (1, .int x1), (2, .ref x2)] → W p l e (rm_J12_checkIndex (u9.1 - u.1) (u9.2.1 - u.2.1)) s m args below meth c H locs cc ss QQ (F0 m 9 ls []) := by
    intro h x0 x1 x2 cc ss H locs ls hm hw hcc hss hl
    have hmo := mo_J12_checkIndex_9  h x0 x1 x2 _ hm
    have sb_ : h.1 ≤ u9.1 := hmo.1
    have tb_ : h.2.1 ≤ u9.2.1 := hmo.2.1
    rw [m_J12_checkIndex_9] at hm
    refine lv_aload_n hx hb dJ12_checkIndex_9 rfl (lv_at hl 2 rfl) ?_
    refine lv_iload_n hx hb dJ12_checkIndex_10 rfl (lv_at hl 0 rfl) ?_
    refine lv_iload_n hx hb dJ12_checkIndex_11 rfl (lv_at hl 1 rfl) ?_
    exact noE hm
  rw [m_J12_checkIndex] at hm
  refine lv_iload_n hx hb dJ12_checkIndex_0 rfl (lv_at hl 0 rfl) ?_
  refine lv_if_lt (tgt := 9) hx hb dJ12_checkIndex_1 (by decide) (fun c1 => ?_) (fun c1 => ?_)
  · have hm := ifT hm c1
    exact hB9 u x0 x1 x2 _ _ _ _ _ hm hw (by omega) (by omega) (lv_sub hl [0, 1, 2] rfl)
  · have hm := ifF hm c1
    refine lv_iload_n hx hb dJ12_checkIndex_4 rfl (lv_at hl 0 rfl) ?_
    refine lv_iload_n hx hb dJ12_checkIndex_5 rfl (lv_at hl 1 rfl) ?_
    refine lv_icmp_lt (tgt := 16) hx hb dJ12_checkIndex_6 (by decide) (fun c2 => ?_) (fun c2 => ?_)
    · have hm := ifT hm c2
      refine lv_iload_n hx hb dJ12_checkIndex_16 rfl (lv_at hl 0 rfl) ?_
      obtain ⟨er, eh⟩ := retE hm
      have ec : cc = u9.1 - u.1 := by rw [← eh]; omega
      have es : ss = u9.2.1 - u.2.1 := by rw [← eh]; omega
      rw [ec, es, ← hQ]
      exact W.iret (v := x0) hx hb hr (fun t ht hW => ⟨⟨x0, u, rfl, ⟨er, eh⟩, ⟨by rw [ht]; exact hw.1, by rw [ht]; exact hw.2.1⟩⟩, hw.2.2.1.F ht⟩) hw.2.2.1.2.2 dJ12_checkIndex_17
    · have hm := ifF hm c2
      exact hB9 u x0 x1 x2 _ _ _ _ _ hm hw (by omega) (by omega) (lv_sub hl [0, 1, 2] rfl)
