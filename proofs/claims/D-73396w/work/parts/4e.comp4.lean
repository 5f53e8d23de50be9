/-! walks of the component (printed by gen/walkc.py) -/
set_option maxRecDepth 100000
def m_X4_read_21 (f : Nat) (h : CH) : Option ((Unit ⊕ Nat) × CH) := some (.inl (), h)
theorem mo_X4_read_21 {f : Nat} : ∀ (h : CH) (r : ((Unit ⊕ Nat) × CH)), m_X4_read_21 f h = some r → le2 h r.2 := by
  intro h r hm
  rw [m_X4_read_21] at hm
  cases hm
  exact le2.rf
def m_X4_read_18 (f : Nat) (k4 : CH → Nat → Option ((Unit ⊕ Nat) × CH)) (h : CH) (x0 : Nat) : Option ((Unit ⊕ Nat) × CH) := k4 h x0
theorem mo_X4_read_18 {f : Nat} {k4 : CH → Nat → Option ((Unit ⊕ Nat) × CH)} (hk4 : ∀ (h : CH) (x0 : Nat) (r : ((Unit ⊕ Nat) × CH)), k4 h x0 = some r → le2 h r.2) : ∀ (h : CH) (x0 : Nat) (r : ((Unit ⊕ Nat) × CH)), m_X4_read_18 f k4 h x0 = some r → le2 h r.2 := by
  intro h x0 r hm
  rw [m_X4_read_18] at hm
  exact (hk4 h x0 _ hm)
def m_X4_read_4 (f : Nat) : Nat → CH → Nat → Option ((Unit ⊕ Nat) × CH)
  | 0, _, _ => none
  | n4 + 1, h, x0 => bd (oR h 4 7 x0) fun a1 =>
    bd (sR h 4) fun a2 =>
    if a1 = a2 then
    m_X4_read_21 f h
    else gd (isC h x0 4) <|
    bx (m_X4_line f h x0) (fun r6 h5 =>
    m_X4_read_18 f (m_X4_read_4 f n4) h5 x0) (fun q7 h5 =>
    gd (isC h5 q7 5) <|
    some (.inr q7, h5))
theorem mo_X4_read_4 {f : Nat} : ∀ (n4 : Nat) (h : CH) (x0 : Nat) (r : ((Unit ⊕ Nat) × CH)), m_X4_read_4 f n4 h x0 = some r → le2 h r.2 := by
  intro n4
  induction n4 with
  | zero => intro h x0 r hm; rw [m_X4_read_4] at hm; exact noE hm
  | succ n4 ihm =>
    intro h x0 r hm
    rw [m_X4_read_4] at hm
    obtain ⟨a1, ea1, hm⟩ := bdE hm
    obtain ⟨a2, ea2, hm⟩ := bdE hm
    by_cases c3 : a1 = a2
    · have hm := ifT hm c3
      exact (mo_X4_read_21  h _ hm)
    · have hm := ifF hm c3
      obtain ⟨g4, hm⟩ := gdE hm
      rcases bxE hm with ⟨r6, h5, eh5, hm⟩ | ⟨q7, h5, eh5, hm⟩
      · have lh5 := mo_X4_line eh5
        exact (lh5.tr (mo_X4_read_18 ihm h5 x0 _ hm))
      · have lh5 := mo_X4_line eh5
        obtain ⟨g8, hm⟩ := gdE hm
        cases hm
        exact (lh5.tr le2.rf)
def m_X4_read (f : Nat) (u : CH) (x0 : Nat) : Option ((Unit ⊕ Nat) × CH) := gd (isC u x0 4) <|
    bd (m_X4_advance f u x0) fun h2 =>
    m_X4_read_4 f f h2 x0
theorem mo_X4_read {f : Nat} {u : CH} {x0 : Nat} {r0 : Unit ⊕ Nat} {u9 : CH} (hm : m_X4_read f u x0 = some (r0, u9)) : le2 u u9 := by
  rw [m_X4_read] at hm
  obtain ⟨g1, hm⟩ := gdE hm
  obtain ⟨h2, eh2, hm⟩ := bdE hm
  have lh2 := mo_X4_advance eh2
  exact (lh2.tr (mo_X4_read_4  f h2 x0 _ hm))
abbrev rm_X4_read (mc ms : Nat) : Room := { frames := 10, cells := mc, slots := ms, locals := 262 }
theorem cw_X4_read {R : Room} {s : State} {args : Array Value} {own : String} {idx mc ms : Nat} (hts : ∀ w ∈ lw_all, w.before args s = true) (hl : Cond.methodLink own idx yX4_read ∈ lw_all) (hR : 10 + 1 ≤ R.frames ∧ 8 + (1 + 11) + 262 ≤ R.locals) : CallW R s args own RX4 idx yX4_read cX4_read 1 (Option.none : Option Jvm.ClassFile.FieldType) (ws_ yX4_read cX4_read 1 (Option.none : Option Jvm.ClassFile.FieldType)) (rm_X4_read mc ms) mc ms 0 := cwV 0 hts (lw_V hl q348 q349 q126 q350) rfl rfl rfl (by decide +kernel) hR
set_option maxHeartbeats 4000000 in
set_option maxRecDepth 100000 in
theorem w_X4_read (l : Launch) (htl : l.stackTraces = false) {D : va_G} {dA : Nat → ClassId} {A : Nat → Prop} {f : Nat} {u u9 : CH} {r0 : Unit ⊕ Nat} {x0 : Nat} (hm : m_X4_read f u x0 = some (r0, u9)) : vy_Met l yX4_read (ws_ yX4_read cX4_read 1 (Option.none : Option Jvm.ClassFile.FieldType)) (rm_X4_read (u9.1 - u.1) (u9.2.1 - u.2.1)) (va_Pc [.ref x0] (CPre D dA A u)) (cxQv D dA A r0 u9) (cxX D dA A r0 u9) (u9.1 - u.1) (u9.2.1 - u.2.1) A := by
  refine vy_ofW (cc := cX4_read) (maxL := 1) (ret := (Option.none : Option Jvm.ClassFile.FieldType)) (by decide) rfl ?_
  intro p e s m args below meth c s₁ B hml htab hv
  have hx := B.exec
  have hb := B.bytes
  have hr := B.returns
  have hts := atoms_spec (ws := (ws_ yX4_read cX4_read 1 (Option.none : Option Jvm.ClassFile.FieldType))) B.pre
  have hts : ∀ w ∈ lw_all, w.before args s = true := fun w h => hts w (List.mem_cons_of_mem _ h)
  have hown : s.vm.findClass RX4 = some m.cls := findClass_of_methodNamed B.named
  have hlocks := B.notSynchronized
  obtain ⟨hav, hv⟩ := hv
  have C : CX p s m args c cX4_read RX4 D dA := ⟨hx, hb, hown, hts, hv.2⟩
  have hw : CW D dA A s u s.heap [] := hv.1
  generalize hQ : vy_MQ below (cxQv D dA A r0 u9) (cxX D dA A r0 u9) args s (u9.1 - u.1) (u9.2.1 - u.2.1) A = QQ
  have hent := lg_entry_eq m [.ref x0] 1
  rw [← hav] at hent
  rw [hent]
  have hl := lv_entry ([.ref x0]) (n := 1) (Nat.le_of_ble_eq_true rfl)
  generalize (lg_sl ([.ref x0]) ++ List.replicate (1 - (lg_sl ([.ref x0])).length) Slot.unset).toArray = ls at hl ⊢
  have hl : lv_has ls 1 [(0, .ref x0)] := hl
  obtain ⟨cc, ecc⟩ : ∃ z : Nat, z = 0 := ⟨0, rfl⟩
  obtain ⟨ss, ess⟩ : ∃ z : Nat, z = 0 := ⟨0, rfl⟩
  have hcc : cc + u.1 = u.1 := by omega
  have hss : ss + u.2.1 = u.2.1 := by omega
  suffices hgo : W p l e (rm_X4_read (u9.1 - u.1) (u9.2.1 - u.2.1)) s m args below meth c s.heap [] cc ss QQ (F0 m 0 ls []) by rw [ecc, ess] at hgo; exact hgo
  have ⟨pu, qu, _, _⟩ := mo_X4_read hm
  have hB21 : ∀ (h : CH) (cc ss : Nat) (H : Heap) (locs : List Loc) (ls : Array Slot), m_X4_read_21 f h = some (r0, u9) → CW D dA A s h H locs → cc + u.1 = h.1 → ss + u.2.1 = h.2.1 → lv_has ls 1 [] → W p l e (rm_X4_read (u9.1 - u.1) (u9.2.1 - u.2.1)) s m args below meth c H locs cc ss QQ (F0 m 21 ls []) := by
    intro h cc ss H locs ls hm hw hcc hss hl
    have hmo := mo_X4_read_21  h _ hm
    have sb_ : h.1 ≤ u9.1 := hmo.1
    have tb_ : h.2.1 ≤ u9.2.1 := hmo.2.1
    rw [m_X4_read_21] at hm
    obtain ⟨er, eh⟩ := retE hm
    have ec : cc = u9.1 - u.1 := by rw [← eh]; omega
    have es : ss = u9.2.1 - u.2.1 := by rw [← eh]; omega
    rw [ec, es, ← hQ]
    refine vy_ret ?_
    exact W.vret hx hb hr (fun t ht hW => ⟨⟨h, rfl, ⟨er.symm, eh⟩, ⟨by rw [ht]; exact hw.1, by rw [ht]; exact hw.2.1⟩⟩, hw.2.2.1.F ht⟩) hw.2.2.1.2.2 dX4_read_21
  have hB4 : ∀ (n4 : Nat), ∀ (h : CH) (x0 : Nat) (cc ss : Nat) (H : Heap) (locs : List Loc) (ls : Array Slot), m_X4_read_4 f n4 h x0 = some (r0, u9) → CW D dA A s h H locs → cc + u.1 = h.1 → ss + u.2.1 = h.2.1 → lv_has ls 1 [(0, .ref x0)] → W p l e (rm_X4_read (u9.1 - u.1) (u9.2.1 - u.2.1)) s m args below meth c H locs cc ss QQ (F0 m 4 ls []) := by
    intro n4
    induction n4 with
    | zero => intro h x0 cc ss H locs ls hm hw hcc hss hl; rw [m_X4_read_4] at hm; exact noE hm
    | succ n4 ih4 =>
      have hB18 : ∀ (h : CH) (x0 : Nat) (cc ss : Nat) (H : Heap) (locs : List Loc) (ls : Array Slot), m_X4_read_18 f (m_X4_read_4 f n4) h x0 = some (r0, u9) → CW D dA A s h H locs → cc + u.1 = h.1 → ss + u.2.1 = h.2.1 → lv_has ls 1 [(0, .ref x0)] → W p l e (rm_X4_read (u9.1 - u.1) (u9.2.1 - u.2.1)) s m args below meth c H locs cc ss QQ (F0 m 18 ls []) := by
        intro h x0 cc ss H locs ls hm hw hcc hss hl
        have hmo := mo_X4_read_18 (mo_X4_read_4 n4) h x0 _ hm
        have sb_ : h.1 ≤ u9.1 := hmo.1
        have tb_ : h.2.1 ≤ u9.2.1 := hmo.2.1
        rw [m_X4_read_18] at hm
        refine lv_goto (tgt := 4) hx hb dX4_read_18 (by decide) ?_
        exact ih4 h x0 _ _ _ _ _ hm hw (by omega) (by omega) (lv_sub hl [0] rfl)
      intro h x0 cc ss H locs ls hm hw hcc hss hl
      have hmo := mo_X4_read_4  (n4 + 1) h x0 _ hm
      have sb_ : h.1 ≤ u9.1 := hmo.1
      have tb_ : h.2.1 ≤ u9.2.1 := hmo.2.1
      rw [m_X4_read_4] at hm
      refine lv_aload_n hx hb dX4_read_4 rfl (lv_at hl 0 rfl) ?_
      obtain ⟨a1, ea1, hm⟩ := bdE hm
      refine cg_get C hw (oR_E ea1) rfl in_X4 (by decide) q323 dX4_read_5 ?_
      obtain ⟨a2, ea2, hm⟩ := bdE hm
      refine cg_gets C hw (i := 4) ea2 rfl q359 dX4_read_8 ?_
      refine cg_acmp_eq (tgt := 21) hx hb dX4_read_11 (by decide) (fun c3 => ?_) (fun c3 => ?_)
      · have hm := ifT hm c3
        exact hB21 h _ _ _ _ _ hm hw (by omega) (by omega) (lv_sub hl [] rfl)
      · have hm := ifF hm c3
        refine lv_aload_n hx hb dX4_read_14 rfl (lv_at hl 0 rfl) ?_
        obtain ⟨g4, hm⟩ := gdE hm
        rcases bxE hm with ⟨r6, h5, eh5, hm⟩ | ⟨q7, h5, eh5, hm⟩
        · have lh5 := mo_X4_line eh5
          have ph5 : h.1 ≤ h5.1 := lh5.1
          have qh5 : h.2.1 ≤ h5.2.1 := lh5.2.1
          have hmo := mo_X4_read_18 (mo_X4_read_4 n4)  h5 x0 _ hm
          have sh5 : h5.1 ≤ u9.1 := hmo.1
          have th5 : h5.2.1 ≤ u9.2.1 := hmo.2.1
          refine cx_callv hw lh5 (vy_runV (As := []) (rest := []) ⟨hx, hb, hml, hown, hts⟩ (w_X4_line l htl eh5) (cw_X4_line hts q564 ⟨Nat.le_of_ble_eq_true rfl, Nat.le_of_ble_eq_true rfl⟩) (cg_preV C hw g4 rfl _) rfl rfl hl.1 rfl (lv_room (Nat.le_of_ble_eq_true rfl)) dX4_read_15 ⟨show cc + (h5.1 - h.1) ≤ u9.1 - u.1 by omega, show ss + (h5.2.1 - h.2.1) ≤ u9.2.1 - u.2.1 by omega⟩) (fun H locs hw => ?_)
          exact hB18 h5 x0 _ _ _ _ _ hm hw (by omega) (by omega) (lv_sub hl [0] rfl)
        · have lh5 := mo_X4_line eh5
          have ph5 : h.1 ≤ h5.1 := lh5.1
          have qh5 : h.2.1 ≤ h5.2.1 := lh5.2.1
          obtain ⟨g8, hm⟩ := gdE hm
          have sh5 : h5.1 ≤ u9.1 := by rw [← (retE hm).2]; exact Nat.le_refl _
          have th5 : h5.2.1 ≤ u9.2.1 := by rw [← (retE hm).2]; exact Nat.le_refl _
          refine cx_callX hw lh5 noQv (vy_runV (As := []) (rest := []) ⟨hx, hb, hml, hown, hts⟩ (w_X4_line l htl eh5) (cw_X4_line hts q564 ⟨Nat.le_of_ble_eq_true rfl, Nat.le_of_ble_eq_true rfl⟩) (cg_preV C hw g4 rfl _) rfl rfl hl.1 rfl (lv_room (Nat.le_of_ble_eq_true rfl)) dX4_read_15 ⟨show cc + (h5.1 - h.1) ≤ u9.1 - u.1 by omega, show ss + (h5.2.1 - h.2.1) ≤ u9.2.1 - u.2.1 by omega⟩) (fun H locs hw => ?_)
          obtain ⟨er, eh⟩ := retE hm
          rw [← hQ]
          exact cx_out C hw g8 (by decide) rfl er eh (fun x hx => (htab x hx).elim) hlocks (by rw [← eh]; omega) (by rw [← eh]; omega)
  rw [m_X4_read] at hm
  refine lv_aload_n hx hb dX4_read_0 rfl (lv_at hl 0 rfl) ?_
  obtain ⟨g1, hm⟩ := gdE hm
  obtain ⟨h2, eh2, hm⟩ := bdE hm
  have lh2 := mo_X4_advance eh2
  have ph2 : u.1 ≤ h2.1 := lh2.1
  have qh2 : u.2.1 ≤ h2.2.1 := lh2.2.1
  have hmo := mo_X4_read_4  f  h2 x0 _ hm
  have sh2 : h2.1 ≤ u9.1 := hmo.1
  have th2 : h2.2.1 ≤ u9.2.1 := hmo.2.1
  refine cg_callv hw lh2 (va_runV (As := []) (rest := []) ⟨hx, hb, hml, hown, hts⟩ (w_X4_advance l eh2) (cw_X4_advance hts q351 ⟨Nat.le_of_ble_eq_true rfl, Nat.le_of_ble_eq_true rfl⟩) (cg_preV C hw g1 rfl _) rfl rfl hl.1 rfl (lv_room (Nat.le_of_ble_eq_true rfl)) dX4_read_1 ⟨show cc + (h2.1 - u.1) ≤ u9.1 - u.1 by omega, show ss + (h2.2.1 - u.2.1) ≤ u9.2.1 - u.2.1 by omega⟩) (fun H locs hw => ?_)
  exact hB4 f h2 x0 _ _ _ _ _ hm hw (by omega) (by omega) (lv_sub hl [0] rfl)
def m_J2_clear_42 (f : Nat) (h : CH) : Option CH := some h
theorem mo_J2_clear_42 {f : Nat} : ∀ (h : CH) (r : CH), m_J2_clear_42 f h = some r → le2 h r := by
  intro h r hm
  rw [m_J2_clear_42] at hm
  cases hm
  exact le2.rf
def m_J2_clear_27 (f : Nat) : Nat → CH → Nat → Int32 → Int32 → Option CH
  | 0, _, _, _, _ => none
  | n27 + 1, h, x1, x2, x3 => if x2 ≤ x3 then
    m_J2_clear_42 f h
    else bd (uQ h 3 x1 x3 none) fun h2 =>
    nmv ((x3 + 1) : Int32) fun v3 =>
    m_J2_clear_27 f n27 h2 x1 x2 v3
theorem mo_J2_clear_27 {f : Nat} : ∀ (n27 : Nat) (h : CH) (x1 : Nat) (x2 : Int32) (x3 : Int32) (r : CH), m_J2_clear_27 f n27 h x1 x2 x3 = some r → le2 h r := by
  intro n27
  induction n27 with
  | zero => intro h x1 x2 x3 r hm; rw [m_J2_clear_27] at hm; exact noE hm
  | succ n27 ihm =>
    intro h x1 x2 x3 r hm
    rw [m_J2_clear_27] at hm
    by_cases c1 : x2 ≤ x3
    · have hm := ifT hm c1
      exact (mo_J2_clear_42  h _ hm)
    · have hm := ifF hm c1
      obtain ⟨h2, eh2, hm⟩ := bdE hm
      have lh2 := uQ_le eh2
      obtain ⟨v3, ev3, hm⟩ := nmE hm
      exact (lh2.tr (ihm h2 x1 x2 v3 _ hm))
def m_J2_clear (f : Nat) (u : CH) (x0 : Nat) : Option CH := bd (oI u 17 0 x0) fun v1 =>
    bd (pF u 17 0 x0 (.int (v1 + (1 : Int32)))) fun h2 =>
    bd (oR h2 17 1 x0) fun a3 =>
    bd (oI h2 17 2 x0) fun v4 =>
    bd (pF h2 17 2 x0 (.int (0 : Int32))) fun h5 =>
    m_J2_clear_27 f f h5 a3 v4 (0 : Int32)
theorem mo_J2_clear {f : Nat} {u : CH} {x0 : Nat} {u9 : CH} (hm : m_J2_clear f u x0 = some u9) : le2 u u9 := by
  rw [m_J2_clear] at hm
  obtain ⟨v1, ev1, hm⟩ := bdE hm
  obtain ⟨h2, eh2, hm⟩ := bdE hm
  have lh2 := pF_le eh2
  obtain ⟨a3, ea3, hm⟩ := bdE hm
  obtain ⟨v4, ev4, hm⟩ := bdE hm
  obtain ⟨h5, eh5, hm⟩ := bdE hm
  have lh5 := pF_le eh5
  exact (lh2.tr (lh5.tr (mo_J2_clear_27  f h5 a3 v4 (0 : Int32) _ hm)))
abbrev rm_J2_clear (mc ms : Nat) : Room := { frames := 0, cells := mc, slots := ms, locals := 0 }
theorem cw_J2_clear {R : Room} {s : State} {args : Array Value} {own : String} {idx mc ms : Nat} (hts : ∀ w ∈ lw_all, w.before args s = true) (hl : Cond.methodLink own idx yJ2_clear ∈ lw_all) (hR : 0 + 1 ≤ R.frames ∧ 8 + (4 + 11) + 0 ≤ R.locals) : CallW R s args own RJ2 idx yJ2_clear cJ2_clear 4 (Option.none : Option Jvm.ClassFile.FieldType) (ws_ yJ2_clear cJ2_clear 4 (Option.none : Option Jvm.ClassFile.FieldType)) (rm_J2_clear mc ms) mc ms 0 := cwV 0 hts (lw_V hl q854 q855 q122 q856) rfl rfl rfl (by decide +kernel) hR
set_option maxHeartbeats 4000000 in
set_option maxRecDepth 100000 in
theorem w_J2_clear (l : Launch) {D : va_G} {dA : Nat → ClassId} {A : Nat → Prop} {f : Nat} {u u9 : CH} {x0 : Nat} (hm : m_J2_clear f u x0 = some u9) : Met l yJ2_clear (ws_ yJ2_clear cJ2_clear 4 (Option.none : Option Jvm.ClassFile.FieldType)) (rm_J2_clear (u9.1 - u.1) (u9.2.1 - u.2.1)) (va_Pc [.ref x0] (CPre D dA A u)) (va_Qv (fun u => u = u9) (CPost D dA A) A) (u9.1 - u.1) (u9.2.1 - u.2.1) A := by
  refine metOfWF (cc := cJ2_clear) (maxL := 4) (ret := (Option.none : Option Jvm.ClassFile.FieldType)) (by decide +kernel) rfl ?_
  intro p e s m args below meth c s₁ B hml hv
  have hx := B.exec
  have hb := B.bytes
  have hr := B.returns
  have hts := atoms_spec (ws := (ws_ yJ2_clear cJ2_clear 4 (Option.none : Option Jvm.ClassFile.FieldType))) B.pre
  have hts : ∀ w ∈ lw_all, w.before args s = true := fun w h => hts w (List.mem_cons_of_mem _ h)
  have hown : s.vm.findClass RJ2 = some m.cls := findClass_of_methodNamed B.named
  have hlocks := B.notSynchronized
  obtain ⟨hav, hv⟩ := hv
  have C : CX p s m args c cJ2_clear RJ2 D dA := ⟨hx, hb, hown, hts, hv.2⟩
  have hw : CW D dA A s u s.heap [] := hv.1
  generalize hQ : MQ below (va_Qv (fun u => u = u9) (CPost D dA A) A) args s (u9.1 - u.1) (u9.2.1 - u.2.1) A = QQ
  have hent := lg_entry_eq m [.ref x0] 4
  rw [← hav] at hent
  rw [hent]
  have hl := lv_entry ([.ref x0]) (n := 4) (Nat.le_of_ble_eq_true rfl)
  generalize (lg_sl ([.ref x0]) ++ List.replicate (4 - (lg_sl ([.ref x0])).length) Slot.unset).toArray = ls at hl ⊢
  have hl : lv_has ls 4 [(0, .ref x0)] := hl
  obtain ⟨cc, ecc⟩ : ∃ z : Nat, z = 0 := ⟨0, rfl⟩
  obtain ⟨ss, ess⟩ : ∃ z : Nat, z = 0 := ⟨0, rfl⟩
  have hcc : cc + u.1 = u.1 := by omega
  have hss : ss + u.2.1 = u.2.1 := by omega
  suffices hgo : W p l e (rm_J2_clear (u9.1 - u.1) (u9.2.1 - u.2.1)) s m args below meth c s.heap [] cc ss QQ (F0 m 0 ls []) by rw [ecc, ess] at hgo; exact hgo
  have ⟨pu, qu, _, _⟩ := mo_J2_clear hm
  have hB42 : ∀ (h : CH) (cc ss : Nat) (H : Heap) (locs : List Loc) (ls : Array Slot), m_J2_clear_42 f h = some u9 → CW D dA A s h H locs → cc + u.1 = h.1 → ss + u.2.1 = h.2.1 → lv_has ls 4 [] → W p l e (rm_J2_clear (u9.1 - u.1) (u9.2.1 - u.2.1)) s m args below meth c H locs cc ss QQ (F0 m 42 ls []) := by
    intro h cc ss H locs ls hm hw hcc hss hl
    have hmo := mo_J2_clear_42  h _ hm
    have sb_ : h.1 ≤ u9.1 := hmo.1
    have tb_ : h.2.1 ≤ u9.2.1 := hmo.2.1
    rw [m_J2_clear_42] at hm
    have eh := ret1 hm
    have ec : cc = u9.1 - u.1 := by rw [← eh]; omega
    have es : ss = u9.2.1 - u.2.1 := by rw [← eh]; omega
    rw [ec, es, ← hQ]
    exact W.vret hx hb hr (fun t ht hW => ⟨⟨h, rfl, eh, ⟨by rw [ht]; exact hw.1, by rw [ht]; exact hw.2.1⟩⟩, hw.2.2.1.F ht⟩) hw.2.2.1.2.2 dJ2_clear_42
  have hB27 : ∀ (n27 : Nat), ∀ (h : CH) (x1 : Nat) (x2 : Int32) (x3 : Int32) (cc ss : Nat) (H : Heap) (locs : List Loc) (ls : Array Slot), m_J2_clear_27 f n27 h x1 x2 x3 = some u9 → CW D dA A s h H locs → cc + u.1 = h.1 → ss + u.2.1 = h.2.1 → lv_has ls 4 [(1, .ref x1), (2, .int x2), (3, .int x3)] → W p l e (rm_J2_clear (u9.1 - u.1) (u9.2.1 - u.2.1)) s m args below meth c H locs cc ss QQ (F0 m 27 ls []) := by
    intro n27
    induction n27 with
    | zero => intro h x1 x2 x3 cc ss H locs ls hm hw hcc hss hl; rw [m_J2_clear_27] at hm; exact noE hm
    | succ n27 ih27 =>
      intro h x1 x2 x3 cc ss H locs ls hm hw hcc hss hl
      have hmo := mo_J2_clear_27  (n27 + 1) h x1 x2 x3 _ hm
      have sb_ : h.1 ≤ u9.1 := hmo.1
      have tb_ : h.2.1 ≤ u9.2.1 := hmo.2.1
      rw [m_J2_clear_27] at hm
      refine lv_iload_n hx hb dJ2_clear_27 rfl (lv_at hl 2 rfl) ?_
      refine lv_iload_n hx hb dJ2_clear_28 rfl (lv_at hl 1 rfl) ?_
      refine lv_icmp_ge (tgt := 42) hx hb dJ2_clear_29 (by decide) (fun c1 => ?_) (fun c1 => ?_)
      · have hm := ifT hm c1
        exact hB42 h _ _ _ _ _ hm hw (by omega) (by omega) (lv_sub hl [] rfl)
      · have hm := ifF hm c1
        refine lv_aload_n hx hb dJ2_clear_32 rfl (lv_at hl 0 rfl) ?_
        refine lv_iload_n hx hb dJ2_clear_33 rfl (lv_at hl 2 rfl) ?_
        refine lv_null hx hb dJ2_clear_34 ?_
        obtain ⟨h2, eh2, hm⟩ := bdE hm
        refine cg_aastN C hw eh2 dJ2_clear_35 (fun H locs hw => ?_)
        have zh2 := uQ_sz eh2
        obtain ⟨v3, ev3, hm⟩ := nmE hm
        refine lv_iinc (v := v3) (lv' := [(3, .int v3), (1, .ref x1), (2, .int x2)]) hx hb dJ2_clear_36 hl (k := 2) rfl (by rw [ev3]; rfl) (by decide) rfl (fun ls hl => ?_)
        refine lv_goto (tgt := 27) hx hb dJ2_clear_39 (by decide) ?_
        exact ih27 h2 x1 x2 v3 _ _ _ _ _ hm hw (by omega) (by omega) (lv_sub hl [1, 2, 0] rfl)
  rw [m_J2_clear] at hm
  refine lv_aload_n hx hb dJ2_clear_0 rfl (lv_at hl 0 rfl) ?_
  refine lv_dup hx hb dJ2_clear_1 rfl ?_
  obtain ⟨v1, ev1, hm⟩ := bdE hm
  refine cg_getM C hw (oI_E ev1) rfl in_J2 (by decide) q182 q183 dJ2_clear_2 ?_
  refine lv_iconst (v := 1) hx hb dJ2_clear_5 (by decide) ?_
  refine lv_iadd hx hb dJ2_clear_6 ?_
  obtain ⟨h2, eh2, hm⟩ := bdE hm
  refine cg_putM C hw eh2 rfl in_J2 tyJ2 tyJ2_ok nmJ2 (by decide) q182 q183 rfl rfl rfl dJ2_clear_7 (fun H locs hw => ?_)
  have zh2 := pF_sz eh2
  refine lv_aload_n hx hb dJ2_clear_10 rfl (lv_at hl 0 rfl) ?_
  obtain ⟨a3, ea3, hm⟩ := bdE hm
  refine cg_get C hw (oR_E ea3) rfl in_J2 (by decide) q179 dJ2_clear_11 ?_
  refine lv_astore_n (lv' := [(1, .ref a3), (0, .ref x0)]) hx hb dJ2_clear_14 rfl hl (by decide) rfl (fun ls hl => ?_)
  refine lv_aload_n hx hb dJ2_clear_15 rfl (lv_at hl 1 rfl) ?_
  obtain ⟨v4, ev4, hm⟩ := bdE hm
  refine cg_get C hw (oI_E ev4) rfl in_J2 (by decide) q180 dJ2_clear_16 ?_
  refine lv_istore_n (lv' := [(2, .int v4), (1, .ref a3), (0, .ref x0)]) hx hb dJ2_clear_19 rfl hl (by decide) rfl (fun ls hl => ?_)
  refine lv_aload_n hx hb dJ2_clear_20 rfl (lv_at hl 2 rfl) ?_
  refine lv_iconst (v := 0) hx hb dJ2_clear_21 (by decide) ?_
  refine lv_dup_x1 hx hb dJ2_clear_22 rfl rfl ?_
  obtain ⟨h5, eh5, hm⟩ := bdE hm
  refine cg_put C hw eh5 rfl in_J2 tyJ2 tyJ2_ok nmJ2 (by decide) q180 rfl rfl rfl dJ2_clear_23 (fun H locs hw => ?_)
  have zh5 := pF_sz eh5
  refine lv_istore_n (lv' := [(3, .int (0 : Int32)), (2, .int v4), (1, .ref a3), (0, .ref x0)]) hx hb dJ2_clear_26 rfl hl (by decide) rfl (fun ls hl => ?_)
  exact hB27 f h5 a3 v4 (0 : Int32) _ _ _ _ _ hm hw (by omega) (by omega) (lv_sub hl [2, 1, 0] rfl)
def m_J2_toArray_11 (f : Nat) (h : CH) (y0 : Nat) : Option (Nat × CH) := some (y0, h)
theorem mo_J2_toArray_11 {f : Nat} : ∀ (h : CH) (y0 : Nat) (r : (Nat × CH)), m_J2_toArray_11 f h y0 = some r → le2 h r.2 := by
  intro h y0 r hm
  rw [m_J2_toArray_11] at hm
  cases hm
  exact le2.rf
def m_J2_toArray (f : Nat) (u : CH) (x0 : Nat) : Option (Nat × CH) := bd (oR u 17 1 x0) fun a1 =>
    bd (oI u 17 2 x0) fun v2 =>
    bd2 (m_J10_copyOf_2 f u a1 v2) fun a4 h3 =>
    m_J2_toArray_11 f h3 a4
theorem mo_J2_toArray {f : Nat} {u : CH} {x0 : Nat} {r0 : Nat} {u9 : CH} (hm : m_J2_toArray f u x0 = some (r0, u9)) : le2 u u9 := by
  rw [m_J2_toArray] at hm
  obtain ⟨a1, ea1, hm⟩ := bdE hm
  obtain ⟨v2, ev2, hm⟩ := bdE hm
  obtain ⟨a4, h3, ea4, hm⟩ := bd2E hm
  have lh3 := mo_J10_copyOf_2 ea4
  exact (lh3.tr (mo_J2_toArray_11  h3 a4 _ hm))
abbrev rm_J2_toArray (mc ms : Nat) : Room := { frames := 3, cells := mc, slots := ms, locals := 104 }
set_option maxHeartbeats 4000000 in
set_option maxRecDepth 100000 in
theorem w_J2_toArray (l : Launch) {D : va_G} {dA : Nat → ClassId} {A : Nat → Prop} {f : Nat} {u u9 : CH} {r0 : Nat} {x0 : Nat} (hm : m_J2_toArray f u x0 = some (r0, u9)) : Met l yJ2_toArray (ws_ yJ2_toArray cJ2_toArray 1 (Option.some (Jvm.ClassFile.FieldType.array (Jvm.ClassFile.FieldType.object "java/lang/Object")))) (rm_J2_toArray (u9.1 - u.1) (u9.2.1 - u.2.1)) (va_Pc [.ref x0] (CPre D dA A u)) (va_Qr (fun u => u = u9) (fun u r t => r = r0 ∧ CPost D dA A u t) A) (u9.1 - u.1) (u9.2.1 - u.2.1) A := by
  refine metOfWF (cc := cJ2_toArray) (maxL := 1) (ret := (Option.some (Jvm.ClassFile.FieldType.array (Jvm.ClassFile.FieldType.object "java/lang/Object")))) (by decide +kernel) rfl ?_
  intro p e s m args below meth c s₁ B hml hv
  have hx := B.exec
  have hb := B.bytes
  have hr := B.returns
  have hts := atoms_spec (ws := (ws_ yJ2_toArray cJ2_toArray 1 (Option.some (Jvm.ClassFile.FieldType.array (Jvm.ClassFile.FieldType.object "java/lang/Object"))))) B.pre
  have hts : ∀ w ∈ lw_all, w.before args s = true := fun w h => hts w (List.mem_cons_of_mem _ h)
  have hown : s.vm.findClass RJ2 = some m.cls := findClass_of_methodNamed B.named
  have hlocks := B.notSynchronized
  obtain ⟨hav, hv⟩ := hv
  have C : CX p s m args c cJ2_toArray RJ2 D dA := ⟨hx, hb, hown, hts, hv.2⟩
  have hw : CW D dA A s u s.heap [] := hv.1
  generalize hQ : MQ below (va_Qr (fun u => u = u9) (fun u r t => r = r0 ∧ CPost D dA A u t) A) args s (u9.1 - u.1) (u9.2.1 - u.2.1) A = QQ
  have hent := lg_entry_eq m [.ref x0] 1
  rw [← hav] at hent
  rw [hent]
  have hl := lv_entry ([.ref x0]) (n := 1) (Nat.le_of_ble_eq_true rfl)
  generalize (lg_sl ([.ref x0]) ++ List.replicate (1 - (lg_sl ([.ref x0])).length) Slot.unset).toArray = ls at hl ⊢
  have hl : lv_has ls 1 [(0, .ref x0)] := hl
  obtain ⟨cc, ecc⟩ : ∃ z : Nat, z = 0 := ⟨0, rfl⟩
  obtain ⟨ss, ess⟩ : ∃ z : Nat, z = 0 := ⟨0, rfl⟩
  have hcc : cc + u.1 = u.1 := by omega
  have hss : ss + u.2.1 = u.2.1 := by omega
  suffices hgo : W p l e (rm_J2_toArray (u9.1 - u.1) (u9.2.1 - u.2.1)) s m args below meth c s.heap [] cc ss QQ (F0 m 0 ls []) by rw [ecc, ess] at hgo; exact hgo
  have ⟨pu, qu, _, _⟩ := mo_J2_toArray hm
  have hB11 : ∀ (h : CH) (y0 : Nat) (cc ss : Nat) (H : Heap) (locs : List Loc) (ls : Array Slot), m_J2_toArray_11 f h y0 = some (r0, u9) → CW D dA A s h H locs → cc + u.1 = h.1 → ss + u.2.1 = h.2.1 → lv_has ls 1 [] → W p l e (rm_J2_toArray (u9.1 - u.1) (u9.2.1 - u.2.1)) s m args below meth c H locs cc ss QQ (F0 m 11 ls [.ref y0]) := by
    intro h y0 cc ss H locs ls hm hw hcc hss hl
    have hmo := mo_J2_toArray_11  h y0 _ hm
    have sb_ : h.1 ≤ u9.1 := hmo.1
    have tb_ : h.2.1 ≤ u9.2.1 := hmo.2.1
    rw [m_J2_toArray_11] at hm
    obtain ⟨er, eh⟩ := retE hm
    have ec : cc = u9.1 - u.1 := by rw [← eh]; omega
    have es : ss = u9.2.1 - u.2.1 := by rw [← eh]; omega
    rw [ec, es, ← hQ]
    exact W.aret (v := .ref y0) hx hb hr (Or.inr ⟨_, rfl⟩) (Or.inr ⟨_, rfl⟩) (fun t ht hW => ⟨⟨h, y0, rfl, eh, er, ⟨by rw [ht]; exact hw.1, by rw [ht]; exact hw.2.1⟩⟩, hw.2.2.1.F ht⟩) hw.2.2.1.2.2 dJ2_toArray_11
  rw [m_J2_toArray] at hm
  refine lv_aload_n hx hb dJ2_toArray_0 rfl (lv_at hl 0 rfl) ?_
  obtain ⟨a1, ea1, hm⟩ := bdE hm
  refine cg_get C hw (oR_E ea1) rfl in_J2 (by decide) q179 dJ2_toArray_1 ?_
  refine lv_aload_n hx hb dJ2_toArray_4 rfl (lv_at hl 0 rfl) ?_
  obtain ⟨v2, ev2, hm⟩ := bdE hm
  refine cg_get C hw (oI_E ev2) rfl in_J2 (by decide) q180 dJ2_toArray_5 ?_
  obtain ⟨a4, h3, ea4, hm⟩ := bd2E hm
  have lh3 := mo_J10_copyOf_2 ea4
  have ph3 : u.1 ≤ h3.1 := lh3.1
  have qh3 : u.2.1 ≤ h3.2.1 := lh3.2.1
  have hmo := mo_J2_toArray_11   h3 a4 _ hm
  have sh3 : h3.1 ≤ u9.1 := hmo.1
  have th3 : h3.2.1 ≤ u9.2.1 := hmo.2.1
  refine cg_callr hw lh3 (va_runS (As := [.ref a1, .int v2]) (rest := []) ⟨hx, hb, hml, hown, hts⟩ (w_J10_copyOf_2 l ea4) (cw_J10_copyOf_2 hts q819 ⟨Nat.le_of_ble_eq_true rfl, Nat.le_of_ble_eq_true rfl⟩) (cg_preS C hw _) rfl rfl hl.1 rfl (lv_room (Nat.le_of_ble_eq_true rfl)) dJ2_toArray_8 ⟨show cc + (h3.1 - u.1) ≤ u9.1 - u.1 by omega, show ss + (h3.2.1 - u.2.1) ≤ u9.2.1 - u.2.1 by omega⟩) (fun H locs hw => ?_)
  exact hB11 h3 a4 _ _ _ _ _ hm hw (by omega) (by omega) (lv_sub hl [] rfl)
def m_J2_addAll_56 (f : Nat) (h : CH) (x0 : Nat) (x2 : Nat) (x3 : Int32) (x4 : Nat) (x5 : Int32) : Option (Int32 × CH) := bd (cpO h x2 (0 : Int32) x4 x5 x3) fun h1 =>
    bd (pF h1 17 2 x0 (.int (x5 + x3))) fun h2 =>
    some ((1 : Int32), h2)
theorem mo_J2_addAll_56 {f : Nat} : ∀ (h : CH) (x0 : Nat) (x2 : Nat) (x3 : Int32) (x4 : Nat) (x5 : Int32) (r : (Int32 × CH)), m_J2_addAll_56 f h x0 x2 x3 x4 x5 = some r → le2 h r.2 := by
  intro h x0 x2 x3 x4 x5 r hm
  rw [m_J2_addAll_56] at hm
  obtain ⟨h1, eh1, hm⟩ := bdE hm
  have lh1 := cpO_le eh1
  obtain ⟨h2, eh2, hm⟩ := bdE hm
  have lh2 := pF_le eh2
  cases hm
  exact (lh1.tr (lh2.tr le2.rf))
def m_J2_addAll_54 (f : Nat) (h : CH) (x0 : Nat) (x2 : Nat) (x3 : Int32) (x5 : Int32) (y0 : Nat) : Option (Int32 × CH) := m_J2_addAll_56 f h x0 x2 x3 y0 x5
theorem mo_J2_addAll_54 {f : Nat} : ∀ (h : CH) (x0 : Nat) (x2 : Nat) (x3 : Int32) (x5 : Int32) (y0 : Nat) (r : (Int32 × CH)), m_J2_addAll_54 f h x0 x2 x3 x5 y0 = some r → le2 h r.2 := by
  intro h x0 x2 x3 x5 y0 r hm
  rw [m_J2_addAll_54] at hm
  exact (mo_J2_addAll_56  h x0 x2 x3 y0 x5 _ hm)
def m_J2_addAll_6 (f : Nat) (h : CH) (x0 : Nat) (y0 : Nat) : Option (Int32 × CH) := bd (oI h 17 0 x0) fun v1 =>
    bd (pF h 17 0 x0 (.int (v1 + (1 : Int32)))) fun h2 =>
    bd (aN h2 3 y0) fun n3 =>
    nmv ((Int32.ofNat n3) : Int32) fun v4 =>
    if ¬ v4 = 0 then
    bd (oR h2 17 1 x0) fun a6 =>
    bd (aN h2 3 a6) fun n7 =>
    bd (oI h2 17 2 x0) fun v8 =>
    if v4 ≤ ((Int32.ofNat n7) - v8) then
    m_J2_addAll_56 f h2 x0 y0 v4 a6 v8
    else gd (isC h2 x0 17) <|
    bd2 (m_J2_grow_2 f h2 x0 (v8 + v4)) fun a12 h11 =>
    m_J2_addAll_54 f h11 x0 y0 v4 v8 a12
    else some ((0 : Int32), h2)
theorem mo_J2_addAll_6 {f : Nat} : ∀ (h : CH) (x0 : Nat) (y0 : Nat) (r : (Int32 × CH)), m_J2_addAll_6 f h x0 y0 = some r → le2 h r.2 := by
  intro h x0 y0 r hm
  rw [m_J2_addAll_6] at hm
  obtain ⟨v1, ev1, hm⟩ := bdE hm
  obtain ⟨h2, eh2, hm⟩ := bdE hm
  have lh2 := pF_le eh2
  obtain ⟨n3, en3, hm⟩ := bdE hm
  obtain ⟨v4, ev4, hm⟩ := nmE hm
  by_cases c5 : ¬ v4 = 0
  · have hm := ifT hm c5
    obtain ⟨a6, ea6, hm⟩ := bdE hm
    obtain ⟨n7, en7, hm⟩ := bdE hm
    obtain ⟨v8, ev8, hm⟩ := bdE hm
    by_cases c9 : v4 ≤ ((Int32.ofNat n7) - v8)
    · have hm := ifT hm c9
      exact (lh2.tr (mo_J2_addAll_56  h2 x0 y0 v4 a6 v8 _ hm))
    · have hm := ifF hm c9
      obtain ⟨g10, hm⟩ := gdE hm
      obtain ⟨a12, h11, ea12, hm⟩ := bd2E hm
      have lh11 := mo_J2_grow_2 ea12
      exact (lh2.tr (lh11.tr (mo_J2_addAll_54  h11 x0 y0 v4 v8 a12 _ hm)))
  · have hm := ifF hm c5
    cases hm
    exact (lh2.tr le2.rf)
def m_J2_addAll (f : Nat) (u : CH) (x0 : Nat) (x1 : Nat) : Option (Int32 × CH) := gd (isC u x1 17) <|
    bd2 (m_J2_toArray f u x1) fun a3 h2 =>
    m_J2_addAll_6 f h2 x0 a3
theorem mo_J2_addAll {f : Nat} {u : CH} {x0 : Nat} {x1 : Nat} {r0 : Int32} {u9 : CH} (hm : m_J2_addAll f u x0 x1 = some (r0, u9)) : le2 u u9 := by
  rw [m_J2_addAll] at hm
  obtain ⟨g1, hm⟩ := gdE hm
  obtain ⟨a3, h2, ea3, hm⟩ := bd2E hm
  have lh2 := mo_J2_toArray ea3
  exact (lh2.tr (mo_J2_addAll_6  h2 x0 a3 _ hm))
abbrev rm_J2_addAll (mc ms : Nat) : Room := { frames := 4, cells := mc, slots := ms, locals := 127 }
theorem cw_J2_addAll {R : Room} {s : State} {args : Array Value} {own : String} {idx mc ms : Nat} (hts : ∀ w ∈ lw_all, w.before args s = true) (hl : Cond.methodLink own idx yJ2_addAll ∈ lw_all) (hR : 4 + 1 ≤ R.frames ∧ 8 + (6 + 11) + 127 ≤ R.locals) : CallW R s args own RJ2 idx yJ2_addAll cJ2_addAll 6 (Option.some Jvm.ClassFile.FieldType.boolean) (ws_ yJ2_addAll cJ2_addAll 6 (Option.some Jvm.ClassFile.FieldType.boolean)) (rm_J2_addAll mc ms) mc ms 1 := cwV 1 hts (lw_V hl q858 q859 q122 q860) rfl rfl rfl (by decide +kernel) hR
set_option maxHeartbeats 4000000 in
set_option maxRecDepth 100000 in
theorem w_J2_addAll (l : Launch) {D : va_G} {dA : Nat → ClassId} {A : Nat → Prop} {f : Nat} {u u9 : CH} {r0 : Int32} {x0 : Nat} {x1 : Nat} (hm : m_J2_addAll f u x0 x1 = some (r0, u9)) : Met l yJ2_addAll (ws_ yJ2_addAll cJ2_addAll 6 (Option.some Jvm.ClassFile.FieldType.boolean)) (rm_J2_addAll (u9.1 - u.1) (u9.2.1 - u.2.1)) (va_Pc [.ref x0, .ref x1] (CPre D dA A u)) (va_Qi (fun r u => r = r0 ∧ u = u9) (CPost D dA A) A) (u9.1 - u.1) (u9.2.1 - u.2.1) A := by
  refine metOfWF (cc := cJ2_addAll) (maxL := 6) (ret := (Option.some Jvm.ClassFile.FieldType.boolean)) (by decide +kernel) rfl ?_
  intro p e s m args below meth c s₁ B hml hv
  have hx := B.exec
  have hb := B.bytes
  have hr := B.returns
  have hts := atoms_spec (ws := (ws_ yJ2_addAll cJ2_addAll 6 (Option.some Jvm.ClassFile.FieldType.boolean))) B.pre
  have hts : ∀ w ∈ lw_all, w.before args s = true := fun w h => hts w (List.mem_cons_of_mem _ h)
  have hown : s.vm.findClass RJ2 = some m.cls := findClass_of_methodNamed B.named
  have hlocks := B.notSynchronized
  obtain ⟨hav, hv⟩ := hv
  have C : CX p s m args c cJ2_addAll RJ2 D dA := ⟨hx, hb, hown, hts, hv.2⟩
  have hw : CW D dA A s u s.heap [] := hv.1
  generalize hQ : MQ below (va_Qi (fun r u => r = r0 ∧ u = u9) (CPost D dA A) A) args s (u9.1 - u.1) (u9.2.1 - u.2.1) A = QQ
  have hent := lg_entry_eq m [.ref x0, .ref x1] 6
  rw [← hav] at hent
  rw [hent]
  have hl := lv_entry ([.ref x0, .ref x1]) (n := 6) (Nat.le_of_ble_eq_true rfl)
  generalize (lg_sl ([.ref x0, .ref x1]) ++ List.replicate (6 - (lg_sl ([.ref x0, .ref x1])).length) Slot.unset).toArray = ls at hl ⊢
  have hl : lv_has ls 6 [(0, .ref x0), (1, .ref x1)] := hl
  obtain ⟨cc, ecc⟩ : ∃ z : Nat, z = 0 := ⟨0, rfl⟩
  obtain ⟨ss, ess⟩ : ∃ z : Nat, z = 0 := ⟨0, rfl⟩
  have hcc : cc + u.1 = u.1 := by omega
  have hss : ss + u.2.1 = u.2.1 := by omega
  suffices hgo : W p l e (rm_J2_addAll (u9.1 - u.1) (u9.2.1 - u.2.1)) s m args below meth c s.heap [] cc ss QQ (F0 m 0 ls []) by rw [ecc, ess] at hgo; exact hgo
  have ⟨pu, qu, _, _⟩ := mo_J2_addAll hm
  have hB56 : ∀ (h : CH) (x0 : Nat) (x2 : Nat) (x3 : Int32) (x4 : Nat) (x5 : Int32) (cc ss : Nat) (H : Heap) (locs : List Loc) (ls : Array Slot), m_J2_addAll_56 f h x0 x2 x3 x4 x5 = some (r0, u9) → CW D dA A s h H locs → cc + u.1 = h.1 → ss + u.2.1 = h.2.1 → lv_has ls 6 [(0, .ref x0), (2, .ref x2), (3, .int x3), (4, .ref x4), (5, .int x5)] → W p l e (rm_J2_addAll (u9.1 - u.1) (u9.2.1 - u.2.1)) s m args below meth c H locs cc ss QQ (F0 m 56 ls []) := by
    intro h x0 x2 x3 x4 x5 cc ss H locs ls hm hw hcc hss hl
    have hmo := mo_J2_addAll_56  h x0 x2 x3 x4 x5 _ hm
    have sb_ : h.1 ≤ u9.1 := hmo.1
    have tb_ : h.2.1 ≤ u9.2.1 := hmo.2.1
    rw [m_J2_addAll_56] at hm
    refine lv_aload_n hx hb dJ2_addAll_56 rfl (lv_at hl 1 rfl) ?_
    refine lv_iconst (v := 0) hx hb dJ2_addAll_57 (by decide) ?_
    refine lv_aload hx hb dJ2_addAll_58 (lv_at hl 3 rfl) ?_
    refine lv_iload hx hb dJ2_addAll_60 (lv_at hl 4 rfl) ?_
    refine lv_iload_n hx hb dJ2_addAll_62 rfl (lv_at hl 2 rfl) ?_
    obtain ⟨h1, eh1, hm⟩ := bdE hm
    refine cg_copyO C hw (hml.trans hl.1.symm) q871 q436 q435 q136 eh1 (Nat.le_of_ble_eq_true rfl) (Nat.le_of_ble_eq_true rfl) dJ2_addAll_63 (fun H locs hw => ?_)
    have zh1 := cpO_sz eh1
    refine lv_aload_n hx hb dJ2_addAll_66 rfl (lv_at hl 0 rfl) ?_
    refine lv_iload hx hb dJ2_addAll_67 (lv_at hl 4 rfl) ?_
    refine lv_iload_n hx hb dJ2_addAll_69 rfl (lv_at hl 2 rfl) ?_
    refine lv_iadd hx hb dJ2_addAll_70 ?_
    obtain ⟨h2, eh2, hm⟩ := bdE hm
    refine cg_put C hw eh2 rfl in_J2 tyJ2 tyJ2_ok nmJ2 (by decide) q180 rfl rfl rfl dJ2_addAll_71 (fun H locs hw => ?_)
    have zh2 := pF_sz eh2
    refine lv_iconst (v := 1) hx hb dJ2_addAll_74 (by decide) ?_
    obtain ⟨er, eh⟩ := retE hm
    have ec : cc = u9.1 - u.1 := by rw [← eh]; omega
    have es : ss = u9.2.1 - u.2.1 := by rw [← eh]; omega
    rw [ec, es, ← hQ]
    exact W.zret (v := (1 : Int32)) hx hb hr rfl (fun t ht hW => ⟨⟨(1 : Int32), h2, rfl, ⟨er, eh⟩, ⟨by rw [ht]; exact hw.1, by rw [ht]; exact hw.2.1⟩⟩, hw.2.2.1.F ht⟩) hw.2.2.1.2.2 dJ2_addAll_75
  have hB54 : ∀ (h : CH) (x0 : Nat) (x2 : Nat) (x3 : Int32) (x5 : Int32) (y0 : Nat) (cc ss : Nat) (H : Heap) (locs : List Loc) (ls : Array Slot), m_J2_addAll_54 f h x0 x2 x3 x5 y0 = some (r0, u9) → CW D dA A s h H locs → cc + u.1 = h.1 → ss + u.2.1 = h.2.1 → lv_has ls 6 [(0, .ref x0), (2, .ref x2), (3, .int x3), (5, .int x5)] → W p l e (rm_J2_addAll (u9.1 - u.1) (u9.2.1 - u.2.1)) s m args below meth c H locs cc ss QQ (F0 m 54 ls [.ref y0]) := by
    intro h x0 x2 x3 x5 y0 cc ss H locs ls hm hw hcc hss hl
    have hmo := mo_J2_addAll_54  h x0 x2 x3 x5 y0 _ hm
    have sb_ : h.1 ≤ u9.1 := hmo.1
    have tb_ : h.2.1 ≤ u9.2.1 := hmo.2.1
    rw [m_J2_addAll_54] at hm
    refine lv_astore (lv' := [(4, .ref y0), (0, .ref x0), (2, .ref x2), (3, .int x3), (5, .int x5)]) hx hb dJ2_addAll_54 hl (by decide) rfl (fun ls hl => ?_)
    exact hB56 h x0 x2 x3 y0 x5 _ _ _ _ _ hm hw (by omega) (by omega) (lv_sub hl [1, 2, 3, 0, 4] rfl)
  have hB6 : ∀ (h : CH) (x0 : Nat) (y0 : Nat) (cc ss : Nat) (H : Heap) (locs : List Loc) (ls : Array Slot), m_J2_addAll_6 f h x0 y0 = some (r0, u9) → CW D dA A s h H locs → cc + u.1 = h.1 → ss + u.2.1 = h.2.1 → lv_has ls 6 [(0, .ref x0)] → W p l e (rm_J2_addAll (u9.1 - u.1) (u9.2.1 - u.2.1)) s m args below meth c H locs cc ss QQ (F0 m 6 ls [.ref y0]) := by
    intro h x0 y0 cc ss H locs ls hm hw hcc hss hl
    have hmo := mo_J2_addAll_6  h x0 y0 _ hm
    have sb_ : h.1 ≤ u9.1 := hmo.1
    have tb_ : h.2.1 ≤ u9.2.1 := hmo.2.1
    rw [m_J2_addAll_6] at hm
    refine lv_astore_n (lv' := [(2, .ref y0), (0, .ref x0)]) hx hb dJ2_addAll_6 rfl hl (by decide) rfl (fun ls hl => ?_)
    refine lv_aload_n hx hb dJ2_addAll_7 rfl (lv_at hl 1 rfl) ?_
    refine lv_dup hx hb dJ2_addAll_8 rfl ?_
    obtain ⟨v1, ev1, hm⟩ := bdE hm
    refine cg_getM C hw (oI_E ev1) rfl in_J2 (by decide) q182 q183 dJ2_addAll_9 ?_
    refine lv_iconst (v := 1) hx hb dJ2_addAll_12 (by decide) ?_
    refine lv_iadd hx hb dJ2_addAll_13 ?_
    obtain ⟨h2, eh2, hm⟩ := bdE hm
    refine cg_putM C hw eh2 rfl in_J2 tyJ2 tyJ2_ok nmJ2 (by decide) q182 q183 rfl rfl rfl dJ2_addAll_14 (fun H locs hw => ?_)
    have zh2 := pF_sz eh2
    refine lv_aload_n hx hb dJ2_addAll_17 rfl (lv_at hl 0 rfl) ?_
    obtain ⟨n3, en3, hm⟩ := bdE hm
    refine cg_alen C hw (ty := .object "java/lang/Object") rfl en3 dJ2_addAll_18 ?_
    refine lv_topi (fun v4 ev4 => ?_)
    have hm := nmK hm ev4
    refine lv_istore_n (lv' := [(3, .int v4), (2, .ref y0), (0, .ref x0)]) hx hb dJ2_addAll_19 rfl hl (by decide) rfl (fun ls hl => ?_)
    refine lv_iload_n hx hb dJ2_addAll_20 rfl (lv_at hl 0 rfl) ?_
    refine lv_if_ne (tgt := 26) hx hb dJ2_addAll_21 (by decide) (fun c5 => ?_) (fun c5 => ?_)
    · have hm := ifT hm c5
      refine lv_iload_n hx hb dJ2_addAll_26 rfl (lv_at hl 0 rfl) ?_
      refine lv_aload_n hx hb dJ2_addAll_27 rfl (lv_at hl 2 rfl) ?_
      obtain ⟨a6, ea6, hm⟩ := bdE hm
      refine cg_get C hw (oR_E ea6) rfl in_J2 (by decide) q179 dJ2_addAll_28 ?_
      refine lv_dup hx hb dJ2_addAll_31 rfl ?_
      refine lv_astore (lv' := [(4, .ref a6), (3, .int v4), (2, .ref y0), (0, .ref x0)]) hx hb dJ2_addAll_32 hl (by decide) rfl (fun ls hl => ?_)
      obtain ⟨n7, en7, hm⟩ := bdE hm
      refine cg_alen C hw (ty := .object "java/lang/Object") rfl en7 dJ2_addAll_34 ?_
      refine lv_aload_n hx hb dJ2_addAll_35 rfl (lv_at hl 3 rfl) ?_
      obtain ⟨v8, ev8, hm⟩ := bdE hm
      refine cg_get C hw (oI_E ev8) rfl in_J2 (by decide) q180 dJ2_addAll_36 ?_
      refine lv_dup hx hb dJ2_addAll_39 rfl ?_
      refine lv_istore (lv' := [(5, .int v8), (4, .ref a6), (3, .int v4), (2, .ref y0), (0, .ref x0)]) hx hb dJ2_addAll_40 hl (by decide) rfl (fun ls hl => ?_)
      refine lv_isub hx hb dJ2_addAll_42 ?_
      refine lv_icmp_le (tgt := 56) hx hb dJ2_addAll_43 (by decide) (fun c9 => ?_) (fun c9 => ?_)
      · have hm := ifT hm c9
        exact hB56 h2 x0 y0 v4 a6 v8 _ _ _ _ _ hm hw (by omega) (by omega) (lv_sub hl [4, 3, 2, 1, 0] rfl)
      · have hm := ifF hm c9
        refine lv_aload_n hx hb dJ2_addAll_46 rfl (lv_at hl 4 rfl) ?_
        refine lv_iload hx hb dJ2_addAll_47 (lv_at hl 0 rfl) ?_
        refine lv_iload_n hx hb dJ2_addAll_49 rfl (lv_at hl 2 rfl) ?_
        refine lv_iadd hx hb dJ2_addAll_50 ?_
        obtain ⟨g10, hm⟩ := gdE hm
        obtain ⟨a12, h11, ea12, hm⟩ := bd2E hm
        have lh11 := mo_J2_grow_2 ea12
        have ph11 : h2.1 ≤ h11.1 := lh11.1
        have qh11 : h2.2.1 ≤ h11.2.1 := lh11.2.1
        have hmo := mo_J2_addAll_54   h11 x0 y0 v4 v8 a12 _ hm
        have sh11 : h11.1 ≤ u9.1 := hmo.1
        have th11 : h11.2.1 ≤ u9.2.1 := hmo.2.1
        refine cg_callr hw lh11 (va_runV (As := [.int (v8 + v4)]) (rest := []) ⟨hx, hb, hml, hown, hts⟩ (w_J2_grow_2 l ea12) (cw_J2_grow_2 hts q812 ⟨Nat.le_of_ble_eq_true rfl, Nat.le_of_ble_eq_true rfl⟩) (cg_preV C hw g10 rfl _) rfl rfl hl.1 rfl (lv_room (Nat.le_of_ble_eq_true rfl)) dJ2_addAll_51 ⟨show cc + (h11.1 - h2.1) ≤ u9.1 - u.1 by omega, show ss + (h11.2.1 - h2.2.1) ≤ u9.2.1 - u.2.1 by omega⟩) (fun H locs hw => ?_)
        exact hB54 h11 x0 y0 v4 v8 a12 _ _ _ _ _ hm hw (by omega) (by omega) (lv_sub hl [4, 3, 2, 0] rfl)
    · have hm := ifT' hm c5
      refine lv_iconst (v := 0) hx hb dJ2_addAll_24 (by decide) ?_
      obtain ⟨er, eh⟩ := retE hm
      have ec : cc = u9.1 - u.1 := by rw [← eh]; omega
      have es : ss = u9.2.1 - u.2.1 := by rw [← eh]; omega
      rw [ec, es, ← hQ]
      exact W.zret (v := (0 : Int32)) hx hb hr rfl (fun t ht hW => ⟨⟨(0 : Int32), h2, rfl, ⟨er, eh⟩, ⟨by rw [ht]; exact hw.1, by rw [ht]; exact hw.2.1⟩⟩, hw.2.2.1.F ht⟩) hw.2.2.1.2.2 dJ2_addAll_25
  rw [m_J2_addAll] at hm
  refine lv_aload_n hx hb dJ2_addAll_0 rfl (lv_at hl 1 rfl) ?_
  obtain ⟨g1, hm⟩ := gdE hm
  obtain ⟨a3, h2, ea3, hm⟩ := bd2E hm
  have lh2 := mo_J2_toArray ea3
  have ph2 : u.1 ≤ h2.1 := lh2.1
  have qh2 : u.2.1 ≤ h2.2.1 := lh2.2.1
  have hmo := mo_J2_addAll_6   h2 x0 a3 _ hm
  have sh2 : h2.1 ≤ u9.1 := hmo.1
  have th2 : h2.2.1 ≤ u9.2.1 := hmo.2.1
  refine cg_call5r hw lh2 (va_runF (C.2.2.2.2.1 17 _ rfl).2 (As := []) (rest := []) ⟨hx, hb, hml, hown, hts⟩ (w_J2_toArray l ea3) (va_cwF 0 hts (lwF q862 q866 q868 q122 q870) rfl rfl rfl hw.2.2.2.2.2.2.2.2.2.2.2.1 (by decide +kernel) ⟨Nat.le_of_ble_eq_true rfl, Nat.le_of_ble_eq_true rfl⟩) (cg_preV C hw g1 rfl _) rfl rfl hl.1 rfl (lv_room (Nat.le_of_ble_eq_true rfl)) dJ2_addAll_1 ⟨show cc + (h2.1 - u.1) ≤ u9.1 - u.1 by omega, show ss + (h2.2.1 - u.2.1) ≤ u9.2.1 - u.2.1 by omega⟩) (fun H locs hw => ?_)
  exact hB6 h2 x0 a3 _ _ _ _ _ hm hw (by omega) (by omega) (lv_sub hl [0] rfl)
def m_X0_lattices_57 (f : Nat) (h : CH) (x0 : Nat) : Option ((Int32 ⊕ Nat) × CH) := bd (pF h 1 13 x0 (.null)) fun h1 =>
    bd (oI h1 1 1 x0) fun v2 =>
    bd (pF h1 1 3 x0 (.int (0 : Int32))) fun h3 =>
    some (.inl v2, h3)
theorem mo_X0_lattices_57 {f : Nat} : ∀ (h : CH) (x0 : Nat) (r : ((Int32 ⊕ Nat) × CH)), m_X0_lattices_57 f h x0 = some r → le2 h r.2 := by
  intro h x0 r hm
  rw [m_X0_lattices_57] at hm
  obtain ⟨h1, eh1, hm⟩ := bdE hm
  have lh1 := pF_le eh1
  obtain ⟨v2, ev2, hm⟩ := bdE hm
  obtain ⟨h3, eh3, hm⟩ := bdE hm
  have lh3 := pF_le eh3
  cases hm
  exact (lh1.tr (lh3.tr le2.rf))
def m_X0_lattices_41 (f : Nat) (h : CH) (x0 : Nat) (x1 : Nat) (y0 : Int32) : Option ((Int32 ⊕ Nat) × CH) := bd (oI h 4 5 x1) fun v1 =>
    bd (pF h 1 1 x0 (.int v1)) fun h2 =>
    bd (oR h2 1 14 x0) fun a3 =>
    gd (isC h2 a3 17) <|
    bd (m_J2_clear f h2 a3) fun h5 =>
    m_X0_lattices_57 f h5 x0
theorem mo_X0_lattices_41 {f : Nat} : ∀ (h : CH) (x0 : Nat) (x1 : Nat) (y0 : Int32) (r : ((Int32 ⊕ Nat) × CH)), m_X0_lattices_41 f h x0 x1 y0 = some r → le2 h r.2 := by
  intro h x0 x1 y0 r hm
  rw [m_X0_lattices_41] at hm
  obtain ⟨v1, ev1, hm⟩ := bdE hm
  obtain ⟨h2, eh2, hm⟩ := bdE hm
  have lh2 := pF_le eh2
  obtain ⟨a3, ea3, hm⟩ := bdE hm
  obtain ⟨g4, hm⟩ := gdE hm
  obtain ⟨h5, eh5, hm⟩ := bdE hm
  have lh5 := mo_J2_clear eh5
  exact (lh2.tr (lh5.tr (mo_X0_lattices_57  h5 x0 _ hm)))
def m_X0_lattices_30 (f : Nat) (h : CH) (x0 : Nat) (x1 : Nat) : Option ((Int32 ⊕ Nat) × CH) := bd (oR h 1 0 x0) fun a1 =>
    bd (oR h 4 0 x1) fun a2 =>
    gd (isC h a1 17) <|
    bd2 (m_J2_addAll f h a1 a2) fun r5 h4 =>
    m_X0_lattices_41 f h4 x0 x1 r5
theorem mo_X0_lattices_30 {f : Nat} : ∀ (h : CH) (x0 : Nat) (x1 : Nat) (r : ((Int32 ⊕ Nat) × CH)), m_X0_lattices_30 f h x0 x1 = some r → le2 h r.2 := by
  intro h x0 x1 r hm
  rw [m_X0_lattices_30] at hm
  obtain ⟨a1, ea1, hm⟩ := bdE hm
  obtain ⟨a2, ea2, hm⟩ := bdE hm
  obtain ⟨g3, hm⟩ := gdE hm
  obtain ⟨r5, h4, er5, hm⟩ := bd2E hm
  have lh4 := mo_J2_addAll er5
  exact (lh4.tr (mo_X0_lattices_41  h4 x0 x1 r5 _ hm))
def m_X0_lattices_23 (f : Nat) (h : CH) (x0 : Nat) (x1 : Nat) : Option ((Int32 ⊕ Nat) × CH) := bd (oR h 1 0 x0) fun a1 =>
    gd (isC h a1 17) <|
    bd (m_J2_clear f h a1) fun h3 =>
    m_X0_lattices_30 f h3 x0 x1
theorem mo_X0_lattices_23 {f : Nat} : ∀ (h : CH) (x0 : Nat) (x1 : Nat) (r : ((Int32 ⊕ Nat) × CH)), m_X0_lattices_23 f h x0 x1 = some r → le2 h r.2 := by
  intro h x0 x1 r hm
  rw [m_X0_lattices_23] at hm
  obtain ⟨a1, ea1, hm⟩ := bdE hm
  obtain ⟨g2, hm⟩ := gdE hm
  obtain ⟨h3, eh3, hm⟩ := bdE hm
  have lh3 := mo_J2_clear eh3
  exact (lh3.tr (mo_X0_lattices_30  h3 x0 x1 _ hm))
def m_X0_lattices_74 (f : Nat) (h : CH) (x0 : Nat) (y0 : Nat) : Option ((Int32 ⊕ Nat) × CH) := bd (oI h 5 6 y0) fun v1 =>
    bd (pF h 1 4 x0 (.int v1)) fun h2 =>
    bd (oI h2 5 7 y0) fun v3 =>
    bd (pF h2 1 5 x0 (.int v3)) fun h4 =>
    bd (pF h4 1 3 x0 (.int (0 : Int32))) fun h5 =>
    some (.inl (-4 : Int32), h5)
theorem mo_X0_lattices_74 {f : Nat} : ∀ (h : CH) (x0 : Nat) (y0 : Nat) (r : ((Int32 ⊕ Nat) × CH)), m_X0_lattices_74 f h x0 y0 = some r → le2 h r.2 := by
  intro h x0 y0 r hm
  rw [m_X0_lattices_74] at hm
  obtain ⟨v1, ev1, hm⟩ := bdE hm
  obtain ⟨h2, eh2, hm⟩ := bdE hm
  have lh2 := pF_le eh2
  obtain ⟨v3, ev3, hm⟩ := bdE hm
  obtain ⟨h4, eh4, hm⟩ := bdE hm
  have lh4 := pF_le eh4
  obtain ⟨h5, eh5, hm⟩ := bdE hm
  have lh5 := pF_le eh5
  cases hm
  exact (lh2.tr (lh4.tr (lh5.tr le2.rf)))
def m_X0_lattices_18 (f : Nat) (h : CH) (x0 : Nat) (y0 : Nat) : Option ((Int32 ⊕ Nat) × CH) := gd (isC h y0 4) <|
    bx (m_X4_read f h y0) (fun r3 h2 =>
    m_X0_lattices_23 f h2 x0 y0) (fun q4 h2 =>
    gd (isC h2 q4 5) <|
    m_X0_lattices_74 f h2 x0 q4)
theorem mo_X0_lattices_18 {f : Nat} : ∀ (h : CH) (x0 : Nat) (y0 : Nat) (r : ((Int32 ⊕ Nat) × CH)), m_X0_lattices_18 f h x0 y0 = some r → le2 h r.2 := by
  intro h x0 y0 r hm
  rw [m_X0_lattices_18] at hm
  obtain ⟨g1, hm⟩ := gdE hm
  rcases bxE hm with ⟨r3, h2, eh2, hm⟩ | ⟨q4, h2, eh2, hm⟩
  · have lh2 := mo_X4_read eh2
    exact (lh2.tr (mo_X0_lattices_23  h2 x0 y0 _ hm))
  · have lh2 := mo_X4_read eh2
    obtain ⟨g5, hm⟩ := gdE hm
    exact (lh2.tr (mo_X0_lattices_74  h2 x0 q4 _ hm))
def m_X0_lattices_13 (f : Nat) (h : CH) (x0 : Nat) (y0 : Nat) : Option ((Int32 ⊕ Nat) × CH) := bd (m_X4_init f h y0 x0) fun h1 =>
    m_X0_lattices_18 f h1 x0 y0
theorem mo_X0_lattices_13 {f : Nat} : ∀ (h : CH) (x0 : Nat) (y0 : Nat) (r : ((Int32 ⊕ Nat) × CH)), m_X0_lattices_13 f h x0 y0 = some r → le2 h r.2 := by
  intro h x0 y0 r hm
  rw [m_X0_lattices_13] at hm
  obtain ⟨h1, eh1, hm⟩ := bdE hm
  have lh1 := mo_X4_init eh1
  exact (lh1.tr (mo_X0_lattices_18  h1 x0 y0 _ hm))
def m_X0_lattices (f : Nat) (u : CH) (x0 : Nat) : Option ((Int32 ⊕ Nat) × CH) := bd (pF u 1 4 x0 (.int (0 : Int32))) fun h1 =>
    bd (pF h1 1 5 x0 (.int (-1 : Int32))) fun h2 =>
    nmv (cn h2 10 (.inl (4, [.null, .null, .int 0, .int 0, .int 0, .int 0, .int 0, .null, .null, .null]))) fun h3 =>
    nmv (h2.1 : Nat) fun a4 =>
    m_X0_lattices_13 f h3 x0 a4
theorem mo_X0_lattices {f : Nat} {u : CH} {x0 : Nat} {r0 : Int32 ⊕ Nat} {u9 : CH} (hm : m_X0_lattices f u x0 = some (r0, u9)) : le2 u u9 := by
  rw [m_X0_lattices] at hm
  obtain ⟨h1, eh1, hm⟩ := bdE hm
  have lh1 := pF_le eh1
  obtain ⟨h2, eh2, hm⟩ := bdE hm
  have lh2 := pF_le eh2
  obtain ⟨h3, eh3, hm⟩ := nmE hm
  have lh3 := cn_le eh3
  obtain ⟨a4, ea4, hm⟩ := nmE hm
  exact (lh1.tr (lh2.tr (lh3.tr (mo_X0_lattices_13  h3 x0 a4 _ hm))))
abbrev rm_X0_lattices (mc ms : Nat) : Room := { frames := 11, cells := mc, slots := ms, locals := 282 }
theorem cw_X0_lattices {R : Room} {s : State} {args : Array Value} {own : String} {idx mc ms : Nat} (hts : ∀ w ∈ lw_all, w.before args s = true) (hl : Cond.methodLink own idx yX0_lattices ∈ lw_all) (hR : 11 + 1 ≤ R.frames ∧ 8 + (4 + 11) + 282 ≤ R.locals) : vy_CVW R s args own RX0 idx yX0_lattices cX0_lattices 4 (Option.some Jvm.ClassFile.FieldType.int) [(10, 67, 74, 107), (10, 67, 101, 0), (74, 94, 101, 0)] (wsW_ yX0_lattices cX0_lattices 4 (Option.some Jvm.ClassFile.FieldType.int) [(10, 67, 74, 107), (10, 67, 101, 0), (74, 94, 101, 0)]) (rm_X0_lattices mc ms) mc ms 0 := vy_cwVW 0 hts (lw_VW hl q301 q302 q119 q303) rfl rfl rfl (by decide +kernel) hR
set_option maxHeartbeats 4000000 in
set_option maxRecDepth 100000 in
theorem w_X0_lattices (l : Launch) (htl : l.stackTraces = false) {D : va_G} {dA : Nat → ClassId} {A : Nat → Prop} {f : Nat} {u u9 : CH} {r0 : Int32 ⊕ Nat} {x0 : Nat} (hm : m_X0_lattices f u x0 = some (r0, u9)) : vy_Met l yX0_lattices (wsW_ yX0_lattices cX0_lattices 4 (Option.some Jvm.ClassFile.FieldType.int) [(10, 67, 74, 107), (10, 67, 101, 0), (74, 94, 101, 0)]) (rm_X0_lattices (u9.1 - u.1) (u9.2.1 - u.2.1)) (va_Pc [.ref x0] (CPre D dA A u)) (cxQi D dA A r0 u9) (cxX D dA A r0 u9) (u9.1 - u.1) (u9.2.1 - u.2.1) A := by
  refine vy_ofWH (cc := cX0_lattices) (maxL := 4) (ret := (Option.some Jvm.ClassFile.FieldType.int)) (by decide) rfl ?_
  intro p e s m args below meth c s₁ B hml hv
  have hx := B.exec
  have hb := B.bytes
  have hr := B.returns
  have hts := atoms_spec (ws := (wsW_ yX0_lattices cX0_lattices 4 (Option.some Jvm.ClassFile.FieldType.int) [(10, 67, 74, 107), (10, 67, 101, 0), (74, 94, 101, 0)])) B.pre
  have htab := vy_table (x := yX0_lattices) B (hts _ List.mem_cons_self)
  have hts : ∀ w ∈ lw_all, w.before args s = true := fun w h => hts w (List.mem_cons_of_mem _ h)
  have hown : s.vm.findClass RX0 = some m.cls := findClass_of_methodNamed B.named
  have hlocks := B.notSynchronized
  obtain ⟨hav, hv⟩ := hv
  have C : CX p s m args c cX0_lattices RX0 D dA := ⟨hx, hb, hown, hts, hv.2⟩
  have hw : CW D dA A s u s.heap [] := hv.1
  generalize hQ : vy_MQ below (cxQi D dA A r0 u9) (cxX D dA A r0 u9) args s (u9.1 - u.1) (u9.2.1 - u.2.1) A = QQ
  have hent := lg_entry_eq m [.ref x0] 4
  rw [← hav] at hent
  rw [hent]
  have hl := lv_entry ([.ref x0]) (n := 4) (Nat.le_of_ble_eq_true rfl)
  generalize (lg_sl ([.ref x0]) ++ List.replicate (4 - (lg_sl ([.ref x0])).length) Slot.unset).toArray = ls at hl ⊢
  have hl : lv_has ls 4 [(0, .ref x0)] := hl
  obtain ⟨cc, ecc⟩ : ∃ z : Nat, z = 0 := ⟨0, rfl⟩
  obtain ⟨ss, ess⟩ : ∃ z : Nat, z = 0 := ⟨0, rfl⟩
  have hcc : cc + u.1 = u.1 := by omega
  have hss : ss + u.2.1 = u.2.1 := by omega
  suffices hgo : W p l e (rm_X0_lattices (u9.1 - u.1) (u9.2.1 - u.2.1)) s m args below meth c s.heap [] cc ss QQ (F0 m 0 ls []) by rw [ecc, ess] at hgo; exact hgo
  have ⟨pu, qu, _, _⟩ := mo_X0_lattices hm
  have hB57 : ∀ (h : CH) (x0 : Nat) (cc ss : Nat) (H : Heap) (locs : List Loc) (ls : Array Slot), m_X0_lattices_57 f h x0 = some (r0, u9) → CW D dA A s h H locs → cc + u.1 = h.1 → ss + u.2.1 = h.2.1 → lv_has ls 4 [(0, .ref x0)] → W p l e (rm_X0_lattices (u9.1 - u.1) (u9.2.1 - u.2.1)) s m args below meth c H locs cc ss QQ (F0 m 57 ls []) := by
    intro h x0 cc ss H locs ls hm hw hcc hss hl
    have hmo := mo_X0_lattices_57  h x0 _ hm
    have sb_ : h.1 ≤ u9.1 := hmo.1
    have tb_ : h.2.1 ≤ u9.2.1 := hmo.2.1
    rw [m_X0_lattices_57] at hm
    refine lv_aload_n hx hb dX0_lattices_57 rfl (lv_at hl 0 rfl) ?_
    refine lv_null hx hb dX0_lattices_58 ?_
    obtain ⟨h1, eh1, hm⟩ := bdE hm
    refine cg_put C hw eh1 rfl in_X0 tyX0 tyX0_ok nmX0 (by decide) q252 rfl rfl rfl dX0_lattices_59 (fun H locs hw => ?_)
    have zh1 := pF_sz eh1
    refine lv_aload_n hx hb dX0_lattices_62 rfl (lv_at hl 0 rfl) ?_
    obtain ⟨v2, ev2, hm⟩ := bdE hm
    refine cg_get C hw (oI_E ev2) rfl in_X0 (by decide) q238 dX0_lattices_63 ?_
    refine lv_istore_n (lv' := [(2, .int v2), (0, .ref x0)]) hx hb dX0_lattices_66 rfl hl (by decide) rfl (fun ls hl => ?_)
    refine lv_aload_n hx hb dX0_lattices_67 rfl (lv_at hl 1 rfl) ?_
    refine lv_iconst (v := 0) hx hb dX0_lattices_68 (by decide) ?_
    obtain ⟨h3, eh3, hm⟩ := bdE hm
    refine cg_put C hw eh3 rfl in_X0 tyX0 tyX0_ok nmX0 (by decide) q242 rfl rfl rfl dX0_lattices_69 (fun H locs hw => ?_)
    have zh3 := pF_sz eh3
    refine lv_iload_n hx hb dX0_lattices_72 rfl (lv_at hl 0 rfl) ?_
    obtain ⟨er, eh⟩ := retE hm
    have ec : cc = u9.1 - u.1 := by rw [← eh]; omega
    have es : ss = u9.2.1 - u.2.1 := by rw [← eh]; omega
    rw [ec, es, ← hQ]
    refine vy_ret ?_
    exact W.iret (v := v2) hx hb hr (fun t ht hW => ⟨⟨v2, h3, rfl, ⟨er.symm, eh⟩, ⟨by rw [ht]; exact hw.1, by rw [ht]; exact hw.2.1⟩⟩, hw.2.2.1.F ht⟩) hw.2.2.1.2.2 dX0_lattices_73
  have hB41 : ∀ (h : CH) (x0 : Nat) (x1 : Nat) (y0 : Int32) (cc ss : Nat) (H : Heap) (locs : List Loc) (ls : Array Slot), m_X0_lattices_41 f h x0 x1 y0 = some (r0, u9) → CW D dA A s h H locs → cc + u.1 = h.1 → ss + u.2.1 = h.2.1 → lv_has ls 4 [(0, .ref x0), (1, .ref x1)] → W p l e (rm_X0_lattices (u9.1 - u.1) (u9.2.1 - u.2.1)) s m args below meth c H locs cc ss QQ (F0 m 41 ls [.int y0]) := by
    intro h x0 x1 y0 cc ss H locs ls hm hw hcc hss hl
    have hmo := mo_X0_lattices_41  h x0 x1 y0 _ hm
    have sb_ : h.1 ≤ u9.1 := hmo.1
    have tb_ : h.2.1 ≤ u9.2.1 := hmo.2.1
    rw [m_X0_lattices_41] at hm
    refine lv_pop hx hb dX0_lattices_41 rfl ?_
    refine lv_aload_n hx hb dX0_lattices_42 rfl (lv_at hl 0 rfl) ?_
    refine lv_aload_n hx hb dX0_lattices_43 rfl (lv_at hl 1 rfl) ?_
    obtain ⟨v1, ev1, hm⟩ := bdE hm
    refine cg_getN C hw (by decide) (oI_E ev1) rfl in_X4 (by decide) (hw.2.2.2.2.1 _ (List.mem_of_getElem? (i := 16) rfl)) dX0_lattices_44 ?_
    obtain ⟨h2, eh2, hm⟩ := bdE hm
    refine cg_put C hw eh2 rfl in_X0 tyX0 tyX0_ok nmX0 (by decide) q238 rfl rfl rfl dX0_lattices_47 (fun H locs hw => ?_)
    have zh2 := pF_sz eh2
    refine lv_aload_n hx hb dX0_lattices_50 rfl (lv_at hl 0 rfl) ?_
    obtain ⟨a3, ea3, hm⟩ := bdE hm
    refine cg_get C hw (oR_E ea3) rfl in_X0 (by decide) q253 dX0_lattices_51 ?_
    obtain ⟨g4, hm⟩ := gdE hm
    obtain ⟨h5, eh5, hm⟩ := bdE hm
    have lh5 := mo_J2_clear eh5
    have ph5 : h2.1 ≤ h5.1 := lh5.1
    have qh5 : h2.2.1 ≤ h5.2.1 := lh5.2.1
    have hmo := mo_X0_lattices_57   h5 x0 _ hm
    have sh5 : h5.1 ≤ u9.1 := hmo.1
    have th5 : h5.2.1 ≤ u9.2.1 := hmo.2.1
    refine cg_callv hw lh5 (va_runV (As := []) (rest := []) ⟨hx, hb, hml, hown, hts⟩ (w_J2_clear l eh5) (cw_J2_clear hts q853 ⟨Nat.le_of_ble_eq_true rfl, Nat.le_of_ble_eq_true rfl⟩) (cg_preV C hw g4 rfl _) rfl rfl hl.1 rfl (lv_room (Nat.le_of_ble_eq_true rfl)) dX0_lattices_54 ⟨show cc + (h5.1 - h2.1) ≤ u9.1 - u.1 by omega, show ss + (h5.2.1 - h2.2.1) ≤ u9.2.1 - u.2.1 by omega⟩) (fun H locs hw => ?_)
    exact hB57 h5 x0 _ _ _ _ _ hm hw (by omega) (by omega) (lv_sub hl [0] rfl)
  have hB30 : ∀ (h : CH) (x0 : Nat) (x1 : Nat) (cc ss : Nat) (H : Heap) (locs : List Loc) (ls : Array Slot), m_X0_lattices_30 f h x0 x1 = some (r0, u9) → CW D dA A s h H locs → cc + u.1 = h.1 → ss + u.2.1 = h.2.1 → lv_has ls 4 [(0, .ref x0), (1, .ref x1)] → W p l e (rm_X0_lattices (u9.1 - u.1) (u9.2.1 - u.2.1)) s m args below meth c H locs cc ss QQ (F0 m 30 ls []) := by
    intro h x0 x1 cc ss H locs ls hm hw hcc hss hl
    have hmo := mo_X0_lattices_30  h x0 x1 _ hm
    have sb_ : h.1 ≤ u9.1 := hmo.1
    have tb_ : h.2.1 ≤ u9.2.1 := hmo.2.1
    rw [m_X0_lattices_30] at hm
    refine lv_aload_n hx hb dX0_lattices_30 rfl (lv_at hl 0 rfl) ?_
    obtain ⟨a1, ea1, hm⟩ := bdE hm
    refine cg_get C hw (oR_E ea1) rfl in_X0 (by decide) q237 dX0_lattices_31 ?_
    refine lv_aload_n hx hb dX0_lattices_34 rfl (lv_at hl 1 rfl) ?_
    obtain ⟨a2, ea2, hm⟩ := bdE hm
    refine cg_getN C hw (by decide) (oR_E ea2) rfl in_X4 (by decide) (hw.2.2.2.2.1 _ (List.mem_of_getElem? (i := 15) rfl)) dX0_lattices_35 ?_
    obtain ⟨g3, hm⟩ := gdE hm
    obtain ⟨r5, h4, er5, hm⟩ := bd2E hm
    have lh4 := mo_J2_addAll er5
    have ph4 : h.1 ≤ h4.1 := lh4.1
    have qh4 : h.2.1 ≤ h4.2.1 := lh4.2.1
    have hmo := mo_X0_lattices_41   h4 x0 x1 r5 _ hm
    have sh4 : h4.1 ≤ u9.1 := hmo.1
    have th4 : h4.2.1 ≤ u9.2.1 := hmo.2.1
    refine cg_calli hw lh4 (va_runV (As := [.ref a2]) (rest := []) ⟨hx, hb, hml, hown, hts⟩ (w_J2_addAll l er5) (cw_J2_addAll hts q857 ⟨Nat.le_of_ble_eq_true rfl, Nat.le_of_ble_eq_true rfl⟩) (cg_preV C hw g3 rfl _) rfl rfl hl.1 rfl (lv_room (Nat.le_of_ble_eq_true rfl)) dX0_lattices_38 ⟨show cc + (h4.1 - h.1) ≤ u9.1 - u.1 by omega, show ss + (h4.2.1 - h.2.1) ≤ u9.2.1 - u.2.1 by omega⟩) (fun H locs hw => ?_)
    exact hB41 h4 x0 x1 r5 _ _ _ _ _ hm hw (by omega) (by omega) (lv_sub hl [0, 1] rfl)
  have hB23 : ∀ (h : CH) (x0 : Nat) (x1 : Nat) (cc ss : Nat) (H : Heap) (locs : List Loc) (ls : Array Slot), m_X0_lattices_23 f h x0 x1 = some (r0, u9) → CW D dA A s h H locs → cc + u.1 = h.1 → ss + u.2.1 = h.2.1 → lv_has ls 4 [(0, .ref x0), (1, .ref x1)] → W p l e (rm_X0_lattices (u9.1 - u.1) (u9.2.1 - u.2.1)) s m args below meth c H locs cc ss QQ (F0 m 23 ls []) := by
    intro h x0 x1 cc ss H locs ls hm hw hcc hss hl
    have hmo := mo_X0_lattices_23  h x0 x1 _ hm
    have sb_ : h.1 ≤ u9.1 := hmo.1
    have tb_ : h.2.1 ≤ u9.2.1 := hmo.2.1
    rw [m_X0_lattices_23] at hm
    refine lv_aload_n hx hb dX0_lattices_23 rfl (lv_at hl 0 rfl) ?_
    obtain ⟨a1, ea1, hm⟩ := bdE hm
    refine cg_get C hw (oR_E ea1) rfl in_X0 (by decide) q237 dX0_lattices_24 ?_
    obtain ⟨g2, hm⟩ := gdE hm
    obtain ⟨h3, eh3, hm⟩ := bdE hm
    have lh3 := mo_J2_clear eh3
    have ph3 : h.1 ≤ h3.1 := lh3.1
    have qh3 : h.2.1 ≤ h3.2.1 := lh3.2.1
    have hmo := mo_X0_lattices_30   h3 x0 x1 _ hm
    have sh3 : h3.1 ≤ u9.1 := hmo.1
    have th3 : h3.2.1 ≤ u9.2.1 := hmo.2.1
    refine cg_callv hw lh3 (va_runV (As := []) (rest := []) ⟨hx, hb, hml, hown, hts⟩ (w_J2_clear l eh3) (cw_J2_clear hts q853 ⟨Nat.le_of_ble_eq_true rfl, Nat.le_of_ble_eq_true rfl⟩) (cg_preV C hw g2 rfl _) rfl rfl hl.1 rfl (lv_room (Nat.le_of_ble_eq_true rfl)) dX0_lattices_27 ⟨show cc + (h3.1 - h.1) ≤ u9.1 - u.1 by omega, show ss + (h3.2.1 - h.2.1) ≤ u9.2.1 - u.2.1 by omega⟩) (fun H locs hw => ?_)
    exact hB30 h3 x0 x1 _ _ _ _ _ hm hw (by omega) (by omega) (lv_sub hl [0, 1] rfl)
  have hB74 : ∀ (h : CH) (x0 : Nat) (y0 : Nat) (cc ss : Nat) (H : Heap) (locs : List Loc) (ls : Array Slot), m_X0_lattices_74 f h x0 y0 = some (r0, u9) → CW D dA A s h H locs → cc + u.1 = h.1 → ss + u.2.1 = h.2.1 → lv_has ls 4 [(0, .ref x0)] → W p l e (rm_X0_lattices (u9.1 - u.1) (u9.2.1 - u.2.1)) s m args below meth c H locs cc ss QQ (F0 m 74 ls [.ref y0]) := by
    intro h x0 y0 cc ss H locs ls hm hw hcc hss hl
    have hmo := mo_X0_lattices_74  h x0 y0 _ hm
    have sb_ : h.1 ≤ u9.1 := hmo.1
    have tb_ : h.2.1 ≤ u9.2.1 := hmo.2.1
    rw [m_X0_lattices_74] at hm
    refine lv_astore_n (lv' := [(1, .ref y0), (0, .ref x0)]) hx hb dX0_lattices_74 rfl hl (by decide) rfl (fun ls hl => ?_)
    refine lv_aload_n hx hb dX0_lattices_75 rfl (lv_at hl 1 rfl) ?_
    refine lv_aload_n hx hb dX0_lattices_76 rfl (lv_at hl 0 rfl) ?_
    obtain ⟨v1, ev1, hm⟩ := bdE hm
    refine cg_getN C hw (by decide) (oI_E ev1) rfl in_X5 (by decide) (hw.2.2.2.2.1 _ (List.mem_of_getElem? (i := 17) rfl)) dX0_lattices_77 ?_
    obtain ⟨h2, eh2, hm⟩ := bdE hm
    refine cg_put C hw eh2 rfl in_X0 tyX0 tyX0_ok nmX0 (by decide) q243 rfl rfl rfl dX0_lattices_80 (fun H locs hw => ?_)
    have zh2 := pF_sz eh2
    refine lv_aload_n hx hb dX0_lattices_83 rfl (lv_at hl 1 rfl) ?_
    refine lv_aload_n hx hb dX0_lattices_84 rfl (lv_at hl 0 rfl) ?_
    obtain ⟨v3, ev3, hm⟩ := bdE hm
    refine cg_getN C hw (by decide) (oI_E ev3) rfl in_X5 (by decide) (hw.2.2.2.2.1 _ (List.mem_of_getElem? (i := 18) rfl)) dX0_lattices_85 ?_
    obtain ⟨h4, eh4, hm⟩ := bdE hm
    refine cg_put C hw eh4 rfl in_X0 tyX0 tyX0_ok nmX0 (by decide) q244 rfl rfl rfl dX0_lattices_88 (fun H locs hw => ?_)
    have zh4 := pF_sz eh4
    refine lv_bipush (v := -4) hx hb dX0_lattices_91 (by decide) ?_
    refine lv_istore_n (lv' := [(2, .int (-4 : Int32)), (1, .ref y0), (0, .ref x0)]) hx hb dX0_lattices_93 rfl hl (by decide) rfl (fun ls hl => ?_)
    refine lv_aload_n hx hb dX0_lattices_94 rfl (lv_at hl 2 rfl) ?_
    refine lv_iconst (v := 0) hx hb dX0_lattices_95 (by decide) ?_
    obtain ⟨h5, eh5, hm⟩ := bdE hm
    refine cg_put C hw eh5 rfl in_X0 tyX0 tyX0_ok nmX0 (by decide) q242 rfl rfl rfl dX0_lattices_96 (fun H locs hw => ?_)
    have zh5 := pF_sz eh5
    refine lv_iload_n hx hb dX0_lattices_99 rfl (lv_at hl 0 rfl) ?_
    obtain ⟨er, eh⟩ := retE hm
    have ec : cc = u9.1 - u.1 := by rw [← eh]; omega
    have es : ss = u9.2.1 - u.2.1 := by rw [← eh]; omega
    rw [ec, es, ← hQ]
    refine vy_ret ?_
    exact W.iret (v := (-4 : Int32)) hx hb hr (fun t ht hW => ⟨⟨(-4 : Int32), h5, rfl, ⟨er.symm, eh⟩, ⟨by rw [ht]; exact hw.1, by rw [ht]; exact hw.2.1⟩⟩, hw.2.2.1.F ht⟩) hw.2.2.1.2.2 dX0_lattices_100
  have hB18 : ∀ (h : CH) (x0 : Nat) (y0 : Nat) (cc ss : Nat) (H : Heap) (locs : List Loc) (ls : Array Slot), m_X0_lattices_18 f h x0 y0 = some (r0, u9) → CW D dA A s h H locs → cc + u.1 = h.1 → ss + u.2.1 = h.2.1 → lv_has ls 4 [(0, .ref x0)] → W p l e (rm_X0_lattices (u9.1 - u.1) (u9.2.1 - u.2.1)) s m args below meth c H locs cc ss QQ (F0 m 18 ls [.ref y0]) := by
    intro h x0 y0 cc ss H locs ls hm hw hcc hss hl
    have hmo := mo_X0_lattices_18  h x0 y0 _ hm
    have sb_ : h.1 ≤ u9.1 := hmo.1
    have tb_ : h.2.1 ≤ u9.2.1 := hmo.2.1
    rw [m_X0_lattices_18] at hm
    refine lv_astore_n (lv' := [(1, .ref y0), (0, .ref x0)]) hx hb dX0_lattices_18 rfl hl (by decide) rfl (fun ls hl => ?_)
    refine lv_aload_n hx hb dX0_lattices_19 rfl (lv_at hl 0 rfl) ?_
    obtain ⟨g1, hm⟩ := gdE hm
    rcases bxE hm with ⟨r3, h2, eh2, hm⟩ | ⟨q4, h2, eh2, hm⟩
    · have lh2 := mo_X4_read eh2
      have ph2 : h.1 ≤ h2.1 := lh2.1
      have qh2 : h.2.1 ≤ h2.2.1 := lh2.2.1
      have hmo := mo_X0_lattices_23   h2 x0 y0 _ hm
      have sh2 : h2.1 ≤ u9.1 := hmo.1
      have th2 : h2.2.1 ≤ u9.2.1 := hmo.2.1
      refine cx_callv hw lh2 (vy_runV (As := []) (rest := []) ⟨hx, hb, hml, hown, hts⟩ (w_X4_read l htl eh2) (cw_X4_read hts q347 ⟨Nat.le_of_ble_eq_true rfl, Nat.le_of_ble_eq_true rfl⟩) (cg_preV C hw g1 rfl _) rfl rfl hl.1 rfl (lv_room (Nat.le_of_ble_eq_true rfl)) dX0_lattices_20 ⟨show cc + (h2.1 - h.1) ≤ u9.1 - u.1 by omega, show ss + (h2.2.1 - h.2.1) ≤ u9.2.1 - u.2.1 by omega⟩) (fun H locs hw => ?_)
      exact hB23 h2 x0 y0 _ _ _ _ _ hm hw (by omega) (by omega) (lv_sub hl [1, 0] rfl)
    · have lh2 := mo_X4_read eh2
      have ph2 : h.1 ≤ h2.1 := lh2.1
      have qh2 : h.2.1 ≤ h2.2.1 := lh2.2.1
      obtain ⟨g5, hm⟩ := gdE hm
      have hmo := mo_X0_lattices_74   h2 x0 q4 _ hm
      have sh2 : h2.1 ≤ u9.1 := hmo.1
      have th2 : h2.2.1 ≤ u9.2.1 := hmo.2.1
      refine cx_callX hw lh2 noQv (vy_runV (As := []) (rest := []) ⟨hx, hb, hml, hown, hts⟩ (w_X4_read l htl eh2) (cw_X4_read hts q347 ⟨Nat.le_of_ble_eq_true rfl, Nat.le_of_ble_eq_true rfl⟩) (cg_preV C hw g1 rfl _) rfl rfl hl.1 rfl (lv_room (Nat.le_of_ble_eq_true rfl)) dX0_lattices_20 ⟨show cc + (h2.1 - h.1) ≤ u9.1 - u.1 by omega, show ss + (h2.2.1 - h.2.1) ≤ u9.2.1 - u.2.1 by omega⟩) (fun H locs hw => ?_)
      refine cx_catch C hw g5 (by decide) rfl [] { startPc := 10, endPc := 67, handlerPc := 74, catchType := 107 } [{ startPc := 10, endPc := 67, handlerPc := 101, catchType := 0 }, { startPc := 74, endPc := 94, handlerPc := 101, catchType := 0 }] (htab.trans rfl) (fun _ h => absurd h List.not_mem_nil) (by decide) (by decide) q304 (hw.2.2.2.2.1 _ (List.mem_of_getElem? (i := 69) rfl)) ?_
      exact hB74 h2 x0 q4 _ _ _ _ _ hm hw (by omega) (by omega) (lv_sub hl [1] rfl)
  have hB13 : ∀ (h : CH) (x0 : Nat) (y0 : Nat) (cc ss : Nat) (H : Heap) (locs : List Loc) (ls : Array Slot), m_X0_lattices_13 f h x0 y0 = some (r0, u9) → CW D dA A s h H locs → cc + u.1 = h.1 → ss + u.2.1 = h.2.1 → lv_has ls 4 [(0, .ref x0)] → W p l e (rm_X0_lattices (u9.1 - u.1) (u9.2.1 - u.2.1)) s m args below meth c H locs cc ss QQ (F0 m 13 ls [.ref y0]) := by
    intro h x0 y0 cc ss H locs ls hm hw hcc hss hl
    have hmo := mo_X0_lattices_13  h x0 y0 _ hm
    have sb_ : h.1 ≤ u9.1 := hmo.1
    have tb_ : h.2.1 ≤ u9.2.1 := hmo.2.1
    rw [m_X0_lattices_13] at hm
    refine lv_dup hx hb dX0_lattices_13 rfl ?_
    refine lv_aload_n hx hb dX0_lattices_14 rfl (lv_at hl 0 rfl) ?_
    obtain ⟨h1, eh1, hm⟩ := bdE hm
    have lh1 := mo_X4_init eh1
    have ph1 : h.1 ≤ h1.1 := lh1.1
    have qh1 : h.2.1 ≤ h1.2.1 := lh1.2.1
    have hmo := mo_X0_lattices_18   h1 x0 y0 _ hm
    have sh1 : h1.1 ≤ u9.1 := hmo.1
    have th1 : h1.2.1 ≤ u9.2.1 := hmo.2.1
    refine cg_callv hw lh1 (va_runIN (As := [.ref x0]) (rest := [.ref y0]) ⟨hx, hb, hml, hown, hts⟩ (w_X4_init l eh1) ⟨va_cnB 1 hts (lw_meth q309) rfl rfl rfl (hw.2.2.2.2.1 _ (List.mem_of_getElem? (i := 14) rfl)) (hts _ q126) (by decide +kernel) ⟨Nat.le_of_ble_eq_true rfl, Nat.le_of_ble_eq_true rfl⟩, rfl, hts _ q308⟩ (cg_preS C hw _) rfl rfl hl.1 rfl (lv_room (Nat.le_of_ble_eq_true rfl)) dX0_lattices_15 ⟨show cc + (h1.1 - h.1) ≤ u9.1 - u.1 by omega, show ss + (h1.2.1 - h.2.1) ≤ u9.2.1 - u.2.1 by omega⟩) (fun H locs hw => ?_)
    exact hB18 h1 x0 y0 _ _ _ _ _ hm hw (by omega) (by omega) (lv_sub hl [0] rfl)
  rw [m_X0_lattices] at hm
  refine lv_aload_n hx hb dX0_lattices_0 rfl (lv_at hl 0 rfl) ?_
  refine lv_iconst (v := 0) hx hb dX0_lattices_1 (by decide) ?_
  obtain ⟨h1, eh1, hm⟩ := bdE hm
  refine cg_put C hw eh1 rfl in_X0 tyX0 tyX0_ok nmX0 (by decide) q243 rfl rfl rfl dX0_lattices_2 (fun H locs hw => ?_)
  have zh1 := pF_sz eh1
  refine lv_aload_n hx hb dX0_lattices_5 rfl (lv_at hl 0 rfl) ?_
  refine lv_iconst (v := -1) hx hb dX0_lattices_6 (by decide) ?_
  obtain ⟨h2, eh2, hm⟩ := bdE hm
  refine cg_put C hw eh2 rfl in_X0 tyX0 tyX0_ok nmX0 (by decide) q244 rfl rfl rfl dX0_lattices_7 (fun H locs hw => ?_)
  have zh2 := pF_sz eh2
  obtain ⟨h3, eh3, hm⟩ := nmE hm
  obtain ⟨_, _, hmq⟩ := nmE hm
  have hmo := mo_X0_lattices_13   h3 x0 _ _ hmq
  have sh3 : h3.1 ≤ u9.1 := hmo.1
  have th3 : h3.2.1 ≤ u9.2.1 := hmo.2.1
  have zh3 := cn_sz eh3
  refine cg_new (C0 := C) hw (ci := 4) (fs := [.null, .null, .int 0, .int 0, .int 0, .int 0, .int 0, .null, .null, .null]) rfl in_X4 tyX4 tyX4_ok q305 q306 q126 (fun j hj => by rcases (show j = 0 ∨ j = 1 ∨ j = 2 ∨ j = 3 ∨ j = 4 ∨ j = 5 ∨ j = 6 ∨ j = 7 ∨ j = 8 ∨ j = 9 by omega) with rfl | rfl | rfl | rfl | rfl | rfl | rfl | rfl | rfl | rfl <;> rfl) (show cc + 1 ≤ u9.1 - u.1 by omega) (show ss + 10 ≤ u9.2.1 - u.2.1 by omega) dX0_lattices_10 (fun H hw => ?_)
  rw [← eh3] at hw
  refine lv_topr (fun a4 ea4 => ?_)
  have hm := nmK hm ea4
  exact hB13 h3 x0 a4 _ _ _ _ _ hm hw (by omega) (by omega) (lv_sub hl [0] rfl)
def m_X0_fault_24 (f : Nat) (h : CH) (y0 : Int32) : Option (Int32 × CH) := some (y0, h)
theorem mo_X0_fault_24 {f : Nat} : ∀ (h : CH) (y0 : Int32) (r : (Int32 × CH)), m_X0_fault_24 f h y0 = some r → le2 h r.2 := by
  intro h y0 r hm
  rw [m_X0_fault_24] at hm
  cases hm
  exact le2.rf
def m_X0_fault (f : Nat) (u : CH) (x0 : Nat) (x1 : Int32) : Option (Int32 × CH) := if ¬ x1 = 0 then
    if ¬ x1 = (1 : Int32) then
    m_X0_fault_24 f u (-1 : Int32)
    else bd (oI u 1 5 x0) fun v3 =>
    m_X0_fault_24 f u v3
    else bd (oI u 1 4 x0) fun v4 =>
    m_X0_fault_24 f u v4
theorem mo_X0_fault {f : Nat} {u : CH} {x0 : Nat} {x1 : Int32} {r0 : Int32} {u9 : CH} (hm : m_X0_fault f u x0 x1 = some (r0, u9)) : le2 u u9 := by
  rw [m_X0_fault] at hm
  by_cases c1 : ¬ x1 = 0
  · have hm := ifT hm c1
    by_cases c2 : ¬ x1 = (1 : Int32)
    · have hm := ifT hm c2
      exact (mo_X0_fault_24  u (-1 : Int32) _ hm)
    · have hm := ifF hm c2
      obtain ⟨v3, ev3, hm⟩ := bdE hm
      exact (mo_X0_fault_24  u v3 _ hm)
  · have hm := ifF hm c1
    obtain ⟨v4, ev4, hm⟩ := bdE hm
    exact (mo_X0_fault_24  u v4 _ hm)
abbrev rm_X0_fault (mc ms : Nat) : Room := { frames := 0, cells := mc, slots := ms, locals := 0 }
theorem cw_X0_fault {R : Room} {s : State} {args : Array Value} {own : String} {idx mc ms : Nat} (hts : ∀ w ∈ lw_all, w.before args s = true) (hl : Cond.methodLink own idx yX0_fault ∈ lw_all) (hR : 0 + 1 ≤ R.frames ∧ 8 + (2 + 11) + 0 ≤ R.locals) : CallW R s args own RX0 idx yX0_fault cX0_fault 2 (Option.some Jvm.ClassFile.FieldType.int) (ws_ yX0_fault cX0_fault 2 (Option.some Jvm.ClassFile.FieldType.int)) (rm_X0_fault mc ms) mc ms 1 := cwV 1 hts (lw_V hl q873 q874 q119 q875) rfl rfl rfl (by decide +kernel) hR
set_option maxHeartbeats 4000000 in
set_option maxRecDepth 100000 in
theorem w_X0_fault (l : Launch) {D : va_G} {dA : Nat → ClassId} {A : Nat → Prop} {f : Nat} {u u9 : CH} {r0 : Int32} {x0 : Nat} {x1 : Int32} (hm : m_X0_fault f u x0 x1 = some (r0, u9)) : Met l yX0_fault (ws_ yX0_fault cX0_fault 2 (Option.some Jvm.ClassFile.FieldType.int)) (rm_X0_fault (u9.1 - u.1) (u9.2.1 - u.2.1)) (va_Pc [.ref x0, .int x1] (CPre D dA A u)) (va_Qi (fun r u => r = r0 ∧ u = u9) (CPost D dA A) A) (u9.1 - u.1) (u9.2.1 - u.2.1) A := by
  refine Met.ofW (cc := cX0_fault) (maxL := 2) (ret := (Option.some Jvm.ClassFile.FieldType.int)) (by decide) rfl ?_
  intro p e s m args below meth c s₁ B hml hv
  have hx := B.exec
  have hb := B.bytes
  have hr := B.returns
  have hts := atoms_spec (ws := (ws_ yX0_fault cX0_fault 2 (Option.some Jvm.ClassFile.FieldType.int))) B.pre
  have hts : ∀ w ∈ lw_all, w.before args s = true := fun w h => hts w (List.mem_cons_of_mem _ h)
  have hown : s.vm.findClass RX0 = some m.cls := findClass_of_methodNamed B.named
  have hlocks := B.notSynchronized
  obtain ⟨hav, hv⟩ := hv
  have C : CX p s m args c cX0_fault RX0 D dA := ⟨hx, hb, hown, hts, hv.2⟩
  have hw : CW D dA A s u s.heap [] := hv.1
  generalize hQ : MQ below (va_Qi (fun r u => r = r0 ∧ u = u9) (CPost D dA A) A) args s (u9.1 - u.1) (u9.2.1 - u.2.1) A = QQ
  have hent := lg_entry_eq m [.ref x0, .int x1] 2
  rw [← hav] at hent
  rw [hent]
  have hl := lv_entry ([.ref x0, .int x1]) (n := 2) (Nat.le_of_ble_eq_true rfl)
  generalize (lg_sl ([.ref x0, .int x1]) ++ List.replicate (2 - (lg_sl ([.ref x0, .int x1])).length) Slot.unset).toArray = ls at hl ⊢
  have hl : lv_has ls 2 [(0, .ref x0), (1, .int x1)] := hl
  obtain ⟨cc, ecc⟩ : ∃ z : Nat, z = 0 := ⟨0, rfl⟩
  obtain ⟨ss, ess⟩ : ∃ z : Nat, z = 0 := ⟨0, rfl⟩
  have hcc : cc + u.1 = u.1 := by omega
  have hss : ss + u.2.1 = u.2.1 := by omega
  suffices hgo : W p l e (rm_X0_fault (u9.1 - u.1) (u9.2.1 - u.2.1)) s m args below meth c s.heap [] cc ss QQ (F0 m 0 ls []) by rw [ecc, ess] at hgo; exact hgo
  have ⟨pu, qu, _, _⟩ := mo_X0_fault hm
  have hB24 : ∀ (h : CH) (y0 : Int32) (cc ss : Nat) (H : Heap) (locs : List Loc) (ls : Array Slot), m_X0_fault_24 f h y0 = some (r0, u9) → CW D dA A s h H locs → cc + u.1 = h.1 → ss + u.2.1 = h.2.1 → lv_has ls 2 [] → W p l e (rm_X0_fault (u9.1 - u.1) (u9.2.1 - u.2.1)) s m args below meth c H locs cc ss QQ (F0 m 24 ls [.int y0]) := by
    intro h y0 cc ss H locs ls hm hw hcc hss hl
    have hmo := mo_X0_fault_24  h y0 _ hm
    have sb_ : h.1 ≤ u9.1 := hmo.1
    have tb_ : h.2.1 ≤ u9.2.1 := hmo.2.1
    rw [m_X0_fault_24] at hm
    obtain ⟨er, eh⟩ := retE hm
    have ec : cc = u9.1 - u.1 := by rw [← eh]; omega
    have es : ss = u9.2.1 - u.2.1 := by rw [← eh]; omega
    rw [ec, es, ← hQ]
    exact W.iret (v := y0) hx hb hr (fun t ht hW => ⟨⟨y0, h, rfl, ⟨er, eh⟩, ⟨by rw [ht]; exact hw.1, by rw [ht]; exact hw.2.1⟩⟩, hw.2.2.1.F ht⟩) hw.2.2.1.2.2 dX0_fault_24
  rw [m_X0_fault] at hm
  refine lv_iload_n hx hb dX0_fault_0 rfl (lv_at hl 1 rfl) ?_
  refine lv_if_ne (tgt := 11) hx hb dX0_fault_1 (by decide) (fun c1 => ?_) (fun c1 => ?_)
  · have hm := ifT hm c1
    refine lv_iload_n hx hb dX0_fault_11 rfl (lv_at hl 1 rfl) ?_
    refine lv_iconst (v := 1) hx hb dX0_fault_12 (by decide) ?_
    refine lv_icmp_ne (tgt := 23) hx hb dX0_fault_13 (by decide) (fun c2 => ?_) (fun c2 => ?_)
    · have hm := ifT hm c2
      refine lv_iconst (v := -1) hx hb dX0_fault_23 (by decide) ?_
      exact hB24 u (-1 : Int32) _ _ _ _ _ hm hw (by omega) (by omega) (lv_sub hl [] rfl)
    · have hm := ifT' hm c2
      refine lv_aload_n hx hb dX0_fault_16 rfl (lv_at hl 0 rfl) ?_
      obtain ⟨v3, ev3, hm⟩ := bdE hm
      refine cg_get C hw (oI_E ev3) rfl in_X0 (by decide) q244 dX0_fault_17 ?_
      refine lv_goto (tgt := 24) hx hb dX0_fault_20 (by decide) ?_
      exact hB24 u v3 _ _ _ _ _ hm hw (by omega) (by omega) (lv_sub hl [] rfl)
  · have hm := ifT' hm c1
    refine lv_aload_n hx hb dX0_fault_4 rfl (lv_at hl 0 rfl) ?_
    obtain ⟨v4, ev4, hm⟩ := bdE hm
    refine cg_get C hw (oI_E ev4) rfl in_X0 (by decide) q243 dX0_fault_5 ?_
    refine lv_goto (tgt := 24) hx hb dX0_fault_8 (by decide) ?_
    exact hB24 u v4 _ _ _ _ _ hm hw (by omega) (by omega) (lv_sub hl [] rfl)
def m_X0_count_43 (f : Nat) (h : CH) (y0 : Int32) : Option (Int32 × CH) := some (y0, h)
theorem mo_X0_count_43 {f : Nat} : ∀ (h : CH) (y0 : Int32) (r : (Int32 × CH)), m_X0_count_43 f h y0 = some r → le2 h r.2 := by
  intro h y0 r hm
  rw [m_X0_count_43] at hm
  cases hm
  exact le2.rf
def m_X0_count_90 (f : Nat) (h : CH) (x2 : Int32) : Option (Int32 × CH) := some (x2, h)
theorem mo_X0_count_90 {f : Nat} : ∀ (h : CH) (x2 : Int32) (r : (Int32 × CH)), m_X0_count_90 f h x2 = some r → le2 h r.2 := by
  intro h x2 r hm
  rw [m_X0_count_90] at hm
  cases hm
  exact le2.rf
def m_X0_count_82 (f : Nat) (k48 : CH → Nat → Int32 → Int32 → Option (Int32 × CH)) (h : CH) (x0 : Nat) (x3 : Int32) (y0 : Int32) (y1 : Int32) : Option (Int32 × CH) := nmv ((y0 + y1) : Int32) fun v1 =>
    nmv ((x3 + 1) : Int32) fun v2 =>
    k48 h x0 v1 v2
theorem mo_X0_count_82 {f : Nat} {k48 : CH → Nat → Int32 → Int32 → Option (Int32 × CH)} (hk48 : ∀ (h : CH) (x0 : Nat) (x2 : Int32) (x3 : Int32) (r : (Int32 × CH)), k48 h x0 x2 x3 = some r → le2 h r.2) : ∀ (h : CH) (x0 : Nat) (x3 : Int32) (y0 : Int32) (y1 : Int32) (r : (Int32 × CH)), m_X0_count_82 f k48 h x0 x3 y0 y1 = some r → le2 h r.2 := by
  intro h x0 x3 y0 y1 r hm
  rw [m_X0_count_82] at hm
  obtain ⟨v1, ev1, hm⟩ := nmE hm
  obtain ⟨v2, ev2, hm⟩ := nmE hm
  exact (hk48 h x0 v1 v2 _ hm)
def m_X0_count_74 (f : Nat) (k48 : CH → Nat → Int32 → Int32 → Option (Int32 × CH)) (h : CH) (x0 : Nat) (x3 : Int32) (y0 : Int32) (y1 : Int32) : Option (Int32 × CH) := if y1 = 0 then
    m_X0_count_82 f k48 h x0 x3 y0 (0 : Int32)
    else m_X0_count_82 f k48 h x0 x3 y0 (1 : Int32)
theorem mo_X0_count_74 {f : Nat} {k48 : CH → Nat → Int32 → Int32 → Option (Int32 × CH)} (hk48 : ∀ (h : CH) (x0 : Nat) (x2 : Int32) (x3 : Int32) (r : (Int32 × CH)), k48 h x0 x2 x3 = some r → le2 h r.2) : ∀ (h : CH) (x0 : Nat) (x3 : Int32) (y0 : Int32) (y1 : Int32) (r : (Int32 × CH)), m_X0_count_74 f k48 h x0 x3 y0 y1 = some r → le2 h r.2 := by
  intro h x0 x3 y0 y1 r hm
  rw [m_X0_count_74] at hm
  by_cases c1 : y1 = 0
  · have hm := ifT hm c1
    exact (mo_X0_count_82 hk48 h x0 x3 y0 (0 : Int32) _ hm)
  · have hm := ifF hm c1
    exact (mo_X0_count_82 hk48 h x0 x3 y0 (1 : Int32) _ hm)
def m_X0_count_68 (f : Nat) (k48 : CH → Nat → Int32 → Int32 → Option (Int32 × CH)) (h : CH) (x0 : Nat) (x3 : Int32) (y0 : Int32) (y1 : Nat) : Option (Int32 × CH) := if isC h y1 6 = true then
    gd (isC h y1 6) <|
    bd2 (m_X6_isTurned f h y1) fun r4 h3 =>
    m_X0_count_74 f k48 h3 x0 x3 y0 r4
    else gd (isC h y1 7) <|
    gd (isC h y1 7) <|
    bd2 (m_X7_isTurned f h y1) fun r8 h7 =>
    m_X0_count_74 f k48 h7 x0 x3 y0 r8
theorem mo_X0_count_68 {f : Nat} {k48 : CH → Nat → Int32 → Int32 → Option (Int32 × CH)} (hk48 : ∀ (h : CH) (x0 : Nat) (x2 : Int32) (x3 : Int32) (r : (Int32 × CH)), k48 h x0 x2 x3 = some r → le2 h r.2) : ∀ (h : CH) (x0 : Nat) (x3 : Int32) (y0 : Int32) (y1 : Nat) (r : (Int32 × CH)), m_X0_count_68 f k48 h x0 x3 y0 y1 = some r → le2 h r.2 := by
  intro h x0 x3 y0 y1 r hm
  rw [m_X0_count_68] at hm
  by_cases c1 : isC h y1 6 = true
  · have hm := ifT hm c1
    obtain ⟨g2, hm⟩ := gdE hm
    obtain ⟨r4, h3, er4, hm⟩ := bd2E hm
    have lh3 := mo_X6_isTurned er4
    exact (lh3.tr (mo_X0_count_74 hk48 h3 x0 x3 y0 r4 _ hm))
  · have hm := ifF hm c1
    obtain ⟨g5, hm⟩ := gdE hm
    obtain ⟨g6, hm⟩ := gdE hm
    obtain ⟨r8, h7, er8, hm⟩ := bd2E hm
    have lh7 := mo_X7_isTurned er8
    exact (lh7.tr (mo_X0_count_74 hk48 h7 x0 x3 y0 r8 _ hm))
def m_X0_count_56 (f : Nat) (k48 : CH → Nat → Int32 → Int32 → Option (Int32 × CH)) (h : CH) (x0 : Nat) (x2 : Int32) (x3 : Int32) (y0 : Int32) (y1 : Int32) : Option (Int32 × CH) := if y1 ≤ y0 then
    m_X0_count_90 f h x2
    else bd (oR h 1 0 x0) fun a2 =>
    gd (isC h a2 17) <|
    bd2 (m_J2_get f h a2 x3) fun a5 h4 =>
    m_X0_count_68 f k48 h4 x0 x3 x2 a5
theorem mo_X0_count_56 {f : Nat} {k48 : CH → Nat → Int32 → Int32 → Option (Int32 × CH)} (hk48 : ∀ (h : CH) (x0 : Nat) (x2 : Int32) (x3 : Int32) (r : (Int32 × CH)), k48 h x0 x2 x3 = some r → le2 h r.2) : ∀ (h : CH) (x0 : Nat) (x2 : Int32) (x3 : Int32) (y0 : Int32) (y1 : Int32) (r : (Int32 × CH)), m_X0_count_56 f k48 h x0 x2 x3 y0 y1 = some r → le2 h r.2 := by
  intro h x0 x2 x3 y0 y1 r hm
  rw [m_X0_count_56] at hm
  by_cases c1 : y1 ≤ y0
  · have hm := ifT hm c1
    exact (mo_X0_count_90  h x2 _ hm)
  · have hm := ifF hm c1
    obtain ⟨a2, ea2, hm⟩ := bdE hm
    obtain ⟨g3, hm⟩ := gdE hm
    obtain ⟨a5, h4, ea5, hm⟩ := bd2E hm
    have lh4 := mo_J2_get ea5
    exact (lh4.tr (mo_X0_count_68 hk48 h4 x0 x3 x2 a5 _ hm))
def m_X0_count_48 (f : Nat) : Nat → CH → Nat → Int32 → Int32 → Option (Int32 × CH)
  | 0, _, _, _, _ => none
  | n48 + 1, h, x0, x2, x3 => bd (oR h 1 0 x0) fun a1 =>
    gd (isC h a1 17) <|
    bd2 (m_J2_size f h a1) fun r4 h3 =>
    m_X0_count_56 f (m_X0_count_48 f n48) h3 x0 x2 x3 x3 r4
theorem mo_X0_count_48 {f : Nat} : ∀ (n48 : Nat) (h : CH) (x0 : Nat) (x2 : Int32) (x3 : Int32) (r : (Int32 × CH)), m_X0_count_48 f n48 h x0 x2 x3 = some r → le2 h r.2 := by
  intro n48
  induction n48 with
  | zero => intro h x0 x2 x3 r hm; rw [m_X0_count_48] at hm; exact noE hm
  | succ n48 ihm =>
    intro h x0 x2 x3 r hm
    rw [m_X0_count_48] at hm
    obtain ⟨a1, ea1, hm⟩ := bdE hm
    obtain ⟨g2, hm⟩ := gdE hm
    obtain ⟨r4, h3, er4, hm⟩ := bd2E hm
    have lh3 := mo_J2_size er4
    exact (lh3.tr (mo_X0_count_56 ihm h3 x0 x2 x3 x3 r4 _ hm))
def m_X0_count_99 (f : Nat) (h : CH) (y0 : Int32) : Option (Int32 × CH) := some (y0, h)
theorem mo_X0_count_99 {f : Nat} : ∀ (h : CH) (y0 : Int32) (r : (Int32 × CH)), m_X0_count_99 f h y0 = some r → le2 h r.2 := by
  intro h y0 r hm
  rw [m_X0_count_99] at hm
  cases hm
  exact le2.rf
def m_X0_count (f : Nat) (u : CH) (x0 : Nat) (x1 : Int32) : Option (Int32 × CH) := if x1 = (0 : Int32) then
    bd (oR u 1 0 x0) fun a2 =>
    gd (isC u a2 17) <|
    bd2 (m_J2_size f u a2) fun r5 h4 =>
    m_X0_count_43 f h4 r5
    else if x1 = (1 : Int32) then
    m_X0_count_48 f f u x0 (0 : Int32) (0 : Int32)
    else if x1 = (2 : Int32) then
    bd (oR u 1 14 x0) fun a8 =>
    gd (isC u a8 17) <|
    bd2 (m_J2_size f u a8) fun r11 h10 =>
    m_X0_count_99 f h10 r11
    else if x1 = (3 : Int32) then
    bd (oI u 1 1 x0) fun v13 =>
    some (v13, u)
    else if x1 = (4 : Int32) then
    bd (oI u 1 3 x0) fun v15 =>
    some (v15, u)
    else some ((-1 : Int32), u)
theorem mo_X0_count {f : Nat} {u : CH} {x0 : Nat} {x1 : Int32} {r0 : Int32} {u9 : CH} (hm : m_X0_count f u x0 x1 = some (r0, u9)) : le2 u u9 := by
  rw [m_X0_count] at hm
  by_cases c1 : x1 = (0 : Int32)
  · have hm := ifT hm c1
    obtain ⟨a2, ea2, hm⟩ := bdE hm
    obtain ⟨g3, hm⟩ := gdE hm
    obtain ⟨r5, h4, er5, hm⟩ := bd2E hm
    have lh4 := mo_J2_size er5
    exact (lh4.tr (mo_X0_count_43  h4 r5 _ hm))
  · have hm := ifF hm c1
    by_cases c6 : x1 = (1 : Int32)
    · have hm := ifT hm c6
      exact (mo_X0_count_48  f u x0 (0 : Int32) (0 : Int32) _ hm)
    · have hm := ifF hm c6
      by_cases c7 : x1 = (2 : Int32)
      · have hm := ifT hm c7
        obtain ⟨a8, ea8, hm⟩ := bdE hm
        obtain ⟨g9, hm⟩ := gdE hm
        obtain ⟨r11, h10, er11, hm⟩ := bd2E hm
        have lh10 := mo_J2_size er11
        exact (lh10.tr (mo_X0_count_99  h10 r11 _ hm))
      · have hm := ifF hm c7
        by_cases c12 : x1 = (3 : Int32)
        · have hm := ifT hm c12
          obtain ⟨v13, ev13, hm⟩ := bdE hm
          cases hm
          exact le2.rf
        · have hm := ifF hm c12
          by_cases c14 : x1 = (4 : Int32)
          · have hm := ifT hm c14
            obtain ⟨v15, ev15, hm⟩ := bdE hm
            cases hm
            exact le2.rf
          · have hm := ifF hm c14
            cases hm
            exact le2.rf
abbrev rm_X0_count (mc ms : Nat) : Room := { frames := 3, cells := mc, slots := ms, locals := 64 }
theorem cw_X0_count {R : Room} {s : State} {args : Array Value} {own : String} {idx mc ms : Nat} (hts : ∀ w ∈ lw_all, w.before args s = true) (hl : Cond.methodLink own idx yX0_count ∈ lw_all) (hR : 3 + 1 ≤ R.frames ∧ 8 + (4 + 11) + 64 ≤ R.locals) : CallW R s args own RX0 idx yX0_count cX0_count 4 (Option.some Jvm.ClassFile.FieldType.int) (ws_ yX0_count cX0_count 4 (Option.some Jvm.ClassFile.FieldType.int)) (rm_X0_count mc ms) mc ms 1 := cwV 1 hts (lw_V hl q877 q878 q119 q879) rfl rfl rfl (by decide +kernel) hR
set_option maxHeartbeats 4000000 in
set_option maxRecDepth 100000 in
theorem w_X0_count (l : Launch) {D : va_G} {dA : Nat → ClassId} {A : Nat → Prop} {f : Nat} {u u9 : CH} {r0 : Int32} {x0 : Nat} {x1 : Int32} (hm : m_X0_count f u x0 x1 = some (r0, u9)) : Met l yX0_count (ws_ yX0_count cX0_count 4 (Option.some Jvm.ClassFile.FieldType.int)) (rm_X0_count (u9.1 - u.1) (u9.2.1 - u.2.1)) (va_Pc [.ref x0, .int x1] (CPre D dA A u)) (va_Qi (fun r u => r = r0 ∧ u = u9) (CPost D dA A) A) (u9.1 - u.1) (u9.2.1 - u.2.1) A := by
  refine Met.ofW (cc := cX0_count) (maxL := 4) (ret := (Option.some Jvm.ClassFile.FieldType.int)) (by decide) rfl ?_
  intro p e s m args below meth c s₁ B hml hv
  have hx := B.exec
  have hb := B.bytes
  have hr := B.returns
  have hts := atoms_spec (ws := (ws_ yX0_count cX0_count 4 (Option.some Jvm.ClassFile.FieldType.int))) B.pre
  have hts : ∀ w ∈ lw_all, w.before args s = true := fun w h => hts w (List.mem_cons_of_mem _ h)
  have hown : s.vm.findClass RX0 = some m.cls := findClass_of_methodNamed B.named
  have hlocks := B.notSynchronized
  obtain ⟨hav, hv⟩ := hv
  have C : CX p s m args c cX0_count RX0 D dA := ⟨hx, hb, hown, hts, hv.2⟩
  have hw : CW D dA A s u s.heap [] := hv.1
  generalize hQ : MQ below (va_Qi (fun r u => r = r0 ∧ u = u9) (CPost D dA A) A) args s (u9.1 - u.1) (u9.2.1 - u.2.1) A = QQ
  have hent := lg_entry_eq m [.ref x0, .int x1] 4
  rw [← hav] at hent
  rw [hent]
  have hl := lv_entry ([.ref x0, .int x1]) (n := 4) (Nat.le_of_ble_eq_true rfl)
  generalize (lg_sl ([.ref x0, .int x1]) ++ List.replicate (4 - (lg_sl ([.ref x0, .int x1])).length) Slot.unset).toArray = ls at hl ⊢
  have hl : lv_has ls 4 [(0, .ref x0), (1, .int x1)] := hl
  obtain ⟨cc, ecc⟩ : ∃ z : Nat, z = 0 := ⟨0, rfl⟩
  obtain ⟨ss, ess⟩ : ∃ z : Nat, z = 0 := ⟨0, rfl⟩
  have hcc : cc + u.1 = u.1 := by omega
  have hss : ss + u.2.1 = u.2.1 := by omega
  suffices hgo : W p l e (rm_X0_count (u9.1 - u.1) (u9.2.1 - u.2.1)) s m args below meth c s.heap [] cc ss QQ (F0 m 0 ls []) by rw [ecc, ess] at hgo; exact hgo
  have ⟨pu, qu, _, _⟩ := mo_X0_count hm
  have hB43 : ∀ (h : CH) (y0 : Int32) (cc ss : Nat) (H : Heap) (locs : List Loc) (ls : Array Slot), m_X0_count_43 f h y0 = some (r0, u9) → CW D dA A s h H locs → cc + u.1 = h.1 → ss + u.2.1 = h.2.1 → lv_has ls 4 [] → W p l e (rm_X0_count (u9.1 - u.1) (u9.2.1 - u.2.1)) s m args below meth c H locs cc ss QQ (F0 m 43 ls [.int y0]) := by
    intro h y0 cc ss H locs ls hm hw hcc hss hl
    have hmo := mo_X0_count_43  h y0 _ hm
    have sb_ : h.1 ≤ u9.1 := hmo.1
    have tb_ : h.2.1 ≤ u9.2.1 := hmo.2.1
    rw [m_X0_count_43] at hm
    obtain ⟨er, eh⟩ := retE hm
    have ec : cc = u9.1 - u.1 := by rw [← eh]; omega
    have es : ss = u9.2.1 - u.2.1 := by rw [← eh]; omega
    rw [ec, es, ← hQ]
    exact W.iret (v := y0) hx hb hr (fun t ht hW => ⟨⟨y0, h, rfl, ⟨er, eh⟩, ⟨by rw [ht]; exact hw.1, by rw [ht]; exact hw.2.1⟩⟩, hw.2.2.1.F ht⟩) hw.2.2.1.2.2 dX0_count_43
  have hB90 : ∀ (h : CH) (x2 : Int32) (cc ss : Nat) (H : Heap) (locs : List Loc) (ls : Array Slot), m_X0_count_90 f h x2 = some (r0, u9) → CW D dA A s h H locs → cc + u.1 = h.1 → ss + u.2.1 = h.2.1 → lv_has ls 4 [(2, .int x2)] → W p l e (rm_X0_count (u9.1 - u.1) (u9.2.1 - u.2.1)) s m args below meth c H locs cc ss QQ (F0 m 90 ls []) := by
    intro h x2 cc ss H locs ls hm hw hcc hss hl
    have hmo := mo_X0_count_90  h x2 _ hm
    have sb_ : h.1 ≤ u9.1 := hmo.1
    have tb_ : h.2.1 ≤ u9.2.1 := hmo.2.1
    rw [m_X0_count_90] at hm
    refine lv_iload_n hx hb dX0_count_90 rfl (lv_at hl 0 rfl) ?_
    obtain ⟨er, eh⟩ := retE hm
    have ec : cc = u9.1 - u.1 := by rw [← eh]; omega
    have es : ss = u9.2.1 - u.2.1 := by rw [← eh]; omega
    rw [ec, es, ← hQ]
    exact W.iret (v := x2) hx hb hr (fun t ht hW => ⟨⟨x2, h, rfl, ⟨er, eh⟩, ⟨by rw [ht]; exact hw.1, by rw [ht]; exact hw.2.1⟩⟩, hw.2.2.1.F ht⟩) hw.2.2.1.2.2 dX0_count_91
  have hB48 : ∀ (n48 : Nat), ∀ (h : CH) (x0 : Nat) (x2 : Int32) (x3 : Int32) (cc ss : Nat) (H : Heap) (locs : List Loc) (ls : Array Slot), m_X0_count_48 f n48 h x0 x2 x3 = some (r0, u9) → CW D dA A s h H locs → cc + u.1 = h.1 → ss + u.2.1 = h.2.1 → lv_has ls 4 [(0, .ref x0), (2, .int x2), (3, .int x3)] → W p l e (rm_X0_count (u9.1 - u.1) (u9.2.1 - u.2.1)) s m args below meth c H locs cc ss QQ (F0 m 48 ls []) := by
    intro n48
    induction n48 with
    | zero => intro h x0 x2 x3 cc ss H locs ls hm hw hcc hss hl; rw [m_X0_count_48] at hm; exact noE hm
    | succ n48 ih48 =>
      have hB82 : ∀ (h : CH) (x0 : Nat) (x3 : Int32) (y0 : Int32) (y1 : Int32) (cc ss : Nat) (H : Heap) (locs : List Loc) (ls : Array Slot), m_X0_count_82 f (m_X0_count_48 f n48) h x0 x3 y0 y1 = some (r0, u9) → CW D dA A s h H locs → cc + u.1 = h.1 → ss + u.2.1 = h.2.1 → lv_has ls 4 [(0, .ref x0), (3, .int x3)] → W p l e (rm_X0_count (u9.1 - u.1) (u9.2.1 - u.2.1)) s m args below meth c H locs cc ss QQ (F0 m 82 ls [.int y1, .int y0]) := by
        intro h x0 x3 y0 y1 cc ss H locs ls hm hw hcc hss hl
        have hmo := mo_X0_count_82 (mo_X0_count_48 n48) h x0 x3 y0 y1 _ hm
        have sb_ : h.1 ≤ u9.1 := hmo.1
        have tb_ : h.2.1 ≤ u9.2.1 := hmo.2.1
        rw [m_X0_count_82] at hm
        refine lv_iadd hx hb dX0_count_82 ?_
        refine lv_topi (fun v1 ev1 => ?_)
        have hm := nmK hm ev1
        refine lv_istore_n (lv' := [(2, .int v1), (0, .ref x0), (3, .int x3)]) hx hb dX0_count_83 rfl hl (by decide) rfl (fun ls hl => ?_)
        obtain ⟨v2, ev2, hm⟩ := nmE hm
        refine lv_iinc (v := v2) (lv' := [(3, .int v2), (2, .int v1), (0, .ref x0)]) hx hb dX0_count_84 hl (k := 2) rfl (by rw [ev2]; rfl) (by decide) rfl (fun ls hl => ?_)
        refine lv_goto (tgt := 48) hx hb dX0_count_87 (by decide) ?_
        exact ih48 h x0 v1 v2 _ _ _ _ _ hm hw (by omega) (by omega) (lv_sub hl [2, 1, 0] rfl)
      have hB74 : ∀ (h : CH) (x0 : Nat) (x3 : Int32) (y0 : Int32) (y1 : Int32) (cc ss : Nat) (H : Heap) (locs : List Loc) (ls : Array Slot), m_X0_count_74 f (m_X0_count_48 f n48) h x0 x3 y0 y1 = some (r0, u9) → CW D dA A s h H locs → cc + u.1 = h.1 → ss + u.2.1 = h.2.1 → lv_has ls 4 [(0, .ref x0), (3, .int x3)] → W p l e (rm_X0_count (u9.1 - u.1) (u9.2.1 - u.2.1)) s m args below meth c H locs cc ss QQ (F0 m 74 ls [.int y1, .int y0]) := by
        intro h x0 x3 y0 y1 cc ss H locs ls hm hw hcc hss hl
        have hmo := mo_X0_count_74 (mo_X0_count_48 n48) h x0 x3 y0 y1 _ hm
        have sb_ : h.1 ≤ u9.1 := hmo.1
        have tb_ : h.2.1 ≤ u9.2.1 := hmo.2.1
        rw [m_X0_count_74] at hm
        refine lv_if_eq (tgt := 81) hx hb dX0_count_74 (by decide) (fun c1 => ?_) (fun c1 => ?_)
        · have hm := ifT hm c1
          refine lv_iconst (v := 0) hx hb dX0_count_81 (by decide) ?_
          exact hB82 h x0 x3 y0 (0 : Int32) _ _ _ _ _ hm hw (by omega) (by omega) (lv_sub hl [0, 1] rfl)
        · have hm := ifF hm c1
          refine lv_iconst (v := 1) hx hb dX0_count_77 (by decide) ?_
          refine lv_goto (tgt := 82) hx hb dX0_count_78 (by decide) ?_
          exact hB82 h x0 x3 y0 (1 : Int32) _ _ _ _ _ hm hw (by omega) (by omega) (lv_sub hl [0, 1] rfl)
      have hB68 : ∀ (h : CH) (x0 : Nat) (x3 : Int32) (y0 : Int32) (y1 : Nat) (cc ss : Nat) (H : Heap) (locs : List Loc) (ls : Array Slot), m_X0_count_68 f (m_X0_count_48 f n48) h x0 x3 y0 y1 = some (r0, u9) → CW D dA A s h H locs → cc + u.1 = h.1 → ss + u.2.1 = h.2.1 → lv_has ls 4 [(0, .ref x0), (3, .int x3)] → W p l e (rm_X0_count (u9.1 - u.1) (u9.2.1 - u.2.1)) s m args below meth c H locs cc ss QQ (F0 m 68 ls [.ref y1, .int y0]) := by
        intro h x0 x3 y0 y1 cc ss H locs ls hm hw hcc hss hl
        have hmo := mo_X0_count_68 (mo_X0_count_48 n48) h x0 x3 y0 y1 _ hm
        have sb_ : h.1 ≤ u9.1 := hmo.1
        have tb_ : h.2.1 ≤ u9.2.1 := hmo.2.1
        rw [m_X0_count_68] at hm
        by_cases c1 : isC h y1 6 = true
        · have hm := ifT hm c1
          refine cg_castS C hw c1 rfl q882 dX0_count_68 ?_
          obtain ⟨g2, hm⟩ := gdE hm
          obtain ⟨r4, h3, er4, hm⟩ := bd2E hm
          have lh3 := mo_X6_isTurned er4
          have ph3 : h.1 ≤ h3.1 := lh3.1
          have qh3 : h.2.1 ≤ h3.2.1 := lh3.2.1
          have hmo := mo_X0_count_74 (mo_X0_count_48 n48)  h3 x0 x3 y0 r4 _ hm
          have sh3 : h3.1 ≤ u9.1 := hmo.1
          have th3 : h3.2.1 ≤ u9.2.1 := hmo.2.1
          refine cg_calli hw lh3 (va_runV (As := []) (rest := [.int y0]) ⟨hx, hb, hml, hown, hts⟩ (w_X6_isTurned l er4) (cw_X6_isTurned hts q883 ⟨Nat.le_of_ble_eq_true rfl, Nat.le_of_ble_eq_true rfl⟩) (cg_preV C hw g2 rfl _) rfl rfl hl.1 rfl (lv_room (Nat.le_of_ble_eq_true rfl)) dX0_count_71 ⟨show cc + (h3.1 - h.1) ≤ u9.1 - u.1 by omega, show ss + (h3.2.1 - h.2.1) ≤ u9.2.1 - u.2.1 by omega⟩) (fun H locs hw => ?_)
          exact hB74 h3 x0 x3 y0 r4 _ _ _ _ _ hm hw (by omega) (by omega) (lv_sub hl [0, 1] rfl)
        · have hm := ifF hm c1
          obtain ⟨g5, hm⟩ := gdE hm
          refine cg_castY C hw g5 rfl q882 (hw.2.2.2.2.1 _ (List.mem_of_getElem? (i := 77) rfl)) dX0_count_68 ?_
          obtain ⟨g6, hm⟩ := gdE hm
          obtain ⟨r8, h7, er8, hm⟩ := bd2E hm
          have lh7 := mo_X7_isTurned er8
          have ph7 : h.1 ≤ h7.1 := lh7.1
          have qh7 : h.2.1 ≤ h7.2.1 := lh7.2.1
          have hmo := mo_X0_count_74 (mo_X0_count_48 n48)  h7 x0 x3 y0 r8 _ hm
          have sh7 : h7.1 ≤ u9.1 := hmo.1
          have th7 : h7.2.1 ≤ u9.2.1 := hmo.2.1
          refine cg_calli hw lh7 (va_runU (As := []) (rest := [.int y0]) ⟨hx, hb, hml, hown, hts⟩ (w_X7_isTurned l er8) (va_cwO 0 hts (lwO q883 q737 q735 q738 q739 q144 q740) rfl rfl rfl q741 (by decide +kernel) ⟨Nat.le_of_ble_eq_true rfl, Nat.le_of_ble_eq_true rfl⟩) (cg_preV C hw g6 rfl _) rfl rfl hl.1 rfl (lv_room (Nat.le_of_ble_eq_true rfl)) dX0_count_71 ⟨show cc + (h7.1 - h.1) ≤ u9.1 - u.1 by omega, show ss + (h7.2.1 - h.2.1) ≤ u9.2.1 - u.2.1 by omega⟩) (fun H locs hw => ?_)
          exact hB74 h7 x0 x3 y0 r8 _ _ _ _ _ hm hw (by omega) (by omega) (lv_sub hl [0, 1] rfl)
      have hB56 : ∀ (h : CH) (x0 : Nat) (x2 : Int32) (x3 : Int32) (y0 : Int32) (y1 : Int32) (cc ss : Nat) (H : Heap) (locs : List Loc) (ls : Array Slot), m_X0_count_56 f (m_X0_count_48 f n48) h x0 x2 x3 y0 y1 = some (r0, u9) → CW D dA A s h H locs → cc + u.1 = h.1 → ss + u.2.1 = h.2.1 → lv_has ls 4 [(0, .ref x0), (2, .int x2), (3, .int x3)] → W p l e (rm_X0_count (u9.1 - u.1) (u9.2.1 - u.2.1)) s m args below meth c H locs cc ss QQ (F0 m 56 ls [.int y1, .int y0]) := by
        intro h x0 x2 x3 y0 y1 cc ss H locs ls hm hw hcc hss hl
        have hmo := mo_X0_count_56 (mo_X0_count_48 n48) h x0 x2 x3 y0 y1 _ hm
        have sb_ : h.1 ≤ u9.1 := hmo.1
        have tb_ : h.2.1 ≤ u9.2.1 := hmo.2.1
        rw [m_X0_count_56] at hm
        refine lv_icmp_ge (tgt := 90) hx hb dX0_count_56 (by decide) (fun c1 => ?_) (fun c1 => ?_)
        · have hm := ifT hm c1
          exact hB90 h x2 _ _ _ _ _ hm hw (by omega) (by omega) (lv_sub hl [1] rfl)
        · have hm := ifF hm c1
          refine lv_iload_n hx hb dX0_count_59 rfl (lv_at hl 1 rfl) ?_
          refine lv_aload_n hx hb dX0_count_60 rfl (lv_at hl 0 rfl) ?_
          obtain ⟨a2, ea2, hm⟩ := bdE hm
          refine cg_get C hw (oR_E ea2) rfl in_X0 (by decide) q237 dX0_count_61 ?_
          refine lv_iload_n hx hb dX0_count_64 rfl (lv_at hl 2 rfl) ?_
          obtain ⟨g3, hm⟩ := gdE hm
          obtain ⟨a5, h4, ea5, hm⟩ := bd2E hm
          have lh4 := mo_J2_get ea5
          have ph4 : h.1 ≤ h4.1 := lh4.1
          have qh4 : h.2.1 ≤ h4.2.1 := lh4.2.1
          have hmo := mo_X0_count_68 (mo_X0_count_48 n48)  h4 x0 x3 x2 a5 _ hm
          have sh4 : h4.1 ≤ u9.1 := hmo.1
          have th4 : h4.2.1 ≤ u9.2.1 := hmo.2.1
          refine cg_callr hw lh4 (va_runV (As := [.int x3]) (rest := [.int x2]) ⟨hx, hb, hml, hown, hts⟩ (w_J2_get l ea5) (cw_J2_get hts q881 ⟨Nat.le_of_ble_eq_true rfl, Nat.le_of_ble_eq_true rfl⟩) (cg_preV C hw g3 rfl _) rfl rfl hl.1 rfl (lv_room (Nat.le_of_ble_eq_true rfl)) dX0_count_65 ⟨show cc + (h4.1 - h.1) ≤ u9.1 - u.1 by omega, show ss + (h4.2.1 - h.2.1) ≤ u9.2.1 - u.2.1 by omega⟩) (fun H locs hw => ?_)
          exact hB68 h4 x0 x3 x2 a5 _ _ _ _ _ hm hw (by omega) (by omega) (lv_sub hl [0, 2] rfl)
      intro h x0 x2 x3 cc ss H locs ls hm hw hcc hss hl
      have hmo := mo_X0_count_48  (n48 + 1) h x0 x2 x3 _ hm
      have sb_ : h.1 ≤ u9.1 := hmo.1
      have tb_ : h.2.1 ≤ u9.2.1 := hmo.2.1
      rw [m_X0_count_48] at hm
      refine lv_iload_n hx hb dX0_count_48 rfl (lv_at hl 2 rfl) ?_
      refine lv_aload_n hx hb dX0_count_49 rfl (lv_at hl 0 rfl) ?_
      obtain ⟨a1, ea1, hm⟩ := bdE hm
      refine cg_get C hw (oR_E ea1) rfl in_X0 (by decide) q237 dX0_count_50 ?_
      obtain ⟨g2, hm⟩ := gdE hm
      obtain ⟨r4, h3, er4, hm⟩ := bd2E hm
      have lh3 := mo_J2_size er4
      have ph3 : h.1 ≤ h3.1 := lh3.1
      have qh3 : h.2.1 ≤ h3.2.1 := lh3.2.1
      have hmo := mo_X0_count_56 (mo_X0_count_48 n48)  h3 x0 x2 x3 x3 r4 _ hm
      have sh3 : h3.1 ≤ u9.1 := hmo.1
      have th3 : h3.2.1 ≤ u9.2.1 := hmo.2.1
      refine cg_calli hw lh3 (va_runV (As := []) (rest := [.int x3]) ⟨hx, hb, hml, hown, hts⟩ (w_J2_size l er4) (cw_J2_size hts q880 ⟨Nat.le_of_ble_eq_true rfl, Nat.le_of_ble_eq_true rfl⟩) (cg_preV C hw g2 rfl _) rfl rfl hl.1 rfl (lv_room (Nat.le_of_ble_eq_true rfl)) dX0_count_53 ⟨show cc + (h3.1 - h.1) ≤ u9.1 - u.1 by omega, show ss + (h3.2.1 - h.2.1) ≤ u9.2.1 - u.2.1 by omega⟩) (fun H locs hw => ?_)
      exact hB56 h3 x0 x2 x3 x3 r4 _ _ _ _ _ hm hw (by omega) (by omega) (lv_sub hl [0, 1, 2] rfl)
  have hB99 : ∀ (h : CH) (y0 : Int32) (cc ss : Nat) (H : Heap) (locs : List Loc) (ls : Array Slot), m_X0_count_99 f h y0 = some (r0, u9) → CW D dA A s h H locs → cc + u.1 = h.1 → ss + u.2.1 = h.2.1 → lv_has ls 4 [] → W p l e (rm_X0_count (u9.1 - u.1) (u9.2.1 - u.2.1)) s m args below meth c H locs cc ss QQ (F0 m 99 ls [.int y0]) := by
    intro h y0 cc ss H locs ls hm hw hcc hss hl
    have hmo := mo_X0_count_99  h y0 _ hm
    have sb_ : h.1 ≤ u9.1 := hmo.1
    have tb_ : h.2.1 ≤ u9.2.1 := hmo.2.1
    rw [m_X0_count_99] at hm
    obtain ⟨er, eh⟩ := retE hm
    have ec : cc = u9.1 - u.1 := by rw [← eh]; omega
    have es : ss = u9.2.1 - u.2.1 := by rw [← eh]; omega
    rw [ec, es, ← hQ]
    exact W.iret (v := y0) hx hb hr (fun t ht hW => ⟨⟨y0, h, rfl, ⟨er, eh⟩, ⟨by rw [ht]; exact hw.1, by rw [ht]; exact hw.2.1⟩⟩, hw.2.2.1.F ht⟩) hw.2.2.1.2.2 dX0_count_99
  rw [m_X0_count] at hm
  refine lv_iload_n hx hb dX0_count_0 rfl (lv_at hl 1 rfl) ?_
  by_cases c1 : x1 = (0 : Int32)
  · have hm := ifT hm c1
    rw [c1]
    refine lv_tableIn (tgt := 36) (off := 35) hx hb dX0_count_1 (by decide) (by decide) (by decide) (by decide) ?_
    refine lv_aload_n hx hb dX0_count_36 rfl (lv_at hl 0 rfl) ?_
    obtain ⟨a2, ea2, hm⟩ := bdE hm
    refine cg_get C hw (oR_E ea2) rfl in_X0 (by decide) q237 dX0_count_37 ?_
    obtain ⟨g3, hm⟩ := gdE hm
    obtain ⟨r5, h4, er5, hm⟩ := bd2E hm
    have lh4 := mo_J2_size er5
    have ph4 : u.1 ≤ h4.1 := lh4.1
    have qh4 : u.2.1 ≤ h4.2.1 := lh4.2.1
    have hmo := mo_X0_count_43   h4 r5 _ hm
    have sh4 : h4.1 ≤ u9.1 := hmo.1
    have th4 : h4.2.1 ≤ u9.2.1 := hmo.2.1
    refine cg_calli hw lh4 (va_runV (As := []) (rest := []) ⟨hx, hb, hml, hown, hts⟩ (w_J2_size l er5) (cw_J2_size hts q880 ⟨Nat.le_of_ble_eq_true rfl, Nat.le_of_ble_eq_true rfl⟩) (cg_preV C hw g3 rfl _) rfl rfl hl.1 rfl (lv_room (Nat.le_of_ble_eq_true rfl)) dX0_count_40 ⟨show cc + (h4.1 - u.1) ≤ u9.1 - u.1 by omega, show ss + (h4.2.1 - u.2.1) ≤ u9.2.1 - u.2.1 by omega⟩) (fun H locs hw => ?_)
    exact hB43 h4 r5 _ _ _ _ _ hm hw (by omega) (by omega) (lv_sub hl [] rfl)
  · have hm := ifF hm c1
    by_cases c6 : x1 = (1 : Int32)
    · have hm := ifT hm c6
      rw [c6]
      refine lv_tableIn (tgt := 44) (off := 43) hx hb dX0_count_1 (by decide) (by decide) (by decide) (by decide) ?_
      refine lv_iconst (v := 0) hx hb dX0_count_44 (by decide) ?_
      refine lv_istore_n (lv' := [(2, .int (0 : Int32)), (0, .ref x0), (1, .int x1)]) hx hb dX0_count_45 rfl hl (by decide) rfl (fun ls hl => ?_)
      refine lv_iconst (v := 0) hx hb dX0_count_46 (by decide) ?_
      refine lv_istore_n (lv' := [(3, .int (0 : Int32)), (2, .int (0 : Int32)), (0, .ref x0), (1, .int x1)]) hx hb dX0_count_47 rfl hl (by decide) rfl (fun ls hl => ?_)
      exact hB48 f u x0 (0 : Int32) (0 : Int32) _ _ _ _ _ hm hw (by omega) (by omega) (lv_sub hl [2, 1, 0] rfl)
    · have hm := ifF hm c6
      by_cases c7 : x1 = (2 : Int32)
      · have hm := ifT hm c7
        rw [c7]
        refine lv_tableIn (tgt := 92) (off := 91) hx hb dX0_count_1 (by decide) (by decide) (by decide) (by decide) ?_
        refine lv_aload_n hx hb dX0_count_92 rfl (lv_at hl 0 rfl) ?_
        obtain ⟨a8, ea8, hm⟩ := bdE hm
        refine cg_get C hw (oR_E ea8) rfl in_X0 (by decide) q253 dX0_count_93 ?_
        obtain ⟨g9, hm⟩ := gdE hm
        obtain ⟨r11, h10, er11, hm⟩ := bd2E hm
        have lh10 := mo_J2_size er11
        have ph10 : u.1 ≤ h10.1 := lh10.1
        have qh10 : u.2.1 ≤ h10.2.1 := lh10.2.1
        have hmo := mo_X0_count_99   h10 r11 _ hm
        have sh10 : h10.1 ≤ u9.1 := hmo.1
        have th10 : h10.2.1 ≤ u9.2.1 := hmo.2.1
        refine cg_calli hw lh10 (va_runV (As := []) (rest := []) ⟨hx, hb, hml, hown, hts⟩ (w_J2_size l er11) (cw_J2_size hts q880 ⟨Nat.le_of_ble_eq_true rfl, Nat.le_of_ble_eq_true rfl⟩) (cg_preV C hw g9 rfl _) rfl rfl hl.1 rfl (lv_room (Nat.le_of_ble_eq_true rfl)) dX0_count_96 ⟨show cc + (h10.1 - u.1) ≤ u9.1 - u.1 by omega, show ss + (h10.2.1 - u.2.1) ≤ u9.2.1 - u.2.1 by omega⟩) (fun H locs hw => ?_)
        exact hB99 h10 r11 _ _ _ _ _ hm hw (by omega) (by omega) (lv_sub hl [] rfl)
      · have hm := ifF hm c7
        by_cases c12 : x1 = (3 : Int32)
        · have hm := ifT hm c12
          rw [c12]
          refine lv_tableIn (tgt := 100) (off := 99) hx hb dX0_count_1 (by decide) (by decide) (by decide) (by decide) ?_
          refine lv_aload_n hx hb dX0_count_100 rfl (lv_at hl 0 rfl) ?_
          obtain ⟨v13, ev13, hm⟩ := bdE hm
          refine cg_get C hw (oI_E ev13) rfl in_X0 (by decide) q238 dX0_count_101 ?_
          obtain ⟨er, eh⟩ := retE hm
          have ec : cc = u9.1 - u.1 := by rw [← eh]; omega
          have es : ss = u9.2.1 - u.2.1 := by rw [← eh]; omega
          rw [ec, es, ← hQ]
          exact W.iret (v := v13) hx hb hr (fun t ht hW => ⟨⟨v13, u, rfl, ⟨er, eh⟩, ⟨by rw [ht]; exact hw.1, by rw [ht]; exact hw.2.1⟩⟩, hw.2.2.1.F ht⟩) hw.2.2.1.2.2 dX0_count_104
        · have hm := ifF hm c12
          by_cases c14 : x1 = (4 : Int32)
          · have hm := ifT hm c14
            rw [c14]
            refine lv_tableIn (tgt := 105) (off := 104) hx hb dX0_count_1 (by decide) (by decide) (by decide) (by decide) ?_
            refine lv_aload_n hx hb dX0_count_105 rfl (lv_at hl 0 rfl) ?_
            obtain ⟨v15, ev15, hm⟩ := bdE hm
            refine cg_get C hw (oI_E ev15) rfl in_X0 (by decide) q242 dX0_count_106 ?_
            obtain ⟨er, eh⟩ := retE hm
            have ec : cc = u9.1 - u.1 := by rw [← eh]; omega
            have es : ss = u9.2.1 - u.2.1 := by rw [← eh]; omega
            rw [ec, es, ← hQ]
            exact W.iret (v := v15) hx hb hr (fun t ht hW => ⟨⟨v15, u, rfl, ⟨er, eh⟩, ⟨by rw [ht]; exact hw.1, by rw [ht]; exact hw.2.1⟩⟩, hw.2.2.1.F ht⟩) hw.2.2.1.2.2 dX0_count_109
          · have hm := ifF hm c14
            have c16 : Int32.toInt x1 < 0 ∨ 4 < Int32.toInt x1 := by
              rcases Int.lt_or_le (Int32.toInt x1) 0 with h | h
              · exact Or.inl h
              · rcases Int.lt_or_le 4 (Int32.toInt x1) with h2 | h2
                · exact Or.inr h2
                · rcases (show Int32.toInt x1 = 0 ∨ Int32.toInt x1 = 1 ∨ Int32.toInt x1 = 2 ∨ Int32.toInt x1 = 3 ∨ Int32.toInt x1 = 4 by omega) with h3 | h3 | h3 | h3 | h3
                  · exact absurd (i32_of_toInt _ h3) c1
                  · exact absurd (i32_of_toInt _ h3) c6
                  · exact absurd (i32_of_toInt _ h3) c7
                  · exact absurd (i32_of_toInt _ h3) c12
                  · exact absurd (i32_of_toInt _ h3) c14
            refine lv_tableOut (tgt := 110) hx hb dX0_count_1 c16 (by decide) ?_
            refine lv_iconst (v := -1) hx hb dX0_count_110 (by decide) ?_
            obtain ⟨er, eh⟩ := retE hm
            have ec : cc = u9.1 - u.1 := by rw [← eh]; omega
            have es : ss = u9.2.1 - u.2.1 := by rw [← eh]; omega
            rw [ec, es, ← hQ]
            exact W.iret (v := (-1 : Int32)) hx hb hr (fun t ht hW => ⟨⟨(-1 : Int32), u, rfl, ⟨er, eh⟩, ⟨by rw [ht]; exact hw.1, by rw [ht]; exact hw.2.1⟩⟩, hw.2.2.1.F ht⟩) hw.2.2.1.2.2 dX0_count_111
def m_X0_isLattice_10 (f : Nat) (h : CH) (y0 : Int64) (y1 : Int64) (y2 : Int32) : Option (Int32 × CH) := bd (m_X0_isIn f y0 y1 (Int32.toInt64 (y2 - (1 : Int32)))) fun r1 =>
    gd (zb r1) <|
    some (r1, h)
theorem mo_X0_isLattice_10 {f : Nat} : ∀ (h : CH) (y0 : Int64) (y1 : Int64) (y2 : Int32) (r : (Int32 × CH)), m_X0_isLattice_10 f h y0 y1 y2 = some r → le2 h r.2 := by
  intro h y0 y1 y2 r hm
  rw [m_X0_isLattice_10] at hm
  obtain ⟨r1, er1, hm⟩ := bdE hm
  obtain ⟨g2, hm⟩ := gdE hm
  cases hm
  exact le2.rf
def m_X0_isLattice (f : Nat) (u : CH) (x0 : Nat) (x1 : Int32) : Option (Int32 × CH) := bd (oR u 1 0 x0) fun a1 =>
    gd (isC u a1 17) <|
    bd2 (m_J2_size f u a1) fun r4 h3 =>
    m_X0_isLattice_10 f h3 (Int32.toInt64 x1) (0 : Int64) r4
theorem mo_X0_isLattice {f : Nat} {u : CH} {x0 : Nat} {x1 : Int32} {r0 : Int32} {u9 : CH} (hm : m_X0_isLattice f u x0 x1 = some (r0, u9)) : le2 u u9 := by
  rw [m_X0_isLattice] at hm
  obtain ⟨a1, ea1, hm⟩ := bdE hm
  obtain ⟨g2, hm⟩ := gdE hm
  obtain ⟨r4, h3, er4, hm⟩ := bd2E hm
  have lh3 := mo_J2_size er4
  exact (lh3.tr (mo_X0_isLattice_10  h3 (Int32.toInt64 x1) (0 : Int64) r4 _ hm))
abbrev rm_X0_isLattice (mc ms : Nat) : Room := { frames := 1, cells := mc, slots := ms, locals := 25 }
theorem cw_X0_isLattice {R : Room} {s : State} {args : Array Value} {own : String} {idx mc ms : Nat} (hts : ∀ w ∈ lw_all, w.before args s = true) (hl : Cond.methodLink own idx yX0_isLattice ∈ lw_all) (hR : 1 + 1 ≤ R.frames ∧ 8 + (2 + 11) + 25 ≤ R.locals) : CallW R s args own RX0 idx yX0_isLattice cX0_isLattice 2 (Option.some Jvm.ClassFile.FieldType.boolean) (ws_ yX0_isLattice cX0_isLattice 2 (Option.some Jvm.ClassFile.FieldType.boolean)) (rm_X0_isLattice mc ms) mc ms 1 := cwV 1 hts (lw_V hl q894 qs16 q119 q895) rfl rfl rfl (by decide +kernel) hR
set_option maxHeartbeats 4000000 in
set_option maxRecDepth 100000 in
theorem w_X0_isLattice (l : Launch) {D : va_G} {dA : Nat → ClassId} {A : Nat → Prop} {f : Nat} {u u9 : CH} {r0 : Int32} {x0 : Nat} {x1 : Int32} (hm : m_X0_isLattice f u x0 x1 = some (r0, u9)) : Met l yX0_isLattice (ws_ yX0_isLattice cX0_isLattice 2 (Option.some Jvm.ClassFile.FieldType.boolean)) (rm_X0_isLattice (u9.1 - u.1) (u9.2.1 - u.2.1)) (va_Pc [.ref x0, .int x1] (CPre D dA A u)) (va_Qi (fun r u => r = r0 ∧ u = u9) (CPost D dA A) A) (u9.1 - u.1) (u9.2.1 - u.2.1) A := by
  refine Met.ofW (cc := cX0_isLattice) (maxL := 2) (ret := (Option.some Jvm.ClassFile.FieldType.boolean)) (by decide) rfl ?_
  intro p e s m args below meth c s₁ B hml hv
  have hx := B.exec
  have hb := B.bytes
  have hr := B.returns
  have hts := atoms_spec (ws := (ws_ yX0_isLattice cX0_isLattice 2 (Option.some Jvm.ClassFile.FieldType.boolean))) B.pre
  have hts : ∀ w ∈ lw_all, w.before args s = true := fun w h => hts w (List.mem_cons_of_mem _ h)
  have hown : s.vm.findClass RX0 = some m.cls := findClass_of_methodNamed B.named
  have hlocks := B.notSynchronized
  obtain ⟨hav, hv⟩ := hv
  have C : CX p s m args c cX0_isLattice RX0 D dA := ⟨hx, hb, hown, hts, hv.2⟩
  have hw : CW D dA A s u s.heap [] := hv.1
  generalize hQ : MQ below (va_Qi (fun r u => r = r0 ∧ u = u9) (CPost D dA A) A) args s (u9.1 - u.1) (u9.2.1 - u.2.1) A = QQ
  have hent := lg_entry_eq m [.ref x0, .int x1] 2
  rw [← hav] at hent
  rw [hent]
  have hl := lv_entry ([.ref x0, .int x1]) (n := 2) (Nat.le_of_ble_eq_true rfl)
  generalize (lg_sl ([.ref x0, .int x1]) ++ List.replicate (2 - (lg_sl ([.ref x0, .int x1])).length) Slot.unset).toArray = ls at hl ⊢
  have hl : lv_has ls 2 [(0, .ref x0), (1, .int x1)] := hl
  obtain ⟨cc, ecc⟩ : ∃ z : Nat, z = 0 := ⟨0, rfl⟩
  obtain ⟨ss, ess⟩ : ∃ z : Nat, z = 0 := ⟨0, rfl⟩
  have hcc : cc + u.1 = u.1 := by omega
  have hss : ss + u.2.1 = u.2.1 := by omega
  suffices hgo : W p l e (rm_X0_isLattice (u9.1 - u.1) (u9.2.1 - u.2.1)) s m args below meth c s.heap [] cc ss QQ (F0 m 0 ls []) by rw [ecc, ess] at hgo; exact hgo
  have ⟨pu, qu, _, _⟩ := mo_X0_isLattice hm
  have hB10 : ∀ (h : CH) (y0 : Int64) (y1 : Int64) (y2 : Int32) (cc ss : Nat) (H : Heap) (locs : List Loc) (ls : Array Slot), m_X0_isLattice_10 f h y0 y1 y2 = some (r0, u9) → CW D dA A s h H locs → cc + u.1 = h.1 → ss + u.2.1 = h.2.1 → lv_has ls 2 [] → W p l e (rm_X0_isLattice (u9.1 - u.1) (u9.2.1 - u.2.1)) s m args below meth c H locs cc ss QQ (F0 m 10 ls [.int y2, .long y1, .long y0]) := by
    intro h y0 y1 y2 cc ss H locs ls hm hw hcc hss hl
    have hmo := mo_X0_isLattice_10  h y0 y1 y2 _ hm
    have sb_ : h.1 ≤ u9.1 := hmo.1
    have tb_ : h.2.1 ≤ u9.2.1 := hmo.2.1
    rw [m_X0_isLattice_10] at hm
    refine lv_iconst (v := 1) hx hb dX0_isLattice_10 (by decide) ?_
    refine lv_isub hx hb dX0_isLattice_11 ?_
    refine lv_i2l hx hb dX0_isLattice_12 rfl ?_
    obtain ⟨r1, er1, hm⟩ := bdE hm
    refine sci (va_runS (As := [.long y0, .long y1, .long (Int32.toInt64 (y2 - (1 : Int32)))]) (rest := []) ⟨hx, hb, hml, hown, hts⟩ (w_X0_isIn l er1) (cw_X0_isIn hts q297 ⟨Nat.le_of_ble_eq_true rfl, Nat.le_of_ble_eq_true rfl⟩) (pre_s _) rfl rfl hl.1 rfl (lv_room (Nat.le_of_ble_eq_true rfl)) dX0_isLattice_13 ⟨show cc + 0 ≤ u9.1 - u.1 by omega, show ss + 0 ≤ u9.2.1 - u.2.1 by omega⟩) ?_
    obtain ⟨g2, hm⟩ := gdE hm
    obtain ⟨er, eh⟩ := retE hm
    have ec : cc = u9.1 - u.1 := by rw [← eh]; omega
    have es : ss = u9.2.1 - u.2.1 := by rw [← eh]; omega
    rw [ec, es, ← hQ]
    exact W.zret (v := r1) hx hb hr (zb_nar g2) (fun t ht hW => ⟨⟨r1, h, rfl, ⟨er, eh⟩, ⟨by rw [ht]; exact hw.1, by rw [ht]; exact hw.2.1⟩⟩, hw.2.2.1.F ht⟩) hw.2.2.1.2.2 dX0_isLattice_16
  rw [m_X0_isLattice] at hm
  refine lv_iload_n hx hb dX0_isLattice_0 rfl (lv_at hl 1 rfl) ?_
  refine lv_i2l hx hb dX0_isLattice_1 rfl ?_
  refine lv_lconst (v := 0) hx hb dX0_isLattice_2 (by decide) ?_
  refine lv_aload_n hx hb dX0_isLattice_3 rfl (lv_at hl 0 rfl) ?_
  obtain ⟨a1, ea1, hm⟩ := bdE hm
  refine cg_get C hw (oR_E ea1) rfl in_X0 (by decide) q237 dX0_isLattice_4 ?_
  obtain ⟨g2, hm⟩ := gdE hm
  obtain ⟨r4, h3, er4, hm⟩ := bd2E hm
  have lh3 := mo_J2_size er4
  have ph3 : u.1 ≤ h3.1 := lh3.1
  have qh3 : u.2.1 ≤ h3.2.1 := lh3.2.1
  have hmo := mo_X0_isLattice_10   h3 (Int32.toInt64 x1) (0 : Int64) r4 _ hm
  have sh3 : h3.1 ≤ u9.1 := hmo.1
  have th3 : h3.2.1 ≤ u9.2.1 := hmo.2.1
  refine cg_calli hw lh3 (va_runV (As := []) (rest := [.long (0 : Int64), .long (Int32.toInt64 x1)]) ⟨hx, hb, hml, hown, hts⟩ (w_J2_size l er4) (cw_J2_size hts q880 ⟨Nat.le_of_ble_eq_true rfl, Nat.le_of_ble_eq_true rfl⟩) (cg_preV C hw g2 rfl _) rfl rfl hl.1 rfl (lv_room (Nat.le_of_ble_eq_true rfl)) dX0_isLattice_7 ⟨show cc + (h3.1 - u.1) ≤ u9.1 - u.1 by omega, show ss + (h3.2.1 - u.2.1) ≤ u9.2.1 - u.2.1 by omega⟩) (fun H locs hw => ?_)
  exact hB10 h3 (Int32.toInt64 x1) (0 : Int64) r4 _ _ _ _ _ hm hw (by omega) (by omega) (lv_sub hl [] rfl)
def m_X0_isAt_27 (f : Nat) (h : CH) (y0 : Int32) : Option (Int32 × CH) := gd (zb y0) <|
    some (y0, h)
theorem mo_X0_isAt_27 {f : Nat} : ∀ (h : CH) (y0 : Int32) (r : (Int32 × CH)), m_X0_isAt_27 f h y0 = some r → le2 h r.2 := by
  intro h y0 r hm
  rw [m_X0_isAt_27] at hm
  obtain ⟨g1, hm⟩ := gdE hm
  cases hm
  exact le2.rf
def m_X0_isAt_26 (f : Nat) (h : CH) : Option (Int32 × CH) := m_X0_isAt_27 f h (0 : Int32)
theorem mo_X0_isAt_26 {f : Nat} : ∀ (h : CH) (r : (Int32 × CH)), m_X0_isAt_26 f h = some r → le2 h r.2 := by
  intro h r hm
  rw [m_X0_isAt_26] at hm
  exact (mo_X0_isAt_27  h (0 : Int32) _ hm)
def m_X0_isAt_5 (f : Nat) (h : CH) (x2 : Int32) (x3 : Int32) (y0 : Int32) : Option (Int32 × CH) := if y0 = 0 then
    m_X0_isAt_26 f h
    else bd (m_X0_isSide f x2) fun r2 =>
    if r2 = 0 then
    m_X0_isAt_26 f h
    else bd (m_X0_isSide f x3) fun r4 =>
    if r4 = 0 then
    m_X0_isAt_26 f h
    else m_X0_isAt_27 f h (1 : Int32)
theorem mo_X0_isAt_5 {f : Nat} : ∀ (h : CH) (x2 : Int32) (x3 : Int32) (y0 : Int32) (r : (Int32 × CH)), m_X0_isAt_5 f h x2 x3 y0 = some r → le2 h r.2 := by
  intro h x2 x3 y0 r hm
  rw [m_X0_isAt_5] at hm
  by_cases c1 : y0 = 0
  · have hm := ifT hm c1
    exact (mo_X0_isAt_26  h _ hm)
  · have hm := ifF hm c1
    obtain ⟨r2, er2, hm⟩ := bdE hm
    by_cases c3 : r2 = 0
    · have hm := ifT hm c3
      exact (mo_X0_isAt_26  h _ hm)
    · have hm := ifF hm c3
      obtain ⟨r4, er4, hm⟩ := bdE hm
      by_cases c5 : r4 = 0
      · have hm := ifT hm c5
        exact (mo_X0_isAt_26  h _ hm)
      · have hm := ifF hm c5
        exact (mo_X0_isAt_27  h (1 : Int32) _ hm)
def m_X0_isAt (f : Nat) (u : CH) (x0 : Nat) (x1 : Int32) (x2 : Int32) (x3 : Int32) : Option (Int32 × CH) := gd (isC u x0 1) <|
    bd2 (m_X0_isLattice f u x0 x1) fun r3 h2 =>
    m_X0_isAt_5 f h2 x2 x3 r3
theorem mo_X0_isAt {f : Nat} {u : CH} {x0 : Nat} {x1 : Int32} {x2 : Int32} {x3 : Int32} {r0 : Int32} {u9 : CH} (hm : m_X0_isAt f u x0 x1 x2 x3 = some (r0, u9)) : le2 u u9 := by
  rw [m_X0_isAt] at hm
  obtain ⟨g1, hm⟩ := gdE hm
  obtain ⟨r3, h2, er3, hm⟩ := bd2E hm
  have lh2 := mo_X0_isLattice er3
  exact (lh2.tr (mo_X0_isAt_5  h2 x2 x3 r3 _ hm))
abbrev rm_X0_isAt (mc ms : Nat) : Room := { frames := 2, cells := mc, slots := ms, locals := 46 }
theorem cw_X0_isAt {R : Room} {s : State} {args : Array Value} {own : String} {idx mc ms : Nat} (hts : ∀ w ∈ lw_all, w.before args s = true) (hl : Cond.methodLink own idx yX0_isAt ∈ lw_all) (hR : 2 + 1 ≤ R.frames ∧ 8 + (4 + 11) + 46 ≤ R.locals) : CallW R s args own RX0 idx yX0_isAt cX0_isAt 4 (Option.some Jvm.ClassFile.FieldType.boolean) (ws_ yX0_isAt cX0_isAt 4 (Option.some Jvm.ClassFile.FieldType.boolean)) (rm_X0_isAt mc ms) mc ms 3 := cwV 3 hts (lw_V hl q890 qs15 q119 q891) rfl rfl rfl (by decide +kernel) hR
set_option maxHeartbeats 4000000 in
set_option maxRecDepth 100000 in
theorem w_X0_isAt (l : Launch) {D : va_G} {dA : Nat → ClassId} {A : Nat → Prop} {f : Nat} {u u9 : CH} {r0 : Int32} {x0 : Nat} {x1 : Int32} {x2 : Int32} {x3 : Int32} (hm : m_X0_isAt f u x0 x1 x2 x3 = some (r0, u9)) : Met l yX0_isAt (ws_ yX0_isAt cX0_isAt 4 (Option.some Jvm.ClassFile.FieldType.boolean)) (rm_X0_isAt (u9.1 - u.1) (u9.2.1 - u.2.1)) (va_Pc [.ref x0, .int x1, .int x2, .int x3] (CPre D dA A u)) (va_Qi (fun r u => r = r0 ∧ u = u9) (CPost D dA A) A) (u9.1 - u.1) (u9.2.1 - u.2.1) A := by
  refine Met.ofW (cc := cX0_isAt) (maxL := 4) (ret := (Option.some Jvm.ClassFile.FieldType.boolean)) (by decide) rfl ?_
  intro p e s m args below meth c s₁ B hml hv
  have hx := B.exec
  have hb := B.bytes
  have hr := B.returns
  have hts := atoms_spec (ws := (ws_ yX0_isAt cX0_isAt 4 (Option.some Jvm.ClassFile.FieldType.boolean))) B.pre
  have hts : ∀ w ∈ lw_all, w.before args s = true := fun w h => hts w (List.mem_cons_of_mem _ h)
  have hown : s.vm.findClass RX0 = some m.cls := findClass_of_methodNamed B.named
  have hlocks := B.notSynchronized
  obtain ⟨hav, hv⟩ := hv
  have C : CX p s m args c cX0_isAt RX0 D dA := ⟨hx, hb, hown, hts, hv.2⟩
  have hw : CW D dA A s u s.heap [] := hv.1
  generalize hQ : MQ below (va_Qi (fun r u => r = r0 ∧ u = u9) (CPost D dA A) A) args s (u9.1 - u.1) (u9.2.1 - u.2.1) A = QQ
  have hent := lg_entry_eq m [.ref x0, .int x1, .int x2, .int x3] 4
  rw [← hav] at hent
  rw [hent]
  have hl := lv_entry ([.ref x0, .int x1, .int x2, .int x3]) (n := 4) (Nat.le_of_ble_eq_true rfl)
  generalize (lg_sl ([.ref x0, .int x1, .int x2, .int x3]) ++ List.replicate (4 - (lg_sl ([.ref x0, .int x1, .int x2, .int x3])).length) Slot.unset).toArray = ls at hl ⊢
  have hl : lv_has ls 4 [(0, .ref x0), (1, .int x1), (2, .int x2), (3, .int x3)] := hl
  obtain ⟨cc, ecc⟩ : ∃ z : Nat, z = 0 := ⟨0, rfl⟩
  obtain ⟨ss, ess⟩ : ∃ z : Nat, z = 0 := ⟨0, rfl⟩
  have hcc : cc + u.1 = u.1 := by omega
  have hss : ss + u.2.1 = u.2.1 := by omega
  suffices hgo : W p l e (rm_X0_isAt (u9.1 - u.1) (u9.2.1 - u.2.1)) s m args below meth c s.heap [] cc ss QQ (F0 m 0 ls []) by rw [ecc, ess] at hgo; exact hgo
  have ⟨pu, qu, _, _⟩ := mo_X0_isAt hm
  have hB27 : ∀ (h : CH) (y0 : Int32) (cc ss : Nat) (H : Heap) (locs : List Loc) (ls : Array Slot), m_X0_isAt_27 f h y0 = some (r0, u9) → CW D dA A s h H locs → cc + u.1 = h.1 → ss + u.2.1 = h.2.1 → lv_has ls 4 [] → W p l e (rm_X0_isAt (u9.1 - u.1) (u9.2.1 - u.2.1)) s m args below meth c H locs cc ss QQ (F0 m 27 ls [.int y0]) := by
    intro h y0 cc ss H locs ls hm hw hcc hss hl
    have hmo := mo_X0_isAt_27  h y0 _ hm
    have sb_ : h.1 ≤ u9.1 := hmo.1
    have tb_ : h.2.1 ≤ u9.2.1 := hmo.2.1
    rw [m_X0_isAt_27] at hm
    obtain ⟨g1, hm⟩ := gdE hm
    obtain ⟨er, eh⟩ := retE hm
    have ec : cc = u9.1 - u.1 := by rw [← eh]; omega
    have es : ss = u9.2.1 - u.2.1 := by rw [← eh]; omega
    rw [ec, es, ← hQ]
    exact W.zret (v := y0) hx hb hr (zb_nar g1) (fun t ht hW => ⟨⟨y0, h, rfl, ⟨er, eh⟩, ⟨by rw [ht]; exact hw.1, by rw [ht]; exact hw.2.1⟩⟩, hw.2.2.1.F ht⟩) hw.2.2.1.2.2 dX0_isAt_27
  have hB26 : ∀ (h : CH) (cc ss : Nat) (H : Heap) (locs : List Loc) (ls : Array Slot), m_X0_isAt_26 f h = some (r0, u9) → CW D dA A s h H locs → cc + u.1 = h.1 → ss + u.2.1 = h.2.1 → lv_has ls 4 [] → W p l e (rm_X0_isAt (u9.1 - u.1) (u9.2.1 - u.2.1)) s m args below meth c H locs cc ss QQ (F0 m 26 ls []) := by
    intro h cc ss H locs ls hm hw hcc hss hl
    have hmo := mo_X0_isAt_26  h _ hm
    have sb_ : h.1 ≤ u9.1 := hmo.1
    have tb_ : h.2.1 ≤ u9.2.1 := hmo.2.1
    rw [m_X0_isAt_26] at hm
    refine lv_iconst (v := 0) hx hb dX0_isAt_26 (by decide) ?_
    exact hB27 h (0 : Int32) _ _ _ _ _ hm hw (by omega) (by omega) (lv_sub hl [] rfl)
  have hB5 : ∀ (h : CH) (x2 : Int32) (x3 : Int32) (y0 : Int32) (cc ss : Nat) (H : Heap) (locs : List Loc) (ls : Array Slot), m_X0_isAt_5 f h x2 x3 y0 = some (r0, u9) → CW D dA A s h H locs → cc + u.1 = h.1 → ss + u.2.1 = h.2.1 → lv_has ls 4 [(2, .int x2), (3, .int x3)] → W p l e (rm_X0_isAt (u9.1 - u.1) (u9.2.1 - u.2.1)) s m args below meth c H locs cc ss QQ (F0 m 5 ls [.int y0]) := by
    intro h x2 x3 y0 cc ss H locs ls hm hw hcc hss hl
    have hmo := mo_X0_isAt_5  h x2 x3 y0 _ hm
    have sb_ : h.1 ≤ u9.1 := hmo.1
    have tb_ : h.2.1 ≤ u9.2.1 := hmo.2.1
    rw [m_X0_isAt_5] at hm
    refine lv_if_eq (tgt := 26) hx hb dX0_isAt_5 (by decide) (fun c1 => ?_) (fun c1 => ?_)
    · have hm := ifT hm c1
      exact hB26 h _ _ _ _ _ hm hw (by omega) (by omega) (lv_sub hl [] rfl)
    · have hm := ifF hm c1
      refine lv_iload_n hx hb dX0_isAt_8 rfl (lv_at hl 0 rfl) ?_
      obtain ⟨r2, er2, hm⟩ := bdE hm
      refine sci (va_runS (As := [.int x2]) (rest := []) ⟨hx, hb, hml, hown, hts⟩ (w_X0_isSide l er2) (cw_X0_isSide hts q896 ⟨Nat.le_of_ble_eq_true rfl, Nat.le_of_ble_eq_true rfl⟩) (pre_s _) rfl rfl hl.1 rfl (lv_room (Nat.le_of_ble_eq_true rfl)) dX0_isAt_9 ⟨show cc + 0 ≤ u9.1 - u.1 by omega, show ss + 0 ≤ u9.2.1 - u.2.1 by omega⟩) ?_
      refine lv_if_eq (tgt := 26) hx hb dX0_isAt_12 (by decide) (fun c3 => ?_) (fun c3 => ?_)
      · have hm := ifT hm c3
        exact hB26 h _ _ _ _ _ hm hw (by omega) (by omega) (lv_sub hl [] rfl)
      · have hm := ifF hm c3
        refine lv_iload_n hx hb dX0_isAt_15 rfl (lv_at hl 1 rfl) ?_
        obtain ⟨r4, er4, hm⟩ := bdE hm
        refine sci (va_runS (As := [.int x3]) (rest := []) ⟨hx, hb, hml, hown, hts⟩ (w_X0_isSide l er4) (cw_X0_isSide hts q896 ⟨Nat.le_of_ble_eq_true rfl, Nat.le_of_ble_eq_true rfl⟩) (pre_s _) rfl rfl hl.1 rfl (lv_room (Nat.le_of_ble_eq_true rfl)) dX0_isAt_16 ⟨show cc + 0 ≤ u9.1 - u.1 by omega, show ss + 0 ≤ u9.2.1 - u.2.1 by omega⟩) ?_
        refine lv_if_eq (tgt := 26) hx hb dX0_isAt_19 (by decide) (fun c5 => ?_) (fun c5 => ?_)
        · have hm := ifT hm c5
          exact hB26 h _ _ _ _ _ hm hw (by omega) (by omega) (lv_sub hl [] rfl)
        · have hm := ifF hm c5
          refine lv_iconst (v := 1) hx hb dX0_isAt_22 (by decide) ?_
          refine lv_goto (tgt := 27) hx hb dX0_isAt_23 (by decide) ?_
          exact hB27 h (1 : Int32) _ _ _ _ _ hm hw (by omega) (by omega) (lv_sub hl [] rfl)
  rw [m_X0_isAt] at hm
  refine lv_aload_n hx hb dX0_isAt_0 rfl (lv_at hl 0 rfl) ?_
  refine lv_iload_n hx hb dX0_isAt_1 rfl (lv_at hl 1 rfl) ?_
  obtain ⟨g1, hm⟩ := gdE hm
  obtain ⟨r3, h2, er3, hm⟩ := bd2E hm
  have lh2 := mo_X0_isLattice er3
  have ph2 : u.1 ≤ h2.1 := lh2.1
  have qh2 : u.2.1 ≤ h2.2.1 := lh2.2.1
  have hmo := mo_X0_isAt_5   h2 x2 x3 r3 _ hm
  have sh2 : h2.1 ≤ u9.1 := hmo.1
  have th2 : h2.2.1 ≤ u9.2.1 := hmo.2.1
  refine cg_calli hw lh2 (va_runV (As := [.int x1]) (rest := []) ⟨hx, hb, hml, hown, hts⟩ (w_X0_isLattice l er3) (cw_X0_isLattice hts q892 ⟨Nat.le_of_ble_eq_true rfl, Nat.le_of_ble_eq_true rfl⟩) (cg_preV C hw g1 rfl _) rfl rfl hl.1 rfl (lv_room (Nat.le_of_ble_eq_true rfl)) dX0_isAt_2 ⟨show cc + (h2.1 - u.1) ≤ u9.1 - u.1 by omega, show ss + (h2.2.1 - u.2.1) ≤ u9.2.1 - u.2.1 by omega⟩) (fun H locs hw => ?_)
  exact hB5 h2 x2 x3 r3 _ _ _ _ _ hm hw (by omega) (by omega) (lv_sub hl [2, 3] rfl)
def m_X0_at_8 (f : Nat) (h : CH) (y0 : Nat) : Option (Nat × CH) := if isC h y0 6 = true then
    some (y0, h)
    else gd (isC h y0 7) <|
    some (y0, h)
theorem mo_X0_at_8 {f : Nat} : ∀ (h : CH) (y0 : Nat) (r : (Nat × CH)), m_X0_at_8 f h y0 = some r → le2 h r.2 := by
  intro h y0 r hm
  rw [m_X0_at_8] at hm
  by_cases c1 : isC h y0 6 = true
  · have hm := ifT hm c1
    cases hm
    exact le2.rf
  · have hm := ifF hm c1
    obtain ⟨g2, hm⟩ := gdE hm
    cases hm
    exact le2.rf
def m_X0_at (f : Nat) (u : CH) (x0 : Nat) (x1 : Int32) : Option (Nat × CH) := bd (oR u 1 0 x0) fun a1 =>
    gd (isC u a1 17) <|
    bd2 (m_J2_get f u a1 x1) fun a4 h3 =>
    m_X0_at_8 f h3 a4
theorem mo_X0_at {f : Nat} {u : CH} {x0 : Nat} {x1 : Int32} {r0 : Nat} {u9 : CH} (hm : m_X0_at f u x0 x1 = some (r0, u9)) : le2 u u9 := by
  rw [m_X0_at] at hm
  obtain ⟨a1, ea1, hm⟩ := bdE hm
  obtain ⟨g2, hm⟩ := gdE hm
  obtain ⟨a4, h3, ea4, hm⟩ := bd2E hm
  have lh3 := mo_J2_get ea4
  exact (lh3.tr (mo_X0_at_8  h3 a4 _ hm))
abbrev rm_X0_at (mc ms : Nat) : Room := { frames := 3, cells := mc, slots := ms, locals := 64 }
theorem cw_X0_at {R : Room} {s : State} {args : Array Value} {own : String} {idx mc ms : Nat} (hts : ∀ w ∈ lw_all, w.before args s = true) (hl : Cond.methodLink own idx yX0_at ∈ lw_all) (hR : 3 + 1 ≤ R.frames ∧ 8 + (2 + 11) + 64 ≤ R.locals) : CallW R s args own RX0 idx yX0_at cX0_at 2 (Option.some (Jvm.ClassFile.FieldType.object "CoincideBench$Lattice")) (ws_ yX0_at cX0_at 2 (Option.some (Jvm.ClassFile.FieldType.object "CoincideBench$Lattice"))) (rm_X0_at mc ms) mc ms 1 := cwV 1 hts (lw_V hl q902 qs17 q119 q903) rfl rfl rfl (by decide +kernel) hR
set_option maxHeartbeats 4000000 in
set_option maxRecDepth 100000 in
theorem w_X0_at (l : Launch) {D : va_G} {dA : Nat → ClassId} {A : Nat → Prop} {f : Nat} {u u9 : CH} {r0 : Nat} {x0 : Nat} {x1 : Int32} (hm : m_X0_at f u x0 x1 = some (r0, u9)) : Met l yX0_at (ws_ yX0_at cX0_at 2 (Option.some (Jvm.ClassFile.FieldType.object "CoincideBench$Lattice"))) (rm_X0_at (u9.1 - u.1) (u9.2.1 - u.2.1)) (va_Pc [.ref x0, .int x1] (CPre D dA A u)) (va_Qr (fun u => u = u9) (fun u r t => r = r0 ∧ CPost D dA A u t) A) (u9.1 - u.1) (u9.2.1 - u.2.1) A := by
  refine Met.ofW (cc := cX0_at) (maxL := 2) (ret := (Option.some (Jvm.ClassFile.FieldType.object "CoincideBench$Lattice"))) (by decide) rfl ?_
  intro p e s m args below meth c s₁ B hml hv
  have hx := B.exec
  have hb := B.bytes
  have hr := B.returns
  have hts := atoms_spec (ws := (ws_ yX0_at cX0_at 2 (Option.some (Jvm.ClassFile.FieldType.object "CoincideBench$Lattice")))) B.pre
  have hts : ∀ w ∈ lw_all, w.before args s = true := fun w h => hts w (List.mem_cons_of_mem _ h)
  have hown : s.vm.findClass RX0 = some m.cls := findClass_of_methodNamed B.named
  have hlocks := B.notSynchronized
  obtain ⟨hav, hv⟩ := hv
  have C : CX p s m args c cX0_at RX0 D dA := ⟨hx, hb, hown, hts, hv.2⟩
  have hw : CW D dA A s u s.heap [] := hv.1
  generalize hQ : MQ below (va_Qr (fun u => u = u9) (fun u r t => r = r0 ∧ CPost D dA A u t) A) args s (u9.1 - u.1) (u9.2.1 - u.2.1) A = QQ
  have hent := lg_entry_eq m [.ref x0, .int x1] 2
  rw [← hav] at hent
  rw [hent]
  have hl := lv_entry ([.ref x0, .int x1]) (n := 2) (Nat.le_of_ble_eq_true rfl)
  generalize (lg_sl ([.ref x0, .int x1]) ++ List.replicate (2 - (lg_sl ([.ref x0, .int x1])).length) Slot.unset).toArray = ls at hl ⊢
  have hl : lv_has ls 2 [(0, .ref x0), (1, .int x1)] := hl
  obtain ⟨cc, ecc⟩ : ∃ z : Nat, z = 0 := ⟨0, rfl⟩
  obtain ⟨ss, ess⟩ : ∃ z : Nat, z = 0 := ⟨0, rfl⟩
  have hcc : cc + u.1 = u.1 := by omega
  have hss : ss + u.2.1 = u.2.1 := by omega
  suffices hgo : W p l e (rm_X0_at (u9.1 - u.1) (u9.2.1 - u.2.1)) s m args below meth c s.heap [] cc ss QQ (F0 m 0 ls []) by rw [ecc, ess] at hgo; exact hgo
  have ⟨pu, qu, _, _⟩ := mo_X0_at hm
  have hB8 : ∀ (h : CH) (y0 : Nat) (cc ss : Nat) (H : Heap) (locs : List Loc) (ls : Array Slot), m_X0_at_8 f h y0 = some (r0, u9) → CW D dA A s h H locs → cc + u.1 = h.1 → ss + u.2.1 = h.2.1 → lv_has ls 2 [] → W p l e (rm_X0_at (u9.1 - u.1) (u9.2.1 - u.2.1)) s m args below meth c H locs cc ss QQ (F0 m 8 ls [.ref y0]) := by
    intro h y0 cc ss H locs ls hm hw hcc hss hl
    have hmo := mo_X0_at_8  h y0 _ hm
    have sb_ : h.1 ≤ u9.1 := hmo.1
    have tb_ : h.2.1 ≤ u9.2.1 := hmo.2.1
    rw [m_X0_at_8] at hm
    by_cases c1 : isC h y0 6 = true
    · have hm := ifT hm c1
      refine cg_castS C hw c1 rfl q882 dX0_at_8 ?_
      obtain ⟨er, eh⟩ := retE hm
      have ec : cc = u9.1 - u.1 := by rw [← eh]; omega
      have es : ss = u9.2.1 - u.2.1 := by rw [← eh]; omega
      rw [ec, es, ← hQ]
      exact W.aret (v := .ref y0) hx hb hr (Or.inl ⟨_, rfl⟩) (Or.inr ⟨_, rfl⟩) (fun t ht hW => ⟨⟨h, y0, rfl, eh, er, ⟨by rw [ht]; exact hw.1, by rw [ht]; exact hw.2.1⟩⟩, hw.2.2.1.F ht⟩) hw.2.2.1.2.2 dX0_at_11
    · have hm := ifF hm c1
      obtain ⟨g2, hm⟩ := gdE hm
      refine cg_castY C hw g2 rfl q882 (hw.2.2.2.2.1 _ (List.mem_of_getElem? (i := 77) rfl)) dX0_at_8 ?_
      obtain ⟨er, eh⟩ := retE hm
      have ec : cc = u9.1 - u.1 := by rw [← eh]; omega
      have es : ss = u9.2.1 - u.2.1 := by rw [← eh]; omega
      rw [ec, es, ← hQ]
      exact W.aret (v := .ref y0) hx hb hr (Or.inl ⟨_, rfl⟩) (Or.inr ⟨_, rfl⟩) (fun t ht hW => ⟨⟨h, y0, rfl, eh, er, ⟨by rw [ht]; exact hw.1, by rw [ht]; exact hw.2.1⟩⟩, hw.2.2.1.F ht⟩) hw.2.2.1.2.2 dX0_at_11
  rw [m_X0_at] at hm
  refine lv_aload_n hx hb dX0_at_0 rfl (lv_at hl 0 rfl) ?_
  obtain ⟨a1, ea1, hm⟩ := bdE hm
  refine cg_get C hw (oR_E ea1) rfl in_X0 (by decide) q237 dX0_at_1 ?_
  refine lv_iload_n hx hb dX0_at_4 rfl (lv_at hl 1 rfl) ?_
  obtain ⟨g2, hm⟩ := gdE hm
  obtain ⟨a4, h3, ea4, hm⟩ := bd2E hm
  have lh3 := mo_J2_get ea4
  have ph3 : u.1 ≤ h3.1 := lh3.1
  have qh3 : u.2.1 ≤ h3.2.1 := lh3.2.1
  have hmo := mo_X0_at_8   h3 a4 _ hm
  have sh3 : h3.1 ≤ u9.1 := hmo.1
  have th3 : h3.2.1 ≤ u9.2.1 := hmo.2.1
  refine cg_callr hw lh3 (va_runV (As := [.int x1]) (rest := []) ⟨hx, hb, hml, hown, hts⟩ (w_J2_get l ea4) (cw_J2_get hts q881 ⟨Nat.le_of_ble_eq_true rfl, Nat.le_of_ble_eq_true rfl⟩) (cg_preV C hw g2 rfl _) rfl rfl hl.1 rfl (lv_room (Nat.le_of_ble_eq_true rfl)) dX0_at_5 ⟨show cc + (h3.1 - u.1) ≤ u9.1 - u.1 by omega, show ss + (h3.2.1 - u.2.1) ≤ u9.2.1 - u.2.1 by omega⟩) (fun H locs hw => ?_)
  exact hB8 h3 a4 _ _ _ _ _ hm hw (by omega) (by omega) (lv_sub hl [] rfl)
def m_X6_rows (f : Nat) (u : CH) (x0 : Nat) : Option (Nat × CH) := bd (oR u 6 0 x0) fun a1 =>
    some (a1, u)
theorem mo_X6_rows {f : Nat} {u : CH} {x0 : Nat} {r0 : Nat} {u9 : CH} (hm : m_X6_rows f u x0 = some (r0, u9)) : le2 u u9 := by
  rw [m_X6_rows] at hm
  obtain ⟨a1, ea1, hm⟩ := bdE hm
  cases hm
  exact le2.rf
abbrev rm_X6_rows (mc ms : Nat) : Room := { frames := 0, cells := mc, slots := ms, locals := 0 }
theorem cw_X6_rows {R : Room} {s : State} {args : Array Value} {own : String} {idx mc ms : Nat} (hts : ∀ w ∈ lw_all, w.before args s = true) (hl : Cond.methodLink own idx yX6_rows ∈ lw_all) (hR : 0 + 1 ≤ R.frames ∧ 8 + (1 + 11) + 0 ≤ R.locals) : CallW R s args own RX6 idx yX6_rows cX6_rows 1 (Option.some (Jvm.ClassFile.FieldType.object "CoincideBench$Rows")) (ws_ yX6_rows cX6_rows 1 (Option.some (Jvm.ClassFile.FieldType.object "CoincideBench$Rows"))) (rm_X6_rows mc ms) mc ms 0 := cwV 0 hts (lw_V hl q905 q906 q143 q940) rfl rfl rfl (by decide +kernel) hR
set_option maxHeartbeats 4000000 in
set_option maxRecDepth 100000 in
theorem w_X6_rows (l : Launch) {D : va_G} {dA : Nat → ClassId} {A : Nat → Prop} {f : Nat} {u u9 : CH} {r0 : Nat} {x0 : Nat} (hm : m_X6_rows f u x0 = some (r0, u9)) : Met l yX6_rows (ws_ yX6_rows cX6_rows 1 (Option.some (Jvm.ClassFile.FieldType.object "CoincideBench$Rows"))) (rm_X6_rows (u9.1 - u.1) (u9.2.1 - u.2.1)) (va_Pc [.ref x0] (CPre D dA A u)) (va_Qr (fun u => u = u9) (fun u r t => r = r0 ∧ CPost D dA A u t) A) (u9.1 - u.1) (u9.2.1 - u.2.1) A := by
  refine Met.ofW (cc := cX6_rows) (maxL := 1) (ret := (Option.some (Jvm.ClassFile.FieldType.object "CoincideBench$Rows"))) (by decide) rfl ?_
  intro p e s m args below meth c s₁ B hml hv
  have hx := B.exec
  have hb := B.bytes
  have hr := B.returns
  have hts := atoms_spec (ws := (ws_ yX6_rows cX6_rows 1 (Option.some (Jvm.ClassFile.FieldType.object "CoincideBench$Rows")))) B.pre
  have hts : ∀ w ∈ lw_all, w.before args s = true := fun w h => hts w (List.mem_cons_of_mem _ h)
  have hown : s.vm.findClass RX6 = some m.cls := findClass_of_methodNamed B.named
  have hlocks := B.notSynchronized
  obtain ⟨hav, hv⟩ := hv
  have C : CX p s m args c cX6_rows RX6 D dA := ⟨hx, hb, hown, hts, hv.2⟩
  have hw : CW D dA A s u s.heap [] := hv.1
  generalize hQ : MQ below (va_Qr (fun u => u = u9) (fun u r t => r = r0 ∧ CPost D dA A u t) A) args s (u9.1 - u.1) (u9.2.1 - u.2.1) A = QQ
  have hent := lg_entry_eq m [.ref x0] 1
  rw [← hav] at hent
  rw [hent]
  have hl := lv_entry ([.ref x0]) (n := 1) (Nat.le_of_ble_eq_true rfl)
  generalize (lg_sl ([.ref x0]) ++ List.replicate (1 - (lg_sl ([.ref x0])).length) Slot.unset).toArray = ls at hl ⊢
  have hl : lv_has ls 1 [(0, .ref x0)] := hl
  obtain ⟨cc, ecc⟩ : ∃ z : Nat, z = 0 := ⟨0, rfl⟩
  obtain ⟨ss, ess⟩ : ∃ z : Nat, z = 0 := ⟨0, rfl⟩
  have hcc : cc + u.1 = u.1 := by omega
  have hss : ss + u.2.1 = u.2.1 := by omega
  suffices hgo : W p l e (rm_X6_rows (u9.1 - u.1) (u9.2.1 - u.2.1)) s m args below meth c s.heap [] cc ss QQ (F0 m 0 ls []) by rw [ecc, ess] at hgo; exact hgo
  have ⟨pu, qu, _, _⟩ := mo_X6_rows hm
  rw [m_X6_rows] at hm
  refine lv_aload_n hx hb dX6_rows_0 rfl (lv_at hl 0 rfl) ?_
  obtain ⟨a1, ea1, hm⟩ := bdE hm
  refine cg_get C hw (oR_E ea1) rfl in_X6 (by decide) q766 dX6_rows_1 ?_
  obtain ⟨er, eh⟩ := retE hm
  have ec : cc = u9.1 - u.1 := by rw [← eh]; omega
  have es : ss = u9.2.1 - u.2.1 := by rw [← eh]; omega
  rw [ec, es, ← hQ]
  exact W.aret (v := .ref a1) hx hb hr (Or.inl ⟨_, rfl⟩) (Or.inr ⟨_, rfl⟩) (fun t ht hW => ⟨⟨u, a1, rfl, eh, er, ⟨by rw [ht]; exact hw.1, by rw [ht]; exact hw.2.1⟩⟩, hw.2.2.1.F ht⟩) hw.2.2.1.2.2 dX6_rows_4
def m_X2_by_60 (f : Nat) (h : CH) (x3 : Nat) : Option (Nat × CH) := some (x3, h)
theorem mo_X2_by_60 {f : Nat} : ∀ (h : CH) (x3 : Nat) (r : (Nat × CH)), m_X2_by_60 f h x3 = some r → le2 h r.2 := by
  intro h x3 r hm
  rw [m_X2_by_60] at hm
  cases hm
  exact le2.rf
def m_X2_by_54 (f : Nat) (k11 : CH → Nat → Int64 → Nat → Int32 → Option (Nat × CH)) (h : CH) (x0 : Nat) (x1 : Int64) (x3 : Nat) (x4 : Int32) : Option (Nat × CH) := nmv ((x4 + 1) : Int32) fun v1 =>
    k11 h x0 x1 x3 v1
theorem mo_X2_by_54 {f : Nat} {k11 : CH → Nat → Int64 → Nat → Int32 → Option (Nat × CH)} (hk11 : ∀ (h : CH) (x0 : Nat) (x1 : Int64) (x3 : Nat) (x4 : Int32) (r : (Nat × CH)), k11 h x0 x1 x3 x4 = some r → le2 h r.2) : ∀ (h : CH) (x0 : Nat) (x1 : Int64) (x3 : Nat) (x4 : Int32) (r : (Nat × CH)), m_X2_by_54 f k11 h x0 x1 x3 x4 = some r → le2 h r.2 := by
  intro h x0 x1 x3 x4 r hm
  rw [m_X2_by_54] at hm
  obtain ⟨v1, ev1, hm⟩ := nmE hm
  exact (hk11 h x0 x1 x3 v1 _ hm)
def m_X2_by_20 (f : Nat) (k11 : CH → Nat → Int64 → Nat → Int32 → Option (Nat × CH)) : Nat → CH → Nat → Int64 → Nat → Int32 → Int32 → Option (Nat × CH)
  | 0, _, _, _, _, _, _ => none
  | n20 + 1, h, x0, x1, x3, x4, x5 => if (3 : Int32) ≤ x5 then
    m_X2_by_54 f k11 h x0 x1 x3 x4
    else bd (oR h 3 0 x3) fun a2 =>
    bd (aR h 4 a2 x4) fun a3 =>
    bd (oR h 3 0 x0) fun a4 =>
    bd (aR h 4 a4 x4) fun a5 =>
    bd (aL h 1 a5 x5) fun v6 =>
    gd (nzL x1) <|
    bd (uL h 1 a3 x5 (v6 / x1)) fun h8 =>
    nmv ((x5 + 1) : Int32) fun v9 =>
    m_X2_by_20 f k11 n20 h8 x0 x1 x3 x4 v9
theorem mo_X2_by_20 {f : Nat} {k11 : CH → Nat → Int64 → Nat → Int32 → Option (Nat × CH)} (hk11 : ∀ (h : CH) (x0 : Nat) (x1 : Int64) (x3 : Nat) (x4 : Int32) (r : (Nat × CH)), k11 h x0 x1 x3 x4 = some r → le2 h r.2) : ∀ (n20 : Nat) (h : CH) (x0 : Nat) (x1 : Int64) (x3 : Nat) (x4 : Int32) (x5 : Int32) (r : (Nat × CH)), m_X2_by_20 f k11 n20 h x0 x1 x3 x4 x5 = some r → le2 h r.2 := by
  intro n20
  induction n20 with
  | zero => intro h x0 x1 x3 x4 x5 r hm; rw [m_X2_by_20] at hm; exact noE hm
  | succ n20 ihm =>
    intro h x0 x1 x3 x4 x5 r hm
    rw [m_X2_by_20] at hm
    by_cases c1 : (3 : Int32) ≤ x5
    · have hm := ifT hm c1
      exact (mo_X2_by_54 hk11 h x0 x1 x3 x4 _ hm)
    · have hm := ifF hm c1
      obtain ⟨a2, ea2, hm⟩ := bdE hm
      obtain ⟨a3, ea3, hm⟩ := bdE hm
      obtain ⟨a4, ea4, hm⟩ := bdE hm
      obtain ⟨a5, ea5, hm⟩ := bdE hm
      obtain ⟨v6, ev6, hm⟩ := bdE hm
      obtain ⟨g7, hm⟩ := gdE hm
      obtain ⟨h8, eh8, hm⟩ := bdE hm
      have lh8 := uL_le eh8
      obtain ⟨v9, ev9, hm⟩ := nmE hm
      exact (lh8.tr (ihm h8 x0 x1 x3 x4 v9 _ hm))
def m_X2_by_11 (f : Nat) : Nat → CH → Nat → Int64 → Nat → Int32 → Option (Nat × CH)
  | 0, _, _, _, _, _ => none
  | n11 + 1, h, x0, x1, x3, x4 => if (3 : Int32) ≤ x4 then
    m_X2_by_60 f h x3
    else m_X2_by_20 f (m_X2_by_11 f n11) f h x0 x1 x3 x4 (0 : Int32)
theorem mo_X2_by_11 {f : Nat} : ∀ (n11 : Nat) (h : CH) (x0 : Nat) (x1 : Int64) (x3 : Nat) (x4 : Int32) (r : (Nat × CH)), m_X2_by_11 f n11 h x0 x1 x3 x4 = some r → le2 h r.2 := by
  intro n11
  induction n11 with
  | zero => intro h x0 x1 x3 x4 r hm; rw [m_X2_by_11] at hm; exact noE hm
  | succ n11 ihm =>
    intro h x0 x1 x3 x4 r hm
    rw [m_X2_by_11] at hm
    by_cases c1 : (3 : Int32) ≤ x4
    · have hm := ifT hm c1
      exact (mo_X2_by_60  h x3 _ hm)
    · have hm := ifF hm c1
      exact (mo_X2_by_20 ihm f h x0 x1 x3 x4 (0 : Int32) _ hm)
def m_X2_by_7 (f : Nat) (h : CH) (x0 : Nat) (x1 : Int64) (y0 : Nat) : Option (Nat × CH) := m_X2_by_11 f f h x0 x1 y0 (0 : Int32)
theorem mo_X2_by_7 {f : Nat} : ∀ (h : CH) (x0 : Nat) (x1 : Int64) (y0 : Nat) (r : (Nat × CH)), m_X2_by_7 f h x0 x1 y0 = some r → le2 h r.2 := by
  intro h x0 x1 y0 r hm
  rw [m_X2_by_7] at hm
  exact (mo_X2_by_11  f h x0 x1 y0 (0 : Int32) _ hm)
def m_X2_by_3 (f : Nat) (h : CH) (x0 : Nat) (x1 : Int64) (y0 : Nat) : Option (Nat × CH) := bd (m_X2_init f h y0) fun h1 =>
    m_X2_by_7 f h1 x0 x1 y0
theorem mo_X2_by_3 {f : Nat} : ∀ (h : CH) (x0 : Nat) (x1 : Int64) (y0 : Nat) (r : (Nat × CH)), m_X2_by_3 f h x0 x1 y0 = some r → le2 h r.2 := by
  intro h x0 x1 y0 r hm
  rw [m_X2_by_3] at hm
  obtain ⟨h1, eh1, hm⟩ := bdE hm
  have lh1 := mo_X2_init eh1
  exact (lh1.tr (mo_X2_by_7  h1 x0 x1 y0 _ hm))
def m_X2_by (f : Nat) (u : CH) (x0 : Nat) (x1 : Int64) : Option (Nat × CH) := nmv (cn u 1 (.inl (3, [.null]))) fun h1 =>
    nmv (u.1 : Nat) fun a2 =>
    m_X2_by_3 f h1 x0 x1 a2
theorem mo_X2_by {f : Nat} {u : CH} {x0 : Nat} {x1 : Int64} {r0 : Nat} {u9 : CH} (hm : m_X2_by f u x0 x1 = some (r0, u9)) : le2 u u9 := by
  rw [m_X2_by] at hm
  obtain ⟨h1, eh1, hm⟩ := nmE hm
  have lh1 := cn_le eh1
  obtain ⟨a2, ea2, hm⟩ := nmE hm
  exact (lh1.tr (mo_X2_by_3  h1 x0 x1 a2 _ hm))
abbrev rm_X2_by (mc ms : Nat) : Room := { frames := 2, cells := mc, slots := ms, locals := 40 }
theorem cw_X2_by {R : Room} {s : State} {args : Array Value} {own : String} {idx mc ms : Nat} (hts : ∀ w ∈ lw_all, w.before args s = true) (hl : Cond.methodLink own idx yX2_by ∈ lw_all) (hR : 2 + 1 ≤ R.frames ∧ 8 + (6 + 11) + 40 ≤ R.locals) : CallW R s args own RX2 idx yX2_by cX2_by 6 (Option.some (Jvm.ClassFile.FieldType.object "CoincideBench$Rows")) (ws_ yX2_by cX2_by 6 (Option.some (Jvm.ClassFile.FieldType.object "CoincideBench$Rows"))) (rm_X2_by mc ms) mc ms 1 := cwV 1 hts (lw_V hl q937 q938 q124 q939) rfl rfl rfl (by decide +kernel) hR
set_option maxHeartbeats 4000000 in
set_option maxRecDepth 100000 in
theorem w_X2_by (l : Launch) {D : va_G} {dA : Nat → ClassId} {A : Nat → Prop} {f : Nat} {u u9 : CH} {r0 : Nat} {x0 : Nat} {x1 : Int64} (hm : m_X2_by f u x0 x1 = some (r0, u9)) : Met l yX2_by (ws_ yX2_by cX2_by 6 (Option.some (Jvm.ClassFile.FieldType.object "CoincideBench$Rows"))) (rm_X2_by (u9.1 - u.1) (u9.2.1 - u.2.1)) (va_Pc [.ref x0, .long x1] (CPre D dA A u)) (va_Qr (fun u => u = u9) (fun u r t => r = r0 ∧ CPost D dA A u t) A) (u9.1 - u.1) (u9.2.1 - u.2.1) A := by
  refine Met.ofW (cc := cX2_by) (maxL := 6) (ret := (Option.some (Jvm.ClassFile.FieldType.object "CoincideBench$Rows"))) (by decide) rfl ?_
  intro p e s m args below meth c s₁ B hml hv
  have hx := B.exec
  have hb := B.bytes
  have hr := B.returns
  have hts := atoms_spec (ws := (ws_ yX2_by cX2_by 6 (Option.some (Jvm.ClassFile.FieldType.object "CoincideBench$Rows")))) B.pre
  have hts : ∀ w ∈ lw_all, w.before args s = true := fun w h => hts w (List.mem_cons_of_mem _ h)
  have hown : s.vm.findClass RX2 = some m.cls := findClass_of_methodNamed B.named
  have hlocks := B.notSynchronized
  obtain ⟨hav, hv⟩ := hv
  have C : CX p s m args c cX2_by RX2 D dA := ⟨hx, hb, hown, hts, hv.2⟩
  have hw : CW D dA A s u s.heap [] := hv.1
  generalize hQ : MQ below (va_Qr (fun u => u = u9) (fun u r t => r = r0 ∧ CPost D dA A u t) A) args s (u9.1 - u.1) (u9.2.1 - u.2.1) A = QQ
  have hent := lg_entry_eq m [.ref x0, .long x1] 6
  rw [← hav] at hent
  rw [hent]
  have hl := lv_entry ([.ref x0, .long x1]) (n := 6) (Nat.le_of_ble_eq_true rfl)
  generalize (lg_sl ([.ref x0, .long x1]) ++ List.replicate (6 - (lg_sl ([.ref x0, .long x1])).length) Slot.unset).toArray = ls at hl ⊢
  have hl : lv_has ls 6 [(0, .ref x0), (1, .long x1)] := hl
  obtain ⟨cc, ecc⟩ : ∃ z : Nat, z = 0 := ⟨0, rfl⟩
  obtain ⟨ss, ess⟩ : ∃ z : Nat, z = 0 := ⟨0, rfl⟩
  have hcc : cc + u.1 = u.1 := by omega
  have hss : ss + u.2.1 = u.2.1 := by omega
  suffices hgo : W p l e (rm_X2_by (u9.1 - u.1) (u9.2.1 - u.2.1)) s m args below meth c s.heap [] cc ss QQ (F0 m 0 ls []) by rw [ecc, ess] at hgo; exact hgo
  have ⟨pu, qu, _, _⟩ := mo_X2_by hm
  have hB60 : ∀ (h : CH) (x3 : Nat) (cc ss : Nat) (H : Heap) (locs : List Loc) (ls : Array Slot), m_X2_by_60 f h x3 = some (r0, u9) → CW D dA A s h H locs → cc + u.1 = h.1 → ss + u.2.1 = h.2.1 → lv_has ls 6 [(3, .ref x3)] → W p l e (rm_X2_by (u9.1 - u.1) (u9.2.1 - u.2.1)) s m args below meth c H locs cc ss QQ (F0 m 60 ls []) := by
    intro h x3 cc ss H locs ls hm hw hcc hss hl
    have hmo := mo_X2_by_60  h x3 _ hm
    have sb_ : h.1 ≤ u9.1 := hmo.1
    have tb_ : h.2.1 ≤ u9.2.1 := hmo.2.1
    rw [m_X2_by_60] at hm
    refine lv_aload_n hx hb dX2_by_60 rfl (lv_at hl 0 rfl) ?_
    obtain ⟨er, eh⟩ := retE hm
    have ec : cc = u9.1 - u.1 := by rw [← eh]; omega
    have es : ss = u9.2.1 - u.2.1 := by rw [← eh]; omega
    rw [ec, es, ← hQ]
    exact W.aret (v := .ref x3) hx hb hr (Or.inl ⟨_, rfl⟩) (Or.inr ⟨_, rfl⟩) (fun t ht hW => ⟨⟨h, x3, rfl, eh, er, ⟨by rw [ht]; exact hw.1, by rw [ht]; exact hw.2.1⟩⟩, hw.2.2.1.F ht⟩) hw.2.2.1.2.2 dX2_by_61
  have hB11 : ∀ (n11 : Nat), ∀ (h : CH) (x0 : Nat) (x1 : Int64) (x3 : Nat) (x4 : Int32) (cc ss : Nat) (H : Heap) (locs : List Loc) (ls : Array Slot), m_X2_by_11 f n11 h x0 x1 x3 x4 = some (r0, u9) → CW D dA A s h H locs → cc + u.1 = h.1 → ss + u.2.1 = h.2.1 → lv_has ls 6 [(0, .ref x0), (1, .long x1), (3, .ref x3), (4, .int x4)] → W p l e (rm_X2_by (u9.1 - u.1) (u9.2.1 - u.2.1)) s m args below meth c H locs cc ss QQ (F0 m 11 ls []) := by
    intro n11
    induction n11 with
    | zero => intro h x0 x1 x3 x4 cc ss H locs ls hm hw hcc hss hl; rw [m_X2_by_11] at hm; exact noE hm
    | succ n11 ih11 =>
      have hB54 : ∀ (h : CH) (x0 : Nat) (x1 : Int64) (x3 : Nat) (x4 : Int32) (cc ss : Nat) (H : Heap) (locs : List Loc) (ls : Array Slot), m_X2_by_54 f (m_X2_by_11 f n11) h x0 x1 x3 x4 = some (r0, u9) → CW D dA A s h H locs → cc + u.1 = h.1 → ss + u.2.1 = h.2.1 → lv_has ls 6 [(0, .ref x0), (1, .long x1), (3, .ref x3), (4, .int x4)] → W p l e (rm_X2_by (u9.1 - u.1) (u9.2.1 - u.2.1)) s m args below meth c H locs cc ss QQ (F0 m 54 ls []) := by
        intro h x0 x1 x3 x4 cc ss H locs ls hm hw hcc hss hl
        have hmo := mo_X2_by_54 (mo_X2_by_11 n11) h x0 x1 x3 x4 _ hm
        have sb_ : h.1 ≤ u9.1 := hmo.1
        have tb_ : h.2.1 ≤ u9.2.1 := hmo.2.1
        rw [m_X2_by_54] at hm
        obtain ⟨v1, ev1, hm⟩ := nmE hm
        refine lv_iinc (v := v1) (lv' := [(4, .int v1), (0, .ref x0), (1, .long x1), (3, .ref x3)]) hx hb dX2_by_54 hl (k := 3) rfl (by rw [ev1]; rfl) (by decide) rfl (fun ls hl => ?_)
        refine lv_goto (tgt := 11) hx hb dX2_by_57 (by decide) ?_
        exact ih11 h x0 x1 x3 v1 _ _ _ _ _ hm hw (by omega) (by omega) (lv_sub hl [1, 2, 3, 0] rfl)
      have hB20 : ∀ (n20 : Nat), ∀ (h : CH) (x0 : Nat) (x1 : Int64) (x3 : Nat) (x4 : Int32) (x5 : Int32) (cc ss : Nat) (H : Heap) (locs : List Loc) (ls : Array Slot), m_X2_by_20 f (m_X2_by_11 f n11) n20 h x0 x1 x3 x4 x5 = some (r0, u9) → CW D dA A s h H locs → cc + u.1 = h.1 → ss + u.2.1 = h.2.1 → lv_has ls 6 [(0, .ref x0), (1, .long x1), (3, .ref x3), (4, .int x4), (5, .int x5)] → W p l e (rm_X2_by (u9.1 - u.1) (u9.2.1 - u.2.1)) s m args below meth c H locs cc ss QQ (F0 m 20 ls []) := by
        intro n20
        induction n20 with
        | zero => intro h x0 x1 x3 x4 x5 cc ss H locs ls hm hw hcc hss hl; rw [m_X2_by_20] at hm; exact noE hm
        | succ n20 ih20 =>
          intro h x0 x1 x3 x4 x5 cc ss H locs ls hm hw hcc hss hl
          have hmo := mo_X2_by_20 (mo_X2_by_11 n11) (n20 + 1) h x0 x1 x3 x4 x5 _ hm
          have sb_ : h.1 ≤ u9.1 := hmo.1
          have tb_ : h.2.1 ≤ u9.2.1 := hmo.2.1
          rw [m_X2_by_20] at hm
          refine lv_iload hx hb dX2_by_20 (lv_at hl 4 rfl) ?_
          refine lv_iconst (v := 3) hx hb dX2_by_22 (by decide) ?_
          refine lv_icmp_ge (tgt := 54) hx hb dX2_by_23 (by decide) (fun c1 => ?_) (fun c1 => ?_)
          · have hm := ifT hm c1
            exact hB54 h x0 x1 x3 x4 _ _ _ _ _ hm hw (by omega) (by omega) (lv_sub hl [0, 1, 2, 3] rfl)
          · have hm := ifF hm c1
            refine lv_aload_n hx hb dX2_by_26 rfl (lv_at hl 2 rfl) ?_
            obtain ⟨a2, ea2, hm⟩ := bdE hm
            refine cg_get C hw (oR_E ea2) rfl in_X2 (by decide) q205 dX2_by_27 ?_
            refine lv_iload hx hb dX2_by_30 (lv_at hl 3 rfl) ?_
            obtain ⟨a3, ea3, hm⟩ := bdE hm
            refine cg_aaldA C hw (ty := .array .long) rfl rfl (aR_E ea3) dX2_by_32 ?_
            refine lv_iload hx hb dX2_by_33 (lv_at hl 4 rfl) ?_
            refine lv_aload_n hx hb dX2_by_35 rfl (lv_at hl 0 rfl) ?_
            obtain ⟨a4, ea4, hm⟩ := bdE hm
            refine cg_get C hw (oR_E ea4) rfl in_X2 (by decide) q205 dX2_by_36 ?_
            refine lv_iload hx hb dX2_by_39 (lv_at hl 3 rfl) ?_
            obtain ⟨a5, ea5, hm⟩ := bdE hm
            refine cg_aaldA C hw (ty := .array .long) rfl rfl (aR_E ea5) dX2_by_41 ?_
            refine lv_iload hx hb dX2_by_42 (lv_at hl 4 rfl) ?_
            obtain ⟨v6, ev6, hm⟩ := bdE hm
            refine cg_lald C hw ev6 dX2_by_44 ?_
            refine lv_lload_n hx hb dX2_by_45 rfl (lv_at hl 1 rfl) ?_
            obtain ⟨g7, hm⟩ := gdE hm
            refine lv_ldiv hx hb dX2_by_46 (nzL_ne g7) ?_
            obtain ⟨h8, eh8, hm⟩ := bdE hm
            refine cg_last C hw eh8 dX2_by_47 (fun H locs hw => ?_)
            have zh8 := uL_sz eh8
            obtain ⟨v9, ev9, hm⟩ := nmE hm
            refine lv_iinc (v := v9) (lv' := [(5, .int v9), (0, .ref x0), (1, .long x1), (3, .ref x3), (4, .int x4)]) hx hb dX2_by_48 hl (k := 4) rfl (by rw [ev9]; rfl) (by decide) rfl (fun ls hl => ?_)
            refine lv_goto (tgt := 20) hx hb dX2_by_51 (by decide) ?_
            exact ih20 h8 x0 x1 x3 x4 v9 _ _ _ _ _ hm hw (by omega) (by omega) (lv_sub hl [1, 2, 3, 4, 0] rfl)
      intro h x0 x1 x3 x4 cc ss H locs ls hm hw hcc hss hl
      have hmo := mo_X2_by_11  (n11 + 1) h x0 x1 x3 x4 _ hm
      have sb_ : h.1 ≤ u9.1 := hmo.1
      have tb_ : h.2.1 ≤ u9.2.1 := hmo.2.1
      rw [m_X2_by_11] at hm
      refine lv_iload hx hb dX2_by_11 (lv_at hl 3 rfl) ?_
      refine lv_iconst (v := 3) hx hb dX2_by_13 (by decide) ?_
      refine lv_icmp_ge (tgt := 60) hx hb dX2_by_14 (by decide) (fun c1 => ?_) (fun c1 => ?_)
      · have hm := ifT hm c1
        exact hB60 h x3 _ _ _ _ _ hm hw (by omega) (by omega) (lv_sub hl [2] rfl)
      · have hm := ifF hm c1
        refine lv_iconst (v := 0) hx hb dX2_by_17 (by decide) ?_
        refine lv_istore (lv' := [(5, .int (0 : Int32)), (0, .ref x0), (1, .long x1), (3, .ref x3), (4, .int x4)]) hx hb dX2_by_18 hl (by decide) rfl (fun ls hl => ?_)
        exact hB20 f h x0 x1 x3 x4 (0 : Int32) _ _ _ _ _ hm hw (by omega) (by omega) (lv_sub hl [1, 2, 3, 4, 0] rfl)
  have hB7 : ∀ (h : CH) (x0 : Nat) (x1 : Int64) (y0 : Nat) (cc ss : Nat) (H : Heap) (locs : List Loc) (ls : Array Slot), m_X2_by_7 f h x0 x1 y0 = some (r0, u9) → CW D dA A s h H locs → cc + u.1 = h.1 → ss + u.2.1 = h.2.1 → lv_has ls 6 [(0, .ref x0), (1, .long x1)] → W p l e (rm_X2_by (u9.1 - u.1) (u9.2.1 - u.2.1)) s m args below meth c H locs cc ss QQ (F0 m 7 ls [.ref y0]) := by
    intro h x0 x1 y0 cc ss H locs ls hm hw hcc hss hl
    have hmo := mo_X2_by_7  h x0 x1 y0 _ hm
    have sb_ : h.1 ≤ u9.1 := hmo.1
    have tb_ : h.2.1 ≤ u9.2.1 := hmo.2.1
    rw [m_X2_by_7] at hm
    refine lv_astore_n (lv' := [(3, .ref y0), (0, .ref x0), (1, .long x1)]) hx hb dX2_by_7 rfl hl (by decide) rfl (fun ls hl => ?_)
    refine lv_iconst (v := 0) hx hb dX2_by_8 (by decide) ?_
    refine lv_istore (lv' := [(4, .int (0 : Int32)), (3, .ref y0), (0, .ref x0), (1, .long x1)]) hx hb dX2_by_9 hl (by decide) rfl (fun ls hl => ?_)
    exact hB11 f h x0 x1 y0 (0 : Int32) _ _ _ _ _ hm hw (by omega) (by omega) (lv_sub hl [2, 3, 1, 0] rfl)
  have hB3 : ∀ (h : CH) (x0 : Nat) (x1 : Int64) (y0 : Nat) (cc ss : Nat) (H : Heap) (locs : List Loc) (ls : Array Slot), m_X2_by_3 f h x0 x1 y0 = some (r0, u9) → CW D dA A s h H locs → cc + u.1 = h.1 → ss + u.2.1 = h.2.1 → lv_has ls 6 [(0, .ref x0), (1, .long x1)] → W p l e (rm_X2_by (u9.1 - u.1) (u9.2.1 - u.2.1)) s m args below meth c H locs cc ss QQ (F0 m 3 ls [.ref y0]) := by
    intro h x0 x1 y0 cc ss H locs ls hm hw hcc hss hl
    have hmo := mo_X2_by_3  h x0 x1 y0 _ hm
    have sb_ : h.1 ≤ u9.1 := hmo.1
    have tb_ : h.2.1 ≤ u9.2.1 := hmo.2.1
    rw [m_X2_by_3] at hm
    refine lv_dup hx hb dX2_by_3 rfl ?_
    obtain ⟨h1, eh1, hm⟩ := bdE hm
    have lh1 := mo_X2_init eh1
    have ph1 : h.1 ≤ h1.1 := lh1.1
    have qh1 : h.2.1 ≤ h1.2.1 := lh1.2.1
    have hmo := mo_X2_by_7   h1 x0 x1 y0 _ hm
    have sh1 : h1.1 ≤ u9.1 := hmo.1
    have th1 : h1.2.1 ≤ u9.2.1 := hmo.2.1
    refine cg_callv hw lh1 (va_runI (As := []) (rest := [.ref y0]) ⟨hx, hb, hml, hown, hts⟩ (w_X2_init l eh1) (cw_X2_init hts q921 ⟨Nat.le_of_ble_eq_true rfl, Nat.le_of_ble_eq_true rfl⟩) (cg_preS C hw _) rfl rfl hl.1 rfl (lv_room (Nat.le_of_ble_eq_true rfl)) dX2_by_4 ⟨show cc + (h1.1 - h.1) ≤ u9.1 - u.1 by omega, show ss + (h1.2.1 - h.2.1) ≤ u9.2.1 - u.2.1 by omega⟩) (fun H locs hw => ?_)
    exact hB7 h1 x0 x1 y0 _ _ _ _ _ hm hw (by omega) (by omega) (lv_sub hl [0, 1] rfl)
  rw [m_X2_by] at hm
  obtain ⟨h1, eh1, hm⟩ := nmE hm
  obtain ⟨_, _, hmq⟩ := nmE hm
  have hmo := mo_X2_by_3   h1 x0 x1 _ _ hmq
  have sh1 : h1.1 ≤ u9.1 := hmo.1
  have th1 : h1.2.1 ≤ u9.2.1 := hmo.2.1
  have zh1 := cn_sz eh1
  refine cg_new (C0 := C) hw (ci := 3) (fs := [.null]) rfl in_X2 tyX2 tyX2_ok q920 q198 q124 (fun j hj => by rcases (show j = 0 by omega) with rfl <;> rfl) (show cc + 1 ≤ u9.1 - u.1 by omega) (show ss + 1 ≤ u9.2.1 - u.2.1 by omega) dX2_by_0 (fun H hw => ?_)
  rw [← eh1] at hw
  refine lv_topr (fun a2 ea2 => ?_)
  have hm := nmK hm ea2
  exact hB3 h1 x0 x1 a2 _ _ _ _ _ hm hw (by omega) (by omega) (lv_sub hl [0, 1] rfl)
def m_X2_common_44 (f : Nat) (h : CH) (x1 : Int64) : Option (Int64 × CH) := some (x1, h)
theorem mo_X2_common_44 {f : Nat} : ∀ (h : CH) (x1 : Int64) (r : (Int64 × CH)), m_X2_common_44 f h x1 = some r → le2 h r.2 := by
  intro h x1 r hm
  rw [m_X2_common_44] at hm
  cases hm
  exact le2.rf
def m_X2_common_38 (f : Nat) (k4 : CH → Nat → Int64 → Int32 → Option (Int64 × CH)) (h : CH) (x0 : Nat) (x1 : Int64) (x3 : Int32) : Option (Int64 × CH) := nmv ((x3 + 1) : Int32) fun v1 =>
    k4 h x0 x1 v1
theorem mo_X2_common_38 {f : Nat} {k4 : CH → Nat → Int64 → Int32 → Option (Int64 × CH)} (hk4 : ∀ (h : CH) (x0 : Nat) (x1 : Int64) (x3 : Int32) (r : (Int64 × CH)), k4 h x0 x1 x3 = some r → le2 h r.2) : ∀ (h : CH) (x0 : Nat) (x1 : Int64) (x3 : Int32) (r : (Int64 × CH)), m_X2_common_38 f k4 h x0 x1 x3 = some r → le2 h r.2 := by
  intro h x0 x1 x3 r hm
  rw [m_X2_common_38] at hm
  obtain ⟨v1, ev1, hm⟩ := nmE hm
  exact (hk4 h x0 x1 v1 _ hm)
def m_X2_common_12 (f : Nat) (k4 : CH → Nat → Int64 → Int32 → Option (Int64 × CH)) : Nat → CH → Nat → Int64 → Int32 → Int32 → Option (Int64 × CH)
  | 0, _, _, _, _, _ => none
  | n12 + 1, h, x0, x1, x3, x4 => if (3 : Int32) ≤ x4 then
    m_X2_common_38 f k4 h x0 x1 x3
    else bd (oR h 3 0 x0) fun a2 =>
    bd (aR h 4 a2 x3) fun a3 =>
    bd (aL h 1 a3 x4) fun v4 =>
    bd (m_X0_divisor f x1 v4) fun r5 =>
    nmv ((x4 + 1) : Int32) fun v6 =>
    m_X2_common_12 f k4 n12 h x0 r5 x3 v6
theorem mo_X2_common_12 {f : Nat} {k4 : CH → Nat → Int64 → Int32 → Option (Int64 × CH)} (hk4 : ∀ (h : CH) (x0 : Nat) (x1 : Int64) (x3 : Int32) (r : (Int64 × CH)), k4 h x0 x1 x3 = some r → le2 h r.2) : ∀ (n12 : Nat) (h : CH) (x0 : Nat) (x1 : Int64) (x3 : Int32) (x4 : Int32) (r : (Int64 × CH)), m_X2_common_12 f k4 n12 h x0 x1 x3 x4 = some r → le2 h r.2 := by
  intro n12
  induction n12 with
  | zero => intro h x0 x1 x3 x4 r hm; rw [m_X2_common_12] at hm; exact noE hm
  | succ n12 ihm =>
    intro h x0 x1 x3 x4 r hm
    rw [m_X2_common_12] at hm
    by_cases c1 : (3 : Int32) ≤ x4
    · have hm := ifT hm c1
      exact (mo_X2_common_38 hk4 h x0 x1 x3 _ hm)
    · have hm := ifF hm c1
      obtain ⟨a2, ea2, hm⟩ := bdE hm
      obtain ⟨a3, ea3, hm⟩ := bdE hm
      obtain ⟨v4, ev4, hm⟩ := bdE hm
      obtain ⟨r5, er5, hm⟩ := bdE hm
      obtain ⟨v6, ev6, hm⟩ := nmE hm
      exact (ihm h x0 r5 x3 v6 _ hm)
def m_X2_common_4 (f : Nat) : Nat → CH → Nat → Int64 → Int32 → Option (Int64 × CH)
  | 0, _, _, _, _ => none
  | n4 + 1, h, x0, x1, x3 => if (3 : Int32) ≤ x3 then
    m_X2_common_44 f h x1
    else m_X2_common_12 f (m_X2_common_4 f n4) f h x0 x1 x3 (0 : Int32)
theorem mo_X2_common_4 {f : Nat} : ∀ (n4 : Nat) (h : CH) (x0 : Nat) (x1 : Int64) (x3 : Int32) (r : (Int64 × CH)), m_X2_common_4 f n4 h x0 x1 x3 = some r → le2 h r.2 := by
  intro n4
  induction n4 with
  | zero => intro h x0 x1 x3 r hm; rw [m_X2_common_4] at hm; exact noE hm
  | succ n4 ihm =>
    intro h x0 x1 x3 r hm
    rw [m_X2_common_4] at hm
    by_cases c1 : (3 : Int32) ≤ x3
    · have hm := ifT hm c1
      exact (mo_X2_common_44  h x1 _ hm)
    · have hm := ifF hm c1
      exact (mo_X2_common_12 ihm f h x0 x1 x3 (0 : Int32) _ hm)
def m_X2_common (f : Nat) (u : CH) (x0 : Nat) : Option (Int64 × CH) := m_X2_common_4 f f u x0 (0 : Int64) (0 : Int32)
theorem mo_X2_common {f : Nat} {u : CH} {x0 : Nat} {r0 : Int64} {u9 : CH} (hm : m_X2_common f u x0 = some (r0, u9)) : le2 u u9 := by
  rw [m_X2_common] at hm
  exact (mo_X2_common_4  f u x0 (0 : Int64) (0 : Int32) _ hm)
abbrev rm_X2_common (mc ms : Nat) : Room := { frames := 102, cells := mc, slots := ms, locals := 4063 }
theorem cw_X2_common {R : Room} {s : State} {args : Array Value} {own : String} {idx mc ms : Nat} (hts : ∀ w ∈ lw_all, w.before args s = true) (hl : Cond.methodLink own idx yX2_common ∈ lw_all) (hR : 102 + 1 ≤ R.frames ∧ 8 + (5 + 11) + 4063 ≤ R.locals) : CallW R s args own RX2 idx yX2_common cX2_common 5 (Option.some Jvm.ClassFile.FieldType.long) (ws_ yX2_common cX2_common 5 (Option.some Jvm.ClassFile.FieldType.long)) (rm_X2_common mc ms) mc ms 0 := cwV 0 hts (lw_V hl q927 q928 q124 q929) rfl rfl rfl (by decide +kernel) hR
set_option maxHeartbeats 4000000 in
set_option maxRecDepth 100000 in
theorem w_X2_common (l : Launch) {D : va_G} {dA : Nat → ClassId} {A : Nat → Prop} {f : Nat} {u u9 : CH} {r0 : Int64} {x0 : Nat} (hm : m_X2_common f u x0 = some (r0, u9)) : Met l yX2_common (ws_ yX2_common cX2_common 5 (Option.some Jvm.ClassFile.FieldType.long)) (rm_X2_common (u9.1 - u.1) (u9.2.1 - u.2.1)) (va_Pc [.ref x0] (CPre D dA A u)) (va_Ql (fun r u => r = r0 ∧ u = u9) (CPost D dA A) A) (u9.1 - u.1) (u9.2.1 - u.2.1) A := by
  refine Met.ofW (cc := cX2_common) (maxL := 5) (ret := (Option.some Jvm.ClassFile.FieldType.long)) (by decide) rfl ?_
  intro p e s m args below meth c s₁ B hml hv
  have hx := B.exec
  have hb := B.bytes
  have hr := B.returns
  have hts := atoms_spec (ws := (ws_ yX2_common cX2_common 5 (Option.some Jvm.ClassFile.FieldType.long))) B.pre
  have hts : ∀ w ∈ lw_all, w.before args s = true := fun w h => hts w (List.mem_cons_of_mem _ h)
  have hown : s.vm.findClass RX2 = some m.cls := findClass_of_methodNamed B.named
  have hlocks := B.notSynchronized
  obtain ⟨hav, hv⟩ := hv
  have C : CX p s m args c cX2_common RX2 D dA := ⟨hx, hb, hown, hts, hv.2⟩
  have hw : CW D dA A s u s.heap [] := hv.1
  generalize hQ : MQ below (va_Ql (fun r u => r = r0 ∧ u = u9) (CPost D dA A) A) args s (u9.1 - u.1) (u9.2.1 - u.2.1) A = QQ
  have hent := lg_entry_eq m [.ref x0] 5
  rw [← hav] at hent
  rw [hent]
  have hl := lv_entry ([.ref x0]) (n := 5) (Nat.le_of_ble_eq_true rfl)
  generalize (lg_sl ([.ref x0]) ++ List.replicate (5 - (lg_sl ([.ref x0])).length) Slot.unset).toArray = ls at hl ⊢
  have hl : lv_has ls 5 [(0, .ref x0)] := hl
  obtain ⟨cc, ecc⟩ : ∃ z : Nat, z = 0 := ⟨0, rfl⟩
  obtain ⟨ss, ess⟩ : ∃ z : Nat, z = 0 := ⟨0, rfl⟩
  have hcc : cc + u.1 = u.1 := by omega
  have hss : ss + u.2.1 = u.2.1 := by omega
  suffices hgo : W p l e (rm_X2_common (u9.1 - u.1) (u9.2.1 - u.2.1)) s m args below meth c s.heap [] cc ss QQ (F0 m 0 ls []) by rw [ecc, ess] at hgo; exact hgo
  have ⟨pu, qu, _, _⟩ := mo_X2_common hm
  have hB44 : ∀ (h : CH) (x1 : Int64) (cc ss : Nat) (H : Heap) (locs : List Loc) (ls : Array Slot), m_X2_common_44 f h x1 = some (r0, u9) → CW D dA A s h H locs → cc + u.1 = h.1 → ss + u.2.1 = h.2.1 → lv_has ls 5 [(1, .long x1)] → W p l e (rm_X2_common (u9.1 - u.1) (u9.2.1 - u.2.1)) s m args below meth c H locs cc ss QQ (F0 m 44 ls []) := by
    intro h x1 cc ss H locs ls hm hw hcc hss hl
    have hmo := mo_X2_common_44  h x1 _ hm
    have sb_ : h.1 ≤ u9.1 := hmo.1
    have tb_ : h.2.1 ≤ u9.2.1 := hmo.2.1
    rw [m_X2_common_44] at hm
    refine lv_lload_n hx hb dX2_common_44 rfl (lv_at hl 0 rfl) ?_
    obtain ⟨er, eh⟩ := retE hm
    have ec : cc = u9.1 - u.1 := by rw [← eh]; omega
    have es : ss = u9.2.1 - u.2.1 := by rw [← eh]; omega
    rw [ec, es, ← hQ]
    exact W.lret (v := x1) hx hb hr (fun t ht hW => ⟨⟨x1, h, rfl, ⟨er, eh⟩, ⟨by rw [ht]; exact hw.1, by rw [ht]; exact hw.2.1⟩⟩, hw.2.2.1.F ht⟩) hw.2.2.1.2.2 dX2_common_45
  have hB4 : ∀ (n4 : Nat), ∀ (h : CH) (x0 : Nat) (x1 : Int64) (x3 : Int32) (cc ss : Nat) (H : Heap) (locs : List Loc) (ls : Array Slot), m_X2_common_4 f n4 h x0 x1 x3 = some (r0, u9) → CW D dA A s h H locs → cc + u.1 = h.1 → ss + u.2.1 = h.2.1 → lv_has ls 5 [(0, .ref x0), (1, .long x1), (3, .int x3)] → W p l e (rm_X2_common (u9.1 - u.1) (u9.2.1 - u.2.1)) s m args below meth c H locs cc ss QQ (F0 m 4 ls []) := by
    intro n4
    induction n4 with
    | zero => intro h x0 x1 x3 cc ss H locs ls hm hw hcc hss hl; rw [m_X2_common_4] at hm; exact noE hm
    | succ n4 ih4 =>
      have hB38 : ∀ (h : CH) (x0 : Nat) (x1 : Int64) (x3 : Int32) (cc ss : Nat) (H : Heap) (locs : List Loc) (ls : Array Slot), m_X2_common_38 f (m_X2_common_4 f n4) h x0 x1 x3 = some (r0, u9) → CW D dA A s h H locs → cc + u.1 = h.1 → ss + u.2.1 = h.2.1 → lv_has ls 5 [(0, .ref x0), (1, .long x1), (3, .int x3)] → W p l e (rm_X2_common (u9.1 - u.1) (u9.2.1 - u.2.1)) s m args below meth c H locs cc ss QQ (F0 m 38 ls []) := by
        intro h x0 x1 x3 cc ss H locs ls hm hw hcc hss hl
        have hmo := mo_X2_common_38 (mo_X2_common_4 n4) h x0 x1 x3 _ hm
        have sb_ : h.1 ≤ u9.1 := hmo.1
        have tb_ : h.2.1 ≤ u9.2.1 := hmo.2.1
        rw [m_X2_common_38] at hm
        obtain ⟨v1, ev1, hm⟩ := nmE hm
        refine lv_iinc (v := v1) (lv' := [(3, .int v1), (0, .ref x0), (1, .long x1)]) hx hb dX2_common_38 hl (k := 2) rfl (by rw [ev1]; rfl) (by decide) rfl (fun ls hl => ?_)
        refine lv_goto (tgt := 4) hx hb dX2_common_41 (by decide) ?_
        exact ih4 h x0 x1 v1 _ _ _ _ _ hm hw (by omega) (by omega) (lv_sub hl [1, 2, 0] rfl)
      have hB12 : ∀ (n12 : Nat), ∀ (h : CH) (x0 : Nat) (x1 : Int64) (x3 : Int32) (x4 : Int32) (cc ss : Nat) (H : Heap) (locs : List Loc) (ls : Array Slot), m_X2_common_12 f (m_X2_common_4 f n4) n12 h x0 x1 x3 x4 = some (r0, u9) → CW D dA A s h H locs → cc + u.1 = h.1 → ss + u.2.1 = h.2.1 → lv_has ls 5 [(0, .ref x0), (1, .long x1), (3, .int x3), (4, .int x4)] → W p l e (rm_X2_common (u9.1 - u.1) (u9.2.1 - u.2.1)) s m args below meth c H locs cc ss QQ (F0 m 12 ls []) := by
        intro n12
        induction n12 with
        | zero => intro h x0 x1 x3 x4 cc ss H locs ls hm hw hcc hss hl; rw [m_X2_common_12] at hm; exact noE hm
        | succ n12 ih12 =>
          intro h x0 x1 x3 x4 cc ss H locs ls hm hw hcc hss hl
          have hmo := mo_X2_common_12 (mo_X2_common_4 n4) (n12 + 1) h x0 x1 x3 x4 _ hm
          have sb_ : h.1 ≤ u9.1 := hmo.1
          have tb_ : h.2.1 ≤ u9.2.1 := hmo.2.1
          rw [m_X2_common_12] at hm
          refine lv_iload hx hb dX2_common_12 (lv_at hl 3 rfl) ?_
          refine lv_iconst (v := 3) hx hb dX2_common_14 (by decide) ?_
          refine lv_icmp_ge (tgt := 38) hx hb dX2_common_15 (by decide) (fun c1 => ?_) (fun c1 => ?_)
          · have hm := ifT hm c1
            exact hB38 h x0 x1 x3 _ _ _ _ _ hm hw (by omega) (by omega) (lv_sub hl [0, 1, 2] rfl)
          · have hm := ifF hm c1
            refine lv_lload_n hx hb dX2_common_18 rfl (lv_at hl 1 rfl) ?_
            refine lv_aload_n hx hb dX2_common_19 rfl (lv_at hl 0 rfl) ?_
            obtain ⟨a2, ea2, hm⟩ := bdE hm
            refine cg_get C hw (oR_E ea2) rfl in_X2 (by decide) q205 dX2_common_20 ?_
            refine lv_iload_n hx hb dX2_common_23 rfl (lv_at hl 2 rfl) ?_
            obtain ⟨a3, ea3, hm⟩ := bdE hm
            refine cg_aaldA C hw (ty := .array .long) rfl rfl (aR_E ea3) dX2_common_24 ?_
            refine lv_iload hx hb dX2_common_25 (lv_at hl 3 rfl) ?_
            obtain ⟨v4, ev4, hm⟩ := bdE hm
            refine cg_lald C hw ev4 dX2_common_27 ?_
            obtain ⟨r5, er5, hm⟩ := bdE hm
            refine scl (va_runSN (As := [.long x1, .long v4]) (rest := []) ⟨hx, hb, hml, hown, hts⟩ (w_X0_divisor l er5) ⟨va_cnB 2 hts (lw_meth q932) rfl rfl rfl (hw.2.2.2.2.1 _ (List.mem_of_getElem? (i := 59) rfl)) (hts _ q119) (by decide +kernel) ⟨Nat.le_of_ble_eq_true rfl, Nat.le_of_ble_eq_true rfl⟩, hts _ q931, trivial⟩ (pre_s _) rfl rfl hl.1 rfl (lv_room (Nat.le_of_ble_eq_true rfl)) dX2_common_28 ⟨show cc + 0 ≤ u9.1 - u.1 by omega, show ss + 0 ≤ u9.2.1 - u.2.1 by omega⟩) ?_
            refine lv_lstore_n (lv' := [(1, .long r5), (0, .ref x0), (3, .int x3), (4, .int x4)]) hx hb dX2_common_31 rfl hl (by decide) rfl (fun ls hl => ?_)
            obtain ⟨v6, ev6, hm⟩ := nmE hm
            refine lv_iinc (v := v6) (lv' := [(4, .int v6), (1, .long r5), (0, .ref x0), (3, .int x3)]) hx hb dX2_common_32 hl (k := 3) rfl (by rw [ev6]; rfl) (by decide) rfl (fun ls hl => ?_)
            refine lv_goto (tgt := 12) hx hb dX2_common_35 (by decide) ?_
            exact ih12 h x0 r5 x3 v6 _ _ _ _ _ hm hw (by omega) (by omega) (lv_sub hl [2, 1, 3, 0] rfl)
      intro h x0 x1 x3 cc ss H locs ls hm hw hcc hss hl
      have hmo := mo_X2_common_4  (n4 + 1) h x0 x1 x3 _ hm
      have sb_ : h.1 ≤ u9.1 := hmo.1
      have tb_ : h.2.1 ≤ u9.2.1 := hmo.2.1
      rw [m_X2_common_4] at hm
      refine lv_iload_n hx hb dX2_common_4 rfl (lv_at hl 2 rfl) ?_
      refine lv_iconst (v := 3) hx hb dX2_common_5 (by decide) ?_
      refine lv_icmp_ge (tgt := 44) hx hb dX2_common_6 (by decide) (fun c1 => ?_) (fun c1 => ?_)
      · have hm := ifT hm c1
        exact hB44 h x1 _ _ _ _ _ hm hw (by omega) (by omega) (lv_sub hl [1] rfl)
      · have hm := ifF hm c1
        refine lv_iconst (v := 0) hx hb dX2_common_9 (by decide) ?_
        refine lv_istore (lv' := [(4, .int (0 : Int32)), (0, .ref x0), (1, .long x1), (3, .int x3)]) hx hb dX2_common_10 hl (by decide) rfl (fun ls hl => ?_)
        exact hB12 f h x0 x1 x3 (0 : Int32) _ _ _ _ _ hm hw (by omega) (by omega) (lv_sub hl [1, 2, 3, 0] rfl)
  rw [m_X2_common] at hm
  refine lv_lconst (v := 0) hx hb dX2_common_0 (by decide) ?_
  refine lv_lstore_n (lv' := [(1, .long (0 : Int64)), (0, .ref x0)]) hx hb dX2_common_1 rfl hl (by decide) rfl (fun ls hl => ?_)
  refine lv_iconst (v := 0) hx hb dX2_common_2 (by decide) ?_
  refine lv_istore_n (lv' := [(3, .int (0 : Int32)), (1, .long (0 : Int64)), (0, .ref x0)]) hx hb dX2_common_3 rfl hl (by decide) rfl (fun ls hl => ?_)
  exact hB4 f u x0 (0 : Int64) (0 : Int32) _ _ _ _ _ hm hw (by omega) (by omega) (lv_sub hl [2, 1, 0] rfl)
def m_X2_times_83 (f : Nat) (h : CH) (x2 : Nat) : Option (Nat × CH) := some (x2, h)
theorem mo_X2_times_83 {f : Nat} : ∀ (h : CH) (x2 : Nat) (r : (Nat × CH)), m_X2_times_83 f h x2 = some r → le2 h r.2 := by
  intro h x2 r hm
  rw [m_X2_times_83] at hm
  cases hm
  exact le2.rf
def m_X2_times_77 (f : Nat) (k10 : CH → Nat → Nat → Nat → Int32 → Option (Nat × CH)) (h : CH) (x0 : Nat) (x1 : Nat) (x2 : Nat) (x3 : Int32) : Option (Nat × CH) := nmv ((x3 + 1) : Int32) fun v1 =>
    k10 h x0 x1 x2 v1
theorem mo_X2_times_77 {f : Nat} {k10 : CH → Nat → Nat → Nat → Int32 → Option (Nat × CH)} (hk10 : ∀ (h : CH) (x0 : Nat) (x1 : Nat) (x2 : Nat) (x3 : Int32) (r : (Nat × CH)), k10 h x0 x1 x2 x3 = some r → le2 h r.2) : ∀ (h : CH) (x0 : Nat) (x1 : Nat) (x2 : Nat) (x3 : Int32) (r : (Nat × CH)), m_X2_times_77 f k10 h x0 x1 x2 x3 = some r → le2 h r.2 := by
  intro h x0 x1 x2 x3 r hm
  rw [m_X2_times_77] at hm
  obtain ⟨v1, ev1, hm⟩ := nmE hm
  exact (hk10 h x0 x1 x2 v1 _ hm)
def m_X2_times_71 (f : Nat) (k10 : CH → Nat → Nat → Nat → Int32 → Option (Nat × CH)) (k18 : CH → Nat → Nat → Nat → Int32 → Int32 → Option (Nat × CH)) (h : CH) (x0 : Nat) (x1 : Nat) (x2 : Nat) (x3 : Int32) (x4 : Int32) : Option (Nat × CH) := nmv ((x4 + 1) : Int32) fun v1 =>
    k18 h x0 x1 x2 x3 v1
theorem mo_X2_times_71 {f : Nat} {k10 : CH → Nat → Nat → Nat → Int32 → Option (Nat × CH)} (hk10 : ∀ (h : CH) (x0 : Nat) (x1 : Nat) (x2 : Nat) (x3 : Int32) (r : (Nat × CH)), k10 h x0 x1 x2 x3 = some r → le2 h r.2) {k18 : CH → Nat → Nat → Nat → Int32 → Int32 → Option (Nat × CH)} (hk18 : ∀ (h : CH) (x0 : Nat) (x1 : Nat) (x2 : Nat) (x3 : Int32) (x4 : Int32) (r : (Nat × CH)), k18 h x0 x1 x2 x3 x4 = some r → le2 h r.2) : ∀ (h : CH) (x0 : Nat) (x1 : Nat) (x2 : Nat) (x3 : Int32) (x4 : Int32) (r : (Nat × CH)), m_X2_times_71 f k10 k18 h x0 x1 x2 x3 x4 = some r → le2 h r.2 := by
  intro h x0 x1 x2 x3 x4 r hm
  rw [m_X2_times_71] at hm
  obtain ⟨v1, ev1, hm⟩ := nmE hm
  exact (hk18 h x0 x1 x2 x3 v1 _ hm)
def m_X2_times_27 (f : Nat) (k10 : CH → Nat → Nat → Nat → Int32 → Option (Nat × CH)) (k18 : CH → Nat → Nat → Nat → Int32 → Int32 → Option (Nat × CH)) : Nat → CH → Nat → Nat → Nat → Int32 → Int32 → Int32 → Option (Nat × CH)
  | 0, _, _, _, _, _, _, _ => none
  | n27 + 1, h, x0, x1, x2, x3, x4, x5 => if (3 : Int32) ≤ x5 then
    m_X2_times_71 f k10 k18 h x0 x1 x2 x3 x4
    else bd (oR h 3 0 x2) fun a2 =>
    bd (aR h 4 a2 x3) fun a3 =>
    bd (aL h 1 a3 x4) fun v4 =>
    bd (oR h 3 0 x0) fun a5 =>
    bd (aR h 4 a5 x3) fun a6 =>
    bd (aL h 1 a6 x5) fun v7 =>
    bd (oR h 3 0 x1) fun a8 =>
    bd (aR h 4 a8 x5) fun a9 =>
    bd (aL h 1 a9 x4) fun v10 =>
    bd (uL h 1 a3 x4 (v4 + (v7 * v10))) fun h11 =>
    nmv ((x5 + 1) : Int32) fun v12 =>
    m_X2_times_27 f k10 k18 n27 h11 x0 x1 x2 x3 x4 v12
theorem mo_X2_times_27 {f : Nat} {k10 : CH → Nat → Nat → Nat → Int32 → Option (Nat × CH)} (hk10 : ∀ (h : CH) (x0 : Nat) (x1 : Nat) (x2 : Nat) (x3 : Int32) (r : (Nat × CH)), k10 h x0 x1 x2 x3 = some r → le2 h r.2) {k18 : CH → Nat → Nat → Nat → Int32 → Int32 → Option (Nat × CH)} (hk18 : ∀ (h : CH) (x0 : Nat) (x1 : Nat) (x2 : Nat) (x3 : Int32) (x4 : Int32) (r : (Nat × CH)), k18 h x0 x1 x2 x3 x4 = some r → le2 h r.2) : ∀ (n27 : Nat) (h : CH) (x0 : Nat) (x1 : Nat) (x2 : Nat) (x3 : Int32) (x4 : Int32) (x5 : Int32) (r : (Nat × CH)), m_X2_times_27 f k10 k18 n27 h x0 x1 x2 x3 x4 x5 = some r → le2 h r.2 := by
  intro n27
  induction n27 with
  | zero => intro h x0 x1 x2 x3 x4 x5 r hm; rw [m_X2_times_27] at hm; exact noE hm
  | succ n27 ihm =>
    intro h x0 x1 x2 x3 x4 x5 r hm
    rw [m_X2_times_27] at hm
    by_cases c1 : (3 : Int32) ≤ x5
    · have hm := ifT hm c1
      exact (mo_X2_times_71 hk10 hk18 h x0 x1 x2 x3 x4 _ hm)
    · have hm := ifF hm c1
      obtain ⟨a2, ea2, hm⟩ := bdE hm
      obtain ⟨a3, ea3, hm⟩ := bdE hm
      obtain ⟨v4, ev4, hm⟩ := bdE hm
      obtain ⟨a5, ea5, hm⟩ := bdE hm
      obtain ⟨a6, ea6, hm⟩ := bdE hm
      obtain ⟨v7, ev7, hm⟩ := bdE hm
      obtain ⟨a8, ea8, hm⟩ := bdE hm
      obtain ⟨a9, ea9, hm⟩ := bdE hm
      obtain ⟨v10, ev10, hm⟩ := bdE hm
      obtain ⟨h11, eh11, hm⟩ := bdE hm
      have lh11 := uL_le eh11
      obtain ⟨v12, ev12, hm⟩ := nmE hm
      exact (lh11.tr (ihm h11 x0 x1 x2 x3 x4 v12 _ hm))
def m_X2_times_18 (f : Nat) (k10 : CH → Nat → Nat → Nat → Int32 → Option (Nat × CH)) : Nat → CH → Nat → Nat → Nat → Int32 → Int32 → Option (Nat × CH)
  | 0, _, _, _, _, _, _ => none
  | n18 + 1, h, x0, x1, x2, x3, x4 => if (3 : Int32) ≤ x4 then
    m_X2_times_77 f k10 h x0 x1 x2 x3
    else m_X2_times_27 f k10 (m_X2_times_18 f k10 n18) f h x0 x1 x2 x3 x4 (0 : Int32)
theorem mo_X2_times_18 {f : Nat} {k10 : CH → Nat → Nat → Nat → Int32 → Option (Nat × CH)} (hk10 : ∀ (h : CH) (x0 : Nat) (x1 : Nat) (x2 : Nat) (x3 : Int32) (r : (Nat × CH)), k10 h x0 x1 x2 x3 = some r → le2 h r.2) : ∀ (n18 : Nat) (h : CH) (x0 : Nat) (x1 : Nat) (x2 : Nat) (x3 : Int32) (x4 : Int32) (r : (Nat × CH)), m_X2_times_18 f k10 n18 h x0 x1 x2 x3 x4 = some r → le2 h r.2 := by
  intro n18
  induction n18 with
  | zero => intro h x0 x1 x2 x3 x4 r hm; rw [m_X2_times_18] at hm; exact noE hm
  | succ n18 ihm =>
    intro h x0 x1 x2 x3 x4 r hm
    rw [m_X2_times_18] at hm
    by_cases c1 : (3 : Int32) ≤ x4
    · have hm := ifT hm c1
      exact (mo_X2_times_77 hk10 h x0 x1 x2 x3 _ hm)
    · have hm := ifF hm c1
      exact (mo_X2_times_27 hk10 ihm f h x0 x1 x2 x3 x4 (0 : Int32) _ hm)
def m_X2_times_10 (f : Nat) : Nat → CH → Nat → Nat → Nat → Int32 → Option (Nat × CH)
  | 0, _, _, _, _, _ => none
  | n10 + 1, h, x0, x1, x2, x3 => if (3 : Int32) ≤ x3 then
    m_X2_times_83 f h x2
    else m_X2_times_18 f (m_X2_times_10 f n10) f h x0 x1 x2 x3 (0 : Int32)
theorem mo_X2_times_10 {f : Nat} : ∀ (n10 : Nat) (h : CH) (x0 : Nat) (x1 : Nat) (x2 : Nat) (x3 : Int32) (r : (Nat × CH)), m_X2_times_10 f n10 h x0 x1 x2 x3 = some r → le2 h r.2 := by
  intro n10
  induction n10 with
  | zero => intro h x0 x1 x2 x3 r hm; rw [m_X2_times_10] at hm; exact noE hm
  | succ n10 ihm =>
    intro h x0 x1 x2 x3 r hm
    rw [m_X2_times_10] at hm
    by_cases c1 : (3 : Int32) ≤ x3
    · have hm := ifT hm c1
      exact (mo_X2_times_83  h x2 _ hm)
    · have hm := ifF hm c1
      exact (mo_X2_times_18 ihm f h x0 x1 x2 x3 (0 : Int32) _ hm)
def m_X2_times_7 (f : Nat) (h : CH) (x0 : Nat) (x1 : Nat) (y0 : Nat) : Option (Nat × CH) := m_X2_times_10 f f h x0 x1 y0 (0 : Int32)
theorem mo_X2_times_7 {f : Nat} : ∀ (h : CH) (x0 : Nat) (x1 : Nat) (y0 : Nat) (r : (Nat × CH)), m_X2_times_7 f h x0 x1 y0 = some r → le2 h r.2 := by
  intro h x0 x1 y0 r hm
  rw [m_X2_times_7] at hm
  exact (mo_X2_times_10  f h x0 x1 y0 (0 : Int32) _ hm)
def m_X2_times_3 (f : Nat) (h : CH) (x0 : Nat) (x1 : Nat) (y0 : Nat) : Option (Nat × CH) := bd (m_X2_init f h y0) fun h1 =>
    m_X2_times_7 f h1 x0 x1 y0
theorem mo_X2_times_3 {f : Nat} : ∀ (h : CH) (x0 : Nat) (x1 : Nat) (y0 : Nat) (r : (Nat × CH)), m_X2_times_3 f h x0 x1 y0 = some r → le2 h r.2 := by
  intro h x0 x1 y0 r hm
  rw [m_X2_times_3] at hm
  obtain ⟨h1, eh1, hm⟩ := bdE hm
  have lh1 := mo_X2_init eh1
  exact (lh1.tr (mo_X2_times_7  h1 x0 x1 y0 _ hm))
def m_X2_times (f : Nat) (u : CH) (x0 : Nat) (x1 : Nat) : Option (Nat × CH) := nmv (cn u 1 (.inl (3, [.null]))) fun h1 =>
    nmv (u.1 : Nat) fun a2 =>
    m_X2_times_3 f h1 x0 x1 a2
theorem mo_X2_times {f : Nat} {u : CH} {x0 : Nat} {x1 : Nat} {r0 : Nat} {u9 : CH} (hm : m_X2_times f u x0 x1 = some (r0, u9)) : le2 u u9 := by
  rw [m_X2_times] at hm
  obtain ⟨h1, eh1, hm⟩ := nmE hm
  have lh1 := cn_le eh1
  obtain ⟨a2, ea2, hm⟩ := nmE hm
  exact (lh1.tr (mo_X2_times_3  h1 x0 x1 a2 _ hm))
abbrev rm_X2_times (mc ms : Nat) : Room := { frames := 2, cells := mc, slots := ms, locals := 40 }
theorem cw_X2_times {R : Room} {s : State} {args : Array Value} {own : String} {idx mc ms : Nat} (hts : ∀ w ∈ lw_all, w.before args s = true) (hl : Cond.methodLink own idx yX2_times ∈ lw_all) (hR : 2 + 1 ≤ R.frames ∧ 8 + (6 + 11) + 40 ≤ R.locals) : CallW R s args own RX2 idx yX2_times cX2_times 6 (Option.some (Jvm.ClassFile.FieldType.object "CoincideBench$Rows")) (ws_ yX2_times cX2_times 6 (Option.some (Jvm.ClassFile.FieldType.object "CoincideBench$Rows"))) (rm_X2_times mc ms) mc ms 1 := cwV 1 hts (lw_V hl q917 q918 q124 q919) rfl rfl rfl (by decide +kernel) hR
set_option maxHeartbeats 4000000 in
set_option maxRecDepth 100000 in
theorem w_X2_times (l : Launch) {D : va_G} {dA : Nat → ClassId} {A : Nat → Prop} {f : Nat} {u u9 : CH} {r0 : Nat} {x0 : Nat} {x1 : Nat} (hm : m_X2_times f u x0 x1 = some (r0, u9)) : Met l yX2_times (ws_ yX2_times cX2_times 6 (Option.some (Jvm.ClassFile.FieldType.object "CoincideBench$Rows"))) (rm_X2_times (u9.1 - u.1) (u9.2.1 - u.2.1)) (va_Pc [.ref x0, .ref x1] (CPre D dA A u)) (va_Qr (fun u => u = u9) (fun u r t => r = r0 ∧ CPost D dA A u t) A) (u9.1 - u.1) (u9.2.1 - u.2.1) A := by
  refine Met.ofW (cc := cX2_times) (maxL := 6) (ret := (Option.some (Jvm.ClassFile.FieldType.object "CoincideBench$Rows"))) (by decide) rfl ?_
  intro p e s m args below meth c s₁ B hml hv
  have hx := B.exec
  have hb := B.bytes
  have hr := B.returns
  have hts := atoms_spec (ws := (ws_ yX2_times cX2_times 6 (Option.some (Jvm.ClassFile.FieldType.object "CoincideBench$Rows")))) B.pre
  have hts : ∀ w ∈ lw_all, w.before args s = true := fun w h => hts w (List.mem_cons_of_mem _ h)
  have hown : s.vm.findClass RX2 = some m.cls := findClass_of_methodNamed B.named
  have hlocks := B.notSynchronized
  obtain ⟨hav, hv⟩ := hv
  have C : CX p s m args c cX2_times RX2 D dA := ⟨hx, hb, hown, hts, hv.2⟩
  have hw : CW D dA A s u s.heap [] := hv.1
  generalize hQ : MQ below (va_Qr (fun u => u = u9) (fun u r t => r = r0 ∧ CPost D dA A u t) A) args s (u9.1 - u.1) (u9.2.1 - u.2.1) A = QQ
  have hent := lg_entry_eq m [.ref x0, .ref x1] 6
  rw [← hav] at hent
  rw [hent]
  have hl := lv_entry ([.ref x0, .ref x1]) (n := 6) (Nat.le_of_ble_eq_true rfl)
  generalize (lg_sl ([.ref x0, .ref x1]) ++ List.replicate (6 - (lg_sl ([.ref x0, .ref x1])).length) Slot.unset).toArray = ls at hl ⊢
  have hl : lv_has ls 6 [(0, .ref x0), (1, .ref x1)] := hl
  obtain ⟨cc, ecc⟩ : ∃ z : Nat, z = 0 := ⟨0, rfl⟩
  obtain ⟨ss, ess⟩ : ∃ z : Nat, z = 0 := ⟨0, rfl⟩
  have hcc : cc + u.1 = u.1 := by omega
  have hss : ss + u.2.1 = u.2.1 := by omega
  suffices hgo : W p l e (rm_X2_times (u9.1 - u.1) (u9.2.1 - u.2.1)) s m args below meth c s.heap [] cc ss QQ (F0 m 0 ls []) by rw [ecc, ess] at hgo; exact hgo
  have ⟨pu, qu, _, _⟩ := mo_X2_times hm
  have hB83 : ∀ (h : CH) (x2 : Nat) (cc ss : Nat) (H : Heap) (locs : List Loc) (ls : Array Slot), m_X2_times_83 f h x2 = some (r0, u9) → CW D dA A s h H locs → cc + u.1 = h.1 → ss + u.2.1 = h.2.1 → lv_has ls 6 [(2, .ref x2)] → W p l e (rm_X2_times (u9.1 - u.1) (u9.2.1 - u.2.1)) s m args below meth c H locs cc ss QQ (F0 m 83 ls []) := by
    intro h x2 cc ss H locs ls hm hw hcc hss hl
    have hmo := mo_X2_times_83  h x2 _ hm
    have sb_ : h.1 ≤ u9.1 := hmo.1
    have tb_ : h.2.1 ≤ u9.2.1 := hmo.2.1
    rw [m_X2_times_83] at hm
    refine lv_aload_n hx hb dX2_times_83 rfl (lv_at hl 0 rfl) ?_
    obtain ⟨er, eh⟩ := retE hm
    have ec : cc = u9.1 - u.1 := by rw [← eh]; omega
    have es : ss = u9.2.1 - u.2.1 := by rw [← eh]; omega
    rw [ec, es, ← hQ]
    exact W.aret (v := .ref x2) hx hb hr (Or.inl ⟨_, rfl⟩) (Or.inr ⟨_, rfl⟩) (fun t ht hW => ⟨⟨h, x2, rfl, eh, er, ⟨by rw [ht]; exact hw.1, by rw [ht]; exact hw.2.1⟩⟩, hw.2.2.1.F ht⟩) hw.2.2.1.2.2 dX2_times_84
  have hB10 : ∀ (n10 : Nat), ∀ (h : CH) (x0 : Nat) (x1 : Nat) (x2 : Nat) (x3 : Int32) (cc ss : Nat) (H : Heap) (locs : List Loc) (ls : Array Slot), m_X2_times_10 f n10 h x0 x1 x2 x3 = some (r0, u9) → CW D dA A s h H locs → cc + u.1 = h.1 → ss + u.2.1 = h.2.1 → lv_has ls 6 [(0, .ref x0), (1, .ref x1), (2, .ref x2), (3, .int x3)] → W p l e (rm_X2_times (u9.1 - u.1) (u9.2.1 - u.2.1)) s m args below meth c H locs cc ss QQ (F0 m 10 ls []) := by
    intro n10
    induction n10 with
    | zero => intro h x0 x1 x2 x3 cc ss H locs ls hm hw hcc hss hl; rw [m_X2_times_10] at hm; exact noE hm
    | succ n10 ih10 =>
      have hB77 : ∀ (h : CH) (x0 : Nat) (x1 : Nat) (x2 : Nat) (x3 : Int32) (cc ss : Nat) (H : Heap) (locs : List Loc) (ls : Array Slot), m_X2_times_77 f (m_X2_times_10 f n10) h x0 x1 x2 x3 = some (r0, u9) → CW D dA A s h H locs → cc + u.1 = h.1 → ss + u.2.1 = h.2.1 → lv_has ls 6 [(0, .ref x0), (1, .ref x1), (2, .ref x2), (3, .int x3)] → W p l e (rm_X2_times (u9.1 - u.1) (u9.2.1 - u.2.1)) s m args below meth c H locs cc ss QQ (F0 m 77 ls []) := by
        intro h x0 x1 x2 x3 cc ss H locs ls hm hw hcc hss hl
        have hmo := mo_X2_times_77 (mo_X2_times_10 n10) h x0 x1 x2 x3 _ hm
        have sb_ : h.1 ≤ u9.1 := hmo.1
        have tb_ : h.2.1 ≤ u9.2.1 := hmo.2.1
        rw [m_X2_times_77] at hm
        obtain ⟨v1, ev1, hm⟩ := nmE hm
        refine lv_iinc (v := v1) (lv' := [(3, .int v1), (0, .ref x0), (1, .ref x1), (2, .ref x2)]) hx hb dX2_times_77 hl (k := 3) rfl (by rw [ev1]; rfl) (by decide) rfl (fun ls hl => ?_)
        refine lv_goto (tgt := 10) hx hb dX2_times_80 (by decide) ?_
        exact ih10 h x0 x1 x2 v1 _ _ _ _ _ hm hw (by omega) (by omega) (lv_sub hl [1, 2, 3, 0] rfl)
      have hB18 : ∀ (n18 : Nat), ∀ (h : CH) (x0 : Nat) (x1 : Nat) (x2 : Nat) (x3 : Int32) (x4 : Int32) (cc ss : Nat) (H : Heap) (locs : List Loc) (ls : Array Slot), m_X2_times_18 f (m_X2_times_10 f n10) n18 h x0 x1 x2 x3 x4 = some (r0, u9) → CW D dA A s h H locs → cc + u.1 = h.1 → ss + u.2.1 = h.2.1 → lv_has ls 6 [(0, .ref x0), (1, .ref x1), (2, .ref x2), (3, .int x3), (4, .int x4)] → W p l e (rm_X2_times (u9.1 - u.1) (u9.2.1 - u.2.1)) s m args below meth c H locs cc ss QQ (F0 m 18 ls []) := by
        intro n18
        induction n18 with
        | zero => intro h x0 x1 x2 x3 x4 cc ss H locs ls hm hw hcc hss hl; rw [m_X2_times_18] at hm; exact noE hm
        | succ n18 ih18 =>
          have hB71 : ∀ (h : CH) (x0 : Nat) (x1 : Nat) (x2 : Nat) (x3 : Int32) (x4 : Int32) (cc ss : Nat) (H : Heap) (locs : List Loc) (ls : Array Slot), m_X2_times_71 f (m_X2_times_10 f n10) (m_X2_times_18 f (m_X2_times_10 f n10) n18) h x0 x1 x2 x3 x4 = some (r0, u9) → CW D dA A s h H locs → cc + u.1 = h.1 → ss + u.2.1 = h.2.1 → lv_has ls 6 [(0, .ref x0), (1, .ref x1), (2, .ref x2), (3, .int x3), (4, .int x4)] → W p l e (rm_X2_times (u9.1 - u.1) (u9.2.1 - u.2.1)) s m args below meth c H locs cc ss QQ (F0 m 71 ls []) := by
            intro h x0 x1 x2 x3 x4 cc ss H locs ls hm hw hcc hss hl
            have hmo := mo_X2_times_71 (mo_X2_times_10 n10) (mo_X2_times_18 (mo_X2_times_10 n10) n18) h x0 x1 x2 x3 x4 _ hm
            have sb_ : h.1 ≤ u9.1 := hmo.1
            have tb_ : h.2.1 ≤ u9.2.1 := hmo.2.1
            rw [m_X2_times_71] at hm
            obtain ⟨v1, ev1, hm⟩ := nmE hm
            refine lv_iinc (v := v1) (lv' := [(4, .int v1), (0, .ref x0), (1, .ref x1), (2, .ref x2), (3, .int x3)]) hx hb dX2_times_71 hl (k := 4) rfl (by rw [ev1]; rfl) (by decide) rfl (fun ls hl => ?_)
            refine lv_goto (tgt := 18) hx hb dX2_times_74 (by decide) ?_
            exact ih18 h x0 x1 x2 x3 v1 _ _ _ _ _ hm hw (by omega) (by omega) (lv_sub hl [1, 2, 3, 4, 0] rfl)
          have hB27 : ∀ (n27 : Nat), ∀ (h : CH) (x0 : Nat) (x1 : Nat) (x2 : Nat) (x3 : Int32) (x4 : Int32) (x5 : Int32) (cc ss : Nat) (H : Heap) (locs : List Loc) (ls : Array Slot), m_X2_times_27 f (m_X2_times_10 f n10) (m_X2_times_18 f (m_X2_times_10 f n10) n18) n27 h x0 x1 x2 x3 x4 x5 = some (r0, u9) → CW D dA A s h H locs → cc + u.1 = h.1 → ss + u.2.1 = h.2.1 → lv_has ls 6 [(0, .ref x0), (1, .ref x1), (2, .ref x2), (3, .int x3), (4, .int x4), (5, .int x5)] → W p l e (rm_X2_times (u9.1 - u.1) (u9.2.1 - u.2.1)) s m args below meth c H locs cc ss QQ (F0 m 27 ls []) := by
            intro n27
            induction n27 with
            | zero => intro h x0 x1 x2 x3 x4 x5 cc ss H locs ls hm hw hcc hss hl; rw [m_X2_times_27] at hm; exact noE hm
            | succ n27 ih27 =>
              intro h x0 x1 x2 x3 x4 x5 cc ss H locs ls hm hw hcc hss hl
              have hmo := mo_X2_times_27 (mo_X2_times_10 n10) (mo_X2_times_18 (mo_X2_times_10 n10) n18) (n27 + 1) h x0 x1 x2 x3 x4 x5 _ hm
              have sb_ : h.1 ≤ u9.1 := hmo.1
              have tb_ : h.2.1 ≤ u9.2.1 := hmo.2.1
              rw [m_X2_times_27] at hm
              refine lv_iload hx hb dX2_times_27 (lv_at hl 5 rfl) ?_
              refine lv_iconst (v := 3) hx hb dX2_times_29 (by decide) ?_
              refine lv_icmp_ge (tgt := 71) hx hb dX2_times_30 (by decide) (fun c1 => ?_) (fun c1 => ?_)
              · have hm := ifT hm c1
                exact hB71 h x0 x1 x2 x3 x4 _ _ _ _ _ hm hw (by omega) (by omega) (lv_sub hl [0, 1, 2, 3, 4] rfl)
              · have hm := ifF hm c1
                refine lv_aload_n hx hb dX2_times_33 rfl (lv_at hl 2 rfl) ?_
                obtain ⟨a2, ea2, hm⟩ := bdE hm
                refine cg_get C hw (oR_E ea2) rfl in_X2 (by decide) q205 dX2_times_34 ?_
                refine lv_iload_n hx hb dX2_times_37 rfl (lv_at hl 3 rfl) ?_
                obtain ⟨a3, ea3, hm⟩ := bdE hm
                refine cg_aaldA C hw (ty := .array .long) rfl rfl (aR_E ea3) dX2_times_38 ?_
                refine lv_iload hx hb dX2_times_39 (lv_at hl 4 rfl) ?_
                refine lv_dup2_11 hx hb dX2_times_41 rfl rfl ?_
                obtain ⟨v4, ev4, hm⟩ := bdE hm
                refine cg_lald C hw ev4 dX2_times_42 ?_
                refine lv_aload_n hx hb dX2_times_43 rfl (lv_at hl 0 rfl) ?_
                obtain ⟨a5, ea5, hm⟩ := bdE hm
                refine cg_get C hw (oR_E ea5) rfl in_X2 (by decide) q205 dX2_times_44 ?_
                refine lv_iload_n hx hb dX2_times_47 rfl (lv_at hl 3 rfl) ?_
                obtain ⟨a6, ea6, hm⟩ := bdE hm
                refine cg_aaldA C hw (ty := .array .long) rfl rfl (aR_E ea6) dX2_times_48 ?_
                refine lv_iload hx hb dX2_times_49 (lv_at hl 5 rfl) ?_
                obtain ⟨v7, ev7, hm⟩ := bdE hm
                refine cg_lald C hw ev7 dX2_times_51 ?_
                refine lv_aload_n hx hb dX2_times_52 rfl (lv_at hl 1 rfl) ?_
                obtain ⟨a8, ea8, hm⟩ := bdE hm
                refine cg_get C hw (oR_E ea8) rfl in_X2 (by decide) q205 dX2_times_53 ?_
                refine lv_iload hx hb dX2_times_56 (lv_at hl 5 rfl) ?_
                obtain ⟨a9, ea9, hm⟩ := bdE hm
                refine cg_aaldA C hw (ty := .array .long) rfl rfl (aR_E ea9) dX2_times_58 ?_
                refine lv_iload hx hb dX2_times_59 (lv_at hl 4 rfl) ?_
                obtain ⟨v10, ev10, hm⟩ := bdE hm
                refine cg_lald C hw ev10 dX2_times_61 ?_
                refine lv_lmul hx hb dX2_times_62 ?_
                refine lv_ladd hx hb dX2_times_63 ?_
                obtain ⟨h11, eh11, hm⟩ := bdE hm
                refine cg_last C hw eh11 dX2_times_64 (fun H locs hw => ?_)
                have zh11 := uL_sz eh11
                obtain ⟨v12, ev12, hm⟩ := nmE hm
                refine lv_iinc (v := v12) (lv' := [(5, .int v12), (0, .ref x0), (1, .ref x1), (2, .ref x2), (3, .int x3), (4, .int x4)]) hx hb dX2_times_65 hl (k := 5) rfl (by rw [ev12]; rfl) (by decide) rfl (fun ls hl => ?_)
                refine lv_goto (tgt := 27) hx hb dX2_times_68 (by decide) ?_
                exact ih27 h11 x0 x1 x2 x3 x4 v12 _ _ _ _ _ hm hw (by omega) (by omega) (lv_sub hl [1, 2, 3, 4, 5, 0] rfl)
          intro h x0 x1 x2 x3 x4 cc ss H locs ls hm hw hcc hss hl
          have hmo := mo_X2_times_18 (mo_X2_times_10 n10) (n18 + 1) h x0 x1 x2 x3 x4 _ hm
          have sb_ : h.1 ≤ u9.1 := hmo.1
          have tb_ : h.2.1 ≤ u9.2.1 := hmo.2.1
          rw [m_X2_times_18] at hm
          refine lv_iload hx hb dX2_times_18 (lv_at hl 4 rfl) ?_
          refine lv_iconst (v := 3) hx hb dX2_times_20 (by decide) ?_
          refine lv_icmp_ge (tgt := 77) hx hb dX2_times_21 (by decide) (fun c1 => ?_) (fun c1 => ?_)
          · have hm := ifT hm c1
            exact hB77 h x0 x1 x2 x3 _ _ _ _ _ hm hw (by omega) (by omega) (lv_sub hl [0, 1, 2, 3] rfl)
          · have hm := ifF hm c1
            refine lv_iconst (v := 0) hx hb dX2_times_24 (by decide) ?_
            refine lv_istore (lv' := [(5, .int (0 : Int32)), (0, .ref x0), (1, .ref x1), (2, .ref x2), (3, .int x3), (4, .int x4)]) hx hb dX2_times_25 hl (by decide) rfl (fun ls hl => ?_)
            exact hB27 f h x0 x1 x2 x3 x4 (0 : Int32) _ _ _ _ _ hm hw (by omega) (by omega) (lv_sub hl [1, 2, 3, 4, 5, 0] rfl)
      intro h x0 x1 x2 x3 cc ss H locs ls hm hw hcc hss hl
      have hmo := mo_X2_times_10  (n10 + 1) h x0 x1 x2 x3 _ hm
      have sb_ : h.1 ≤ u9.1 := hmo.1
      have tb_ : h.2.1 ≤ u9.2.1 := hmo.2.1
      rw [m_X2_times_10] at hm
      refine lv_iload_n hx hb dX2_times_10 rfl (lv_at hl 3 rfl) ?_
      refine lv_iconst (v := 3) hx hb dX2_times_11 (by decide) ?_
      refine lv_icmp_ge (tgt := 83) hx hb dX2_times_12 (by decide) (fun c1 => ?_) (fun c1 => ?_)
      · have hm := ifT hm c1
        exact hB83 h x2 _ _ _ _ _ hm hw (by omega) (by omega) (lv_sub hl [2] rfl)
      · have hm := ifF hm c1
        refine lv_iconst (v := 0) hx hb dX2_times_15 (by decide) ?_
        refine lv_istore (lv' := [(4, .int (0 : Int32)), (0, .ref x0), (1, .ref x1), (2, .ref x2), (3, .int x3)]) hx hb dX2_times_16 hl (by decide) rfl (fun ls hl => ?_)
        exact hB18 f h x0 x1 x2 x3 (0 : Int32) _ _ _ _ _ hm hw (by omega) (by omega) (lv_sub hl [1, 2, 3, 4, 0] rfl)
  have hB7 : ∀ (h : CH) (x0 : Nat) (x1 : Nat) (y0 : Nat) (cc ss : Nat) (H : Heap) (locs : List Loc) (ls : Array Slot), m_X2_times_7 f h x0 x1 y0 = some (r0, u9) → CW D dA A s h H locs → cc + u.1 = h.1 → ss + u.2.1 = h.2.1 → lv_has ls 6 [(0, .ref x0), (1, .ref x1)] → W p l e (rm_X2_times (u9.1 - u.1) (u9.2.1 - u.2.1)) s m args below meth c H locs cc ss QQ (F0 m 7 ls [.ref y0]) := by
    intro h x0 x1 y0 cc ss H locs ls hm hw hcc hss hl
    have hmo := mo_X2_times_7  h x0 x1 y0 _ hm
    have sb_ : h.1 ≤ u9.1 := hmo.1
    have tb_ : h.2.1 ≤ u9.2.1 := hmo.2.1
    rw [m_X2_times_7] at hm
    refine lv_astore_n (lv' := [(2, .ref y0), (0, .ref x0), (1, .ref x1)]) hx hb dX2_times_7 rfl hl (by decide) rfl (fun ls hl => ?_)
    refine lv_iconst (v := 0) hx hb dX2_times_8 (by decide) ?_
    refine lv_istore_n (lv' := [(3, .int (0 : Int32)), (2, .ref y0), (0, .ref x0), (1, .ref x1)]) hx hb dX2_times_9 rfl hl (by decide) rfl (fun ls hl => ?_)
    exact hB10 f h x0 x1 y0 (0 : Int32) _ _ _ _ _ hm hw (by omega) (by omega) (lv_sub hl [2, 3, 1, 0] rfl)
  have hB3 : ∀ (h : CH) (x0 : Nat) (x1 : Nat) (y0 : Nat) (cc ss : Nat) (H : Heap) (locs : List Loc) (ls : Array Slot), m_X2_times_3 f h x0 x1 y0 = some (r0, u9) → CW D dA A s h H locs → cc + u.1 = h.1 → ss + u.2.1 = h.2.1 → lv_has ls 6 [(0, .ref x0), (1, .ref x1)] → W p l e (rm_X2_times (u9.1 - u.1) (u9.2.1 - u.2.1)) s m args below meth c H locs cc ss QQ (F0 m 3 ls [.ref y0]) := by
    intro h x0 x1 y0 cc ss H locs ls hm hw hcc hss hl
    have hmo := mo_X2_times_3  h x0 x1 y0 _ hm
    have sb_ : h.1 ≤ u9.1 := hmo.1
    have tb_ : h.2.1 ≤ u9.2.1 := hmo.2.1
    rw [m_X2_times_3] at hm
    refine lv_dup hx hb dX2_times_3 rfl ?_
    obtain ⟨h1, eh1, hm⟩ := bdE hm
    have lh1 := mo_X2_init eh1
    have ph1 : h.1 ≤ h1.1 := lh1.1
    have qh1 : h.2.1 ≤ h1.2.1 := lh1.2.1
    have hmo := mo_X2_times_7   h1 x0 x1 y0 _ hm
    have sh1 : h1.1 ≤ u9.1 := hmo.1
    have th1 : h1.2.1 ≤ u9.2.1 := hmo.2.1
    refine cg_callv hw lh1 (va_runI (As := []) (rest := [.ref y0]) ⟨hx, hb, hml, hown, hts⟩ (w_X2_init l eh1) (cw_X2_init hts q921 ⟨Nat.le_of_ble_eq_true rfl, Nat.le_of_ble_eq_true rfl⟩) (cg_preS C hw _) rfl rfl hl.1 rfl (lv_room (Nat.le_of_ble_eq_true rfl)) dX2_times_4 ⟨show cc + (h1.1 - h.1) ≤ u9.1 - u.1 by omega, show ss + (h1.2.1 - h.2.1) ≤ u9.2.1 - u.2.1 by omega⟩) (fun H locs hw => ?_)
    exact hB7 h1 x0 x1 y0 _ _ _ _ _ hm hw (by omega) (by omega) (lv_sub hl [0, 1] rfl)
  rw [m_X2_times] at hm
  obtain ⟨h1, eh1, hm⟩ := nmE hm
  obtain ⟨_, _, hmq⟩ := nmE hm
  have hmo := mo_X2_times_3   h1 x0 x1 _ _ hmq
  have sh1 : h1.1 ≤ u9.1 := hmo.1
  have th1 : h1.2.1 ≤ u9.2.1 := hmo.2.1
  have zh1 := cn_sz eh1
  refine cg_new (C0 := C) hw (ci := 3) (fs := [.null]) rfl in_X2 tyX2 tyX2_ok q920 q198 q124 (fun j hj => by rcases (show j = 0 by omega) with rfl <;> rfl) (show cc + 1 ≤ u9.1 - u.1 by omega) (show ss + 1 ≤ u9.2.1 - u.2.1 by omega) dX2_times_0 (fun H hw => ?_)
  rw [← eh1] at hw
  refine lv_topr (fun a2 ea2 => ?_)
  have hm := nmK hm ea2
  exact hB3 h1 x0 x1 a2 _ _ _ _ _ hm hw (by omega) (by omega) (lv_sub hl [0, 1] rfl)
def m_X7_whole_14 (f : Nat) (h : CH) (y0 : Nat) : Option (Nat × CH) := some (y0, h)
theorem mo_X7_whole_14 {f : Nat} : ∀ (h : CH) (y0 : Nat) (r : (Nat × CH)), m_X7_whole_14 f h y0 = some r → le2 h r.2 := by
  intro h y0 r hm
  rw [m_X7_whole_14] at hm
  cases hm
  exact le2.rf
def m_X7_whole_7 (f : Nat) (h : CH) (x0 : Nat) (y0 : Nat) : Option (Nat × CH) := bd (oR h 7 2 x0) fun a1 =>
    gd (isC h y0 3) <|
    bd2 (m_X2_times f h y0 a1) fun a4 h3 =>
    m_X7_whole_14 f h3 a4
theorem mo_X7_whole_7 {f : Nat} : ∀ (h : CH) (x0 : Nat) (y0 : Nat) (r : (Nat × CH)), m_X7_whole_7 f h x0 y0 = some r → le2 h r.2 := by
  intro h x0 y0 r hm
  rw [m_X7_whole_7] at hm
  obtain ⟨a1, ea1, hm⟩ := bdE hm
  obtain ⟨g2, hm⟩ := gdE hm
  obtain ⟨a4, h3, ea4, hm⟩ := bd2E hm
  have lh3 := mo_X2_times ea4
  exact (lh3.tr (mo_X7_whole_14  h3 a4 _ hm))
def m_X7_whole (f : Nat) (u : CH) (x0 : Nat) : Option (Nat × CH) := bd (oR u 7 1 x0) fun a1 =>
    gd (isC u a1 6) <|
    bd2 (m_X6_rows f u a1) fun a4 h3 =>
    m_X7_whole_7 f h3 x0 a4
theorem mo_X7_whole {f : Nat} {u : CH} {x0 : Nat} {r0 : Nat} {u9 : CH} (hm : m_X7_whole f u x0 = some (r0, u9)) : le2 u u9 := by
  rw [m_X7_whole] at hm
  obtain ⟨a1, ea1, hm⟩ := bdE hm
  obtain ⟨g2, hm⟩ := gdE hm
  obtain ⟨a4, h3, ea4, hm⟩ := bd2E hm
  have lh3 := mo_X6_rows ea4
  exact (lh3.tr (mo_X7_whole_7  h3 x0 a4 _ hm))
abbrev rm_X7_whole (mc ms : Nat) : Room := { frames := 3, cells := mc, slots := ms, locals := 65 }
theorem cw_X7_whole {R : Room} {s : State} {args : Array Value} {own : String} {idx mc ms : Nat} (hts : ∀ w ∈ lw_all, w.before args s = true) (hl : Cond.methodLink own idx yX7_whole ∈ lw_all) (hR : 3 + 1 ≤ R.frames ∧ 8 + (1 + 11) + 65 ≤ R.locals) : CallW R s args own RX7 idx yX7_whole cX7_whole 1 (Option.some (Jvm.ClassFile.FieldType.object "CoincideBench$Rows")) (ws_ yX7_whole cX7_whole 1 (Option.some (Jvm.ClassFile.FieldType.object "CoincideBench$Rows"))) (rm_X7_whole mc ms) mc ms 0 := cwV 0 hts (lw_V hl q913 qs18 q144 q914) rfl rfl rfl (by decide +kernel) hR
set_option maxHeartbeats 4000000 in
set_option maxRecDepth 100000 in
theorem w_X7_whole (l : Launch) {D : va_G} {dA : Nat → ClassId} {A : Nat → Prop} {f : Nat} {u u9 : CH} {r0 : Nat} {x0 : Nat} (hm : m_X7_whole f u x0 = some (r0, u9)) : Met l yX7_whole (ws_ yX7_whole cX7_whole 1 (Option.some (Jvm.ClassFile.FieldType.object "CoincideBench$Rows"))) (rm_X7_whole (u9.1 - u.1) (u9.2.1 - u.2.1)) (va_Pc [.ref x0] (CPre D dA A u)) (va_Qr (fun u => u = u9) (fun u r t => r = r0 ∧ CPost D dA A u t) A) (u9.1 - u.1) (u9.2.1 - u.2.1) A := by
  refine Met.ofW (cc := cX7_whole) (maxL := 1) (ret := (Option.some (Jvm.ClassFile.FieldType.object "CoincideBench$Rows"))) (by decide) rfl ?_
  intro p e s m args below meth c s₁ B hml hv
  have hx := B.exec
  have hb := B.bytes
  have hr := B.returns
  have hts := atoms_spec (ws := (ws_ yX7_whole cX7_whole 1 (Option.some (Jvm.ClassFile.FieldType.object "CoincideBench$Rows")))) B.pre
  have hts : ∀ w ∈ lw_all, w.before args s = true := fun w h => hts w (List.mem_cons_of_mem _ h)
  have hown : s.vm.findClass RX7 = some m.cls := findClass_of_methodNamed B.named
  have hlocks := B.notSynchronized
  obtain ⟨hav, hv⟩ := hv
  have C : CX p s m args c cX7_whole RX7 D dA := ⟨hx, hb, hown, hts, hv.2⟩
  have hw : CW D dA A s u s.heap [] := hv.1
  generalize hQ : MQ below (va_Qr (fun u => u = u9) (fun u r t => r = r0 ∧ CPost D dA A u t) A) args s (u9.1 - u.1) (u9.2.1 - u.2.1) A = QQ
  have hent := lg_entry_eq m [.ref x0] 1
  rw [← hav] at hent
  rw [hent]
  have hl := lv_entry ([.ref x0]) (n := 1) (Nat.le_of_ble_eq_true rfl)
  generalize (lg_sl ([.ref x0]) ++ List.replicate (1 - (lg_sl ([.ref x0])).length) Slot.unset).toArray = ls at hl ⊢
  have hl : lv_has ls 1 [(0, .ref x0)] := hl
  obtain ⟨cc, ecc⟩ : ∃ z : Nat, z = 0 := ⟨0, rfl⟩
  obtain ⟨ss, ess⟩ : ∃ z : Nat, z = 0 := ⟨0, rfl⟩
  have hcc : cc + u.1 = u.1 := by omega
  have hss : ss + u.2.1 = u.2.1 := by omega
  suffices hgo : W p l e (rm_X7_whole (u9.1 - u.1) (u9.2.1 - u.2.1)) s m args below meth c s.heap [] cc ss QQ (F0 m 0 ls []) by rw [ecc, ess] at hgo; exact hgo
  have ⟨pu, qu, _, _⟩ := mo_X7_whole hm
  have hB14 : ∀ (h : CH) (y0 : Nat) (cc ss : Nat) (H : Heap) (locs : List Loc) (ls : Array Slot), m_X7_whole_14 f h y0 = some (r0, u9) → CW D dA A s h H locs → cc + u.1 = h.1 → ss + u.2.1 = h.2.1 → lv_has ls 1 [] → W p l e (rm_X7_whole (u9.1 - u.1) (u9.2.1 - u.2.1)) s m args below meth c H locs cc ss QQ (F0 m 14 ls [.ref y0]) := by
    intro h y0 cc ss H locs ls hm hw hcc hss hl
    have hmo := mo_X7_whole_14  h y0 _ hm
    have sb_ : h.1 ≤ u9.1 := hmo.1
    have tb_ : h.2.1 ≤ u9.2.1 := hmo.2.1
    rw [m_X7_whole_14] at hm
    obtain ⟨er, eh⟩ := retE hm
    have ec : cc = u9.1 - u.1 := by rw [← eh]; omega
    have es : ss = u9.2.1 - u.2.1 := by rw [← eh]; omega
    rw [ec, es, ← hQ]
    exact W.aret (v := .ref y0) hx hb hr (Or.inl ⟨_, rfl⟩) (Or.inr ⟨_, rfl⟩) (fun t ht hW => ⟨⟨h, y0, rfl, eh, er, ⟨by rw [ht]; exact hw.1, by rw [ht]; exact hw.2.1⟩⟩, hw.2.2.1.F ht⟩) hw.2.2.1.2.2 dX7_whole_14
  have hB7 : ∀ (h : CH) (x0 : Nat) (y0 : Nat) (cc ss : Nat) (H : Heap) (locs : List Loc) (ls : Array Slot), m_X7_whole_7 f h x0 y0 = some (r0, u9) → CW D dA A s h H locs → cc + u.1 = h.1 → ss + u.2.1 = h.2.1 → lv_has ls 1 [(0, .ref x0)] → W p l e (rm_X7_whole (u9.1 - u.1) (u9.2.1 - u.2.1)) s m args below meth c H locs cc ss QQ (F0 m 7 ls [.ref y0]) := by
    intro h x0 y0 cc ss H locs ls hm hw hcc hss hl
    have hmo := mo_X7_whole_7  h x0 y0 _ hm
    have sb_ : h.1 ≤ u9.1 := hmo.1
    have tb_ : h.2.1 ≤ u9.2.1 := hmo.2.1
    rw [m_X7_whole_7] at hm
    refine lv_aload_n hx hb dX7_whole_7 rfl (lv_at hl 0 rfl) ?_
    obtain ⟨a1, ea1, hm⟩ := bdE hm
    refine cg_get C hw (oR_E ea1) rfl in_X7 (by decide) q761 dX7_whole_8 ?_
    obtain ⟨g2, hm⟩ := gdE hm
    obtain ⟨a4, h3, ea4, hm⟩ := bd2E hm
    have lh3 := mo_X2_times ea4
    have ph3 : h.1 ≤ h3.1 := lh3.1
    have qh3 : h.2.1 ≤ h3.2.1 := lh3.2.1
    have hmo := mo_X7_whole_14   h3 a4 _ hm
    have sh3 : h3.1 ≤ u9.1 := hmo.1
    have th3 : h3.2.1 ≤ u9.2.1 := hmo.2.1
    refine cg_callr hw lh3 (va_runV (As := [.ref a1]) (rest := []) ⟨hx, hb, hml, hown, hts⟩ (w_X2_times l ea4) (cw_X2_times hts q916 ⟨Nat.le_of_ble_eq_true rfl, Nat.le_of_ble_eq_true rfl⟩) (cg_preV C hw g2 rfl _) rfl rfl hl.1 rfl (lv_room (Nat.le_of_ble_eq_true rfl)) dX7_whole_11 ⟨show cc + (h3.1 - h.1) ≤ u9.1 - u.1 by omega, show ss + (h3.2.1 - h.2.1) ≤ u9.2.1 - u.2.1 by omega⟩) (fun H locs hw => ?_)
    exact hB14 h3 a4 _ _ _ _ _ hm hw (by omega) (by omega) (lv_sub hl [] rfl)
  rw [m_X7_whole] at hm
  refine lv_aload_n hx hb dX7_whole_0 rfl (lv_at hl 0 rfl) ?_
  obtain ⟨a1, ea1, hm⟩ := bdE hm
  refine cg_get C hw (oR_E ea1) rfl in_X7 (by decide) q760 dX7_whole_1 ?_
  obtain ⟨g2, hm⟩ := gdE hm
  obtain ⟨a4, h3, ea4, hm⟩ := bd2E hm
  have lh3 := mo_X6_rows ea4
  have ph3 : u.1 ≤ h3.1 := lh3.1
  have qh3 : u.2.1 ≤ h3.2.1 := lh3.2.1
  have hmo := mo_X7_whole_7   h3 x0 a4 _ hm
  have sh3 : h3.1 ≤ u9.1 := hmo.1
  have th3 : h3.2.1 ≤ u9.2.1 := hmo.2.1
  refine cg_callr hw lh3 (va_runV (As := []) (rest := []) ⟨hx, hb, hml, hown, hts⟩ (w_X6_rows l ea4) (cw_X6_rows hts q915 ⟨Nat.le_of_ble_eq_true rfl, Nat.le_of_ble_eq_true rfl⟩) (cg_preV C hw g2 rfl _) rfl rfl hl.1 rfl (lv_room (Nat.le_of_ble_eq_true rfl)) dX7_whole_4 ⟨show cc + (h3.1 - u.1) ≤ u9.1 - u.1 by omega, show ss + (h3.2.1 - u.2.1) ≤ u9.2.1 - u.2.1 by omega⟩) (fun H locs hw => ?_)
  exact hB7 h3 x0 a4 _ _ _ _ _ hm hw (by omega) (by omega) (lv_sub hl [0] rfl)
def m_X7_part_7 (f : Nat) (h : CH) (x0 : Nat) (y0 : Int64) : Option (Int64 × CH) := bd (oL h 7 3 x0) fun v1 =>
    bd (m_X0_divisor f y0 v1) fun r2 =>
    some (r2, h)
theorem mo_X7_part_7 {f : Nat} : ∀ (h : CH) (x0 : Nat) (y0 : Int64) (r : (Int64 × CH)), m_X7_part_7 f h x0 y0 = some r → le2 h r.2 := by
  intro h x0 y0 r hm
  rw [m_X7_part_7] at hm
  obtain ⟨v1, ev1, hm⟩ := bdE hm
  obtain ⟨r2, er2, hm⟩ := bdE hm
  cases hm
  exact le2.rf
def m_X7_part_4 (f : Nat) (h : CH) (x0 : Nat) (y0 : Nat) : Option (Int64 × CH) := gd (isC h y0 3) <|
    bd2 (m_X2_common f h y0) fun r3 h2 =>
    m_X7_part_7 f h2 x0 r3
theorem mo_X7_part_4 {f : Nat} : ∀ (h : CH) (x0 : Nat) (y0 : Nat) (r : (Int64 × CH)), m_X7_part_4 f h x0 y0 = some r → le2 h r.2 := by
  intro h x0 y0 r hm
  rw [m_X7_part_4] at hm
  obtain ⟨g1, hm⟩ := gdE hm
  obtain ⟨r3, h2, er3, hm⟩ := bd2E hm
  have lh2 := mo_X2_common er3
  exact (lh2.tr (mo_X7_part_7  h2 x0 r3 _ hm))
def m_X7_part (f : Nat) (u : CH) (x0 : Nat) : Option (Int64 × CH) := gd (isC u x0 7) <|
    bd2 (m_X7_whole f u x0) fun a3 h2 =>
    m_X7_part_4 f h2 x0 a3
theorem mo_X7_part {f : Nat} {u : CH} {x0 : Nat} {r0 : Int64} {u9 : CH} (hm : m_X7_part f u x0 = some (r0, u9)) : le2 u u9 := by
  rw [m_X7_part] at hm
  obtain ⟨g1, hm⟩ := gdE hm
  obtain ⟨a3, h2, ea3, hm⟩ := bd2E hm
  have lh2 := mo_X7_whole ea3
  exact (lh2.tr (mo_X7_part_4  h2 x0 a3 _ hm))
abbrev rm_X7_part (mc ms : Nat) : Room := { frames := 103, cells := mc, slots := ms, locals := 4087 }
theorem cw_X7_part {R : Room} {s : State} {args : Array Value} {own : String} {idx mc ms : Nat} (hts : ∀ w ∈ lw_all, w.before args s = true) (hl : Cond.methodLink own idx yX7_part ∈ lw_all) (hR : 103 + 1 ≤ R.frames ∧ 8 + (1 + 11) + 4087 ≤ R.locals) : CallW R s args own RX7 idx yX7_part cX7_part 1 (Option.some Jvm.ClassFile.FieldType.long) (ws_ yX7_part cX7_part 1 (Option.some Jvm.ClassFile.FieldType.long)) (rm_X7_part mc ms) mc ms 0 := cwV 0 hts (lw_V hl q924 qs19 q144 q925) rfl rfl rfl (by decide +kernel) hR
set_option maxHeartbeats 4000000 in
set_option maxRecDepth 100000 in
theorem w_X7_part (l : Launch) {D : va_G} {dA : Nat → ClassId} {A : Nat → Prop} {f : Nat} {u u9 : CH} {r0 : Int64} {x0 : Nat} (hm : m_X7_part f u x0 = some (r0, u9)) : Met l yX7_part (ws_ yX7_part cX7_part 1 (Option.some Jvm.ClassFile.FieldType.long)) (rm_X7_part (u9.1 - u.1) (u9.2.1 - u.2.1)) (va_Pc [.ref x0] (CPre D dA A u)) (va_Ql (fun r u => r = r0 ∧ u = u9) (CPost D dA A) A) (u9.1 - u.1) (u9.2.1 - u.2.1) A := by
  refine Met.ofW (cc := cX7_part) (maxL := 1) (ret := (Option.some Jvm.ClassFile.FieldType.long)) (by decide) rfl ?_
  intro p e s m args below meth c s₁ B hml hv
  have hx := B.exec
  have hb := B.bytes
  have hr := B.returns
  have hts := atoms_spec (ws := (ws_ yX7_part cX7_part 1 (Option.some Jvm.ClassFile.FieldType.long))) B.pre
  have hts : ∀ w ∈ lw_all, w.before args s = true := fun w h => hts w (List.mem_cons_of_mem _ h)
  have hown : s.vm.findClass RX7 = some m.cls := findClass_of_methodNamed B.named
  have hlocks := B.notSynchronized
  obtain ⟨hav, hv⟩ := hv
  have C : CX p s m args c cX7_part RX7 D dA := ⟨hx, hb, hown, hts, hv.2⟩
  have hw : CW D dA A s u s.heap [] := hv.1
  generalize hQ : MQ below (va_Ql (fun r u => r = r0 ∧ u = u9) (CPost D dA A) A) args s (u9.1 - u.1) (u9.2.1 - u.2.1) A = QQ
  have hent := lg_entry_eq m [.ref x0] 1
  rw [← hav] at hent
  rw [hent]
  have hl := lv_entry ([.ref x0]) (n := 1) (Nat.le_of_ble_eq_true rfl)
  generalize (lg_sl ([.ref x0]) ++ List.replicate (1 - (lg_sl ([.ref x0])).length) Slot.unset).toArray = ls at hl ⊢
  have hl : lv_has ls 1 [(0, .ref x0)] := hl
  obtain ⟨cc, ecc⟩ : ∃ z : Nat, z = 0 := ⟨0, rfl⟩
  obtain ⟨ss, ess⟩ : ∃ z : Nat, z = 0 := ⟨0, rfl⟩
  have hcc : cc + u.1 = u.1 := by omega
  have hss : ss + u.2.1 = u.2.1 := by omega
  suffices hgo : W p l e (rm_X7_part (u9.1 - u.1) (u9.2.1 - u.2.1)) s m args below meth c s.heap [] cc ss QQ (F0 m 0 ls []) by rw [ecc, ess] at hgo; exact hgo
  have ⟨pu, qu, _, _⟩ := mo_X7_part hm
  have hB7 : ∀ (h : CH) (x0 : Nat) (y0 : Int64) (cc ss : Nat) (H : Heap) (locs : List Loc) (ls : Array Slot), m_X7_part_7 f h x0 y0 = some (r0, u9) → CW D dA A s h H locs → cc + u.1 = h.1 → ss + u.2.1 = h.2.1 → lv_has ls 1 [(0, .ref x0)] → W p l e (rm_X7_part (u9.1 - u.1) (u9.2.1 - u.2.1)) s m args below meth c H locs cc ss QQ (F0 m 7 ls [.long y0]) := by
    intro h x0 y0 cc ss H locs ls hm hw hcc hss hl
    have hmo := mo_X7_part_7  h x0 y0 _ hm
    have sb_ : h.1 ≤ u9.1 := hmo.1
    have tb_ : h.2.1 ≤ u9.2.1 := hmo.2.1
    rw [m_X7_part_7] at hm
    refine lv_aload_n hx hb dX7_part_7 rfl (lv_at hl 0 rfl) ?_
    obtain ⟨v1, ev1, hm⟩ := bdE hm
    refine cg_get C hw (oL_E ev1) rfl in_X7 (by decide) q762 dX7_part_8 ?_
    obtain ⟨r2, er2, hm⟩ := bdE hm
    refine scl (va_runSN (As := [.long y0, .long v1]) (rest := []) ⟨hx, hb, hml, hown, hts⟩ (w_X0_divisor l er2) ⟨va_cnB 2 hts (lw_meth q932) rfl rfl rfl (hw.2.2.2.2.1 _ (List.mem_of_getElem? (i := 76) rfl)) (hts _ q119) (by decide +kernel) ⟨Nat.le_of_ble_eq_true rfl, Nat.le_of_ble_eq_true rfl⟩, hts _ q931, trivial⟩ (pre_s _) rfl rfl hl.1 rfl (lv_room (Nat.le_of_ble_eq_true rfl)) dX7_part_11 ⟨show cc + 0 ≤ u9.1 - u.1 by omega, show ss + 0 ≤ u9.2.1 - u.2.1 by omega⟩) ?_
    obtain ⟨er, eh⟩ := retE hm
    have ec : cc = u9.1 - u.1 := by rw [← eh]; omega
    have es : ss = u9.2.1 - u.2.1 := by rw [← eh]; omega
    rw [ec, es, ← hQ]
    exact W.lret (v := r2) hx hb hr (fun t ht hW => ⟨⟨r2, h, rfl, ⟨er, eh⟩, ⟨by rw [ht]; exact hw.1, by rw [ht]; exact hw.2.1⟩⟩, hw.2.2.1.F ht⟩) hw.2.2.1.2.2 dX7_part_14
  have hB4 : ∀ (h : CH) (x0 : Nat) (y0 : Nat) (cc ss : Nat) (H : Heap) (locs : List Loc) (ls : Array Slot), m_X7_part_4 f h x0 y0 = some (r0, u9) → CW D dA A s h H locs → cc + u.1 = h.1 → ss + u.2.1 = h.2.1 → lv_has ls 1 [(0, .ref x0)] → W p l e (rm_X7_part (u9.1 - u.1) (u9.2.1 - u.2.1)) s m args below meth c H locs cc ss QQ (F0 m 4 ls [.ref y0]) := by
    intro h x0 y0 cc ss H locs ls hm hw hcc hss hl
    have hmo := mo_X7_part_4  h x0 y0 _ hm
    have sb_ : h.1 ≤ u9.1 := hmo.1
    have tb_ : h.2.1 ≤ u9.2.1 := hmo.2.1
    rw [m_X7_part_4] at hm
    obtain ⟨g1, hm⟩ := gdE hm
    obtain ⟨r3, h2, er3, hm⟩ := bd2E hm
    have lh2 := mo_X2_common er3
    have ph2 : h.1 ≤ h2.1 := lh2.1
    have qh2 : h.2.1 ≤ h2.2.1 := lh2.2.1
    have hmo := mo_X7_part_7   h2 x0 r3 _ hm
    have sh2 : h2.1 ≤ u9.1 := hmo.1
    have th2 : h2.2.1 ≤ u9.2.1 := hmo.2.1
    refine cg_calll hw lh2 (va_runV (As := []) (rest := []) ⟨hx, hb, hml, hown, hts⟩ (w_X2_common l er3) (cw_X2_common hts q926 ⟨Nat.le_of_ble_eq_true rfl, Nat.le_of_ble_eq_true rfl⟩) (cg_preV C hw g1 rfl _) rfl rfl hl.1 rfl (lv_room (Nat.le_of_ble_eq_true rfl)) dX7_part_4 ⟨show cc + (h2.1 - h.1) ≤ u9.1 - u.1 by omega, show ss + (h2.2.1 - h.2.1) ≤ u9.2.1 - u.2.1 by omega⟩) (fun H locs hw => ?_)
    exact hB7 h2 x0 r3 _ _ _ _ _ hm hw (by omega) (by omega) (lv_sub hl [0] rfl)
  rw [m_X7_part] at hm
  refine lv_aload_n hx hb dX7_part_0 rfl (lv_at hl 0 rfl) ?_
  obtain ⟨g1, hm⟩ := gdE hm
  obtain ⟨a3, h2, ea3, hm⟩ := bd2E hm
  have lh2 := mo_X7_whole ea3
  have ph2 : u.1 ≤ h2.1 := lh2.1
  have qh2 : u.2.1 ≤ h2.2.1 := lh2.2.1
  have hmo := mo_X7_part_4   h2 x0 a3 _ hm
  have sh2 : h2.1 ≤ u9.1 := hmo.1
  have th2 : h2.2.1 ≤ u9.2.1 := hmo.2.1
  refine cg_callr hw lh2 (va_runV (As := []) (rest := []) ⟨hx, hb, hml, hown, hts⟩ (w_X7_whole l ea3) (cw_X7_whole hts q911 ⟨Nat.le_of_ble_eq_true rfl, Nat.le_of_ble_eq_true rfl⟩) (cg_preV C hw g1 rfl _) rfl rfl hl.1 rfl (lv_room (Nat.le_of_ble_eq_true rfl)) dX7_part_1 ⟨show cc + (h2.1 - u.1) ≤ u9.1 - u.1 by omega, show ss + (h2.2.1 - u.2.1) ≤ u9.2.1 - u.2.1 by omega⟩) (fun H locs hw => ?_)
  exact hB4 h2 x0 a3 _ _ _ _ _ hm hw (by omega) (by omega) (lv_sub hl [0] rfl)
def m_X7_rows_11 (f : Nat) (h : CH) (y0 : Nat) : Option (Nat × CH) := some (y0, h)
theorem mo_X7_rows_11 {f : Nat} : ∀ (h : CH) (y0 : Nat) (r : (Nat × CH)), m_X7_rows_11 f h y0 = some r → le2 h r.2 := by
  intro h y0 r hm
  rw [m_X7_rows_11] at hm
  cases hm
  exact le2.rf
def m_X7_rows_8 (f : Nat) (h : CH) (y0 : Nat) (y1 : Int64) : Option (Nat × CH) := gd (isC h y0 3) <|
    bd2 (m_X2_by f h y0 y1) fun a3 h2 =>
    m_X7_rows_11 f h2 a3
theorem mo_X7_rows_8 {f : Nat} : ∀ (h : CH) (y0 : Nat) (y1 : Int64) (r : (Nat × CH)), m_X7_rows_8 f h y0 y1 = some r → le2 h r.2 := by
  intro h y0 y1 r hm
  rw [m_X7_rows_8] at hm
  obtain ⟨g1, hm⟩ := gdE hm
  obtain ⟨a3, h2, ea3, hm⟩ := bd2E hm
  have lh2 := mo_X2_by ea3
  exact (lh2.tr (mo_X7_rows_11  h2 a3 _ hm))
def m_X7_rows_4 (f : Nat) (h : CH) (x0 : Nat) (y0 : Nat) : Option (Nat × CH) := gd (isC h x0 7) <|
    bd2 (m_X7_part f h x0) fun r3 h2 =>
    m_X7_rows_8 f h2 y0 r3
theorem mo_X7_rows_4 {f : Nat} : ∀ (h : CH) (x0 : Nat) (y0 : Nat) (r : (Nat × CH)), m_X7_rows_4 f h x0 y0 = some r → le2 h r.2 := by
  intro h x0 y0 r hm
  rw [m_X7_rows_4] at hm
  obtain ⟨g1, hm⟩ := gdE hm
  obtain ⟨r3, h2, er3, hm⟩ := bd2E hm
  have lh2 := mo_X7_part er3
  exact (lh2.tr (mo_X7_rows_8  h2 y0 r3 _ hm))
def m_X7_rows (f : Nat) (u : CH) (x0 : Nat) : Option (Nat × CH) := gd (isC u x0 7) <|
    bd2 (m_X7_whole f u x0) fun a3 h2 =>
    m_X7_rows_4 f h2 x0 a3
theorem mo_X7_rows {f : Nat} {u : CH} {x0 : Nat} {r0 : Nat} {u9 : CH} (hm : m_X7_rows f u x0 = some (r0, u9)) : le2 u u9 := by
  rw [m_X7_rows] at hm
  obtain ⟨g1, hm⟩ := gdE hm
  obtain ⟨a3, h2, ea3, hm⟩ := bd2E hm
  have lh2 := mo_X7_whole ea3
  exact (lh2.tr (mo_X7_rows_4  h2 x0 a3 _ hm))
abbrev rm_X7_rows (mc ms : Nat) : Room := { frames := 104, cells := mc, slots := ms, locals := 4107 }
set_option maxHeartbeats 4000000 in
set_option maxRecDepth 100000 in
theorem w_X7_rows (l : Launch) {D : va_G} {dA : Nat → ClassId} {A : Nat → Prop} {f : Nat} {u u9 : CH} {r0 : Nat} {x0 : Nat} (hm : m_X7_rows f u x0 = some (r0, u9)) : Met l yX7_rows (ws_ yX7_rows cX7_rows 1 (Option.some (Jvm.ClassFile.FieldType.object "CoincideBench$Rows"))) (rm_X7_rows (u9.1 - u.1) (u9.2.1 - u.2.1)) (va_Pc [.ref x0] (CPre D dA A u)) (va_Qr (fun u => u = u9) (fun u r t => r = r0 ∧ CPost D dA A u t) A) (u9.1 - u.1) (u9.2.1 - u.2.1) A := by
  refine Met.ofW (cc := cX7_rows) (maxL := 1) (ret := (Option.some (Jvm.ClassFile.FieldType.object "CoincideBench$Rows"))) (by decide) rfl ?_
  intro p e s m args below meth c s₁ B hml hv
  have hx := B.exec
  have hb := B.bytes
  have hr := B.returns
  have hts := atoms_spec (ws := (ws_ yX7_rows cX7_rows 1 (Option.some (Jvm.ClassFile.FieldType.object "CoincideBench$Rows")))) B.pre
  have hts : ∀ w ∈ lw_all, w.before args s = true := fun w h => hts w (List.mem_cons_of_mem _ h)
  have hown : s.vm.findClass RX7 = some m.cls := findClass_of_methodNamed B.named
  have hlocks := B.notSynchronized
  obtain ⟨hav, hv⟩ := hv
  have C : CX p s m args c cX7_rows RX7 D dA := ⟨hx, hb, hown, hts, hv.2⟩
  have hw : CW D dA A s u s.heap [] := hv.1
  generalize hQ : MQ below (va_Qr (fun u => u = u9) (fun u r t => r = r0 ∧ CPost D dA A u t) A) args s (u9.1 - u.1) (u9.2.1 - u.2.1) A = QQ
  have hent := lg_entry_eq m [.ref x0] 1
  rw [← hav] at hent
  rw [hent]
  have hl := lv_entry ([.ref x0]) (n := 1) (Nat.le_of_ble_eq_true rfl)
  generalize (lg_sl ([.ref x0]) ++ List.replicate (1 - (lg_sl ([.ref x0])).length) Slot.unset).toArray = ls at hl ⊢
  have hl : lv_has ls 1 [(0, .ref x0)] := hl
  obtain ⟨cc, ecc⟩ : ∃ z : Nat, z = 0 := ⟨0, rfl⟩
  obtain ⟨ss, ess⟩ : ∃ z : Nat, z = 0 := ⟨0, rfl⟩
  have hcc : cc + u.1 = u.1 := by omega
  have hss : ss + u.2.1 = u.2.1 := by omega
  suffices hgo : W p l e (rm_X7_rows (u9.1 - u.1) (u9.2.1 - u.2.1)) s m args below meth c s.heap [] cc ss QQ (F0 m 0 ls []) by rw [ecc, ess] at hgo; exact hgo
  have ⟨pu, qu, _, _⟩ := mo_X7_rows hm
  have hB11 : ∀ (h : CH) (y0 : Nat) (cc ss : Nat) (H : Heap) (locs : List Loc) (ls : Array Slot), m_X7_rows_11 f h y0 = some (r0, u9) → CW D dA A s h H locs → cc + u.1 = h.1 → ss + u.2.1 = h.2.1 → lv_has ls 1 [] → W p l e (rm_X7_rows (u9.1 - u.1) (u9.2.1 - u.2.1)) s m args below meth c H locs cc ss QQ (F0 m 11 ls [.ref y0]) := by
    intro h y0 cc ss H locs ls hm hw hcc hss hl
    have hmo := mo_X7_rows_11  h y0 _ hm
    have sb_ : h.1 ≤ u9.1 := hmo.1
    have tb_ : h.2.1 ≤ u9.2.1 := hmo.2.1
    rw [m_X7_rows_11] at hm
    obtain ⟨er, eh⟩ := retE hm
    have ec : cc = u9.1 - u.1 := by rw [← eh]; omega
    have es : ss = u9.2.1 - u.2.1 := by rw [← eh]; omega
    rw [ec, es, ← hQ]
    exact W.aret (v := .ref y0) hx hb hr (Or.inl ⟨_, rfl⟩) (Or.inr ⟨_, rfl⟩) (fun t ht hW => ⟨⟨h, y0, rfl, eh, er, ⟨by rw [ht]; exact hw.1, by rw [ht]; exact hw.2.1⟩⟩, hw.2.2.1.F ht⟩) hw.2.2.1.2.2 dX7_rows_11
  have hB8 : ∀ (h : CH) (y0 : Nat) (y1 : Int64) (cc ss : Nat) (H : Heap) (locs : List Loc) (ls : Array Slot), m_X7_rows_8 f h y0 y1 = some (r0, u9) → CW D dA A s h H locs → cc + u.1 = h.1 → ss + u.2.1 = h.2.1 → lv_has ls 1 [] → W p l e (rm_X7_rows (u9.1 - u.1) (u9.2.1 - u.2.1)) s m args below meth c H locs cc ss QQ (F0 m 8 ls [.long y1, .ref y0]) := by
    intro h y0 y1 cc ss H locs ls hm hw hcc hss hl
    have hmo := mo_X7_rows_8  h y0 y1 _ hm
    have sb_ : h.1 ≤ u9.1 := hmo.1
    have tb_ : h.2.1 ≤ u9.2.1 := hmo.2.1
    rw [m_X7_rows_8] at hm
    obtain ⟨g1, hm⟩ := gdE hm
    obtain ⟨a3, h2, ea3, hm⟩ := bd2E hm
    have lh2 := mo_X2_by ea3
    have ph2 : h.1 ≤ h2.1 := lh2.1
    have qh2 : h.2.1 ≤ h2.2.1 := lh2.2.1
    have hmo := mo_X7_rows_11   h2 a3 _ hm
    have sh2 : h2.1 ≤ u9.1 := hmo.1
    have th2 : h2.2.1 ≤ u9.2.1 := hmo.2.1
    refine cg_callr hw lh2 (va_runV (As := [.long y1]) (rest := []) ⟨hx, hb, hml, hown, hts⟩ (w_X2_by l ea3) (cw_X2_by hts q936 ⟨Nat.le_of_ble_eq_true rfl, Nat.le_of_ble_eq_true rfl⟩) (cg_preV C hw g1 rfl _) rfl rfl hl.1 rfl (lv_room (Nat.le_of_ble_eq_true rfl)) dX7_rows_8 ⟨show cc + (h2.1 - h.1) ≤ u9.1 - u.1 by omega, show ss + (h2.2.1 - h.2.1) ≤ u9.2.1 - u.2.1 by omega⟩) (fun H locs hw => ?_)
    exact hB11 h2 a3 _ _ _ _ _ hm hw (by omega) (by omega) (lv_sub hl [] rfl)
  have hB4 : ∀ (h : CH) (x0 : Nat) (y0 : Nat) (cc ss : Nat) (H : Heap) (locs : List Loc) (ls : Array Slot), m_X7_rows_4 f h x0 y0 = some (r0, u9) → CW D dA A s h H locs → cc + u.1 = h.1 → ss + u.2.1 = h.2.1 → lv_has ls 1 [(0, .ref x0)] → W p l e (rm_X7_rows (u9.1 - u.1) (u9.2.1 - u.2.1)) s m args below meth c H locs cc ss QQ (F0 m 4 ls [.ref y0]) := by
    intro h x0 y0 cc ss H locs ls hm hw hcc hss hl
    have hmo := mo_X7_rows_4  h x0 y0 _ hm
    have sb_ : h.1 ≤ u9.1 := hmo.1
    have tb_ : h.2.1 ≤ u9.2.1 := hmo.2.1
    rw [m_X7_rows_4] at hm
    refine lv_aload_n hx hb dX7_rows_4 rfl (lv_at hl 0 rfl) ?_
    obtain ⟨g1, hm⟩ := gdE hm
    obtain ⟨r3, h2, er3, hm⟩ := bd2E hm
    have lh2 := mo_X7_part er3
    have ph2 : h.1 ≤ h2.1 := lh2.1
    have qh2 : h.2.1 ≤ h2.2.1 := lh2.2.1
    have hmo := mo_X7_rows_8   h2 y0 r3 _ hm
    have sh2 : h2.1 ≤ u9.1 := hmo.1
    have th2 : h2.2.1 ≤ u9.2.1 := hmo.2.1
    refine cg_calll hw lh2 (va_runV (As := []) (rest := [.ref y0]) ⟨hx, hb, hml, hown, hts⟩ (w_X7_part l er3) (cw_X7_part hts q922 ⟨Nat.le_of_ble_eq_true rfl, Nat.le_of_ble_eq_true rfl⟩) (cg_preV C hw g1 rfl _) rfl rfl hl.1 rfl (lv_room (Nat.le_of_ble_eq_true rfl)) dX7_rows_5 ⟨show cc + (h2.1 - h.1) ≤ u9.1 - u.1 by omega, show ss + (h2.2.1 - h.2.1) ≤ u9.2.1 - u.2.1 by omega⟩) (fun H locs hw => ?_)
    exact hB8 h2 y0 r3 _ _ _ _ _ hm hw (by omega) (by omega) (lv_sub hl [] rfl)
  rw [m_X7_rows] at hm
  refine lv_aload_n hx hb dX7_rows_0 rfl (lv_at hl 0 rfl) ?_
  obtain ⟨g1, hm⟩ := gdE hm
  obtain ⟨a3, h2, ea3, hm⟩ := bd2E hm
  have lh2 := mo_X7_whole ea3
  have ph2 : u.1 ≤ h2.1 := lh2.1
  have qh2 : u.2.1 ≤ h2.2.1 := lh2.2.1
  have hmo := mo_X7_rows_4   h2 x0 a3 _ hm
  have sh2 : h2.1 ≤ u9.1 := hmo.1
  have th2 : h2.2.1 ≤ u9.2.1 := hmo.2.1
  refine cg_callr hw lh2 (va_runV (As := []) (rest := []) ⟨hx, hb, hml, hown, hts⟩ (w_X7_whole l ea3) (cw_X7_whole hts q911 ⟨Nat.le_of_ble_eq_true rfl, Nat.le_of_ble_eq_true rfl⟩) (cg_preV C hw g1 rfl _) rfl rfl hl.1 rfl (lv_room (Nat.le_of_ble_eq_true rfl)) dX7_rows_1 ⟨show cc + (h2.1 - u.1) ≤ u9.1 - u.1 by omega, show ss + (h2.2.1 - u.2.1) ≤ u9.2.1 - u.2.1 by omega⟩) (fun H locs hw => ?_)
  exact hB4 h2 x0 a3 _ _ _ _ _ hm hw (by omega) (by omega) (lv_sub hl [0] rfl)
def m_X0_row_32 (f : Nat) (h : CH) (y0 : Int32) : Option (Int32 × CH) := some (y0, h)
theorem mo_X0_row_32 {f : Nat} : ∀ (h : CH) (y0 : Int32) (r : (Int32 × CH)), m_X0_row_32 f h y0 = some r → le2 h r.2 := by
  intro h y0 r hm
  rw [m_X0_row_32] at hm
  cases hm
  exact le2.rf
def m_X0_row_18 (f : Nat) (h : CH) (x2 : Int32) (x3 : Int32) (y0 : Nat) : Option (Int32 × CH) := bd (oR h 3 0 y0) fun a1 =>
    bd (aR h 4 a1 x2) fun a2 =>
    bd (aL h 1 a2 x3) fun v3 =>
    m_X0_row_32 f h (Int64.toInt32 v3)
theorem mo_X0_row_18 {f : Nat} : ∀ (h : CH) (x2 : Int32) (x3 : Int32) (y0 : Nat) (r : (Int32 × CH)), m_X0_row_18 f h x2 x3 y0 = some r → le2 h r.2 := by
  intro h x2 x3 y0 r hm
  rw [m_X0_row_18] at hm
  obtain ⟨a1, ea1, hm⟩ := bdE hm
  obtain ⟨a2, ea2, hm⟩ := bdE hm
  obtain ⟨v3, ev3, hm⟩ := bdE hm
  exact (mo_X0_row_32  h (Int64.toInt32 v3) _ hm)
def m_X0_row_15 (f : Nat) (h : CH) (x2 : Int32) (x3 : Int32) (y0 : Nat) : Option (Int32 × CH) := if isC h y0 6 = true then
    bd2 (m_X6_rows f h y0) fun a3 h2 =>
    m_X0_row_18 f h2 x2 x3 a3
    else gd (isC h y0 7) <|
    bd2 (m_X7_rows f h y0) fun a6 h5 =>
    m_X0_row_18 f h5 x2 x3 a6
theorem mo_X0_row_15 {f : Nat} : ∀ (h : CH) (x2 : Int32) (x3 : Int32) (y0 : Nat) (r : (Int32 × CH)), m_X0_row_15 f h x2 x3 y0 = some r → le2 h r.2 := by
  intro h x2 x3 y0 r hm
  rw [m_X0_row_15] at hm
  by_cases c1 : isC h y0 6 = true
  · have hm := ifT hm c1
    obtain ⟨a3, h2, ea3, hm⟩ := bd2E hm
    have lh2 := mo_X6_rows ea3
    exact (lh2.tr (mo_X0_row_18  h2 x2 x3 a3 _ hm))
  · have hm := ifF hm c1
    obtain ⟨g4, hm⟩ := gdE hm
    obtain ⟨a6, h5, ea6, hm⟩ := bd2E hm
    have lh5 := mo_X7_rows ea6
    exact (lh5.tr (mo_X0_row_18  h5 x2 x3 a6 _ hm))
def m_X0_row_7 (f : Nat) (h : CH) (x0 : Nat) (x1 : Int32) (x2 : Int32) (x3 : Int32) (y0 : Int32) : Option (Int32 × CH) := if y0 = 0 then
    m_X0_row_32 f h (-1000 : Int32)
    else gd (isC h x0 1) <|
    bd2 (m_X0_at f h x0 x1) fun a4 h3 =>
    m_X0_row_15 f h3 x2 x3 a4
theorem mo_X0_row_7 {f : Nat} : ∀ (h : CH) (x0 : Nat) (x1 : Int32) (x2 : Int32) (x3 : Int32) (y0 : Int32) (r : (Int32 × CH)), m_X0_row_7 f h x0 x1 x2 x3 y0 = some r → le2 h r.2 := by
  intro h x0 x1 x2 x3 y0 r hm
  rw [m_X0_row_7] at hm
  by_cases c1 : y0 = 0
  · have hm := ifT hm c1
    exact (mo_X0_row_32  h (-1000 : Int32) _ hm)
  · have hm := ifF hm c1
    obtain ⟨g2, hm⟩ := gdE hm
    obtain ⟨a4, h3, ea4, hm⟩ := bd2E hm
    have lh3 := mo_X0_at ea4
    exact (lh3.tr (mo_X0_row_15  h3 x2 x3 a4 _ hm))
def m_X0_row (f : Nat) (u : CH) (x0 : Nat) (x1 : Int32) (x2 : Int32) (x3 : Int32) : Option (Int32 × CH) := gd (isC u x0 1) <|
    bd2 (m_X0_isAt f u x0 x1 x2 x3) fun r3 h2 =>
    m_X0_row_7 f h2 x0 x1 x2 x3 r3
theorem mo_X0_row {f : Nat} {u : CH} {x0 : Nat} {x1 : Int32} {x2 : Int32} {x3 : Int32} {r0 : Int32} {u9 : CH} (hm : m_X0_row f u x0 x1 x2 x3 = some (r0, u9)) : le2 u u9 := by
  rw [m_X0_row] at hm
  obtain ⟨g1, hm⟩ := gdE hm
  obtain ⟨r3, h2, er3, hm⟩ := bd2E hm
  have lh2 := mo_X0_isAt er3
  exact (lh2.tr (mo_X0_row_7  h2 x0 x1 x2 x3 r3 _ hm))
abbrev rm_X0_row (mc ms : Nat) : Room := { frames := 105, cells := mc, slots := ms, locals := 4127 }
theorem cw_X0_row {R : Room} {s : State} {args : Array Value} {own : String} {idx mc ms : Nat} (hts : ∀ w ∈ lw_all, w.before args s = true) (hl : Cond.methodLink own idx yX0_row ∈ lw_all) (hR : 105 + 1 ≤ R.frames ∧ 8 + (4 + 11) + 4127 ≤ R.locals) : CallW R s args own RX0 idx yX0_row cX0_row 4 (Option.some Jvm.ClassFile.FieldType.int) (ws_ yX0_row cX0_row 4 (Option.some Jvm.ClassFile.FieldType.int)) (rm_X0_row mc ms) mc ms 3 := cwV 3 hts (lw_V hl q885 q886 q119 q887) rfl rfl rfl (by decide +kernel) hR
set_option maxHeartbeats 4000000 in
set_option maxRecDepth 100000 in
theorem w_X0_row (l : Launch) {D : va_G} {dA : Nat → ClassId} {A : Nat → Prop} {f : Nat} {u u9 : CH} {r0 : Int32} {x0 : Nat} {x1 : Int32} {x2 : Int32} {x3 : Int32} (hm : m_X0_row f u x0 x1 x2 x3 = some (r0, u9)) : Met l yX0_row (ws_ yX0_row cX0_row 4 (Option.some Jvm.ClassFile.FieldType.int)) (rm_X0_row (u9.1 - u.1) (u9.2.1 - u.2.1)) (va_Pc [.ref x0, .int x1, .int x2, .int x3] (CPre D dA A u)) (va_Qi (fun r u => r = r0 ∧ u = u9) (CPost D dA A) A) (u9.1 - u.1) (u9.2.1 - u.2.1) A := by
  refine Met.ofW (cc := cX0_row) (maxL := 4) (ret := (Option.some Jvm.ClassFile.FieldType.int)) (by decide) rfl ?_
  intro p e s m args below meth c s₁ B hml hv
  have hx := B.exec
  have hb := B.bytes
  have hr := B.returns
  have hts := atoms_spec (ws := (ws_ yX0_row cX0_row 4 (Option.some Jvm.ClassFile.FieldType.int))) B.pre
  have hts : ∀ w ∈ lw_all, w.before args s = true := fun w h => hts w (List.mem_cons_of_mem _ h)
  have hown : s.vm.findClass RX0 = some m.cls := findClass_of_methodNamed B.named
  have hlocks := B.notSynchronized
  obtain ⟨hav, hv⟩ := hv
  have C : CX p s m args c cX0_row RX0 D dA := ⟨hx, hb, hown, hts, hv.2⟩
  have hw : CW D dA A s u s.heap [] := hv.1
  generalize hQ : MQ below (va_Qi (fun r u => r = r0 ∧ u = u9) (CPost D dA A) A) args s (u9.1 - u.1) (u9.2.1 - u.2.1) A = QQ
  have hent := lg_entry_eq m [.ref x0, .int x1, .int x2, .int x3] 4
  rw [← hav] at hent
  rw [hent]
  have hl := lv_entry ([.ref x0, .int x1, .int x2, .int x3]) (n := 4) (Nat.le_of_ble_eq_true rfl)
  generalize (lg_sl ([.ref x0, .int x1, .int x2, .int x3]) ++ List.replicate (4 - (lg_sl ([.ref x0, .int x1, .int x2, .int x3])).length) Slot.unset).toArray = ls at hl ⊢
  have hl : lv_has ls 4 [(0, .ref x0), (1, .int x1), (2, .int x2), (3, .int x3)] := hl
  obtain ⟨cc, ecc⟩ : ∃ z : Nat, z = 0 := ⟨0, rfl⟩
  obtain ⟨ss, ess⟩ : ∃ z : Nat, z = 0 := ⟨0, rfl⟩
  have hcc : cc + u.1 = u.1 := by omega
  have hss : ss + u.2.1 = u.2.1 := by omega
  suffices hgo : W p l e (rm_X0_row (u9.1 - u.1) (u9.2.1 - u.2.1)) s m args below meth c s.heap [] cc ss QQ (F0 m 0 ls []) by rw [ecc, ess] at hgo; exact hgo
  have ⟨pu, qu, _, _⟩ := mo_X0_row hm
  have hB32 : ∀ (h : CH) (y0 : Int32) (cc ss : Nat) (H : Heap) (locs : List Loc) (ls : Array Slot), m_X0_row_32 f h y0 = some (r0, u9) → CW D dA A s h H locs → cc + u.1 = h.1 → ss + u.2.1 = h.2.1 → lv_has ls 4 [] → W p l e (rm_X0_row (u9.1 - u.1) (u9.2.1 - u.2.1)) s m args below meth c H locs cc ss QQ (F0 m 32 ls [.int y0]) := by
    intro h y0 cc ss H locs ls hm hw hcc hss hl
    have hmo := mo_X0_row_32  h y0 _ hm
    have sb_ : h.1 ≤ u9.1 := hmo.1
    have tb_ : h.2.1 ≤ u9.2.1 := hmo.2.1
    rw [m_X0_row_32] at hm
    obtain ⟨er, eh⟩ := retE hm
    have ec : cc = u9.1 - u.1 := by rw [← eh]; omega
    have es : ss = u9.2.1 - u.2.1 := by rw [← eh]; omega
    rw [ec, es, ← hQ]
    exact W.iret (v := y0) hx hb hr (fun t ht hW => ⟨⟨y0, h, rfl, ⟨er, eh⟩, ⟨by rw [ht]; exact hw.1, by rw [ht]; exact hw.2.1⟩⟩, hw.2.2.1.F ht⟩) hw.2.2.1.2.2 dX0_row_32
  have hB18 : ∀ (h : CH) (x2 : Int32) (x3 : Int32) (y0 : Nat) (cc ss : Nat) (H : Heap) (locs : List Loc) (ls : Array Slot), m_X0_row_18 f h x2 x3 y0 = some (r0, u9) → CW D dA A s h H locs → cc + u.1 = h.1 → ss + u.2.1 = h.2.1 → lv_has ls 4 [(2, .int x2), (3, .int x3)] → W p l e (rm_X0_row (u9.1 - u.1) (u9.2.1 - u.2.1)) s m args below meth c H locs cc ss QQ (F0 m 18 ls [.ref y0]) := by
    intro h x2 x3 y0 cc ss H locs ls hm hw hcc hss hl
    have hmo := mo_X0_row_18  h x2 x3 y0 _ hm
    have sb_ : h.1 ≤ u9.1 := hmo.1
    have tb_ : h.2.1 ≤ u9.2.1 := hmo.2.1
    rw [m_X0_row_18] at hm
    obtain ⟨a1, ea1, hm⟩ := bdE hm
    refine cg_getN C hw (by decide) (oR_E ea1) rfl in_X2 (by decide) (hw.2.2.2.2.1 _ (List.mem_of_getElem? (i := 12) rfl)) dX0_row_18 ?_
    refine lv_iload_n hx hb dX0_row_21 rfl (lv_at hl 0 rfl) ?_
    obtain ⟨a2, ea2, hm⟩ := bdE hm
    refine cg_aaldA C hw (ty := .array .long) rfl rfl (aR_E ea2) dX0_row_22 ?_
    refine lv_iload_n hx hb dX0_row_23 rfl (lv_at hl 1 rfl) ?_
    obtain ⟨v3, ev3, hm⟩ := bdE hm
    refine cg_lald C hw ev3 dX0_row_24 ?_
    refine lv_l2i hx hb dX0_row_25 rfl ?_
    refine lv_goto (tgt := 32) hx hb dX0_row_26 (by decide) ?_
    exact hB32 h (Int64.toInt32 v3) _ _ _ _ _ hm hw (by omega) (by omega) (lv_sub hl [] rfl)
  have hB15 : ∀ (h : CH) (x2 : Int32) (x3 : Int32) (y0 : Nat) (cc ss : Nat) (H : Heap) (locs : List Loc) (ls : Array Slot), m_X0_row_15 f h x2 x3 y0 = some (r0, u9) → CW D dA A s h H locs → cc + u.1 = h.1 → ss + u.2.1 = h.2.1 → lv_has ls 4 [(2, .int x2), (3, .int x3)] → W p l e (rm_X0_row (u9.1 - u.1) (u9.2.1 - u.2.1)) s m args below meth c H locs cc ss QQ (F0 m 15 ls [.ref y0]) := by
    intro h x2 x3 y0 cc ss H locs ls hm hw hcc hss hl
    have hmo := mo_X0_row_15  h x2 x3 y0 _ hm
    have sb_ : h.1 ≤ u9.1 := hmo.1
    have tb_ : h.2.1 ≤ u9.2.1 := hmo.2.1
    rw [m_X0_row_15] at hm
    by_cases c1 : isC h y0 6 = true
    · have hm := ifT hm c1
      obtain ⟨a3, h2, ea3, hm⟩ := bd2E hm
      have lh2 := mo_X6_rows ea3
      have ph2 : h.1 ≤ h2.1 := lh2.1
      have qh2 : h.2.1 ≤ h2.2.1 := lh2.2.1
      have hmo := mo_X0_row_18   h2 x2 x3 a3 _ hm
      have sh2 : h2.1 ≤ u9.1 := hmo.1
      have th2 : h2.2.1 ≤ u9.2.1 := hmo.2.1
      refine cg_callr hw lh2 (va_runV (As := []) (rest := []) ⟨hx, hb, hml, hown, hts⟩ (w_X6_rows l ea3) (cw_X6_rows hts q904 ⟨Nat.le_of_ble_eq_true rfl, Nat.le_of_ble_eq_true rfl⟩) (cg_preV C hw c1 rfl _) rfl rfl hl.1 rfl (lv_room (Nat.le_of_ble_eq_true rfl)) dX0_row_15 ⟨show cc + (h2.1 - h.1) ≤ u9.1 - u.1 by omega, show ss + (h2.2.1 - h.2.1) ≤ u9.2.1 - u.2.1 by omega⟩) (fun H locs hw => ?_)
      exact hB18 h2 x2 x3 a3 _ _ _ _ _ hm hw (by omega) (by omega) (lv_sub hl [0, 1] rfl)
    · have hm := ifF hm c1
      obtain ⟨g4, hm⟩ := gdE hm
      obtain ⟨a6, h5, ea6, hm⟩ := bd2E hm
      have lh5 := mo_X7_rows ea6
      have ph5 : h.1 ≤ h5.1 := lh5.1
      have qh5 : h.2.1 ≤ h5.2.1 := lh5.2.1
      have hmo := mo_X0_row_18   h5 x2 x3 a6 _ hm
      have sh5 : h5.1 ≤ u9.1 := hmo.1
      have th5 : h5.2.1 ≤ u9.2.1 := hmo.2.1
      refine cg_callr hw lh5 (va_runU (As := []) (rest := []) ⟨hx, hb, hml, hown, hts⟩ (w_X7_rows l ea6) (va_cwO 0 hts (lwO q904 q907 q905 q908 q909 q144 q910) rfl rfl rfl q940 (by decide +kernel) ⟨Nat.le_of_ble_eq_true rfl, Nat.le_of_ble_eq_true rfl⟩) (cg_preV C hw g4 rfl _) rfl rfl hl.1 rfl (lv_room (Nat.le_of_ble_eq_true rfl)) dX0_row_15 ⟨show cc + (h5.1 - h.1) ≤ u9.1 - u.1 by omega, show ss + (h5.2.1 - h.2.1) ≤ u9.2.1 - u.2.1 by omega⟩) (fun H locs hw => ?_)
      exact hB18 h5 x2 x3 a6 _ _ _ _ _ hm hw (by omega) (by omega) (lv_sub hl [0, 1] rfl)
  have hB7 : ∀ (h : CH) (x0 : Nat) (x1 : Int32) (x2 : Int32) (x3 : Int32) (y0 : Int32) (cc ss : Nat) (H : Heap) (locs : List Loc) (ls : Array Slot), m_X0_row_7 f h x0 x1 x2 x3 y0 = some (r0, u9) → CW D dA A s h H locs → cc + u.1 = h.1 → ss + u.2.1 = h.2.1 → lv_has ls 4 [(0, .ref x0), (1, .int x1), (2, .int x2), (3, .int x3)] → W p l e (rm_X0_row (u9.1 - u.1) (u9.2.1 - u.2.1)) s m args below meth c H locs cc ss QQ (F0 m 7 ls [.int y0]) := by
    intro h x0 x1 x2 x3 y0 cc ss H locs ls hm hw hcc hss hl
    have hmo := mo_X0_row_7  h x0 x1 x2 x3 y0 _ hm
    have sb_ : h.1 ≤ u9.1 := hmo.1
    have tb_ : h.2.1 ≤ u9.2.1 := hmo.2.1
    rw [m_X0_row_7] at hm
    refine lv_if_eq (tgt := 29) hx hb dX0_row_7 (by decide) (fun c1 => ?_) (fun c1 => ?_)
    · have hm := ifT hm c1
      refine lv_sipush (v := -1000) hx hb dX0_row_29 (by decide) ?_
      exact hB32 h (-1000 : Int32) _ _ _ _ _ hm hw (by omega) (by omega) (lv_sub hl [] rfl)
    · have hm := ifF hm c1
      refine lv_aload_n hx hb dX0_row_10 rfl (lv_at hl 0 rfl) ?_
      refine lv_iload_n hx hb dX0_row_11 rfl (lv_at hl 1 rfl) ?_
      obtain ⟨g2, hm⟩ := gdE hm
      obtain ⟨a4, h3, ea4, hm⟩ := bd2E hm
      have lh3 := mo_X0_at ea4
      have ph3 : h.1 ≤ h3.1 := lh3.1
      have qh3 : h.2.1 ≤ h3.2.1 := lh3.2.1
      have hmo := mo_X0_row_15   h3 x2 x3 a4 _ hm
      have sh3 : h3.1 ≤ u9.1 := hmo.1
      have th3 : h3.2.1 ≤ u9.2.1 := hmo.2.1
      refine cg_callr hw lh3 (va_runV (As := [.int x1]) (rest := []) ⟨hx, hb, hml, hown, hts⟩ (w_X0_at l ea4) (cw_X0_at hts q900 ⟨Nat.le_of_ble_eq_true rfl, Nat.le_of_ble_eq_true rfl⟩) (cg_preV C hw g2 rfl _) rfl rfl hl.1 rfl (lv_room (Nat.le_of_ble_eq_true rfl)) dX0_row_12 ⟨show cc + (h3.1 - h.1) ≤ u9.1 - u.1 by omega, show ss + (h3.2.1 - h.2.1) ≤ u9.2.1 - u.2.1 by omega⟩) (fun H locs hw => ?_)
      exact hB15 h3 x2 x3 a4 _ _ _ _ _ hm hw (by omega) (by omega) (lv_sub hl [2, 3] rfl)
  rw [m_X0_row] at hm
  refine lv_aload_n hx hb dX0_row_0 rfl (lv_at hl 0 rfl) ?_
  refine lv_iload_n hx hb dX0_row_1 rfl (lv_at hl 1 rfl) ?_
  refine lv_iload_n hx hb dX0_row_2 rfl (lv_at hl 2 rfl) ?_
  refine lv_iload_n hx hb dX0_row_3 rfl (lv_at hl 3 rfl) ?_
  obtain ⟨g1, hm⟩ := gdE hm
  obtain ⟨r3, h2, er3, hm⟩ := bd2E hm
  have lh2 := mo_X0_isAt er3
  have ph2 : u.1 ≤ h2.1 := lh2.1
  have qh2 : u.2.1 ≤ h2.2.1 := lh2.2.1
  have hmo := mo_X0_row_7   h2 x0 x1 x2 x3 r3 _ hm
  have sh2 : h2.1 ≤ u9.1 := hmo.1
  have th2 : h2.2.1 ≤ u9.2.1 := hmo.2.1
  refine cg_calli hw lh2 (va_runV (As := [.int x1, .int x2, .int x3]) (rest := []) ⟨hx, hb, hml, hown, hts⟩ (w_X0_isAt l er3) (cw_X0_isAt hts q888 ⟨Nat.le_of_ble_eq_true rfl, Nat.le_of_ble_eq_true rfl⟩) (cg_preV C hw g1 rfl _) rfl rfl hl.1 rfl (lv_room (Nat.le_of_ble_eq_true rfl)) dX0_row_4 ⟨show cc + (h2.1 - u.1) ≤ u9.1 - u.1 by omega, show ss + (h2.2.1 - u.2.1) ≤ u9.2.1 - u.2.1 by omega⟩) (fun H locs hw => ?_)
  exact hB7 h2 x0 x1 x2 x3 r3 _ _ _ _ _ hm hw (by omega) (by omega) (lv_sub hl [0, 1, 2, 3] rfl)
def m_X6_over (f : Nat) (u : CH) (x0 : Nat) : Option (Int64 × CH) := some ((1 : Int64), u)
theorem mo_X6_over {f : Nat} {u : CH} {x0 : Nat} {r0 : Int64} {u9 : CH} (hm : m_X6_over f u x0 = some (r0, u9)) : le2 u u9 := by
  rw [m_X6_over] at hm
  cases hm
  exact le2.rf
abbrev rm_X6_over (mc ms : Nat) : Room := { frames := 0, cells := mc, slots := ms, locals := 0 }
theorem cw_X6_over {R : Room} {s : State} {args : Array Value} {own : String} {idx mc ms : Nat} (hts : ∀ w ∈ lw_all, w.before args s = true) (hl : Cond.methodLink own idx yX6_over ∈ lw_all) (hR : 0 + 1 ≤ R.frames ∧ 8 + (1 + 11) + 0 ≤ R.locals) : CallW R s args own RX6 idx yX6_over cX6_over 1 (Option.some Jvm.ClassFile.FieldType.long) (ws_ yX6_over cX6_over 1 (Option.some Jvm.ClassFile.FieldType.long)) (rm_X6_over mc ms) mc ms 0 := cwV 0 hts (lw_V hl q946 q947 q143 q952) rfl rfl rfl (by decide +kernel) hR
set_option maxHeartbeats 4000000 in
set_option maxRecDepth 100000 in
theorem w_X6_over (l : Launch) {D : va_G} {dA : Nat → ClassId} {A : Nat → Prop} {f : Nat} {u u9 : CH} {r0 : Int64} {x0 : Nat} (hm : m_X6_over f u x0 = some (r0, u9)) : Met l yX6_over (ws_ yX6_over cX6_over 1 (Option.some Jvm.ClassFile.FieldType.long)) (rm_X6_over (u9.1 - u.1) (u9.2.1 - u.2.1)) (va_Pc [.ref x0] (CPre D dA A u)) (va_Ql (fun r u => r = r0 ∧ u = u9) (CPost D dA A) A) (u9.1 - u.1) (u9.2.1 - u.2.1) A := by
  refine Met.ofW (cc := cX6_over) (maxL := 1) (ret := (Option.some Jvm.ClassFile.FieldType.long)) (by decide) rfl ?_
  intro p e s m args below meth c s₁ B hml hv
  have hx := B.exec
  have hb := B.bytes
  have hr := B.returns
  have hts := atoms_spec (ws := (ws_ yX6_over cX6_over 1 (Option.some Jvm.ClassFile.FieldType.long))) B.pre
  have hts : ∀ w ∈ lw_all, w.before args s = true := fun w h => hts w (List.mem_cons_of_mem _ h)
  have hown : s.vm.findClass RX6 = some m.cls := findClass_of_methodNamed B.named
  have hlocks := B.notSynchronized
  obtain ⟨hav, hv⟩ := hv
  have C : CX p s m args c cX6_over RX6 D dA := ⟨hx, hb, hown, hts, hv.2⟩
  have hw : CW D dA A s u s.heap [] := hv.1
  generalize hQ : MQ below (va_Ql (fun r u => r = r0 ∧ u = u9) (CPost D dA A) A) args s (u9.1 - u.1) (u9.2.1 - u.2.1) A = QQ
  have hent := lg_entry_eq m [.ref x0] 1
  rw [← hav] at hent
  rw [hent]
  have hl := lv_entry ([.ref x0]) (n := 1) (Nat.le_of_ble_eq_true rfl)
  generalize (lg_sl ([.ref x0]) ++ List.replicate (1 - (lg_sl ([.ref x0])).length) Slot.unset).toArray = ls at hl ⊢
  have hl : lv_has ls 1 [(0, .ref x0)] := hl
  obtain ⟨cc, ecc⟩ : ∃ z : Nat, z = 0 := ⟨0, rfl⟩
  obtain ⟨ss, ess⟩ : ∃ z : Nat, z = 0 := ⟨0, rfl⟩
  have hcc : cc + u.1 = u.1 := by omega
  have hss : ss + u.2.1 = u.2.1 := by omega
  suffices hgo : W p l e (rm_X6_over (u9.1 - u.1) (u9.2.1 - u.2.1)) s m args below meth c s.heap [] cc ss QQ (F0 m 0 ls []) by rw [ecc, ess] at hgo; exact hgo
  have ⟨pu, qu, _, _⟩ := mo_X6_over hm
  rw [m_X6_over] at hm
  refine lv_lconst (v := 1) hx hb dX6_over_0 (by decide) ?_
  obtain ⟨er, eh⟩ := retE hm
  have ec : cc = u9.1 - u.1 := by rw [← eh]; omega
  have es : ss = u9.2.1 - u.2.1 := by rw [← eh]; omega
  rw [ec, es, ← hQ]
  exact W.lret (v := (1 : Int64)) hx hb hr (fun t ht hW => ⟨⟨(1 : Int64), u, rfl, ⟨er, eh⟩, ⟨by rw [ht]; exact hw.1, by rw [ht]; exact hw.2.1⟩⟩, hw.2.2.1.F ht⟩) hw.2.2.1.2.2 dX6_over_1
def m_X7_over_8 (f : Nat) (h : CH) (y0 : Int64) (y1 : Int64) : Option (Int64 × CH) := gd (nzL y1) <|
    some ((y0 / y1), h)
theorem mo_X7_over_8 {f : Nat} : ∀ (h : CH) (y0 : Int64) (y1 : Int64) (r : (Int64 × CH)), m_X7_over_8 f h y0 y1 = some r → le2 h r.2 := by
  intro h y0 y1 r hm
  rw [m_X7_over_8] at hm
  obtain ⟨g1, hm⟩ := gdE hm
  cases hm
  exact le2.rf
def m_X7_over (f : Nat) (u : CH) (x0 : Nat) : Option (Int64 × CH) := bd (oL u 7 3 x0) fun v1 =>
    gd (isC u x0 7) <|
    bd2 (m_X7_part f u x0) fun r4 h3 =>
    m_X7_over_8 f h3 v1 r4
theorem mo_X7_over {f : Nat} {u : CH} {x0 : Nat} {r0 : Int64} {u9 : CH} (hm : m_X7_over f u x0 = some (r0, u9)) : le2 u u9 := by
  rw [m_X7_over] at hm
  obtain ⟨v1, ev1, hm⟩ := bdE hm
  obtain ⟨g2, hm⟩ := gdE hm
  obtain ⟨r4, h3, er4, hm⟩ := bd2E hm
  have lh3 := mo_X7_part er4
  exact (lh3.tr (mo_X7_over_8  h3 v1 r4 _ hm))
abbrev rm_X7_over (mc ms : Nat) : Room := { frames := 104, cells := mc, slots := ms, locals := 4107 }
set_option maxHeartbeats 4000000 in
set_option maxRecDepth 100000 in
theorem w_X7_over (l : Launch) {D : va_G} {dA : Nat → ClassId} {A : Nat → Prop} {f : Nat} {u u9 : CH} {r0 : Int64} {x0 : Nat} (hm : m_X7_over f u x0 = some (r0, u9)) : Met l yX7_over (ws_ yX7_over cX7_over 1 (Option.some Jvm.ClassFile.FieldType.long)) (rm_X7_over (u9.1 - u.1) (u9.2.1 - u.2.1)) (va_Pc [.ref x0] (CPre D dA A u)) (va_Ql (fun r u => r = r0 ∧ u = u9) (CPost D dA A) A) (u9.1 - u.1) (u9.2.1 - u.2.1) A := by
  refine Met.ofW (cc := cX7_over) (maxL := 1) (ret := (Option.some Jvm.ClassFile.FieldType.long)) (by decide) rfl ?_
  intro p e s m args below meth c s₁ B hml hv
  have hx := B.exec
  have hb := B.bytes
  have hr := B.returns
  have hts := atoms_spec (ws := (ws_ yX7_over cX7_over 1 (Option.some Jvm.ClassFile.FieldType.long))) B.pre
  have hts : ∀ w ∈ lw_all, w.before args s = true := fun w h => hts w (List.mem_cons_of_mem _ h)
  have hown : s.vm.findClass RX7 = some m.cls := findClass_of_methodNamed B.named
  have hlocks := B.notSynchronized
  obtain ⟨hav, hv⟩ := hv
  have C : CX p s m args c cX7_over RX7 D dA := ⟨hx, hb, hown, hts, hv.2⟩
  have hw : CW D dA A s u s.heap [] := hv.1
  generalize hQ : MQ below (va_Ql (fun r u => r = r0 ∧ u = u9) (CPost D dA A) A) args s (u9.1 - u.1) (u9.2.1 - u.2.1) A = QQ
  have hent := lg_entry_eq m [.ref x0] 1
  rw [← hav] at hent
  rw [hent]
  have hl := lv_entry ([.ref x0]) (n := 1) (Nat.le_of_ble_eq_true rfl)
  generalize (lg_sl ([.ref x0]) ++ List.replicate (1 - (lg_sl ([.ref x0])).length) Slot.unset).toArray = ls at hl ⊢
  have hl : lv_has ls 1 [(0, .ref x0)] := hl
  obtain ⟨cc, ecc⟩ : ∃ z : Nat, z = 0 := ⟨0, rfl⟩
  obtain ⟨ss, ess⟩ : ∃ z : Nat, z = 0 := ⟨0, rfl⟩
  have hcc : cc + u.1 = u.1 := by omega
  have hss : ss + u.2.1 = u.2.1 := by omega
  suffices hgo : W p l e (rm_X7_over (u9.1 - u.1) (u9.2.1 - u.2.1)) s m args below meth c s.heap [] cc ss QQ (F0 m 0 ls []) by rw [ecc, ess] at hgo; exact hgo
  have ⟨pu, qu, _, _⟩ := mo_X7_over hm
  have hB8 : ∀ (h : CH) (y0 : Int64) (y1 : Int64) (cc ss : Nat) (H : Heap) (locs : List Loc) (ls : Array Slot), m_X7_over_8 f h y0 y1 = some (r0, u9) → CW D dA A s h H locs → cc + u.1 = h.1 → ss + u.2.1 = h.2.1 → lv_has ls 1 [] → W p l e (rm_X7_over (u9.1 - u.1) (u9.2.1 - u.2.1)) s m args below meth c H locs cc ss QQ (F0 m 8 ls [.long y1, .long y0]) := by
    intro h y0 y1 cc ss H locs ls hm hw hcc hss hl
    have hmo := mo_X7_over_8  h y0 y1 _ hm
    have sb_ : h.1 ≤ u9.1 := hmo.1
    have tb_ : h.2.1 ≤ u9.2.1 := hmo.2.1
    rw [m_X7_over_8] at hm
    obtain ⟨g1, hm⟩ := gdE hm
    refine lv_ldiv hx hb dX7_over_8 (nzL_ne g1) ?_
    obtain ⟨er, eh⟩ := retE hm
    have ec : cc = u9.1 - u.1 := by rw [← eh]; omega
    have es : ss = u9.2.1 - u.2.1 := by rw [← eh]; omega
    rw [ec, es, ← hQ]
    exact W.lret (v := (y0 / y1)) hx hb hr (fun t ht hW => ⟨⟨(y0 / y1), h, rfl, ⟨er, eh⟩, ⟨by rw [ht]; exact hw.1, by rw [ht]; exact hw.2.1⟩⟩, hw.2.2.1.F ht⟩) hw.2.2.1.2.2 dX7_over_9
  rw [m_X7_over] at hm
  refine lv_aload_n hx hb dX7_over_0 rfl (lv_at hl 0 rfl) ?_
  obtain ⟨v1, ev1, hm⟩ := bdE hm
  refine cg_get C hw (oL_E ev1) rfl in_X7 (by decide) q762 dX7_over_1 ?_
  refine lv_aload_n hx hb dX7_over_4 rfl (lv_at hl 0 rfl) ?_
  obtain ⟨g2, hm⟩ := gdE hm
  obtain ⟨r4, h3, er4, hm⟩ := bd2E hm
  have lh3 := mo_X7_part er4
  have ph3 : u.1 ≤ h3.1 := lh3.1
  have qh3 : u.2.1 ≤ h3.2.1 := lh3.2.1
  have hmo := mo_X7_over_8   h3 v1 r4 _ hm
  have sh3 : h3.1 ≤ u9.1 := hmo.1
  have th3 : h3.2.1 ≤ u9.2.1 := hmo.2.1
  refine cg_calll hw lh3 (va_runV (As := []) (rest := [.long v1]) ⟨hx, hb, hml, hown, hts⟩ (w_X7_part l er4) (cw_X7_part hts q922 ⟨Nat.le_of_ble_eq_true rfl, Nat.le_of_ble_eq_true rfl⟩) (cg_preV C hw g2 rfl _) rfl rfl hl.1 rfl (lv_room (Nat.le_of_ble_eq_true rfl)) dX7_over_5 ⟨show cc + (h3.1 - u.1) ≤ u9.1 - u.1 by omega, show ss + (h3.2.1 - u.2.1) ≤ u9.2.1 - u.2.1 by omega⟩) (fun H locs hw => ?_)
  exact hB8 h3 v1 r4 _ _ _ _ _ hm hw (by omega) (by omega) (lv_sub hl [] rfl)
def m_X0_over_22 (f : Nat) (h : CH) (y0 : Int32) : Option (Int32 × CH) := some (y0, h)
theorem mo_X0_over_22 {f : Nat} : ∀ (h : CH) (y0 : Int32) (r : (Int32 × CH)), m_X0_over_22 f h y0 = some r → le2 h r.2 := by
  intro h y0 r hm
  rw [m_X0_over_22] at hm
  cases hm
  exact le2.rf
def m_X0_over_16 (f : Nat) (h : CH) (y0 : Int64) : Option (Int32 × CH) := m_X0_over_22 f h (Int64.toInt32 y0)
theorem mo_X0_over_16 {f : Nat} : ∀ (h : CH) (y0 : Int64) (r : (Int32 × CH)), m_X0_over_16 f h y0 = some r → le2 h r.2 := by
  intro h y0 r hm
  rw [m_X0_over_16] at hm
  exact (mo_X0_over_22  h (Int64.toInt32 y0) _ hm)
def m_X0_over_13 (f : Nat) (h : CH) (y0 : Nat) : Option (Int32 × CH) := if isC h y0 6 = true then
    bd2 (m_X6_over f h y0) fun r3 h2 =>
    m_X0_over_16 f h2 r3
    else gd (isC h y0 7) <|
    bd2 (m_X7_over f h y0) fun r6 h5 =>
    m_X0_over_16 f h5 r6
theorem mo_X0_over_13 {f : Nat} : ∀ (h : CH) (y0 : Nat) (r : (Int32 × CH)), m_X0_over_13 f h y0 = some r → le2 h r.2 := by
  intro h y0 r hm
  rw [m_X0_over_13] at hm
  by_cases c1 : isC h y0 6 = true
  · have hm := ifT hm c1
    obtain ⟨r3, h2, er3, hm⟩ := bd2E hm
    have lh2 := mo_X6_over er3
    exact (lh2.tr (mo_X0_over_16  h2 r3 _ hm))
  · have hm := ifF hm c1
    obtain ⟨g4, hm⟩ := gdE hm
    obtain ⟨r6, h5, er6, hm⟩ := bd2E hm
    have lh5 := mo_X7_over er6
    exact (lh5.tr (mo_X0_over_16  h5 r6 _ hm))
def m_X0_over_5 (f : Nat) (h : CH) (x0 : Nat) (x1 : Int32) (y0 : Int32) : Option (Int32 × CH) := if y0 = 0 then
    m_X0_over_22 f h (-2 : Int32)
    else gd (isC h x0 1) <|
    bd2 (m_X0_at f h x0 x1) fun a4 h3 =>
    m_X0_over_13 f h3 a4
theorem mo_X0_over_5 {f : Nat} : ∀ (h : CH) (x0 : Nat) (x1 : Int32) (y0 : Int32) (r : (Int32 × CH)), m_X0_over_5 f h x0 x1 y0 = some r → le2 h r.2 := by
  intro h x0 x1 y0 r hm
  rw [m_X0_over_5] at hm
  by_cases c1 : y0 = 0
  · have hm := ifT hm c1
    exact (mo_X0_over_22  h (-2 : Int32) _ hm)
  · have hm := ifF hm c1
    obtain ⟨g2, hm⟩ := gdE hm
    obtain ⟨a4, h3, ea4, hm⟩ := bd2E hm
    have lh3 := mo_X0_at ea4
    exact (lh3.tr (mo_X0_over_13  h3 a4 _ hm))
def m_X0_over (f : Nat) (u : CH) (x0 : Nat) (x1 : Int32) : Option (Int32 × CH) := gd (isC u x0 1) <|
    bd2 (m_X0_isLattice f u x0 x1) fun r3 h2 =>
    m_X0_over_5 f h2 x0 x1 r3
theorem mo_X0_over {f : Nat} {u : CH} {x0 : Nat} {x1 : Int32} {r0 : Int32} {u9 : CH} (hm : m_X0_over f u x0 x1 = some (r0, u9)) : le2 u u9 := by
  rw [m_X0_over] at hm
  obtain ⟨g1, hm⟩ := gdE hm
  obtain ⟨r3, h2, er3, hm⟩ := bd2E hm
  have lh2 := mo_X0_isLattice er3
  exact (lh2.tr (mo_X0_over_5  h2 x0 x1 r3 _ hm))
abbrev rm_X0_over (mc ms : Nat) : Room := { frames := 105, cells := mc, slots := ms, locals := 4127 }
theorem cw_X0_over {R : Room} {s : State} {args : Array Value} {own : String} {idx mc ms : Nat} (hts : ∀ w ∈ lw_all, w.before args s = true) (hl : Cond.methodLink own idx yX0_over ∈ lw_all) (hR : 105 + 1 ≤ R.frames ∧ 8 + (2 + 11) + 4127 ≤ R.locals) : CallW R s args own RX0 idx yX0_over cX0_over 2 (Option.some Jvm.ClassFile.FieldType.int) (ws_ yX0_over cX0_over 2 (Option.some Jvm.ClassFile.FieldType.int)) (rm_X0_over mc ms) mc ms 1 := cwV 1 hts (lw_V hl q942 q943 q119 q944) rfl rfl rfl (by decide +kernel) hR
set_option maxHeartbeats 4000000 in
set_option maxRecDepth 100000 in
theorem w_X0_over (l : Launch) {D : va_G} {dA : Nat → ClassId} {A : Nat → Prop} {f : Nat} {u u9 : CH} {r0 : Int32} {x0 : Nat} {x1 : Int32} (hm : m_X0_over f u x0 x1 = some (r0, u9)) : Met l yX0_over (ws_ yX0_over cX0_over 2 (Option.some Jvm.ClassFile.FieldType.int)) (rm_X0_over (u9.1 - u.1) (u9.2.1 - u.2.1)) (va_Pc [.ref x0, .int x1] (CPre D dA A u)) (va_Qi (fun r u => r = r0 ∧ u = u9) (CPost D dA A) A) (u9.1 - u.1) (u9.2.1 - u.2.1) A := by
  refine Met.ofW (cc := cX0_over) (maxL := 2) (ret := (Option.some Jvm.ClassFile.FieldType.int)) (by decide) rfl ?_
  intro p e s m args below meth c s₁ B hml hv
  have hx := B.exec
  have hb := B.bytes
  have hr := B.returns
  have hts := atoms_spec (ws := (ws_ yX0_over cX0_over 2 (Option.some Jvm.ClassFile.FieldType.int))) B.pre
  have hts : ∀ w ∈ lw_all, w.before args s = true := fun w h => hts w (List.mem_cons_of_mem _ h)
  have hown : s.vm.findClass RX0 = some m.cls := findClass_of_methodNamed B.named
  have hlocks := B.notSynchronized
  obtain ⟨hav, hv⟩ := hv
  have C : CX p s m args c cX0_over RX0 D dA := ⟨hx, hb, hown, hts, hv.2⟩
  have hw : CW D dA A s u s.heap [] := hv.1
  generalize hQ : MQ below (va_Qi (fun r u => r = r0 ∧ u = u9) (CPost D dA A) A) args s (u9.1 - u.1) (u9.2.1 - u.2.1) A = QQ
  have hent := lg_entry_eq m [.ref x0, .int x1] 2
  rw [← hav] at hent
  rw [hent]
  have hl := lv_entry ([.ref x0, .int x1]) (n := 2) (Nat.le_of_ble_eq_true rfl)
  generalize (lg_sl ([.ref x0, .int x1]) ++ List.replicate (2 - (lg_sl ([.ref x0, .int x1])).length) Slot.unset).toArray = ls at hl ⊢
  have hl : lv_has ls 2 [(0, .ref x0), (1, .int x1)] := hl
  obtain ⟨cc, ecc⟩ : ∃ z : Nat, z = 0 := ⟨0, rfl⟩
  obtain ⟨ss, ess⟩ : ∃ z : Nat, z = 0 := ⟨0, rfl⟩
  have hcc : cc + u.1 = u.1 := by omega
  have hss : ss + u.2.1 = u.2.1 := by omega
  suffices hgo : W p l e (rm_X0_over (u9.1 - u.1) (u9.2.1 - u.2.1)) s m args below meth c s.heap [] cc ss QQ (F0 m 0 ls []) by rw [ecc, ess] at hgo; exact hgo
  have ⟨pu, qu, _, _⟩ := mo_X0_over hm
  have hB22 : ∀ (h : CH) (y0 : Int32) (cc ss : Nat) (H : Heap) (locs : List Loc) (ls : Array Slot), m_X0_over_22 f h y0 = some (r0, u9) → CW D dA A s h H locs → cc + u.1 = h.1 → ss + u.2.1 = h.2.1 → lv_has ls 2 [] → W p l e (rm_X0_over (u9.1 - u.1) (u9.2.1 - u.2.1)) s m args below meth c H locs cc ss QQ (F0 m 22 ls [.int y0]) := by
    intro h y0 cc ss H locs ls hm hw hcc hss hl
    have hmo := mo_X0_over_22  h y0 _ hm
    have sb_ : h.1 ≤ u9.1 := hmo.1
    have tb_ : h.2.1 ≤ u9.2.1 := hmo.2.1
    rw [m_X0_over_22] at hm
    obtain ⟨er, eh⟩ := retE hm
    have ec : cc = u9.1 - u.1 := by rw [← eh]; omega
    have es : ss = u9.2.1 - u.2.1 := by rw [← eh]; omega
    rw [ec, es, ← hQ]
    exact W.iret (v := y0) hx hb hr (fun t ht hW => ⟨⟨y0, h, rfl, ⟨er, eh⟩, ⟨by rw [ht]; exact hw.1, by rw [ht]; exact hw.2.1⟩⟩, hw.2.2.1.F ht⟩) hw.2.2.1.2.2 dX0_over_22
  have hB16 : ∀ (h : CH) (y0 : Int64) (cc ss : Nat) (H : Heap) (locs : List Loc) (ls : Array Slot), m_X0_over_16 f h y0 = some (r0, u9) → CW D dA A s h H locs → cc + u.1 = h.1 → ss + u.2.1 = h.2.1 → lv_has ls 2 [] → W p l e (rm_X0_over (u9.1 - u.1) (u9.2.1 - u.2.1)) s m args below meth c H locs cc ss QQ (F0 m 16 ls [.long y0]) := by
    intro h y0 cc ss H locs ls hm hw hcc hss hl
    have hmo := mo_X0_over_16  h y0 _ hm
    have sb_ : h.1 ≤ u9.1 := hmo.1
    have tb_ : h.2.1 ≤ u9.2.1 := hmo.2.1
    rw [m_X0_over_16] at hm
    refine lv_l2i hx hb dX0_over_16 rfl ?_
    refine lv_goto (tgt := 22) hx hb dX0_over_17 (by decide) ?_
    exact hB22 h (Int64.toInt32 y0) _ _ _ _ _ hm hw (by omega) (by omega) (lv_sub hl [] rfl)
  have hB13 : ∀ (h : CH) (y0 : Nat) (cc ss : Nat) (H : Heap) (locs : List Loc) (ls : Array Slot), m_X0_over_13 f h y0 = some (r0, u9) → CW D dA A s h H locs → cc + u.1 = h.1 → ss + u.2.1 = h.2.1 → lv_has ls 2 [] → W p l e (rm_X0_over (u9.1 - u.1) (u9.2.1 - u.2.1)) s m args below meth c H locs cc ss QQ (F0 m 13 ls [.ref y0]) := by
    intro h y0 cc ss H locs ls hm hw hcc hss hl
    have hmo := mo_X0_over_13  h y0 _ hm
    have sb_ : h.1 ≤ u9.1 := hmo.1
    have tb_ : h.2.1 ≤ u9.2.1 := hmo.2.1
    rw [m_X0_over_13] at hm
    by_cases c1 : isC h y0 6 = true
    · have hm := ifT hm c1
      obtain ⟨r3, h2, er3, hm⟩ := bd2E hm
      have lh2 := mo_X6_over er3
      have ph2 : h.1 ≤ h2.1 := lh2.1
      have qh2 : h.2.1 ≤ h2.2.1 := lh2.2.1
      have hmo := mo_X0_over_16   h2 r3 _ hm
      have sh2 : h2.1 ≤ u9.1 := hmo.1
      have th2 : h2.2.1 ≤ u9.2.1 := hmo.2.1
      refine cg_calll hw lh2 (va_runV (As := []) (rest := []) ⟨hx, hb, hml, hown, hts⟩ (w_X6_over l er3) (cw_X6_over hts q945 ⟨Nat.le_of_ble_eq_true rfl, Nat.le_of_ble_eq_true rfl⟩) (cg_preV C hw c1 rfl _) rfl rfl hl.1 rfl (lv_room (Nat.le_of_ble_eq_true rfl)) dX0_over_13 ⟨show cc + (h2.1 - h.1) ≤ u9.1 - u.1 by omega, show ss + (h2.2.1 - h.2.1) ≤ u9.2.1 - u.2.1 by omega⟩) (fun H locs hw => ?_)
      exact hB16 h2 r3 _ _ _ _ _ hm hw (by omega) (by omega) (lv_sub hl [] rfl)
    · have hm := ifF hm c1
      obtain ⟨g4, hm⟩ := gdE hm
      obtain ⟨r6, h5, er6, hm⟩ := bd2E hm
      have lh5 := mo_X7_over er6
      have ph5 : h.1 ≤ h5.1 := lh5.1
      have qh5 : h.2.1 ≤ h5.2.1 := lh5.2.1
      have hmo := mo_X0_over_16   h5 r6 _ hm
      have sh5 : h5.1 ≤ u9.1 := hmo.1
      have th5 : h5.2.1 ≤ u9.2.1 := hmo.2.1
      refine cg_calll hw lh5 (va_runU (As := []) (rest := []) ⟨hx, hb, hml, hown, hts⟩ (w_X7_over l er6) (va_cwO 0 hts (lwO q945 q948 q946 q949 q950 q144 q951) rfl rfl rfl q952 (by decide +kernel) ⟨Nat.le_of_ble_eq_true rfl, Nat.le_of_ble_eq_true rfl⟩) (cg_preV C hw g4 rfl _) rfl rfl hl.1 rfl (lv_room (Nat.le_of_ble_eq_true rfl)) dX0_over_13 ⟨show cc + (h5.1 - h.1) ≤ u9.1 - u.1 by omega, show ss + (h5.2.1 - h.2.1) ≤ u9.2.1 - u.2.1 by omega⟩) (fun H locs hw => ?_)
      exact hB16 h5 r6 _ _ _ _ _ hm hw (by omega) (by omega) (lv_sub hl [] rfl)
  have hB5 : ∀ (h : CH) (x0 : Nat) (x1 : Int32) (y0 : Int32) (cc ss : Nat) (H : Heap) (locs : List Loc) (ls : Array Slot), m_X0_over_5 f h x0 x1 y0 = some (r0, u9) → CW D dA A s h H locs → cc + u.1 = h.1 → ss + u.2.1 = h.2.1 → lv_has ls 2 [(0, .ref x0), (1, .int x1)] → W p l e (rm_X0_over (u9.1 - u.1) (u9.2.1 - u.2.1)) s m args below meth c H locs cc ss QQ (F0 m 5 ls [.int y0]) := by
    intro h x0 x1 y0 cc ss H locs ls hm hw hcc hss hl
    have hmo := mo_X0_over_5  h x0 x1 y0 _ hm
    have sb_ : h.1 ≤ u9.1 := hmo.1
    have tb_ : h.2.1 ≤ u9.2.1 := hmo.2.1
    rw [m_X0_over_5] at hm
    refine lv_if_eq (tgt := 20) hx hb dX0_over_5 (by decide) (fun c1 => ?_) (fun c1 => ?_)
    · have hm := ifT hm c1
      refine lv_bipush (v := -2) hx hb dX0_over_20 (by decide) ?_
      exact hB22 h (-2 : Int32) _ _ _ _ _ hm hw (by omega) (by omega) (lv_sub hl [] rfl)
    · have hm := ifF hm c1
      refine lv_aload_n hx hb dX0_over_8 rfl (lv_at hl 0 rfl) ?_
      refine lv_iload_n hx hb dX0_over_9 rfl (lv_at hl 1 rfl) ?_
      obtain ⟨g2, hm⟩ := gdE hm
      obtain ⟨a4, h3, ea4, hm⟩ := bd2E hm
      have lh3 := mo_X0_at ea4
      have ph3 : h.1 ≤ h3.1 := lh3.1
      have qh3 : h.2.1 ≤ h3.2.1 := lh3.2.1
      have hmo := mo_X0_over_13   h3 a4 _ hm
      have sh3 : h3.1 ≤ u9.1 := hmo.1
      have th3 : h3.2.1 ≤ u9.2.1 := hmo.2.1
      refine cg_callr hw lh3 (va_runV (As := [.int x1]) (rest := []) ⟨hx, hb, hml, hown, hts⟩ (w_X0_at l ea4) (cw_X0_at hts q900 ⟨Nat.le_of_ble_eq_true rfl, Nat.le_of_ble_eq_true rfl⟩) (cg_preV C hw g2 rfl _) rfl rfl hl.1 rfl (lv_room (Nat.le_of_ble_eq_true rfl)) dX0_over_10 ⟨show cc + (h3.1 - h.1) ≤ u9.1 - u.1 by omega, show ss + (h3.2.1 - h.2.1) ≤ u9.2.1 - u.2.1 by omega⟩) (fun H locs hw => ?_)
      exact hB13 h3 a4 _ _ _ _ _ hm hw (by omega) (by omega) (lv_sub hl [] rfl)
  rw [m_X0_over] at hm
  refine lv_aload_n hx hb dX0_over_0 rfl (lv_at hl 0 rfl) ?_
  refine lv_iload_n hx hb dX0_over_1 rfl (lv_at hl 1 rfl) ?_
  obtain ⟨g1, hm⟩ := gdE hm
  obtain ⟨r3, h2, er3, hm⟩ := bd2E hm
  have lh2 := mo_X0_isLattice er3
  have ph2 : u.1 ≤ h2.1 := lh2.1
  have qh2 : u.2.1 ≤ h2.2.1 := lh2.2.1
  have hmo := mo_X0_over_5   h2 x0 x1 r3 _ hm
  have sh2 : h2.1 ≤ u9.1 := hmo.1
  have th2 : h2.2.1 ≤ u9.2.1 := hmo.2.1
  refine cg_calli hw lh2 (va_runV (As := [.int x1]) (rest := []) ⟨hx, hb, hml, hown, hts⟩ (w_X0_isLattice l er3) (cw_X0_isLattice hts q892 ⟨Nat.le_of_ble_eq_true rfl, Nat.le_of_ble_eq_true rfl⟩) (cg_preV C hw g1 rfl _) rfl rfl hl.1 rfl (lv_room (Nat.le_of_ble_eq_true rfl)) dX0_over_2 ⟨show cc + (h2.1 - u.1) ≤ u9.1 - u.1 by omega, show ss + (h2.2.1 - u.2.1) ≤ u9.2.1 - u.2.1 by omega⟩) (fun H locs hw => ?_)
  exact hB5 h2 x0 x1 r3 _ _ _ _ _ hm hw (by omega) (by omega) (lv_sub hl [0, 1] rfl)
def m_X2_copy_50 (f : Nat) (h : CH) (x1 : Nat) : Option (Nat × CH) := some (x1, h)
theorem mo_X2_copy_50 {f : Nat} : ∀ (h : CH) (x1 : Nat) (r : (Nat × CH)), m_X2_copy_50 f h x1 = some r → le2 h r.2 := by
  intro h x1 r hm
  rw [m_X2_copy_50] at hm
  cases hm
  exact le2.rf
def m_X2_copy_44 (f : Nat) (k10 : CH → Nat → Nat → Int32 → Option (Nat × CH)) (h : CH) (x0 : Nat) (x1 : Nat) (x2 : Int32) : Option (Nat × CH) := nmv ((x2 + 1) : Int32) fun v1 =>
    k10 h x0 x1 v1
theorem mo_X2_copy_44 {f : Nat} {k10 : CH → Nat → Nat → Int32 → Option (Nat × CH)} (hk10 : ∀ (h : CH) (x0 : Nat) (x1 : Nat) (x2 : Int32) (r : (Nat × CH)), k10 h x0 x1 x2 = some r → le2 h r.2) : ∀ (h : CH) (x0 : Nat) (x1 : Nat) (x2 : Int32) (r : (Nat × CH)), m_X2_copy_44 f k10 h x0 x1 x2 = some r → le2 h r.2 := by
  intro h x0 x1 x2 r hm
  rw [m_X2_copy_44] at hm
  obtain ⟨v1, ev1, hm⟩ := nmE hm
  exact (hk10 h x0 x1 v1 _ hm)
def m_X2_copy_17 (f : Nat) (k10 : CH → Nat → Nat → Int32 → Option (Nat × CH)) : Nat → CH → Nat → Nat → Int32 → Int32 → Option (Nat × CH)
  | 0, _, _, _, _, _ => none
  | n17 + 1, h, x0, x1, x2, x3 => if (3 : Int32) ≤ x3 then
    m_X2_copy_44 f k10 h x0 x1 x2
    else bd (oR h 3 0 x1) fun a2 =>
    bd (aR h 4 a2 x2) fun a3 =>
    bd (oR h 3 0 x0) fun a4 =>
    bd (aR h 4 a4 x2) fun a5 =>
    bd (aL h 1 a5 x3) fun v6 =>
    bd (uL h 1 a3 x3 v6) fun h7 =>
    nmv ((x3 + 1) : Int32) fun v8 =>
    m_X2_copy_17 f k10 n17 h7 x0 x1 x2 v8
theorem mo_X2_copy_17 {f : Nat} {k10 : CH → Nat → Nat → Int32 → Option (Nat × CH)} (hk10 : ∀ (h : CH) (x0 : Nat) (x1 : Nat) (x2 : Int32) (r : (Nat × CH)), k10 h x0 x1 x2 = some r → le2 h r.2) : ∀ (n17 : Nat) (h : CH) (x0 : Nat) (x1 : Nat) (x2 : Int32) (x3 : Int32) (r : (Nat × CH)), m_X2_copy_17 f k10 n17 h x0 x1 x2 x3 = some r → le2 h r.2 := by
  intro n17
  induction n17 with
  | zero => intro h x0 x1 x2 x3 r hm; rw [m_X2_copy_17] at hm; exact noE hm
  | succ n17 ihm =>
    intro h x0 x1 x2 x3 r hm
    rw [m_X2_copy_17] at hm
    by_cases c1 : (3 : Int32) ≤ x3
    · have hm := ifT hm c1
      exact (mo_X2_copy_44 hk10 h x0 x1 x2 _ hm)
    · have hm := ifF hm c1
      obtain ⟨a2, ea2, hm⟩ := bdE hm
      obtain ⟨a3, ea3, hm⟩ := bdE hm
      obtain ⟨a4, ea4, hm⟩ := bdE hm
      obtain ⟨a5, ea5, hm⟩ := bdE hm
      obtain ⟨v6, ev6, hm⟩ := bdE hm
      obtain ⟨h7, eh7, hm⟩ := bdE hm
      have lh7 := uL_le eh7
      obtain ⟨v8, ev8, hm⟩ := nmE hm
      exact (lh7.tr (ihm h7 x0 x1 x2 v8 _ hm))
def m_X2_copy_10 (f : Nat) : Nat → CH → Nat → Nat → Int32 → Option (Nat × CH)
  | 0, _, _, _, _ => none
  | n10 + 1, h, x0, x1, x2 => if (3 : Int32) ≤ x2 then
    m_X2_copy_50 f h x1
    else m_X2_copy_17 f (m_X2_copy_10 f n10) f h x0 x1 x2 (0 : Int32)
theorem mo_X2_copy_10 {f : Nat} : ∀ (n10 : Nat) (h : CH) (x0 : Nat) (x1 : Nat) (x2 : Int32) (r : (Nat × CH)), m_X2_copy_10 f n10 h x0 x1 x2 = some r → le2 h r.2 := by
  intro n10
  induction n10 with
  | zero => intro h x0 x1 x2 r hm; rw [m_X2_copy_10] at hm; exact noE hm
  | succ n10 ihm =>
    intro h x0 x1 x2 r hm
    rw [m_X2_copy_10] at hm
    by_cases c1 : (3 : Int32) ≤ x2
    · have hm := ifT hm c1
      exact (mo_X2_copy_50  h x1 _ hm)
    · have hm := ifF hm c1
      exact (mo_X2_copy_17 ihm f h x0 x1 x2 (0 : Int32) _ hm)
def m_X2_copy_7 (f : Nat) (h : CH) (x0 : Nat) (y0 : Nat) : Option (Nat × CH) := m_X2_copy_10 f f h x0 y0 (0 : Int32)
theorem mo_X2_copy_7 {f : Nat} : ∀ (h : CH) (x0 : Nat) (y0 : Nat) (r : (Nat × CH)), m_X2_copy_7 f h x0 y0 = some r → le2 h r.2 := by
  intro h x0 y0 r hm
  rw [m_X2_copy_7] at hm
  exact (mo_X2_copy_10  f h x0 y0 (0 : Int32) _ hm)
def m_X2_copy_3 (f : Nat) (h : CH) (x0 : Nat) (y0 : Nat) : Option (Nat × CH) := bd (m_X2_init f h y0) fun h1 =>
    m_X2_copy_7 f h1 x0 y0
theorem mo_X2_copy_3 {f : Nat} : ∀ (h : CH) (x0 : Nat) (y0 : Nat) (r : (Nat × CH)), m_X2_copy_3 f h x0 y0 = some r → le2 h r.2 := by
  intro h x0 y0 r hm
  rw [m_X2_copy_3] at hm
  obtain ⟨h1, eh1, hm⟩ := bdE hm
  have lh1 := mo_X2_init eh1
  exact (lh1.tr (mo_X2_copy_7  h1 x0 y0 _ hm))
def m_X2_copy (f : Nat) (u : CH) (x0 : Nat) : Option (Nat × CH) := nmv (cn u 1 (.inl (3, [.null]))) fun h1 =>
    nmv (u.1 : Nat) fun a2 =>
    m_X2_copy_3 f h1 x0 a2
theorem mo_X2_copy {f : Nat} {u : CH} {x0 : Nat} {r0 : Nat} {u9 : CH} (hm : m_X2_copy f u x0 = some (r0, u9)) : le2 u u9 := by
  rw [m_X2_copy] at hm
  obtain ⟨h1, eh1, hm⟩ := nmE hm
  have lh1 := cn_le eh1
  obtain ⟨a2, ea2, hm⟩ := nmE hm
  exact (lh1.tr (mo_X2_copy_3  h1 x0 a2 _ hm))
abbrev rm_X2_copy (mc ms : Nat) : Room := { frames := 2, cells := mc, slots := ms, locals := 40 }
theorem cw_X2_copy {R : Room} {s : State} {args : Array Value} {own : String} {idx mc ms : Nat} (hts : ∀ w ∈ lw_all, w.before args s = true) (hl : Cond.methodLink own idx yX2_copy ∈ lw_all) (hR : 2 + 1 ≤ R.frames ∧ 8 + (4 + 11) + 40 ≤ R.locals) : CallW R s args own RX2 idx yX2_copy cX2_copy 4 (Option.some (Jvm.ClassFile.FieldType.object "CoincideBench$Rows")) (ws_ yX2_copy cX2_copy 4 (Option.some (Jvm.ClassFile.FieldType.object "CoincideBench$Rows"))) (rm_X2_copy mc ms) mc ms 0 := cwV 0 hts (lw_V hl q968 q969 q124 q970) rfl rfl rfl (by decide +kernel) hR
set_option maxHeartbeats 4000000 in
set_option maxRecDepth 100000 in
theorem w_X2_copy (l : Launch) {D : va_G} {dA : Nat → ClassId} {A : Nat → Prop} {f : Nat} {u u9 : CH} {r0 : Nat} {x0 : Nat} (hm : m_X2_copy f u x0 = some (r0, u9)) : Met l yX2_copy (ws_ yX2_copy cX2_copy 4 (Option.some (Jvm.ClassFile.FieldType.object "CoincideBench$Rows"))) (rm_X2_copy (u9.1 - u.1) (u9.2.1 - u.2.1)) (va_Pc [.ref x0] (CPre D dA A u)) (va_Qr (fun u => u = u9) (fun u r t => r = r0 ∧ CPost D dA A u t) A) (u9.1 - u.1) (u9.2.1 - u.2.1) A := by
  refine Met.ofW (cc := cX2_copy) (maxL := 4) (ret := (Option.some (Jvm.ClassFile.FieldType.object "CoincideBench$Rows"))) (by decide) rfl ?_
  intro p e s m args below meth c s₁ B hml hv
  have hx := B.exec
  have hb := B.bytes
  have hr := B.returns
  have hts := atoms_spec (ws := (ws_ yX2_copy cX2_copy 4 (Option.some (Jvm.ClassFile.FieldType.object "CoincideBench$Rows")))) B.pre
  have hts : ∀ w ∈ lw_all, w.before args s = true := fun w h => hts w (List.mem_cons_of_mem _ h)
  have hown : s.vm.findClass RX2 = some m.cls := findClass_of_methodNamed B.named
  have hlocks := B.notSynchronized
  obtain ⟨hav, hv⟩ := hv
  have C : CX p s m args c cX2_copy RX2 D dA := ⟨hx, hb, hown, hts, hv.2⟩
  have hw : CW D dA A s u s.heap [] := hv.1
  generalize hQ : MQ below (va_Qr (fun u => u = u9) (fun u r t => r = r0 ∧ CPost D dA A u t) A) args s (u9.1 - u.1) (u9.2.1 - u.2.1) A = QQ
  have hent := lg_entry_eq m [.ref x0] 4
  rw [← hav] at hent
  rw [hent]
  have hl := lv_entry ([.ref x0]) (n := 4) (Nat.le_of_ble_eq_true rfl)
  generalize (lg_sl ([.ref x0]) ++ List.replicate (4 - (lg_sl ([.ref x0])).length) Slot.unset).toArray = ls at hl ⊢
  have hl : lv_has ls 4 [(0, .ref x0)] := hl
  obtain ⟨cc, ecc⟩ : ∃ z : Nat, z = 0 := ⟨0, rfl⟩
  obtain ⟨ss, ess⟩ : ∃ z : Nat, z = 0 := ⟨0, rfl⟩
  have hcc : cc + u.1 = u.1 := by omega
  have hss : ss + u.2.1 = u.2.1 := by omega
  suffices hgo : W p l e (rm_X2_copy (u9.1 - u.1) (u9.2.1 - u.2.1)) s m args below meth c s.heap [] cc ss QQ (F0 m 0 ls []) by rw [ecc, ess] at hgo; exact hgo
  have ⟨pu, qu, _, _⟩ := mo_X2_copy hm
  have hB50 : ∀ (h : CH) (x1 : Nat) (cc ss : Nat) (H : Heap) (locs : List Loc) (ls : Array Slot), m_X2_copy_50 f h x1 = some (r0, u9) → CW D dA A s h H locs → cc + u.1 = h.1 → ss + u.2.1 = h.2.1 → lv_has ls 4 [(1, .ref x1)] → W p l e (rm_X2_copy (u9.1 - u.1) (u9.2.1 - u.2.1)) s m args below meth c H locs cc ss QQ (F0 m 50 ls []) := by
    intro h x1 cc ss H locs ls hm hw hcc hss hl
    have hmo := mo_X2_copy_50  h x1 _ hm
    have sb_ : h.1 ≤ u9.1 := hmo.1
    have tb_ : h.2.1 ≤ u9.2.1 := hmo.2.1
    rw [m_X2_copy_50] at hm
    refine lv_aload_n hx hb dX2_copy_50 rfl (lv_at hl 0 rfl) ?_
    obtain ⟨er, eh⟩ := retE hm
    have ec : cc = u9.1 - u.1 := by rw [← eh]; omega
    have es : ss = u9.2.1 - u.2.1 := by rw [← eh]; omega
    rw [ec, es, ← hQ]
    exact W.aret (v := .ref x1) hx hb hr (Or.inl ⟨_, rfl⟩) (Or.inr ⟨_, rfl⟩) (fun t ht hW => ⟨⟨h, x1, rfl, eh, er, ⟨by rw [ht]; exact hw.1, by rw [ht]; exact hw.2.1⟩⟩, hw.2.2.1.F ht⟩) hw.2.2.1.2.2 dX2_copy_51
  have hB10 : ∀ (n10 : Nat), ∀ (h : CH) (x0 : Nat) (x1 : Nat) (x2 : Int32) (cc ss : Nat) (H : Heap) (locs : List Loc) (ls : Array Slot), m_X2_copy_10 f n10 h x0 x1 x2 = some (r0, u9) → CW D dA A s h H locs → cc + u.1 = h.1 → ss + u.2.1 = h.2.1 → lv_has ls 4 [(0, .ref x0), (1, .ref x1), (2, .int x2)] → W p l e (rm_X2_copy (u9.1 - u.1) (u9.2.1 - u.2.1)) s m args below meth c H locs cc ss QQ (F0 m 10 ls []) := by
    intro n10
    induction n10 with
    | zero => intro h x0 x1 x2 cc ss H locs ls hm hw hcc hss hl; rw [m_X2_copy_10] at hm; exact noE hm
    | succ n10 ih10 =>
      have hB44 : ∀ (h : CH) (x0 : Nat) (x1 : Nat) (x2 : Int32) (cc ss : Nat) (H : Heap) (locs : List Loc) (ls : Array Slot), m_X2_copy_44 f (m_X2_copy_10 f n10) h x0 x1 x2 = some (r0, u9) → CW D dA A s h H locs → cc + u.1 = h.1 → ss + u.2.1 = h.2.1 → lv_has ls 4 [(0, .ref x0), (1, .ref x1), (2, .int x2)] → W p l e (rm_X2_copy (u9.1 - u.1) (u9.2.1 - u.2.1)) s m args below meth c H locs cc ss QQ (F0 m 44 ls []) := by
        intro h x0 x1 x2 cc ss H locs ls hm hw hcc hss hl
        have hmo := mo_X2_copy_44 (mo_X2_copy_10 n10) h x0 x1 x2 _ hm
        have sb_ : h.1 ≤ u9.1 := hmo.1
        have tb_ : h.2.1 ≤ u9.2.1 := hmo.2.1
        rw [m_X2_copy_44] at hm
        obtain ⟨v1, ev1, hm⟩ := nmE hm
        refine lv_iinc (v := v1) (lv' := [(2, .int v1), (0, .ref x0), (1, .ref x1)]) hx hb dX2_copy_44 hl (k := 2) rfl (by rw [ev1]; rfl) (by decide) rfl (fun ls hl => ?_)
        refine lv_goto (tgt := 10) hx hb dX2_copy_47 (by decide) ?_
        exact ih10 h x0 x1 v1 _ _ _ _ _ hm hw (by omega) (by omega) (lv_sub hl [1, 2, 0] rfl)
      have hB17 : ∀ (n17 : Nat), ∀ (h : CH) (x0 : Nat) (x1 : Nat) (x2 : Int32) (x3 : Int32) (cc ss : Nat) (H : Heap) (locs : List Loc) (ls : Array Slot), m_X2_copy_17 f (m_X2_copy_10 f n10) n17 h x0 x1 x2 x3 = some (r0, u9) → CW D dA A s h H locs → cc + u.1 = h.1 → ss + u.2.1 = h.2.1 → lv_has ls 4 [(0, .ref x0), (1, .ref x1), (2, .int x2), (3, .int x3)] → W p l e (rm_X2_copy (u9.1 - u.1) (u9.2.1 - u.2.1)) s m args below meth c H locs cc ss QQ (F0 m 17 ls []) := by
        intro n17
        induction n17 with
        | zero => intro h x0 x1 x2 x3 cc ss H locs ls hm hw hcc hss hl; rw [m_X2_copy_17] at hm; exact noE hm
        | succ n17 ih17 =>
          intro h x0 x1 x2 x3 cc ss H locs ls hm hw hcc hss hl
          have hmo := mo_X2_copy_17 (mo_X2_copy_10 n10) (n17 + 1) h x0 x1 x2 x3 _ hm
          have sb_ : h.1 ≤ u9.1 := hmo.1
          have tb_ : h.2.1 ≤ u9.2.1 := hmo.2.1
          rw [m_X2_copy_17] at hm
          refine lv_iload_n hx hb dX2_copy_17 rfl (lv_at hl 3 rfl) ?_
          refine lv_iconst (v := 3) hx hb dX2_copy_18 (by decide) ?_
          refine lv_icmp_ge (tgt := 44) hx hb dX2_copy_19 (by decide) (fun c1 => ?_) (fun c1 => ?_)
          · have hm := ifT hm c1
            exact hB44 h x0 x1 x2 _ _ _ _ _ hm hw (by omega) (by omega) (lv_sub hl [0, 1, 2] rfl)
          · have hm := ifF hm c1
            refine lv_aload_n hx hb dX2_copy_22 rfl (lv_at hl 1 rfl) ?_
            obtain ⟨a2, ea2, hm⟩ := bdE hm
            refine cg_get C hw (oR_E ea2) rfl in_X2 (by decide) q205 dX2_copy_23 ?_
            refine lv_iload_n hx hb dX2_copy_26 rfl (lv_at hl 2 rfl) ?_
            obtain ⟨a3, ea3, hm⟩ := bdE hm
            refine cg_aaldA C hw (ty := .array .long) rfl rfl (aR_E ea3) dX2_copy_27 ?_
            refine lv_iload_n hx hb dX2_copy_28 rfl (lv_at hl 3 rfl) ?_
            refine lv_aload_n hx hb dX2_copy_29 rfl (lv_at hl 0 rfl) ?_
            obtain ⟨a4, ea4, hm⟩ := bdE hm
            refine cg_get C hw (oR_E ea4) rfl in_X2 (by decide) q205 dX2_copy_30 ?_
            refine lv_iload_n hx hb dX2_copy_33 rfl (lv_at hl 2 rfl) ?_
            obtain ⟨a5, ea5, hm⟩ := bdE hm
            refine cg_aaldA C hw (ty := .array .long) rfl rfl (aR_E ea5) dX2_copy_34 ?_
            refine lv_iload_n hx hb dX2_copy_35 rfl (lv_at hl 3 rfl) ?_
            obtain ⟨v6, ev6, hm⟩ := bdE hm
            refine cg_lald C hw ev6 dX2_copy_36 ?_
            obtain ⟨h7, eh7, hm⟩ := bdE hm
            refine cg_last C hw eh7 dX2_copy_37 (fun H locs hw => ?_)
            have zh7 := uL_sz eh7
            obtain ⟨v8, ev8, hm⟩ := nmE hm
            refine lv_iinc (v := v8) (lv' := [(3, .int v8), (0, .ref x0), (1, .ref x1), (2, .int x2)]) hx hb dX2_copy_38 hl (k := 3) rfl (by rw [ev8]; rfl) (by decide) rfl (fun ls hl => ?_)
            refine lv_goto (tgt := 17) hx hb dX2_copy_41 (by decide) ?_
            exact ih17 h7 x0 x1 x2 v8 _ _ _ _ _ hm hw (by omega) (by omega) (lv_sub hl [1, 2, 3, 0] rfl)
      intro h x0 x1 x2 cc ss H locs ls hm hw hcc hss hl
      have hmo := mo_X2_copy_10  (n10 + 1) h x0 x1 x2 _ hm
      have sb_ : h.1 ≤ u9.1 := hmo.1
      have tb_ : h.2.1 ≤ u9.2.1 := hmo.2.1
      rw [m_X2_copy_10] at hm
      refine lv_iload_n hx hb dX2_copy_10 rfl (lv_at hl 2 rfl) ?_
      refine lv_iconst (v := 3) hx hb dX2_copy_11 (by decide) ?_
      refine lv_icmp_ge (tgt := 50) hx hb dX2_copy_12 (by decide) (fun c1 => ?_) (fun c1 => ?_)
      · have hm := ifT hm c1
        exact hB50 h x1 _ _ _ _ _ hm hw (by omega) (by omega) (lv_sub hl [1] rfl)
      · have hm := ifF hm c1
        refine lv_iconst (v := 0) hx hb dX2_copy_15 (by decide) ?_
        refine lv_istore_n (lv' := [(3, .int (0 : Int32)), (0, .ref x0), (1, .ref x1), (2, .int x2)]) hx hb dX2_copy_16 rfl hl (by decide) rfl (fun ls hl => ?_)
        exact hB17 f h x0 x1 x2 (0 : Int32) _ _ _ _ _ hm hw (by omega) (by omega) (lv_sub hl [1, 2, 3, 0] rfl)
  have hB7 : ∀ (h : CH) (x0 : Nat) (y0 : Nat) (cc ss : Nat) (H : Heap) (locs : List Loc) (ls : Array Slot), m_X2_copy_7 f h x0 y0 = some (r0, u9) → CW D dA A s h H locs → cc + u.1 = h.1 → ss + u.2.1 = h.2.1 → lv_has ls 4 [(0, .ref x0)] → W p l e (rm_X2_copy (u9.1 - u.1) (u9.2.1 - u.2.1)) s m args below meth c H locs cc ss QQ (F0 m 7 ls [.ref y0]) := by
    intro h x0 y0 cc ss H locs ls hm hw hcc hss hl
    have hmo := mo_X2_copy_7  h x0 y0 _ hm
    have sb_ : h.1 ≤ u9.1 := hmo.1
    have tb_ : h.2.1 ≤ u9.2.1 := hmo.2.1
    rw [m_X2_copy_7] at hm
    refine lv_astore_n (lv' := [(1, .ref y0), (0, .ref x0)]) hx hb dX2_copy_7 rfl hl (by decide) rfl (fun ls hl => ?_)
    refine lv_iconst (v := 0) hx hb dX2_copy_8 (by decide) ?_
    refine lv_istore_n (lv' := [(2, .int (0 : Int32)), (1, .ref y0), (0, .ref x0)]) hx hb dX2_copy_9 rfl hl (by decide) rfl (fun ls hl => ?_)
    exact hB10 f h x0 y0 (0 : Int32) _ _ _ _ _ hm hw (by omega) (by omega) (lv_sub hl [2, 1, 0] rfl)
  have hB3 : ∀ (h : CH) (x0 : Nat) (y0 : Nat) (cc ss : Nat) (H : Heap) (locs : List Loc) (ls : Array Slot), m_X2_copy_3 f h x0 y0 = some (r0, u9) → CW D dA A s h H locs → cc + u.1 = h.1 → ss + u.2.1 = h.2.1 → lv_has ls 4 [(0, .ref x0)] → W p l e (rm_X2_copy (u9.1 - u.1) (u9.2.1 - u.2.1)) s m args below meth c H locs cc ss QQ (F0 m 3 ls [.ref y0]) := by
    intro h x0 y0 cc ss H locs ls hm hw hcc hss hl
    have hmo := mo_X2_copy_3  h x0 y0 _ hm
    have sb_ : h.1 ≤ u9.1 := hmo.1
    have tb_ : h.2.1 ≤ u9.2.1 := hmo.2.1
    rw [m_X2_copy_3] at hm
    refine lv_dup hx hb dX2_copy_3 rfl ?_
    obtain ⟨h1, eh1, hm⟩ := bdE hm
    have lh1 := mo_X2_init eh1
    have ph1 : h.1 ≤ h1.1 := lh1.1
    have qh1 : h.2.1 ≤ h1.2.1 := lh1.2.1
    have hmo := mo_X2_copy_7   h1 x0 y0 _ hm
    have sh1 : h1.1 ≤ u9.1 := hmo.1
    have th1 : h1.2.1 ≤ u9.2.1 := hmo.2.1
    refine cg_callv hw lh1 (va_runI (As := []) (rest := [.ref y0]) ⟨hx, hb, hml, hown, hts⟩ (w_X2_init l eh1) (cw_X2_init hts q921 ⟨Nat.le_of_ble_eq_true rfl, Nat.le_of_ble_eq_true rfl⟩) (cg_preS C hw _) rfl rfl hl.1 rfl (lv_room (Nat.le_of_ble_eq_true rfl)) dX2_copy_4 ⟨show cc + (h1.1 - h.1) ≤ u9.1 - u.1 by omega, show ss + (h1.2.1 - h.2.1) ≤ u9.2.1 - u.2.1 by omega⟩) (fun H locs hw => ?_)
    exact hB7 h1 x0 y0 _ _ _ _ _ hm hw (by omega) (by omega) (lv_sub hl [0] rfl)
  rw [m_X2_copy] at hm
  obtain ⟨h1, eh1, hm⟩ := nmE hm
  obtain ⟨_, _, hmq⟩ := nmE hm
  have hmo := mo_X2_copy_3   h1 x0 _ _ hmq
  have sh1 : h1.1 ≤ u9.1 := hmo.1
  have th1 : h1.2.1 ≤ u9.2.1 := hmo.2.1
  have zh1 := cn_sz eh1
  refine cg_new (C0 := C) hw (ci := 3) (fs := [.null]) rfl in_X2 tyX2 tyX2_ok q920 q198 q124 (fun j hj => by rcases (show j = 0 by omega) with rfl <;> rfl) (show cc + 1 ≤ u9.1 - u.1 by omega) (show ss + 1 ≤ u9.2.1 - u.2.1 by omega) dX2_copy_0 (fun H hw => ?_)
  rw [← eh1] at hw
  refine lv_topr (fun a2 ea2 => ?_)
  have hm := nmK hm ea2
  exact hB3 h1 x0 a2 _ _ _ _ _ hm hw (by omega) (by omega) (lv_sub hl [0] rfl)
def m_X8_isMoreBelow_33 (f : Nat) (h : CH) : Option (Int32 × CH) := some ((0 : Int32), h)
theorem mo_X8_isMoreBelow_33 {f : Nat} : ∀ (h : CH) (r : (Int32 × CH)), m_X8_isMoreBelow_33 f h = some r → le2 h r.2 := by
  intro h r hm
  rw [m_X8_isMoreBelow_33] at hm
  cases hm
  exact le2.rf
def m_X8_isMoreBelow_25 (f : Nat) (h : CH) : Option (Int32 × CH) := some ((1 : Int32), h)
theorem mo_X8_isMoreBelow_25 {f : Nat} : ∀ (h : CH) (r : (Int32 × CH)), m_X8_isMoreBelow_25 f h = some r → le2 h r.2 := by
  intro h r hm
  rw [m_X8_isMoreBelow_25] at hm
  cases hm
  exact le2.rf
def m_X8_isMoreBelow_4 (f : Nat) : Nat → CH → Nat → Int32 → Int32 → Option (Int32 × CH)
  | 0, _, _, _, _ => none
  | n4 + 1, h, x0, x1, x2 => if (3 : Int32) ≤ x2 then
    m_X8_isMoreBelow_33 f h
    else bd (oR h 8 0 x0) fun a2 =>
    bd (oR h 3 0 a2) fun a3 =>
    bd (aR h 4 a3 x2) fun a4 =>
    bd (aL h 1 a4 x1) fun v5 =>
    if v5 = (0 : Int64) then
    nmv ((x2 + 1) : Int32) fun v7 =>
    m_X8_isMoreBelow_4 f n4 h x0 x1 v7
    else m_X8_isMoreBelow_25 f h
theorem mo_X8_isMoreBelow_4 {f : Nat} : ∀ (n4 : Nat) (h : CH) (x0 : Nat) (x1 : Int32) (x2 : Int32) (r : (Int32 × CH)), m_X8_isMoreBelow_4 f n4 h x0 x1 x2 = some r → le2 h r.2 := by
  intro n4
  induction n4 with
  | zero => intro h x0 x1 x2 r hm; rw [m_X8_isMoreBelow_4] at hm; exact noE hm
  | succ n4 ihm =>
    intro h x0 x1 x2 r hm
    rw [m_X8_isMoreBelow_4] at hm
    by_cases c1 : (3 : Int32) ≤ x2
    · have hm := ifT hm c1
      exact (mo_X8_isMoreBelow_33  h _ hm)
    · have hm := ifF hm c1
      obtain ⟨a2, ea2, hm⟩ := bdE hm
      obtain ⟨a3, ea3, hm⟩ := bdE hm
      obtain ⟨a4, ea4, hm⟩ := bdE hm
      obtain ⟨v5, ev5, hm⟩ := bdE hm
      by_cases c6 : v5 = (0 : Int64)
      · have hm := ifT hm c6
        obtain ⟨v7, ev7, hm⟩ := nmE hm
        exact (ihm h x0 x1 v7 _ hm)
      · have hm := ifF hm c6
        exact (mo_X8_isMoreBelow_25  h _ hm)
def m_X8_isMoreBelow (f : Nat) (u : CH) (x0 : Nat) (x1 : Int32) : Option (Int32 × CH) := nmv ((x1 + (1 : Int32)) : Int32) fun v1 =>
    m_X8_isMoreBelow_4 f f u x0 x1 v1
theorem mo_X8_isMoreBelow {f : Nat} {u : CH} {x0 : Nat} {x1 : Int32} {r0 : Int32} {u9 : CH} (hm : m_X8_isMoreBelow f u x0 x1 = some (r0, u9)) : le2 u u9 := by
  rw [m_X8_isMoreBelow] at hm
  obtain ⟨v1, ev1, hm⟩ := nmE hm
  exact (mo_X8_isMoreBelow_4  f u x0 x1 v1 _ hm)
abbrev rm_X8_isMoreBelow (mc ms : Nat) : Room := { frames := 0, cells := mc, slots := ms, locals := 0 }
theorem cw_X8_isMoreBelow {R : Room} {s : State} {args : Array Value} {own : String} {idx mc ms : Nat} (hts : ∀ w ∈ lw_all, w.before args s = true) (hl : Cond.methodLink own idx yX8_isMoreBelow ∈ lw_all) (hR : 0 + 1 ≤ R.frames ∧ 8 + (3 + 11) + 0 ≤ R.locals) : CallW R s args own RX8 idx yX8_isMoreBelow cX8_isMoreBelow 3 (Option.some Jvm.ClassFile.FieldType.boolean) (ws_ yX8_isMoreBelow cX8_isMoreBelow 3 (Option.some Jvm.ClassFile.FieldType.boolean)) (rm_X8_isMoreBelow mc ms) mc ms 1 := cwV 1 hts (lw_V hl q977 qs21 q145 q978) rfl rfl rfl (by decide +kernel) hR
set_option maxHeartbeats 4000000 in
set_option maxRecDepth 100000 in
theorem w_X8_isMoreBelow (l : Launch) {D : va_G} {dA : Nat → ClassId} {A : Nat → Prop} {f : Nat} {u u9 : CH} {r0 : Int32} {x0 : Nat} {x1 : Int32} (hm : m_X8_isMoreBelow f u x0 x1 = some (r0, u9)) : Met l yX8_isMoreBelow (ws_ yX8_isMoreBelow cX8_isMoreBelow 3 (Option.some Jvm.ClassFile.FieldType.boolean)) (rm_X8_isMoreBelow (u9.1 - u.1) (u9.2.1 - u.2.1)) (va_Pc [.ref x0, .int x1] (CPre D dA A u)) (va_Qi (fun r u => r = r0 ∧ u = u9) (CPost D dA A) A) (u9.1 - u.1) (u9.2.1 - u.2.1) A := by
  refine Met.ofW (cc := cX8_isMoreBelow) (maxL := 3) (ret := (Option.some Jvm.ClassFile.FieldType.boolean)) (by decide) rfl ?_
  intro p e s m args below meth c s₁ B hml hv
  have hx := B.exec
  have hb := B.bytes
  have hr := B.returns
  have hts := atoms_spec (ws := (ws_ yX8_isMoreBelow cX8_isMoreBelow 3 (Option.some Jvm.ClassFile.FieldType.boolean))) B.pre
  have hts : ∀ w ∈ lw_all, w.before args s = true := fun w h => hts w (List.mem_cons_of_mem _ h)
  have hown : s.vm.findClass RX8 = some m.cls := findClass_of_methodNamed B.named
  have hlocks := B.notSynchronized
  obtain ⟨hav, hv⟩ := hv
  have C : CX p s m args c cX8_isMoreBelow RX8 D dA := ⟨hx, hb, hown, hts, hv.2⟩
  have hw : CW D dA A s u s.heap [] := hv.1
  generalize hQ : MQ below (va_Qi (fun r u => r = r0 ∧ u = u9) (CPost D dA A) A) args s (u9.1 - u.1) (u9.2.1 - u.2.1) A = QQ
  have hent := lg_entry_eq m [.ref x0, .int x1] 3
  rw [← hav] at hent
  rw [hent]
  have hl := lv_entry ([.ref x0, .int x1]) (n := 3) (Nat.le_of_ble_eq_true rfl)
  generalize (lg_sl ([.ref x0, .int x1]) ++ List.replicate (3 - (lg_sl ([.ref x0, .int x1])).length) Slot.unset).toArray = ls at hl ⊢
  have hl : lv_has ls 3 [(0, .ref x0), (1, .int x1)] := hl
  obtain ⟨cc, ecc⟩ : ∃ z : Nat, z = 0 := ⟨0, rfl⟩
  obtain ⟨ss, ess⟩ : ∃ z : Nat, z = 0 := ⟨0, rfl⟩
  have hcc : cc + u.1 = u.1 := by omega
  have hss : ss + u.2.1 = u.2.1 := by omega
  suffices hgo : W p l e (rm_X8_isMoreBelow (u9.1 - u.1) (u9.2.1 - u.2.1)) s m args below meth c s.heap [] cc ss QQ (F0 m 0 ls []) by rw [ecc, ess] at hgo; exact hgo
  have ⟨pu, qu, _, _⟩ := mo_X8_isMoreBelow hm
  have hB33 : ∀ (h : CH) (cc ss : Nat) (H : Heap) (locs : List Loc) (ls : Array Slot), m_X8_isMoreBelow_33 f h = some (r0, u9) → CW D dA A s h H locs → cc + u.1 = h.1 → ss + u.2.1 = h.2.1 → lv_has ls 3 [] → W p l e (rm_X8_isMoreBelow (u9.1 - u.1) (u9.2.1 - u.2.1)) s m args below meth c H locs cc ss QQ (F0 m 33 ls []) := by
    intro h cc ss H locs ls hm hw hcc hss hl
    have hmo := mo_X8_isMoreBelow_33  h _ hm
    have sb_ : h.1 ≤ u9.1 := hmo.1
    have tb_ : h.2.1 ≤ u9.2.1 := hmo.2.1
    rw [m_X8_isMoreBelow_33] at hm
    refine lv_iconst (v := 0) hx hb dX8_isMoreBelow_33 (by decide) ?_
    obtain ⟨er, eh⟩ := retE hm
    have ec : cc = u9.1 - u.1 := by rw [← eh]; omega
    have es : ss = u9.2.1 - u.2.1 := by rw [← eh]; omega
    rw [ec, es, ← hQ]
    exact W.zret (v := (0 : Int32)) hx hb hr rfl (fun t ht hW => ⟨⟨(0 : Int32), h, rfl, ⟨er, eh⟩, ⟨by rw [ht]; exact hw.1, by rw [ht]; exact hw.2.1⟩⟩, hw.2.2.1.F ht⟩) hw.2.2.1.2.2 dX8_isMoreBelow_34
  have hB25 : ∀ (h : CH) (cc ss : Nat) (H : Heap) (locs : List Loc) (ls : Array Slot), m_X8_isMoreBelow_25 f h = some (r0, u9) → CW D dA A s h H locs → cc + u.1 = h.1 → ss + u.2.1 = h.2.1 → lv_has ls 3 [] → W p l e (rm_X8_isMoreBelow (u9.1 - u.1) (u9.2.1 - u.2.1)) s m args below meth c H locs cc ss QQ (F0 m 25 ls []) := by
    intro h cc ss H locs ls hm hw hcc hss hl
    have hmo := mo_X8_isMoreBelow_25  h _ hm
    have sb_ : h.1 ≤ u9.1 := hmo.1
    have tb_ : h.2.1 ≤ u9.2.1 := hmo.2.1
    rw [m_X8_isMoreBelow_25] at hm
    refine lv_iconst (v := 1) hx hb dX8_isMoreBelow_25 (by decide) ?_
    obtain ⟨er, eh⟩ := retE hm
    have ec : cc = u9.1 - u.1 := by rw [← eh]; omega
    have es : ss = u9.2.1 - u.2.1 := by rw [← eh]; omega
    rw [ec, es, ← hQ]
    exact W.zret (v := (1 : Int32)) hx hb hr rfl (fun t ht hW => ⟨⟨(1 : Int32), h, rfl, ⟨er, eh⟩, ⟨by rw [ht]; exact hw.1, by rw [ht]; exact hw.2.1⟩⟩, hw.2.2.1.F ht⟩) hw.2.2.1.2.2 dX8_isMoreBelow_26
  have hB4 : ∀ (n4 : Nat), ∀ (h : CH) (x0 : Nat) (x1 : Int32) (x2 : Int32) (cc ss : Nat) (H : Heap) (locs : List Loc) (ls : Array Slot), m_X8_isMoreBelow_4 f n4 h x0 x1 x2 = some (r0, u9) → CW D dA A s h H locs → cc + u.1 = h.1 → ss + u.2.1 = h.2.1 → lv_has ls 3 [(0, .ref x0), (1, .int x1), (2, .int x2)] → W p l e (rm_X8_isMoreBelow (u9.1 - u.1) (u9.2.1 - u.2.1)) s m args below meth c H locs cc ss QQ (F0 m 4 ls []) := by
    intro n4
    induction n4 with
    | zero => intro h x0 x1 x2 cc ss H locs ls hm hw hcc hss hl; rw [m_X8_isMoreBelow_4] at hm; exact noE hm
    | succ n4 ih4 =>
      intro h x0 x1 x2 cc ss H locs ls hm hw hcc hss hl
      have hmo := mo_X8_isMoreBelow_4  (n4 + 1) h x0 x1 x2 _ hm
      have sb_ : h.1 ≤ u9.1 := hmo.1
      have tb_ : h.2.1 ≤ u9.2.1 := hmo.2.1
      rw [m_X8_isMoreBelow_4] at hm
      refine lv_iload_n hx hb dX8_isMoreBelow_4 rfl (lv_at hl 2 rfl) ?_
      refine lv_iconst (v := 3) hx hb dX8_isMoreBelow_5 (by decide) ?_
      refine lv_icmp_ge (tgt := 33) hx hb dX8_isMoreBelow_6 (by decide) (fun c1 => ?_) (fun c1 => ?_)
      · have hm := ifT hm c1
        exact hB33 h _ _ _ _ _ hm hw (by omega) (by omega) (lv_sub hl [] rfl)
      · have hm := ifF hm c1
        refine lv_aload_n hx hb dX8_isMoreBelow_9 rfl (lv_at hl 0 rfl) ?_
        obtain ⟨a2, ea2, hm⟩ := bdE hm
        refine cg_get C hw (oR_E ea2) rfl in_X8 (by decide) q1031 dX8_isMoreBelow_10 ?_
        obtain ⟨a3, ea3, hm⟩ := bdE hm
        refine cg_getN C hw (by decide) (oR_E ea3) rfl in_X2 (by decide) (hw.2.2.2.2.1 _ (List.mem_of_getElem? (i := 79) rfl)) dX8_isMoreBelow_13 ?_
        refine lv_iload_n hx hb dX8_isMoreBelow_16 rfl (lv_at hl 2 rfl) ?_
        obtain ⟨a4, ea4, hm⟩ := bdE hm
        refine cg_aaldA C hw (ty := .array .long) rfl rfl (aR_E ea4) dX8_isMoreBelow_17 ?_
        refine lv_iload_n hx hb dX8_isMoreBelow_18 rfl (lv_at hl 1 rfl) ?_
        obtain ⟨v5, ev5, hm⟩ := bdE hm
        refine cg_lald C hw ev5 dX8_isMoreBelow_19 ?_
        refine lv_lconst (v := 0) hx hb dX8_isMoreBelow_20 (by decide) ?_
        refine lc_eq (tgt := 27) hx hb dX8_isMoreBelow_21 dX8_isMoreBelow_22 (by decide) (fun c6 => ?_) (fun c6 => ?_)
        · have hm := ifT hm c6
          obtain ⟨v7, ev7, hm⟩ := nmE hm
          refine lv_iinc (v := v7) (lv' := [(2, .int v7), (0, .ref x0), (1, .int x1)]) hx hb dX8_isMoreBelow_27 hl (k := 2) rfl (by rw [ev7]; rfl) (by decide) rfl (fun ls hl => ?_)
          refine lv_goto (tgt := 4) hx hb dX8_isMoreBelow_30 (by decide) ?_
          exact ih4 h x0 x1 v7 _ _ _ _ _ hm hw (by omega) (by omega) (lv_sub hl [1, 2, 0] rfl)
        · have hm := ifF hm c6
          exact hB25 h _ _ _ _ _ hm hw (by omega) (by omega) (lv_sub hl [] rfl)
  rw [m_X8_isMoreBelow] at hm
  refine lv_iload_n hx hb dX8_isMoreBelow_0 rfl (lv_at hl 1 rfl) ?_
  refine lv_iconst (v := 1) hx hb dX8_isMoreBelow_1 (by decide) ?_
  refine lv_iadd hx hb dX8_isMoreBelow_2 ?_
  refine lv_topi (fun v1 ev1 => ?_)
  have hm := nmK hm ev1
  refine lv_istore_n (lv' := [(2, .int v1), (0, .ref x0), (1, .int x1)]) hx hb dX8_isMoreBelow_3 rfl hl (by decide) rfl (fun ls hl => ?_)
  exact hB4 f u x0 x1 v1 _ _ _ _ _ hm hw (by omega) (by omega) (lv_sub hl [1, 2, 0] rfl)
