/-! walks of the component (printed by gen/walkc.py) -/
set_option maxRecDepth 100000
def m_X0_smith_33 (f : Nat) (h : CH) (y0 : Int64) : Option (Int64 × CH) := some (y0, h)
theorem mo_X0_smith_33 {f : Nat} : ∀ (h : CH) (y0 : Int64) (r : (Int64 × CH)), m_X0_smith_33 f h y0 = some r → le2 h r.2 := by
  intro h y0 r hm
  rw [m_X0_smith_33] at hm
  cases hm
  exact le2.rf
def m_X0_smith_30 (f : Nat) (h : CH) : Option (Int64 × CH) := m_X0_smith_33 f h (-2 : Int64)
theorem mo_X0_smith_30 {f : Nat} : ∀ (h : CH) (r : (Int64 × CH)), m_X0_smith_30 f h = some r → le2 h r.2 := by
  intro h r hm
  rw [m_X0_smith_30] at hm
  exact (mo_X0_smith_33  h (-2 : Int64) _ hm)
def m_X0_smith_27 (f : Nat) (h : CH) (y0 : Int64) : Option (Int64 × CH) := m_X0_smith_33 f h y0
theorem mo_X0_smith_27 {f : Nat} : ∀ (h : CH) (y0 : Int64) (r : (Int64 × CH)), m_X0_smith_27 f h y0 = some r → le2 h r.2 := by
  intro h y0 r hm
  rw [m_X0_smith_27] at hm
  exact (mo_X0_smith_33  h y0 _ hm)
def m_X0_smith_23 (f : Nat) (h : CH) (x2 : Int32) (y0 : Nat) : Option (Int64 × CH) := gd (isC h y0 3) <|
    bd2 (m_X2_smith f h y0 x2) fun r3 h2 =>
    m_X0_smith_27 f h2 r3
theorem mo_X0_smith_23 {f : Nat} : ∀ (h : CH) (x2 : Int32) (y0 : Nat) (r : (Int64 × CH)), m_X0_smith_23 f h x2 y0 = some r → le2 h r.2 := by
  intro h x2 y0 r hm
  rw [m_X0_smith_23] at hm
  obtain ⟨g1, hm⟩ := gdE hm
  obtain ⟨r3, h2, er3, hm⟩ := bd2E hm
  have lh2 := mo_X2_smith er3
  exact (lh2.tr (mo_X0_smith_27  h2 r3 _ hm))
def m_X0_smith_20 (f : Nat) (h : CH) (x2 : Int32) (y0 : Nat) : Option (Int64 × CH) := if isC h y0 6 = true then
    bd2 (m_X6_rows f h y0) fun a3 h2 =>
    m_X0_smith_23 f h2 x2 a3
    else gd (isC h y0 7) <|
    bd2 (m_X7_rows f h y0) fun a6 h5 =>
    m_X0_smith_23 f h5 x2 a6
theorem mo_X0_smith_20 {f : Nat} : ∀ (h : CH) (x2 : Int32) (y0 : Nat) (r : (Int64 × CH)), m_X0_smith_20 f h x2 y0 = some r → le2 h r.2 := by
  intro h x2 y0 r hm
  rw [m_X0_smith_20] at hm
  by_cases c1 : isC h y0 6 = true
  · have hm := ifT hm c1
    obtain ⟨a3, h2, ea3, hm⟩ := bd2E hm
    have lh2 := mo_X6_rows ea3
    exact (lh2.tr (mo_X0_smith_23  h2 x2 a3 _ hm))
  · have hm := ifF hm c1
    obtain ⟨g4, hm⟩ := gdE hm
    obtain ⟨a6, h5, ea6, hm⟩ := bd2E hm
    have lh5 := mo_X7_rows ea6
    exact (lh5.tr (mo_X0_smith_23  h5 x2 a6 _ hm))
def m_X0_smith_5 (f : Nat) (h : CH) (x0 : Nat) (x1 : Int32) (x2 : Int32) (y0 : Int32) : Option (Int64 × CH) := if y0 = 0 then
    m_X0_smith_30 f h
    else bd (m_X0_isSide f x2) fun r2 =>
    if r2 = 0 then
    m_X0_smith_30 f h
    else gd (isC h x0 1) <|
    bd2 (m_X0_at f h x0 x1) fun a6 h5 =>
    m_X0_smith_20 f h5 x2 a6
theorem mo_X0_smith_5 {f : Nat} : ∀ (h : CH) (x0 : Nat) (x1 : Int32) (x2 : Int32) (y0 : Int32) (r : (Int64 × CH)), m_X0_smith_5 f h x0 x1 x2 y0 = some r → le2 h r.2 := by
  intro h x0 x1 x2 y0 r hm
  rw [m_X0_smith_5] at hm
  by_cases c1 : y0 = 0
  · have hm := ifT hm c1
    exact (mo_X0_smith_30  h _ hm)
  · have hm := ifF hm c1
    obtain ⟨r2, er2, hm⟩ := bdE hm
    by_cases c3 : r2 = 0
    · have hm := ifT hm c3
      exact (mo_X0_smith_30  h _ hm)
    · have hm := ifF hm c3
      obtain ⟨g4, hm⟩ := gdE hm
      obtain ⟨a6, h5, ea6, hm⟩ := bd2E hm
      have lh5 := mo_X0_at ea6
      exact (lh5.tr (mo_X0_smith_20  h5 x2 a6 _ hm))
def m_X0_smith (f : Nat) (u : CH) (x0 : Nat) (x1 : Int32) (x2 : Int32) : Option (Int64 × CH) := gd (isC u x0 1) <|
    bd2 (m_X0_isLattice f u x0 x1) fun r3 h2 =>
    m_X0_smith_5 f h2 x0 x1 x2 r3
theorem mo_X0_smith {f : Nat} {u : CH} {x0 : Nat} {x1 : Int32} {x2 : Int32} {r0 : Int64} {u9 : CH} (hm : m_X0_smith f u x0 x1 x2 = some (r0, u9)) : le2 u u9 := by
  rw [m_X0_smith] at hm
  obtain ⟨g1, hm⟩ := gdE hm
  obtain ⟨r3, h2, er3, hm⟩ := bd2E hm
  have lh2 := mo_X0_isLattice er3
  exact (lh2.tr (mo_X0_smith_5  h2 x0 x1 x2 r3 _ hm))
abbrev rm_X0_smith (mc ms : Nat) : Room := { frames := 105, cells := mc, slots := ms, locals := 4127 }
theorem cw_X0_smith {R : Room} {s : State} {args : Array Value} {own : String} {idx mc ms : Nat} (hts : ∀ w ∈ lw_all, w.before args s = true) (hl : Cond.methodLink own idx yX0_smith ∈ lw_all) (hR : 105 + 1 ≤ R.frames ∧ 8 + (3 + 11) + 4127 ≤ R.locals) : CallW R s args own RX0 idx yX0_smith cX0_smith 3 (Option.some Jvm.ClassFile.FieldType.long) (ws_ yX0_smith cX0_smith 3 (Option.some Jvm.ClassFile.FieldType.long)) (rm_X0_smith mc ms) mc ms 2 := cwV 2 hts (lw_V hl q1065 q1066 q119 q1067) rfl rfl rfl (by decide +kernel) hR
set_option maxHeartbeats 4000000 in
set_option maxRecDepth 100000 in
theorem w_X0_smith (l : Launch) {D : va_G} {dA : Nat → ClassId} {A : Nat → Prop} {f : Nat} {u u9 : CH} {r0 : Int64} {x0 : Nat} {x1 : Int32} {x2 : Int32} (hm : m_X0_smith f u x0 x1 x2 = some (r0, u9)) : Met l yX0_smith (ws_ yX0_smith cX0_smith 3 (Option.some Jvm.ClassFile.FieldType.long)) (rm_X0_smith (u9.1 - u.1) (u9.2.1 - u.2.1)) (va_Pc [.ref x0, .int x1, .int x2] (CPre D dA A u)) (va_Ql (fun r u => r = r0 ∧ u = u9) (CPost D dA A) A) (u9.1 - u.1) (u9.2.1 - u.2.1) A := by
  refine Met.ofW (cc := cX0_smith) (maxL := 3) (ret := (Option.some Jvm.ClassFile.FieldType.long)) (by decide) rfl ?_
  intro p e s m args below meth c s₁ B hml hv
  have hx := B.exec
  have hb := B.bytes
  have hr := B.returns
  have hts := atoms_spec (ws := (ws_ yX0_smith cX0_smith 3 (Option.some Jvm.ClassFile.FieldType.long))) B.pre
  have hts : ∀ w ∈ lw_all, w.before args s = true := fun w h => hts w (List.mem_cons_of_mem _ h)
  have hown : s.vm.findClass RX0 = some m.cls := findClass_of_methodNamed B.named
  have hlocks := B.notSynchronized
  obtain ⟨hav, hv⟩ := hv
  have C : CX p s m args c cX0_smith RX0 D dA := ⟨hx, hb, hown, hts, hv.2⟩
  have hw : CW D dA A s u s.heap [] := hv.1
  generalize hQ : MQ below (va_Ql (fun r u => r = r0 ∧ u = u9) (CPost D dA A) A) args s (u9.1 - u.1) (u9.2.1 - u.2.1) A = QQ
  have hent := lg_entry_eq m [.ref x0, .int x1, .int x2] 3
  rw [← hav] at hent
  rw [hent]
  have hl := lv_entry ([.ref x0, .int x1, .int x2]) (n := 3) (Nat.le_of_ble_eq_true rfl)
  generalize (lg_sl ([.ref x0, .int x1, .int x2]) ++ List.replicate (3 - (lg_sl ([.ref x0, .int x1, .int x2])).length) Slot.unset).toArray = ls at hl ⊢
  have hl : lv_has ls 3 [(0, .ref x0), (1, .int x1), (2, .int x2)] := hl
  obtain ⟨cc, ecc⟩ : ∃ z : Nat, z = 0 := ⟨0, rfl⟩
  obtain ⟨ss, ess⟩ : ∃ z : Nat, z = 0 := ⟨0, rfl⟩
  have hcc : cc + u.1 = u.1 := by omega
  have hss : ss + u.2.1 = u.2.1 := by omega
  suffices hgo : W p l e (rm_X0_smith (u9.1 - u.1) (u9.2.1 - u.2.1)) s m args below meth c s.heap [] cc ss QQ (F0 m 0 ls []) by rw [ecc, ess] at hgo; exact hgo
  have ⟨pu, qu, _, _⟩ := mo_X0_smith hm
  have hB33 : ∀ (h : CH) (y0 : Int64) (cc ss : Nat) (H : Heap) (locs : List Loc) (ls : Array Slot), m_X0_smith_33 f h y0 = some (r0, u9) → CW D dA A s h H locs → cc + u.1 = h.1 → ss + u.2.1 = h.2.1 → lv_has ls 3 [] → W p l e (rm_X0_smith (u9.1 - u.1) (u9.2.1 - u.2.1)) s m args below meth c H locs cc ss QQ (F0 m 33 ls [.long y0]) := by
    intro h y0 cc ss H locs ls hm hw hcc hss hl
    have hmo := mo_X0_smith_33  h y0 _ hm
    have sb_ : h.1 ≤ u9.1 := hmo.1
    have tb_ : h.2.1 ≤ u9.2.1 := hmo.2.1
    rw [m_X0_smith_33] at hm
    obtain ⟨er, eh⟩ := retE hm
    have ec : cc = u9.1 - u.1 := by rw [← eh]; omega
    have es : ss = u9.2.1 - u.2.1 := by rw [← eh]; omega
    rw [ec, es, ← hQ]
    exact W.lret (v := y0) hx hb hr (fun t ht hW => ⟨⟨y0, h, rfl, ⟨er, eh⟩, ⟨by rw [ht]; exact hw.1, by rw [ht]; exact hw.2.1⟩⟩, hw.2.2.1.F ht⟩) hw.2.2.1.2.2 dX0_smith_33
  have hB30 : ∀ (h : CH) (cc ss : Nat) (H : Heap) (locs : List Loc) (ls : Array Slot), m_X0_smith_30 f h = some (r0, u9) → CW D dA A s h H locs → cc + u.1 = h.1 → ss + u.2.1 = h.2.1 → lv_has ls 3 [] → W p l e (rm_X0_smith (u9.1 - u.1) (u9.2.1 - u.2.1)) s m args below meth c H locs cc ss QQ (F0 m 30 ls []) := by
    intro h cc ss H locs ls hm hw hcc hss hl
    have hmo := mo_X0_smith_30  h _ hm
    have sb_ : h.1 ≤ u9.1 := hmo.1
    have tb_ : h.2.1 ≤ u9.2.1 := hmo.2.1
    rw [m_X0_smith_30] at hm
    refine lv_ldc2 hx hb hown (hts _ q1059) dX0_smith_30 ?_
    exact hB33 h (-2 : Int64) _ _ _ _ _ hm hw (by omega) (by omega) (lv_sub hl [] rfl)
  have hB27 : ∀ (h : CH) (y0 : Int64) (cc ss : Nat) (H : Heap) (locs : List Loc) (ls : Array Slot), m_X0_smith_27 f h y0 = some (r0, u9) → CW D dA A s h H locs → cc + u.1 = h.1 → ss + u.2.1 = h.2.1 → lv_has ls 3 [] → W p l e (rm_X0_smith (u9.1 - u.1) (u9.2.1 - u.2.1)) s m args below meth c H locs cc ss QQ (F0 m 27 ls [.long y0]) := by
    intro h y0 cc ss H locs ls hm hw hcc hss hl
    have hmo := mo_X0_smith_27  h y0 _ hm
    have sb_ : h.1 ≤ u9.1 := hmo.1
    have tb_ : h.2.1 ≤ u9.2.1 := hmo.2.1
    rw [m_X0_smith_27] at hm
    refine lv_goto (tgt := 33) hx hb dX0_smith_27 (by decide) ?_
    exact hB33 h y0 _ _ _ _ _ hm hw (by omega) (by omega) (lv_sub hl [] rfl)
  have hB23 : ∀ (h : CH) (x2 : Int32) (y0 : Nat) (cc ss : Nat) (H : Heap) (locs : List Loc) (ls : Array Slot), m_X0_smith_23 f h x2 y0 = some (r0, u9) → CW D dA A s h H locs → cc + u.1 = h.1 → ss + u.2.1 = h.2.1 → lv_has ls 3 [(2, .int x2)] → W p l e (rm_X0_smith (u9.1 - u.1) (u9.2.1 - u.2.1)) s m args below meth c H locs cc ss QQ (F0 m 23 ls [.ref y0]) := by
    intro h x2 y0 cc ss H locs ls hm hw hcc hss hl
    have hmo := mo_X0_smith_23  h x2 y0 _ hm
    have sb_ : h.1 ≤ u9.1 := hmo.1
    have tb_ : h.2.1 ≤ u9.2.1 := hmo.2.1
    rw [m_X0_smith_23] at hm
    refine lv_iload_n hx hb dX0_smith_23 rfl (lv_at hl 0 rfl) ?_
    obtain ⟨g1, hm⟩ := gdE hm
    obtain ⟨r3, h2, er3, hm⟩ := bd2E hm
    have lh2 := mo_X2_smith er3
    have ph2 : h.1 ≤ h2.1 := lh2.1
    have qh2 : h.2.1 ≤ h2.2.1 := lh2.2.1
    have hmo := mo_X0_smith_27   h2 r3 _ hm
    have sh2 : h2.1 ≤ u9.1 := hmo.1
    have th2 : h2.2.1 ≤ u9.2.1 := hmo.2.1
    refine cg_calll hw lh2 (va_runV (As := [.int x2]) (rest := []) ⟨hx, hb, hml, hown, hts⟩ (w_X2_smith l er3) (cw_X2_smith hts q1068 ⟨Nat.le_of_ble_eq_true rfl, Nat.le_of_ble_eq_true rfl⟩) (cg_preV C hw g1 rfl _) rfl rfl hl.1 rfl (lv_room (Nat.le_of_ble_eq_true rfl)) dX0_smith_24 ⟨show cc + (h2.1 - h.1) ≤ u9.1 - u.1 by omega, show ss + (h2.2.1 - h.2.1) ≤ u9.2.1 - u.2.1 by omega⟩) (fun H locs hw => ?_)
    exact hB27 h2 r3 _ _ _ _ _ hm hw (by omega) (by omega) (lv_sub hl [] rfl)
  have hB20 : ∀ (h : CH) (x2 : Int32) (y0 : Nat) (cc ss : Nat) (H : Heap) (locs : List Loc) (ls : Array Slot), m_X0_smith_20 f h x2 y0 = some (r0, u9) → CW D dA A s h H locs → cc + u.1 = h.1 → ss + u.2.1 = h.2.1 → lv_has ls 3 [(2, .int x2)] → W p l e (rm_X0_smith (u9.1 - u.1) (u9.2.1 - u.2.1)) s m args below meth c H locs cc ss QQ (F0 m 20 ls [.ref y0]) := by
    intro h x2 y0 cc ss H locs ls hm hw hcc hss hl
    have hmo := mo_X0_smith_20  h x2 y0 _ hm
    have sb_ : h.1 ≤ u9.1 := hmo.1
    have tb_ : h.2.1 ≤ u9.2.1 := hmo.2.1
    rw [m_X0_smith_20] at hm
    by_cases c1 : isC h y0 6 = true
    · have hm := ifT hm c1
      obtain ⟨a3, h2, ea3, hm⟩ := bd2E hm
      have lh2 := mo_X6_rows ea3
      have ph2 : h.1 ≤ h2.1 := lh2.1
      have qh2 : h.2.1 ≤ h2.2.1 := lh2.2.1
      have hmo := mo_X0_smith_23   h2 x2 a3 _ hm
      have sh2 : h2.1 ≤ u9.1 := hmo.1
      have th2 : h2.2.1 ≤ u9.2.1 := hmo.2.1
      refine cg_callr hw lh2 (va_runV (As := []) (rest := []) ⟨hx, hb, hml, hown, hts⟩ (w_X6_rows l ea3) (cw_X6_rows hts q904 ⟨Nat.le_of_ble_eq_true rfl, Nat.le_of_ble_eq_true rfl⟩) (cg_preV C hw c1 rfl _) rfl rfl hl.1 rfl (lv_room (Nat.le_of_ble_eq_true rfl)) dX0_smith_20 ⟨show cc + (h2.1 - h.1) ≤ u9.1 - u.1 by omega, show ss + (h2.2.1 - h.2.1) ≤ u9.2.1 - u.2.1 by omega⟩) (fun H locs hw => ?_)
      exact hB23 h2 x2 a3 _ _ _ _ _ hm hw (by omega) (by omega) (lv_sub hl [0] rfl)
    · have hm := ifF hm c1
      obtain ⟨g4, hm⟩ := gdE hm
      obtain ⟨a6, h5, ea6, hm⟩ := bd2E hm
      have lh5 := mo_X7_rows ea6
      have ph5 : h.1 ≤ h5.1 := lh5.1
      have qh5 : h.2.1 ≤ h5.2.1 := lh5.2.1
      have hmo := mo_X0_smith_23   h5 x2 a6 _ hm
      have sh5 : h5.1 ≤ u9.1 := hmo.1
      have th5 : h5.2.1 ≤ u9.2.1 := hmo.2.1
      refine cg_callr hw lh5 (va_runU (As := []) (rest := []) ⟨hx, hb, hml, hown, hts⟩ (w_X7_rows l ea6) (va_cwO 0 hts (lwO q904 q907 q905 q908 q909 q144 q910) rfl rfl rfl q940 (by decide +kernel) ⟨Nat.le_of_ble_eq_true rfl, Nat.le_of_ble_eq_true rfl⟩) (cg_preV C hw g4 rfl _) rfl rfl hl.1 rfl (lv_room (Nat.le_of_ble_eq_true rfl)) dX0_smith_20 ⟨show cc + (h5.1 - h.1) ≤ u9.1 - u.1 by omega, show ss + (h5.2.1 - h.2.1) ≤ u9.2.1 - u.2.1 by omega⟩) (fun H locs hw => ?_)
      exact hB23 h5 x2 a6 _ _ _ _ _ hm hw (by omega) (by omega) (lv_sub hl [0] rfl)
  have hB5 : ∀ (h : CH) (x0 : Nat) (x1 : Int32) (x2 : Int32) (y0 : Int32) (cc ss : Nat) (H : Heap) (locs : List Loc) (ls : Array Slot), m_X0_smith_5 f h x0 x1 x2 y0 = some (r0, u9) → CW D dA A s h H locs → cc + u.1 = h.1 → ss + u.2.1 = h.2.1 → lv_has ls 3 [(0, .ref x0), (1, .int x1), (2, .int x2)] → W p l e (rm_X0_smith (u9.1 - u.1) (u9.2.1 - u.2.1)) s m args below meth c H locs cc ss QQ (F0 m 5 ls [.int y0]) := by
    intro h x0 x1 x2 y0 cc ss H locs ls hm hw hcc hss hl
    have hmo := mo_X0_smith_5  h x0 x1 x2 y0 _ hm
    have sb_ : h.1 ≤ u9.1 := hmo.1
    have tb_ : h.2.1 ≤ u9.2.1 := hmo.2.1
    rw [m_X0_smith_5] at hm
    refine lv_if_eq (tgt := 30) hx hb dX0_smith_5 (by decide) (fun c1 => ?_) (fun c1 => ?_)
    · have hm := ifT hm c1
      exact hB30 h _ _ _ _ _ hm hw (by omega) (by omega) (lv_sub hl [] rfl)
    · have hm := ifF hm c1
      refine lv_iload_n hx hb dX0_smith_8 rfl (lv_at hl 2 rfl) ?_
      obtain ⟨r2, er2, hm⟩ := bdE hm
      refine sci (va_runS (As := [.int x2]) (rest := []) ⟨hx, hb, hml, hown, hts⟩ (w_X0_isSide l er2) (cw_X0_isSide hts q896 ⟨Nat.le_of_ble_eq_true rfl, Nat.le_of_ble_eq_true rfl⟩) (pre_s _) rfl rfl hl.1 rfl (lv_room (Nat.le_of_ble_eq_true rfl)) dX0_smith_9 ⟨show cc + 0 ≤ u9.1 - u.1 by omega, show ss + 0 ≤ u9.2.1 - u.2.1 by omega⟩) ?_
      refine lv_if_eq (tgt := 30) hx hb dX0_smith_12 (by decide) (fun c3 => ?_) (fun c3 => ?_)
      · have hm := ifT hm c3
        exact hB30 h _ _ _ _ _ hm hw (by omega) (by omega) (lv_sub hl [] rfl)
      · have hm := ifF hm c3
        refine lv_aload_n hx hb dX0_smith_15 rfl (lv_at hl 0 rfl) ?_
        refine lv_iload_n hx hb dX0_smith_16 rfl (lv_at hl 1 rfl) ?_
        obtain ⟨g4, hm⟩ := gdE hm
        obtain ⟨a6, h5, ea6, hm⟩ := bd2E hm
        have lh5 := mo_X0_at ea6
        have ph5 : h.1 ≤ h5.1 := lh5.1
        have qh5 : h.2.1 ≤ h5.2.1 := lh5.2.1
        have hmo := mo_X0_smith_20   h5 x2 a6 _ hm
        have sh5 : h5.1 ≤ u9.1 := hmo.1
        have th5 : h5.2.1 ≤ u9.2.1 := hmo.2.1
        refine cg_callr hw lh5 (va_runV (As := [.int x1]) (rest := []) ⟨hx, hb, hml, hown, hts⟩ (w_X0_at l ea6) (cw_X0_at hts q900 ⟨Nat.le_of_ble_eq_true rfl, Nat.le_of_ble_eq_true rfl⟩) (cg_preV C hw g4 rfl _) rfl rfl hl.1 rfl (lv_room (Nat.le_of_ble_eq_true rfl)) dX0_smith_17 ⟨show cc + (h5.1 - h.1) ≤ u9.1 - u.1 by omega, show ss + (h5.2.1 - h.2.1) ≤ u9.2.1 - u.2.1 by omega⟩) (fun H locs hw => ?_)
        exact hB20 h5 x2 a6 _ _ _ _ _ hm hw (by omega) (by omega) (lv_sub hl [2] rfl)
  rw [m_X0_smith] at hm
  refine lv_aload_n hx hb dX0_smith_0 rfl (lv_at hl 0 rfl) ?_
  refine lv_iload_n hx hb dX0_smith_1 rfl (lv_at hl 1 rfl) ?_
  obtain ⟨g1, hm⟩ := gdE hm
  obtain ⟨r3, h2, er3, hm⟩ := bd2E hm
  have lh2 := mo_X0_isLattice er3
  have ph2 : u.1 ≤ h2.1 := lh2.1
  have qh2 : u.2.1 ≤ h2.2.1 := lh2.2.1
  have hmo := mo_X0_smith_5   h2 x0 x1 x2 r3 _ hm
  have sh2 : h2.1 ≤ u9.1 := hmo.1
  have th2 : h2.2.1 ≤ u9.2.1 := hmo.2.1
  refine cg_calli hw lh2 (va_runV (As := [.int x1]) (rest := []) ⟨hx, hb, hml, hown, hts⟩ (w_X0_isLattice l er3) (cw_X0_isLattice hts q892 ⟨Nat.le_of_ble_eq_true rfl, Nat.le_of_ble_eq_true rfl⟩) (cg_preV C hw g1 rfl _) rfl rfl hl.1 rfl (lv_room (Nat.le_of_ble_eq_true rfl)) dX0_smith_2 ⟨show cc + (h2.1 - u.1) ≤ u9.1 - u.1 by omega, show ss + (h2.2.1 - u.2.1) ≤ u9.2.1 - u.2.1 by omega⟩) (fun H locs hw => ?_)
  exact hB5 h2 x0 x1 x2 r3 _ _ _ _ _ hm hw (by omega) (by omega) (lv_sub hl [0, 1, 2] rfl)
def m_X2_adjoint_48 (f : Nat) (h : CH) (x1 : Nat) : Option (Nat × CH) := some (x1, h)
theorem mo_X2_adjoint_48 {f : Nat} : ∀ (h : CH) (x1 : Nat) (r : (Nat × CH)), m_X2_adjoint_48 f h x1 = some r → le2 h r.2 := by
  intro h x1 r hm
  rw [m_X2_adjoint_48] at hm
  cases hm
  exact le2.rf
def m_X2_adjoint_42 (f : Nat) (k10 : CH → Nat → Nat → Int32 → Option (Nat × CH)) (h : CH) (x0 : Nat) (x1 : Nat) (x2 : Int32) : Option (Nat × CH) := nmv ((x2 + 1) : Int32) fun v1 =>
    k10 h x0 x1 v1
theorem mo_X2_adjoint_42 {f : Nat} {k10 : CH → Nat → Nat → Int32 → Option (Nat × CH)} (hk10 : ∀ (h : CH) (x0 : Nat) (x1 : Nat) (x2 : Int32) (r : (Nat × CH)), k10 h x0 x1 x2 = some r → le2 h r.2) : ∀ (h : CH) (x0 : Nat) (x1 : Nat) (x2 : Int32) (r : (Nat × CH)), m_X2_adjoint_42 f k10 h x0 x1 x2 = some r → le2 h r.2 := by
  intro h x0 x1 x2 r hm
  rw [m_X2_adjoint_42] at hm
  obtain ⟨v1, ev1, hm⟩ := nmE hm
  exact (hk10 h x0 x1 v1 _ hm)
def m_X2_adjoint_35 (f : Nat) (k10 : CH → Nat → Nat → Int32 → Option (Nat × CH)) (k17 : CH → Nat → Nat → Int32 → Int32 → Option (Nat × CH)) (h : CH) (x0 : Nat) (x1 : Nat) (x2 : Int32) (x3 : Int32) (y0 : Nat) (y1 : Int32) (y2 : Int64) : Option (Nat × CH) := bd (uL h 1 y0 y1 y2) fun h1 =>
    nmv ((x3 + 1) : Int32) fun v2 =>
    k17 h1 x0 x1 x2 v2
theorem mo_X2_adjoint_35 {f : Nat} {k10 : CH → Nat → Nat → Int32 → Option (Nat × CH)} (hk10 : ∀ (h : CH) (x0 : Nat) (x1 : Nat) (x2 : Int32) (r : (Nat × CH)), k10 h x0 x1 x2 = some r → le2 h r.2) {k17 : CH → Nat → Nat → Int32 → Int32 → Option (Nat × CH)} (hk17 : ∀ (h : CH) (x0 : Nat) (x1 : Nat) (x2 : Int32) (x3 : Int32) (r : (Nat × CH)), k17 h x0 x1 x2 x3 = some r → le2 h r.2) : ∀ (h : CH) (x0 : Nat) (x1 : Nat) (x2 : Int32) (x3 : Int32) (y0 : Nat) (y1 : Int32) (y2 : Int64) (r : (Nat × CH)), m_X2_adjoint_35 f k10 k17 h x0 x1 x2 x3 y0 y1 y2 = some r → le2 h r.2 := by
  intro h x0 x1 x2 x3 y0 y1 y2 r hm
  rw [m_X2_adjoint_35] at hm
  obtain ⟨h1, eh1, hm⟩ := bdE hm
  have lh1 := uL_le eh1
  obtain ⟨v2, ev2, hm⟩ := nmE hm
  exact (lh1.tr (hk17 h1 x0 x1 x2 v2 _ hm))
def m_X2_adjoint_17 (f : Nat) (k10 : CH → Nat → Nat → Int32 → Option (Nat × CH)) : Nat → CH → Nat → Nat → Int32 → Int32 → Option (Nat × CH)
  | 0, _, _, _, _, _ => none
  | n17 + 1, h, x0, x1, x2, x3 => if (3 : Int32) ≤ x3 then
    m_X2_adjoint_42 f k10 h x0 x1 x2
    else bd (oR h 3 0 x1) fun a2 =>
    bd (aR h 4 a2 x3) fun a3 =>
    gd (isC h x0 3) <|
    bd2 (m_X2_minor f h x0 x2 x3) fun r6 h5 =>
    m_X2_adjoint_35 f k10 (m_X2_adjoint_17 f k10 n17) h5 x0 x1 x2 x3 a3 x2 r6
theorem mo_X2_adjoint_17 {f : Nat} {k10 : CH → Nat → Nat → Int32 → Option (Nat × CH)} (hk10 : ∀ (h : CH) (x0 : Nat) (x1 : Nat) (x2 : Int32) (r : (Nat × CH)), k10 h x0 x1 x2 = some r → le2 h r.2) : ∀ (n17 : Nat) (h : CH) (x0 : Nat) (x1 : Nat) (x2 : Int32) (x3 : Int32) (r : (Nat × CH)), m_X2_adjoint_17 f k10 n17 h x0 x1 x2 x3 = some r → le2 h r.2 := by
  intro n17
  induction n17 with
  | zero => intro h x0 x1 x2 x3 r hm; rw [m_X2_adjoint_17] at hm; exact noE hm
  | succ n17 ihm =>
    intro h x0 x1 x2 x3 r hm
    rw [m_X2_adjoint_17] at hm
    by_cases c1 : (3 : Int32) ≤ x3
    · have hm := ifT hm c1
      exact (mo_X2_adjoint_42 hk10 h x0 x1 x2 _ hm)
    · have hm := ifF hm c1
      obtain ⟨a2, ea2, hm⟩ := bdE hm
      obtain ⟨a3, ea3, hm⟩ := bdE hm
      obtain ⟨g4, hm⟩ := gdE hm
      obtain ⟨r6, h5, er6, hm⟩ := bd2E hm
      have lh5 := mo_X2_minor er6
      exact (lh5.tr (mo_X2_adjoint_35 hk10 ihm h5 x0 x1 x2 x3 a3 x2 r6 _ hm))
def m_X2_adjoint_10 (f : Nat) : Nat → CH → Nat → Nat → Int32 → Option (Nat × CH)
  | 0, _, _, _, _ => none
  | n10 + 1, h, x0, x1, x2 => if (3 : Int32) ≤ x2 then
    m_X2_adjoint_48 f h x1
    else m_X2_adjoint_17 f (m_X2_adjoint_10 f n10) f h x0 x1 x2 (0 : Int32)
theorem mo_X2_adjoint_10 {f : Nat} : ∀ (n10 : Nat) (h : CH) (x0 : Nat) (x1 : Nat) (x2 : Int32) (r : (Nat × CH)), m_X2_adjoint_10 f n10 h x0 x1 x2 = some r → le2 h r.2 := by
  intro n10
  induction n10 with
  | zero => intro h x0 x1 x2 r hm; rw [m_X2_adjoint_10] at hm; exact noE hm
  | succ n10 ihm =>
    intro h x0 x1 x2 r hm
    rw [m_X2_adjoint_10] at hm
    by_cases c1 : (3 : Int32) ≤ x2
    · have hm := ifT hm c1
      exact (mo_X2_adjoint_48  h x1 _ hm)
    · have hm := ifF hm c1
      exact (mo_X2_adjoint_17 ihm f h x0 x1 x2 (0 : Int32) _ hm)
def m_X2_adjoint_7 (f : Nat) (h : CH) (x0 : Nat) (y0 : Nat) : Option (Nat × CH) := m_X2_adjoint_10 f f h x0 y0 (0 : Int32)
theorem mo_X2_adjoint_7 {f : Nat} : ∀ (h : CH) (x0 : Nat) (y0 : Nat) (r : (Nat × CH)), m_X2_adjoint_7 f h x0 y0 = some r → le2 h r.2 := by
  intro h x0 y0 r hm
  rw [m_X2_adjoint_7] at hm
  exact (mo_X2_adjoint_10  f h x0 y0 (0 : Int32) _ hm)
def m_X2_adjoint_3 (f : Nat) (h : CH) (x0 : Nat) (y0 : Nat) : Option (Nat × CH) := bd (m_X2_init f h y0) fun h1 =>
    m_X2_adjoint_7 f h1 x0 y0
theorem mo_X2_adjoint_3 {f : Nat} : ∀ (h : CH) (x0 : Nat) (y0 : Nat) (r : (Nat × CH)), m_X2_adjoint_3 f h x0 y0 = some r → le2 h r.2 := by
  intro h x0 y0 r hm
  rw [m_X2_adjoint_3] at hm
  obtain ⟨h1, eh1, hm⟩ := bdE hm
  have lh1 := mo_X2_init eh1
  exact (lh1.tr (mo_X2_adjoint_7  h1 x0 y0 _ hm))
def m_X2_adjoint (f : Nat) (u : CH) (x0 : Nat) : Option (Nat × CH) := nmv (cn u 1 (.inl (3, [.null]))) fun h1 =>
    nmv (u.1 : Nat) fun a2 =>
    m_X2_adjoint_3 f h1 x0 a2
theorem mo_X2_adjoint {f : Nat} {u : CH} {x0 : Nat} {r0 : Nat} {u9 : CH} (hm : m_X2_adjoint f u x0 = some (r0, u9)) : le2 u u9 := by
  rw [m_X2_adjoint] at hm
  obtain ⟨h1, eh1, hm⟩ := nmE hm
  have lh1 := cn_le eh1
  obtain ⟨a2, ea2, hm⟩ := nmE hm
  exact (lh1.tr (mo_X2_adjoint_3  h1 x0 a2 _ hm))
abbrev rm_X2_adjoint (mc ms : Nat) : Room := { frames := 2, cells := mc, slots := ms, locals := 40 }
theorem cw_X2_adjoint {R : Room} {s : State} {args : Array Value} {own : String} {idx mc ms : Nat} (hts : ∀ w ∈ lw_all, w.before args s = true) (hl : Cond.methodLink own idx yX2_adjoint ∈ lw_all) (hR : 2 + 1 ≤ R.frames ∧ 8 + (4 + 11) + 40 ≤ R.locals) : CallW R s args own RX2 idx yX2_adjoint cX2_adjoint 4 (Option.some (Jvm.ClassFile.FieldType.object "CoincideBench$Rows")) (ws_ yX2_adjoint cX2_adjoint 4 (Option.some (Jvm.ClassFile.FieldType.object "CoincideBench$Rows"))) (rm_X2_adjoint mc ms) mc ms 0 := cwV 0 hts (lw_V hl q1089 q1090 q124 q1091) rfl rfl rfl (by decide +kernel) hR
set_option maxHeartbeats 4000000 in
set_option maxRecDepth 100000 in
theorem w_X2_adjoint (l : Launch) {D : va_G} {dA : Nat → ClassId} {A : Nat → Prop} {f : Nat} {u u9 : CH} {r0 : Nat} {x0 : Nat} (hm : m_X2_adjoint f u x0 = some (r0, u9)) : Met l yX2_adjoint (ws_ yX2_adjoint cX2_adjoint 4 (Option.some (Jvm.ClassFile.FieldType.object "CoincideBench$Rows"))) (rm_X2_adjoint (u9.1 - u.1) (u9.2.1 - u.2.1)) (va_Pc [.ref x0] (CPre D dA A u)) (va_Qr (fun u => u = u9) (fun u r t => r = r0 ∧ CPost D dA A u t) A) (u9.1 - u.1) (u9.2.1 - u.2.1) A := by
  refine Met.ofW (cc := cX2_adjoint) (maxL := 4) (ret := (Option.some (Jvm.ClassFile.FieldType.object "CoincideBench$Rows"))) (by decide) rfl ?_
  intro p e s m args below meth c s₁ B hml hv
  have hx := B.exec
  have hb := B.bytes
  have hr := B.returns
  have hts := atoms_spec (ws := (ws_ yX2_adjoint cX2_adjoint 4 (Option.some (Jvm.ClassFile.FieldType.object "CoincideBench$Rows")))) B.pre
  have hts : ∀ w ∈ lw_all, w.before args s = true := fun w h => hts w (List.mem_cons_of_mem _ h)
  have hown : s.vm.findClass RX2 = some m.cls := findClass_of_methodNamed B.named
  have hlocks := B.notSynchronized
  obtain ⟨hav, hv⟩ := hv
  have C : CX p s m args c cX2_adjoint RX2 D dA := ⟨hx, hb, hown, hts, hv.2⟩
  have hw : CW D dA A s u s.heap [] := hv.1
  generalize hQ : MQ below (va_Qr (fun u => u = u9) (fun u r t => r = r0 ∧ CPost D dA A u t) A) args s (u9.1 - u.1) (u9.2.1 - u.2.1) A = QQ
  have hent := lg_entry_eq m [.ref x0] 4
  rw [← hav] at hent
  rw [hent]
  have hl := lv_entry ([.ref x0]) (n := 4) (Nat.le_of_ble_eq_true rfl)
  generalize (lg_sl ([.ref x0]) ++ List.replicate (4 - (lg_sl ([.ref x0])).length) Slot.unset).toArray = ls at hl ⊢
  have hl : lv_has ls 4 [(0, .ref x0)] := hl
  obtain ⟨cc, ecc⟩ : ∃ z : Nat, z = 0 := ⟨0, rfl⟩
  obtain ⟨ss, ess⟩ : ∃ z : Nat, z = 0 := ⟨0, rfl⟩
  have hcc : cc + u.1 = u.1 := by omega
  have hss : ss + u.2.1 = u.2.1 := by omega
  suffices hgo : W p l e (rm_X2_adjoint (u9.1 - u.1) (u9.2.1 - u.2.1)) s m args below meth c s.heap [] cc ss QQ (F0 m 0 ls []) by rw [ecc, ess] at hgo; exact hgo
  have ⟨pu, qu, _, _⟩ := mo_X2_adjoint hm
  have hB48 : ∀ (h : CH) (x1 : Nat) (cc ss : Nat) (H : Heap) (locs : List Loc) (ls : Array Slot), m_X2_adjoint_48 f h x1 = some (r0, u9) → CW D dA A s h H locs → cc + u.1 = h.1 → ss + u.2.1 = h.2.1 → lv_has ls 4 [(1, .ref x1)] → W p l e (rm_X2_adjoint (u9.1 - u.1) (u9.2.1 - u.2.1)) s m args below meth c H locs cc ss QQ (F0 m 48 ls []) := by
    intro h x1 cc ss H locs ls hm hw hcc hss hl
    have hmo := mo_X2_adjoint_48  h x1 _ hm
    have sb_ : h.1 ≤ u9.1 := hmo.1
    have tb_ : h.2.1 ≤ u9.2.1 := hmo.2.1
    rw [m_X2_adjoint_48] at hm
    refine lv_aload_n hx hb dX2_adjoint_48 rfl (lv_at hl 0 rfl) ?_
    obtain ⟨er, eh⟩ := retE hm
    have ec : cc = u9.1 - u.1 := by rw [← eh]; omega
    have es : ss = u9.2.1 - u.2.1 := by rw [← eh]; omega
    rw [ec, es, ← hQ]
    exact W.aret (v := .ref x1) hx hb hr (Or.inl ⟨_, rfl⟩) (Or.inr ⟨_, rfl⟩) (fun t ht hW => ⟨⟨h, x1, rfl, eh, er, ⟨by rw [ht]; exact hw.1, by rw [ht]; exact hw.2.1⟩⟩, hw.2.2.1.F ht⟩) hw.2.2.1.2.2 dX2_adjoint_49
  have hB10 : ∀ (n10 : Nat), ∀ (h : CH) (x0 : Nat) (x1 : Nat) (x2 : Int32) (cc ss : Nat) (H : Heap) (locs : List Loc) (ls : Array Slot), m_X2_adjoint_10 f n10 h x0 x1 x2 = some (r0, u9) → CW D dA A s h H locs → cc + u.1 = h.1 → ss + u.2.1 = h.2.1 → lv_has ls 4 [(0, .ref x0), (1, .ref x1), (2, .int x2)] → W p l e (rm_X2_adjoint (u9.1 - u.1) (u9.2.1 - u.2.1)) s m args below meth c H locs cc ss QQ (F0 m 10 ls []) := by
    intro n10
    induction n10 with
    | zero => intro h x0 x1 x2 cc ss H locs ls hm hw hcc hss hl; rw [m_X2_adjoint_10] at hm; exact noE hm
    | succ n10 ih10 =>
      have hB42 : ∀ (h : CH) (x0 : Nat) (x1 : Nat) (x2 : Int32) (cc ss : Nat) (H : Heap) (locs : List Loc) (ls : Array Slot), m_X2_adjoint_42 f (m_X2_adjoint_10 f n10) h x0 x1 x2 = some (r0, u9) → CW D dA A s h H locs → cc + u.1 = h.1 → ss + u.2.1 = h.2.1 → lv_has ls 4 [(0, .ref x0), (1, .ref x1), (2, .int x2)] → W p l e (rm_X2_adjoint (u9.1 - u.1) (u9.2.1 - u.2.1)) s m args below meth c H locs cc ss QQ (F0 m 42 ls []) := by
        intro h x0 x1 x2 cc ss H locs ls hm hw hcc hss hl
        have hmo := mo_X2_adjoint_42 (mo_X2_adjoint_10 n10) h x0 x1 x2 _ hm
        have sb_ : h.1 ≤ u9.1 := hmo.1
        have tb_ : h.2.1 ≤ u9.2.1 := hmo.2.1
        rw [m_X2_adjoint_42] at hm
        obtain ⟨v1, ev1, hm⟩ := nmE hm
        refine lv_iinc (v := v1) (lv' := [(2, .int v1), (0, .ref x0), (1, .ref x1)]) hx hb dX2_adjoint_42 hl (k := 2) rfl (by rw [ev1]; rfl) (by decide) rfl (fun ls hl => ?_)
        refine lv_goto (tgt := 10) hx hb dX2_adjoint_45 (by decide) ?_
        exact ih10 h x0 x1 v1 _ _ _ _ _ hm hw (by omega) (by omega) (lv_sub hl [1, 2, 0] rfl)
      have hB17 : ∀ (n17 : Nat), ∀ (h : CH) (x0 : Nat) (x1 : Nat) (x2 : Int32) (x3 : Int32) (cc ss : Nat) (H : Heap) (locs : List Loc) (ls : Array Slot), m_X2_adjoint_17 f (m_X2_adjoint_10 f n10) n17 h x0 x1 x2 x3 = some (r0, u9) → CW D dA A s h H locs → cc + u.1 = h.1 → ss + u.2.1 = h.2.1 → lv_has ls 4 [(0, .ref x0), (1, .ref x1), (2, .int x2), (3, .int x3)] → W p l e (rm_X2_adjoint (u9.1 - u.1) (u9.2.1 - u.2.1)) s m args below meth c H locs cc ss QQ (F0 m 17 ls []) := by
        intro n17
        induction n17 with
        | zero => intro h x0 x1 x2 x3 cc ss H locs ls hm hw hcc hss hl; rw [m_X2_adjoint_17] at hm; exact noE hm
        | succ n17 ih17 =>
          have hB35 : ∀ (h : CH) (x0 : Nat) (x1 : Nat) (x2 : Int32) (x3 : Int32) (y0 : Nat) (y1 : Int32) (y2 : Int64) (cc ss : Nat) (H : Heap) (locs : List Loc) (ls : Array Slot), m_X2_adjoint_35 f (m_X2_adjoint_10 f n10) (m_X2_adjoint_17 f (m_X2_adjoint_10 f n10) n17) h x0 x1 x2 x3 y0 y1 y2 = some (r0, u9) → CW D dA A s h H locs → cc + u.1 = h.1 → ss + u.2.1 = h.2.1 → lv_has ls 4 [(0, .ref x0), (1, .ref x1), (2, .int x2), (3, .int x3)] → W p l e (rm_X2_adjoint (u9.1 - u.1) (u9.2.1 - u.2.1)) s m args below meth c H locs cc ss QQ (F0 m 35 ls [.long y2, .int y1, .ref y0]) := by
            intro h x0 x1 x2 x3 y0 y1 y2 cc ss H locs ls hm hw hcc hss hl
            have hmo := mo_X2_adjoint_35 (mo_X2_adjoint_10 n10) (mo_X2_adjoint_17 (mo_X2_adjoint_10 n10) n17) h x0 x1 x2 x3 y0 y1 y2 _ hm
            have sb_ : h.1 ≤ u9.1 := hmo.1
            have tb_ : h.2.1 ≤ u9.2.1 := hmo.2.1
            rw [m_X2_adjoint_35] at hm
            obtain ⟨h1, eh1, hm⟩ := bdE hm
            refine cg_last C hw eh1 dX2_adjoint_35 (fun H locs hw => ?_)
            have zh1 := uL_sz eh1
            obtain ⟨v2, ev2, hm⟩ := nmE hm
            refine lv_iinc (v := v2) (lv' := [(3, .int v2), (0, .ref x0), (1, .ref x1), (2, .int x2)]) hx hb dX2_adjoint_36 hl (k := 3) rfl (by rw [ev2]; rfl) (by decide) rfl (fun ls hl => ?_)
            refine lv_goto (tgt := 17) hx hb dX2_adjoint_39 (by decide) ?_
            exact ih17 h1 x0 x1 x2 v2 _ _ _ _ _ hm hw (by omega) (by omega) (lv_sub hl [1, 2, 3, 0] rfl)
          intro h x0 x1 x2 x3 cc ss H locs ls hm hw hcc hss hl
          have hmo := mo_X2_adjoint_17 (mo_X2_adjoint_10 n10) (n17 + 1) h x0 x1 x2 x3 _ hm
          have sb_ : h.1 ≤ u9.1 := hmo.1
          have tb_ : h.2.1 ≤ u9.2.1 := hmo.2.1
          rw [m_X2_adjoint_17] at hm
          refine lv_iload_n hx hb dX2_adjoint_17 rfl (lv_at hl 3 rfl) ?_
          refine lv_iconst (v := 3) hx hb dX2_adjoint_18 (by decide) ?_
          refine lv_icmp_ge (tgt := 42) hx hb dX2_adjoint_19 (by decide) (fun c1 => ?_) (fun c1 => ?_)
          · have hm := ifT hm c1
            exact hB42 h x0 x1 x2 _ _ _ _ _ hm hw (by omega) (by omega) (lv_sub hl [0, 1, 2] rfl)
          · have hm := ifF hm c1
            refine lv_aload_n hx hb dX2_adjoint_22 rfl (lv_at hl 1 rfl) ?_
            obtain ⟨a2, ea2, hm⟩ := bdE hm
            refine cg_get C hw (oR_E ea2) rfl in_X2 (by decide) q205 dX2_adjoint_23 ?_
            refine lv_iload_n hx hb dX2_adjoint_26 rfl (lv_at hl 3 rfl) ?_
            obtain ⟨a3, ea3, hm⟩ := bdE hm
            refine cg_aaldA C hw (ty := .array .long) rfl rfl (aR_E ea3) dX2_adjoint_27 ?_
            refine lv_iload_n hx hb dX2_adjoint_28 rfl (lv_at hl 2 rfl) ?_
            refine lv_aload_n hx hb dX2_adjoint_29 rfl (lv_at hl 0 rfl) ?_
            refine lv_iload_n hx hb dX2_adjoint_30 rfl (lv_at hl 2 rfl) ?_
            refine lv_iload_n hx hb dX2_adjoint_31 rfl (lv_at hl 3 rfl) ?_
            obtain ⟨g4, hm⟩ := gdE hm
            obtain ⟨r6, h5, er6, hm⟩ := bd2E hm
            have lh5 := mo_X2_minor er6
            have ph5 : h.1 ≤ h5.1 := lh5.1
            have qh5 : h.2.1 ≤ h5.2.1 := lh5.2.1
            have hmo := mo_X2_adjoint_35 (mo_X2_adjoint_10 n10) (mo_X2_adjoint_17 (mo_X2_adjoint_10 n10) n17)  h5 x0 x1 x2 x3 a3 x2 r6 _ hm
            have sh5 : h5.1 ≤ u9.1 := hmo.1
            have th5 : h5.2.1 ≤ u9.2.1 := hmo.2.1
            refine cg_calll hw lh5 (va_runV (As := [.int x2, .int x3]) (rest := [.int x2, .ref a3]) ⟨hx, hb, hml, hown, hts⟩ (w_X2_minor l er6) (cw_X2_minor hts q792 ⟨Nat.le_of_ble_eq_true rfl, Nat.le_of_ble_eq_true rfl⟩) (cg_preV C hw g4 rfl _) rfl rfl hl.1 rfl (lv_room (Nat.le_of_ble_eq_true rfl)) dX2_adjoint_32 ⟨show cc + (h5.1 - h.1) ≤ u9.1 - u.1 by omega, show ss + (h5.2.1 - h.2.1) ≤ u9.2.1 - u.2.1 by omega⟩) (fun H locs hw => ?_)
            exact hB35 h5 x0 x1 x2 x3 a3 x2 r6 _ _ _ _ _ hm hw (by omega) (by omega) (lv_sub hl [0, 1, 2, 3] rfl)
      intro h x0 x1 x2 cc ss H locs ls hm hw hcc hss hl
      have hmo := mo_X2_adjoint_10  (n10 + 1) h x0 x1 x2 _ hm
      have sb_ : h.1 ≤ u9.1 := hmo.1
      have tb_ : h.2.1 ≤ u9.2.1 := hmo.2.1
      rw [m_X2_adjoint_10] at hm
      refine lv_iload_n hx hb dX2_adjoint_10 rfl (lv_at hl 2 rfl) ?_
      refine lv_iconst (v := 3) hx hb dX2_adjoint_11 (by decide) ?_
      refine lv_icmp_ge (tgt := 48) hx hb dX2_adjoint_12 (by decide) (fun c1 => ?_) (fun c1 => ?_)
      · have hm := ifT hm c1
        exact hB48 h x1 _ _ _ _ _ hm hw (by omega) (by omega) (lv_sub hl [1] rfl)
      · have hm := ifF hm c1
        refine lv_iconst (v := 0) hx hb dX2_adjoint_15 (by decide) ?_
        refine lv_istore_n (lv' := [(3, .int (0 : Int32)), (0, .ref x0), (1, .ref x1), (2, .int x2)]) hx hb dX2_adjoint_16 rfl hl (by decide) rfl (fun ls hl => ?_)
        exact hB17 f h x0 x1 x2 (0 : Int32) _ _ _ _ _ hm hw (by omega) (by omega) (lv_sub hl [1, 2, 3, 0] rfl)
  have hB7 : ∀ (h : CH) (x0 : Nat) (y0 : Nat) (cc ss : Nat) (H : Heap) (locs : List Loc) (ls : Array Slot), m_X2_adjoint_7 f h x0 y0 = some (r0, u9) → CW D dA A s h H locs → cc + u.1 = h.1 → ss + u.2.1 = h.2.1 → lv_has ls 4 [(0, .ref x0)] → W p l e (rm_X2_adjoint (u9.1 - u.1) (u9.2.1 - u.2.1)) s m args below meth c H locs cc ss QQ (F0 m 7 ls [.ref y0]) := by
    intro h x0 y0 cc ss H locs ls hm hw hcc hss hl
    have hmo := mo_X2_adjoint_7  h x0 y0 _ hm
    have sb_ : h.1 ≤ u9.1 := hmo.1
    have tb_ : h.2.1 ≤ u9.2.1 := hmo.2.1
    rw [m_X2_adjoint_7] at hm
    refine lv_astore_n (lv' := [(1, .ref y0), (0, .ref x0)]) hx hb dX2_adjoint_7 rfl hl (by decide) rfl (fun ls hl => ?_)
    refine lv_iconst (v := 0) hx hb dX2_adjoint_8 (by decide) ?_
    refine lv_istore_n (lv' := [(2, .int (0 : Int32)), (1, .ref y0), (0, .ref x0)]) hx hb dX2_adjoint_9 rfl hl (by decide) rfl (fun ls hl => ?_)
    exact hB10 f h x0 y0 (0 : Int32) _ _ _ _ _ hm hw (by omega) (by omega) (lv_sub hl [2, 1, 0] rfl)
  have hB3 : ∀ (h : CH) (x0 : Nat) (y0 : Nat) (cc ss : Nat) (H : Heap) (locs : List Loc) (ls : Array Slot), m_X2_adjoint_3 f h x0 y0 = some (r0, u9) → CW D dA A s h H locs → cc + u.1 = h.1 → ss + u.2.1 = h.2.1 → lv_has ls 4 [(0, .ref x0)] → W p l e (rm_X2_adjoint (u9.1 - u.1) (u9.2.1 - u.2.1)) s m args below meth c H locs cc ss QQ (F0 m 3 ls [.ref y0]) := by
    intro h x0 y0 cc ss H locs ls hm hw hcc hss hl
    have hmo := mo_X2_adjoint_3  h x0 y0 _ hm
    have sb_ : h.1 ≤ u9.1 := hmo.1
    have tb_ : h.2.1 ≤ u9.2.1 := hmo.2.1
    rw [m_X2_adjoint_3] at hm
    refine lv_dup hx hb dX2_adjoint_3 rfl ?_
    obtain ⟨h1, eh1, hm⟩ := bdE hm
    have lh1 := mo_X2_init eh1
    have ph1 : h.1 ≤ h1.1 := lh1.1
    have qh1 : h.2.1 ≤ h1.2.1 := lh1.2.1
    have hmo := mo_X2_adjoint_7   h1 x0 y0 _ hm
    have sh1 : h1.1 ≤ u9.1 := hmo.1
    have th1 : h1.2.1 ≤ u9.2.1 := hmo.2.1
    refine cg_callv hw lh1 (va_runI (As := []) (rest := [.ref y0]) ⟨hx, hb, hml, hown, hts⟩ (w_X2_init l eh1) (cw_X2_init hts q921 ⟨Nat.le_of_ble_eq_true rfl, Nat.le_of_ble_eq_true rfl⟩) (cg_preS C hw _) rfl rfl hl.1 rfl (lv_room (Nat.le_of_ble_eq_true rfl)) dX2_adjoint_4 ⟨show cc + (h1.1 - h.1) ≤ u9.1 - u.1 by omega, show ss + (h1.2.1 - h.2.1) ≤ u9.2.1 - u.2.1 by omega⟩) (fun H locs hw => ?_)
    exact hB7 h1 x0 y0 _ _ _ _ _ hm hw (by omega) (by omega) (lv_sub hl [0] rfl)
  rw [m_X2_adjoint] at hm
  obtain ⟨h1, eh1, hm⟩ := nmE hm
  obtain ⟨_, _, hmq⟩ := nmE hm
  have hmo := mo_X2_adjoint_3   h1 x0 _ _ hmq
  have sh1 : h1.1 ≤ u9.1 := hmo.1
  have th1 : h1.2.1 ≤ u9.2.1 := hmo.2.1
  have zh1 := cn_sz eh1
  refine cg_new (C0 := C) hw (ci := 3) (fs := [.null]) rfl in_X2 tyX2 tyX2_ok q920 q198 q124 (fun j hj => by rcases (show j = 0 by omega) with rfl <;> rfl) (show cc + 1 ≤ u9.1 - u.1 by omega) (show ss + 1 ≤ u9.2.1 - u.2.1 by omega) dX2_adjoint_0 (fun H hw => ?_)
  rw [← eh1] at hw
  refine lv_topr (fun a2 ea2 => ?_)
  have hm := nmK hm ea2
  exact hB3 h1 x0 a2 _ _ _ _ _ hm hw (by omega) (by omega) (lv_sub hl [0] rfl)
def m_X0_have_82 (f : Nat) (h : CH) : Option (Int32 × CH) := some ((1 : Int32), h)
theorem mo_X0_have_82 {f : Nat} : ∀ (h : CH) (r : (Int32 × CH)), m_X0_have_82 f h = some r → le2 h r.2 := by
  intro h r hm
  rw [m_X0_have_82] at hm
  cases hm
  exact le2.rf
def m_X0_have_74 (f : Nat) (h : CH) : Option (Int32 × CH) := some ((0 : Int32), h)
theorem mo_X0_have_74 {f : Nat} : ∀ (h : CH) (r : (Int32 × CH)), m_X0_have_74 f h = some r → le2 h r.2 := by
  intro h r hm
  rw [m_X0_have_74] at hm
  cases hm
  exact le2.rf
def m_X0_have_18 (f : Nat) : Nat → CH → Int64 → Int64 → Int64 → Int64 → Nat → Int64 → Int32 → Option (Int32 × CH)
  | 0, _, _, _, _, _, _, _, _ => none
  | n18 + 1, h, x1, x3, x5, x7, x11, x12, x14 => if (3 : Int32) ≤ x14 then
    m_X0_have_82 f h
    else bd (oR h 3 0 x11) fun a2 =>
    bd (aR h 4 a2 (0 : Int32)) fun a3 =>
    bd (aL h 1 a3 x14) fun v4 =>
    bd (oR h 3 0 x11) fun a5 =>
    bd (aR h 4 a5 (1 : Int32)) fun a6 =>
    bd (aL h 1 a6 x14) fun v7 =>
    bd (oR h 3 0 x11) fun a8 =>
    bd (aR h 4 a8 (2 : Int32)) fun a9 =>
    bd (aL h 1 a9 x14) fun v10 =>
    gd (nzL x12) <|
    if (rmL ((((x3 * v4) + (x5 * v7)) + (x7 * v10)) * x1) x12) = (0 : Int64) then
    nmv ((x14 + 1) : Int32) fun v13 =>
    m_X0_have_18 f n18 h x1 x3 x5 x7 x11 x12 v13
    else m_X0_have_74 f h
theorem mo_X0_have_18 {f : Nat} : ∀ (n18 : Nat) (h : CH) (x1 : Int64) (x3 : Int64) (x5 : Int64) (x7 : Int64) (x11 : Nat) (x12 : Int64) (x14 : Int32) (r : (Int32 × CH)), m_X0_have_18 f n18 h x1 x3 x5 x7 x11 x12 x14 = some r → le2 h r.2 := by
  intro n18
  induction n18 with
  | zero => intro h x1 x3 x5 x7 x11 x12 x14 r hm; rw [m_X0_have_18] at hm; exact noE hm
  | succ n18 ihm =>
    intro h x1 x3 x5 x7 x11 x12 x14 r hm
    rw [m_X0_have_18] at hm
    by_cases c1 : (3 : Int32) ≤ x14
    · have hm := ifT hm c1
      exact (mo_X0_have_82  h _ hm)
    · have hm := ifF hm c1
      obtain ⟨a2, ea2, hm⟩ := bdE hm
      obtain ⟨a3, ea3, hm⟩ := bdE hm
      obtain ⟨v4, ev4, hm⟩ := bdE hm
      obtain ⟨a5, ea5, hm⟩ := bdE hm
      obtain ⟨a6, ea6, hm⟩ := bdE hm
      obtain ⟨v7, ev7, hm⟩ := bdE hm
      obtain ⟨a8, ea8, hm⟩ := bdE hm
      obtain ⟨a9, ea9, hm⟩ := bdE hm
      obtain ⟨v10, ev10, hm⟩ := bdE hm
      obtain ⟨g11, hm⟩ := gdE hm
      by_cases c12 : (rmL ((((x3 * v4) + (x5 * v7)) + (x7 * v10)) * x1) x12) = (0 : Int64)
      · have hm := ifT hm c12
        obtain ⟨v13, ev13, hm⟩ := nmE hm
        exact (ihm h x1 x3 x5 x7 x11 x12 v13 _ hm)
      · have hm := ifF hm c12
        exact (mo_X0_have_74  h _ hm)
def m_X0_have_12 (f : Nat) (h : CH) (x1 : Int64) (x3 : Int64) (x5 : Int64) (x7 : Int64) (x11 : Nat) (y0 : Int64) (y1 : Int64) : Option (Int32 × CH) := nmv ((y0 * y1) : Int64) fun v1 =>
    m_X0_have_18 f f h x1 x3 x5 x7 x11 v1 (0 : Int32)
theorem mo_X0_have_12 {f : Nat} : ∀ (h : CH) (x1 : Int64) (x3 : Int64) (x5 : Int64) (x7 : Int64) (x11 : Nat) (y0 : Int64) (y1 : Int64) (r : (Int32 × CH)), m_X0_have_12 f h x1 x3 x5 x7 x11 y0 y1 = some r → le2 h r.2 := by
  intro h x1 x3 x5 x7 x11 y0 y1 r hm
  rw [m_X0_have_12] at hm
  obtain ⟨v1, ev1, hm⟩ := nmE hm
  exact (mo_X0_have_18  f h x1 x3 x5 x7 x11 v1 (0 : Int32) _ hm)
def m_X0_have_4 (f : Nat) (h : CH) (x0 : Nat) (x1 : Int64) (x3 : Int64) (x5 : Int64) (x7 : Int64) (x9 : Int64) (y0 : Nat) : Option (Int32 × CH) := gd (isC h x0 3) <|
    bd2 (m_X2_determinant f h x0) fun r3 h2 =>
    m_X0_have_12 f h2 x1 x3 x5 x7 y0 x9 r3
theorem mo_X0_have_4 {f : Nat} : ∀ (h : CH) (x0 : Nat) (x1 : Int64) (x3 : Int64) (x5 : Int64) (x7 : Int64) (x9 : Int64) (y0 : Nat) (r : (Int32 × CH)), m_X0_have_4 f h x0 x1 x3 x5 x7 x9 y0 = some r → le2 h r.2 := by
  intro h x0 x1 x3 x5 x7 x9 y0 r hm
  rw [m_X0_have_4] at hm
  obtain ⟨g1, hm⟩ := gdE hm
  obtain ⟨r3, h2, er3, hm⟩ := bd2E hm
  have lh2 := mo_X2_determinant er3
  exact (lh2.tr (mo_X0_have_12  h2 x1 x3 x5 x7 y0 x9 r3 _ hm))
def m_X0_have (f : Nat) (u : CH) (x0 : Nat) (x1 : Int64) (x3 : Int64) (x5 : Int64) (x7 : Int64) (x9 : Int64) : Option (Int32 × CH) := gd (isC u x0 3) <|
    bd2 (m_X2_adjoint f u x0) fun a3 h2 =>
    m_X0_have_4 f h2 x0 x1 x3 x5 x7 x9 a3
theorem mo_X0_have {f : Nat} {u : CH} {x0 : Nat} {x1 : Int64} {x3 : Int64} {x5 : Int64} {x7 : Int64} {x9 : Int64} {r0 : Int32} {u9 : CH} (hm : m_X0_have f u x0 x1 x3 x5 x7 x9 = some (r0, u9)) : le2 u u9 := by
  rw [m_X0_have] at hm
  obtain ⟨g1, hm⟩ := gdE hm
  obtain ⟨a3, h2, ea3, hm⟩ := bd2E hm
  have lh2 := mo_X2_adjoint ea3
  exact (lh2.tr (mo_X0_have_4  h2 x0 x1 x3 x5 x7 x9 a3 _ hm))
abbrev rm_X0_have (mc ms : Nat) : Room := { frames := 3, cells := mc, slots := ms, locals := 63 }
theorem cw_X0_have {R : Room} {s : State} {args : Array Value} {own : String} {idx mc ms : Nat} (hts : ∀ w ∈ lw_all, w.before args s = true) (hl : Cond.methodLink own idx yX0_have ∈ lw_all) (hR : 3 + 1 ≤ R.frames ∧ 8 + (15 + 11) + 63 ≤ R.locals) : CallB R s args own idx yX0_have cX0_have 15 (Option.some Jvm.ClassFile.FieldType.boolean) (ws_ yX0_have cX0_have 15 (Option.some Jvm.ClassFile.FieldType.boolean)) (rm_X0_have mc ms) mc ms 6 ∧ (Cond.static yX0_have).before args s = true := va_cwS 6 hts (lw_S hl q1086 q119 q1087) rfl rfl rfl (by decide +kernel) hR
set_option maxHeartbeats 4000000 in
set_option maxRecDepth 100000 in
theorem w_X0_have (l : Launch) {D : va_G} {dA : Nat → ClassId} {A : Nat → Prop} {f : Nat} {u u9 : CH} {r0 : Int32} {x0 : Nat} {x1 : Int64} {x3 : Int64} {x5 : Int64} {x7 : Int64} {x9 : Int64} (hm : m_X0_have f u x0 x1 x3 x5 x7 x9 = some (r0, u9)) : Met l yX0_have (ws_ yX0_have cX0_have 15 (Option.some Jvm.ClassFile.FieldType.boolean)) (rm_X0_have (u9.1 - u.1) (u9.2.1 - u.2.1)) (va_Pc [.ref x0, .long x1, .long x3, .long x5, .long x7, .long x9] (CPre D dA A u)) (va_Qi (fun r u => r = r0 ∧ u = u9) (CPost D dA A) A) (u9.1 - u.1) (u9.2.1 - u.2.1) A := by
  refine Met.ofW (cc := cX0_have) (maxL := 15) (ret := (Option.some Jvm.ClassFile.FieldType.boolean)) (by decide) rfl ?_
  intro p e s m args below meth c s₁ B hml hv
  have hx := B.exec
  have hb := B.bytes
  have hr := B.returns
  have hts := atoms_spec (ws := (ws_ yX0_have cX0_have 15 (Option.some Jvm.ClassFile.FieldType.boolean))) B.pre
  have hts : ∀ w ∈ lw_all, w.before args s = true := fun w h => hts w (List.mem_cons_of_mem _ h)
  have hown : s.vm.findClass RX0 = some m.cls := findClass_of_methodNamed B.named
  have hlocks := B.notSynchronized
  obtain ⟨hav, hv⟩ := hv
  have C : CX p s m args c cX0_have RX0 D dA := ⟨hx, hb, hown, hts, hv.2⟩
  have hw : CW D dA A s u s.heap [] := hv.1
  generalize hQ : MQ below (va_Qi (fun r u => r = r0 ∧ u = u9) (CPost D dA A) A) args s (u9.1 - u.1) (u9.2.1 - u.2.1) A = QQ
  have hent := lg_entry_eq m [.ref x0, .long x1, .long x3, .long x5, .long x7, .long x9] 15
  rw [← hav] at hent
  rw [hent]
  have hl := lv_entry ([.ref x0, .long x1, .long x3, .long x5, .long x7, .long x9]) (n := 15) (Nat.le_of_ble_eq_true rfl)
  generalize (lg_sl ([.ref x0, .long x1, .long x3, .long x5, .long x7, .long x9]) ++ List.replicate (15 - (lg_sl ([.ref x0, .long x1, .long x3, .long x5, .long x7, .long x9])).length) Slot.unset).toArray = ls at hl ⊢
  have hl : lv_has ls 15 [(0, .ref x0), (1, .long x1), (3, .long x3), (5, .long x5), (7, .long x7), (9, .long x9)] := hl
  obtain ⟨cc, ecc⟩ : ∃ z : Nat, z = 0 := ⟨0, rfl⟩
  obtain ⟨ss, ess⟩ : ∃ z : Nat, z = 0 := ⟨0, rfl⟩
  have hcc : cc + u.1 = u.1 := by omega
  have hss : ss + u.2.1 = u.2.1 := by omega
  suffices hgo : W p l e (rm_X0_have (u9.1 - u.1) (u9.2.1 - u.2.1)) s m args below meth c s.heap [] cc ss QQ (F0 m 0 ls []) by rw [ecc, ess] at hgo; exact hgo
  have ⟨pu, qu, _, _⟩ := mo_X0_have hm
  have hB82 : ∀ (h : CH) (cc ss : Nat) (H : Heap) (locs : List Loc) (ls : Array Slot), m_X0_have_82 f h = some (r0, u9) → CW D dA A s h H locs → cc + u.1 = h.1 → ss + u.2.1 = h.2.1 → lv_has ls 15 [] → W p l e (rm_X0_have (u9.1 - u.1) (u9.2.1 - u.2.1)) s m args below meth c H locs cc ss QQ (F0 m 82 ls []) := by
    intro h cc ss H locs ls hm hw hcc hss hl
    have hmo := mo_X0_have_82  h _ hm
    have sb_ : h.1 ≤ u9.1 := hmo.1
    have tb_ : h.2.1 ≤ u9.2.1 := hmo.2.1
    rw [m_X0_have_82] at hm
    refine lv_iconst (v := 1) hx hb dX0_have_82 (by decide) ?_
    obtain ⟨er, eh⟩ := retE hm
    have ec : cc = u9.1 - u.1 := by rw [← eh]; omega
    have es : ss = u9.2.1 - u.2.1 := by rw [← eh]; omega
    rw [ec, es, ← hQ]
    exact W.zret (v := (1 : Int32)) hx hb hr rfl (fun t ht hW => ⟨⟨(1 : Int32), h, rfl, ⟨er, eh⟩, ⟨by rw [ht]; exact hw.1, by rw [ht]; exact hw.2.1⟩⟩, hw.2.2.1.F ht⟩) hw.2.2.1.2.2 dX0_have_83
  have hB74 : ∀ (h : CH) (cc ss : Nat) (H : Heap) (locs : List Loc) (ls : Array Slot), m_X0_have_74 f h = some (r0, u9) → CW D dA A s h H locs → cc + u.1 = h.1 → ss + u.2.1 = h.2.1 → lv_has ls 15 [] → W p l e (rm_X0_have (u9.1 - u.1) (u9.2.1 - u.2.1)) s m args below meth c H locs cc ss QQ (F0 m 74 ls []) := by
    intro h cc ss H locs ls hm hw hcc hss hl
    have hmo := mo_X0_have_74  h _ hm
    have sb_ : h.1 ≤ u9.1 := hmo.1
    have tb_ : h.2.1 ≤ u9.2.1 := hmo.2.1
    rw [m_X0_have_74] at hm
    refine lv_iconst (v := 0) hx hb dX0_have_74 (by decide) ?_
    obtain ⟨er, eh⟩ := retE hm
    have ec : cc = u9.1 - u.1 := by rw [← eh]; omega
    have es : ss = u9.2.1 - u.2.1 := by rw [← eh]; omega
    rw [ec, es, ← hQ]
    exact W.zret (v := (0 : Int32)) hx hb hr rfl (fun t ht hW => ⟨⟨(0 : Int32), h, rfl, ⟨er, eh⟩, ⟨by rw [ht]; exact hw.1, by rw [ht]; exact hw.2.1⟩⟩, hw.2.2.1.F ht⟩) hw.2.2.1.2.2 dX0_have_75
  have hB18 : ∀ (n18 : Nat), ∀ (h : CH) (x1 : Int64) (x3 : Int64) (x5 : Int64) (x7 : Int64) (x11 : Nat) (x12 : Int64) (x14 : Int32) (cc ss : Nat) (H : Heap) (locs : List Loc) (ls : Array Slot), m_X0_have_18 f n18 h x1 x3 x5 x7 x11 x12 x14 = some (r0, u9) → CW D dA A s h H locs → cc + u.1 = h.1 → ss + u.2.1 = h.2.1 → lv_has ls 15 [(1, .long x1), (3, .long x3), (5, .long x5), (7, .long x7), (11, .ref x11), (12, .long x12), (14, .int x14)] → W p l e (rm_X0_have (u9.1 - u.1) (u9.2.1 - u.2.1)) s m args below meth c H locs cc ss QQ (F0 m 18 ls []) := by
    intro n18
    induction n18 with
    | zero => intro h x1 x3 x5 x7 x11 x12 x14 cc ss H locs ls hm hw hcc hss hl; rw [m_X0_have_18] at hm; exact noE hm
    | succ n18 ih18 =>
      intro h x1 x3 x5 x7 x11 x12 x14 cc ss H locs ls hm hw hcc hss hl
      have hmo := mo_X0_have_18  (n18 + 1) h x1 x3 x5 x7 x11 x12 x14 _ hm
      have sb_ : h.1 ≤ u9.1 := hmo.1
      have tb_ : h.2.1 ≤ u9.2.1 := hmo.2.1
      rw [m_X0_have_18] at hm
      refine lv_iload hx hb dX0_have_18 (lv_at hl 6 rfl) ?_
      refine lv_iconst (v := 3) hx hb dX0_have_20 (by decide) ?_
      refine lv_icmp_ge (tgt := 82) hx hb dX0_have_21 (by decide) (fun c1 => ?_) (fun c1 => ?_)
      · have hm := ifT hm c1
        exact hB82 h _ _ _ _ _ hm hw (by omega) (by omega) (lv_sub hl [] rfl)
      · have hm := ifF hm c1
        refine lv_lload_n hx hb dX0_have_24 rfl (lv_at hl 1 rfl) ?_
        refine lv_aload hx hb dX0_have_25 (lv_at hl 4 rfl) ?_
        obtain ⟨a2, ea2, hm⟩ := bdE hm
        refine cg_getN C hw (by decide) (oR_E ea2) rfl in_X2 (by decide) (hw.2.2.2.2.1 _ (List.mem_of_getElem? (i := 12) rfl)) dX0_have_27 ?_
        refine lv_iconst (v := 0) hx hb dX0_have_30 (by decide) ?_
        obtain ⟨a3, ea3, hm⟩ := bdE hm
        refine cg_aaldA C hw (ty := .array .long) rfl rfl (aR_E ea3) dX0_have_31 ?_
        refine lv_iload hx hb dX0_have_32 (lv_at hl 6 rfl) ?_
        obtain ⟨v4, ev4, hm⟩ := bdE hm
        refine cg_lald C hw ev4 dX0_have_34 ?_
        refine lv_lmul hx hb dX0_have_35 ?_
        refine lv_lload hx hb dX0_have_36 (lv_at hl 2 rfl) ?_
        refine lv_aload hx hb dX0_have_38 (lv_at hl 4 rfl) ?_
        obtain ⟨a5, ea5, hm⟩ := bdE hm
        refine cg_getN C hw (by decide) (oR_E ea5) rfl in_X2 (by decide) (hw.2.2.2.2.1 _ (List.mem_of_getElem? (i := 12) rfl)) dX0_have_40 ?_
        refine lv_iconst (v := 1) hx hb dX0_have_43 (by decide) ?_
        obtain ⟨a6, ea6, hm⟩ := bdE hm
        refine cg_aaldA C hw (ty := .array .long) rfl rfl (aR_E ea6) dX0_have_44 ?_
        refine lv_iload hx hb dX0_have_45 (lv_at hl 6 rfl) ?_
        obtain ⟨v7, ev7, hm⟩ := bdE hm
        refine cg_lald C hw ev7 dX0_have_47 ?_
        refine lv_lmul hx hb dX0_have_48 ?_
        refine lv_ladd hx hb dX0_have_49 ?_
        refine lv_lload hx hb dX0_have_50 (lv_at hl 3 rfl) ?_
        refine lv_aload hx hb dX0_have_52 (lv_at hl 4 rfl) ?_
        obtain ⟨a8, ea8, hm⟩ := bdE hm
        refine cg_getN C hw (by decide) (oR_E ea8) rfl in_X2 (by decide) (hw.2.2.2.2.1 _ (List.mem_of_getElem? (i := 12) rfl)) dX0_have_54 ?_
        refine lv_iconst (v := 2) hx hb dX0_have_57 (by decide) ?_
        obtain ⟨a9, ea9, hm⟩ := bdE hm
        refine cg_aaldA C hw (ty := .array .long) rfl rfl (aR_E ea9) dX0_have_58 ?_
        refine lv_iload hx hb dX0_have_59 (lv_at hl 6 rfl) ?_
        obtain ⟨v10, ev10, hm⟩ := bdE hm
        refine cg_lald C hw ev10 dX0_have_61 ?_
        refine lv_lmul hx hb dX0_have_62 ?_
        refine lv_ladd hx hb dX0_have_63 ?_
        refine lv_lload_n hx hb dX0_have_64 rfl (lv_at hl 0 rfl) ?_
        refine lv_lmul hx hb dX0_have_65 ?_
        refine lv_lload hx hb dX0_have_66 (lv_at hl 5 rfl) ?_
        obtain ⟨g11, hm⟩ := gdE hm
        refine w_lrem hx hb dX0_have_68 (nzL_ne g11) ?_
        refine lv_lconst (v := 0) hx hb dX0_have_69 (by decide) ?_
        refine lc_eq (tgt := 76) hx hb dX0_have_70 dX0_have_71 (by decide) (fun c12 => ?_) (fun c12 => ?_)
        · have hm := ifT hm c12
          obtain ⟨v13, ev13, hm⟩ := nmE hm
          refine lv_iinc (v := v13) (lv' := [(14, .int v13), (1, .long x1), (3, .long x3), (5, .long x5), (7, .long x7), (11, .ref x11), (12, .long x12)]) hx hb dX0_have_76 hl (k := 6) rfl (by rw [ev13]; rfl) (by decide) rfl (fun ls hl => ?_)
          refine lv_goto (tgt := 18) hx hb dX0_have_79 (by decide) ?_
          exact ih18 h x1 x3 x5 x7 x11 x12 v13 _ _ _ _ _ hm hw (by omega) (by omega) (lv_sub hl [1, 2, 3, 4, 5, 6, 0] rfl)
        · have hm := ifF hm c12
          exact hB74 h _ _ _ _ _ hm hw (by omega) (by omega) (lv_sub hl [] rfl)
  have hB12 : ∀ (h : CH) (x1 : Int64) (x3 : Int64) (x5 : Int64) (x7 : Int64) (x11 : Nat) (y0 : Int64) (y1 : Int64) (cc ss : Nat) (H : Heap) (locs : List Loc) (ls : Array Slot), m_X0_have_12 f h x1 x3 x5 x7 x11 y0 y1 = some (r0, u9) → CW D dA A s h H locs → cc + u.1 = h.1 → ss + u.2.1 = h.2.1 → lv_has ls 15 [(1, .long x1), (3, .long x3), (5, .long x5), (7, .long x7), (11, .ref x11)] → W p l e (rm_X0_have (u9.1 - u.1) (u9.2.1 - u.2.1)) s m args below meth c H locs cc ss QQ (F0 m 12 ls [.long y1, .long y0]) := by
    intro h x1 x3 x5 x7 x11 y0 y1 cc ss H locs ls hm hw hcc hss hl
    have hmo := mo_X0_have_12  h x1 x3 x5 x7 x11 y0 y1 _ hm
    have sb_ : h.1 ≤ u9.1 := hmo.1
    have tb_ : h.2.1 ≤ u9.2.1 := hmo.2.1
    rw [m_X0_have_12] at hm
    refine lv_lmul hx hb dX0_have_12 ?_
    refine lv_topl (fun v1 ev1 => ?_)
    have hm := nmK hm ev1
    refine lv_lstore (lv' := [(12, .long v1), (1, .long x1), (3, .long x3), (5, .long x5), (7, .long x7), (11, .ref x11)]) hx hb dX0_have_13 hl (by decide) rfl (fun ls hl => ?_)
    refine lv_iconst (v := 0) hx hb dX0_have_15 (by decide) ?_
    refine lv_istore (lv' := [(14, .int (0 : Int32)), (12, .long v1), (1, .long x1), (3, .long x3), (5, .long x5), (7, .long x7), (11, .ref x11)]) hx hb dX0_have_16 hl (by decide) rfl (fun ls hl => ?_)
    exact hB18 f h x1 x3 x5 x7 x11 v1 (0 : Int32) _ _ _ _ _ hm hw (by omega) (by omega) (lv_sub hl [2, 3, 4, 5, 6, 1, 0] rfl)
  have hB4 : ∀ (h : CH) (x0 : Nat) (x1 : Int64) (x3 : Int64) (x5 : Int64) (x7 : Int64) (x9 : Int64) (y0 : Nat) (cc ss : Nat) (H : Heap) (locs : List Loc) (ls : Array Slot), m_X0_have_4 f h x0 x1 x3 x5 x7 x9 y0 = some (r0, u9) → CW D dA A s h H locs → cc + u.1 = h.1 → ss + u.2.1 = h.2.1 → lv_has ls 15 [(0, .ref x0), (1, .long x1), (3, .long x3), (5, .long x5), (7, .long x7), (9, .long x9)] → W p l e (rm_X0_have (u9.1 - u.1) (u9.2.1 - u.2.1)) s m args below meth c H locs cc ss QQ (F0 m 4 ls [.ref y0]) := by
    intro h x0 x1 x3 x5 x7 x9 y0 cc ss H locs ls hm hw hcc hss hl
    have hmo := mo_X0_have_4  h x0 x1 x3 x5 x7 x9 y0 _ hm
    have sb_ : h.1 ≤ u9.1 := hmo.1
    have tb_ : h.2.1 ≤ u9.2.1 := hmo.2.1
    rw [m_X0_have_4] at hm
    refine lv_astore (lv' := [(11, .ref y0), (0, .ref x0), (1, .long x1), (3, .long x3), (5, .long x5), (7, .long x7), (9, .long x9)]) hx hb dX0_have_4 hl (by decide) rfl (fun ls hl => ?_)
    refine lv_lload hx hb dX0_have_6 (lv_at hl 6 rfl) ?_
    refine lv_aload_n hx hb dX0_have_8 rfl (lv_at hl 1 rfl) ?_
    obtain ⟨g1, hm⟩ := gdE hm
    obtain ⟨r3, h2, er3, hm⟩ := bd2E hm
    have lh2 := mo_X2_determinant er3
    have ph2 : h.1 ≤ h2.1 := lh2.1
    have qh2 : h.2.1 ≤ h2.2.1 := lh2.2.1
    have hmo := mo_X0_have_12   h2 x1 x3 x5 x7 y0 x9 r3 _ hm
    have sh2 : h2.1 ≤ u9.1 := hmo.1
    have th2 : h2.2.1 ≤ u9.2.1 := hmo.2.1
    refine cg_calll hw lh2 (va_runV (As := []) (rest := [.long x9]) ⟨hx, hb, hml, hown, hts⟩ (w_X2_determinant l er3) (cw_X2_determinant hts q1060 ⟨Nat.le_of_ble_eq_true rfl, Nat.le_of_ble_eq_true rfl⟩) (cg_preV C hw g1 rfl _) rfl rfl hl.1 rfl (lv_room (Nat.le_of_ble_eq_true rfl)) dX0_have_9 ⟨show cc + (h2.1 - h.1) ≤ u9.1 - u.1 by omega, show ss + (h2.2.1 - h.2.1) ≤ u9.2.1 - u.2.1 by omega⟩) (fun H locs hw => ?_)
    exact hB12 h2 x1 x3 x5 x7 y0 x9 r3 _ _ _ _ _ hm hw (by omega) (by omega) (lv_sub hl [2, 3, 4, 5, 0] rfl)
  rw [m_X0_have] at hm
  refine lv_aload_n hx hb dX0_have_0 rfl (lv_at hl 0 rfl) ?_
  obtain ⟨g1, hm⟩ := gdE hm
  obtain ⟨a3, h2, ea3, hm⟩ := bd2E hm
  have lh2 := mo_X2_adjoint ea3
  have ph2 : u.1 ≤ h2.1 := lh2.1
  have qh2 : u.2.1 ≤ h2.2.1 := lh2.2.1
  have hmo := mo_X0_have_4   h2 x0 x1 x3 x5 x7 x9 a3 _ hm
  have sh2 : h2.1 ≤ u9.1 := hmo.1
  have th2 : h2.2.1 ≤ u9.2.1 := hmo.2.1
  refine cg_callr hw lh2 (va_runV (As := []) (rest := []) ⟨hx, hb, hml, hown, hts⟩ (w_X2_adjoint l ea3) (cw_X2_adjoint hts q1088 ⟨Nat.le_of_ble_eq_true rfl, Nat.le_of_ble_eq_true rfl⟩) (cg_preV C hw g1 rfl _) rfl rfl hl.1 rfl (lv_room (Nat.le_of_ble_eq_true rfl)) dX0_have_1 ⟨show cc + (h2.1 - u.1) ≤ u9.1 - u.1 by omega, show ss + (h2.2.1 - u.2.1) ≤ u9.2.1 - u.2.1 by omega⟩) (fun H locs hw => ?_)
  exact hB4 h2 x0 x1 x3 x5 x7 x9 a3 _ _ _ _ _ hm hw (by omega) (by omega) (lv_sub hl [0, 1, 2, 3, 4, 5] rfl)
def m_X0_has_20 (f : Nat) (h : CH) : Option (Int32 × CH) := some ((-2 : Int32), h)
theorem mo_X0_has_20 {f : Nat} : ∀ (h : CH) (r : (Int32 × CH)), m_X0_has_20 f h = some r → le2 h r.2 := by
  intro h r hm
  rw [m_X0_has_20] at hm
  cases hm
  exact le2.rf
def m_X0_has_60 (f : Nat) (h : CH) (y0 : Int32) : Option (Int32 × CH) := some (y0, h)
theorem mo_X0_has_60 {f : Nat} : ∀ (h : CH) (y0 : Int32) (r : (Int32 × CH)), m_X0_has_60 f h y0 = some r → le2 h r.2 := by
  intro h y0 r hm
  rw [m_X0_has_60] at hm
  cases hm
  exact le2.rf
def m_X0_has_52 (f : Nat) (h : CH) (y0 : Int32) : Option (Int32 × CH) := if y0 = 0 then
    m_X0_has_60 f h (0 : Int32)
    else m_X0_has_60 f h (1 : Int32)
theorem mo_X0_has_52 {f : Nat} : ∀ (h : CH) (y0 : Int32) (r : (Int32 × CH)), m_X0_has_52 f h y0 = some r → le2 h r.2 := by
  intro h y0 r hm
  rw [m_X0_has_52] at hm
  by_cases c1 : y0 = 0
  · have hm := ifT hm c1
    exact (mo_X0_has_60  h (0 : Int32) _ hm)
  · have hm := ifF hm c1
    exact (mo_X0_has_60  h (1 : Int32) _ hm)
def m_X0_has_39 (f : Nat) (h : CH) (x2 : Int32) (x3 : Int32) (x4 : Int32) (x5 : Int32) (y0 : Nat) (y1 : Int64) : Option (Int32 × CH) := bd2 (m_X0_have f h y0 y1 (Int32.toInt64 x2) (Int32.toInt64 x3) (Int32.toInt64 x4) (Int32.toInt64 x5)) fun r2 h1 =>
    m_X0_has_52 f h1 r2
theorem mo_X0_has_39 {f : Nat} : ∀ (h : CH) (x2 : Int32) (x3 : Int32) (x4 : Int32) (x5 : Int32) (y0 : Nat) (y1 : Int64) (r : (Int32 × CH)), m_X0_has_39 f h x2 x3 x4 x5 y0 y1 = some r → le2 h r.2 := by
  intro h x2 x3 x4 x5 y0 y1 r hm
  rw [m_X0_has_39] at hm
  obtain ⟨r2, h1, er2, hm⟩ := bd2E hm
  have lh1 := mo_X0_have er2
  exact (lh1.tr (mo_X0_has_52  h1 r2 _ hm))
def m_X0_has_36 (f : Nat) (h : CH) (x2 : Int32) (x3 : Int32) (x4 : Int32) (x5 : Int32) (y0 : Nat) (y1 : Nat) : Option (Int32 × CH) := if isC h y1 6 = true then
    bd2 (m_X6_over f h y1) fun r3 h2 =>
    m_X0_has_39 f h2 x2 x3 x4 x5 y0 r3
    else gd (isC h y1 7) <|
    bd2 (m_X7_over f h y1) fun r6 h5 =>
    m_X0_has_39 f h5 x2 x3 x4 x5 y0 r6
theorem mo_X0_has_36 {f : Nat} : ∀ (h : CH) (x2 : Int32) (x3 : Int32) (x4 : Int32) (x5 : Int32) (y0 : Nat) (y1 : Nat) (r : (Int32 × CH)), m_X0_has_36 f h x2 x3 x4 x5 y0 y1 = some r → le2 h r.2 := by
  intro h x2 x3 x4 x5 y0 y1 r hm
  rw [m_X0_has_36] at hm
  by_cases c1 : isC h y1 6 = true
  · have hm := ifT hm c1
    obtain ⟨r3, h2, er3, hm⟩ := bd2E hm
    have lh2 := mo_X6_over er3
    exact (lh2.tr (mo_X0_has_39  h2 x2 x3 x4 x5 y0 r3 _ hm))
  · have hm := ifF hm c1
    obtain ⟨g4, hm⟩ := gdE hm
    obtain ⟨r6, h5, er6, hm⟩ := bd2E hm
    have lh5 := mo_X7_over er6
    exact (lh5.tr (mo_X0_has_39  h5 x2 x3 x4 x5 y0 r6 _ hm))
def m_X0_has_31 (f : Nat) (h : CH) (x0 : Nat) (x1 : Int32) (x2 : Int32) (x3 : Int32) (x4 : Int32) (x5 : Int32) (y0 : Nat) : Option (Int32 × CH) := gd (isC h x0 1) <|
    bd2 (m_X0_at f h x0 x1) fun a3 h2 =>
    m_X0_has_36 f h2 x2 x3 x4 x5 y0 a3
theorem mo_X0_has_31 {f : Nat} : ∀ (h : CH) (x0 : Nat) (x1 : Int32) (x2 : Int32) (x3 : Int32) (x4 : Int32) (x5 : Int32) (y0 : Nat) (r : (Int32 × CH)), m_X0_has_31 f h x0 x1 x2 x3 x4 x5 y0 = some r → le2 h r.2 := by
  intro h x0 x1 x2 x3 x4 x5 y0 r hm
  rw [m_X0_has_31] at hm
  obtain ⟨g1, hm⟩ := gdE hm
  obtain ⟨a3, h2, ea3, hm⟩ := bd2E hm
  have lh2 := mo_X0_at ea3
  exact (lh2.tr (mo_X0_has_36  h2 x2 x3 x4 x5 y0 a3 _ hm))
def m_X0_has_28 (f : Nat) (h : CH) (x0 : Nat) (x1 : Int32) (x2 : Int32) (x3 : Int32) (x4 : Int32) (x5 : Int32) (y0 : Nat) : Option (Int32 × CH) := if isC h y0 6 = true then
    bd2 (m_X6_rows f h y0) fun a3 h2 =>
    m_X0_has_31 f h2 x0 x1 x2 x3 x4 x5 a3
    else gd (isC h y0 7) <|
    bd2 (m_X7_rows f h y0) fun a6 h5 =>
    m_X0_has_31 f h5 x0 x1 x2 x3 x4 x5 a6
theorem mo_X0_has_28 {f : Nat} : ∀ (h : CH) (x0 : Nat) (x1 : Int32) (x2 : Int32) (x3 : Int32) (x4 : Int32) (x5 : Int32) (y0 : Nat) (r : (Int32 × CH)), m_X0_has_28 f h x0 x1 x2 x3 x4 x5 y0 = some r → le2 h r.2 := by
  intro h x0 x1 x2 x3 x4 x5 y0 r hm
  rw [m_X0_has_28] at hm
  by_cases c1 : isC h y0 6 = true
  · have hm := ifT hm c1
    obtain ⟨a3, h2, ea3, hm⟩ := bd2E hm
    have lh2 := mo_X6_rows ea3
    exact (lh2.tr (mo_X0_has_31  h2 x0 x1 x2 x3 x4 x5 a3 _ hm))
  · have hm := ifF hm c1
    obtain ⟨g4, hm⟩ := gdE hm
    obtain ⟨a6, h5, ea6, hm⟩ := bd2E hm
    have lh5 := mo_X7_rows ea6
    exact (lh5.tr (mo_X0_has_31  h5 x0 x1 x2 x3 x4 x5 a6 _ hm))
def m_X0_has_5 (f : Nat) (h : CH) (x0 : Nat) (x1 : Int32) (x2 : Int32) (x3 : Int32) (x4 : Int32) (x5 : Int32) (y0 : Int32) : Option (Int32 × CH) := if y0 = 0 then
    m_X0_has_20 f h
    else bd (m_X0_isPoint f x2 x3 x4 x5) fun r2 =>
    if ¬ r2 = 0 then
    gd (isC h x0 1) <|
    bd2 (m_X0_at f h x0 x1) fun a6 h5 =>
    m_X0_has_28 f h5 x0 x1 x2 x3 x4 x5 a6
    else m_X0_has_20 f h
theorem mo_X0_has_5 {f : Nat} : ∀ (h : CH) (x0 : Nat) (x1 : Int32) (x2 : Int32) (x3 : Int32) (x4 : Int32) (x5 : Int32) (y0 : Int32) (r : (Int32 × CH)), m_X0_has_5 f h x0 x1 x2 x3 x4 x5 y0 = some r → le2 h r.2 := by
  intro h x0 x1 x2 x3 x4 x5 y0 r hm
  rw [m_X0_has_5] at hm
  by_cases c1 : y0 = 0
  · have hm := ifT hm c1
    exact (mo_X0_has_20  h _ hm)
  · have hm := ifF hm c1
    obtain ⟨r2, er2, hm⟩ := bdE hm
    by_cases c3 : ¬ r2 = 0
    · have hm := ifT hm c3
      obtain ⟨g4, hm⟩ := gdE hm
      obtain ⟨a6, h5, ea6, hm⟩ := bd2E hm
      have lh5 := mo_X0_at ea6
      exact (lh5.tr (mo_X0_has_28  h5 x0 x1 x2 x3 x4 x5 a6 _ hm))
    · have hm := ifF hm c3
      exact (mo_X0_has_20  h _ hm)
def m_X0_has (f : Nat) (u : CH) (x0 : Nat) (x1 : Int32) (x2 : Int32) (x3 : Int32) (x4 : Int32) (x5 : Int32) : Option (Int32 × CH) := gd (isC u x0 1) <|
    bd2 (m_X0_isLattice f u x0 x1) fun r3 h2 =>
    m_X0_has_5 f h2 x0 x1 x2 x3 x4 x5 r3
theorem mo_X0_has {f : Nat} {u : CH} {x0 : Nat} {x1 : Int32} {x2 : Int32} {x3 : Int32} {x4 : Int32} {x5 : Int32} {r0 : Int32} {u9 : CH} (hm : m_X0_has f u x0 x1 x2 x3 x4 x5 = some (r0, u9)) : le2 u u9 := by
  rw [m_X0_has] at hm
  obtain ⟨g1, hm⟩ := gdE hm
  obtain ⟨r3, h2, er3, hm⟩ := bd2E hm
  have lh2 := mo_X0_isLattice er3
  exact (lh2.tr (mo_X0_has_5  h2 x0 x1 x2 x3 x4 x5 r3 _ hm))
abbrev rm_X0_has (mc ms : Nat) : Room := { frames := 105, cells := mc, slots := ms, locals := 4127 }
theorem cw_X0_has {R : Room} {s : State} {args : Array Value} {own : String} {idx mc ms : Nat} (hts : ∀ w ∈ lw_all, w.before args s = true) (hl : Cond.methodLink own idx yX0_has ∈ lw_all) (hR : 105 + 1 ≤ R.frames ∧ 8 + (6 + 11) + 4127 ≤ R.locals) : CallW R s args own RX0 idx yX0_has cX0_has 6 (Option.some Jvm.ClassFile.FieldType.int) (ws_ yX0_has cX0_has 6 (Option.some Jvm.ClassFile.FieldType.int)) (rm_X0_has mc ms) mc ms 5 := cwV 5 hts (lw_V hl q1076 q1077 q119 q1078) rfl rfl rfl (by decide +kernel) hR
set_option maxHeartbeats 4000000 in
set_option maxRecDepth 100000 in
theorem w_X0_has (l : Launch) {D : va_G} {dA : Nat → ClassId} {A : Nat → Prop} {f : Nat} {u u9 : CH} {r0 : Int32} {x0 : Nat} {x1 : Int32} {x2 : Int32} {x3 : Int32} {x4 : Int32} {x5 : Int32} (hm : m_X0_has f u x0 x1 x2 x3 x4 x5 = some (r0, u9)) : Met l yX0_has (ws_ yX0_has cX0_has 6 (Option.some Jvm.ClassFile.FieldType.int)) (rm_X0_has (u9.1 - u.1) (u9.2.1 - u.2.1)) (va_Pc [.ref x0, .int x1, .int x2, .int x3, .int x4, .int x5] (CPre D dA A u)) (va_Qi (fun r u => r = r0 ∧ u = u9) (CPost D dA A) A) (u9.1 - u.1) (u9.2.1 - u.2.1) A := by
  refine Met.ofW (cc := cX0_has) (maxL := 6) (ret := (Option.some Jvm.ClassFile.FieldType.int)) (by decide) rfl ?_
  intro p e s m args below meth c s₁ B hml hv
  have hx := B.exec
  have hb := B.bytes
  have hr := B.returns
  have hts := atoms_spec (ws := (ws_ yX0_has cX0_has 6 (Option.some Jvm.ClassFile.FieldType.int))) B.pre
  have hts : ∀ w ∈ lw_all, w.before args s = true := fun w h => hts w (List.mem_cons_of_mem _ h)
  have hown : s.vm.findClass RX0 = some m.cls := findClass_of_methodNamed B.named
  have hlocks := B.notSynchronized
  obtain ⟨hav, hv⟩ := hv
  have C : CX p s m args c cX0_has RX0 D dA := ⟨hx, hb, hown, hts, hv.2⟩
  have hw : CW D dA A s u s.heap [] := hv.1
  generalize hQ : MQ below (va_Qi (fun r u => r = r0 ∧ u = u9) (CPost D dA A) A) args s (u9.1 - u.1) (u9.2.1 - u.2.1) A = QQ
  have hent := lg_entry_eq m [.ref x0, .int x1, .int x2, .int x3, .int x4, .int x5] 6
  rw [← hav] at hent
  rw [hent]
  have hl := lv_entry ([.ref x0, .int x1, .int x2, .int x3, .int x4, .int x5]) (n := 6) (Nat.le_of_ble_eq_true rfl)
  generalize (lg_sl ([.ref x0, .int x1, .int x2, .int x3, .int x4, .int x5]) ++ List.replicate (6 - (lg_sl ([.ref x0, .int x1, .int x2, .int x3, .int x4, .int x5])).length) Slot.unset).toArray = ls at hl ⊢
  have hl : lv_has ls 6 [(0, .ref x0), (1, .int x1), (2, .int x2), (3, .int x3), (4, .int x4), (5, .int x5)] := hl
  obtain ⟨cc, ecc⟩ : ∃ z : Nat, z = 0 := ⟨0, rfl⟩
  obtain ⟨ss, ess⟩ : ∃ z : Nat, z = 0 := ⟨0, rfl⟩
  have hcc : cc + u.1 = u.1 := by omega
  have hss : ss + u.2.1 = u.2.1 := by omega
  suffices hgo : W p l e (rm_X0_has (u9.1 - u.1) (u9.2.1 - u.2.1)) s m args below meth c s.heap [] cc ss QQ (F0 m 0 ls []) by rw [ecc, ess] at hgo; exact hgo
  have ⟨pu, qu, _, _⟩ := mo_X0_has hm
  have hB20 : ∀ (h : CH) (cc ss : Nat) (H : Heap) (locs : List Loc) (ls : Array Slot), m_X0_has_20 f h = some (r0, u9) → CW D dA A s h H locs → cc + u.1 = h.1 → ss + u.2.1 = h.2.1 → lv_has ls 6 [] → W p l e (rm_X0_has (u9.1 - u.1) (u9.2.1 - u.2.1)) s m args below meth c H locs cc ss QQ (F0 m 20 ls []) := by
    intro h cc ss H locs ls hm hw hcc hss hl
    have hmo := mo_X0_has_20  h _ hm
    have sb_ : h.1 ≤ u9.1 := hmo.1
    have tb_ : h.2.1 ≤ u9.2.1 := hmo.2.1
    rw [m_X0_has_20] at hm
    refine lv_bipush (v := -2) hx hb dX0_has_20 (by decide) ?_
    obtain ⟨er, eh⟩ := retE hm
    have ec : cc = u9.1 - u.1 := by rw [← eh]; omega
    have es : ss = u9.2.1 - u.2.1 := by rw [← eh]; omega
    rw [ec, es, ← hQ]
    exact W.iret (v := (-2 : Int32)) hx hb hr (fun t ht hW => ⟨⟨(-2 : Int32), h, rfl, ⟨er, eh⟩, ⟨by rw [ht]; exact hw.1, by rw [ht]; exact hw.2.1⟩⟩, hw.2.2.1.F ht⟩) hw.2.2.1.2.2 dX0_has_22
  have hB60 : ∀ (h : CH) (y0 : Int32) (cc ss : Nat) (H : Heap) (locs : List Loc) (ls : Array Slot), m_X0_has_60 f h y0 = some (r0, u9) → CW D dA A s h H locs → cc + u.1 = h.1 → ss + u.2.1 = h.2.1 → lv_has ls 6 [] → W p l e (rm_X0_has (u9.1 - u.1) (u9.2.1 - u.2.1)) s m args below meth c H locs cc ss QQ (F0 m 60 ls [.int y0]) := by
    intro h y0 cc ss H locs ls hm hw hcc hss hl
    have hmo := mo_X0_has_60  h y0 _ hm
    have sb_ : h.1 ≤ u9.1 := hmo.1
    have tb_ : h.2.1 ≤ u9.2.1 := hmo.2.1
    rw [m_X0_has_60] at hm
    obtain ⟨er, eh⟩ := retE hm
    have ec : cc = u9.1 - u.1 := by rw [← eh]; omega
    have es : ss = u9.2.1 - u.2.1 := by rw [← eh]; omega
    rw [ec, es, ← hQ]
    exact W.iret (v := y0) hx hb hr (fun t ht hW => ⟨⟨y0, h, rfl, ⟨er, eh⟩, ⟨by rw [ht]; exact hw.1, by rw [ht]; exact hw.2.1⟩⟩, hw.2.2.1.F ht⟩) hw.2.2.1.2.2 dX0_has_60
  have hB52 : ∀ (h : CH) (y0 : Int32) (cc ss : Nat) (H : Heap) (locs : List Loc) (ls : Array Slot), m_X0_has_52 f h y0 = some (r0, u9) → CW D dA A s h H locs → cc + u.1 = h.1 → ss + u.2.1 = h.2.1 → lv_has ls 6 [] → W p l e (rm_X0_has (u9.1 - u.1) (u9.2.1 - u.2.1)) s m args below meth c H locs cc ss QQ (F0 m 52 ls [.int y0]) := by
    intro h y0 cc ss H locs ls hm hw hcc hss hl
    have hmo := mo_X0_has_52  h y0 _ hm
    have sb_ : h.1 ≤ u9.1 := hmo.1
    have tb_ : h.2.1 ≤ u9.2.1 := hmo.2.1
    rw [m_X0_has_52] at hm
    refine lv_if_eq (tgt := 59) hx hb dX0_has_52 (by decide) (fun c1 => ?_) (fun c1 => ?_)
    · have hm := ifT hm c1
      refine lv_iconst (v := 0) hx hb dX0_has_59 (by decide) ?_
      exact hB60 h (0 : Int32) _ _ _ _ _ hm hw (by omega) (by omega) (lv_sub hl [] rfl)
    · have hm := ifF hm c1
      refine lv_iconst (v := 1) hx hb dX0_has_55 (by decide) ?_
      refine lv_goto (tgt := 60) hx hb dX0_has_56 (by decide) ?_
      exact hB60 h (1 : Int32) _ _ _ _ _ hm hw (by omega) (by omega) (lv_sub hl [] rfl)
  have hB39 : ∀ (h : CH) (x2 : Int32) (x3 : Int32) (x4 : Int32) (x5 : Int32) (y0 : Nat) (y1 : Int64) (cc ss : Nat) (H : Heap) (locs : List Loc) (ls : Array Slot), m_X0_has_39 f h x2 x3 x4 x5 y0 y1 = some (r0, u9) → CW D dA A s h H locs → cc + u.1 = h.1 → ss + u.2.1 = h.2.1 → lv_has ls 6 [(2, .int x2), (3, .int x3), (4, .int x4), (5, .int x5)] → W p l e (rm_X0_has (u9.1 - u.1) (u9.2.1 - u.2.1)) s m args below meth c H locs cc ss QQ (F0 m 39 ls [.long y1, .ref y0]) := by
    intro h x2 x3 x4 x5 y0 y1 cc ss H locs ls hm hw hcc hss hl
    have hmo := mo_X0_has_39  h x2 x3 x4 x5 y0 y1 _ hm
    have sb_ : h.1 ≤ u9.1 := hmo.1
    have tb_ : h.2.1 ≤ u9.2.1 := hmo.2.1
    rw [m_X0_has_39] at hm
    refine lv_iload_n hx hb dX0_has_39 rfl (lv_at hl 0 rfl) ?_
    refine lv_i2l hx hb dX0_has_40 rfl ?_
    refine lv_iload_n hx hb dX0_has_41 rfl (lv_at hl 1 rfl) ?_
    refine lv_i2l hx hb dX0_has_42 rfl ?_
    refine lv_iload hx hb dX0_has_43 (lv_at hl 2 rfl) ?_
    refine lv_i2l hx hb dX0_has_45 rfl ?_
    refine lv_iload hx hb dX0_has_46 (lv_at hl 3 rfl) ?_
    refine lv_i2l hx hb dX0_has_48 rfl ?_
    obtain ⟨r2, h1, er2, hm⟩ := bd2E hm
    have lh1 := mo_X0_have er2
    have ph1 : h.1 ≤ h1.1 := lh1.1
    have qh1 : h.2.1 ≤ h1.2.1 := lh1.2.1
    have hmo := mo_X0_has_52   h1 r2 _ hm
    have sh1 : h1.1 ≤ u9.1 := hmo.1
    have th1 : h1.2.1 ≤ u9.2.1 := hmo.2.1
    refine cg_calli hw lh1 (va_runS (As := [.ref y0, .long y1, .long (Int32.toInt64 x2), .long (Int32.toInt64 x3), .long (Int32.toInt64 x4), .long (Int32.toInt64 x5)]) (rest := []) ⟨hx, hb, hml, hown, hts⟩ (w_X0_have l er2) (cw_X0_have hts q1085 ⟨Nat.le_of_ble_eq_true rfl, Nat.le_of_ble_eq_true rfl⟩) (cg_preS C hw _) rfl rfl hl.1 rfl (lv_room (Nat.le_of_ble_eq_true rfl)) dX0_has_49 ⟨show cc + (h1.1 - h.1) ≤ u9.1 - u.1 by omega, show ss + (h1.2.1 - h.2.1) ≤ u9.2.1 - u.2.1 by omega⟩) (fun H locs hw => ?_)
    exact hB52 h1 r2 _ _ _ _ _ hm hw (by omega) (by omega) (lv_sub hl [] rfl)
  have hB36 : ∀ (h : CH) (x2 : Int32) (x3 : Int32) (x4 : Int32) (x5 : Int32) (y0 : Nat) (y1 : Nat) (cc ss : Nat) (H : Heap) (locs : List Loc) (ls : Array Slot), m_X0_has_36 f h x2 x3 x4 x5 y0 y1 = some (r0, u9) → CW D dA A s h H locs → cc + u.1 = h.1 → ss + u.2.1 = h.2.1 → lv_has ls 6 [(2, .int x2), (3, .int x3), (4, .int x4), (5, .int x5)] → W p l e (rm_X0_has (u9.1 - u.1) (u9.2.1 - u.2.1)) s m args below meth c H locs cc ss QQ (F0 m 36 ls [.ref y1, .ref y0]) := by
    intro h x2 x3 x4 x5 y0 y1 cc ss H locs ls hm hw hcc hss hl
    have hmo := mo_X0_has_36  h x2 x3 x4 x5 y0 y1 _ hm
    have sb_ : h.1 ≤ u9.1 := hmo.1
    have tb_ : h.2.1 ≤ u9.2.1 := hmo.2.1
    rw [m_X0_has_36] at hm
    by_cases c1 : isC h y1 6 = true
    · have hm := ifT hm c1
      obtain ⟨r3, h2, er3, hm⟩ := bd2E hm
      have lh2 := mo_X6_over er3
      have ph2 : h.1 ≤ h2.1 := lh2.1
      have qh2 : h.2.1 ≤ h2.2.1 := lh2.2.1
      have hmo := mo_X0_has_39   h2 x2 x3 x4 x5 y0 r3 _ hm
      have sh2 : h2.1 ≤ u9.1 := hmo.1
      have th2 : h2.2.1 ≤ u9.2.1 := hmo.2.1
      refine cg_calll hw lh2 (va_runV (As := []) (rest := [.ref y0]) ⟨hx, hb, hml, hown, hts⟩ (w_X6_over l er3) (cw_X6_over hts q945 ⟨Nat.le_of_ble_eq_true rfl, Nat.le_of_ble_eq_true rfl⟩) (cg_preV C hw c1 rfl _) rfl rfl hl.1 rfl (lv_room (Nat.le_of_ble_eq_true rfl)) dX0_has_36 ⟨show cc + (h2.1 - h.1) ≤ u9.1 - u.1 by omega, show ss + (h2.2.1 - h.2.1) ≤ u9.2.1 - u.2.1 by omega⟩) (fun H locs hw => ?_)
      exact hB39 h2 x2 x3 x4 x5 y0 r3 _ _ _ _ _ hm hw (by omega) (by omega) (lv_sub hl [0, 1, 2, 3] rfl)
    · have hm := ifF hm c1
      obtain ⟨g4, hm⟩ := gdE hm
      obtain ⟨r6, h5, er6, hm⟩ := bd2E hm
      have lh5 := mo_X7_over er6
      have ph5 : h.1 ≤ h5.1 := lh5.1
      have qh5 : h.2.1 ≤ h5.2.1 := lh5.2.1
      have hmo := mo_X0_has_39   h5 x2 x3 x4 x5 y0 r6 _ hm
      have sh5 : h5.1 ≤ u9.1 := hmo.1
      have th5 : h5.2.1 ≤ u9.2.1 := hmo.2.1
      refine cg_calll hw lh5 (va_runU (As := []) (rest := [.ref y0]) ⟨hx, hb, hml, hown, hts⟩ (w_X7_over l er6) (va_cwO 0 hts (lwO q945 q948 q946 q949 q950 q144 q951) rfl rfl rfl q952 (by decide +kernel) ⟨Nat.le_of_ble_eq_true rfl, Nat.le_of_ble_eq_true rfl⟩) (cg_preV C hw g4 rfl _) rfl rfl hl.1 rfl (lv_room (Nat.le_of_ble_eq_true rfl)) dX0_has_36 ⟨show cc + (h5.1 - h.1) ≤ u9.1 - u.1 by omega, show ss + (h5.2.1 - h.2.1) ≤ u9.2.1 - u.2.1 by omega⟩) (fun H locs hw => ?_)
      exact hB39 h5 x2 x3 x4 x5 y0 r6 _ _ _ _ _ hm hw (by omega) (by omega) (lv_sub hl [0, 1, 2, 3] rfl)
  have hB31 : ∀ (h : CH) (x0 : Nat) (x1 : Int32) (x2 : Int32) (x3 : Int32) (x4 : Int32) (x5 : Int32) (y0 : Nat) (cc ss : Nat) (H : Heap) (locs : List Loc) (ls : Array Slot), m_X0_has_31 f h x0 x1 x2 x3 x4 x5 y0 = some (r0, u9) → CW D dA A s h H locs → cc + u.1 = h.1 → ss + u.2.1 = h.2.1 → lv_has ls 6 [(0, .ref x0), (1, .int x1), (2, .int x2), (3, .int x3), (4, .int x4), (5, .int x5)] → W p l e (rm_X0_has (u9.1 - u.1) (u9.2.1 - u.2.1)) s m args below meth c H locs cc ss QQ (F0 m 31 ls [.ref y0]) := by
    intro h x0 x1 x2 x3 x4 x5 y0 cc ss H locs ls hm hw hcc hss hl
    have hmo := mo_X0_has_31  h x0 x1 x2 x3 x4 x5 y0 _ hm
    have sb_ : h.1 ≤ u9.1 := hmo.1
    have tb_ : h.2.1 ≤ u9.2.1 := hmo.2.1
    rw [m_X0_has_31] at hm
    refine lv_aload_n hx hb dX0_has_31 rfl (lv_at hl 0 rfl) ?_
    refine lv_iload_n hx hb dX0_has_32 rfl (lv_at hl 1 rfl) ?_
    obtain ⟨g1, hm⟩ := gdE hm
    obtain ⟨a3, h2, ea3, hm⟩ := bd2E hm
    have lh2 := mo_X0_at ea3
    have ph2 : h.1 ≤ h2.1 := lh2.1
    have qh2 : h.2.1 ≤ h2.2.1 := lh2.2.1
    have hmo := mo_X0_has_36   h2 x2 x3 x4 x5 y0 a3 _ hm
    have sh2 : h2.1 ≤ u9.1 := hmo.1
    have th2 : h2.2.1 ≤ u9.2.1 := hmo.2.1
    refine cg_callr hw lh2 (va_runV (As := [.int x1]) (rest := [.ref y0]) ⟨hx, hb, hml, hown, hts⟩ (w_X0_at l ea3) (cw_X0_at hts q900 ⟨Nat.le_of_ble_eq_true rfl, Nat.le_of_ble_eq_true rfl⟩) (cg_preV C hw g1 rfl _) rfl rfl hl.1 rfl (lv_room (Nat.le_of_ble_eq_true rfl)) dX0_has_33 ⟨show cc + (h2.1 - h.1) ≤ u9.1 - u.1 by omega, show ss + (h2.2.1 - h.2.1) ≤ u9.2.1 - u.2.1 by omega⟩) (fun H locs hw => ?_)
    exact hB36 h2 x2 x3 x4 x5 y0 a3 _ _ _ _ _ hm hw (by omega) (by omega) (lv_sub hl [2, 3, 4, 5] rfl)
  have hB28 : ∀ (h : CH) (x0 : Nat) (x1 : Int32) (x2 : Int32) (x3 : Int32) (x4 : Int32) (x5 : Int32) (y0 : Nat) (cc ss : Nat) (H : Heap) (locs : List Loc) (ls : Array Slot), m_X0_has_28 f h x0 x1 x2 x3 x4 x5 y0 = some (r0, u9) → CW D dA A s h H locs → cc + u.1 = h.1 → ss + u.2.1 = h.2.1 → lv_has ls 6 [(0, .ref x0), (1, .int x1), (2, .int x2), (3, .int x3), (4, .int x4), (5, .int x5)] → W p l e (rm_X0_has (u9.1 - u.1) (u9.2.1 - u.2.1)) s m args below meth c H locs cc ss QQ (F0 m 28 ls [.ref y0]) := by
    intro h x0 x1 x2 x3 x4 x5 y0 cc ss H locs ls hm hw hcc hss hl
    have hmo := mo_X0_has_28  h x0 x1 x2 x3 x4 x5 y0 _ hm
    have sb_ : h.1 ≤ u9.1 := hmo.1
    have tb_ : h.2.1 ≤ u9.2.1 := hmo.2.1
    rw [m_X0_has_28] at hm
    by_cases c1 : isC h y0 6 = true
    · have hm := ifT hm c1
      obtain ⟨a3, h2, ea3, hm⟩ := bd2E hm
      have lh2 := mo_X6_rows ea3
      have ph2 : h.1 ≤ h2.1 := lh2.1
      have qh2 : h.2.1 ≤ h2.2.1 := lh2.2.1
      have hmo := mo_X0_has_31   h2 x0 x1 x2 x3 x4 x5 a3 _ hm
      have sh2 : h2.1 ≤ u9.1 := hmo.1
      have th2 : h2.2.1 ≤ u9.2.1 := hmo.2.1
      refine cg_callr hw lh2 (va_runV (As := []) (rest := []) ⟨hx, hb, hml, hown, hts⟩ (w_X6_rows l ea3) (cw_X6_rows hts q904 ⟨Nat.le_of_ble_eq_true rfl, Nat.le_of_ble_eq_true rfl⟩) (cg_preV C hw c1 rfl _) rfl rfl hl.1 rfl (lv_room (Nat.le_of_ble_eq_true rfl)) dX0_has_28 ⟨show cc + (h2.1 - h.1) ≤ u9.1 - u.1 by omega, show ss + (h2.2.1 - h.2.1) ≤ u9.2.1 - u.2.1 by omega⟩) (fun H locs hw => ?_)
      exact hB31 h2 x0 x1 x2 x3 x4 x5 a3 _ _ _ _ _ hm hw (by omega) (by omega) (lv_sub hl [0, 1, 2, 3, 4, 5] rfl)
    · have hm := ifF hm c1
      obtain ⟨g4, hm⟩ := gdE hm
      obtain ⟨a6, h5, ea6, hm⟩ := bd2E hm
      have lh5 := mo_X7_rows ea6
      have ph5 : h.1 ≤ h5.1 := lh5.1
      have qh5 : h.2.1 ≤ h5.2.1 := lh5.2.1
      have hmo := mo_X0_has_31   h5 x0 x1 x2 x3 x4 x5 a6 _ hm
      have sh5 : h5.1 ≤ u9.1 := hmo.1
      have th5 : h5.2.1 ≤ u9.2.1 := hmo.2.1
      refine cg_callr hw lh5 (va_runU (As := []) (rest := []) ⟨hx, hb, hml, hown, hts⟩ (w_X7_rows l ea6) (va_cwO 0 hts (lwO q904 q907 q905 q908 q909 q144 q910) rfl rfl rfl q940 (by decide +kernel) ⟨Nat.le_of_ble_eq_true rfl, Nat.le_of_ble_eq_true rfl⟩) (cg_preV C hw g4 rfl _) rfl rfl hl.1 rfl (lv_room (Nat.le_of_ble_eq_true rfl)) dX0_has_28 ⟨show cc + (h5.1 - h.1) ≤ u9.1 - u.1 by omega, show ss + (h5.2.1 - h.2.1) ≤ u9.2.1 - u.2.1 by omega⟩) (fun H locs hw => ?_)
      exact hB31 h5 x0 x1 x2 x3 x4 x5 a6 _ _ _ _ _ hm hw (by omega) (by omega) (lv_sub hl [0, 1, 2, 3, 4, 5] rfl)
  have hB5 : ∀ (h : CH) (x0 : Nat) (x1 : Int32) (x2 : Int32) (x3 : Int32) (x4 : Int32) (x5 : Int32) (y0 : Int32) (cc ss : Nat) (H : Heap) (locs : List Loc) (ls : Array Slot), m_X0_has_5 f h x0 x1 x2 x3 x4 x5 y0 = some (r0, u9) → CW D dA A s h H locs → cc + u.1 = h.1 → ss + u.2.1 = h.2.1 → lv_has ls 6 [(0, .ref x0), (1, .int x1), (2, .int x2), (3, .int x3), (4, .int x4), (5, .int x5)] → W p l e (rm_X0_has (u9.1 - u.1) (u9.2.1 - u.2.1)) s m args below meth c H locs cc ss QQ (F0 m 5 ls [.int y0]) := by
    intro h x0 x1 x2 x3 x4 x5 y0 cc ss H locs ls hm hw hcc hss hl
    have hmo := mo_X0_has_5  h x0 x1 x2 x3 x4 x5 y0 _ hm
    have sb_ : h.1 ≤ u9.1 := hmo.1
    have tb_ : h.2.1 ≤ u9.2.1 := hmo.2.1
    rw [m_X0_has_5] at hm
    refine lv_if_eq (tgt := 20) hx hb dX0_has_5 (by decide) (fun c1 => ?_) (fun c1 => ?_)
    · have hm := ifT hm c1
      exact hB20 h _ _ _ _ _ hm hw (by omega) (by omega) (lv_sub hl [] rfl)
    · have hm := ifF hm c1
      refine lv_iload_n hx hb dX0_has_8 rfl (lv_at hl 2 rfl) ?_
      refine lv_iload_n hx hb dX0_has_9 rfl (lv_at hl 3 rfl) ?_
      refine lv_iload hx hb dX0_has_10 (lv_at hl 4 rfl) ?_
      refine lv_iload hx hb dX0_has_12 (lv_at hl 5 rfl) ?_
      obtain ⟨r2, er2, hm⟩ := bdE hm
      refine sci (va_runS (As := [.int x2, .int x3, .int x4, .int x5]) (rest := []) ⟨hx, hb, hml, hown, hts⟩ (w_X0_isPoint l er2) (cw_X0_isPoint hts q1079 ⟨Nat.le_of_ble_eq_true rfl, Nat.le_of_ble_eq_true rfl⟩) (pre_s _) rfl rfl hl.1 rfl (lv_room (Nat.le_of_ble_eq_true rfl)) dX0_has_14 ⟨show cc + 0 ≤ u9.1 - u.1 by omega, show ss + 0 ≤ u9.2.1 - u.2.1 by omega⟩) ?_
      refine lv_if_ne (tgt := 23) hx hb dX0_has_17 (by decide) (fun c3 => ?_) (fun c3 => ?_)
      · have hm := ifT hm c3
        refine lv_aload_n hx hb dX0_has_23 rfl (lv_at hl 0 rfl) ?_
        refine lv_iload_n hx hb dX0_has_24 rfl (lv_at hl 1 rfl) ?_
        obtain ⟨g4, hm⟩ := gdE hm
        obtain ⟨a6, h5, ea6, hm⟩ := bd2E hm
        have lh5 := mo_X0_at ea6
        have ph5 : h.1 ≤ h5.1 := lh5.1
        have qh5 : h.2.1 ≤ h5.2.1 := lh5.2.1
        have hmo := mo_X0_has_28   h5 x0 x1 x2 x3 x4 x5 a6 _ hm
        have sh5 : h5.1 ≤ u9.1 := hmo.1
        have th5 : h5.2.1 ≤ u9.2.1 := hmo.2.1
        refine cg_callr hw lh5 (va_runV (As := [.int x1]) (rest := []) ⟨hx, hb, hml, hown, hts⟩ (w_X0_at l ea6) (cw_X0_at hts q900 ⟨Nat.le_of_ble_eq_true rfl, Nat.le_of_ble_eq_true rfl⟩) (cg_preV C hw g4 rfl _) rfl rfl hl.1 rfl (lv_room (Nat.le_of_ble_eq_true rfl)) dX0_has_25 ⟨show cc + (h5.1 - h.1) ≤ u9.1 - u.1 by omega, show ss + (h5.2.1 - h.2.1) ≤ u9.2.1 - u.2.1 by omega⟩) (fun H locs hw => ?_)
        exact hB28 h5 x0 x1 x2 x3 x4 x5 a6 _ _ _ _ _ hm hw (by omega) (by omega) (lv_sub hl [0, 1, 2, 3, 4, 5] rfl)
      · have hm := ifT' hm c3
        exact hB20 h _ _ _ _ _ hm hw (by omega) (by omega) (lv_sub hl [] rfl)
  rw [m_X0_has] at hm
  refine lv_aload_n hx hb dX0_has_0 rfl (lv_at hl 0 rfl) ?_
  refine lv_iload_n hx hb dX0_has_1 rfl (lv_at hl 1 rfl) ?_
  obtain ⟨g1, hm⟩ := gdE hm
  obtain ⟨r3, h2, er3, hm⟩ := bd2E hm
  have lh2 := mo_X0_isLattice er3
  have ph2 : u.1 ≤ h2.1 := lh2.1
  have qh2 : u.2.1 ≤ h2.2.1 := lh2.2.1
  have hmo := mo_X0_has_5   h2 x0 x1 x2 x3 x4 x5 r3 _ hm
  have sh2 : h2.1 ≤ u9.1 := hmo.1
  have th2 : h2.2.1 ≤ u9.2.1 := hmo.2.1
  refine cg_calli hw lh2 (va_runV (As := [.int x1]) (rest := []) ⟨hx, hb, hml, hown, hts⟩ (w_X0_isLattice l er3) (cw_X0_isLattice hts q892 ⟨Nat.le_of_ble_eq_true rfl, Nat.le_of_ble_eq_true rfl⟩) (cg_preV C hw g1 rfl _) rfl rfl hl.1 rfl (lv_room (Nat.le_of_ble_eq_true rfl)) dX0_has_2 ⟨show cc + (h2.1 - u.1) ≤ u9.1 - u.1 by omega, show ss + (h2.2.1 - u.2.1) ≤ u9.2.1 - u.2.1 by omega⟩) (fun H locs hw => ?_)
  exact hB5 h2 x0 x1 x2 x3 x4 x5 r3 _ _ _ _ _ hm hw (by omega) (by omega) (lv_sub hl [0, 1, 2, 3, 4, 5] rfl)
def m_X0_asks_16 (f : Nat) (h : CH) : Option (Int32 × CH) := some ((-2 : Int32), h)
theorem mo_X0_asks_16 {f : Nat} : ∀ (h : CH) (r : (Int32 × CH)), m_X0_asks_16 f h = some r → le2 h r.2 := by
  intro h r hm
  rw [m_X0_asks_16] at hm
  cases hm
  exact le2.rf
def m_X0_asks_47 (f : Nat) (h : CH) (y0 : Int32) : Option (Int32 × CH) := some (y0, h)
theorem mo_X0_asks_47 {f : Nat} : ∀ (h : CH) (y0 : Int32) (r : (Int32 × CH)), m_X0_asks_47 f h y0 = some r → le2 h r.2 := by
  intro h y0 r hm
  rw [m_X0_asks_47] at hm
  cases hm
  exact le2.rf
def m_X0_asks_46 (f : Nat) (h : CH) : Option (Int32 × CH) := m_X0_asks_47 f h (0 : Int32)
theorem mo_X0_asks_46 {f : Nat} : ∀ (h : CH) (r : (Int32 × CH)), m_X0_asks_46 f h = some r → le2 h r.2 := by
  intro h r hm
  rw [m_X0_asks_46] at hm
  exact (mo_X0_asks_47  h (0 : Int32) _ hm)
def m_X0_asks_38 (f : Nat) (h : CH) (y0 : Int32) : Option (Int32 × CH) := if y0 = 0 then
    m_X0_asks_46 f h
    else m_X0_asks_47 f h (-3 : Int32)
theorem mo_X0_asks_38 {f : Nat} : ∀ (h : CH) (y0 : Int32) (r : (Int32 × CH)), m_X0_asks_38 f h y0 = some r → le2 h r.2 := by
  intro h y0 r hm
  rw [m_X0_asks_38] at hm
  by_cases c1 : y0 = 0
  · have hm := ifT hm c1
    exact (mo_X0_asks_46  h _ hm)
  · have hm := ifF hm c1
    exact (mo_X0_asks_47  h (-3 : Int32) _ hm)
def m_X0_asks_35 (f : Nat) (h : CH) (y0 : Nat) : Option (Int32 × CH) := if isC h y0 6 = true then
    bd2 (m_X6_isTurned f h y0) fun r3 h2 =>
    m_X0_asks_38 f h2 r3
    else gd (isC h y0 7) <|
    bd2 (m_X7_isTurned f h y0) fun r6 h5 =>
    m_X0_asks_38 f h5 r6
theorem mo_X0_asks_35 {f : Nat} : ∀ (h : CH) (y0 : Nat) (r : (Int32 × CH)), m_X0_asks_35 f h y0 = some r → le2 h r.2 := by
  intro h y0 r hm
  rw [m_X0_asks_35] at hm
  by_cases c1 : isC h y0 6 = true
  · have hm := ifT hm c1
    obtain ⟨r3, h2, er3, hm⟩ := bd2E hm
    have lh2 := mo_X6_isTurned er3
    exact (lh2.tr (mo_X0_asks_38  h2 r3 _ hm))
  · have hm := ifF hm c1
    obtain ⟨g4, hm⟩ := gdE hm
    obtain ⟨r6, h5, er6, hm⟩ := bd2E hm
    have lh5 := mo_X7_isTurned er6
    exact (lh5.tr (mo_X0_asks_38  h5 r6 _ hm))
def m_X0_asks_27 (f : Nat) (h : CH) (x0 : Nat) (x2 : Int32) (y0 : Int32) : Option (Int32 × CH) := if y0 = 0 then
    m_X0_asks_46 f h
    else gd (isC h x0 1) <|
    bd2 (m_X0_at f h x0 x2) fun a4 h3 =>
    m_X0_asks_35 f h3 a4
theorem mo_X0_asks_27 {f : Nat} : ∀ (h : CH) (x0 : Nat) (x2 : Int32) (y0 : Int32) (r : (Int32 × CH)), m_X0_asks_27 f h x0 x2 y0 = some r → le2 h r.2 := by
  intro h x0 x2 y0 r hm
  rw [m_X0_asks_27] at hm
  by_cases c1 : y0 = 0
  · have hm := ifT hm c1
    exact (mo_X0_asks_46  h _ hm)
  · have hm := ifF hm c1
    obtain ⟨g2, hm⟩ := gdE hm
    obtain ⟨a4, h3, ea4, hm⟩ := bd2E hm
    have lh3 := mo_X0_at ea4
    exact (lh3.tr (mo_X0_asks_35  h3 a4 _ hm))
def m_X0_asks_24 (f : Nat) (h : CH) (x0 : Nat) (x2 : Int32) (y0 : Nat) : Option (Int32 × CH) := if isC h y0 6 = true then
    bd2 (m_X6_isTurned f h y0) fun r3 h2 =>
    m_X0_asks_27 f h2 x0 x2 r3
    else gd (isC h y0 7) <|
    bd2 (m_X7_isTurned f h y0) fun r6 h5 =>
    m_X0_asks_27 f h5 x0 x2 r6
theorem mo_X0_asks_24 {f : Nat} : ∀ (h : CH) (x0 : Nat) (x2 : Int32) (y0 : Nat) (r : (Int32 × CH)), m_X0_asks_24 f h x0 x2 y0 = some r → le2 h r.2 := by
  intro h x0 x2 y0 r hm
  rw [m_X0_asks_24] at hm
  by_cases c1 : isC h y0 6 = true
  · have hm := ifT hm c1
    obtain ⟨r3, h2, er3, hm⟩ := bd2E hm
    have lh2 := mo_X6_isTurned er3
    exact (lh2.tr (mo_X0_asks_27  h2 x0 x2 r3 _ hm))
  · have hm := ifF hm c1
    obtain ⟨g4, hm⟩ := gdE hm
    obtain ⟨r6, h5, er6, hm⟩ := bd2E hm
    have lh5 := mo_X7_isTurned er6
    exact (lh5.tr (mo_X0_asks_27  h5 x0 x2 r6 _ hm))
def m_X0_asks_13 (f : Nat) (h : CH) (x0 : Nat) (x1 : Int32) (x2 : Int32) (y0 : Int32) : Option (Int32 × CH) := if ¬ y0 = 0 then
    gd (isC h x0 1) <|
    bd2 (m_X0_at f h x0 x1) fun a4 h3 =>
    m_X0_asks_24 f h3 x0 x2 a4
    else m_X0_asks_16 f h
theorem mo_X0_asks_13 {f : Nat} : ∀ (h : CH) (x0 : Nat) (x1 : Int32) (x2 : Int32) (y0 : Int32) (r : (Int32 × CH)), m_X0_asks_13 f h x0 x1 x2 y0 = some r → le2 h r.2 := by
  intro h x0 x1 x2 y0 r hm
  rw [m_X0_asks_13] at hm
  by_cases c1 : ¬ y0 = 0
  · have hm := ifT hm c1
    obtain ⟨g2, hm⟩ := gdE hm
    obtain ⟨a4, h3, ea4, hm⟩ := bd2E hm
    have lh3 := mo_X0_at ea4
    exact (lh3.tr (mo_X0_asks_24  h3 x0 x2 a4 _ hm))
  · have hm := ifF hm c1
    exact (mo_X0_asks_16  h _ hm)
def m_X0_asks_5 (f : Nat) (h : CH) (x0 : Nat) (x1 : Int32) (x2 : Int32) (y0 : Int32) : Option (Int32 × CH) := if y0 = 0 then
    m_X0_asks_16 f h
    else gd (isC h x0 1) <|
    bd2 (m_X0_isLattice f h x0 x2) fun r4 h3 =>
    m_X0_asks_13 f h3 x0 x1 x2 r4
theorem mo_X0_asks_5 {f : Nat} : ∀ (h : CH) (x0 : Nat) (x1 : Int32) (x2 : Int32) (y0 : Int32) (r : (Int32 × CH)), m_X0_asks_5 f h x0 x1 x2 y0 = some r → le2 h r.2 := by
  intro h x0 x1 x2 y0 r hm
  rw [m_X0_asks_5] at hm
  by_cases c1 : y0 = 0
  · have hm := ifT hm c1
    exact (mo_X0_asks_16  h _ hm)
  · have hm := ifF hm c1
    obtain ⟨g2, hm⟩ := gdE hm
    obtain ⟨r4, h3, er4, hm⟩ := bd2E hm
    have lh3 := mo_X0_isLattice er4
    exact (lh3.tr (mo_X0_asks_13  h3 x0 x1 x2 r4 _ hm))
def m_X0_asks (f : Nat) (u : CH) (x0 : Nat) (x1 : Int32) (x2 : Int32) : Option (Int32 × CH) := gd (isC u x0 1) <|
    bd2 (m_X0_isLattice f u x0 x1) fun r3 h2 =>
    m_X0_asks_5 f h2 x0 x1 x2 r3
theorem mo_X0_asks {f : Nat} {u : CH} {x0 : Nat} {x1 : Int32} {x2 : Int32} {r0 : Int32} {u9 : CH} (hm : m_X0_asks f u x0 x1 x2 = some (r0, u9)) : le2 u u9 := by
  rw [m_X0_asks] at hm
  obtain ⟨g1, hm⟩ := gdE hm
  obtain ⟨r3, h2, er3, hm⟩ := bd2E hm
  have lh2 := mo_X0_isLattice er3
  exact (lh2.tr (mo_X0_asks_5  h2 x0 x1 x2 r3 _ hm))
abbrev rm_X0_asks (mc ms : Nat) : Room := { frames := 4, cells := mc, slots := ms, locals := 85 }
theorem cw_X0_asks {R : Room} {s : State} {args : Array Value} {own : String} {idx mc ms : Nat} (hts : ∀ w ∈ lw_all, w.before args s = true) (hl : Cond.methodLink own idx yX0_asks ∈ lw_all) (hR : 4 + 1 ≤ R.frames ∧ 8 + (3 + 11) + 85 ≤ R.locals) : CallW R s args own RX0 idx yX0_asks cX0_asks 3 (Option.some Jvm.ClassFile.FieldType.int) (ws_ yX0_asks cX0_asks 3 (Option.some Jvm.ClassFile.FieldType.int)) (rm_X0_asks mc ms) mc ms 2 := cwV 2 hts (lw_V hl q1098 qs24 q119 q1099) rfl rfl rfl (by decide +kernel) hR
set_option maxHeartbeats 4000000 in
set_option maxRecDepth 100000 in
theorem w_X0_asks (l : Launch) {D : va_G} {dA : Nat → ClassId} {A : Nat → Prop} {f : Nat} {u u9 : CH} {r0 : Int32} {x0 : Nat} {x1 : Int32} {x2 : Int32} (hm : m_X0_asks f u x0 x1 x2 = some (r0, u9)) : Met l yX0_asks (ws_ yX0_asks cX0_asks 3 (Option.some Jvm.ClassFile.FieldType.int)) (rm_X0_asks (u9.1 - u.1) (u9.2.1 - u.2.1)) (va_Pc [.ref x0, .int x1, .int x2] (CPre D dA A u)) (va_Qi (fun r u => r = r0 ∧ u = u9) (CPost D dA A) A) (u9.1 - u.1) (u9.2.1 - u.2.1) A := by
  refine Met.ofW (cc := cX0_asks) (maxL := 3) (ret := (Option.some Jvm.ClassFile.FieldType.int)) (by decide) rfl ?_
  intro p e s m args below meth c s₁ B hml hv
  have hx := B.exec
  have hb := B.bytes
  have hr := B.returns
  have hts := atoms_spec (ws := (ws_ yX0_asks cX0_asks 3 (Option.some Jvm.ClassFile.FieldType.int))) B.pre
  have hts : ∀ w ∈ lw_all, w.before args s = true := fun w h => hts w (List.mem_cons_of_mem _ h)
  have hown : s.vm.findClass RX0 = some m.cls := findClass_of_methodNamed B.named
  have hlocks := B.notSynchronized
  obtain ⟨hav, hv⟩ := hv
  have C : CX p s m args c cX0_asks RX0 D dA := ⟨hx, hb, hown, hts, hv.2⟩
  have hw : CW D dA A s u s.heap [] := hv.1
  generalize hQ : MQ below (va_Qi (fun r u => r = r0 ∧ u = u9) (CPost D dA A) A) args s (u9.1 - u.1) (u9.2.1 - u.2.1) A = QQ
  have hent := lg_entry_eq m [.ref x0, .int x1, .int x2] 3
  rw [← hav] at hent
  rw [hent]
  have hl := lv_entry ([.ref x0, .int x1, .int x2]) (n := 3) (Nat.le_of_ble_eq_true rfl)
  generalize (lg_sl ([.ref x0, .int x1, .int x2]) ++ List.replicate (3 - (lg_sl ([.ref x0, .int x1, .int x2])).length) Slot.unset).toArray = ls at hl ⊢
  have hl : lv_has ls 3 [(0, .ref x0), (1, .int x1), (2, .int x2)] := hl
  obtain ⟨cc, ecc⟩ : ∃ z : Nat, z = 0 := ⟨0, rfl⟩
  obtain ⟨ss, ess⟩ : ∃ z : Nat, z = 0 := ⟨0, rfl⟩
  have hcc : cc + u.1 = u.1 := by omega
  have hss : ss + u.2.1 = u.2.1 := by omega
  suffices hgo : W p l e (rm_X0_asks (u9.1 - u.1) (u9.2.1 - u.2.1)) s m args below meth c s.heap [] cc ss QQ (F0 m 0 ls []) by rw [ecc, ess] at hgo; exact hgo
  have ⟨pu, qu, _, _⟩ := mo_X0_asks hm
  have hB16 : ∀ (h : CH) (cc ss : Nat) (H : Heap) (locs : List Loc) (ls : Array Slot), m_X0_asks_16 f h = some (r0, u9) → CW D dA A s h H locs → cc + u.1 = h.1 → ss + u.2.1 = h.2.1 → lv_has ls 3 [] → W p l e (rm_X0_asks (u9.1 - u.1) (u9.2.1 - u.2.1)) s m args below meth c H locs cc ss QQ (F0 m 16 ls []) := by
    intro h cc ss H locs ls hm hw hcc hss hl
    have hmo := mo_X0_asks_16  h _ hm
    have sb_ : h.1 ≤ u9.1 := hmo.1
    have tb_ : h.2.1 ≤ u9.2.1 := hmo.2.1
    rw [m_X0_asks_16] at hm
    refine lv_bipush (v := -2) hx hb dX0_asks_16 (by decide) ?_
    obtain ⟨er, eh⟩ := retE hm
    have ec : cc = u9.1 - u.1 := by rw [← eh]; omega
    have es : ss = u9.2.1 - u.2.1 := by rw [← eh]; omega
    rw [ec, es, ← hQ]
    exact W.iret (v := (-2 : Int32)) hx hb hr (fun t ht hW => ⟨⟨(-2 : Int32), h, rfl, ⟨er, eh⟩, ⟨by rw [ht]; exact hw.1, by rw [ht]; exact hw.2.1⟩⟩, hw.2.2.1.F ht⟩) hw.2.2.1.2.2 dX0_asks_18
  have hB47 : ∀ (h : CH) (y0 : Int32) (cc ss : Nat) (H : Heap) (locs : List Loc) (ls : Array Slot), m_X0_asks_47 f h y0 = some (r0, u9) → CW D dA A s h H locs → cc + u.1 = h.1 → ss + u.2.1 = h.2.1 → lv_has ls 3 [] → W p l e (rm_X0_asks (u9.1 - u.1) (u9.2.1 - u.2.1)) s m args below meth c H locs cc ss QQ (F0 m 47 ls [.int y0]) := by
    intro h y0 cc ss H locs ls hm hw hcc hss hl
    have hmo := mo_X0_asks_47  h y0 _ hm
    have sb_ : h.1 ≤ u9.1 := hmo.1
    have tb_ : h.2.1 ≤ u9.2.1 := hmo.2.1
    rw [m_X0_asks_47] at hm
    obtain ⟨er, eh⟩ := retE hm
    have ec : cc = u9.1 - u.1 := by rw [← eh]; omega
    have es : ss = u9.2.1 - u.2.1 := by rw [← eh]; omega
    rw [ec, es, ← hQ]
    exact W.iret (v := y0) hx hb hr (fun t ht hW => ⟨⟨y0, h, rfl, ⟨er, eh⟩, ⟨by rw [ht]; exact hw.1, by rw [ht]; exact hw.2.1⟩⟩, hw.2.2.1.F ht⟩) hw.2.2.1.2.2 dX0_asks_47
  have hB46 : ∀ (h : CH) (cc ss : Nat) (H : Heap) (locs : List Loc) (ls : Array Slot), m_X0_asks_46 f h = some (r0, u9) → CW D dA A s h H locs → cc + u.1 = h.1 → ss + u.2.1 = h.2.1 → lv_has ls 3 [] → W p l e (rm_X0_asks (u9.1 - u.1) (u9.2.1 - u.2.1)) s m args below meth c H locs cc ss QQ (F0 m 46 ls []) := by
    intro h cc ss H locs ls hm hw hcc hss hl
    have hmo := mo_X0_asks_46  h _ hm
    have sb_ : h.1 ≤ u9.1 := hmo.1
    have tb_ : h.2.1 ≤ u9.2.1 := hmo.2.1
    rw [m_X0_asks_46] at hm
    refine lv_iconst (v := 0) hx hb dX0_asks_46 (by decide) ?_
    exact hB47 h (0 : Int32) _ _ _ _ _ hm hw (by omega) (by omega) (lv_sub hl [] rfl)
  have hB38 : ∀ (h : CH) (y0 : Int32) (cc ss : Nat) (H : Heap) (locs : List Loc) (ls : Array Slot), m_X0_asks_38 f h y0 = some (r0, u9) → CW D dA A s h H locs → cc + u.1 = h.1 → ss + u.2.1 = h.2.1 → lv_has ls 3 [] → W p l e (rm_X0_asks (u9.1 - u.1) (u9.2.1 - u.2.1)) s m args below meth c H locs cc ss QQ (F0 m 38 ls [.int y0]) := by
    intro h y0 cc ss H locs ls hm hw hcc hss hl
    have hmo := mo_X0_asks_38  h y0 _ hm
    have sb_ : h.1 ≤ u9.1 := hmo.1
    have tb_ : h.2.1 ≤ u9.2.1 := hmo.2.1
    rw [m_X0_asks_38] at hm
    refine lv_if_eq (tgt := 46) hx hb dX0_asks_38 (by decide) (fun c1 => ?_) (fun c1 => ?_)
    · have hm := ifT hm c1
      exact hB46 h _ _ _ _ _ hm hw (by omega) (by omega) (lv_sub hl [] rfl)
    · have hm := ifF hm c1
      refine lv_bipush (v := -3) hx hb dX0_asks_41 (by decide) ?_
      refine lv_goto (tgt := 47) hx hb dX0_asks_43 (by decide) ?_
      exact hB47 h (-3 : Int32) _ _ _ _ _ hm hw (by omega) (by omega) (lv_sub hl [] rfl)
  have hB35 : ∀ (h : CH) (y0 : Nat) (cc ss : Nat) (H : Heap) (locs : List Loc) (ls : Array Slot), m_X0_asks_35 f h y0 = some (r0, u9) → CW D dA A s h H locs → cc + u.1 = h.1 → ss + u.2.1 = h.2.1 → lv_has ls 3 [] → W p l e (rm_X0_asks (u9.1 - u.1) (u9.2.1 - u.2.1)) s m args below meth c H locs cc ss QQ (F0 m 35 ls [.ref y0]) := by
    intro h y0 cc ss H locs ls hm hw hcc hss hl
    have hmo := mo_X0_asks_35  h y0 _ hm
    have sb_ : h.1 ≤ u9.1 := hmo.1
    have tb_ : h.2.1 ≤ u9.2.1 := hmo.2.1
    rw [m_X0_asks_35] at hm
    by_cases c1 : isC h y0 6 = true
    · have hm := ifT hm c1
      obtain ⟨r3, h2, er3, hm⟩ := bd2E hm
      have lh2 := mo_X6_isTurned er3
      have ph2 : h.1 ≤ h2.1 := lh2.1
      have qh2 : h.2.1 ≤ h2.2.1 := lh2.2.1
      have hmo := mo_X0_asks_38   h2 r3 _ hm
      have sh2 : h2.1 ≤ u9.1 := hmo.1
      have th2 : h2.2.1 ≤ u9.2.1 := hmo.2.1
      refine cg_calli hw lh2 (va_runV (As := []) (rest := []) ⟨hx, hb, hml, hown, hts⟩ (w_X6_isTurned l er3) (cw_X6_isTurned hts q883 ⟨Nat.le_of_ble_eq_true rfl, Nat.le_of_ble_eq_true rfl⟩) (cg_preV C hw c1 rfl _) rfl rfl hl.1 rfl (lv_room (Nat.le_of_ble_eq_true rfl)) dX0_asks_35 ⟨show cc + (h2.1 - h.1) ≤ u9.1 - u.1 by omega, show ss + (h2.2.1 - h.2.1) ≤ u9.2.1 - u.2.1 by omega⟩) (fun H locs hw => ?_)
      exact hB38 h2 r3 _ _ _ _ _ hm hw (by omega) (by omega) (lv_sub hl [] rfl)
    · have hm := ifF hm c1
      obtain ⟨g4, hm⟩ := gdE hm
      obtain ⟨r6, h5, er6, hm⟩ := bd2E hm
      have lh5 := mo_X7_isTurned er6
      have ph5 : h.1 ≤ h5.1 := lh5.1
      have qh5 : h.2.1 ≤ h5.2.1 := lh5.2.1
      have hmo := mo_X0_asks_38   h5 r6 _ hm
      have sh5 : h5.1 ≤ u9.1 := hmo.1
      have th5 : h5.2.1 ≤ u9.2.1 := hmo.2.1
      refine cg_calli hw lh5 (va_runU (As := []) (rest := []) ⟨hx, hb, hml, hown, hts⟩ (w_X7_isTurned l er6) (va_cwO 0 hts (lwO q883 q737 q735 q738 q739 q144 q740) rfl rfl rfl q741 (by decide +kernel) ⟨Nat.le_of_ble_eq_true rfl, Nat.le_of_ble_eq_true rfl⟩) (cg_preV C hw g4 rfl _) rfl rfl hl.1 rfl (lv_room (Nat.le_of_ble_eq_true rfl)) dX0_asks_35 ⟨show cc + (h5.1 - h.1) ≤ u9.1 - u.1 by omega, show ss + (h5.2.1 - h.2.1) ≤ u9.2.1 - u.2.1 by omega⟩) (fun H locs hw => ?_)
      exact hB38 h5 r6 _ _ _ _ _ hm hw (by omega) (by omega) (lv_sub hl [] rfl)
  have hB27 : ∀ (h : CH) (x0 : Nat) (x2 : Int32) (y0 : Int32) (cc ss : Nat) (H : Heap) (locs : List Loc) (ls : Array Slot), m_X0_asks_27 f h x0 x2 y0 = some (r0, u9) → CW D dA A s h H locs → cc + u.1 = h.1 → ss + u.2.1 = h.2.1 → lv_has ls 3 [(0, .ref x0), (2, .int x2)] → W p l e (rm_X0_asks (u9.1 - u.1) (u9.2.1 - u.2.1)) s m args below meth c H locs cc ss QQ (F0 m 27 ls [.int y0]) := by
    intro h x0 x2 y0 cc ss H locs ls hm hw hcc hss hl
    have hmo := mo_X0_asks_27  h x0 x2 y0 _ hm
    have sb_ : h.1 ≤ u9.1 := hmo.1
    have tb_ : h.2.1 ≤ u9.2.1 := hmo.2.1
    rw [m_X0_asks_27] at hm
    refine lv_if_eq (tgt := 46) hx hb dX0_asks_27 (by decide) (fun c1 => ?_) (fun c1 => ?_)
    · have hm := ifT hm c1
      exact hB46 h _ _ _ _ _ hm hw (by omega) (by omega) (lv_sub hl [] rfl)
    · have hm := ifF hm c1
      refine lv_aload_n hx hb dX0_asks_30 rfl (lv_at hl 0 rfl) ?_
      refine lv_iload_n hx hb dX0_asks_31 rfl (lv_at hl 1 rfl) ?_
      obtain ⟨g2, hm⟩ := gdE hm
      obtain ⟨a4, h3, ea4, hm⟩ := bd2E hm
      have lh3 := mo_X0_at ea4
      have ph3 : h.1 ≤ h3.1 := lh3.1
      have qh3 : h.2.1 ≤ h3.2.1 := lh3.2.1
      have hmo := mo_X0_asks_35   h3 a4 _ hm
      have sh3 : h3.1 ≤ u9.1 := hmo.1
      have th3 : h3.2.1 ≤ u9.2.1 := hmo.2.1
      refine cg_callr hw lh3 (va_runV (As := [.int x2]) (rest := []) ⟨hx, hb, hml, hown, hts⟩ (w_X0_at l ea4) (cw_X0_at hts q900 ⟨Nat.le_of_ble_eq_true rfl, Nat.le_of_ble_eq_true rfl⟩) (cg_preV C hw g2 rfl _) rfl rfl hl.1 rfl (lv_room (Nat.le_of_ble_eq_true rfl)) dX0_asks_32 ⟨show cc + (h3.1 - h.1) ≤ u9.1 - u.1 by omega, show ss + (h3.2.1 - h.2.1) ≤ u9.2.1 - u.2.1 by omega⟩) (fun H locs hw => ?_)
      exact hB35 h3 a4 _ _ _ _ _ hm hw (by omega) (by omega) (lv_sub hl [] rfl)
  have hB24 : ∀ (h : CH) (x0 : Nat) (x2 : Int32) (y0 : Nat) (cc ss : Nat) (H : Heap) (locs : List Loc) (ls : Array Slot), m_X0_asks_24 f h x0 x2 y0 = some (r0, u9) → CW D dA A s h H locs → cc + u.1 = h.1 → ss + u.2.1 = h.2.1 → lv_has ls 3 [(0, .ref x0), (2, .int x2)] → W p l e (rm_X0_asks (u9.1 - u.1) (u9.2.1 - u.2.1)) s m args below meth c H locs cc ss QQ (F0 m 24 ls [.ref y0]) := by
    intro h x0 x2 y0 cc ss H locs ls hm hw hcc hss hl
    have hmo := mo_X0_asks_24  h x0 x2 y0 _ hm
    have sb_ : h.1 ≤ u9.1 := hmo.1
    have tb_ : h.2.1 ≤ u9.2.1 := hmo.2.1
    rw [m_X0_asks_24] at hm
    by_cases c1 : isC h y0 6 = true
    · have hm := ifT hm c1
      obtain ⟨r3, h2, er3, hm⟩ := bd2E hm
      have lh2 := mo_X6_isTurned er3
      have ph2 : h.1 ≤ h2.1 := lh2.1
      have qh2 : h.2.1 ≤ h2.2.1 := lh2.2.1
      have hmo := mo_X0_asks_27   h2 x0 x2 r3 _ hm
      have sh2 : h2.1 ≤ u9.1 := hmo.1
      have th2 : h2.2.1 ≤ u9.2.1 := hmo.2.1
      refine cg_calli hw lh2 (va_runV (As := []) (rest := []) ⟨hx, hb, hml, hown, hts⟩ (w_X6_isTurned l er3) (cw_X6_isTurned hts q883 ⟨Nat.le_of_ble_eq_true rfl, Nat.le_of_ble_eq_true rfl⟩) (cg_preV C hw c1 rfl _) rfl rfl hl.1 rfl (lv_room (Nat.le_of_ble_eq_true rfl)) dX0_asks_24 ⟨show cc + (h2.1 - h.1) ≤ u9.1 - u.1 by omega, show ss + (h2.2.1 - h.2.1) ≤ u9.2.1 - u.2.1 by omega⟩) (fun H locs hw => ?_)
      exact hB27 h2 x0 x2 r3 _ _ _ _ _ hm hw (by omega) (by omega) (lv_sub hl [0, 1] rfl)
    · have hm := ifF hm c1
      obtain ⟨g4, hm⟩ := gdE hm
      obtain ⟨r6, h5, er6, hm⟩ := bd2E hm
      have lh5 := mo_X7_isTurned er6
      have ph5 : h.1 ≤ h5.1 := lh5.1
      have qh5 : h.2.1 ≤ h5.2.1 := lh5.2.1
      have hmo := mo_X0_asks_27   h5 x0 x2 r6 _ hm
      have sh5 : h5.1 ≤ u9.1 := hmo.1
      have th5 : h5.2.1 ≤ u9.2.1 := hmo.2.1
      refine cg_calli hw lh5 (va_runU (As := []) (rest := []) ⟨hx, hb, hml, hown, hts⟩ (w_X7_isTurned l er6) (va_cwO 0 hts (lwO q883 q737 q735 q738 q739 q144 q740) rfl rfl rfl q741 (by decide +kernel) ⟨Nat.le_of_ble_eq_true rfl, Nat.le_of_ble_eq_true rfl⟩) (cg_preV C hw g4 rfl _) rfl rfl hl.1 rfl (lv_room (Nat.le_of_ble_eq_true rfl)) dX0_asks_24 ⟨show cc + (h5.1 - h.1) ≤ u9.1 - u.1 by omega, show ss + (h5.2.1 - h.2.1) ≤ u9.2.1 - u.2.1 by omega⟩) (fun H locs hw => ?_)
      exact hB27 h5 x0 x2 r6 _ _ _ _ _ hm hw (by omega) (by omega) (lv_sub hl [0, 1] rfl)
  have hB13 : ∀ (h : CH) (x0 : Nat) (x1 : Int32) (x2 : Int32) (y0 : Int32) (cc ss : Nat) (H : Heap) (locs : List Loc) (ls : Array Slot), m_X0_asks_13 f h x0 x1 x2 y0 = some (r0, u9) → CW D dA A s h H locs → cc + u.1 = h.1 → ss + u.2.1 = h.2.1 → lv_has ls 3 [(0, .ref x0), (1, .int x1), (2, .int x2)] → W p l e (rm_X0_asks (u9.1 - u.1) (u9.2.1 - u.2.1)) s m args below meth c H locs cc ss QQ (F0 m 13 ls [.int y0]) := by
    intro h x0 x1 x2 y0 cc ss H locs ls hm hw hcc hss hl
    have hmo := mo_X0_asks_13  h x0 x1 x2 y0 _ hm
    have sb_ : h.1 ≤ u9.1 := hmo.1
    have tb_ : h.2.1 ≤ u9.2.1 := hmo.2.1
    rw [m_X0_asks_13] at hm
    refine lv_if_ne (tgt := 19) hx hb dX0_asks_13 (by decide) (fun c1 => ?_) (fun c1 => ?_)
    · have hm := ifT hm c1
      refine lv_aload_n hx hb dX0_asks_19 rfl (lv_at hl 0 rfl) ?_
      refine lv_iload_n hx hb dX0_asks_20 rfl (lv_at hl 1 rfl) ?_
      obtain ⟨g2, hm⟩ := gdE hm
      obtain ⟨a4, h3, ea4, hm⟩ := bd2E hm
      have lh3 := mo_X0_at ea4
      have ph3 : h.1 ≤ h3.1 := lh3.1
      have qh3 : h.2.1 ≤ h3.2.1 := lh3.2.1
      have hmo := mo_X0_asks_24   h3 x0 x2 a4 _ hm
      have sh3 : h3.1 ≤ u9.1 := hmo.1
      have th3 : h3.2.1 ≤ u9.2.1 := hmo.2.1
      refine cg_callr hw lh3 (va_runV (As := [.int x1]) (rest := []) ⟨hx, hb, hml, hown, hts⟩ (w_X0_at l ea4) (cw_X0_at hts q900 ⟨Nat.le_of_ble_eq_true rfl, Nat.le_of_ble_eq_true rfl⟩) (cg_preV C hw g2 rfl _) rfl rfl hl.1 rfl (lv_room (Nat.le_of_ble_eq_true rfl)) dX0_asks_21 ⟨show cc + (h3.1 - h.1) ≤ u9.1 - u.1 by omega, show ss + (h3.2.1 - h.2.1) ≤ u9.2.1 - u.2.1 by omega⟩) (fun H locs hw => ?_)
      exact hB24 h3 x0 x2 a4 _ _ _ _ _ hm hw (by omega) (by omega) (lv_sub hl [0, 2] rfl)
    · have hm := ifT' hm c1
      exact hB16 h _ _ _ _ _ hm hw (by omega) (by omega) (lv_sub hl [] rfl)
  have hB5 : ∀ (h : CH) (x0 : Nat) (x1 : Int32) (x2 : Int32) (y0 : Int32) (cc ss : Nat) (H : Heap) (locs : List Loc) (ls : Array Slot), m_X0_asks_5 f h x0 x1 x2 y0 = some (r0, u9) → CW D dA A s h H locs → cc + u.1 = h.1 → ss + u.2.1 = h.2.1 → lv_has ls 3 [(0, .ref x0), (1, .int x1), (2, .int x2)] → W p l e (rm_X0_asks (u9.1 - u.1) (u9.2.1 - u.2.1)) s m args below meth c H locs cc ss QQ (F0 m 5 ls [.int y0]) := by
    intro h x0 x1 x2 y0 cc ss H locs ls hm hw hcc hss hl
    have hmo := mo_X0_asks_5  h x0 x1 x2 y0 _ hm
    have sb_ : h.1 ≤ u9.1 := hmo.1
    have tb_ : h.2.1 ≤ u9.2.1 := hmo.2.1
    rw [m_X0_asks_5] at hm
    refine lv_if_eq (tgt := 16) hx hb dX0_asks_5 (by decide) (fun c1 => ?_) (fun c1 => ?_)
    · have hm := ifT hm c1
      exact hB16 h _ _ _ _ _ hm hw (by omega) (by omega) (lv_sub hl [] rfl)
    · have hm := ifF hm c1
      refine lv_aload_n hx hb dX0_asks_8 rfl (lv_at hl 0 rfl) ?_
      refine lv_iload_n hx hb dX0_asks_9 rfl (lv_at hl 2 rfl) ?_
      obtain ⟨g2, hm⟩ := gdE hm
      obtain ⟨r4, h3, er4, hm⟩ := bd2E hm
      have lh3 := mo_X0_isLattice er4
      have ph3 : h.1 ≤ h3.1 := lh3.1
      have qh3 : h.2.1 ≤ h3.2.1 := lh3.2.1
      have hmo := mo_X0_asks_13   h3 x0 x1 x2 r4 _ hm
      have sh3 : h3.1 ≤ u9.1 := hmo.1
      have th3 : h3.2.1 ≤ u9.2.1 := hmo.2.1
      refine cg_calli hw lh3 (va_runV (As := [.int x2]) (rest := []) ⟨hx, hb, hml, hown, hts⟩ (w_X0_isLattice l er4) (cw_X0_isLattice hts q892 ⟨Nat.le_of_ble_eq_true rfl, Nat.le_of_ble_eq_true rfl⟩) (cg_preV C hw g2 rfl _) rfl rfl hl.1 rfl (lv_room (Nat.le_of_ble_eq_true rfl)) dX0_asks_10 ⟨show cc + (h3.1 - h.1) ≤ u9.1 - u.1 by omega, show ss + (h3.2.1 - h.2.1) ≤ u9.2.1 - u.2.1 by omega⟩) (fun H locs hw => ?_)
      exact hB13 h3 x0 x1 x2 r4 _ _ _ _ _ hm hw (by omega) (by omega) (lv_sub hl [0, 1, 2] rfl)
  rw [m_X0_asks] at hm
  refine lv_aload_n hx hb dX0_asks_0 rfl (lv_at hl 0 rfl) ?_
  refine lv_iload_n hx hb dX0_asks_1 rfl (lv_at hl 1 rfl) ?_
  obtain ⟨g1, hm⟩ := gdE hm
  obtain ⟨r3, h2, er3, hm⟩ := bd2E hm
  have lh2 := mo_X0_isLattice er3
  have ph2 : u.1 ≤ h2.1 := lh2.1
  have qh2 : u.2.1 ≤ h2.2.1 := lh2.2.1
  have hmo := mo_X0_asks_5   h2 x0 x1 x2 r3 _ hm
  have sh2 : h2.1 ≤ u9.1 := hmo.1
  have th2 : h2.2.1 ≤ u9.2.1 := hmo.2.1
  refine cg_calli hw lh2 (va_runV (As := [.int x1]) (rest := []) ⟨hx, hb, hml, hown, hts⟩ (w_X0_isLattice l er3) (cw_X0_isLattice hts q892 ⟨Nat.le_of_ble_eq_true rfl, Nat.le_of_ble_eq_true rfl⟩) (cg_preV C hw g1 rfl _) rfl rfl hl.1 rfl (lv_room (Nat.le_of_ble_eq_true rfl)) dX0_asks_2 ⟨show cc + (h2.1 - u.1) ≤ u9.1 - u.1 by omega, show ss + (h2.2.1 - u.2.1) ≤ u9.2.1 - u.2.1 by omega⟩) (fun H locs hw => ?_)
  exact hB5 h2 x0 x1 x2 r3 _ _ _ _ _ hm hw (by omega) (by omega) (lv_sub hl [0, 1, 2] rfl)
def m_X0_inside_100 (f : Nat) (h : CH) : Option (Int32 × CH) := some ((1 : Int32), h)
theorem mo_X0_inside_100 {f : Nat} : ∀ (h : CH) (r : (Int32 × CH)), m_X0_inside_100 f h = some r → le2 h r.2 := by
  intro h r hm
  rw [m_X0_inside_100] at hm
  cases hm
  exact le2.rf
def m_X0_inside_92 (f : Nat) (h : CH) : Option (Int32 × CH) := some ((0 : Int32), h)
theorem mo_X0_inside_92 {f : Nat} : ∀ (h : CH) (r : (Int32 × CH)), m_X0_inside_92 f h = some r → le2 h r.2 := by
  intro h r hm
  rw [m_X0_inside_92] at hm
  cases hm
  exact le2.rf
def m_X0_inside_89 (f : Nat) (k26 : CH → Nat → Int32 → Int32 → Nat → Int32 → Option (Int32 × CH)) (h : CH) (x0 : Nat) (x1 : Int32) (x2 : Int32) (x4 : Nat) (x5 : Int32) (y0 : Int32) : Option (Int32 × CH) := if ¬ y0 = 0 then
    nmv ((x5 + 1) : Int32) fun v2 =>
    k26 h x0 x1 x2 x4 v2
    else m_X0_inside_92 f h
theorem mo_X0_inside_89 {f : Nat} {k26 : CH → Nat → Int32 → Int32 → Nat → Int32 → Option (Int32 × CH)} (hk26 : ∀ (h : CH) (x0 : Nat) (x1 : Int32) (x2 : Int32) (x4 : Nat) (x5 : Int32) (r : (Int32 × CH)), k26 h x0 x1 x2 x4 x5 = some r → le2 h r.2) : ∀ (h : CH) (x0 : Nat) (x1 : Int32) (x2 : Int32) (x4 : Nat) (x5 : Int32) (y0 : Int32) (r : (Int32 × CH)), m_X0_inside_89 f k26 h x0 x1 x2 x4 x5 y0 = some r → le2 h r.2 := by
  intro h x0 x1 x2 x4 x5 y0 r hm
  rw [m_X0_inside_89] at hm
  by_cases c1 : ¬ y0 = 0
  · have hm := ifT hm c1
    obtain ⟨v2, ev2, hm⟩ := nmE hm
    exact (hk26 h x0 x1 x2 x4 v2 _ hm)
  · have hm := ifF hm c1
    exact (mo_X0_inside_92  h _ hm)
def m_X0_inside_86 (f : Nat) (k26 : CH → Nat → Int32 → Int32 → Nat → Int32 → Option (Int32 × CH)) (h : CH) (x0 : Nat) (x1 : Int32) (x2 : Int32) (x4 : Nat) (x5 : Int32) (y0 : Nat) (y1 : Int64) (y2 : Int64) (y3 : Int64) (y4 : Int64) (y5 : Int64) : Option (Int32 × CH) := bd2 (m_X0_have f h y0 y1 y2 y3 y4 y5) fun r2 h1 =>
    m_X0_inside_89 f k26 h1 x0 x1 x2 x4 x5 r2
theorem mo_X0_inside_86 {f : Nat} {k26 : CH → Nat → Int32 → Int32 → Nat → Int32 → Option (Int32 × CH)} (hk26 : ∀ (h : CH) (x0 : Nat) (x1 : Int32) (x2 : Int32) (x4 : Nat) (x5 : Int32) (r : (Int32 × CH)), k26 h x0 x1 x2 x4 x5 = some r → le2 h r.2) : ∀ (h : CH) (x0 : Nat) (x1 : Int32) (x2 : Int32) (x4 : Nat) (x5 : Int32) (y0 : Nat) (y1 : Int64) (y2 : Int64) (y3 : Int64) (y4 : Int64) (y5 : Int64) (r : (Int32 × CH)), m_X0_inside_86 f k26 h x0 x1 x2 x4 x5 y0 y1 y2 y3 y4 y5 = some r → le2 h r.2 := by
  intro h x0 x1 x2 x4 x5 y0 y1 y2 y3 y4 y5 r hm
  rw [m_X0_inside_86] at hm
  obtain ⟨r2, h1, er2, hm⟩ := bd2E hm
  have lh1 := mo_X0_have er2
  exact (lh1.tr (mo_X0_inside_89 hk26 h1 x0 x1 x2 x4 x5 r2 _ hm))
def m_X0_inside_83 (f : Nat) (k26 : CH → Nat → Int32 → Int32 → Nat → Int32 → Option (Int32 × CH)) (h : CH) (x0 : Nat) (x1 : Int32) (x2 : Int32) (x4 : Nat) (x5 : Int32) (y0 : Nat) (y1 : Int64) (y2 : Int64) (y3 : Int64) (y4 : Int64) (y5 : Nat) : Option (Int32 × CH) := if isC h y5 6 = true then
    bd2 (m_X6_over f h y5) fun r3 h2 =>
    m_X0_inside_86 f k26 h2 x0 x1 x2 x4 x5 y0 y1 y2 y3 y4 r3
    else gd (isC h y5 7) <|
    bd2 (m_X7_over f h y5) fun r6 h5 =>
    m_X0_inside_86 f k26 h5 x0 x1 x2 x4 x5 y0 y1 y2 y3 y4 r6
theorem mo_X0_inside_83 {f : Nat} {k26 : CH → Nat → Int32 → Int32 → Nat → Int32 → Option (Int32 × CH)} (hk26 : ∀ (h : CH) (x0 : Nat) (x1 : Int32) (x2 : Int32) (x4 : Nat) (x5 : Int32) (r : (Int32 × CH)), k26 h x0 x1 x2 x4 x5 = some r → le2 h r.2) : ∀ (h : CH) (x0 : Nat) (x1 : Int32) (x2 : Int32) (x4 : Nat) (x5 : Int32) (y0 : Nat) (y1 : Int64) (y2 : Int64) (y3 : Int64) (y4 : Int64) (y5 : Nat) (r : (Int32 × CH)), m_X0_inside_83 f k26 h x0 x1 x2 x4 x5 y0 y1 y2 y3 y4 y5 = some r → le2 h r.2 := by
  intro h x0 x1 x2 x4 x5 y0 y1 y2 y3 y4 y5 r hm
  rw [m_X0_inside_83] at hm
  by_cases c1 : isC h y5 6 = true
  · have hm := ifT hm c1
    obtain ⟨r3, h2, er3, hm⟩ := bd2E hm
    have lh2 := mo_X6_over er3
    exact (lh2.tr (mo_X0_inside_86 hk26 h2 x0 x1 x2 x4 x5 y0 y1 y2 y3 y4 r3 _ hm))
  · have hm := ifF hm c1
    obtain ⟨g4, hm⟩ := gdE hm
    obtain ⟨r6, h5, er6, hm⟩ := bd2E hm
    have lh5 := mo_X7_over er6
    exact (lh5.tr (mo_X0_inside_86 hk26 h5 x0 x1 x2 x4 x5 y0 y1 y2 y3 y4 r6 _ hm))
def m_X0_inside_48 (f : Nat) (k26 : CH → Nat → Int32 → Int32 → Nat → Int32 → Option (Int32 × CH)) (h : CH) (x0 : Nat) (x1 : Int32) (x2 : Int32) (x4 : Nat) (x5 : Int32) (y0 : Nat) (y1 : Int64) : Option (Int32 × CH) := bd (oR h 3 0 x4) fun a1 =>
    bd (aR h 4 a1 x5) fun a2 =>
    bd (aL h 1 a2 (0 : Int32)) fun v3 =>
    bd (oR h 3 0 x4) fun a4 =>
    bd (aR h 4 a4 x5) fun a5 =>
    bd (aL h 1 a5 (1 : Int32)) fun v6 =>
    bd (oR h 3 0 x4) fun a7 =>
    bd (aR h 4 a7 x5) fun a8 =>
    bd (aL h 1 a8 (2 : Int32)) fun v9 =>
    gd (isC h x0 1) <|
    bd2 (m_X0_at f h x0 x1) fun a12 h11 =>
    m_X0_inside_83 f k26 h11 x0 x1 x2 x4 x5 y0 y1 v3 v6 v9 a12
theorem mo_X0_inside_48 {f : Nat} {k26 : CH → Nat → Int32 → Int32 → Nat → Int32 → Option (Int32 × CH)} (hk26 : ∀ (h : CH) (x0 : Nat) (x1 : Int32) (x2 : Int32) (x4 : Nat) (x5 : Int32) (r : (Int32 × CH)), k26 h x0 x1 x2 x4 x5 = some r → le2 h r.2) : ∀ (h : CH) (x0 : Nat) (x1 : Int32) (x2 : Int32) (x4 : Nat) (x5 : Int32) (y0 : Nat) (y1 : Int64) (r : (Int32 × CH)), m_X0_inside_48 f k26 h x0 x1 x2 x4 x5 y0 y1 = some r → le2 h r.2 := by
  intro h x0 x1 x2 x4 x5 y0 y1 r hm
  rw [m_X0_inside_48] at hm
  obtain ⟨a1, ea1, hm⟩ := bdE hm
  obtain ⟨a2, ea2, hm⟩ := bdE hm
  obtain ⟨v3, ev3, hm⟩ := bdE hm
  obtain ⟨a4, ea4, hm⟩ := bdE hm
  obtain ⟨a5, ea5, hm⟩ := bdE hm
  obtain ⟨v6, ev6, hm⟩ := bdE hm
  obtain ⟨a7, ea7, hm⟩ := bdE hm
  obtain ⟨a8, ea8, hm⟩ := bdE hm
  obtain ⟨v9, ev9, hm⟩ := bdE hm
  obtain ⟨g10, hm⟩ := gdE hm
  obtain ⟨a12, h11, ea12, hm⟩ := bd2E hm
  have lh11 := mo_X0_at ea12
  exact (lh11.tr (mo_X0_inside_83 hk26 h11 x0 x1 x2 x4 x5 y0 y1 v3 v6 v9 a12 _ hm))
def m_X0_inside_45 (f : Nat) (k26 : CH → Nat → Int32 → Int32 → Nat → Int32 → Option (Int32 × CH)) (h : CH) (x0 : Nat) (x1 : Int32) (x2 : Int32) (x4 : Nat) (x5 : Int32) (y0 : Nat) (y1 : Nat) : Option (Int32 × CH) := if isC h y1 6 = true then
    bd2 (m_X6_over f h y1) fun r3 h2 =>
    m_X0_inside_48 f k26 h2 x0 x1 x2 x4 x5 y0 r3
    else gd (isC h y1 7) <|
    bd2 (m_X7_over f h y1) fun r6 h5 =>
    m_X0_inside_48 f k26 h5 x0 x1 x2 x4 x5 y0 r6
theorem mo_X0_inside_45 {f : Nat} {k26 : CH → Nat → Int32 → Int32 → Nat → Int32 → Option (Int32 × CH)} (hk26 : ∀ (h : CH) (x0 : Nat) (x1 : Int32) (x2 : Int32) (x4 : Nat) (x5 : Int32) (r : (Int32 × CH)), k26 h x0 x1 x2 x4 x5 = some r → le2 h r.2) : ∀ (h : CH) (x0 : Nat) (x1 : Int32) (x2 : Int32) (x4 : Nat) (x5 : Int32) (y0 : Nat) (y1 : Nat) (r : (Int32 × CH)), m_X0_inside_45 f k26 h x0 x1 x2 x4 x5 y0 y1 = some r → le2 h r.2 := by
  intro h x0 x1 x2 x4 x5 y0 y1 r hm
  rw [m_X0_inside_45] at hm
  by_cases c1 : isC h y1 6 = true
  · have hm := ifT hm c1
    obtain ⟨r3, h2, er3, hm⟩ := bd2E hm
    have lh2 := mo_X6_over er3
    exact (lh2.tr (mo_X0_inside_48 hk26 h2 x0 x1 x2 x4 x5 y0 r3 _ hm))
  · have hm := ifF hm c1
    obtain ⟨g4, hm⟩ := gdE hm
    obtain ⟨r6, h5, er6, hm⟩ := bd2E hm
    have lh5 := mo_X7_over er6
    exact (lh5.tr (mo_X0_inside_48 hk26 h5 x0 x1 x2 x4 x5 y0 r6 _ hm))
def m_X0_inside_40 (f : Nat) (k26 : CH → Nat → Int32 → Int32 → Nat → Int32 → Option (Int32 × CH)) (h : CH) (x0 : Nat) (x1 : Int32) (x2 : Int32) (x4 : Nat) (x5 : Int32) (y0 : Nat) : Option (Int32 × CH) := gd (isC h x0 1) <|
    bd2 (m_X0_at f h x0 x2) fun a3 h2 =>
    m_X0_inside_45 f k26 h2 x0 x1 x2 x4 x5 y0 a3
theorem mo_X0_inside_40 {f : Nat} {k26 : CH → Nat → Int32 → Int32 → Nat → Int32 → Option (Int32 × CH)} (hk26 : ∀ (h : CH) (x0 : Nat) (x1 : Int32) (x2 : Int32) (x4 : Nat) (x5 : Int32) (r : (Int32 × CH)), k26 h x0 x1 x2 x4 x5 = some r → le2 h r.2) : ∀ (h : CH) (x0 : Nat) (x1 : Int32) (x2 : Int32) (x4 : Nat) (x5 : Int32) (y0 : Nat) (r : (Int32 × CH)), m_X0_inside_40 f k26 h x0 x1 x2 x4 x5 y0 = some r → le2 h r.2 := by
  intro h x0 x1 x2 x4 x5 y0 r hm
  rw [m_X0_inside_40] at hm
  obtain ⟨g1, hm⟩ := gdE hm
  obtain ⟨a3, h2, ea3, hm⟩ := bd2E hm
  have lh2 := mo_X0_at ea3
  exact (lh2.tr (mo_X0_inside_45 hk26 h2 x0 x1 x2 x4 x5 y0 a3 _ hm))
def m_X0_inside_37 (f : Nat) (k26 : CH → Nat → Int32 → Int32 → Nat → Int32 → Option (Int32 × CH)) (h : CH) (x0 : Nat) (x1 : Int32) (x2 : Int32) (x4 : Nat) (x5 : Int32) (y0 : Nat) : Option (Int32 × CH) := if isC h y0 6 = true then
    bd2 (m_X6_rows f h y0) fun a3 h2 =>
    m_X0_inside_40 f k26 h2 x0 x1 x2 x4 x5 a3
    else gd (isC h y0 7) <|
    bd2 (m_X7_rows f h y0) fun a6 h5 =>
    m_X0_inside_40 f k26 h5 x0 x1 x2 x4 x5 a6
theorem mo_X0_inside_37 {f : Nat} {k26 : CH → Nat → Int32 → Int32 → Nat → Int32 → Option (Int32 × CH)} (hk26 : ∀ (h : CH) (x0 : Nat) (x1 : Int32) (x2 : Int32) (x4 : Nat) (x5 : Int32) (r : (Int32 × CH)), k26 h x0 x1 x2 x4 x5 = some r → le2 h r.2) : ∀ (h : CH) (x0 : Nat) (x1 : Int32) (x2 : Int32) (x4 : Nat) (x5 : Int32) (y0 : Nat) (r : (Int32 × CH)), m_X0_inside_37 f k26 h x0 x1 x2 x4 x5 y0 = some r → le2 h r.2 := by
  intro h x0 x1 x2 x4 x5 y0 r hm
  rw [m_X0_inside_37] at hm
  by_cases c1 : isC h y0 6 = true
  · have hm := ifT hm c1
    obtain ⟨a3, h2, ea3, hm⟩ := bd2E hm
    have lh2 := mo_X6_rows ea3
    exact (lh2.tr (mo_X0_inside_40 hk26 h2 x0 x1 x2 x4 x5 a3 _ hm))
  · have hm := ifF hm c1
    obtain ⟨g4, hm⟩ := gdE hm
    obtain ⟨a6, h5, ea6, hm⟩ := bd2E hm
    have lh5 := mo_X7_rows ea6
    exact (lh5.tr (mo_X0_inside_40 hk26 h5 x0 x1 x2 x4 x5 a6 _ hm))
def m_X0_inside_26 (f : Nat) : Nat → CH → Nat → Int32 → Int32 → Nat → Int32 → Option (Int32 × CH)
  | 0, _, _, _, _, _, _ => none
  | n26 + 1, h, x0, x1, x2, x4, x5 => if (3 : Int32) ≤ x5 then
    m_X0_inside_100 f h
    else gd (isC h x0 1) <|
    bd2 (m_X0_at f h x0 x2) fun a4 h3 =>
    m_X0_inside_37 f (m_X0_inside_26 f n26) h3 x0 x1 x2 x4 x5 a4
theorem mo_X0_inside_26 {f : Nat} : ∀ (n26 : Nat) (h : CH) (x0 : Nat) (x1 : Int32) (x2 : Int32) (x4 : Nat) (x5 : Int32) (r : (Int32 × CH)), m_X0_inside_26 f n26 h x0 x1 x2 x4 x5 = some r → le2 h r.2 := by
  intro n26
  induction n26 with
  | zero => intro h x0 x1 x2 x4 x5 r hm; rw [m_X0_inside_26] at hm; exact noE hm
  | succ n26 ihm =>
    intro h x0 x1 x2 x4 x5 r hm
    rw [m_X0_inside_26] at hm
    by_cases c1 : (3 : Int32) ≤ x5
    · have hm := ifT hm c1
      exact (mo_X0_inside_100  h _ hm)
    · have hm := ifF hm c1
      obtain ⟨g2, hm⟩ := gdE hm
      obtain ⟨a4, h3, ea4, hm⟩ := bd2E hm
      have lh3 := mo_X0_at ea4
      exact (lh3.tr (mo_X0_inside_37 ihm h3 x0 x1 x2 x4 x5 a4 _ hm))
def m_X0_inside_21 (f : Nat) (h : CH) (x0 : Nat) (x1 : Int32) (x2 : Int32) (y0 : Nat) : Option (Int32 × CH) := m_X0_inside_26 f f h x0 x1 x2 y0 (0 : Int32)
theorem mo_X0_inside_21 {f : Nat} : ∀ (h : CH) (x0 : Nat) (x1 : Int32) (x2 : Int32) (y0 : Nat) (r : (Int32 × CH)), m_X0_inside_21 f h x0 x1 x2 y0 = some r → le2 h r.2 := by
  intro h x0 x1 x2 y0 r hm
  rw [m_X0_inside_21] at hm
  exact (mo_X0_inside_26  f h x0 x1 x2 y0 (0 : Int32) _ hm)
def m_X0_inside_18 (f : Nat) (h : CH) (x0 : Nat) (x1 : Int32) (x2 : Int32) (y0 : Nat) : Option (Int32 × CH) := if isC h y0 6 = true then
    bd2 (m_X6_rows f h y0) fun a3 h2 =>
    m_X0_inside_21 f h2 x0 x1 x2 a3
    else gd (isC h y0 7) <|
    bd2 (m_X7_rows f h y0) fun a6 h5 =>
    m_X0_inside_21 f h5 x0 x1 x2 a6
theorem mo_X0_inside_18 {f : Nat} : ∀ (h : CH) (x0 : Nat) (x1 : Int32) (x2 : Int32) (y0 : Nat) (r : (Int32 × CH)), m_X0_inside_18 f h x0 x1 x2 y0 = some r → le2 h r.2 := by
  intro h x0 x1 x2 y0 r hm
  rw [m_X0_inside_18] at hm
  by_cases c1 : isC h y0 6 = true
  · have hm := ifT hm c1
    obtain ⟨a3, h2, ea3, hm⟩ := bd2E hm
    have lh2 := mo_X6_rows ea3
    exact (lh2.tr (mo_X0_inside_21  h2 x0 x1 x2 a3 _ hm))
  · have hm := ifF hm c1
    obtain ⟨g4, hm⟩ := gdE hm
    obtain ⟨a6, h5, ea6, hm⟩ := bd2E hm
    have lh5 := mo_X7_rows ea6
    exact (lh5.tr (mo_X0_inside_21  h5 x0 x1 x2 a6 _ hm))
def m_X0_inside_6 (f : Nat) (h : CH) (x0 : Nat) (x1 : Int32) (x2 : Int32) (y0 : Int32) : Option (Int32 × CH) := if 0 ≤ y0 then
    gd (isC h x0 1) <|
    bd2 (m_X0_at f h x0 x1) fun a4 h3 =>
    m_X0_inside_18 f h3 x0 x1 x2 a4
    else some (y0, h)
theorem mo_X0_inside_6 {f : Nat} : ∀ (h : CH) (x0 : Nat) (x1 : Int32) (x2 : Int32) (y0 : Int32) (r : (Int32 × CH)), m_X0_inside_6 f h x0 x1 x2 y0 = some r → le2 h r.2 := by
  intro h x0 x1 x2 y0 r hm
  rw [m_X0_inside_6] at hm
  by_cases c1 : 0 ≤ y0
  · have hm := ifT hm c1
    obtain ⟨g2, hm⟩ := gdE hm
    obtain ⟨a4, h3, ea4, hm⟩ := bd2E hm
    have lh3 := mo_X0_at ea4
    exact (lh3.tr (mo_X0_inside_18  h3 x0 x1 x2 a4 _ hm))
  · have hm := ifF hm c1
    cases hm
    exact le2.rf
def m_X0_inside (f : Nat) (u : CH) (x0 : Nat) (x1 : Int32) (x2 : Int32) : Option (Int32 × CH) := gd (isC u x0 1) <|
    bd2 (m_X0_asks f u x0 x1 x2) fun r3 h2 =>
    m_X0_inside_6 f h2 x0 x1 x2 r3
theorem mo_X0_inside {f : Nat} {u : CH} {x0 : Nat} {x1 : Int32} {x2 : Int32} {r0 : Int32} {u9 : CH} (hm : m_X0_inside f u x0 x1 x2 = some (r0, u9)) : le2 u u9 := by
  rw [m_X0_inside] at hm
  obtain ⟨g1, hm⟩ := gdE hm
  obtain ⟨r3, h2, er3, hm⟩ := bd2E hm
  have lh2 := mo_X0_asks er3
  exact (lh2.tr (mo_X0_inside_6  h2 x0 x1 x2 r3 _ hm))
abbrev rm_X0_inside (mc ms : Nat) : Room := { frames := 105, cells := mc, slots := ms, locals := 4139 }
theorem cw_X0_inside {R : Room} {s : State} {args : Array Value} {own : String} {idx mc ms : Nat} (hts : ∀ w ∈ lw_all, w.before args s = true) (hl : Cond.methodLink own idx yX0_inside ∈ lw_all) (hR : 105 + 1 ≤ R.frames ∧ 8 + (6 + 11) + 4139 ≤ R.locals) : CallW R s args own RX0 idx yX0_inside cX0_inside 6 (Option.some Jvm.ClassFile.FieldType.int) (ws_ yX0_inside cX0_inside 6 (Option.some Jvm.ClassFile.FieldType.int)) (rm_X0_inside mc ms) mc ms 2 := cwV 2 hts (lw_V hl q1093 q1094 q119 q1095) rfl rfl rfl (by decide +kernel) hR
set_option maxHeartbeats 4000000 in
set_option maxRecDepth 100000 in
theorem w_X0_inside (l : Launch) {D : va_G} {dA : Nat → ClassId} {A : Nat → Prop} {f : Nat} {u u9 : CH} {r0 : Int32} {x0 : Nat} {x1 : Int32} {x2 : Int32} (hm : m_X0_inside f u x0 x1 x2 = some (r0, u9)) : Met l yX0_inside (ws_ yX0_inside cX0_inside 6 (Option.some Jvm.ClassFile.FieldType.int)) (rm_X0_inside (u9.1 - u.1) (u9.2.1 - u.2.1)) (va_Pc [.ref x0, .int x1, .int x2] (CPre D dA A u)) (va_Qi (fun r u => r = r0 ∧ u = u9) (CPost D dA A) A) (u9.1 - u.1) (u9.2.1 - u.2.1) A := by
  refine Met.ofW (cc := cX0_inside) (maxL := 6) (ret := (Option.some Jvm.ClassFile.FieldType.int)) (by decide) rfl ?_
  intro p e s m args below meth c s₁ B hml hv
  have hx := B.exec
  have hb := B.bytes
  have hr := B.returns
  have hts := atoms_spec (ws := (ws_ yX0_inside cX0_inside 6 (Option.some Jvm.ClassFile.FieldType.int))) B.pre
  have hts : ∀ w ∈ lw_all, w.before args s = true := fun w h => hts w (List.mem_cons_of_mem _ h)
  have hown : s.vm.findClass RX0 = some m.cls := findClass_of_methodNamed B.named
  have hlocks := B.notSynchronized
  obtain ⟨hav, hv⟩ := hv
  have C : CX p s m args c cX0_inside RX0 D dA := ⟨hx, hb, hown, hts, hv.2⟩
  have hw : CW D dA A s u s.heap [] := hv.1
  generalize hQ : MQ below (va_Qi (fun r u => r = r0 ∧ u = u9) (CPost D dA A) A) args s (u9.1 - u.1) (u9.2.1 - u.2.1) A = QQ
  have hent := lg_entry_eq m [.ref x0, .int x1, .int x2] 6
  rw [← hav] at hent
  rw [hent]
  have hl := lv_entry ([.ref x0, .int x1, .int x2]) (n := 6) (Nat.le_of_ble_eq_true rfl)
  generalize (lg_sl ([.ref x0, .int x1, .int x2]) ++ List.replicate (6 - (lg_sl ([.ref x0, .int x1, .int x2])).length) Slot.unset).toArray = ls at hl ⊢
  have hl : lv_has ls 6 [(0, .ref x0), (1, .int x1), (2, .int x2)] := hl
  obtain ⟨cc, ecc⟩ : ∃ z : Nat, z = 0 := ⟨0, rfl⟩
  obtain ⟨ss, ess⟩ : ∃ z : Nat, z = 0 := ⟨0, rfl⟩
  have hcc : cc + u.1 = u.1 := by omega
  have hss : ss + u.2.1 = u.2.1 := by omega
  suffices hgo : W p l e (rm_X0_inside (u9.1 - u.1) (u9.2.1 - u.2.1)) s m args below meth c s.heap [] cc ss QQ (F0 m 0 ls []) by rw [ecc, ess] at hgo; exact hgo
  have ⟨pu, qu, _, _⟩ := mo_X0_inside hm
  have hB100 : ∀ (h : CH) (cc ss : Nat) (H : Heap) (locs : List Loc) (ls : Array Slot), m_X0_inside_100 f h = some (r0, u9) → CW D dA A s h H locs → cc + u.1 = h.1 → ss + u.2.1 = h.2.1 → lv_has ls 6 [] → W p l e (rm_X0_inside (u9.1 - u.1) (u9.2.1 - u.2.1)) s m args below meth c H locs cc ss QQ (F0 m 100 ls []) := by
    intro h cc ss H locs ls hm hw hcc hss hl
    have hmo := mo_X0_inside_100  h _ hm
    have sb_ : h.1 ≤ u9.1 := hmo.1
    have tb_ : h.2.1 ≤ u9.2.1 := hmo.2.1
    rw [m_X0_inside_100] at hm
    refine lv_iconst (v := 1) hx hb dX0_inside_100 (by decide) ?_
    obtain ⟨er, eh⟩ := retE hm
    have ec : cc = u9.1 - u.1 := by rw [← eh]; omega
    have es : ss = u9.2.1 - u.2.1 := by rw [← eh]; omega
    rw [ec, es, ← hQ]
    exact W.iret (v := (1 : Int32)) hx hb hr (fun t ht hW => ⟨⟨(1 : Int32), h, rfl, ⟨er, eh⟩, ⟨by rw [ht]; exact hw.1, by rw [ht]; exact hw.2.1⟩⟩, hw.2.2.1.F ht⟩) hw.2.2.1.2.2 dX0_inside_101
  have hB92 : ∀ (h : CH) (cc ss : Nat) (H : Heap) (locs : List Loc) (ls : Array Slot), m_X0_inside_92 f h = some (r0, u9) → CW D dA A s h H locs → cc + u.1 = h.1 → ss + u.2.1 = h.2.1 → lv_has ls 6 [] → W p l e (rm_X0_inside (u9.1 - u.1) (u9.2.1 - u.2.1)) s m args below meth c H locs cc ss QQ (F0 m 92 ls []) := by
    intro h cc ss H locs ls hm hw hcc hss hl
    have hmo := mo_X0_inside_92  h _ hm
    have sb_ : h.1 ≤ u9.1 := hmo.1
    have tb_ : h.2.1 ≤ u9.2.1 := hmo.2.1
    rw [m_X0_inside_92] at hm
    refine lv_iconst (v := 0) hx hb dX0_inside_92 (by decide) ?_
    obtain ⟨er, eh⟩ := retE hm
    have ec : cc = u9.1 - u.1 := by rw [← eh]; omega
    have es : ss = u9.2.1 - u.2.1 := by rw [← eh]; omega
    rw [ec, es, ← hQ]
    exact W.iret (v := (0 : Int32)) hx hb hr (fun t ht hW => ⟨⟨(0 : Int32), h, rfl, ⟨er, eh⟩, ⟨by rw [ht]; exact hw.1, by rw [ht]; exact hw.2.1⟩⟩, hw.2.2.1.F ht⟩) hw.2.2.1.2.2 dX0_inside_93
  have hB26 : ∀ (n26 : Nat), ∀ (h : CH) (x0 : Nat) (x1 : Int32) (x2 : Int32) (x4 : Nat) (x5 : Int32) (cc ss : Nat) (H : Heap) (locs : List Loc) (ls : Array Slot), m_X0_inside_26 f n26 h x0 x1 x2 x4 x5 = some (r0, u9) → CW D dA A s h H locs → cc + u.1 = h.1 → ss + u.2.1 = h.2.1 → lv_has ls 6 [(0, .ref x0), (1, .int x1), (2, .int x2), (4, .ref x4), (5, .int x5)] → W p l e (rm_X0_inside (u9.1 - u.1) (u9.2.1 - u.2.1)) s m args below meth c H locs cc ss QQ (F0 m 26 ls []) := by
    intro n26
    induction n26 with
    | zero => intro h x0 x1 x2 x4 x5 cc ss H locs ls hm hw hcc hss hl; rw [m_X0_inside_26] at hm; exact noE hm
    | succ n26 ih26 =>
      have hB89 : ∀ (h : CH) (x0 : Nat) (x1 : Int32) (x2 : Int32) (x4 : Nat) (x5 : Int32) (y0 : Int32) (cc ss : Nat) (H : Heap) (locs : List Loc) (ls : Array Slot), m_X0_inside_89 f (m_X0_inside_26 f n26) h x0 x1 x2 x4 x5 y0 = some (r0, u9) → CW D dA A s h H locs → cc + u.1 = h.1 → ss + u.2.1 = h.2.1 → lv_has ls 6 [(0, .ref x0), (1, .int x1), (2, .int x2), (4, .ref x4), (5, .int x5)] → W p l e (rm_X0_inside (u9.1 - u.1) (u9.2.1 - u.2.1)) s m args below meth c H locs cc ss QQ (F0 m 89 ls [.int y0]) := by
        intro h x0 x1 x2 x4 x5 y0 cc ss H locs ls hm hw hcc hss hl
        have hmo := mo_X0_inside_89 (mo_X0_inside_26 n26) h x0 x1 x2 x4 x5 y0 _ hm
        have sb_ : h.1 ≤ u9.1 := hmo.1
        have tb_ : h.2.1 ≤ u9.2.1 := hmo.2.1
        rw [m_X0_inside_89] at hm
        refine lv_if_ne (tgt := 94) hx hb dX0_inside_89 (by decide) (fun c1 => ?_) (fun c1 => ?_)
        · have hm := ifT hm c1
          obtain ⟨v2, ev2, hm⟩ := nmE hm
          refine lv_iinc (v := v2) (lv' := [(5, .int v2), (0, .ref x0), (1, .int x1), (2, .int x2), (4, .ref x4)]) hx hb dX0_inside_94 hl (k := 4) rfl (by rw [ev2]; rfl) (by decide) rfl (fun ls hl => ?_)
          refine lv_goto (tgt := 26) hx hb dX0_inside_97 (by decide) ?_
          exact ih26 h x0 x1 x2 x4 v2 _ _ _ _ _ hm hw (by omega) (by omega) (lv_sub hl [1, 2, 3, 4, 0] rfl)
        · have hm := ifT' hm c1
          exact hB92 h _ _ _ _ _ hm hw (by omega) (by omega) (lv_sub hl [] rfl)
      have hB86 : ∀ (h : CH) (x0 : Nat) (x1 : Int32) (x2 : Int32) (x4 : Nat) (x5 : Int32) (y0 : Nat) (y1 : Int64) (y2 : Int64) (y3 : Int64) (y4 : Int64) (y5 : Int64) (cc ss : Nat) (H : Heap) (locs : List Loc) (ls : Array Slot), m_X0_inside_86 f (m_X0_inside_26 f n26) h x0 x1 x2 x4 x5 y0 y1 y2 y3 y4 y5 = some (r0, u9) → CW D dA A s h H locs → cc + u.1 = h.1 → ss + u.2.1 = h.2.1 → lv_has ls 6 [(0, .ref x0), (1, .int x1), (2, .int x2), (4, .ref x4), (5, .int x5)] → W p l e (rm_X0_inside (u9.1 - u.1) (u9.2.1 - u.2.1)) s m args below meth c H locs cc ss QQ (F0 m 86 ls [.long y5, .long y4, .long y3, .long y2, .long y1, .ref y0]) := by
        intro h x0 x1 x2 x4 x5 y0 y1 y2 y3 y4 y5 cc ss H locs ls hm hw hcc hss hl
        have hmo := mo_X0_inside_86 (mo_X0_inside_26 n26) h x0 x1 x2 x4 x5 y0 y1 y2 y3 y4 y5 _ hm
        have sb_ : h.1 ≤ u9.1 := hmo.1
        have tb_ : h.2.1 ≤ u9.2.1 := hmo.2.1
        rw [m_X0_inside_86] at hm
        obtain ⟨r2, h1, er2, hm⟩ := bd2E hm
        have lh1 := mo_X0_have er2
        have ph1 : h.1 ≤ h1.1 := lh1.1
        have qh1 : h.2.1 ≤ h1.2.1 := lh1.2.1
        have hmo := mo_X0_inside_89 (mo_X0_inside_26 n26)  h1 x0 x1 x2 x4 x5 r2 _ hm
        have sh1 : h1.1 ≤ u9.1 := hmo.1
        have th1 : h1.2.1 ≤ u9.2.1 := hmo.2.1
        refine cg_calli hw lh1 (va_runS (As := [.ref y0, .long y1, .long y2, .long y3, .long y4, .long y5]) (rest := []) ⟨hx, hb, hml, hown, hts⟩ (w_X0_have l er2) (cw_X0_have hts q1085 ⟨Nat.le_of_ble_eq_true rfl, Nat.le_of_ble_eq_true rfl⟩) (cg_preS C hw _) rfl rfl hl.1 rfl (lv_room (Nat.le_of_ble_eq_true rfl)) dX0_inside_86 ⟨show cc + (h1.1 - h.1) ≤ u9.1 - u.1 by omega, show ss + (h1.2.1 - h.2.1) ≤ u9.2.1 - u.2.1 by omega⟩) (fun H locs hw => ?_)
        exact hB89 h1 x0 x1 x2 x4 x5 r2 _ _ _ _ _ hm hw (by omega) (by omega) (lv_sub hl [0, 1, 2, 3, 4] rfl)
      have hB83 : ∀ (h : CH) (x0 : Nat) (x1 : Int32) (x2 : Int32) (x4 : Nat) (x5 : Int32) (y0 : Nat) (y1 : Int64) (y2 : Int64) (y3 : Int64) (y4 : Int64) (y5 : Nat) (cc ss : Nat) (H : Heap) (locs : List Loc) (ls : Array Slot), m_X0_inside_83 f (m_X0_inside_26 f n26) h x0 x1 x2 x4 x5 y0 y1 y2 y3 y4 y5 = some (r0, u9) → CW D dA A s h H locs → cc + u.1 = h.1 → ss + u.2.1 = h.2.1 → lv_has ls 6 [(0, .ref x0), (1, .int x1), (2, .int x2), (4, .ref x4), (5, .int x5)] → W p l e (rm_X0_inside (u9.1 - u.1) (u9.2.1 - u.2.1)) s m args below meth c H locs cc ss QQ (F0 m 83 ls [.ref y5, .long y4, .long y3, .long y2, .long y1, .ref y0]) := by
        intro h x0 x1 x2 x4 x5 y0 y1 y2 y3 y4 y5 cc ss H locs ls hm hw hcc hss hl
        have hmo := mo_X0_inside_83 (mo_X0_inside_26 n26) h x0 x1 x2 x4 x5 y0 y1 y2 y3 y4 y5 _ hm
        have sb_ : h.1 ≤ u9.1 := hmo.1
        have tb_ : h.2.1 ≤ u9.2.1 := hmo.2.1
        rw [m_X0_inside_83] at hm
        by_cases c1 : isC h y5 6 = true
        · have hm := ifT hm c1
          obtain ⟨r3, h2, er3, hm⟩ := bd2E hm
          have lh2 := mo_X6_over er3
          have ph2 : h.1 ≤ h2.1 := lh2.1
          have qh2 : h.2.1 ≤ h2.2.1 := lh2.2.1
          have hmo := mo_X0_inside_86 (mo_X0_inside_26 n26)  h2 x0 x1 x2 x4 x5 y0 y1 y2 y3 y4 r3 _ hm
          have sh2 : h2.1 ≤ u9.1 := hmo.1
          have th2 : h2.2.1 ≤ u9.2.1 := hmo.2.1
          refine cg_calll hw lh2 (runV20 (As := []) (rest := [.long y4, .long y3, .long y2, .long y1, .ref y0]) ⟨hx, hb, hml, hown, hts⟩ (w_X6_over l er3) (cw_X6_over hts q945 ⟨Nat.le_of_ble_eq_true rfl, Nat.le_of_ble_eq_true rfl⟩) (Nat.le_of_ble_eq_true rfl) (cg_preV C hw c1 rfl _) rfl rfl hl.1 rfl (lv_room20 (Nat.le_of_ble_eq_true rfl)) dX0_inside_83 ⟨show cc + (h2.1 - h.1) ≤ u9.1 - u.1 by omega, show ss + (h2.2.1 - h.2.1) ≤ u9.2.1 - u.2.1 by omega⟩) (fun H locs hw => ?_)
          exact hB86 h2 x0 x1 x2 x4 x5 y0 y1 y2 y3 y4 r3 _ _ _ _ _ hm hw (by omega) (by omega) (lv_sub hl [0, 1, 2, 3, 4] rfl)
        · have hm := ifF hm c1
          obtain ⟨g4, hm⟩ := gdE hm
          obtain ⟨r6, h5, er6, hm⟩ := bd2E hm
          have lh5 := mo_X7_over er6
          have ph5 : h.1 ≤ h5.1 := lh5.1
          have qh5 : h.2.1 ≤ h5.2.1 := lh5.2.1
          have hmo := mo_X0_inside_86 (mo_X0_inside_26 n26)  h5 x0 x1 x2 x4 x5 y0 y1 y2 y3 y4 r6 _ hm
          have sh5 : h5.1 ≤ u9.1 := hmo.1
          have th5 : h5.2.1 ≤ u9.2.1 := hmo.2.1
          refine cg_calll hw lh5 (runU20 (As := []) (rest := [.long y4, .long y3, .long y2, .long y1, .ref y0]) ⟨hx, hb, hml, hown, hts⟩ (w_X7_over l er6) (va_cwO 0 hts (lwO q945 q948 q946 q949 q950 q144 q951) rfl rfl rfl q952 (by decide +kernel) ⟨Nat.le_of_ble_eq_true rfl, Nat.le_of_ble_eq_true rfl⟩) (Nat.le_of_ble_eq_true rfl) (cg_preV C hw g4 rfl _) rfl rfl hl.1 rfl (lv_room20 (Nat.le_of_ble_eq_true rfl)) dX0_inside_83 ⟨show cc + (h5.1 - h.1) ≤ u9.1 - u.1 by omega, show ss + (h5.2.1 - h.2.1) ≤ u9.2.1 - u.2.1 by omega⟩) (fun H locs hw => ?_)
          exact hB86 h5 x0 x1 x2 x4 x5 y0 y1 y2 y3 y4 r6 _ _ _ _ _ hm hw (by omega) (by omega) (lv_sub hl [0, 1, 2, 3, 4] rfl)
      have hB48 : ∀ (h : CH) (x0 : Nat) (x1 : Int32) (x2 : Int32) (x4 : Nat) (x5 : Int32) (y0 : Nat) (y1 : Int64) (cc ss : Nat) (H : Heap) (locs : List Loc) (ls : Array Slot), m_X0_inside_48 f (m_X0_inside_26 f n26) h x0 x1 x2 x4 x5 y0 y1 = some (r0, u9) → CW D dA A s h H locs → cc + u.1 = h.1 → ss + u.2.1 = h.2.1 → lv_has ls 6 [(0, .ref x0), (1, .int x1), (2, .int x2), (4, .ref x4), (5, .int x5)] → W p l e (rm_X0_inside (u9.1 - u.1) (u9.2.1 - u.2.1)) s m args below meth c H locs cc ss QQ (F0 m 48 ls [.long y1, .ref y0]) := by
        intro h x0 x1 x2 x4 x5 y0 y1 cc ss H locs ls hm hw hcc hss hl
        have hmo := mo_X0_inside_48 (mo_X0_inside_26 n26) h x0 x1 x2 x4 x5 y0 y1 _ hm
        have sb_ : h.1 ≤ u9.1 := hmo.1
        have tb_ : h.2.1 ≤ u9.2.1 := hmo.2.1
        rw [m_X0_inside_48] at hm
        refine lv_aload hx hb dX0_inside_48 (lv_at hl 3 rfl) ?_
        obtain ⟨a1, ea1, hm⟩ := bdE hm
        refine cg_getN C hw (by decide) (oR_E ea1) rfl in_X2 (by decide) (hw.2.2.2.2.1 _ (List.mem_of_getElem? (i := 12) rfl)) dX0_inside_50 ?_
        refine lv_iload hx hb dX0_inside_53 (lv_at hl 4 rfl) ?_
        obtain ⟨a2, ea2, hm⟩ := bdE hm
        refine cg_aaldA C hw (ty := .array .long) rfl rfl (aR_E ea2) dX0_inside_55 ?_
        refine lv_iconst (v := 0) hx hb dX0_inside_56 (by decide) ?_
        obtain ⟨v3, ev3, hm⟩ := bdE hm
        refine cg_lald C hw ev3 dX0_inside_57 ?_
        refine lv_aload hx hb dX0_inside_58 (lv_at hl 3 rfl) ?_
        obtain ⟨a4, ea4, hm⟩ := bdE hm
        refine cg_getN C hw (by decide) (oR_E ea4) rfl in_X2 (by decide) (hw.2.2.2.2.1 _ (List.mem_of_getElem? (i := 12) rfl)) dX0_inside_60 ?_
        refine lv_iload hx hb dX0_inside_63 (lv_at hl 4 rfl) ?_
        obtain ⟨a5, ea5, hm⟩ := bdE hm
        refine cg_aaldA C hw (ty := .array .long) rfl rfl (aR_E ea5) dX0_inside_65 ?_
        refine lv_iconst (v := 1) hx hb dX0_inside_66 (by decide) ?_
        obtain ⟨v6, ev6, hm⟩ := bdE hm
        refine cg_lald C hw ev6 dX0_inside_67 ?_
        refine lv_aload hx hb dX0_inside_68 (lv_at hl 3 rfl) ?_
        obtain ⟨a7, ea7, hm⟩ := bdE hm
        refine cg_getN C hw (by decide) (oR_E ea7) rfl in_X2 (by decide) (hw.2.2.2.2.1 _ (List.mem_of_getElem? (i := 12) rfl)) dX0_inside_70 ?_
        refine lv_iload hx hb dX0_inside_73 (lv_at hl 4 rfl) ?_
        obtain ⟨a8, ea8, hm⟩ := bdE hm
        refine cg_aaldA C hw (ty := .array .long) rfl rfl (aR_E ea8) dX0_inside_75 ?_
        refine lv_iconst (v := 2) hx hb dX0_inside_76 (by decide) ?_
        obtain ⟨v9, ev9, hm⟩ := bdE hm
        refine cg_lald C hw ev9 dX0_inside_77 ?_
        refine lv_aload_n hx hb dX0_inside_78 rfl (lv_at hl 0 rfl) ?_
        refine lv_iload_n hx hb dX0_inside_79 rfl (lv_at hl 1 rfl) ?_
        obtain ⟨g10, hm⟩ := gdE hm
        obtain ⟨a12, h11, ea12, hm⟩ := bd2E hm
        have lh11 := mo_X0_at ea12
        have ph11 : h.1 ≤ h11.1 := lh11.1
        have qh11 : h.2.1 ≤ h11.2.1 := lh11.2.1
        have hmo := mo_X0_inside_83 (mo_X0_inside_26 n26)  h11 x0 x1 x2 x4 x5 y0 y1 v3 v6 v9 a12 _ hm
        have sh11 : h11.1 ≤ u9.1 := hmo.1
        have th11 : h11.2.1 ≤ u9.2.1 := hmo.2.1
        refine cg_callr hw lh11 (runV20 (As := [.int x1]) (rest := [.long v9, .long v6, .long v3, .long y1, .ref y0]) ⟨hx, hb, hml, hown, hts⟩ (w_X0_at l ea12) (cw_X0_at hts q900 ⟨Nat.le_of_ble_eq_true rfl, Nat.le_of_ble_eq_true rfl⟩) (Nat.le_of_ble_eq_true rfl) (cg_preV C hw g10 rfl _) rfl rfl hl.1 rfl (lv_room20 (Nat.le_of_ble_eq_true rfl)) dX0_inside_80 ⟨show cc + (h11.1 - h.1) ≤ u9.1 - u.1 by omega, show ss + (h11.2.1 - h.2.1) ≤ u9.2.1 - u.2.1 by omega⟩) (fun H locs hw => ?_)
        exact hB83 h11 x0 x1 x2 x4 x5 y0 y1 v3 v6 v9 a12 _ _ _ _ _ hm hw (by omega) (by omega) (lv_sub hl [0, 1, 2, 3, 4] rfl)
      have hB45 : ∀ (h : CH) (x0 : Nat) (x1 : Int32) (x2 : Int32) (x4 : Nat) (x5 : Int32) (y0 : Nat) (y1 : Nat) (cc ss : Nat) (H : Heap) (locs : List Loc) (ls : Array Slot), m_X0_inside_45 f (m_X0_inside_26 f n26) h x0 x1 x2 x4 x5 y0 y1 = some (r0, u9) → CW D dA A s h H locs → cc + u.1 = h.1 → ss + u.2.1 = h.2.1 → lv_has ls 6 [(0, .ref x0), (1, .int x1), (2, .int x2), (4, .ref x4), (5, .int x5)] → W p l e (rm_X0_inside (u9.1 - u.1) (u9.2.1 - u.2.1)) s m args below meth c H locs cc ss QQ (F0 m 45 ls [.ref y1, .ref y0]) := by
        intro h x0 x1 x2 x4 x5 y0 y1 cc ss H locs ls hm hw hcc hss hl
        have hmo := mo_X0_inside_45 (mo_X0_inside_26 n26) h x0 x1 x2 x4 x5 y0 y1 _ hm
        have sb_ : h.1 ≤ u9.1 := hmo.1
        have tb_ : h.2.1 ≤ u9.2.1 := hmo.2.1
        rw [m_X0_inside_45] at hm
        by_cases c1 : isC h y1 6 = true
        · have hm := ifT hm c1
          obtain ⟨r3, h2, er3, hm⟩ := bd2E hm
          have lh2 := mo_X6_over er3
          have ph2 : h.1 ≤ h2.1 := lh2.1
          have qh2 : h.2.1 ≤ h2.2.1 := lh2.2.1
          have hmo := mo_X0_inside_48 (mo_X0_inside_26 n26)  h2 x0 x1 x2 x4 x5 y0 r3 _ hm
          have sh2 : h2.1 ≤ u9.1 := hmo.1
          have th2 : h2.2.1 ≤ u9.2.1 := hmo.2.1
          refine cg_calll hw lh2 (va_runV (As := []) (rest := [.ref y0]) ⟨hx, hb, hml, hown, hts⟩ (w_X6_over l er3) (cw_X6_over hts q945 ⟨Nat.le_of_ble_eq_true rfl, Nat.le_of_ble_eq_true rfl⟩) (cg_preV C hw c1 rfl _) rfl rfl hl.1 rfl (lv_room (Nat.le_of_ble_eq_true rfl)) dX0_inside_45 ⟨show cc + (h2.1 - h.1) ≤ u9.1 - u.1 by omega, show ss + (h2.2.1 - h.2.1) ≤ u9.2.1 - u.2.1 by omega⟩) (fun H locs hw => ?_)
          exact hB48 h2 x0 x1 x2 x4 x5 y0 r3 _ _ _ _ _ hm hw (by omega) (by omega) (lv_sub hl [0, 1, 2, 3, 4] rfl)
        · have hm := ifF hm c1
          obtain ⟨g4, hm⟩ := gdE hm
          obtain ⟨r6, h5, er6, hm⟩ := bd2E hm
          have lh5 := mo_X7_over er6
          have ph5 : h.1 ≤ h5.1 := lh5.1
          have qh5 : h.2.1 ≤ h5.2.1 := lh5.2.1
          have hmo := mo_X0_inside_48 (mo_X0_inside_26 n26)  h5 x0 x1 x2 x4 x5 y0 r6 _ hm
          have sh5 : h5.1 ≤ u9.1 := hmo.1
          have th5 : h5.2.1 ≤ u9.2.1 := hmo.2.1
          refine cg_calll hw lh5 (va_runU (As := []) (rest := [.ref y0]) ⟨hx, hb, hml, hown, hts⟩ (w_X7_over l er6) (va_cwO 0 hts (lwO q945 q948 q946 q949 q950 q144 q951) rfl rfl rfl q952 (by decide +kernel) ⟨Nat.le_of_ble_eq_true rfl, Nat.le_of_ble_eq_true rfl⟩) (cg_preV C hw g4 rfl _) rfl rfl hl.1 rfl (lv_room (Nat.le_of_ble_eq_true rfl)) dX0_inside_45 ⟨show cc + (h5.1 - h.1) ≤ u9.1 - u.1 by omega, show ss + (h5.2.1 - h.2.1) ≤ u9.2.1 - u.2.1 by omega⟩) (fun H locs hw => ?_)
          exact hB48 h5 x0 x1 x2 x4 x5 y0 r6 _ _ _ _ _ hm hw (by omega) (by omega) (lv_sub hl [0, 1, 2, 3, 4] rfl)
      have hB40 : ∀ (h : CH) (x0 : Nat) (x1 : Int32) (x2 : Int32) (x4 : Nat) (x5 : Int32) (y0 : Nat) (cc ss : Nat) (H : Heap) (locs : List Loc) (ls : Array Slot), m_X0_inside_40 f (m_X0_inside_26 f n26) h x0 x1 x2 x4 x5 y0 = some (r0, u9) → CW D dA A s h H locs → cc + u.1 = h.1 → ss + u.2.1 = h.2.1 → lv_has ls 6 [(0, .ref x0), (1, .int x1), (2, .int x2), (4, .ref x4), (5, .int x5)] → W p l e (rm_X0_inside (u9.1 - u.1) (u9.2.1 - u.2.1)) s m args below meth c H locs cc ss QQ (F0 m 40 ls [.ref y0]) := by
        intro h x0 x1 x2 x4 x5 y0 cc ss H locs ls hm hw hcc hss hl
        have hmo := mo_X0_inside_40 (mo_X0_inside_26 n26) h x0 x1 x2 x4 x5 y0 _ hm
        have sb_ : h.1 ≤ u9.1 := hmo.1
        have tb_ : h.2.1 ≤ u9.2.1 := hmo.2.1
        rw [m_X0_inside_40] at hm
        refine lv_aload_n hx hb dX0_inside_40 rfl (lv_at hl 0 rfl) ?_
        refine lv_iload_n hx hb dX0_inside_41 rfl (lv_at hl 2 rfl) ?_
        obtain ⟨g1, hm⟩ := gdE hm
        obtain ⟨a3, h2, ea3, hm⟩ := bd2E hm
        have lh2 := mo_X0_at ea3
        have ph2 : h.1 ≤ h2.1 := lh2.1
        have qh2 : h.2.1 ≤ h2.2.1 := lh2.2.1
        have hmo := mo_X0_inside_45 (mo_X0_inside_26 n26)  h2 x0 x1 x2 x4 x5 y0 a3 _ hm
        have sh2 : h2.1 ≤ u9.1 := hmo.1
        have th2 : h2.2.1 ≤ u9.2.1 := hmo.2.1
        refine cg_callr hw lh2 (va_runV (As := [.int x2]) (rest := [.ref y0]) ⟨hx, hb, hml, hown, hts⟩ (w_X0_at l ea3) (cw_X0_at hts q900 ⟨Nat.le_of_ble_eq_true rfl, Nat.le_of_ble_eq_true rfl⟩) (cg_preV C hw g1 rfl _) rfl rfl hl.1 rfl (lv_room (Nat.le_of_ble_eq_true rfl)) dX0_inside_42 ⟨show cc + (h2.1 - h.1) ≤ u9.1 - u.1 by omega, show ss + (h2.2.1 - h.2.1) ≤ u9.2.1 - u.2.1 by omega⟩) (fun H locs hw => ?_)
        exact hB45 h2 x0 x1 x2 x4 x5 y0 a3 _ _ _ _ _ hm hw (by omega) (by omega) (lv_sub hl [0, 1, 2, 3, 4] rfl)
      have hB37 : ∀ (h : CH) (x0 : Nat) (x1 : Int32) (x2 : Int32) (x4 : Nat) (x5 : Int32) (y0 : Nat) (cc ss : Nat) (H : Heap) (locs : List Loc) (ls : Array Slot), m_X0_inside_37 f (m_X0_inside_26 f n26) h x0 x1 x2 x4 x5 y0 = some (r0, u9) → CW D dA A s h H locs → cc + u.1 = h.1 → ss + u.2.1 = h.2.1 → lv_has ls 6 [(0, .ref x0), (1, .int x1), (2, .int x2), (4, .ref x4), (5, .int x5)] → W p l e (rm_X0_inside (u9.1 - u.1) (u9.2.1 - u.2.1)) s m args below meth c H locs cc ss QQ (F0 m 37 ls [.ref y0]) := by
        intro h x0 x1 x2 x4 x5 y0 cc ss H locs ls hm hw hcc hss hl
        have hmo := mo_X0_inside_37 (mo_X0_inside_26 n26) h x0 x1 x2 x4 x5 y0 _ hm
        have sb_ : h.1 ≤ u9.1 := hmo.1
        have tb_ : h.2.1 ≤ u9.2.1 := hmo.2.1
        rw [m_X0_inside_37] at hm
        by_cases c1 : isC h y0 6 = true
        · have hm := ifT hm c1
          obtain ⟨a3, h2, ea3, hm⟩ := bd2E hm
          have lh2 := mo_X6_rows ea3
          have ph2 : h.1 ≤ h2.1 := lh2.1
          have qh2 : h.2.1 ≤ h2.2.1 := lh2.2.1
          have hmo := mo_X0_inside_40 (mo_X0_inside_26 n26)  h2 x0 x1 x2 x4 x5 a3 _ hm
          have sh2 : h2.1 ≤ u9.1 := hmo.1
          have th2 : h2.2.1 ≤ u9.2.1 := hmo.2.1
          refine cg_callr hw lh2 (va_runV (As := []) (rest := []) ⟨hx, hb, hml, hown, hts⟩ (w_X6_rows l ea3) (cw_X6_rows hts q904 ⟨Nat.le_of_ble_eq_true rfl, Nat.le_of_ble_eq_true rfl⟩) (cg_preV C hw c1 rfl _) rfl rfl hl.1 rfl (lv_room (Nat.le_of_ble_eq_true rfl)) dX0_inside_37 ⟨show cc + (h2.1 - h.1) ≤ u9.1 - u.1 by omega, show ss + (h2.2.1 - h.2.1) ≤ u9.2.1 - u.2.1 by omega⟩) (fun H locs hw => ?_)
          exact hB40 h2 x0 x1 x2 x4 x5 a3 _ _ _ _ _ hm hw (by omega) (by omega) (lv_sub hl [0, 1, 2, 3, 4] rfl)
        · have hm := ifF hm c1
          obtain ⟨g4, hm⟩ := gdE hm
          obtain ⟨a6, h5, ea6, hm⟩ := bd2E hm
          have lh5 := mo_X7_rows ea6
          have ph5 : h.1 ≤ h5.1 := lh5.1
          have qh5 : h.2.1 ≤ h5.2.1 := lh5.2.1
          have hmo := mo_X0_inside_40 (mo_X0_inside_26 n26)  h5 x0 x1 x2 x4 x5 a6 _ hm
          have sh5 : h5.1 ≤ u9.1 := hmo.1
          have th5 : h5.2.1 ≤ u9.2.1 := hmo.2.1
          refine cg_callr hw lh5 (va_runU (As := []) (rest := []) ⟨hx, hb, hml, hown, hts⟩ (w_X7_rows l ea6) (va_cwO 0 hts (lwO q904 q907 q905 q908 q909 q144 q910) rfl rfl rfl q940 (by decide +kernel) ⟨Nat.le_of_ble_eq_true rfl, Nat.le_of_ble_eq_true rfl⟩) (cg_preV C hw g4 rfl _) rfl rfl hl.1 rfl (lv_room (Nat.le_of_ble_eq_true rfl)) dX0_inside_37 ⟨show cc + (h5.1 - h.1) ≤ u9.1 - u.1 by omega, show ss + (h5.2.1 - h.2.1) ≤ u9.2.1 - u.2.1 by omega⟩) (fun H locs hw => ?_)
          exact hB40 h5 x0 x1 x2 x4 x5 a6 _ _ _ _ _ hm hw (by omega) (by omega) (lv_sub hl [0, 1, 2, 3, 4] rfl)
      intro h x0 x1 x2 x4 x5 cc ss H locs ls hm hw hcc hss hl
      have hmo := mo_X0_inside_26  (n26 + 1) h x0 x1 x2 x4 x5 _ hm
      have sb_ : h.1 ≤ u9.1 := hmo.1
      have tb_ : h.2.1 ≤ u9.2.1 := hmo.2.1
      rw [m_X0_inside_26] at hm
      refine lv_iload hx hb dX0_inside_26 (lv_at hl 4 rfl) ?_
      refine lv_iconst (v := 3) hx hb dX0_inside_28 (by decide) ?_
      refine lv_icmp_ge (tgt := 100) hx hb dX0_inside_29 (by decide) (fun c1 => ?_) (fun c1 => ?_)
      · have hm := ifT hm c1
        exact hB100 h _ _ _ _ _ hm hw (by omega) (by omega) (lv_sub hl [] rfl)
      · have hm := ifF hm c1
        refine lv_aload_n hx hb dX0_inside_32 rfl (lv_at hl 0 rfl) ?_
        refine lv_iload_n hx hb dX0_inside_33 rfl (lv_at hl 2 rfl) ?_
        obtain ⟨g2, hm⟩ := gdE hm
        obtain ⟨a4, h3, ea4, hm⟩ := bd2E hm
        have lh3 := mo_X0_at ea4
        have ph3 : h.1 ≤ h3.1 := lh3.1
        have qh3 : h.2.1 ≤ h3.2.1 := lh3.2.1
        have hmo := mo_X0_inside_37 (mo_X0_inside_26 n26)  h3 x0 x1 x2 x4 x5 a4 _ hm
        have sh3 : h3.1 ≤ u9.1 := hmo.1
        have th3 : h3.2.1 ≤ u9.2.1 := hmo.2.1
        refine cg_callr hw lh3 (va_runV (As := [.int x2]) (rest := []) ⟨hx, hb, hml, hown, hts⟩ (w_X0_at l ea4) (cw_X0_at hts q900 ⟨Nat.le_of_ble_eq_true rfl, Nat.le_of_ble_eq_true rfl⟩) (cg_preV C hw g2 rfl _) rfl rfl hl.1 rfl (lv_room (Nat.le_of_ble_eq_true rfl)) dX0_inside_34 ⟨show cc + (h3.1 - h.1) ≤ u9.1 - u.1 by omega, show ss + (h3.2.1 - h.2.1) ≤ u9.2.1 - u.2.1 by omega⟩) (fun H locs hw => ?_)
        exact hB37 h3 x0 x1 x2 x4 x5 a4 _ _ _ _ _ hm hw (by omega) (by omega) (lv_sub hl [0, 1, 2, 3, 4] rfl)
  have hB21 : ∀ (h : CH) (x0 : Nat) (x1 : Int32) (x2 : Int32) (y0 : Nat) (cc ss : Nat) (H : Heap) (locs : List Loc) (ls : Array Slot), m_X0_inside_21 f h x0 x1 x2 y0 = some (r0, u9) → CW D dA A s h H locs → cc + u.1 = h.1 → ss + u.2.1 = h.2.1 → lv_has ls 6 [(0, .ref x0), (1, .int x1), (2, .int x2)] → W p l e (rm_X0_inside (u9.1 - u.1) (u9.2.1 - u.2.1)) s m args below meth c H locs cc ss QQ (F0 m 21 ls [.ref y0]) := by
    intro h x0 x1 x2 y0 cc ss H locs ls hm hw hcc hss hl
    have hmo := mo_X0_inside_21  h x0 x1 x2 y0 _ hm
    have sb_ : h.1 ≤ u9.1 := hmo.1
    have tb_ : h.2.1 ≤ u9.2.1 := hmo.2.1
    rw [m_X0_inside_21] at hm
    refine lv_astore (lv' := [(4, .ref y0), (0, .ref x0), (1, .int x1), (2, .int x2)]) hx hb dX0_inside_21 hl (by decide) rfl (fun ls hl => ?_)
    refine lv_iconst (v := 0) hx hb dX0_inside_23 (by decide) ?_
    refine lv_istore (lv' := [(5, .int (0 : Int32)), (4, .ref y0), (0, .ref x0), (1, .int x1), (2, .int x2)]) hx hb dX0_inside_24 hl (by decide) rfl (fun ls hl => ?_)
    exact hB26 f h x0 x1 x2 y0 (0 : Int32) _ _ _ _ _ hm hw (by omega) (by omega) (lv_sub hl [2, 3, 4, 1, 0] rfl)
  have hB18 : ∀ (h : CH) (x0 : Nat) (x1 : Int32) (x2 : Int32) (y0 : Nat) (cc ss : Nat) (H : Heap) (locs : List Loc) (ls : Array Slot), m_X0_inside_18 f h x0 x1 x2 y0 = some (r0, u9) → CW D dA A s h H locs → cc + u.1 = h.1 → ss + u.2.1 = h.2.1 → lv_has ls 6 [(0, .ref x0), (1, .int x1), (2, .int x2)] → W p l e (rm_X0_inside (u9.1 - u.1) (u9.2.1 - u.2.1)) s m args below meth c H locs cc ss QQ (F0 m 18 ls [.ref y0]) := by
    intro h x0 x1 x2 y0 cc ss H locs ls hm hw hcc hss hl
    have hmo := mo_X0_inside_18  h x0 x1 x2 y0 _ hm
    have sb_ : h.1 ≤ u9.1 := hmo.1
    have tb_ : h.2.1 ≤ u9.2.1 := hmo.2.1
    rw [m_X0_inside_18] at hm
    by_cases c1 : isC h y0 6 = true
    · have hm := ifT hm c1
      obtain ⟨a3, h2, ea3, hm⟩ := bd2E hm
      have lh2 := mo_X6_rows ea3
      have ph2 : h.1 ≤ h2.1 := lh2.1
      have qh2 : h.2.1 ≤ h2.2.1 := lh2.2.1
      have hmo := mo_X0_inside_21   h2 x0 x1 x2 a3 _ hm
      have sh2 : h2.1 ≤ u9.1 := hmo.1
      have th2 : h2.2.1 ≤ u9.2.1 := hmo.2.1
      refine cg_callr hw lh2 (va_runV (As := []) (rest := []) ⟨hx, hb, hml, hown, hts⟩ (w_X6_rows l ea3) (cw_X6_rows hts q904 ⟨Nat.le_of_ble_eq_true rfl, Nat.le_of_ble_eq_true rfl⟩) (cg_preV C hw c1 rfl _) rfl rfl hl.1 rfl (lv_room (Nat.le_of_ble_eq_true rfl)) dX0_inside_18 ⟨show cc + (h2.1 - h.1) ≤ u9.1 - u.1 by omega, show ss + (h2.2.1 - h.2.1) ≤ u9.2.1 - u.2.1 by omega⟩) (fun H locs hw => ?_)
      exact hB21 h2 x0 x1 x2 a3 _ _ _ _ _ hm hw (by omega) (by omega) (lv_sub hl [0, 1, 2] rfl)
    · have hm := ifF hm c1
      obtain ⟨g4, hm⟩ := gdE hm
      obtain ⟨a6, h5, ea6, hm⟩ := bd2E hm
      have lh5 := mo_X7_rows ea6
      have ph5 : h.1 ≤ h5.1 := lh5.1
      have qh5 : h.2.1 ≤ h5.2.1 := lh5.2.1
      have hmo := mo_X0_inside_21   h5 x0 x1 x2 a6 _ hm
      have sh5 : h5.1 ≤ u9.1 := hmo.1
      have th5 : h5.2.1 ≤ u9.2.1 := hmo.2.1
      refine cg_callr hw lh5 (va_runU (As := []) (rest := []) ⟨hx, hb, hml, hown, hts⟩ (w_X7_rows l ea6) (va_cwO 0 hts (lwO q904 q907 q905 q908 q909 q144 q910) rfl rfl rfl q940 (by decide +kernel) ⟨Nat.le_of_ble_eq_true rfl, Nat.le_of_ble_eq_true rfl⟩) (cg_preV C hw g4 rfl _) rfl rfl hl.1 rfl (lv_room (Nat.le_of_ble_eq_true rfl)) dX0_inside_18 ⟨show cc + (h5.1 - h.1) ≤ u9.1 - u.1 by omega, show ss + (h5.2.1 - h.2.1) ≤ u9.2.1 - u.2.1 by omega⟩) (fun H locs hw => ?_)
      exact hB21 h5 x0 x1 x2 a6 _ _ _ _ _ hm hw (by omega) (by omega) (lv_sub hl [0, 1, 2] rfl)
  have hB6 : ∀ (h : CH) (x0 : Nat) (x1 : Int32) (x2 : Int32) (y0 : Int32) (cc ss : Nat) (H : Heap) (locs : List Loc) (ls : Array Slot), m_X0_inside_6 f h x0 x1 x2 y0 = some (r0, u9) → CW D dA A s h H locs → cc + u.1 = h.1 → ss + u.2.1 = h.2.1 → lv_has ls 6 [(0, .ref x0), (1, .int x1), (2, .int x2)] → W p l e (rm_X0_inside (u9.1 - u.1) (u9.2.1 - u.2.1)) s m args below meth c H locs cc ss QQ (F0 m 6 ls [.int y0]) := by
    intro h x0 x1 x2 y0 cc ss H locs ls hm hw hcc hss hl
    have hmo := mo_X0_inside_6  h x0 x1 x2 y0 _ hm
    have sb_ : h.1 ≤ u9.1 := hmo.1
    have tb_ : h.2.1 ≤ u9.2.1 := hmo.2.1
    rw [m_X0_inside_6] at hm
    refine lv_istore_n (lv' := [(3, .int y0), (0, .ref x0), (1, .int x1), (2, .int x2)]) hx hb dX0_inside_6 rfl hl (by decide) rfl (fun ls hl => ?_)
    refine lv_iload_n hx hb dX0_inside_7 rfl (lv_at hl 0 rfl) ?_
    refine lv_if_ge (tgt := 13) hx hb dX0_inside_8 (by decide) (fun c1 => ?_) (fun c1 => ?_)
    · have hm := ifT hm c1
      refine lv_aload_n hx hb dX0_inside_13 rfl (lv_at hl 1 rfl) ?_
      refine lv_iload_n hx hb dX0_inside_14 rfl (lv_at hl 2 rfl) ?_
      obtain ⟨g2, hm⟩ := gdE hm
      obtain ⟨a4, h3, ea4, hm⟩ := bd2E hm
      have lh3 := mo_X0_at ea4
      have ph3 : h.1 ≤ h3.1 := lh3.1
      have qh3 : h.2.1 ≤ h3.2.1 := lh3.2.1
      have hmo := mo_X0_inside_18   h3 x0 x1 x2 a4 _ hm
      have sh3 : h3.1 ≤ u9.1 := hmo.1
      have th3 : h3.2.1 ≤ u9.2.1 := hmo.2.1
      refine cg_callr hw lh3 (va_runV (As := [.int x1]) (rest := []) ⟨hx, hb, hml, hown, hts⟩ (w_X0_at l ea4) (cw_X0_at hts q900 ⟨Nat.le_of_ble_eq_true rfl, Nat.le_of_ble_eq_true rfl⟩) (cg_preV C hw g2 rfl _) rfl rfl hl.1 rfl (lv_room (Nat.le_of_ble_eq_true rfl)) dX0_inside_15 ⟨show cc + (h3.1 - h.1) ≤ u9.1 - u.1 by omega, show ss + (h3.2.1 - h.2.1) ≤ u9.2.1 - u.2.1 by omega⟩) (fun H locs hw => ?_)
      exact hB18 h3 x0 x1 x2 a4 _ _ _ _ _ hm hw (by omega) (by omega) (lv_sub hl [1, 2, 3] rfl)
    · have hm := ifF hm c1
      refine lv_iload_n hx hb dX0_inside_11 rfl (lv_at hl 0 rfl) ?_
      obtain ⟨er, eh⟩ := retE hm
      have ec : cc = u9.1 - u.1 := by rw [← eh]; omega
      have es : ss = u9.2.1 - u.2.1 := by rw [← eh]; omega
      rw [ec, es, ← hQ]
      exact W.iret (v := y0) hx hb hr (fun t ht hW => ⟨⟨y0, h, rfl, ⟨er, eh⟩, ⟨by rw [ht]; exact hw.1, by rw [ht]; exact hw.2.1⟩⟩, hw.2.2.1.F ht⟩) hw.2.2.1.2.2 dX0_inside_12
  rw [m_X0_inside] at hm
  refine lv_aload_n hx hb dX0_inside_0 rfl (lv_at hl 0 rfl) ?_
  refine lv_iload_n hx hb dX0_inside_1 rfl (lv_at hl 1 rfl) ?_
  refine lv_iload_n hx hb dX0_inside_2 rfl (lv_at hl 2 rfl) ?_
  obtain ⟨g1, hm⟩ := gdE hm
  obtain ⟨r3, h2, er3, hm⟩ := bd2E hm
  have lh2 := mo_X0_asks er3
  have ph2 : u.1 ≤ h2.1 := lh2.1
  have qh2 : u.2.1 ≤ h2.2.1 := lh2.2.1
  have hmo := mo_X0_inside_6   h2 x0 x1 x2 r3 _ hm
  have sh2 : h2.1 ≤ u9.1 := hmo.1
  have th2 : h2.2.1 ≤ u9.2.1 := hmo.2.1
  refine cg_calli hw lh2 (va_runV (As := [.int x1, .int x2]) (rest := []) ⟨hx, hb, hml, hown, hts⟩ (w_X0_asks l er3) (cw_X0_asks hts q1096 ⟨Nat.le_of_ble_eq_true rfl, Nat.le_of_ble_eq_true rfl⟩) (cg_preV C hw g1 rfl _) rfl rfl hl.1 rfl (lv_room (Nat.le_of_ble_eq_true rfl)) dX0_inside_3 ⟨show cc + (h2.1 - u.1) ≤ u9.1 - u.1 by omega, show ss + (h2.2.1 - u.2.1) ≤ u9.2.1 - u.2.1 by omega⟩) (fun H locs hw => ?_)
  exact hB6 h2 x0 x1 x2 r3 _ _ _ _ _ hm hw (by omega) (by omega) (lv_sub hl [0, 1, 2] rfl)
def m_X0_overBoth_16 (f : Nat) (h : CH) (y0 : Int64) (y1 : Int64) : Option (Int64 × CH) := bd (m_X0_multiple f y0 y1) fun r1 =>
    some (r1, h)
theorem mo_X0_overBoth_16 {f : Nat} : ∀ (h : CH) (y0 : Int64) (y1 : Int64) (r : (Int64 × CH)), m_X0_overBoth_16 f h y0 y1 = some r → le2 h r.2 := by
  intro h y0 y1 r hm
  rw [m_X0_overBoth_16] at hm
  obtain ⟨r1, er1, hm⟩ := bdE hm
  cases hm
  exact le2.rf
def m_X0_overBoth_13 (f : Nat) (h : CH) (y0 : Int64) (y1 : Nat) : Option (Int64 × CH) := if isC h y1 6 = true then
    bd2 (m_X6_over f h y1) fun r3 h2 =>
    m_X0_overBoth_16 f h2 y0 r3
    else gd (isC h y1 7) <|
    bd2 (m_X7_over f h y1) fun r6 h5 =>
    m_X0_overBoth_16 f h5 y0 r6
theorem mo_X0_overBoth_13 {f : Nat} : ∀ (h : CH) (y0 : Int64) (y1 : Nat) (r : (Int64 × CH)), m_X0_overBoth_13 f h y0 y1 = some r → le2 h r.2 := by
  intro h y0 y1 r hm
  rw [m_X0_overBoth_13] at hm
  by_cases c1 : isC h y1 6 = true
  · have hm := ifT hm c1
    obtain ⟨r3, h2, er3, hm⟩ := bd2E hm
    have lh2 := mo_X6_over er3
    exact (lh2.tr (mo_X0_overBoth_16  h2 y0 r3 _ hm))
  · have hm := ifF hm c1
    obtain ⟨g4, hm⟩ := gdE hm
    obtain ⟨r6, h5, er6, hm⟩ := bd2E hm
    have lh5 := mo_X7_over er6
    exact (lh5.tr (mo_X0_overBoth_16  h5 y0 r6 _ hm))
def m_X0_overBoth_8 (f : Nat) (h : CH) (x0 : Nat) (x2 : Int32) (y0 : Int64) : Option (Int64 × CH) := gd (isC h x0 1) <|
    bd2 (m_X0_at f h x0 x2) fun a3 h2 =>
    m_X0_overBoth_13 f h2 y0 a3
theorem mo_X0_overBoth_8 {f : Nat} : ∀ (h : CH) (x0 : Nat) (x2 : Int32) (y0 : Int64) (r : (Int64 × CH)), m_X0_overBoth_8 f h x0 x2 y0 = some r → le2 h r.2 := by
  intro h x0 x2 y0 r hm
  rw [m_X0_overBoth_8] at hm
  obtain ⟨g1, hm⟩ := gdE hm
  obtain ⟨a3, h2, ea3, hm⟩ := bd2E hm
  have lh2 := mo_X0_at ea3
  exact (lh2.tr (mo_X0_overBoth_13  h2 y0 a3 _ hm))
def m_X0_overBoth_5 (f : Nat) (h : CH) (x0 : Nat) (x2 : Int32) (y0 : Nat) : Option (Int64 × CH) := if isC h y0 6 = true then
    bd2 (m_X6_over f h y0) fun r3 h2 =>
    m_X0_overBoth_8 f h2 x0 x2 r3
    else gd (isC h y0 7) <|
    bd2 (m_X7_over f h y0) fun r6 h5 =>
    m_X0_overBoth_8 f h5 x0 x2 r6
theorem mo_X0_overBoth_5 {f : Nat} : ∀ (h : CH) (x0 : Nat) (x2 : Int32) (y0 : Nat) (r : (Int64 × CH)), m_X0_overBoth_5 f h x0 x2 y0 = some r → le2 h r.2 := by
  intro h x0 x2 y0 r hm
  rw [m_X0_overBoth_5] at hm
  by_cases c1 : isC h y0 6 = true
  · have hm := ifT hm c1
    obtain ⟨r3, h2, er3, hm⟩ := bd2E hm
    have lh2 := mo_X6_over er3
    exact (lh2.tr (mo_X0_overBoth_8  h2 x0 x2 r3 _ hm))
  · have hm := ifF hm c1
    obtain ⟨g4, hm⟩ := gdE hm
    obtain ⟨r6, h5, er6, hm⟩ := bd2E hm
    have lh5 := mo_X7_over er6
    exact (lh5.tr (mo_X0_overBoth_8  h5 x0 x2 r6 _ hm))
def m_X0_overBoth (f : Nat) (u : CH) (x0 : Nat) (x1 : Int32) (x2 : Int32) : Option (Int64 × CH) := gd (isC u x0 1) <|
    bd2 (m_X0_at f u x0 x1) fun a3 h2 =>
    m_X0_overBoth_5 f h2 x0 x2 a3
theorem mo_X0_overBoth {f : Nat} {u : CH} {x0 : Nat} {x1 : Int32} {x2 : Int32} {r0 : Int64} {u9 : CH} (hm : m_X0_overBoth f u x0 x1 x2 = some (r0, u9)) : le2 u u9 := by
  rw [m_X0_overBoth] at hm
  obtain ⟨g1, hm⟩ := gdE hm
  obtain ⟨a3, h2, ea3, hm⟩ := bd2E hm
  have lh2 := mo_X0_at ea3
  exact (lh2.tr (mo_X0_overBoth_5  h2 x0 x2 a3 _ hm))
abbrev rm_X0_overBoth (mc ms : Nat) : Room := { frames := 105, cells := mc, slots := ms, locals := 4127 }
theorem cw_X0_overBoth {R : Room} {s : State} {args : Array Value} {own : String} {idx mc ms : Nat} (hts : ∀ w ∈ lw_all, w.before args s = true) (hl : Cond.methodLink own idx yX0_overBoth ∈ lw_all) (hR : 105 + 1 ≤ R.frames ∧ 8 + (3 + 11) + 4127 ≤ R.locals) : CallW R s args own RX0 idx yX0_overBoth cX0_overBoth 3 (Option.some Jvm.ClassFile.FieldType.long) (ws_ yX0_overBoth cX0_overBoth 3 (Option.some Jvm.ClassFile.FieldType.long)) (rm_X0_overBoth mc ms) mc ms 2 := cwV 2 hts (lw_V hl q1110 qs26 q119 q1111) rfl rfl rfl (by decide +kernel) hR
set_option maxHeartbeats 4000000 in
set_option maxRecDepth 100000 in
theorem w_X0_overBoth (l : Launch) {D : va_G} {dA : Nat → ClassId} {A : Nat → Prop} {f : Nat} {u u9 : CH} {r0 : Int64} {x0 : Nat} {x1 : Int32} {x2 : Int32} (hm : m_X0_overBoth f u x0 x1 x2 = some (r0, u9)) : Met l yX0_overBoth (ws_ yX0_overBoth cX0_overBoth 3 (Option.some Jvm.ClassFile.FieldType.long)) (rm_X0_overBoth (u9.1 - u.1) (u9.2.1 - u.2.1)) (va_Pc [.ref x0, .int x1, .int x2] (CPre D dA A u)) (va_Ql (fun r u => r = r0 ∧ u = u9) (CPost D dA A) A) (u9.1 - u.1) (u9.2.1 - u.2.1) A := by
  refine Met.ofW (cc := cX0_overBoth) (maxL := 3) (ret := (Option.some Jvm.ClassFile.FieldType.long)) (by decide) rfl ?_
  intro p e s m args below meth c s₁ B hml hv
  have hx := B.exec
  have hb := B.bytes
  have hr := B.returns
  have hts := atoms_spec (ws := (ws_ yX0_overBoth cX0_overBoth 3 (Option.some Jvm.ClassFile.FieldType.long))) B.pre
  have hts : ∀ w ∈ lw_all, w.before args s = true := fun w h => hts w (List.mem_cons_of_mem _ h)
  have hown : s.vm.findClass RX0 = some m.cls := findClass_of_methodNamed B.named
  have hlocks := B.notSynchronized
  obtain ⟨hav, hv⟩ := hv
  have C : CX p s m args c cX0_overBoth RX0 D dA := ⟨hx, hb, hown, hts, hv.2⟩
  have hw : CW D dA A s u s.heap [] := hv.1
  generalize hQ : MQ below (va_Ql (fun r u => r = r0 ∧ u = u9) (CPost D dA A) A) args s (u9.1 - u.1) (u9.2.1 - u.2.1) A = QQ
  have hent := lg_entry_eq m [.ref x0, .int x1, .int x2] 3
  rw [← hav] at hent
  rw [hent]
  have hl := lv_entry ([.ref x0, .int x1, .int x2]) (n := 3) (Nat.le_of_ble_eq_true rfl)
  generalize (lg_sl ([.ref x0, .int x1, .int x2]) ++ List.replicate (3 - (lg_sl ([.ref x0, .int x1, .int x2])).length) Slot.unset).toArray = ls at hl ⊢
  have hl : lv_has ls 3 [(0, .ref x0), (1, .int x1), (2, .int x2)] := hl
  obtain ⟨cc, ecc⟩ : ∃ z : Nat, z = 0 := ⟨0, rfl⟩
  obtain ⟨ss, ess⟩ : ∃ z : Nat, z = 0 := ⟨0, rfl⟩
  have hcc : cc + u.1 = u.1 := by omega
  have hss : ss + u.2.1 = u.2.1 := by omega
  suffices hgo : W p l e (rm_X0_overBoth (u9.1 - u.1) (u9.2.1 - u.2.1)) s m args below meth c s.heap [] cc ss QQ (F0 m 0 ls []) by rw [ecc, ess] at hgo; exact hgo
  have ⟨pu, qu, _, _⟩ := mo_X0_overBoth hm
  have hB16 : ∀ (h : CH) (y0 : Int64) (y1 : Int64) (cc ss : Nat) (H : Heap) (locs : List Loc) (ls : Array Slot), m_X0_overBoth_16 f h y0 y1 = some (r0, u9) → CW D dA A s h H locs → cc + u.1 = h.1 → ss + u.2.1 = h.2.1 → lv_has ls 3 [] → W p l e (rm_X0_overBoth (u9.1 - u.1) (u9.2.1 - u.2.1)) s m args below meth c H locs cc ss QQ (F0 m 16 ls [.long y1, .long y0]) := by
    intro h y0 y1 cc ss H locs ls hm hw hcc hss hl
    have hmo := mo_X0_overBoth_16  h y0 y1 _ hm
    have sb_ : h.1 ≤ u9.1 := hmo.1
    have tb_ : h.2.1 ≤ u9.2.1 := hmo.2.1
    rw [m_X0_overBoth_16] at hm
    obtain ⟨r1, er1, hm⟩ := bdE hm
    refine scl (va_runS (As := [.long y0, .long y1]) (rest := []) ⟨hx, hb, hml, hown, hts⟩ (w_X0_multiple l er1) (cw_X0_multiple hts q1112 ⟨Nat.le_of_ble_eq_true rfl, Nat.le_of_ble_eq_true rfl⟩) (pre_s _) rfl rfl hl.1 rfl (lv_room (Nat.le_of_ble_eq_true rfl)) dX0_overBoth_16 ⟨show cc + 0 ≤ u9.1 - u.1 by omega, show ss + 0 ≤ u9.2.1 - u.2.1 by omega⟩) ?_
    obtain ⟨er, eh⟩ := retE hm
    have ec : cc = u9.1 - u.1 := by rw [← eh]; omega
    have es : ss = u9.2.1 - u.2.1 := by rw [← eh]; omega
    rw [ec, es, ← hQ]
    exact W.lret (v := r1) hx hb hr (fun t ht hW => ⟨⟨r1, h, rfl, ⟨er, eh⟩, ⟨by rw [ht]; exact hw.1, by rw [ht]; exact hw.2.1⟩⟩, hw.2.2.1.F ht⟩) hw.2.2.1.2.2 dX0_overBoth_19
  have hB13 : ∀ (h : CH) (y0 : Int64) (y1 : Nat) (cc ss : Nat) (H : Heap) (locs : List Loc) (ls : Array Slot), m_X0_overBoth_13 f h y0 y1 = some (r0, u9) → CW D dA A s h H locs → cc + u.1 = h.1 → ss + u.2.1 = h.2.1 → lv_has ls 3 [] → W p l e (rm_X0_overBoth (u9.1 - u.1) (u9.2.1 - u.2.1)) s m args below meth c H locs cc ss QQ (F0 m 13 ls [.ref y1, .long y0]) := by
    intro h y0 y1 cc ss H locs ls hm hw hcc hss hl
    have hmo := mo_X0_overBoth_13  h y0 y1 _ hm
    have sb_ : h.1 ≤ u9.1 := hmo.1
    have tb_ : h.2.1 ≤ u9.2.1 := hmo.2.1
    rw [m_X0_overBoth_13] at hm
    by_cases c1 : isC h y1 6 = true
    · have hm := ifT hm c1
      obtain ⟨r3, h2, er3, hm⟩ := bd2E hm
      have lh2 := mo_X6_over er3
      have ph2 : h.1 ≤ h2.1 := lh2.1
      have qh2 : h.2.1 ≤ h2.2.1 := lh2.2.1
      have hmo := mo_X0_overBoth_16   h2 y0 r3 _ hm
      have sh2 : h2.1 ≤ u9.1 := hmo.1
      have th2 : h2.2.1 ≤ u9.2.1 := hmo.2.1
      refine cg_calll hw lh2 (va_runV (As := []) (rest := [.long y0]) ⟨hx, hb, hml, hown, hts⟩ (w_X6_over l er3) (cw_X6_over hts q945 ⟨Nat.le_of_ble_eq_true rfl, Nat.le_of_ble_eq_true rfl⟩) (cg_preV C hw c1 rfl _) rfl rfl hl.1 rfl (lv_room (Nat.le_of_ble_eq_true rfl)) dX0_overBoth_13 ⟨show cc + (h2.1 - h.1) ≤ u9.1 - u.1 by omega, show ss + (h2.2.1 - h.2.1) ≤ u9.2.1 - u.2.1 by omega⟩) (fun H locs hw => ?_)
      exact hB16 h2 y0 r3 _ _ _ _ _ hm hw (by omega) (by omega) (lv_sub hl [] rfl)
    · have hm := ifF hm c1
      obtain ⟨g4, hm⟩ := gdE hm
      obtain ⟨r6, h5, er6, hm⟩ := bd2E hm
      have lh5 := mo_X7_over er6
      have ph5 : h.1 ≤ h5.1 := lh5.1
      have qh5 : h.2.1 ≤ h5.2.1 := lh5.2.1
      have hmo := mo_X0_overBoth_16   h5 y0 r6 _ hm
      have sh5 : h5.1 ≤ u9.1 := hmo.1
      have th5 : h5.2.1 ≤ u9.2.1 := hmo.2.1
      refine cg_calll hw lh5 (va_runU (As := []) (rest := [.long y0]) ⟨hx, hb, hml, hown, hts⟩ (w_X7_over l er6) (va_cwO 0 hts (lwO q945 q948 q946 q949 q950 q144 q951) rfl rfl rfl q952 (by decide +kernel) ⟨Nat.le_of_ble_eq_true rfl, Nat.le_of_ble_eq_true rfl⟩) (cg_preV C hw g4 rfl _) rfl rfl hl.1 rfl (lv_room (Nat.le_of_ble_eq_true rfl)) dX0_overBoth_13 ⟨show cc + (h5.1 - h.1) ≤ u9.1 - u.1 by omega, show ss + (h5.2.1 - h.2.1) ≤ u9.2.1 - u.2.1 by omega⟩) (fun H locs hw => ?_)
      exact hB16 h5 y0 r6 _ _ _ _ _ hm hw (by omega) (by omega) (lv_sub hl [] rfl)
  have hB8 : ∀ (h : CH) (x0 : Nat) (x2 : Int32) (y0 : Int64) (cc ss : Nat) (H : Heap) (locs : List Loc) (ls : Array Slot), m_X0_overBoth_8 f h x0 x2 y0 = some (r0, u9) → CW D dA A s h H locs → cc + u.1 = h.1 → ss + u.2.1 = h.2.1 → lv_has ls 3 [(0, .ref x0), (2, .int x2)] → W p l e (rm_X0_overBoth (u9.1 - u.1) (u9.2.1 - u.2.1)) s m args below meth c H locs cc ss QQ (F0 m 8 ls [.long y0]) := by
    intro h x0 x2 y0 cc ss H locs ls hm hw hcc hss hl
    have hmo := mo_X0_overBoth_8  h x0 x2 y0 _ hm
    have sb_ : h.1 ≤ u9.1 := hmo.1
    have tb_ : h.2.1 ≤ u9.2.1 := hmo.2.1
    rw [m_X0_overBoth_8] at hm
    refine lv_aload_n hx hb dX0_overBoth_8 rfl (lv_at hl 0 rfl) ?_
    refine lv_iload_n hx hb dX0_overBoth_9 rfl (lv_at hl 1 rfl) ?_
    obtain ⟨g1, hm⟩ := gdE hm
    obtain ⟨a3, h2, ea3, hm⟩ := bd2E hm
    have lh2 := mo_X0_at ea3
    have ph2 : h.1 ≤ h2.1 := lh2.1
    have qh2 : h.2.1 ≤ h2.2.1 := lh2.2.1
    have hmo := mo_X0_overBoth_13   h2 y0 a3 _ hm
    have sh2 : h2.1 ≤ u9.1 := hmo.1
    have th2 : h2.2.1 ≤ u9.2.1 := hmo.2.1
    refine cg_callr hw lh2 (va_runV (As := [.int x2]) (rest := [.long y0]) ⟨hx, hb, hml, hown, hts⟩ (w_X0_at l ea3) (cw_X0_at hts q900 ⟨Nat.le_of_ble_eq_true rfl, Nat.le_of_ble_eq_true rfl⟩) (cg_preV C hw g1 rfl _) rfl rfl hl.1 rfl (lv_room (Nat.le_of_ble_eq_true rfl)) dX0_overBoth_10 ⟨show cc + (h2.1 - h.1) ≤ u9.1 - u.1 by omega, show ss + (h2.2.1 - h.2.1) ≤ u9.2.1 - u.2.1 by omega⟩) (fun H locs hw => ?_)
    exact hB13 h2 y0 a3 _ _ _ _ _ hm hw (by omega) (by omega) (lv_sub hl [] rfl)
  have hB5 : ∀ (h : CH) (x0 : Nat) (x2 : Int32) (y0 : Nat) (cc ss : Nat) (H : Heap) (locs : List Loc) (ls : Array Slot), m_X0_overBoth_5 f h x0 x2 y0 = some (r0, u9) → CW D dA A s h H locs → cc + u.1 = h.1 → ss + u.2.1 = h.2.1 → lv_has ls 3 [(0, .ref x0), (2, .int x2)] → W p l e (rm_X0_overBoth (u9.1 - u.1) (u9.2.1 - u.2.1)) s m args below meth c H locs cc ss QQ (F0 m 5 ls [.ref y0]) := by
    intro h x0 x2 y0 cc ss H locs ls hm hw hcc hss hl
    have hmo := mo_X0_overBoth_5  h x0 x2 y0 _ hm
    have sb_ : h.1 ≤ u9.1 := hmo.1
    have tb_ : h.2.1 ≤ u9.2.1 := hmo.2.1
    rw [m_X0_overBoth_5] at hm
    by_cases c1 : isC h y0 6 = true
    · have hm := ifT hm c1
      obtain ⟨r3, h2, er3, hm⟩ := bd2E hm
      have lh2 := mo_X6_over er3
      have ph2 : h.1 ≤ h2.1 := lh2.1
      have qh2 : h.2.1 ≤ h2.2.1 := lh2.2.1
      have hmo := mo_X0_overBoth_8   h2 x0 x2 r3 _ hm
      have sh2 : h2.1 ≤ u9.1 := hmo.1
      have th2 : h2.2.1 ≤ u9.2.1 := hmo.2.1
      refine cg_calll hw lh2 (va_runV (As := []) (rest := []) ⟨hx, hb, hml, hown, hts⟩ (w_X6_over l er3) (cw_X6_over hts q945 ⟨Nat.le_of_ble_eq_true rfl, Nat.le_of_ble_eq_true rfl⟩) (cg_preV C hw c1 rfl _) rfl rfl hl.1 rfl (lv_room (Nat.le_of_ble_eq_true rfl)) dX0_overBoth_5 ⟨show cc + (h2.1 - h.1) ≤ u9.1 - u.1 by omega, show ss + (h2.2.1 - h.2.1) ≤ u9.2.1 - u.2.1 by omega⟩) (fun H locs hw => ?_)
      exact hB8 h2 x0 x2 r3 _ _ _ _ _ hm hw (by omega) (by omega) (lv_sub hl [0, 1] rfl)
    · have hm := ifF hm c1
      obtain ⟨g4, hm⟩ := gdE hm
      obtain ⟨r6, h5, er6, hm⟩ := bd2E hm
      have lh5 := mo_X7_over er6
      have ph5 : h.1 ≤ h5.1 := lh5.1
      have qh5 : h.2.1 ≤ h5.2.1 := lh5.2.1
      have hmo := mo_X0_overBoth_8   h5 x0 x2 r6 _ hm
      have sh5 : h5.1 ≤ u9.1 := hmo.1
      have th5 : h5.2.1 ≤ u9.2.1 := hmo.2.1
      refine cg_calll hw lh5 (va_runU (As := []) (rest := []) ⟨hx, hb, hml, hown, hts⟩ (w_X7_over l er6) (va_cwO 0 hts (lwO q945 q948 q946 q949 q950 q144 q951) rfl rfl rfl q952 (by decide +kernel) ⟨Nat.le_of_ble_eq_true rfl, Nat.le_of_ble_eq_true rfl⟩) (cg_preV C hw g4 rfl _) rfl rfl hl.1 rfl (lv_room (Nat.le_of_ble_eq_true rfl)) dX0_overBoth_5 ⟨show cc + (h5.1 - h.1) ≤ u9.1 - u.1 by omega, show ss + (h5.2.1 - h.2.1) ≤ u9.2.1 - u.2.1 by omega⟩) (fun H locs hw => ?_)
      exact hB8 h5 x0 x2 r6 _ _ _ _ _ hm hw (by omega) (by omega) (lv_sub hl [0, 1] rfl)
  rw [m_X0_overBoth] at hm
  refine lv_aload_n hx hb dX0_overBoth_0 rfl (lv_at hl 0 rfl) ?_
  refine lv_iload_n hx hb dX0_overBoth_1 rfl (lv_at hl 1 rfl) ?_
  obtain ⟨g1, hm⟩ := gdE hm
  obtain ⟨a3, h2, ea3, hm⟩ := bd2E hm
  have lh2 := mo_X0_at ea3
  have ph2 : u.1 ≤ h2.1 := lh2.1
  have qh2 : u.2.1 ≤ h2.2.1 := lh2.2.1
  have hmo := mo_X0_overBoth_5   h2 x0 x2 a3 _ hm
  have sh2 : h2.1 ≤ u9.1 := hmo.1
  have th2 : h2.2.1 ≤ u9.2.1 := hmo.2.1
  refine cg_callr hw lh2 (va_runV (As := [.int x1]) (rest := []) ⟨hx, hb, hml, hown, hts⟩ (w_X0_at l ea3) (cw_X0_at hts q900 ⟨Nat.le_of_ble_eq_true rfl, Nat.le_of_ble_eq_true rfl⟩) (cg_preV C hw g1 rfl _) rfl rfl hl.1 rfl (lv_room (Nat.le_of_ble_eq_true rfl)) dX0_overBoth_2 ⟨show cc + (h2.1 - u.1) ≤ u9.1 - u.1 by omega, show ss + (h2.2.1 - u.2.1) ≤ u9.2.1 - u.2.1 by omega⟩) (fun H locs hw => ?_)
  exact hB5 h2 x0 x2 a3 _ _ _ _ _ hm hw (by omega) (by omega) (lv_sub hl [0, 2] rfl)
def m_X2_times_2_60 (f : Nat) (h : CH) (x3 : Nat) : Option (Nat × CH) := some (x3, h)
theorem mo_X2_times_2_60 {f : Nat} : ∀ (h : CH) (x3 : Nat) (r : (Nat × CH)), m_X2_times_2_60 f h x3 = some r → le2 h r.2 := by
  intro h x3 r hm
  rw [m_X2_times_2_60] at hm
  cases hm
  exact le2.rf
def m_X2_times_2_54 (f : Nat) (k11 : CH → Nat → Int64 → Nat → Int32 → Option (Nat × CH)) (h : CH) (x0 : Nat) (x1 : Int64) (x3 : Nat) (x4 : Int32) : Option (Nat × CH) := nmv ((x4 + 1) : Int32) fun v1 =>
    k11 h x0 x1 x3 v1
theorem mo_X2_times_2_54 {f : Nat} {k11 : CH → Nat → Int64 → Nat → Int32 → Option (Nat × CH)} (hk11 : ∀ (h : CH) (x0 : Nat) (x1 : Int64) (x3 : Nat) (x4 : Int32) (r : (Nat × CH)), k11 h x0 x1 x3 x4 = some r → le2 h r.2) : ∀ (h : CH) (x0 : Nat) (x1 : Int64) (x3 : Nat) (x4 : Int32) (r : (Nat × CH)), m_X2_times_2_54 f k11 h x0 x1 x3 x4 = some r → le2 h r.2 := by
  intro h x0 x1 x3 x4 r hm
  rw [m_X2_times_2_54] at hm
  obtain ⟨v1, ev1, hm⟩ := nmE hm
  exact (hk11 h x0 x1 x3 v1 _ hm)
def m_X2_times_2_20 (f : Nat) (k11 : CH → Nat → Int64 → Nat → Int32 → Option (Nat × CH)) : Nat → CH → Nat → Int64 → Nat → Int32 → Int32 → Option (Nat × CH)
  | 0, _, _, _, _, _, _ => none
  | n20 + 1, h, x0, x1, x3, x4, x5 => if (3 : Int32) ≤ x5 then
    m_X2_times_2_54 f k11 h x0 x1 x3 x4
    else bd (oR h 3 0 x3) fun a2 =>
    bd (aR h 4 a2 x4) fun a3 =>
    bd (oR h 3 0 x0) fun a4 =>
    bd (aR h 4 a4 x4) fun a5 =>
    bd (aL h 1 a5 x5) fun v6 =>
    bd (uL h 1 a3 x5 (x1 * v6)) fun h7 =>
    nmv ((x5 + 1) : Int32) fun v8 =>
    m_X2_times_2_20 f k11 n20 h7 x0 x1 x3 x4 v8
theorem mo_X2_times_2_20 {f : Nat} {k11 : CH → Nat → Int64 → Nat → Int32 → Option (Nat × CH)} (hk11 : ∀ (h : CH) (x0 : Nat) (x1 : Int64) (x3 : Nat) (x4 : Int32) (r : (Nat × CH)), k11 h x0 x1 x3 x4 = some r → le2 h r.2) : ∀ (n20 : Nat) (h : CH) (x0 : Nat) (x1 : Int64) (x3 : Nat) (x4 : Int32) (x5 : Int32) (r : (Nat × CH)), m_X2_times_2_20 f k11 n20 h x0 x1 x3 x4 x5 = some r → le2 h r.2 := by
  intro n20
  induction n20 with
  | zero => intro h x0 x1 x3 x4 x5 r hm; rw [m_X2_times_2_20] at hm; exact noE hm
  | succ n20 ihm =>
    intro h x0 x1 x3 x4 x5 r hm
    rw [m_X2_times_2_20] at hm
    by_cases c1 : (3 : Int32) ≤ x5
    · have hm := ifT hm c1
      exact (mo_X2_times_2_54 hk11 h x0 x1 x3 x4 _ hm)
    · have hm := ifF hm c1
      obtain ⟨a2, ea2, hm⟩ := bdE hm
      obtain ⟨a3, ea3, hm⟩ := bdE hm
      obtain ⟨a4, ea4, hm⟩ := bdE hm
      obtain ⟨a5, ea5, hm⟩ := bdE hm
      obtain ⟨v6, ev6, hm⟩ := bdE hm
      obtain ⟨h7, eh7, hm⟩ := bdE hm
      have lh7 := uL_le eh7
      obtain ⟨v8, ev8, hm⟩ := nmE hm
      exact (lh7.tr (ihm h7 x0 x1 x3 x4 v8 _ hm))
def m_X2_times_2_11 (f : Nat) : Nat → CH → Nat → Int64 → Nat → Int32 → Option (Nat × CH)
  | 0, _, _, _, _, _ => none
  | n11 + 1, h, x0, x1, x3, x4 => if (3 : Int32) ≤ x4 then
    m_X2_times_2_60 f h x3
    else m_X2_times_2_20 f (m_X2_times_2_11 f n11) f h x0 x1 x3 x4 (0 : Int32)
theorem mo_X2_times_2_11 {f : Nat} : ∀ (n11 : Nat) (h : CH) (x0 : Nat) (x1 : Int64) (x3 : Nat) (x4 : Int32) (r : (Nat × CH)), m_X2_times_2_11 f n11 h x0 x1 x3 x4 = some r → le2 h r.2 := by
  intro n11
  induction n11 with
  | zero => intro h x0 x1 x3 x4 r hm; rw [m_X2_times_2_11] at hm; exact noE hm
  | succ n11 ihm =>
    intro h x0 x1 x3 x4 r hm
    rw [m_X2_times_2_11] at hm
    by_cases c1 : (3 : Int32) ≤ x4
    · have hm := ifT hm c1
      exact (mo_X2_times_2_60  h x3 _ hm)
    · have hm := ifF hm c1
      exact (mo_X2_times_2_20 ihm f h x0 x1 x3 x4 (0 : Int32) _ hm)
def m_X2_times_2_7 (f : Nat) (h : CH) (x0 : Nat) (x1 : Int64) (y0 : Nat) : Option (Nat × CH) := m_X2_times_2_11 f f h x0 x1 y0 (0 : Int32)
theorem mo_X2_times_2_7 {f : Nat} : ∀ (h : CH) (x0 : Nat) (x1 : Int64) (y0 : Nat) (r : (Nat × CH)), m_X2_times_2_7 f h x0 x1 y0 = some r → le2 h r.2 := by
  intro h x0 x1 y0 r hm
  rw [m_X2_times_2_7] at hm
  exact (mo_X2_times_2_11  f h x0 x1 y0 (0 : Int32) _ hm)
def m_X2_times_2_3 (f : Nat) (h : CH) (x0 : Nat) (x1 : Int64) (y0 : Nat) : Option (Nat × CH) := bd (m_X2_init f h y0) fun h1 =>
    m_X2_times_2_7 f h1 x0 x1 y0
theorem mo_X2_times_2_3 {f : Nat} : ∀ (h : CH) (x0 : Nat) (x1 : Int64) (y0 : Nat) (r : (Nat × CH)), m_X2_times_2_3 f h x0 x1 y0 = some r → le2 h r.2 := by
  intro h x0 x1 y0 r hm
  rw [m_X2_times_2_3] at hm
  obtain ⟨h1, eh1, hm⟩ := bdE hm
  have lh1 := mo_X2_init eh1
  exact (lh1.tr (mo_X2_times_2_7  h1 x0 x1 y0 _ hm))
def m_X2_times_2 (f : Nat) (u : CH) (x0 : Nat) (x1 : Int64) : Option (Nat × CH) := nmv (cn u 1 (.inl (3, [.null]))) fun h1 =>
    nmv (u.1 : Nat) fun a2 =>
    m_X2_times_2_3 f h1 x0 x1 a2
theorem mo_X2_times_2 {f : Nat} {u : CH} {x0 : Nat} {x1 : Int64} {r0 : Nat} {u9 : CH} (hm : m_X2_times_2 f u x0 x1 = some (r0, u9)) : le2 u u9 := by
  rw [m_X2_times_2] at hm
  obtain ⟨h1, eh1, hm⟩ := nmE hm
  have lh1 := cn_le eh1
  obtain ⟨a2, ea2, hm⟩ := nmE hm
  exact (lh1.tr (mo_X2_times_2_3  h1 x0 x1 a2 _ hm))
abbrev rm_X2_times_2 (mc ms : Nat) : Room := { frames := 2, cells := mc, slots := ms, locals := 40 }
theorem cw_X2_times_2 {R : Room} {s : State} {args : Array Value} {own : String} {idx mc ms : Nat} (hts : ∀ w ∈ lw_all, w.before args s = true) (hl : Cond.methodLink own idx yX2_times_2 ∈ lw_all) (hR : 2 + 1 ≤ R.frames ∧ 8 + (6 + 11) + 40 ≤ R.locals) : CallW R s args own RX2 idx yX2_times_2 cX2_times_2 6 (Option.some (Jvm.ClassFile.FieldType.object "CoincideBench$Rows")) (ws_ yX2_times_2 cX2_times_2 6 (Option.some (Jvm.ClassFile.FieldType.object "CoincideBench$Rows"))) (rm_X2_times_2 mc ms) mc ms 1 := cwV 1 hts (lw_V hl q1120 q1121 q124 q1122) rfl rfl rfl (by decide +kernel) hR
set_option maxHeartbeats 4000000 in
set_option maxRecDepth 100000 in
theorem w_X2_times_2 (l : Launch) {D : va_G} {dA : Nat → ClassId} {A : Nat → Prop} {f : Nat} {u u9 : CH} {r0 : Nat} {x0 : Nat} {x1 : Int64} (hm : m_X2_times_2 f u x0 x1 = some (r0, u9)) : Met l yX2_times_2 (ws_ yX2_times_2 cX2_times_2 6 (Option.some (Jvm.ClassFile.FieldType.object "CoincideBench$Rows"))) (rm_X2_times_2 (u9.1 - u.1) (u9.2.1 - u.2.1)) (va_Pc [.ref x0, .long x1] (CPre D dA A u)) (va_Qr (fun u => u = u9) (fun u r t => r = r0 ∧ CPost D dA A u t) A) (u9.1 - u.1) (u9.2.1 - u.2.1) A := by
  refine Met.ofW (cc := cX2_times_2) (maxL := 6) (ret := (Option.some (Jvm.ClassFile.FieldType.object "CoincideBench$Rows"))) (by decide) rfl ?_
  intro p e s m args below meth c s₁ B hml hv
  have hx := B.exec
  have hb := B.bytes
  have hr := B.returns
  have hts := atoms_spec (ws := (ws_ yX2_times_2 cX2_times_2 6 (Option.some (Jvm.ClassFile.FieldType.object "CoincideBench$Rows")))) B.pre
  have hts : ∀ w ∈ lw_all, w.before args s = true := fun w h => hts w (List.mem_cons_of_mem _ h)
  have hown : s.vm.findClass RX2 = some m.cls := findClass_of_methodNamed B.named
  have hlocks := B.notSynchronized
  obtain ⟨hav, hv⟩ := hv
  have C : CX p s m args c cX2_times_2 RX2 D dA := ⟨hx, hb, hown, hts, hv.2⟩
  have hw : CW D dA A s u s.heap [] := hv.1
  generalize hQ : MQ below (va_Qr (fun u => u = u9) (fun u r t => r = r0 ∧ CPost D dA A u t) A) args s (u9.1 - u.1) (u9.2.1 - u.2.1) A = QQ
  have hent := lg_entry_eq m [.ref x0, .long x1] 6
  rw [← hav] at hent
  rw [hent]
  have hl := lv_entry ([.ref x0, .long x1]) (n := 6) (Nat.le_of_ble_eq_true rfl)
  generalize (lg_sl ([.ref x0, .long x1]) ++ List.replicate (6 - (lg_sl ([.ref x0, .long x1])).length) Slot.unset).toArray = ls at hl ⊢
  have hl : lv_has ls 6 [(0, .ref x0), (1, .long x1)] := hl
  obtain ⟨cc, ecc⟩ : ∃ z : Nat, z = 0 := ⟨0, rfl⟩
  obtain ⟨ss, ess⟩ : ∃ z : Nat, z = 0 := ⟨0, rfl⟩
  have hcc : cc + u.1 = u.1 := by omega
  have hss : ss + u.2.1 = u.2.1 := by omega
  suffices hgo : W p l e (rm_X2_times_2 (u9.1 - u.1) (u9.2.1 - u.2.1)) s m args below meth c s.heap [] cc ss QQ (F0 m 0 ls []) by rw [ecc, ess] at hgo; exact hgo
  have ⟨pu, qu, _, _⟩ := mo_X2_times_2 hm
  have hB60 : ∀ (h : CH) (x3 : Nat) (cc ss : Nat) (H : Heap) (locs : List Loc) (ls : Array Slot), m_X2_times_2_60 f h x3 = some (r0, u9) → CW D dA A s h H locs → cc + u.1 = h.1 → ss + u.2.1 = h.2.1 → lv_has ls 6 [(3, .ref x3)] → W p l e (rm_X2_times_2 (u9.1 - u.1) (u9.2.1 - u.2.1)) s m args below meth c H locs cc ss QQ (F0 m 60 ls []) := by
    intro h x3 cc ss H locs ls hm hw hcc hss hl
    have hmo := mo_X2_times_2_60  h x3 _ hm
    have sb_ : h.1 ≤ u9.1 := hmo.1
    have tb_ : h.2.1 ≤ u9.2.1 := hmo.2.1
    rw [m_X2_times_2_60] at hm
    refine lv_aload_n hx hb dX2_times_2_60 rfl (lv_at hl 0 rfl) ?_
    obtain ⟨er, eh⟩ := retE hm
    have ec : cc = u9.1 - u.1 := by rw [← eh]; omega
    have es : ss = u9.2.1 - u.2.1 := by rw [← eh]; omega
    rw [ec, es, ← hQ]
    exact W.aret (v := .ref x3) hx hb hr (Or.inl ⟨_, rfl⟩) (Or.inr ⟨_, rfl⟩) (fun t ht hW => ⟨⟨h, x3, rfl, eh, er, ⟨by rw [ht]; exact hw.1, by rw [ht]; exact hw.2.1⟩⟩, hw.2.2.1.F ht⟩) hw.2.2.1.2.2 dX2_times_2_61
  have hB11 : ∀ (n11 : Nat), ∀ (h : CH) (x0 : Nat) (x1 : Int64) (x3 : Nat) (x4 : Int32) (cc ss : Nat) (H : Heap) (locs : List Loc) (ls : Array Slot), m_X2_times_2_11 f n11 h x0 x1 x3 x4 = some (r0, u9) → CW D dA A s h H locs → cc + u.1 = h.1 → ss + u.2.1 = h.2.1 → lv_has ls 6 [(0, .ref x0), (1, .long x1), (3, .ref x3), (4, .int x4)] → W p l e (rm_X2_times_2 (u9.1 - u.1) (u9.2.1 - u.2.1)) s m args below meth c H locs cc ss QQ (F0 m 11 ls []) := by
    intro n11
    induction n11 with
    | zero => intro h x0 x1 x3 x4 cc ss H locs ls hm hw hcc hss hl; rw [m_X2_times_2_11] at hm; exact noE hm
    | succ n11 ih11 =>
      have hB54 : ∀ (h : CH) (x0 : Nat) (x1 : Int64) (x3 : Nat) (x4 : Int32) (cc ss : Nat) (H : Heap) (locs : List Loc) (ls : Array Slot), m_X2_times_2_54 f (m_X2_times_2_11 f n11) h x0 x1 x3 x4 = some (r0, u9) → CW D dA A s h H locs → cc + u.1 = h.1 → ss + u.2.1 = h.2.1 → lv_has ls 6 [(0, .ref x0), (1, .long x1), (3, .ref x3), (4, .int x4)] → W p l e (rm_X2_times_2 (u9.1 - u.1) (u9.2.1 - u.2.1)) s m args below meth c H locs cc ss QQ (F0 m 54 ls []) := by
        intro h x0 x1 x3 x4 cc ss H locs ls hm hw hcc hss hl
        have hmo := mo_X2_times_2_54 (mo_X2_times_2_11 n11) h x0 x1 x3 x4 _ hm
        have sb_ : h.1 ≤ u9.1 := hmo.1
        have tb_ : h.2.1 ≤ u9.2.1 := hmo.2.1
        rw [m_X2_times_2_54] at hm
        obtain ⟨v1, ev1, hm⟩ := nmE hm
        refine lv_iinc (v := v1) (lv' := [(4, .int v1), (0, .ref x0), (1, .long x1), (3, .ref x3)]) hx hb dX2_times_2_54 hl (k := 3) rfl (by rw [ev1]; rfl) (by decide) rfl (fun ls hl => ?_)
        refine lv_goto (tgt := 11) hx hb dX2_times_2_57 (by decide) ?_
        exact ih11 h x0 x1 x3 v1 _ _ _ _ _ hm hw (by omega) (by omega) (lv_sub hl [1, 2, 3, 0] rfl)
      have hB20 : ∀ (n20 : Nat), ∀ (h : CH) (x0 : Nat) (x1 : Int64) (x3 : Nat) (x4 : Int32) (x5 : Int32) (cc ss : Nat) (H : Heap) (locs : List Loc) (ls : Array Slot), m_X2_times_2_20 f (m_X2_times_2_11 f n11) n20 h x0 x1 x3 x4 x5 = some (r0, u9) → CW D dA A s h H locs → cc + u.1 = h.1 → ss + u.2.1 = h.2.1 → lv_has ls 6 [(0, .ref x0), (1, .long x1), (3, .ref x3), (4, .int x4), (5, .int x5)] → W p l e (rm_X2_times_2 (u9.1 - u.1) (u9.2.1 - u.2.1)) s m args below meth c H locs cc ss QQ (F0 m 20 ls []) := by
        intro n20
        induction n20 with
        | zero => intro h x0 x1 x3 x4 x5 cc ss H locs ls hm hw hcc hss hl; rw [m_X2_times_2_20] at hm; exact noE hm
        | succ n20 ih20 =>
          intro h x0 x1 x3 x4 x5 cc ss H locs ls hm hw hcc hss hl
          have hmo := mo_X2_times_2_20 (mo_X2_times_2_11 n11) (n20 + 1) h x0 x1 x3 x4 x5 _ hm
          have sb_ : h.1 ≤ u9.1 := hmo.1
          have tb_ : h.2.1 ≤ u9.2.1 := hmo.2.1
          rw [m_X2_times_2_20] at hm
          refine lv_iload hx hb dX2_times_2_20 (lv_at hl 4 rfl) ?_
          refine lv_iconst (v := 3) hx hb dX2_times_2_22 (by decide) ?_
          refine lv_icmp_ge (tgt := 54) hx hb dX2_times_2_23 (by decide) (fun c1 => ?_) (fun c1 => ?_)
          · have hm := ifT hm c1
            exact hB54 h x0 x1 x3 x4 _ _ _ _ _ hm hw (by omega) (by omega) (lv_sub hl [0, 1, 2, 3] rfl)
          · have hm := ifF hm c1
            refine lv_aload_n hx hb dX2_times_2_26 rfl (lv_at hl 2 rfl) ?_
            obtain ⟨a2, ea2, hm⟩ := bdE hm
            refine cg_get C hw (oR_E ea2) rfl in_X2 (by decide) q205 dX2_times_2_27 ?_
            refine lv_iload hx hb dX2_times_2_30 (lv_at hl 3 rfl) ?_
            obtain ⟨a3, ea3, hm⟩ := bdE hm
            refine cg_aaldA C hw (ty := .array .long) rfl rfl (aR_E ea3) dX2_times_2_32 ?_
            refine lv_iload hx hb dX2_times_2_33 (lv_at hl 4 rfl) ?_
            refine lv_lload_n hx hb dX2_times_2_35 rfl (lv_at hl 1 rfl) ?_
            refine lv_aload_n hx hb dX2_times_2_36 rfl (lv_at hl 0 rfl) ?_
            obtain ⟨a4, ea4, hm⟩ := bdE hm
            refine cg_get C hw (oR_E ea4) rfl in_X2 (by decide) q205 dX2_times_2_37 ?_
            refine lv_iload hx hb dX2_times_2_40 (lv_at hl 3 rfl) ?_
            obtain ⟨a5, ea5, hm⟩ := bdE hm
            refine cg_aaldA C hw (ty := .array .long) rfl rfl (aR_E ea5) dX2_times_2_42 ?_
            refine lv_iload hx hb dX2_times_2_43 (lv_at hl 4 rfl) ?_
            obtain ⟨v6, ev6, hm⟩ := bdE hm
            refine cg_lald C hw ev6 dX2_times_2_45 ?_
            refine lv_lmul hx hb dX2_times_2_46 ?_
            obtain ⟨h7, eh7, hm⟩ := bdE hm
            refine cg_last C hw eh7 dX2_times_2_47 (fun H locs hw => ?_)
            have zh7 := uL_sz eh7
            obtain ⟨v8, ev8, hm⟩ := nmE hm
            refine lv_iinc (v := v8) (lv' := [(5, .int v8), (0, .ref x0), (1, .long x1), (3, .ref x3), (4, .int x4)]) hx hb dX2_times_2_48 hl (k := 4) rfl (by rw [ev8]; rfl) (by decide) rfl (fun ls hl => ?_)
            refine lv_goto (tgt := 20) hx hb dX2_times_2_51 (by decide) ?_
            exact ih20 h7 x0 x1 x3 x4 v8 _ _ _ _ _ hm hw (by omega) (by omega) (lv_sub hl [1, 2, 3, 4, 0] rfl)
      intro h x0 x1 x3 x4 cc ss H locs ls hm hw hcc hss hl
      have hmo := mo_X2_times_2_11  (n11 + 1) h x0 x1 x3 x4 _ hm
      have sb_ : h.1 ≤ u9.1 := hmo.1
      have tb_ : h.2.1 ≤ u9.2.1 := hmo.2.1
      rw [m_X2_times_2_11] at hm
      refine lv_iload hx hb dX2_times_2_11 (lv_at hl 3 rfl) ?_
      refine lv_iconst (v := 3) hx hb dX2_times_2_13 (by decide) ?_
      refine lv_icmp_ge (tgt := 60) hx hb dX2_times_2_14 (by decide) (fun c1 => ?_) (fun c1 => ?_)
      · have hm := ifT hm c1
        exact hB60 h x3 _ _ _ _ _ hm hw (by omega) (by omega) (lv_sub hl [2] rfl)
      · have hm := ifF hm c1
        refine lv_iconst (v := 0) hx hb dX2_times_2_17 (by decide) ?_
        refine lv_istore (lv' := [(5, .int (0 : Int32)), (0, .ref x0), (1, .long x1), (3, .ref x3), (4, .int x4)]) hx hb dX2_times_2_18 hl (by decide) rfl (fun ls hl => ?_)
        exact hB20 f h x0 x1 x3 x4 (0 : Int32) _ _ _ _ _ hm hw (by omega) (by omega) (lv_sub hl [1, 2, 3, 4, 0] rfl)
  have hB7 : ∀ (h : CH) (x0 : Nat) (x1 : Int64) (y0 : Nat) (cc ss : Nat) (H : Heap) (locs : List Loc) (ls : Array Slot), m_X2_times_2_7 f h x0 x1 y0 = some (r0, u9) → CW D dA A s h H locs → cc + u.1 = h.1 → ss + u.2.1 = h.2.1 → lv_has ls 6 [(0, .ref x0), (1, .long x1)] → W p l e (rm_X2_times_2 (u9.1 - u.1) (u9.2.1 - u.2.1)) s m args below meth c H locs cc ss QQ (F0 m 7 ls [.ref y0]) := by
    intro h x0 x1 y0 cc ss H locs ls hm hw hcc hss hl
    have hmo := mo_X2_times_2_7  h x0 x1 y0 _ hm
    have sb_ : h.1 ≤ u9.1 := hmo.1
    have tb_ : h.2.1 ≤ u9.2.1 := hmo.2.1
    rw [m_X2_times_2_7] at hm
    refine lv_astore_n (lv' := [(3, .ref y0), (0, .ref x0), (1, .long x1)]) hx hb dX2_times_2_7 rfl hl (by decide) rfl (fun ls hl => ?_)
    refine lv_iconst (v := 0) hx hb dX2_times_2_8 (by decide) ?_
    refine lv_istore (lv' := [(4, .int (0 : Int32)), (3, .ref y0), (0, .ref x0), (1, .long x1)]) hx hb dX2_times_2_9 hl (by decide) rfl (fun ls hl => ?_)
    exact hB11 f h x0 x1 y0 (0 : Int32) _ _ _ _ _ hm hw (by omega) (by omega) (lv_sub hl [2, 3, 1, 0] rfl)
  have hB3 : ∀ (h : CH) (x0 : Nat) (x1 : Int64) (y0 : Nat) (cc ss : Nat) (H : Heap) (locs : List Loc) (ls : Array Slot), m_X2_times_2_3 f h x0 x1 y0 = some (r0, u9) → CW D dA A s h H locs → cc + u.1 = h.1 → ss + u.2.1 = h.2.1 → lv_has ls 6 [(0, .ref x0), (1, .long x1)] → W p l e (rm_X2_times_2 (u9.1 - u.1) (u9.2.1 - u.2.1)) s m args below meth c H locs cc ss QQ (F0 m 3 ls [.ref y0]) := by
    intro h x0 x1 y0 cc ss H locs ls hm hw hcc hss hl
    have hmo := mo_X2_times_2_3  h x0 x1 y0 _ hm
    have sb_ : h.1 ≤ u9.1 := hmo.1
    have tb_ : h.2.1 ≤ u9.2.1 := hmo.2.1
    rw [m_X2_times_2_3] at hm
    refine lv_dup hx hb dX2_times_2_3 rfl ?_
    obtain ⟨h1, eh1, hm⟩ := bdE hm
    have lh1 := mo_X2_init eh1
    have ph1 : h.1 ≤ h1.1 := lh1.1
    have qh1 : h.2.1 ≤ h1.2.1 := lh1.2.1
    have hmo := mo_X2_times_2_7   h1 x0 x1 y0 _ hm
    have sh1 : h1.1 ≤ u9.1 := hmo.1
    have th1 : h1.2.1 ≤ u9.2.1 := hmo.2.1
    refine cg_callv hw lh1 (va_runI (As := []) (rest := [.ref y0]) ⟨hx, hb, hml, hown, hts⟩ (w_X2_init l eh1) (cw_X2_init hts q921 ⟨Nat.le_of_ble_eq_true rfl, Nat.le_of_ble_eq_true rfl⟩) (cg_preS C hw _) rfl rfl hl.1 rfl (lv_room (Nat.le_of_ble_eq_true rfl)) dX2_times_2_4 ⟨show cc + (h1.1 - h.1) ≤ u9.1 - u.1 by omega, show ss + (h1.2.1 - h.2.1) ≤ u9.2.1 - u.2.1 by omega⟩) (fun H locs hw => ?_)
    exact hB7 h1 x0 x1 y0 _ _ _ _ _ hm hw (by omega) (by omega) (lv_sub hl [0, 1] rfl)
  rw [m_X2_times_2] at hm
  obtain ⟨h1, eh1, hm⟩ := nmE hm
  obtain ⟨_, _, hmq⟩ := nmE hm
  have hmo := mo_X2_times_2_3   h1 x0 x1 _ _ hmq
  have sh1 : h1.1 ≤ u9.1 := hmo.1
  have th1 : h1.2.1 ≤ u9.2.1 := hmo.2.1
  have zh1 := cn_sz eh1
  refine cg_new (C0 := C) hw (ci := 3) (fs := [.null]) rfl in_X2 tyX2 tyX2_ok q920 q198 q124 (fun j hj => by rcases (show j = 0 by omega) with rfl <;> rfl) (show cc + 1 ≤ u9.1 - u.1 by omega) (show ss + 1 ≤ u9.2.1 - u.2.1 by omega) dX2_times_2_0 (fun H hw => ?_)
  rw [← eh1] at hw
  refine lv_topr (fun a2 ea2 => ?_)
  have hm := nmK hm ea2
  exact hB3 h1 x0 x1 a2 _ _ _ _ _ hm hw (by omega) (by omega) (lv_sub hl [0, 1] rfl)
def m_X0_rowsBy_21 (f : Nat) (h : CH) (y0 : Nat) : Option (Nat × CH) := some (y0, h)
theorem mo_X0_rowsBy_21 {f : Nat} : ∀ (h : CH) (y0 : Nat) (r : (Nat × CH)), m_X0_rowsBy_21 f h y0 = some r → le2 h r.2 := by
  intro h y0 r hm
  rw [m_X0_rowsBy_21] at hm
  cases hm
  exact le2.rf
def m_X0_rowsBy_17 (f : Nat) (h : CH) (y0 : Nat) (y1 : Int64) (y2 : Int64) : Option (Nat × CH) := gd (nzL y2) <|
    gd (isC h y0 3) <|
    bd2 (m_X2_times_2 f h y0 (y1 / y2)) fun a4 h3 =>
    m_X0_rowsBy_21 f h3 a4
theorem mo_X0_rowsBy_17 {f : Nat} : ∀ (h : CH) (y0 : Nat) (y1 : Int64) (y2 : Int64) (r : (Nat × CH)), m_X0_rowsBy_17 f h y0 y1 y2 = some r → le2 h r.2 := by
  intro h y0 y1 y2 r hm
  rw [m_X0_rowsBy_17] at hm
  obtain ⟨g1, hm⟩ := gdE hm
  obtain ⟨g2, hm⟩ := gdE hm
  obtain ⟨a4, h3, ea4, hm⟩ := bd2E hm
  have lh3 := mo_X2_times_2 ea4
  exact (lh3.tr (mo_X0_rowsBy_21  h3 a4 _ hm))
def m_X0_rowsBy_14 (f : Nat) (h : CH) (y0 : Nat) (y1 : Int64) (y2 : Nat) : Option (Nat × CH) := if isC h y2 6 = true then
    bd2 (m_X6_over f h y2) fun r3 h2 =>
    m_X0_rowsBy_17 f h2 y0 y1 r3
    else gd (isC h y2 7) <|
    bd2 (m_X7_over f h y2) fun r6 h5 =>
    m_X0_rowsBy_17 f h5 y0 y1 r6
theorem mo_X0_rowsBy_14 {f : Nat} : ∀ (h : CH) (y0 : Nat) (y1 : Int64) (y2 : Nat) (r : (Nat × CH)), m_X0_rowsBy_14 f h y0 y1 y2 = some r → le2 h r.2 := by
  intro h y0 y1 y2 r hm
  rw [m_X0_rowsBy_14] at hm
  by_cases c1 : isC h y2 6 = true
  · have hm := ifT hm c1
    obtain ⟨r3, h2, er3, hm⟩ := bd2E hm
    have lh2 := mo_X6_over er3
    exact (lh2.tr (mo_X0_rowsBy_17  h2 y0 y1 r3 _ hm))
  · have hm := ifF hm c1
    obtain ⟨g4, hm⟩ := gdE hm
    obtain ⟨r6, h5, er6, hm⟩ := bd2E hm
    have lh5 := mo_X7_over er6
    exact (lh5.tr (mo_X0_rowsBy_17  h5 y0 y1 r6 _ hm))
def m_X0_rowsBy_8 (f : Nat) (h : CH) (x0 : Nat) (x1 : Int32) (x2 : Int64) (y0 : Nat) : Option (Nat × CH) := gd (isC h x0 1) <|
    bd2 (m_X0_at f h x0 x1) fun a3 h2 =>
    m_X0_rowsBy_14 f h2 y0 x2 a3
theorem mo_X0_rowsBy_8 {f : Nat} : ∀ (h : CH) (x0 : Nat) (x1 : Int32) (x2 : Int64) (y0 : Nat) (r : (Nat × CH)), m_X0_rowsBy_8 f h x0 x1 x2 y0 = some r → le2 h r.2 := by
  intro h x0 x1 x2 y0 r hm
  rw [m_X0_rowsBy_8] at hm
  obtain ⟨g1, hm⟩ := gdE hm
  obtain ⟨a3, h2, ea3, hm⟩ := bd2E hm
  have lh2 := mo_X0_at ea3
  exact (lh2.tr (mo_X0_rowsBy_14  h2 y0 x2 a3 _ hm))
def m_X0_rowsBy_5 (f : Nat) (h : CH) (x0 : Nat) (x1 : Int32) (x2 : Int64) (y0 : Nat) : Option (Nat × CH) := if isC h y0 6 = true then
    bd2 (m_X6_rows f h y0) fun a3 h2 =>
    m_X0_rowsBy_8 f h2 x0 x1 x2 a3
    else gd (isC h y0 7) <|
    bd2 (m_X7_rows f h y0) fun a6 h5 =>
    m_X0_rowsBy_8 f h5 x0 x1 x2 a6
theorem mo_X0_rowsBy_5 {f : Nat} : ∀ (h : CH) (x0 : Nat) (x1 : Int32) (x2 : Int64) (y0 : Nat) (r : (Nat × CH)), m_X0_rowsBy_5 f h x0 x1 x2 y0 = some r → le2 h r.2 := by
  intro h x0 x1 x2 y0 r hm
  rw [m_X0_rowsBy_5] at hm
  by_cases c1 : isC h y0 6 = true
  · have hm := ifT hm c1
    obtain ⟨a3, h2, ea3, hm⟩ := bd2E hm
    have lh2 := mo_X6_rows ea3
    exact (lh2.tr (mo_X0_rowsBy_8  h2 x0 x1 x2 a3 _ hm))
  · have hm := ifF hm c1
    obtain ⟨g4, hm⟩ := gdE hm
    obtain ⟨a6, h5, ea6, hm⟩ := bd2E hm
    have lh5 := mo_X7_rows ea6
    exact (lh5.tr (mo_X0_rowsBy_8  h5 x0 x1 x2 a6 _ hm))
def m_X0_rowsBy (f : Nat) (u : CH) (x0 : Nat) (x1 : Int32) (x2 : Int64) : Option (Nat × CH) := gd (isC u x0 1) <|
    bd2 (m_X0_at f u x0 x1) fun a3 h2 =>
    m_X0_rowsBy_5 f h2 x0 x1 x2 a3
theorem mo_X0_rowsBy {f : Nat} {u : CH} {x0 : Nat} {x1 : Int32} {x2 : Int64} {r0 : Nat} {u9 : CH} (hm : m_X0_rowsBy f u x0 x1 x2 = some (r0, u9)) : le2 u u9 := by
  rw [m_X0_rowsBy] at hm
  obtain ⟨g1, hm⟩ := gdE hm
  obtain ⟨a3, h2, ea3, hm⟩ := bd2E hm
  have lh2 := mo_X0_at ea3
  exact (lh2.tr (mo_X0_rowsBy_5  h2 x0 x1 x2 a3 _ hm))
abbrev rm_X0_rowsBy (mc ms : Nat) : Room := { frames := 105, cells := mc, slots := ms, locals := 4127 }
theorem cw_X0_rowsBy {R : Room} {s : State} {args : Array Value} {own : String} {idx mc ms : Nat} (hts : ∀ w ∈ lw_all, w.before args s = true) (hl : Cond.methodLink own idx yX0_rowsBy ∈ lw_all) (hR : 105 + 1 ≤ R.frames ∧ 8 + (4 + 11) + 4127 ≤ R.locals) : CallW R s args own RX0 idx yX0_rowsBy cX0_rowsBy 4 (Option.some (Jvm.ClassFile.FieldType.object "CoincideBench$Rows")) (ws_ yX0_rowsBy cX0_rowsBy 4 (Option.some (Jvm.ClassFile.FieldType.object "CoincideBench$Rows"))) (rm_X0_rowsBy mc ms) mc ms 2 := cwV 2 hts (lw_V hl q1117 qs27 q119 q1118) rfl rfl rfl (by decide +kernel) hR
set_option maxHeartbeats 4000000 in
set_option maxRecDepth 100000 in
theorem w_X0_rowsBy (l : Launch) {D : va_G} {dA : Nat → ClassId} {A : Nat → Prop} {f : Nat} {u u9 : CH} {r0 : Nat} {x0 : Nat} {x1 : Int32} {x2 : Int64} (hm : m_X0_rowsBy f u x0 x1 x2 = some (r0, u9)) : Met l yX0_rowsBy (ws_ yX0_rowsBy cX0_rowsBy 4 (Option.some (Jvm.ClassFile.FieldType.object "CoincideBench$Rows"))) (rm_X0_rowsBy (u9.1 - u.1) (u9.2.1 - u.2.1)) (va_Pc [.ref x0, .int x1, .long x2] (CPre D dA A u)) (va_Qr (fun u => u = u9) (fun u r t => r = r0 ∧ CPost D dA A u t) A) (u9.1 - u.1) (u9.2.1 - u.2.1) A := by
  refine Met.ofW (cc := cX0_rowsBy) (maxL := 4) (ret := (Option.some (Jvm.ClassFile.FieldType.object "CoincideBench$Rows"))) (by decide) rfl ?_
  intro p e s m args below meth c s₁ B hml hv
  have hx := B.exec
  have hb := B.bytes
  have hr := B.returns
  have hts := atoms_spec (ws := (ws_ yX0_rowsBy cX0_rowsBy 4 (Option.some (Jvm.ClassFile.FieldType.object "CoincideBench$Rows")))) B.pre
  have hts : ∀ w ∈ lw_all, w.before args s = true := fun w h => hts w (List.mem_cons_of_mem _ h)
  have hown : s.vm.findClass RX0 = some m.cls := findClass_of_methodNamed B.named
  have hlocks := B.notSynchronized
  obtain ⟨hav, hv⟩ := hv
  have C : CX p s m args c cX0_rowsBy RX0 D dA := ⟨hx, hb, hown, hts, hv.2⟩
  have hw : CW D dA A s u s.heap [] := hv.1
  generalize hQ : MQ below (va_Qr (fun u => u = u9) (fun u r t => r = r0 ∧ CPost D dA A u t) A) args s (u9.1 - u.1) (u9.2.1 - u.2.1) A = QQ
  have hent := lg_entry_eq m [.ref x0, .int x1, .long x2] 4
  rw [← hav] at hent
  rw [hent]
  have hl := lv_entry ([.ref x0, .int x1, .long x2]) (n := 4) (Nat.le_of_ble_eq_true rfl)
  generalize (lg_sl ([.ref x0, .int x1, .long x2]) ++ List.replicate (4 - (lg_sl ([.ref x0, .int x1, .long x2])).length) Slot.unset).toArray = ls at hl ⊢
  have hl : lv_has ls 4 [(0, .ref x0), (1, .int x1), (2, .long x2)] := hl
  obtain ⟨cc, ecc⟩ : ∃ z : Nat, z = 0 := ⟨0, rfl⟩
  obtain ⟨ss, ess⟩ : ∃ z : Nat, z = 0 := ⟨0, rfl⟩
  have hcc : cc + u.1 = u.1 := by omega
  have hss : ss + u.2.1 = u.2.1 := by omega
  suffices hgo : W p l e (rm_X0_rowsBy (u9.1 - u.1) (u9.2.1 - u.2.1)) s m args below meth c s.heap [] cc ss QQ (F0 m 0 ls []) by rw [ecc, ess] at hgo; exact hgo
  have ⟨pu, qu, _, _⟩ := mo_X0_rowsBy hm
  have hB21 : ∀ (h : CH) (y0 : Nat) (cc ss : Nat) (H : Heap) (locs : List Loc) (ls : Array Slot), m_X0_rowsBy_21 f h y0 = some (r0, u9) → CW D dA A s h H locs → cc + u.1 = h.1 → ss + u.2.1 = h.2.1 → lv_has ls 4 [] → W p l e (rm_X0_rowsBy (u9.1 - u.1) (u9.2.1 - u.2.1)) s m args below meth c H locs cc ss QQ (F0 m 21 ls [.ref y0]) := by
    intro h y0 cc ss H locs ls hm hw hcc hss hl
    have hmo := mo_X0_rowsBy_21  h y0 _ hm
    have sb_ : h.1 ≤ u9.1 := hmo.1
    have tb_ : h.2.1 ≤ u9.2.1 := hmo.2.1
    rw [m_X0_rowsBy_21] at hm
    obtain ⟨er, eh⟩ := retE hm
    have ec : cc = u9.1 - u.1 := by rw [← eh]; omega
    have es : ss = u9.2.1 - u.2.1 := by rw [← eh]; omega
    rw [ec, es, ← hQ]
    exact W.aret (v := .ref y0) hx hb hr (Or.inl ⟨_, rfl⟩) (Or.inr ⟨_, rfl⟩) (fun t ht hW => ⟨⟨h, y0, rfl, eh, er, ⟨by rw [ht]; exact hw.1, by rw [ht]; exact hw.2.1⟩⟩, hw.2.2.1.F ht⟩) hw.2.2.1.2.2 dX0_rowsBy_21
  have hB17 : ∀ (h : CH) (y0 : Nat) (y1 : Int64) (y2 : Int64) (cc ss : Nat) (H : Heap) (locs : List Loc) (ls : Array Slot), m_X0_rowsBy_17 f h y0 y1 y2 = some (r0, u9) → CW D dA A s h H locs → cc + u.1 = h.1 → ss + u.2.1 = h.2.1 → lv_has ls 4 [] → W p l e (rm_X0_rowsBy (u9.1 - u.1) (u9.2.1 - u.2.1)) s m args below meth c H locs cc ss QQ (F0 m 17 ls [.long y2, .long y1, .ref y0]) := by
    intro h y0 y1 y2 cc ss H locs ls hm hw hcc hss hl
    have hmo := mo_X0_rowsBy_17  h y0 y1 y2 _ hm
    have sb_ : h.1 ≤ u9.1 := hmo.1
    have tb_ : h.2.1 ≤ u9.2.1 := hmo.2.1
    rw [m_X0_rowsBy_17] at hm
    obtain ⟨g1, hm⟩ := gdE hm
    refine lv_ldiv hx hb dX0_rowsBy_17 (nzL_ne g1) ?_
    obtain ⟨g2, hm⟩ := gdE hm
    obtain ⟨a4, h3, ea4, hm⟩ := bd2E hm
    have lh3 := mo_X2_times_2 ea4
    have ph3 : h.1 ≤ h3.1 := lh3.1
    have qh3 : h.2.1 ≤ h3.2.1 := lh3.2.1
    have hmo := mo_X0_rowsBy_21   h3 a4 _ hm
    have sh3 : h3.1 ≤ u9.1 := hmo.1
    have th3 : h3.2.1 ≤ u9.2.1 := hmo.2.1
    refine cg_callr hw lh3 (va_runV (As := [.long (y1 / y2)]) (rest := []) ⟨hx, hb, hml, hown, hts⟩ (w_X2_times_2 l ea4) (cw_X2_times_2 hts q1119 ⟨Nat.le_of_ble_eq_true rfl, Nat.le_of_ble_eq_true rfl⟩) (cg_preV C hw g2 rfl _) rfl rfl hl.1 rfl (lv_room (Nat.le_of_ble_eq_true rfl)) dX0_rowsBy_18 ⟨show cc + (h3.1 - h.1) ≤ u9.1 - u.1 by omega, show ss + (h3.2.1 - h.2.1) ≤ u9.2.1 - u.2.1 by omega⟩) (fun H locs hw => ?_)
    exact hB21 h3 a4 _ _ _ _ _ hm hw (by omega) (by omega) (lv_sub hl [] rfl)
  have hB14 : ∀ (h : CH) (y0 : Nat) (y1 : Int64) (y2 : Nat) (cc ss : Nat) (H : Heap) (locs : List Loc) (ls : Array Slot), m_X0_rowsBy_14 f h y0 y1 y2 = some (r0, u9) → CW D dA A s h H locs → cc + u.1 = h.1 → ss + u.2.1 = h.2.1 → lv_has ls 4 [] → W p l e (rm_X0_rowsBy (u9.1 - u.1) (u9.2.1 - u.2.1)) s m args below meth c H locs cc ss QQ (F0 m 14 ls [.ref y2, .long y1, .ref y0]) := by
    intro h y0 y1 y2 cc ss H locs ls hm hw hcc hss hl
    have hmo := mo_X0_rowsBy_14  h y0 y1 y2 _ hm
    have sb_ : h.1 ≤ u9.1 := hmo.1
    have tb_ : h.2.1 ≤ u9.2.1 := hmo.2.1
    rw [m_X0_rowsBy_14] at hm
    by_cases c1 : isC h y2 6 = true
    · have hm := ifT hm c1
      obtain ⟨r3, h2, er3, hm⟩ := bd2E hm
      have lh2 := mo_X6_over er3
      have ph2 : h.1 ≤ h2.1 := lh2.1
      have qh2 : h.2.1 ≤ h2.2.1 := lh2.2.1
      have hmo := mo_X0_rowsBy_17   h2 y0 y1 r3 _ hm
      have sh2 : h2.1 ≤ u9.1 := hmo.1
      have th2 : h2.2.1 ≤ u9.2.1 := hmo.2.1
      refine cg_calll hw lh2 (va_runV (As := []) (rest := [.long y1, .ref y0]) ⟨hx, hb, hml, hown, hts⟩ (w_X6_over l er3) (cw_X6_over hts q945 ⟨Nat.le_of_ble_eq_true rfl, Nat.le_of_ble_eq_true rfl⟩) (cg_preV C hw c1 rfl _) rfl rfl hl.1 rfl (lv_room (Nat.le_of_ble_eq_true rfl)) dX0_rowsBy_14 ⟨show cc + (h2.1 - h.1) ≤ u9.1 - u.1 by omega, show ss + (h2.2.1 - h.2.1) ≤ u9.2.1 - u.2.1 by omega⟩) (fun H locs hw => ?_)
      exact hB17 h2 y0 y1 r3 _ _ _ _ _ hm hw (by omega) (by omega) (lv_sub hl [] rfl)
    · have hm := ifF hm c1
      obtain ⟨g4, hm⟩ := gdE hm
      obtain ⟨r6, h5, er6, hm⟩ := bd2E hm
      have lh5 := mo_X7_over er6
      have ph5 : h.1 ≤ h5.1 := lh5.1
      have qh5 : h.2.1 ≤ h5.2.1 := lh5.2.1
      have hmo := mo_X0_rowsBy_17   h5 y0 y1 r6 _ hm
      have sh5 : h5.1 ≤ u9.1 := hmo.1
      have th5 : h5.2.1 ≤ u9.2.1 := hmo.2.1
      refine cg_calll hw lh5 (va_runU (As := []) (rest := [.long y1, .ref y0]) ⟨hx, hb, hml, hown, hts⟩ (w_X7_over l er6) (va_cwO 0 hts (lwO q945 q948 q946 q949 q950 q144 q951) rfl rfl rfl q952 (by decide +kernel) ⟨Nat.le_of_ble_eq_true rfl, Nat.le_of_ble_eq_true rfl⟩) (cg_preV C hw g4 rfl _) rfl rfl hl.1 rfl (lv_room (Nat.le_of_ble_eq_true rfl)) dX0_rowsBy_14 ⟨show cc + (h5.1 - h.1) ≤ u9.1 - u.1 by omega, show ss + (h5.2.1 - h.2.1) ≤ u9.2.1 - u.2.1 by omega⟩) (fun H locs hw => ?_)
      exact hB17 h5 y0 y1 r6 _ _ _ _ _ hm hw (by omega) (by omega) (lv_sub hl [] rfl)
  have hB8 : ∀ (h : CH) (x0 : Nat) (x1 : Int32) (x2 : Int64) (y0 : Nat) (cc ss : Nat) (H : Heap) (locs : List Loc) (ls : Array Slot), m_X0_rowsBy_8 f h x0 x1 x2 y0 = some (r0, u9) → CW D dA A s h H locs → cc + u.1 = h.1 → ss + u.2.1 = h.2.1 → lv_has ls 4 [(0, .ref x0), (1, .int x1), (2, .long x2)] → W p l e (rm_X0_rowsBy (u9.1 - u.1) (u9.2.1 - u.2.1)) s m args below meth c H locs cc ss QQ (F0 m 8 ls [.ref y0]) := by
    intro h x0 x1 x2 y0 cc ss H locs ls hm hw hcc hss hl
    have hmo := mo_X0_rowsBy_8  h x0 x1 x2 y0 _ hm
    have sb_ : h.1 ≤ u9.1 := hmo.1
    have tb_ : h.2.1 ≤ u9.2.1 := hmo.2.1
    rw [m_X0_rowsBy_8] at hm
    refine lv_lload_n hx hb dX0_rowsBy_8 rfl (lv_at hl 2 rfl) ?_
    refine lv_aload_n hx hb dX0_rowsBy_9 rfl (lv_at hl 0 rfl) ?_
    refine lv_iload_n hx hb dX0_rowsBy_10 rfl (lv_at hl 1 rfl) ?_
    obtain ⟨g1, hm⟩ := gdE hm
    obtain ⟨a3, h2, ea3, hm⟩ := bd2E hm
    have lh2 := mo_X0_at ea3
    have ph2 : h.1 ≤ h2.1 := lh2.1
    have qh2 : h.2.1 ≤ h2.2.1 := lh2.2.1
    have hmo := mo_X0_rowsBy_14   h2 y0 x2 a3 _ hm
    have sh2 : h2.1 ≤ u9.1 := hmo.1
    have th2 : h2.2.1 ≤ u9.2.1 := hmo.2.1
    refine cg_callr hw lh2 (va_runV (As := [.int x1]) (rest := [.long x2, .ref y0]) ⟨hx, hb, hml, hown, hts⟩ (w_X0_at l ea3) (cw_X0_at hts q900 ⟨Nat.le_of_ble_eq_true rfl, Nat.le_of_ble_eq_true rfl⟩) (cg_preV C hw g1 rfl _) rfl rfl hl.1 rfl (lv_room (Nat.le_of_ble_eq_true rfl)) dX0_rowsBy_11 ⟨show cc + (h2.1 - h.1) ≤ u9.1 - u.1 by omega, show ss + (h2.2.1 - h.2.1) ≤ u9.2.1 - u.2.1 by omega⟩) (fun H locs hw => ?_)
    exact hB14 h2 y0 x2 a3 _ _ _ _ _ hm hw (by omega) (by omega) (lv_sub hl [] rfl)
  have hB5 : ∀ (h : CH) (x0 : Nat) (x1 : Int32) (x2 : Int64) (y0 : Nat) (cc ss : Nat) (H : Heap) (locs : List Loc) (ls : Array Slot), m_X0_rowsBy_5 f h x0 x1 x2 y0 = some (r0, u9) → CW D dA A s h H locs → cc + u.1 = h.1 → ss + u.2.1 = h.2.1 → lv_has ls 4 [(0, .ref x0), (1, .int x1), (2, .long x2)] → W p l e (rm_X0_rowsBy (u9.1 - u.1) (u9.2.1 - u.2.1)) s m args below meth c H locs cc ss QQ (F0 m 5 ls [.ref y0]) := by
    intro h x0 x1 x2 y0 cc ss H locs ls hm hw hcc hss hl
    have hmo := mo_X0_rowsBy_5  h x0 x1 x2 y0 _ hm
    have sb_ : h.1 ≤ u9.1 := hmo.1
    have tb_ : h.2.1 ≤ u9.2.1 := hmo.2.1
    rw [m_X0_rowsBy_5] at hm
    by_cases c1 : isC h y0 6 = true
    · have hm := ifT hm c1
      obtain ⟨a3, h2, ea3, hm⟩ := bd2E hm
      have lh2 := mo_X6_rows ea3
      have ph2 : h.1 ≤ h2.1 := lh2.1
      have qh2 : h.2.1 ≤ h2.2.1 := lh2.2.1
      have hmo := mo_X0_rowsBy_8   h2 x0 x1 x2 a3 _ hm
      have sh2 : h2.1 ≤ u9.1 := hmo.1
      have th2 : h2.2.1 ≤ u9.2.1 := hmo.2.1
      refine cg_callr hw lh2 (va_runV (As := []) (rest := []) ⟨hx, hb, hml, hown, hts⟩ (w_X6_rows l ea3) (cw_X6_rows hts q904 ⟨Nat.le_of_ble_eq_true rfl, Nat.le_of_ble_eq_true rfl⟩) (cg_preV C hw c1 rfl _) rfl rfl hl.1 rfl (lv_room (Nat.le_of_ble_eq_true rfl)) dX0_rowsBy_5 ⟨show cc + (h2.1 - h.1) ≤ u9.1 - u.1 by omega, show ss + (h2.2.1 - h.2.1) ≤ u9.2.1 - u.2.1 by omega⟩) (fun H locs hw => ?_)
      exact hB8 h2 x0 x1 x2 a3 _ _ _ _ _ hm hw (by omega) (by omega) (lv_sub hl [0, 1, 2] rfl)
    · have hm := ifF hm c1
      obtain ⟨g4, hm⟩ := gdE hm
      obtain ⟨a6, h5, ea6, hm⟩ := bd2E hm
      have lh5 := mo_X7_rows ea6
      have ph5 : h.1 ≤ h5.1 := lh5.1
      have qh5 : h.2.1 ≤ h5.2.1 := lh5.2.1
      have hmo := mo_X0_rowsBy_8   h5 x0 x1 x2 a6 _ hm
      have sh5 : h5.1 ≤ u9.1 := hmo.1
      have th5 : h5.2.1 ≤ u9.2.1 := hmo.2.1
      refine cg_callr hw lh5 (va_runU (As := []) (rest := []) ⟨hx, hb, hml, hown, hts⟩ (w_X7_rows l ea6) (va_cwO 0 hts (lwO q904 q907 q905 q908 q909 q144 q910) rfl rfl rfl q940 (by decide +kernel) ⟨Nat.le_of_ble_eq_true rfl, Nat.le_of_ble_eq_true rfl⟩) (cg_preV C hw g4 rfl _) rfl rfl hl.1 rfl (lv_room (Nat.le_of_ble_eq_true rfl)) dX0_rowsBy_5 ⟨show cc + (h5.1 - h.1) ≤ u9.1 - u.1 by omega, show ss + (h5.2.1 - h.2.1) ≤ u9.2.1 - u.2.1 by omega⟩) (fun H locs hw => ?_)
      exact hB8 h5 x0 x1 x2 a6 _ _ _ _ _ hm hw (by omega) (by omega) (lv_sub hl [0, 1, 2] rfl)
  rw [m_X0_rowsBy] at hm
  refine lv_aload_n hx hb dX0_rowsBy_0 rfl (lv_at hl 0 rfl) ?_
  refine lv_iload_n hx hb dX0_rowsBy_1 rfl (lv_at hl 1 rfl) ?_
  obtain ⟨g1, hm⟩ := gdE hm
  obtain ⟨a3, h2, ea3, hm⟩ := bd2E hm
  have lh2 := mo_X0_at ea3
  have ph2 : u.1 ≤ h2.1 := lh2.1
  have qh2 : u.2.1 ≤ h2.2.1 := lh2.2.1
  have hmo := mo_X0_rowsBy_5   h2 x0 x1 x2 a3 _ hm
  have sh2 : h2.1 ≤ u9.1 := hmo.1
  have th2 : h2.2.1 ≤ u9.2.1 := hmo.2.1
  refine cg_callr hw lh2 (va_runV (As := [.int x1]) (rest := []) ⟨hx, hb, hml, hown, hts⟩ (w_X0_at l ea3) (cw_X0_at hts q900 ⟨Nat.le_of_ble_eq_true rfl, Nat.le_of_ble_eq_true rfl⟩) (cg_preV C hw g1 rfl _) rfl rfl hl.1 rfl (lv_room (Nat.le_of_ble_eq_true rfl)) dX0_rowsBy_2 ⟨show cc + (h2.1 - u.1) ≤ u9.1 - u.1 by omega, show ss + (h2.2.1 - u.2.1) ≤ u9.2.1 - u.2.1 by omega⟩) (fun H locs hw => ?_)
  exact hB5 h2 x0 x1 x2 a3 _ _ _ _ _ hm hw (by omega) (by omega) (lv_sub hl [0, 1, 2] rfl)
def m_X1_joins_104 (f : Nat) (h : CH) : Option CH := some h
theorem mo_X1_joins_104 {f : Nat} : ∀ (h : CH) (r : CH), m_X1_joins_104 f h = some r → le2 h r := by
  intro h r hm
  rw [m_X1_joins_104] at hm
  cases hm
  exact le2.rf
def m_X1_joins_101 (f : Nat) (k10 : CH → Nat → Int32 → Nat → Option CH) (h : CH) (x0 : Nat) (x1 : Int32) (x2 : Nat) : Option CH := k10 h x0 x1 x2
theorem mo_X1_joins_101 {f : Nat} {k10 : CH → Nat → Int32 → Nat → Option CH} (hk10 : ∀ (h : CH) (x0 : Nat) (x1 : Int32) (x2 : Nat) (r : CH), k10 h x0 x1 x2 = some r → le2 h r) : ∀ (h : CH) (x0 : Nat) (x1 : Int32) (x2 : Nat) (r : CH), m_X1_joins_101 f k10 h x0 x1 x2 = some r → le2 h r := by
  intro h x0 x1 x2 r hm
  rw [m_X1_joins_101] at hm
  exact (hk10 h x0 x1 x2 _ hm)
def m_X1_joins_94 (f : Nat) (k10 : CH → Nat → Int32 → Nat → Option CH) (k35 : CH → Nat → Int32 → Nat → Int64 → Int32 → Option CH) (h : CH) (x0 : Nat) (x1 : Int32) (x2 : Nat) (x3 : Int64) (x5 : Int32) (y0 : Nat) (y1 : Int32) (y2 : Int64) : Option CH := bd (uL h 1 y0 y1 y2) fun h1 =>
    nmv ((x5 + 1) : Int32) fun v2 =>
    k35 h1 x0 x1 x2 x3 v2
theorem mo_X1_joins_94 {f : Nat} {k10 : CH → Nat → Int32 → Nat → Option CH} (hk10 : ∀ (h : CH) (x0 : Nat) (x1 : Int32) (x2 : Nat) (r : CH), k10 h x0 x1 x2 = some r → le2 h r) {k35 : CH → Nat → Int32 → Nat → Int64 → Int32 → Option CH} (hk35 : ∀ (h : CH) (x0 : Nat) (x1 : Int32) (x2 : Nat) (x3 : Int64) (x5 : Int32) (r : CH), k35 h x0 x1 x2 x3 x5 = some r → le2 h r) : ∀ (h : CH) (x0 : Nat) (x1 : Int32) (x2 : Nat) (x3 : Int64) (x5 : Int32) (y0 : Nat) (y1 : Int32) (y2 : Int64) (r : CH), m_X1_joins_94 f k10 k35 h x0 x1 x2 x3 x5 y0 y1 y2 = some r → le2 h r := by
  intro h x0 x1 x2 x3 x5 y0 y1 y2 r hm
  rw [m_X1_joins_94] at hm
  obtain ⟨h1, eh1, hm⟩ := bdE hm
  have lh1 := uL_le eh1
  obtain ⟨v2, ev2, hm⟩ := nmE hm
  exact (lh1.tr (hk35 h1 x0 x1 x2 x3 v2 _ hm))
def m_X1_joins_35 (f : Nat) (k10 : CH → Nat → Int32 → Nat → Option CH) : Nat → CH → Nat → Int32 → Nat → Int64 → Int32 → Option CH
  | 0, _, _, _, _, _, _ => none
  | n35 + 1, h, x0, x1, x2, x3, x5 => if (3 : Int32) ≤ x5 then
    m_X1_joins_101 f k10 h x0 x1 x2
    else bd (aL h 1 x2 x5) fun v2 =>
    bd (oR h 2 1 x0) fun a3 =>
    bd (aL h 1 a3 x5) fun v4 =>
    nmv ((v2 - (x3 * v4)) : Int64) fun v5 =>
    bd (oR h 2 1 x0) fun a6 =>
    bd (aL h 1 a6 x5) fun v7 =>
    bd (uL h 1 x2 x5 v7) fun h8 =>
    bd (oR h8 2 1 x0) fun a9 =>
    if ¬ x5 = x1 then
    bd (oL h8 2 2 x0) fun v11 =>
    bd (m_J9_floorMod f v5 v11) fun r12 =>
    m_X1_joins_94 f k10 (m_X1_joins_35 f k10 n35) h8 x0 x1 x2 x3 x5 a9 x5 r12
    else m_X1_joins_94 f k10 (m_X1_joins_35 f k10 n35) h8 x0 x1 x2 x3 x5 a9 x5 v5
theorem mo_X1_joins_35 {f : Nat} {k10 : CH → Nat → Int32 → Nat → Option CH} (hk10 : ∀ (h : CH) (x0 : Nat) (x1 : Int32) (x2 : Nat) (r : CH), k10 h x0 x1 x2 = some r → le2 h r) : ∀ (n35 : Nat) (h : CH) (x0 : Nat) (x1 : Int32) (x2 : Nat) (x3 : Int64) (x5 : Int32) (r : CH), m_X1_joins_35 f k10 n35 h x0 x1 x2 x3 x5 = some r → le2 h r := by
  intro n35
  induction n35 with
  | zero => intro h x0 x1 x2 x3 x5 r hm; rw [m_X1_joins_35] at hm; exact noE hm
  | succ n35 ihm =>
    intro h x0 x1 x2 x3 x5 r hm
    rw [m_X1_joins_35] at hm
    by_cases c1 : (3 : Int32) ≤ x5
    · have hm := ifT hm c1
      exact (mo_X1_joins_101 hk10 h x0 x1 x2 _ hm)
    · have hm := ifF hm c1
      obtain ⟨v2, ev2, hm⟩ := bdE hm
      obtain ⟨a3, ea3, hm⟩ := bdE hm
      obtain ⟨v4, ev4, hm⟩ := bdE hm
      obtain ⟨v5, ev5, hm⟩ := nmE hm
      obtain ⟨a6, ea6, hm⟩ := bdE hm
      obtain ⟨v7, ev7, hm⟩ := bdE hm
      obtain ⟨h8, eh8, hm⟩ := bdE hm
      have lh8 := uL_le eh8
      obtain ⟨a9, ea9, hm⟩ := bdE hm
      by_cases c10 : ¬ x5 = x1
      · have hm := ifT hm c10
        obtain ⟨v11, ev11, hm⟩ := bdE hm
        obtain ⟨r12, er12, hm⟩ := bdE hm
        exact (lh8.tr (mo_X1_joins_94 hk10 ihm h8 x0 x1 x2 x3 x5 a9 x5 r12 _ hm))
      · have hm := ifF hm c10
        exact (lh8.tr (mo_X1_joins_94 hk10 ihm h8 x0 x1 x2 x3 x5 a9 x5 v5 _ hm))
def m_X1_joins_10 (f : Nat) : Nat → CH → Nat → Int32 → Nat → Option CH
  | 0, _, _, _, _ => none
  | n10 + 1, h, x0, x1, x2 => bd (oR h 2 1 x0) fun a1 =>
    bd (aL h 1 a1 x1) fun v2 =>
    if v2 = (0 : Int64) then
    m_X1_joins_104 f h
    else bd (aL h 1 x2 x1) fun v4 =>
    bd (oR h 2 1 x0) fun a5 =>
    bd (aL h 1 a5 x1) fun v6 =>
    gd (nzL v6) <|
    nmv ((v4 / v6) : Int64) fun v8 =>
    m_X1_joins_35 f (m_X1_joins_10 f n10) f h x0 x1 x2 v8 x1
theorem mo_X1_joins_10 {f : Nat} : ∀ (n10 : Nat) (h : CH) (x0 : Nat) (x1 : Int32) (x2 : Nat) (r : CH), m_X1_joins_10 f n10 h x0 x1 x2 = some r → le2 h r := by
  intro n10
  induction n10 with
  | zero => intro h x0 x1 x2 r hm; rw [m_X1_joins_10] at hm; exact noE hm
  | succ n10 ihm =>
    intro h x0 x1 x2 r hm
    rw [m_X1_joins_10] at hm
    obtain ⟨a1, ea1, hm⟩ := bdE hm
    obtain ⟨v2, ev2, hm⟩ := bdE hm
    by_cases c3 : v2 = (0 : Int64)
    · have hm := ifT hm c3
      exact (mo_X1_joins_104  h _ hm)
    · have hm := ifF hm c3
      obtain ⟨v4, ev4, hm⟩ := bdE hm
      obtain ⟨a5, ea5, hm⟩ := bdE hm
      obtain ⟨v6, ev6, hm⟩ := bdE hm
      obtain ⟨g7, hm⟩ := gdE hm
      obtain ⟨v8, ev8, hm⟩ := nmE hm
      exact (mo_X1_joins_35 ihm f h x0 x1 x2 v8 x1 _ hm)
def m_X1_joins (f : Nat) (u : CH) (x0 : Nat) (x1 : Int32) : Option CH := bd (oR u 2 0 x0) fun a1 =>
    bd (oR u 3 0 a1) fun a2 =>
    bd (aR u 4 a2 x1) fun a3 =>
    m_X1_joins_10 f f u x0 x1 a3
theorem mo_X1_joins {f : Nat} {u : CH} {x0 : Nat} {x1 : Int32} {u9 : CH} (hm : m_X1_joins f u x0 x1 = some u9) : le2 u u9 := by
  rw [m_X1_joins] at hm
  obtain ⟨a1, ea1, hm⟩ := bdE hm
  obtain ⟨a2, ea2, hm⟩ := bdE hm
  obtain ⟨a3, ea3, hm⟩ := bdE hm
  exact (mo_X1_joins_10  f u x0 x1 a3 _ hm)
abbrev rm_X1_joins (mc ms : Nat) : Room := { frames := 1, cells := mc, slots := ms, locals := 25 }
theorem cw_X1_joins {R : Room} {s : State} {args : Array Value} {own : String} {idx mc ms : Nat} (hts : ∀ w ∈ lw_all, w.before args s = true) (hl : Cond.methodLink own idx yX1_joins ∈ lw_all) (hR : 1 + 1 ≤ R.frames ∧ 8 + (8 + 11) + 25 ≤ R.locals) : CallW R s args own RX1 idx yX1_joins cX1_joins 8 (Option.none : Option Jvm.ClassFile.FieldType) (ws_ yX1_joins cX1_joins 8 (Option.none : Option Jvm.ClassFile.FieldType)) (rm_X1_joins mc ms) mc ms 1 := cwV 1 hts (lw_V hl q1133 qs28 q123 q1134) rfl rfl rfl (by decide +kernel) hR
set_option maxHeartbeats 4000000 in
set_option maxRecDepth 100000 in
theorem w_X1_joins (l : Launch) {D : va_G} {dA : Nat → ClassId} {A : Nat → Prop} {f : Nat} {u u9 : CH} {x0 : Nat} {x1 : Int32} (hm : m_X1_joins f u x0 x1 = some u9) : Met l yX1_joins (ws_ yX1_joins cX1_joins 8 (Option.none : Option Jvm.ClassFile.FieldType)) (rm_X1_joins (u9.1 - u.1) (u9.2.1 - u.2.1)) (va_Pc [.ref x0, .int x1] (CPre D dA A u)) (va_Qv (fun u => u = u9) (CPost D dA A) A) (u9.1 - u.1) (u9.2.1 - u.2.1) A := by
  refine Met.ofW (cc := cX1_joins) (maxL := 8) (ret := (Option.none : Option Jvm.ClassFile.FieldType)) (by decide) rfl ?_
  intro p e s m args below meth c s₁ B hml hv
  have hx := B.exec
  have hb := B.bytes
  have hr := B.returns
  have hts := atoms_spec (ws := (ws_ yX1_joins cX1_joins 8 (Option.none : Option Jvm.ClassFile.FieldType))) B.pre
  have hts : ∀ w ∈ lw_all, w.before args s = true := fun w h => hts w (List.mem_cons_of_mem _ h)
  have hown : s.vm.findClass RX1 = some m.cls := findClass_of_methodNamed B.named
  have hlocks := B.notSynchronized
  obtain ⟨hav, hv⟩ := hv
  have C : CX p s m args c cX1_joins RX1 D dA := ⟨hx, hb, hown, hts, hv.2⟩
  have hw : CW D dA A s u s.heap [] := hv.1
  generalize hQ : MQ below (va_Qv (fun u => u = u9) (CPost D dA A) A) args s (u9.1 - u.1) (u9.2.1 - u.2.1) A = QQ
  have hent := lg_entry_eq m [.ref x0, .int x1] 8
  rw [← hav] at hent
  rw [hent]
  have hl := lv_entry ([.ref x0, .int x1]) (n := 8) (Nat.le_of_ble_eq_true rfl)
  generalize (lg_sl ([.ref x0, .int x1]) ++ List.replicate (8 - (lg_sl ([.ref x0, .int x1])).length) Slot.unset).toArray = ls at hl ⊢
  have hl : lv_has ls 8 [(0, .ref x0), (1, .int x1)] := hl
  obtain ⟨cc, ecc⟩ : ∃ z : Nat, z = 0 := ⟨0, rfl⟩
  obtain ⟨ss, ess⟩ : ∃ z : Nat, z = 0 := ⟨0, rfl⟩
  have hcc : cc + u.1 = u.1 := by omega
  have hss : ss + u.2.1 = u.2.1 := by omega
  suffices hgo : W p l e (rm_X1_joins (u9.1 - u.1) (u9.2.1 - u.2.1)) s m args below meth c s.heap [] cc ss QQ (F0 m 0 ls []) by rw [ecc, ess] at hgo; exact hgo
  have ⟨pu, qu, _, _⟩ := mo_X1_joins hm
  have hB104 : ∀ (h : CH) (cc ss : Nat) (H : Heap) (locs : List Loc) (ls : Array Slot), m_X1_joins_104 f h = some u9 → CW D dA A s h H locs → cc + u.1 = h.1 → ss + u.2.1 = h.2.1 → lv_has ls 8 [] → W p l e (rm_X1_joins (u9.1 - u.1) (u9.2.1 - u.2.1)) s m args below meth c H locs cc ss QQ (F0 m 104 ls []) := by
    intro h cc ss H locs ls hm hw hcc hss hl
    have hmo := mo_X1_joins_104  h _ hm
    have sb_ : h.1 ≤ u9.1 := hmo.1
    have tb_ : h.2.1 ≤ u9.2.1 := hmo.2.1
    rw [m_X1_joins_104] at hm
    have eh := ret1 hm
    have ec : cc = u9.1 - u.1 := by rw [← eh]; omega
    have es : ss = u9.2.1 - u.2.1 := by rw [← eh]; omega
    rw [ec, es, ← hQ]
    exact W.vret hx hb hr (fun t ht hW => ⟨⟨h, rfl, eh, ⟨by rw [ht]; exact hw.1, by rw [ht]; exact hw.2.1⟩⟩, hw.2.2.1.F ht⟩) hw.2.2.1.2.2 dX1_joins_104
  have hB10 : ∀ (n10 : Nat), ∀ (h : CH) (x0 : Nat) (x1 : Int32) (x2 : Nat) (cc ss : Nat) (H : Heap) (locs : List Loc) (ls : Array Slot), m_X1_joins_10 f n10 h x0 x1 x2 = some u9 → CW D dA A s h H locs → cc + u.1 = h.1 → ss + u.2.1 = h.2.1 → lv_has ls 8 [(0, .ref x0), (1, .int x1), (2, .ref x2)] → W p l e (rm_X1_joins (u9.1 - u.1) (u9.2.1 - u.2.1)) s m args below meth c H locs cc ss QQ (F0 m 10 ls []) := by
    intro n10
    induction n10 with
    | zero => intro h x0 x1 x2 cc ss H locs ls hm hw hcc hss hl; rw [m_X1_joins_10] at hm; exact noE hm
    | succ n10 ih10 =>
      have hB101 : ∀ (h : CH) (x0 : Nat) (x1 : Int32) (x2 : Nat) (cc ss : Nat) (H : Heap) (locs : List Loc) (ls : Array Slot), m_X1_joins_101 f (m_X1_joins_10 f n10) h x0 x1 x2 = some u9 → CW D dA A s h H locs → cc + u.1 = h.1 → ss + u.2.1 = h.2.1 → lv_has ls 8 [(0, .ref x0), (1, .int x1), (2, .ref x2)] → W p l e (rm_X1_joins (u9.1 - u.1) (u9.2.1 - u.2.1)) s m args below meth c H locs cc ss QQ (F0 m 101 ls []) := by
        intro h x0 x1 x2 cc ss H locs ls hm hw hcc hss hl
        have hmo := mo_X1_joins_101 (mo_X1_joins_10 n10) h x0 x1 x2 _ hm
        have sb_ : h.1 ≤ u9.1 := hmo.1
        have tb_ : h.2.1 ≤ u9.2.1 := hmo.2.1
        rw [m_X1_joins_101] at hm
        refine lv_goto (tgt := 10) hx hb dX1_joins_101 (by decide) ?_
        exact ih10 h x0 x1 x2 _ _ _ _ _ hm hw (by omega) (by omega) (lv_sub hl [0, 1, 2] rfl)
      have hB35 : ∀ (n35 : Nat), ∀ (h : CH) (x0 : Nat) (x1 : Int32) (x2 : Nat) (x3 : Int64) (x5 : Int32) (cc ss : Nat) (H : Heap) (locs : List Loc) (ls : Array Slot), m_X1_joins_35 f (m_X1_joins_10 f n10) n35 h x0 x1 x2 x3 x5 = some u9 → CW D dA A s h H locs → cc + u.1 = h.1 → ss + u.2.1 = h.2.1 → lv_has ls 8 [(0, .ref x0), (1, .int x1), (2, .ref x2), (3, .long x3), (5, .int x5)] → W p l e (rm_X1_joins (u9.1 - u.1) (u9.2.1 - u.2.1)) s m args below meth c H locs cc ss QQ (F0 m 35 ls []) := by
        intro n35
        induction n35 with
        | zero => intro h x0 x1 x2 x3 x5 cc ss H locs ls hm hw hcc hss hl; rw [m_X1_joins_35] at hm; exact noE hm
        | succ n35 ih35 =>
          have hB94 : ∀ (h : CH) (x0 : Nat) (x1 : Int32) (x2 : Nat) (x3 : Int64) (x5 : Int32) (y0 : Nat) (y1 : Int32) (y2 : Int64) (cc ss : Nat) (H : Heap) (locs : List Loc) (ls : Array Slot), m_X1_joins_94 f (m_X1_joins_10 f n10) (m_X1_joins_35 f (m_X1_joins_10 f n10) n35) h x0 x1 x2 x3 x5 y0 y1 y2 = some u9 → CW D dA A s h H locs → cc + u.1 = h.1 → ss + u.2.1 = h.2.1 → lv_has ls 8 [(0, .ref x0), (1, .int x1), (2, .ref x2), (3, .long x3), (5, .int x5)] → W p l e (rm_X1_joins (u9.1 - u.1) (u9.2.1 - u.2.1)) s m args below meth c H locs cc ss QQ (F0 m 94 ls [.long y2, .int y1, .ref y0]) := by
            intro h x0 x1 x2 x3 x5 y0 y1 y2 cc ss H locs ls hm hw hcc hss hl
            have hmo := mo_X1_joins_94 (mo_X1_joins_10 n10) (mo_X1_joins_35 (mo_X1_joins_10 n10) n35) h x0 x1 x2 x3 x5 y0 y1 y2 _ hm
            have sb_ : h.1 ≤ u9.1 := hmo.1
            have tb_ : h.2.1 ≤ u9.2.1 := hmo.2.1
            rw [m_X1_joins_94] at hm
            obtain ⟨h1, eh1, hm⟩ := bdE hm
            refine cg_last C hw eh1 dX1_joins_94 (fun H locs hw => ?_)
            have zh1 := uL_sz eh1
            obtain ⟨v2, ev2, hm⟩ := nmE hm
            refine lv_iinc (v := v2) (lv' := [(5, .int v2), (0, .ref x0), (1, .int x1), (2, .ref x2), (3, .long x3)]) hx hb dX1_joins_95 hl (k := 4) rfl (by rw [ev2]; rfl) (by decide) rfl (fun ls hl => ?_)
            refine lv_goto (tgt := 35) hx hb dX1_joins_98 (by decide) ?_
            exact ih35 h1 x0 x1 x2 x3 v2 _ _ _ _ _ hm hw (by omega) (by omega) (lv_sub hl [1, 2, 3, 4, 0] rfl)
          intro h x0 x1 x2 x3 x5 cc ss H locs ls hm hw hcc hss hl
          have hmo := mo_X1_joins_35 (mo_X1_joins_10 n10) (n35 + 1) h x0 x1 x2 x3 x5 _ hm
          have sb_ : h.1 ≤ u9.1 := hmo.1
          have tb_ : h.2.1 ≤ u9.2.1 := hmo.2.1
          rw [m_X1_joins_35] at hm
          refine lv_iload hx hb dX1_joins_35 (lv_at hl 4 rfl) ?_
          refine lv_iconst (v := 3) hx hb dX1_joins_37 (by decide) ?_
          refine lv_icmp_ge (tgt := 101) hx hb dX1_joins_38 (by decide) (fun c1 => ?_) (fun c1 => ?_)
          · have hm := ifT hm c1
            exact hB101 h x0 x1 x2 _ _ _ _ _ hm hw (by omega) (by omega) (lv_sub hl [0, 1, 2] rfl)
          · have hm := ifF hm c1
            refine lv_aload_n hx hb dX1_joins_41 rfl (lv_at hl 2 rfl) ?_
            refine lv_iload hx hb dX1_joins_42 (lv_at hl 4 rfl) ?_
            obtain ⟨v2, ev2, hm⟩ := bdE hm
            refine cg_lald C hw ev2 dX1_joins_44 ?_
            refine lv_lload_n hx hb dX1_joins_45 rfl (lv_at hl 3 rfl) ?_
            refine lv_aload_n hx hb dX1_joins_46 rfl (lv_at hl 0 rfl) ?_
            obtain ⟨a3, ea3, hm⟩ := bdE hm
            refine cg_get C hw (oR_E ea3) rfl in_X1 (by decide) q224 dX1_joins_47 ?_
            refine lv_iload hx hb dX1_joins_50 (lv_at hl 4 rfl) ?_
            obtain ⟨v4, ev4, hm⟩ := bdE hm
            refine cg_lald C hw ev4 dX1_joins_52 ?_
            refine lv_lmul hx hb dX1_joins_53 ?_
            refine lv_lsub hx hb dX1_joins_54 ?_
            refine lv_topl (fun v5 ev5 => ?_)
            have hm := nmK hm ev5
            refine lv_lstore (lv' := [(6, .long v5), (0, .ref x0), (1, .int x1), (2, .ref x2), (3, .long x3), (5, .int x5)]) hx hb dX1_joins_55 hl (by decide) rfl (fun ls hl => ?_)
            refine lv_aload_n hx hb dX1_joins_57 rfl (lv_at hl 3 rfl) ?_
            refine lv_iload hx hb dX1_joins_58 (lv_at hl 5 rfl) ?_
            refine lv_aload_n hx hb dX1_joins_60 rfl (lv_at hl 1 rfl) ?_
            obtain ⟨a6, ea6, hm⟩ := bdE hm
            refine cg_get C hw (oR_E ea6) rfl in_X1 (by decide) q224 dX1_joins_61 ?_
            refine lv_iload hx hb dX1_joins_64 (lv_at hl 5 rfl) ?_
            obtain ⟨v7, ev7, hm⟩ := bdE hm
            refine cg_lald C hw ev7 dX1_joins_66 ?_
            obtain ⟨h8, eh8, hm⟩ := bdE hm
            refine cg_last C hw eh8 dX1_joins_67 (fun H locs hw => ?_)
            have zh8 := uL_sz eh8
            refine lv_aload_n hx hb dX1_joins_68 rfl (lv_at hl 1 rfl) ?_
            obtain ⟨a9, ea9, hm⟩ := bdE hm
            refine cg_get C hw (oR_E ea9) rfl in_X1 (by decide) q224 dX1_joins_69 ?_
            refine lv_iload hx hb dX1_joins_72 (lv_at hl 5 rfl) ?_
            refine lv_iload hx hb dX1_joins_74 (lv_at hl 5 rfl) ?_
            refine lv_iload_n hx hb dX1_joins_76 rfl (lv_at hl 2 rfl) ?_
            refine lv_icmp_ne (tgt := 85) hx hb dX1_joins_77 (by decide) (fun c10 => ?_) (fun c10 => ?_)
            · have hm := ifT hm c10
              refine lv_lload hx hb dX1_joins_85 (lv_at hl 0 rfl) ?_
              refine lv_aload_n hx hb dX1_joins_87 rfl (lv_at hl 1 rfl) ?_
              obtain ⟨v11, ev11, hm⟩ := bdE hm
              refine cg_get C hw (oL_E ev11) rfl in_X1 (by decide) q225 dX1_joins_88 ?_
              obtain ⟨r12, er12, hm⟩ := bdE hm
              refine scl (va_runS (As := [.long v5, .long v11]) (rest := [.int x5, .ref a9]) ⟨hx, hb, hml, hown, hts⟩ (w_J9_floorMod l er12) (cw_J9_floorMod hts q1128 ⟨Nat.le_of_ble_eq_true rfl, Nat.le_of_ble_eq_true rfl⟩) (pre_s _) rfl rfl hl.1 rfl (lv_room (Nat.le_of_ble_eq_true rfl)) dX1_joins_91 ⟨show cc + 0 ≤ u9.1 - u.1 by omega, show ss + 0 ≤ u9.2.1 - u.2.1 by omega⟩) ?_
              exact hB94 h8 x0 x1 x2 x3 x5 a9 x5 r12 _ _ _ _ _ hm hw (by omega) (by omega) (lv_sub hl [1, 2, 3, 4, 5] rfl)
            · have hm := ifT' hm c10
              refine lv_lload hx hb dX1_joins_80 (lv_at hl 0 rfl) ?_
              refine lv_goto (tgt := 94) hx hb dX1_joins_82 (by decide) ?_
              exact hB94 h8 x0 x1 x2 x3 x5 a9 x5 v5 _ _ _ _ _ hm hw (by omega) (by omega) (lv_sub hl [1, 2, 3, 4, 5] rfl)
      intro h x0 x1 x2 cc ss H locs ls hm hw hcc hss hl
      have hmo := mo_X1_joins_10  (n10 + 1) h x0 x1 x2 _ hm
      have sb_ : h.1 ≤ u9.1 := hmo.1
      have tb_ : h.2.1 ≤ u9.2.1 := hmo.2.1
      rw [m_X1_joins_10] at hm
      refine lv_aload_n hx hb dX1_joins_10 rfl (lv_at hl 0 rfl) ?_
      obtain ⟨a1, ea1, hm⟩ := bdE hm
      refine cg_get C hw (oR_E ea1) rfl in_X1 (by decide) q224 dX1_joins_11 ?_
      refine lv_iload_n hx hb dX1_joins_14 rfl (lv_at hl 1 rfl) ?_
      obtain ⟨v2, ev2, hm⟩ := bdE hm
      refine cg_lald C hw ev2 dX1_joins_15 ?_
      refine lv_lconst (v := 0) hx hb dX1_joins_16 (by decide) ?_
      refine lc_eq (tgt := 104) hx hb dX1_joins_17 dX1_joins_18 (by decide) (fun c3 => ?_) (fun c3 => ?_)
      · have hm := ifT hm c3
        exact hB104 h _ _ _ _ _ hm hw (by omega) (by omega) (lv_sub hl [] rfl)
      · have hm := ifF hm c3
        refine lv_aload_n hx hb dX1_joins_21 rfl (lv_at hl 2 rfl) ?_
        refine lv_iload_n hx hb dX1_joins_22 rfl (lv_at hl 1 rfl) ?_
        obtain ⟨v4, ev4, hm⟩ := bdE hm
        refine cg_lald C hw ev4 dX1_joins_23 ?_
        refine lv_aload_n hx hb dX1_joins_24 rfl (lv_at hl 0 rfl) ?_
        obtain ⟨a5, ea5, hm⟩ := bdE hm
        refine cg_get C hw (oR_E ea5) rfl in_X1 (by decide) q224 dX1_joins_25 ?_
        refine lv_iload_n hx hb dX1_joins_28 rfl (lv_at hl 1 rfl) ?_
        obtain ⟨v6, ev6, hm⟩ := bdE hm
        refine cg_lald C hw ev6 dX1_joins_29 ?_
        obtain ⟨g7, hm⟩ := gdE hm
        refine lv_ldiv hx hb dX1_joins_30 (nzL_ne g7) ?_
        refine lv_topl (fun v8 ev8 => ?_)
        have hm := nmK hm ev8
        refine lv_lstore_n (lv' := [(3, .long v8), (0, .ref x0), (1, .int x1), (2, .ref x2)]) hx hb dX1_joins_31 rfl hl (by decide) rfl (fun ls hl => ?_)
        refine lv_iload_n hx hb dX1_joins_32 rfl (lv_at hl 2 rfl) ?_
        refine lv_istore (lv' := [(5, .int x1), (3, .long v8), (0, .ref x0), (1, .int x1), (2, .ref x2)]) hx hb dX1_joins_33 hl (by decide) rfl (fun ls hl => ?_)
        exact hB35 f h x0 x1 x2 v8 x1 _ _ _ _ _ hm hw (by omega) (by omega) (lv_sub hl [2, 3, 4, 1, 0] rfl)
  rw [m_X1_joins] at hm
  refine lv_aload_n hx hb dX1_joins_0 rfl (lv_at hl 0 rfl) ?_
  obtain ⟨a1, ea1, hm⟩ := bdE hm
  refine cg_get C hw (oR_E ea1) rfl in_X1 (by decide) q222 dX1_joins_1 ?_
  obtain ⟨a2, ea2, hm⟩ := bdE hm
  refine cg_getN C hw (by decide) (oR_E ea2) rfl in_X2 (by decide) (hw.2.2.2.2.1 _ (List.mem_of_getElem? (i := 40) rfl)) dX1_joins_4 ?_
  refine lv_iload_n hx hb dX1_joins_7 rfl (lv_at hl 1 rfl) ?_
  obtain ⟨a3, ea3, hm⟩ := bdE hm
  refine cg_aaldA C hw (ty := .array .long) rfl rfl (aR_E ea3) dX1_joins_8 ?_
  refine lv_astore_n (lv' := [(2, .ref a3), (0, .ref x0), (1, .int x1)]) hx hb dX1_joins_9 rfl hl (by decide) rfl (fun ls hl => ?_)
  exact hB10 f u x0 x1 a3 _ _ _ _ _ hm hw (by omega) (by omega) (lv_sub hl [1, 2, 0] rfl)
def m_X1_orders_96 (f : Nat) (h : CH) : Option CH := some h
theorem mo_X1_orders_96 {f : Nat} : ∀ (h : CH) (r : CH), m_X1_orders_96 f h = some r → le2 h r := by
  intro h r hm
  rw [m_X1_orders_96] at hm
  cases hm
  exact le2.rf
def m_X1_orders_90 (f : Nat) (k2 : CH → Nat → Int32 → Option CH) (h : CH) (x0 : Nat) (x1 : Int32) : Option CH := nmv ((x1 + 1) : Int32) fun v1 =>
    k2 h x0 v1
theorem mo_X1_orders_90 {f : Nat} {k2 : CH → Nat → Int32 → Option CH} (hk2 : ∀ (h : CH) (x0 : Nat) (x1 : Int32) (r : CH), k2 h x0 x1 = some r → le2 h r) : ∀ (h : CH) (x0 : Nat) (x1 : Int32) (r : CH), m_X1_orders_90 f k2 h x0 x1 = some r → le2 h r := by
  intro h x0 x1 r hm
  rw [m_X1_orders_90] at hm
  obtain ⟨v1, ev1, hm⟩ := nmE hm
  exact (hk2 h x0 v1 _ hm)
def m_X1_orders_84 (f : Nat) (k2 : CH → Nat → Int32 → Option CH) (k9 : CH → Nat → Int32 → Int32 → Option CH) (h : CH) (x0 : Nat) (x1 : Int32) (x2 : Int32) : Option CH := nmv ((x2 + 1) : Int32) fun v1 =>
    k9 h x0 x1 v1
theorem mo_X1_orders_84 {f : Nat} {k2 : CH → Nat → Int32 → Option CH} (hk2 : ∀ (h : CH) (x0 : Nat) (x1 : Int32) (r : CH), k2 h x0 x1 = some r → le2 h r) {k9 : CH → Nat → Int32 → Int32 → Option CH} (hk9 : ∀ (h : CH) (x0 : Nat) (x1 : Int32) (x2 : Int32) (r : CH), k9 h x0 x1 x2 = some r → le2 h r) : ∀ (h : CH) (x0 : Nat) (x1 : Int32) (x2 : Int32) (r : CH), m_X1_orders_84 f k2 k9 h x0 x1 x2 = some r → le2 h r := by
  intro h x0 x1 x2 r hm
  rw [m_X1_orders_84] at hm
  obtain ⟨v1, ev1, hm⟩ := nmE hm
  exact (hk9 h x0 x1 v1 _ hm)
def m_X1_orders_43 (f : Nat) (k2 : CH → Nat → Int32 → Option CH) (k9 : CH → Nat → Int32 → Int32 → Option CH) : Nat → CH → Nat → Int32 → Int32 → Int64 → Int32 → Option CH
  | 0, _, _, _, _, _, _ => none
  | n43 + 1, h, x0, x1, x2, x3, x5 => if (3 : Int32) ≤ x5 then
    m_X1_orders_84 f k2 k9 h x0 x1 x2
    else bd (oR h 2 0 x0) fun a2 =>
    bd (oR h 3 0 a2) fun a3 =>
    bd (aR h 4 a3 x2) fun a4 =>
    bd (aL h 1 a4 x5) fun v5 =>
    bd (oR h 2 0 x0) fun a6 =>
    bd (oR h 3 0 a6) fun a7 =>
    bd (aR h 4 a7 x1) fun a8 =>
    bd (aL h 1 a8 x5) fun v9 =>
    bd (uL h 1 a4 x5 (v5 - (x3 * v9))) fun h10 =>
    nmv ((x5 + 1) : Int32) fun v11 =>
    m_X1_orders_43 f k2 k9 n43 h10 x0 x1 x2 x3 v11
theorem mo_X1_orders_43 {f : Nat} {k2 : CH → Nat → Int32 → Option CH} (hk2 : ∀ (h : CH) (x0 : Nat) (x1 : Int32) (r : CH), k2 h x0 x1 = some r → le2 h r) {k9 : CH → Nat → Int32 → Int32 → Option CH} (hk9 : ∀ (h : CH) (x0 : Nat) (x1 : Int32) (x2 : Int32) (r : CH), k9 h x0 x1 x2 = some r → le2 h r) : ∀ (n43 : Nat) (h : CH) (x0 : Nat) (x1 : Int32) (x2 : Int32) (x3 : Int64) (x5 : Int32) (r : CH), m_X1_orders_43 f k2 k9 n43 h x0 x1 x2 x3 x5 = some r → le2 h r := by
  intro n43
  induction n43 with
  | zero => intro h x0 x1 x2 x3 x5 r hm; rw [m_X1_orders_43] at hm; exact noE hm
  | succ n43 ihm =>
    intro h x0 x1 x2 x3 x5 r hm
    rw [m_X1_orders_43] at hm
    by_cases c1 : (3 : Int32) ≤ x5
    · have hm := ifT hm c1
      exact (mo_X1_orders_84 hk2 hk9 h x0 x1 x2 _ hm)
    · have hm := ifF hm c1
      obtain ⟨a2, ea2, hm⟩ := bdE hm
      obtain ⟨a3, ea3, hm⟩ := bdE hm
      obtain ⟨a4, ea4, hm⟩ := bdE hm
      obtain ⟨v5, ev5, hm⟩ := bdE hm
      obtain ⟨a6, ea6, hm⟩ := bdE hm
      obtain ⟨a7, ea7, hm⟩ := bdE hm
      obtain ⟨a8, ea8, hm⟩ := bdE hm
      obtain ⟨v9, ev9, hm⟩ := bdE hm
      obtain ⟨h10, eh10, hm⟩ := bdE hm
      have lh10 := uL_le eh10
      obtain ⟨v11, ev11, hm⟩ := nmE hm
      exact (lh10.tr (ihm h10 x0 x1 x2 x3 v11 _ hm))
def m_X1_orders_9 (f : Nat) (k2 : CH → Nat → Int32 → Option CH) : Nat → CH → Nat → Int32 → Int32 → Option CH
  | 0, _, _, _, _ => none
  | n9 + 1, h, x0, x1, x2 => if x1 ≤ x2 then
    m_X1_orders_90 f k2 h x0 x1
    else bd (oR h 2 0 x0) fun a2 =>
    bd (oR h 3 0 a2) fun a3 =>
    bd (aR h 4 a3 x2) fun a4 =>
    bd (aL h 1 a4 x1) fun v5 =>
    bd (oR h 2 0 x0) fun a6 =>
    bd (oR h 3 0 a6) fun a7 =>
    bd (aR h 4 a7 x1) fun a8 =>
    bd (aL h 1 a8 x1) fun v9 =>
    bd (m_J9_floorDiv f v5 v9) fun r10 =>
    m_X1_orders_43 f k2 (m_X1_orders_9 f k2 n9) f h x0 x1 x2 r10 x1
theorem mo_X1_orders_9 {f : Nat} {k2 : CH → Nat → Int32 → Option CH} (hk2 : ∀ (h : CH) (x0 : Nat) (x1 : Int32) (r : CH), k2 h x0 x1 = some r → le2 h r) : ∀ (n9 : Nat) (h : CH) (x0 : Nat) (x1 : Int32) (x2 : Int32) (r : CH), m_X1_orders_9 f k2 n9 h x0 x1 x2 = some r → le2 h r := by
  intro n9
  induction n9 with
  | zero => intro h x0 x1 x2 r hm; rw [m_X1_orders_9] at hm; exact noE hm
  | succ n9 ihm =>
    intro h x0 x1 x2 r hm
    rw [m_X1_orders_9] at hm
    by_cases c1 : x1 ≤ x2
    · have hm := ifT hm c1
      exact (mo_X1_orders_90 hk2 h x0 x1 _ hm)
    · have hm := ifF hm c1
      obtain ⟨a2, ea2, hm⟩ := bdE hm
      obtain ⟨a3, ea3, hm⟩ := bdE hm
      obtain ⟨a4, ea4, hm⟩ := bdE hm
      obtain ⟨v5, ev5, hm⟩ := bdE hm
      obtain ⟨a6, ea6, hm⟩ := bdE hm
      obtain ⟨a7, ea7, hm⟩ := bdE hm
      obtain ⟨a8, ea8, hm⟩ := bdE hm
      obtain ⟨v9, ev9, hm⟩ := bdE hm
      obtain ⟨r10, er10, hm⟩ := bdE hm
      exact (mo_X1_orders_43 hk2 ihm f h x0 x1 x2 r10 x1 _ hm)
def m_X1_orders_2 (f : Nat) : Nat → CH → Nat → Int32 → Option CH
  | 0, _, _, _ => none
  | n2 + 1, h, x0, x1 => if (3 : Int32) ≤ x1 then
    m_X1_orders_96 f h
    else m_X1_orders_9 f (m_X1_orders_2 f n2) f h x0 x1 (0 : Int32)
theorem mo_X1_orders_2 {f : Nat} : ∀ (n2 : Nat) (h : CH) (x0 : Nat) (x1 : Int32) (r : CH), m_X1_orders_2 f n2 h x0 x1 = some r → le2 h r := by
  intro n2
  induction n2 with
  | zero => intro h x0 x1 r hm; rw [m_X1_orders_2] at hm; exact noE hm
  | succ n2 ihm =>
    intro h x0 x1 r hm
    rw [m_X1_orders_2] at hm
    by_cases c1 : (3 : Int32) ≤ x1
    · have hm := ifT hm c1
      exact (mo_X1_orders_96  h _ hm)
    · have hm := ifF hm c1
      exact (mo_X1_orders_9 ihm f h x0 x1 (0 : Int32) _ hm)
def m_X1_orders (f : Nat) (u : CH) (x0 : Nat) : Option CH := m_X1_orders_2 f f u x0 (0 : Int32)
theorem mo_X1_orders {f : Nat} {u : CH} {x0 : Nat} {u9 : CH} (hm : m_X1_orders f u x0 = some u9) : le2 u u9 := by
  rw [m_X1_orders] at hm
  exact (mo_X1_orders_2  f u x0 (0 : Int32) _ hm)
abbrev rm_X1_orders (mc ms : Nat) : Room := { frames := 1, cells := mc, slots := ms, locals := 25 }
theorem cw_X1_orders {R : Room} {s : State} {args : Array Value} {own : String} {idx mc ms : Nat} (hts : ∀ w ∈ lw_all, w.before args s = true) (hl : Cond.methodLink own idx yX1_orders ∈ lw_all) (hR : 1 + 1 ≤ R.frames ∧ 8 + (6 + 11) + 25 ≤ R.locals) : CallW R s args own RX1 idx yX1_orders cX1_orders 6 (Option.none : Option Jvm.ClassFile.FieldType) (ws_ yX1_orders cX1_orders 6 (Option.none : Option Jvm.ClassFile.FieldType)) (rm_X1_orders mc ms) mc ms 0 := cwV 0 hts (lw_V hl q1137 qs29 q123 q1138) rfl rfl rfl (by decide +kernel) hR
set_option maxHeartbeats 4000000 in
set_option maxRecDepth 100000 in
theorem w_X1_orders (l : Launch) {D : va_G} {dA : Nat → ClassId} {A : Nat → Prop} {f : Nat} {u u9 : CH} {x0 : Nat} (hm : m_X1_orders f u x0 = some u9) : Met l yX1_orders (ws_ yX1_orders cX1_orders 6 (Option.none : Option Jvm.ClassFile.FieldType)) (rm_X1_orders (u9.1 - u.1) (u9.2.1 - u.2.1)) (va_Pc [.ref x0] (CPre D dA A u)) (va_Qv (fun u => u = u9) (CPost D dA A) A) (u9.1 - u.1) (u9.2.1 - u.2.1) A := by
  refine Met.ofW (cc := cX1_orders) (maxL := 6) (ret := (Option.none : Option Jvm.ClassFile.FieldType)) (by decide) rfl ?_
  intro p e s m args below meth c s₁ B hml hv
  have hx := B.exec
  have hb := B.bytes
  have hr := B.returns
  have hts := atoms_spec (ws := (ws_ yX1_orders cX1_orders 6 (Option.none : Option Jvm.ClassFile.FieldType))) B.pre
  have hts : ∀ w ∈ lw_all, w.before args s = true := fun w h => hts w (List.mem_cons_of_mem _ h)
  have hown : s.vm.findClass RX1 = some m.cls := findClass_of_methodNamed B.named
  have hlocks := B.notSynchronized
  obtain ⟨hav, hv⟩ := hv
  have C : CX p s m args c cX1_orders RX1 D dA := ⟨hx, hb, hown, hts, hv.2⟩
  have hw : CW D dA A s u s.heap [] := hv.1
  generalize hQ : MQ below (va_Qv (fun u => u = u9) (CPost D dA A) A) args s (u9.1 - u.1) (u9.2.1 - u.2.1) A = QQ
  have hent := lg_entry_eq m [.ref x0] 6
  rw [← hav] at hent
  rw [hent]
  have hl := lv_entry ([.ref x0]) (n := 6) (Nat.le_of_ble_eq_true rfl)
  generalize (lg_sl ([.ref x0]) ++ List.replicate (6 - (lg_sl ([.ref x0])).length) Slot.unset).toArray = ls at hl ⊢
  have hl : lv_has ls 6 [(0, .ref x0)] := hl
  obtain ⟨cc, ecc⟩ : ∃ z : Nat, z = 0 := ⟨0, rfl⟩
  obtain ⟨ss, ess⟩ : ∃ z : Nat, z = 0 := ⟨0, rfl⟩
  have hcc : cc + u.1 = u.1 := by omega
  have hss : ss + u.2.1 = u.2.1 := by omega
  suffices hgo : W p l e (rm_X1_orders (u9.1 - u.1) (u9.2.1 - u.2.1)) s m args below meth c s.heap [] cc ss QQ (F0 m 0 ls []) by rw [ecc, ess] at hgo; exact hgo
  have ⟨pu, qu, _, _⟩ := mo_X1_orders hm
  have hB96 : ∀ (h : CH) (cc ss : Nat) (H : Heap) (locs : List Loc) (ls : Array Slot), m_X1_orders_96 f h = some u9 → CW D dA A s h H locs → cc + u.1 = h.1 → ss + u.2.1 = h.2.1 → lv_has ls 6 [] → W p l e (rm_X1_orders (u9.1 - u.1) (u9.2.1 - u.2.1)) s m args below meth c H locs cc ss QQ (F0 m 96 ls []) := by
    intro h cc ss H locs ls hm hw hcc hss hl
    have hmo := mo_X1_orders_96  h _ hm
    have sb_ : h.1 ≤ u9.1 := hmo.1
    have tb_ : h.2.1 ≤ u9.2.1 := hmo.2.1
    rw [m_X1_orders_96] at hm
    have eh := ret1 hm
    have ec : cc = u9.1 - u.1 := by rw [← eh]; omega
    have es : ss = u9.2.1 - u.2.1 := by rw [← eh]; omega
    rw [ec, es, ← hQ]
    exact W.vret hx hb hr (fun t ht hW => ⟨⟨h, rfl, eh, ⟨by rw [ht]; exact hw.1, by rw [ht]; exact hw.2.1⟩⟩, hw.2.2.1.F ht⟩) hw.2.2.1.2.2 dX1_orders_96
  have hB2 : ∀ (n2 : Nat), ∀ (h : CH) (x0 : Nat) (x1 : Int32) (cc ss : Nat) (H : Heap) (locs : List Loc) (ls : Array Slot), m_X1_orders_2 f n2 h x0 x1 = some u9 → CW D dA A s h H locs → cc + u.1 = h.1 → ss + u.2.1 = h.2.1 → lv_has ls 6 [(0, .ref x0), (1, .int x1)] → W p l e (rm_X1_orders (u9.1 - u.1) (u9.2.1 - u.2.1)) s m args below meth c H locs cc ss QQ (F0 m 2 ls []) := by
    intro n2
    induction n2 with
    | zero => intro h x0 x1 cc ss H locs ls hm hw hcc hss hl; rw [m_X1_orders_2] at hm; exact noE hm
    | succ n2 ih2 =>
      have hB90 : ∀ (h : CH) (x0 : Nat) (x1 : Int32) (cc ss : Nat) (H : Heap) (locs : List Loc) (ls : Array Slot), m_X1_orders_90 f (m_X1_orders_2 f n2) h x0 x1 = some u9 → CW D dA A s h H locs → cc + u.1 = h.1 → ss + u.2.1 = h.2.1 → lv_has ls 6 [(0, .ref x0), (1, .int x1)] → W p l e (rm_X1_orders (u9.1 - u.1) (u9.2.1 - u.2.1)) s m args below meth c H locs cc ss QQ (F0 m 90 ls []) := by
        intro h x0 x1 cc ss H locs ls hm hw hcc hss hl
        have hmo := mo_X1_orders_90 (mo_X1_orders_2 n2) h x0 x1 _ hm
        have sb_ : h.1 ≤ u9.1 := hmo.1
        have tb_ : h.2.1 ≤ u9.2.1 := hmo.2.1
        rw [m_X1_orders_90] at hm
        obtain ⟨v1, ev1, hm⟩ := nmE hm
        refine lv_iinc (v := v1) (lv' := [(1, .int v1), (0, .ref x0)]) hx hb dX1_orders_90 hl (k := 1) rfl (by rw [ev1]; rfl) (by decide) rfl (fun ls hl => ?_)
        refine lv_goto (tgt := 2) hx hb dX1_orders_93 (by decide) ?_
        exact ih2 h x0 v1 _ _ _ _ _ hm hw (by omega) (by omega) (lv_sub hl [1, 0] rfl)
      have hB9 : ∀ (n9 : Nat), ∀ (h : CH) (x0 : Nat) (x1 : Int32) (x2 : Int32) (cc ss : Nat) (H : Heap) (locs : List Loc) (ls : Array Slot), m_X1_orders_9 f (m_X1_orders_2 f n2) n9 h x0 x1 x2 = some u9 → CW D dA A s h H locs → cc + u.1 = h.1 → ss + u.2.1 = h.2.1 → lv_has ls 6 [(0, .ref x0), (1, .int x1), (2, .int x2)] → W p l e (rm_X1_orders (u9.1 - u.1) (u9.2.1 - u.2.1)) s m args below meth c H locs cc ss QQ (F0 m 9 ls []) := by
        intro n9
        induction n9 with
        | zero => intro h x0 x1 x2 cc ss H locs ls hm hw hcc hss hl; rw [m_X1_orders_9] at hm; exact noE hm
        | succ n9 ih9 =>
          have hB84 : ∀ (h : CH) (x0 : Nat) (x1 : Int32) (x2 : Int32) (cc ss : Nat) (H : Heap) (locs : List Loc) (ls : Array Slot), m_X1_orders_84 f (m_X1_orders_2 f n2) (m_X1_orders_9 f (m_X1_orders_2 f n2) n9) h x0 x1 x2 = some u9 → CW D dA A s h H locs → cc + u.1 = h.1 → ss + u.2.1 = h.2.1 → lv_has ls 6 [(0, .ref x0), (1, .int x1), (2, .int x2)] → W p l e (rm_X1_orders (u9.1 - u.1) (u9.2.1 - u.2.1)) s m args below meth c H locs cc ss QQ (F0 m 84 ls []) := by
            intro h x0 x1 x2 cc ss H locs ls hm hw hcc hss hl
            have hmo := mo_X1_orders_84 (mo_X1_orders_2 n2) (mo_X1_orders_9 (mo_X1_orders_2 n2) n9) h x0 x1 x2 _ hm
            have sb_ : h.1 ≤ u9.1 := hmo.1
            have tb_ : h.2.1 ≤ u9.2.1 := hmo.2.1
            rw [m_X1_orders_84] at hm
            obtain ⟨v1, ev1, hm⟩ := nmE hm
            refine lv_iinc (v := v1) (lv' := [(2, .int v1), (0, .ref x0), (1, .int x1)]) hx hb dX1_orders_84 hl (k := 2) rfl (by rw [ev1]; rfl) (by decide) rfl (fun ls hl => ?_)
            refine lv_goto (tgt := 9) hx hb dX1_orders_87 (by decide) ?_
            exact ih9 h x0 x1 v1 _ _ _ _ _ hm hw (by omega) (by omega) (lv_sub hl [1, 2, 0] rfl)
          have hB43 : ∀ (n43 : Nat), ∀ (h : CH) (x0 : Nat) (x1 : Int32) (x2 : Int32) (x3 : Int64) (x5 : Int32) (cc ss : Nat) (H : Heap) (locs : List Loc) (ls : Array Slot), m_X1_orders_43 f (m_X1_orders_2 f n2) (m_X1_orders_9 f (m_X1_orders_2 f n2) n9) n43 h x0 x1 x2 x3 x5 = some u9 → CW D dA A s h H locs → cc + u.1 = h.1 → ss + u.2.1 = h.2.1 → lv_has ls 6 [(0, .ref x0), (1, .int x1), (2, .int x2), (3, .long x3), (5, .int x5)] → W p l e (rm_X1_orders (u9.1 - u.1) (u9.2.1 - u.2.1)) s m args below meth c H locs cc ss QQ (F0 m 43 ls []) := by
            intro n43
            induction n43 with
            | zero => intro h x0 x1 x2 x3 x5 cc ss H locs ls hm hw hcc hss hl; rw [m_X1_orders_43] at hm; exact noE hm
            | succ n43 ih43 =>
              intro h x0 x1 x2 x3 x5 cc ss H locs ls hm hw hcc hss hl
              have hmo := mo_X1_orders_43 (mo_X1_orders_2 n2) (mo_X1_orders_9 (mo_X1_orders_2 n2) n9) (n43 + 1) h x0 x1 x2 x3 x5 _ hm
              have sb_ : h.1 ≤ u9.1 := hmo.1
              have tb_ : h.2.1 ≤ u9.2.1 := hmo.2.1
              rw [m_X1_orders_43] at hm
              refine lv_iload hx hb dX1_orders_43 (lv_at hl 4 rfl) ?_
              refine lv_iconst (v := 3) hx hb dX1_orders_45 (by decide) ?_
              refine lv_icmp_ge (tgt := 84) hx hb dX1_orders_46 (by decide) (fun c1 => ?_) (fun c1 => ?_)
              · have hm := ifT hm c1
                exact hB84 h x0 x1 x2 _ _ _ _ _ hm hw (by omega) (by omega) (lv_sub hl [0, 1, 2] rfl)
              · have hm := ifF hm c1
                refine lv_aload_n hx hb dX1_orders_49 rfl (lv_at hl 0 rfl) ?_
                obtain ⟨a2, ea2, hm⟩ := bdE hm
                refine cg_get C hw (oR_E ea2) rfl in_X1 (by decide) q222 dX1_orders_50 ?_
                obtain ⟨a3, ea3, hm⟩ := bdE hm
                refine cg_getN C hw (by decide) (oR_E ea3) rfl in_X2 (by decide) (hw.2.2.2.2.1 _ (List.mem_of_getElem? (i := 40) rfl)) dX1_orders_53 ?_
                refine lv_iload_n hx hb dX1_orders_56 rfl (lv_at hl 2 rfl) ?_
                obtain ⟨a4, ea4, hm⟩ := bdE hm
                refine cg_aaldA C hw (ty := .array .long) rfl rfl (aR_E ea4) dX1_orders_57 ?_
                refine lv_iload hx hb dX1_orders_58 (lv_at hl 4 rfl) ?_
                refine lv_dup2_11 hx hb dX1_orders_60 rfl rfl ?_
                obtain ⟨v5, ev5, hm⟩ := bdE hm
                refine cg_lald C hw ev5 dX1_orders_61 ?_
                refine lv_lload_n hx hb dX1_orders_62 rfl (lv_at hl 3 rfl) ?_
                refine lv_aload_n hx hb dX1_orders_63 rfl (lv_at hl 0 rfl) ?_
                obtain ⟨a6, ea6, hm⟩ := bdE hm
                refine cg_get C hw (oR_E ea6) rfl in_X1 (by decide) q222 dX1_orders_64 ?_
                obtain ⟨a7, ea7, hm⟩ := bdE hm
                refine cg_getN C hw (by decide) (oR_E ea7) rfl in_X2 (by decide) (hw.2.2.2.2.1 _ (List.mem_of_getElem? (i := 40) rfl)) dX1_orders_67 ?_
                refine lv_iload_n hx hb dX1_orders_70 rfl (lv_at hl 1 rfl) ?_
                obtain ⟨a8, ea8, hm⟩ := bdE hm
                refine cg_aaldA C hw (ty := .array .long) rfl rfl (aR_E ea8) dX1_orders_71 ?_
                refine lv_iload hx hb dX1_orders_72 (lv_at hl 4 rfl) ?_
                obtain ⟨v9, ev9, hm⟩ := bdE hm
                refine cg_lald C hw ev9 dX1_orders_74 ?_
                refine lv_lmul hx hb dX1_orders_75 ?_
                refine lv_lsub hx hb dX1_orders_76 ?_
                obtain ⟨h10, eh10, hm⟩ := bdE hm
                refine cg_last C hw eh10 dX1_orders_77 (fun H locs hw => ?_)
                have zh10 := uL_sz eh10
                obtain ⟨v11, ev11, hm⟩ := nmE hm
                refine lv_iinc (v := v11) (lv' := [(5, .int v11), (0, .ref x0), (1, .int x1), (2, .int x2), (3, .long x3)]) hx hb dX1_orders_78 hl (k := 4) rfl (by rw [ev11]; rfl) (by decide) rfl (fun ls hl => ?_)
                refine lv_goto (tgt := 43) hx hb dX1_orders_81 (by decide) ?_
                exact ih43 h10 x0 x1 x2 x3 v11 _ _ _ _ _ hm hw (by omega) (by omega) (lv_sub hl [1, 2, 3, 4, 0] rfl)
          intro h x0 x1 x2 cc ss H locs ls hm hw hcc hss hl
          have hmo := mo_X1_orders_9 (mo_X1_orders_2 n2) (n9 + 1) h x0 x1 x2 _ hm
          have sb_ : h.1 ≤ u9.1 := hmo.1
          have tb_ : h.2.1 ≤ u9.2.1 := hmo.2.1
          rw [m_X1_orders_9] at hm
          refine lv_iload_n hx hb dX1_orders_9 rfl (lv_at hl 2 rfl) ?_
          refine lv_iload_n hx hb dX1_orders_10 rfl (lv_at hl 1 rfl) ?_
          refine lv_icmp_ge (tgt := 90) hx hb dX1_orders_11 (by decide) (fun c1 => ?_) (fun c1 => ?_)
          · have hm := ifT hm c1
            exact hB90 h x0 x1 _ _ _ _ _ hm hw (by omega) (by omega) (lv_sub hl [0, 1] rfl)
          · have hm := ifF hm c1
            refine lv_aload_n hx hb dX1_orders_14 rfl (lv_at hl 0 rfl) ?_
            obtain ⟨a2, ea2, hm⟩ := bdE hm
            refine cg_get C hw (oR_E ea2) rfl in_X1 (by decide) q222 dX1_orders_15 ?_
            obtain ⟨a3, ea3, hm⟩ := bdE hm
            refine cg_getN C hw (by decide) (oR_E ea3) rfl in_X2 (by decide) (hw.2.2.2.2.1 _ (List.mem_of_getElem? (i := 40) rfl)) dX1_orders_18 ?_
            refine lv_iload_n hx hb dX1_orders_21 rfl (lv_at hl 2 rfl) ?_
            obtain ⟨a4, ea4, hm⟩ := bdE hm
            refine cg_aaldA C hw (ty := .array .long) rfl rfl (aR_E ea4) dX1_orders_22 ?_
            refine lv_iload_n hx hb dX1_orders_23 rfl (lv_at hl 1 rfl) ?_
            obtain ⟨v5, ev5, hm⟩ := bdE hm
            refine cg_lald C hw ev5 dX1_orders_24 ?_
            refine lv_aload_n hx hb dX1_orders_25 rfl (lv_at hl 0 rfl) ?_
            obtain ⟨a6, ea6, hm⟩ := bdE hm
            refine cg_get C hw (oR_E ea6) rfl in_X1 (by decide) q222 dX1_orders_26 ?_
            obtain ⟨a7, ea7, hm⟩ := bdE hm
            refine cg_getN C hw (by decide) (oR_E ea7) rfl in_X2 (by decide) (hw.2.2.2.2.1 _ (List.mem_of_getElem? (i := 40) rfl)) dX1_orders_29 ?_
            refine lv_iload_n hx hb dX1_orders_32 rfl (lv_at hl 1 rfl) ?_
            obtain ⟨a8, ea8, hm⟩ := bdE hm
            refine cg_aaldA C hw (ty := .array .long) rfl rfl (aR_E ea8) dX1_orders_33 ?_
            refine lv_iload_n hx hb dX1_orders_34 rfl (lv_at hl 1 rfl) ?_
            obtain ⟨v9, ev9, hm⟩ := bdE hm
            refine cg_lald C hw ev9 dX1_orders_35 ?_
            obtain ⟨r10, er10, hm⟩ := bdE hm
            refine scl (va_runS (As := [.long v5, .long v9]) (rest := []) ⟨hx, hb, hml, hown, hts⟩ (w_J9_floorDiv l er10) (cw_J9_floorDiv hts q1139 ⟨Nat.le_of_ble_eq_true rfl, Nat.le_of_ble_eq_true rfl⟩) (pre_s _) rfl rfl hl.1 rfl (lv_room (Nat.le_of_ble_eq_true rfl)) dX1_orders_36 ⟨show cc + 0 ≤ u9.1 - u.1 by omega, show ss + 0 ≤ u9.2.1 - u.2.1 by omega⟩) ?_
            refine lv_lstore_n (lv' := [(3, .long r10), (0, .ref x0), (1, .int x1), (2, .int x2)]) hx hb dX1_orders_39 rfl hl (by decide) rfl (fun ls hl => ?_)
            refine lv_iload_n hx hb dX1_orders_40 rfl (lv_at hl 2 rfl) ?_
            refine lv_istore (lv' := [(5, .int x1), (3, .long r10), (0, .ref x0), (1, .int x1), (2, .int x2)]) hx hb dX1_orders_41 hl (by decide) rfl (fun ls hl => ?_)
            exact hB43 f h x0 x1 x2 r10 x1 _ _ _ _ _ hm hw (by omega) (by omega) (lv_sub hl [2, 3, 4, 1, 0] rfl)
      intro h x0 x1 cc ss H locs ls hm hw hcc hss hl
      have hmo := mo_X1_orders_2  (n2 + 1) h x0 x1 _ hm
      have sb_ : h.1 ≤ u9.1 := hmo.1
      have tb_ : h.2.1 ≤ u9.2.1 := hmo.2.1
      rw [m_X1_orders_2] at hm
      refine lv_iload_n hx hb dX1_orders_2 rfl (lv_at hl 1 rfl) ?_
      refine lv_iconst (v := 3) hx hb dX1_orders_3 (by decide) ?_
      refine lv_icmp_ge (tgt := 96) hx hb dX1_orders_4 (by decide) (fun c1 => ?_) (fun c1 => ?_)
      · have hm := ifT hm c1
        exact hB96 h _ _ _ _ _ hm hw (by omega) (by omega) (lv_sub hl [] rfl)
      · have hm := ifF hm c1
        refine lv_iconst (v := 0) hx hb dX1_orders_7 (by decide) ?_
        refine lv_istore_n (lv' := [(2, .int (0 : Int32)), (0, .ref x0), (1, .int x1)]) hx hb dX1_orders_8 rfl hl (by decide) rfl (fun ls hl => ?_)
        exact hB9 f h x0 x1 (0 : Int32) _ _ _ _ _ hm hw (by omega) (by omega) (lv_sub hl [1, 2, 0] rfl)
  rw [m_X1_orders] at hm
  refine lv_iconst (v := 0) hx hb dX1_orders_0 (by decide) ?_
  refine lv_istore_n (lv' := [(1, .int (0 : Int32)), (0, .ref x0)]) hx hb dX1_orders_1 rfl hl (by decide) rfl (fun ls hl => ?_)
  exact hB2 f u x0 (0 : Int32) _ _ _ _ _ hm hw (by omega) (by omega) (lv_sub hl [1, 0] rfl)
def m_X1_takes_80 (f : Nat) (h : CH) : Option CH := some h
theorem mo_X1_takes_80 {f : Nat} : ∀ (h : CH) (r : CH), m_X1_takes_80 f h = some r → le2 h r := by
  intro h r hm
  rw [m_X1_takes_80] at hm
  cases hm
  exact le2.rf
def m_X1_takes_76 (f : Nat) (h : CH) (x0 : Nat) : Option CH := gd (isC h x0 2) <|
    bd (m_X1_orders f h x0) fun h2 =>
    m_X1_takes_80 f h2
theorem mo_X1_takes_76 {f : Nat} : ∀ (h : CH) (x0 : Nat) (r : CH), m_X1_takes_76 f h x0 = some r → le2 h r := by
  intro h x0 r hm
  rw [m_X1_takes_76] at hm
  obtain ⟨g1, hm⟩ := gdE hm
  obtain ⟨h2, eh2, hm⟩ := bdE hm
  have lh2 := mo_X1_orders eh2
  exact (lh2.tr (mo_X1_takes_80  h2 _ hm))
def m_X1_takes_70 (f : Nat) (k46 : CH → Nat → Int32 → Option CH) (h : CH) (x0 : Nat) (x7 : Int32) : Option CH := nmv ((x7 + 1) : Int32) fun v1 =>
    k46 h x0 v1
theorem mo_X1_takes_70 {f : Nat} {k46 : CH → Nat → Int32 → Option CH} (hk46 : ∀ (h : CH) (x0 : Nat) (x7 : Int32) (r : CH), k46 h x0 x7 = some r → le2 h r) : ∀ (h : CH) (x0 : Nat) (x7 : Int32) (r : CH), m_X1_takes_70 f k46 h x0 x7 = some r → le2 h r := by
  intro h x0 x7 r hm
  rw [m_X1_takes_70] at hm
  obtain ⟨v1, ev1, hm⟩ := nmE hm
  exact (hk46 h x0 v1 _ hm)
def m_X1_takes_46 (f : Nat) : Nat → CH → Nat → Int32 → Option CH
  | 0, _, _, _ => none
  | n46 + 1, h, x0, x7 => if (3 : Int32) ≤ x7 then
    m_X1_takes_76 f h x0
    else bd (oR h 2 1 x0) fun a2 =>
    bd (aL h 1 a2 x7) fun v3 =>
    if v3 = (0 : Int64) then
    m_X1_takes_70 f (m_X1_takes_46 f n46) h x0 x7
    else gd (isC h x0 2) <|
    bd (m_X1_joins f h x0 x7) fun h6 =>
    m_X1_takes_70 f (m_X1_takes_46 f n46) h6 x0 x7
theorem mo_X1_takes_46 {f : Nat} : ∀ (n46 : Nat) (h : CH) (x0 : Nat) (x7 : Int32) (r : CH), m_X1_takes_46 f n46 h x0 x7 = some r → le2 h r := by
  intro n46
  induction n46 with
  | zero => intro h x0 x7 r hm; rw [m_X1_takes_46] at hm; exact noE hm
  | succ n46 ihm =>
    intro h x0 x7 r hm
    rw [m_X1_takes_46] at hm
    by_cases c1 : (3 : Int32) ≤ x7
    · have hm := ifT hm c1
      exact (mo_X1_takes_76  h x0 _ hm)
    · have hm := ifF hm c1
      obtain ⟨a2, ea2, hm⟩ := bdE hm
      obtain ⟨v3, ev3, hm⟩ := bdE hm
      by_cases c4 : v3 = (0 : Int64)
      · have hm := ifT hm c4
        exact (mo_X1_takes_70 ihm h x0 x7 _ hm)
      · have hm := ifF hm c4
        obtain ⟨g5, hm⟩ := gdE hm
        obtain ⟨h6, eh6, hm⟩ := bdE hm
        have lh6 := mo_X1_joins eh6
        exact (lh6.tr (mo_X1_takes_70 ihm h6 x0 x7 _ hm))
def m_X1_takes (f : Nat) (u : CH) (x0 : Nat) (x1 : Int64) (x3 : Int64) (x5 : Int64) : Option CH := bd (oR u 2 1 x0) fun a1 =>
    bd (oL u 2 2 x0) fun v2 =>
    bd (m_J9_floorMod f x1 v2) fun r3 =>
    bd (uL u 1 a1 (0 : Int32) r3) fun h4 =>
    bd (oR h4 2 1 x0) fun a5 =>
    bd (oL h4 2 2 x0) fun v6 =>
    bd (m_J9_floorMod f x3 v6) fun r7 =>
    bd (uL h4 1 a5 (1 : Int32) r7) fun h8 =>
    bd (oR h8 2 1 x0) fun a9 =>
    bd (oL h8 2 2 x0) fun v10 =>
    bd (m_J9_floorMod f x5 v10) fun r11 =>
    bd (uL h8 1 a9 (2 : Int32) r11) fun h12 =>
    m_X1_takes_46 f f h12 x0 (0 : Int32)
theorem mo_X1_takes {f : Nat} {u : CH} {x0 : Nat} {x1 : Int64} {x3 : Int64} {x5 : Int64} {u9 : CH} (hm : m_X1_takes f u x0 x1 x3 x5 = some u9) : le2 u u9 := by
  rw [m_X1_takes] at hm
  obtain ⟨a1, ea1, hm⟩ := bdE hm
  obtain ⟨v2, ev2, hm⟩ := bdE hm
  obtain ⟨r3, er3, hm⟩ := bdE hm
  obtain ⟨h4, eh4, hm⟩ := bdE hm
  have lh4 := uL_le eh4
  obtain ⟨a5, ea5, hm⟩ := bdE hm
  obtain ⟨v6, ev6, hm⟩ := bdE hm
  obtain ⟨r7, er7, hm⟩ := bdE hm
  obtain ⟨h8, eh8, hm⟩ := bdE hm
  have lh8 := uL_le eh8
  obtain ⟨a9, ea9, hm⟩ := bdE hm
  obtain ⟨v10, ev10, hm⟩ := bdE hm
  obtain ⟨r11, er11, hm⟩ := bdE hm
  obtain ⟨h12, eh12, hm⟩ := bdE hm
  have lh12 := uL_le eh12
  exact (lh4.tr (lh8.tr (lh12.tr (mo_X1_takes_46  f h12 x0 (0 : Int32) _ hm))))
abbrev rm_X1_takes (mc ms : Nat) : Room := { frames := 2, cells := mc, slots := ms, locals := 52 }
theorem cw_X1_takes {R : Room} {s : State} {args : Array Value} {own : String} {idx mc ms : Nat} (hts : ∀ w ∈ lw_all, w.before args s = true) (hl : Cond.methodLink own idx yX1_takes ∈ lw_all) (hR : 2 + 1 ≤ R.frames ∧ 8 + (8 + 11) + 52 ≤ R.locals) : CallW R s args own RX1 idx yX1_takes cX1_takes 8 (Option.none : Option Jvm.ClassFile.FieldType) (ws_ yX1_takes cX1_takes 8 (Option.none : Option Jvm.ClassFile.FieldType)) (rm_X1_takes mc ms) mc ms 3 := cwV 3 hts (lw_V hl q1125 q1126 q123 q1127) rfl rfl rfl (by decide +kernel) hR
set_option maxHeartbeats 4000000 in
set_option maxRecDepth 100000 in
theorem w_X1_takes (l : Launch) {D : va_G} {dA : Nat → ClassId} {A : Nat → Prop} {f : Nat} {u u9 : CH} {x0 : Nat} {x1 : Int64} {x3 : Int64} {x5 : Int64} (hm : m_X1_takes f u x0 x1 x3 x5 = some u9) : Met l yX1_takes (ws_ yX1_takes cX1_takes 8 (Option.none : Option Jvm.ClassFile.FieldType)) (rm_X1_takes (u9.1 - u.1) (u9.2.1 - u.2.1)) (va_Pc [.ref x0, .long x1, .long x3, .long x5] (CPre D dA A u)) (va_Qv (fun u => u = u9) (CPost D dA A) A) (u9.1 - u.1) (u9.2.1 - u.2.1) A := by
  refine Met.ofW (cc := cX1_takes) (maxL := 8) (ret := (Option.none : Option Jvm.ClassFile.FieldType)) (by decide) rfl ?_
  intro p e s m args below meth c s₁ B hml hv
  have hx := B.exec
  have hb := B.bytes
  have hr := B.returns
  have hts := atoms_spec (ws := (ws_ yX1_takes cX1_takes 8 (Option.none : Option Jvm.ClassFile.FieldType))) B.pre
  have hts : ∀ w ∈ lw_all, w.before args s = true := fun w h => hts w (List.mem_cons_of_mem _ h)
  have hown : s.vm.findClass RX1 = some m.cls := findClass_of_methodNamed B.named
  have hlocks := B.notSynchronized
  obtain ⟨hav, hv⟩ := hv
  have C : CX p s m args c cX1_takes RX1 D dA := ⟨hx, hb, hown, hts, hv.2⟩
  have hw : CW D dA A s u s.heap [] := hv.1
  generalize hQ : MQ below (va_Qv (fun u => u = u9) (CPost D dA A) A) args s (u9.1 - u.1) (u9.2.1 - u.2.1) A = QQ
  have hent := lg_entry_eq m [.ref x0, .long x1, .long x3, .long x5] 8
  rw [← hav] at hent
  rw [hent]
  have hl := lv_entry ([.ref x0, .long x1, .long x3, .long x5]) (n := 8) (Nat.le_of_ble_eq_true rfl)
  generalize (lg_sl ([.ref x0, .long x1, .long x3, .long x5]) ++ List.replicate (8 - (lg_sl ([.ref x0, .long x1, .long x3, .long x5])).length) Slot.unset).toArray = ls at hl ⊢
  have hl : lv_has ls 8 [(0, .ref x0), (1, .long x1), (3, .long x3), (5, .long x5)] := hl
  obtain ⟨cc, ecc⟩ : ∃ z : Nat, z = 0 := ⟨0, rfl⟩
  obtain ⟨ss, ess⟩ : ∃ z : Nat, z = 0 := ⟨0, rfl⟩
  have hcc : cc + u.1 = u.1 := by omega
  have hss : ss + u.2.1 = u.2.1 := by omega
  suffices hgo : W p l e (rm_X1_takes (u9.1 - u.1) (u9.2.1 - u.2.1)) s m args below meth c s.heap [] cc ss QQ (F0 m 0 ls []) by rw [ecc, ess] at hgo; exact hgo
  have ⟨pu, qu, _, _⟩ := mo_X1_takes hm
  have hB80 : ∀ (h : CH) (cc ss : Nat) (H : Heap) (locs : List Loc) (ls : Array Slot), m_X1_takes_80 f h = some u9 → CW D dA A s h H locs → cc + u.1 = h.1 → ss + u.2.1 = h.2.1 → lv_has ls 8 [] → W p l e (rm_X1_takes (u9.1 - u.1) (u9.2.1 - u.2.1)) s m args below meth c H locs cc ss QQ (F0 m 80 ls []) := by
    intro h cc ss H locs ls hm hw hcc hss hl
    have hmo := mo_X1_takes_80  h _ hm
    have sb_ : h.1 ≤ u9.1 := hmo.1
    have tb_ : h.2.1 ≤ u9.2.1 := hmo.2.1
    rw [m_X1_takes_80] at hm
    have eh := ret1 hm
    have ec : cc = u9.1 - u.1 := by rw [← eh]; omega
    have es : ss = u9.2.1 - u.2.1 := by rw [← eh]; omega
    rw [ec, es, ← hQ]
    exact W.vret hx hb hr (fun t ht hW => ⟨⟨h, rfl, eh, ⟨by rw [ht]; exact hw.1, by rw [ht]; exact hw.2.1⟩⟩, hw.2.2.1.F ht⟩) hw.2.2.1.2.2 dX1_takes_80
  have hB76 : ∀ (h : CH) (x0 : Nat) (cc ss : Nat) (H : Heap) (locs : List Loc) (ls : Array Slot), m_X1_takes_76 f h x0 = some u9 → CW D dA A s h H locs → cc + u.1 = h.1 → ss + u.2.1 = h.2.1 → lv_has ls 8 [(0, .ref x0)] → W p l e (rm_X1_takes (u9.1 - u.1) (u9.2.1 - u.2.1)) s m args below meth c H locs cc ss QQ (F0 m 76 ls []) := by
    intro h x0 cc ss H locs ls hm hw hcc hss hl
    have hmo := mo_X1_takes_76  h x0 _ hm
    have sb_ : h.1 ≤ u9.1 := hmo.1
    have tb_ : h.2.1 ≤ u9.2.1 := hmo.2.1
    rw [m_X1_takes_76] at hm
    refine lv_aload_n hx hb dX1_takes_76 rfl (lv_at hl 0 rfl) ?_
    obtain ⟨g1, hm⟩ := gdE hm
    obtain ⟨h2, eh2, hm⟩ := bdE hm
    have lh2 := mo_X1_orders eh2
    have ph2 : h.1 ≤ h2.1 := lh2.1
    have qh2 : h.2.1 ≤ h2.2.1 := lh2.2.1
    have hmo := mo_X1_takes_80   h2 _ hm
    have sh2 : h2.1 ≤ u9.1 := hmo.1
    have th2 : h2.2.1 ≤ u9.2.1 := hmo.2.1
    refine cg_callv hw lh2 (va_runV (As := []) (rest := []) ⟨hx, hb, hml, hown, hts⟩ (w_X1_orders l eh2) (cw_X1_orders hts q1135 ⟨Nat.le_of_ble_eq_true rfl, Nat.le_of_ble_eq_true rfl⟩) (cg_preV C hw g1 rfl _) rfl rfl hl.1 rfl (lv_room (Nat.le_of_ble_eq_true rfl)) dX1_takes_77 ⟨show cc + (h2.1 - h.1) ≤ u9.1 - u.1 by omega, show ss + (h2.2.1 - h.2.1) ≤ u9.2.1 - u.2.1 by omega⟩) (fun H locs hw => ?_)
    exact hB80 h2 _ _ _ _ _ hm hw (by omega) (by omega) (lv_sub hl [] rfl)
  have hB46 : ∀ (n46 : Nat), ∀ (h : CH) (x0 : Nat) (x7 : Int32) (cc ss : Nat) (H : Heap) (locs : List Loc) (ls : Array Slot), m_X1_takes_46 f n46 h x0 x7 = some u9 → CW D dA A s h H locs → cc + u.1 = h.1 → ss + u.2.1 = h.2.1 → lv_has ls 8 [(0, .ref x0), (7, .int x7)] → W p l e (rm_X1_takes (u9.1 - u.1) (u9.2.1 - u.2.1)) s m args below meth c H locs cc ss QQ (F0 m 46 ls []) := by
    intro n46
    induction n46 with
    | zero => intro h x0 x7 cc ss H locs ls hm hw hcc hss hl; rw [m_X1_takes_46] at hm; exact noE hm
    | succ n46 ih46 =>
      have hB70 : ∀ (h : CH) (x0 : Nat) (x7 : Int32) (cc ss : Nat) (H : Heap) (locs : List Loc) (ls : Array Slot), m_X1_takes_70 f (m_X1_takes_46 f n46) h x0 x7 = some u9 → CW D dA A s h H locs → cc + u.1 = h.1 → ss + u.2.1 = h.2.1 → lv_has ls 8 [(0, .ref x0), (7, .int x7)] → W p l e (rm_X1_takes (u9.1 - u.1) (u9.2.1 - u.2.1)) s m args below meth c H locs cc ss QQ (F0 m 70 ls []) := by
        intro h x0 x7 cc ss H locs ls hm hw hcc hss hl
        have hmo := mo_X1_takes_70 (mo_X1_takes_46 n46) h x0 x7 _ hm
        have sb_ : h.1 ≤ u9.1 := hmo.1
        have tb_ : h.2.1 ≤ u9.2.1 := hmo.2.1
        rw [m_X1_takes_70] at hm
        obtain ⟨v1, ev1, hm⟩ := nmE hm
        refine lv_iinc (v := v1) (lv' := [(7, .int v1), (0, .ref x0)]) hx hb dX1_takes_70 hl (k := 1) rfl (by rw [ev1]; rfl) (by decide) rfl (fun ls hl => ?_)
        refine lv_goto (tgt := 46) hx hb dX1_takes_73 (by decide) ?_
        exact ih46 h x0 v1 _ _ _ _ _ hm hw (by omega) (by omega) (lv_sub hl [1, 0] rfl)
      intro h x0 x7 cc ss H locs ls hm hw hcc hss hl
      have hmo := mo_X1_takes_46  (n46 + 1) h x0 x7 _ hm
      have sb_ : h.1 ≤ u9.1 := hmo.1
      have tb_ : h.2.1 ≤ u9.2.1 := hmo.2.1
      rw [m_X1_takes_46] at hm
      refine lv_iload hx hb dX1_takes_46 (lv_at hl 1 rfl) ?_
      refine lv_iconst (v := 3) hx hb dX1_takes_48 (by decide) ?_
      refine lv_icmp_ge (tgt := 76) hx hb dX1_takes_49 (by decide) (fun c1 => ?_) (fun c1 => ?_)
      · have hm := ifT hm c1
        exact hB76 h x0 _ _ _ _ _ hm hw (by omega) (by omega) (lv_sub hl [0] rfl)
      · have hm := ifF hm c1
        refine lv_aload_n hx hb dX1_takes_52 rfl (lv_at hl 0 rfl) ?_
        obtain ⟨a2, ea2, hm⟩ := bdE hm
        refine cg_get C hw (oR_E ea2) rfl in_X1 (by decide) q224 dX1_takes_53 ?_
        refine lv_iload hx hb dX1_takes_56 (lv_at hl 1 rfl) ?_
        obtain ⟨v3, ev3, hm⟩ := bdE hm
        refine cg_lald C hw ev3 dX1_takes_58 ?_
        refine lv_lconst (v := 0) hx hb dX1_takes_59 (by decide) ?_
        refine lc_eq (tgt := 70) hx hb dX1_takes_60 dX1_takes_61 (by decide) (fun c4 => ?_) (fun c4 => ?_)
        · have hm := ifT hm c4
          exact hB70 h x0 x7 _ _ _ _ _ hm hw (by omega) (by omega) (lv_sub hl [0, 1] rfl)
        · have hm := ifF hm c4
          refine lv_aload_n hx hb dX1_takes_64 rfl (lv_at hl 0 rfl) ?_
          refine lv_iload hx hb dX1_takes_65 (lv_at hl 1 rfl) ?_
          obtain ⟨g5, hm⟩ := gdE hm
          obtain ⟨h6, eh6, hm⟩ := bdE hm
          have lh6 := mo_X1_joins eh6
          have ph6 : h.1 ≤ h6.1 := lh6.1
          have qh6 : h.2.1 ≤ h6.2.1 := lh6.2.1
          have hmo := mo_X1_takes_70 (mo_X1_takes_46 n46)  h6 x0 x7 _ hm
          have sh6 : h6.1 ≤ u9.1 := hmo.1
          have th6 : h6.2.1 ≤ u9.2.1 := hmo.2.1
          refine cg_callv hw lh6 (va_runV (As := [.int x7]) (rest := []) ⟨hx, hb, hml, hown, hts⟩ (w_X1_joins l eh6) (cw_X1_joins hts q1131 ⟨Nat.le_of_ble_eq_true rfl, Nat.le_of_ble_eq_true rfl⟩) (cg_preV C hw g5 rfl _) rfl rfl hl.1 rfl (lv_room (Nat.le_of_ble_eq_true rfl)) dX1_takes_67 ⟨show cc + (h6.1 - h.1) ≤ u9.1 - u.1 by omega, show ss + (h6.2.1 - h.2.1) ≤ u9.2.1 - u.2.1 by omega⟩) (fun H locs hw => ?_)
          exact hB70 h6 x0 x7 _ _ _ _ _ hm hw (by omega) (by omega) (lv_sub hl [0, 1] rfl)
  rw [m_X1_takes] at hm
  refine lv_aload_n hx hb dX1_takes_0 rfl (lv_at hl 0 rfl) ?_
  obtain ⟨a1, ea1, hm⟩ := bdE hm
  refine cg_get C hw (oR_E ea1) rfl in_X1 (by decide) q224 dX1_takes_1 ?_
  refine lv_iconst (v := 0) hx hb dX1_takes_4 (by decide) ?_
  refine lv_lload_n hx hb dX1_takes_5 rfl (lv_at hl 1 rfl) ?_
  refine lv_aload_n hx hb dX1_takes_6 rfl (lv_at hl 0 rfl) ?_
  obtain ⟨v2, ev2, hm⟩ := bdE hm
  refine cg_get C hw (oL_E ev2) rfl in_X1 (by decide) q225 dX1_takes_7 ?_
  obtain ⟨r3, er3, hm⟩ := bdE hm
  refine scl (va_runS (As := [.long x1, .long v2]) (rest := [.int (0 : Int32), .ref a1]) ⟨hx, hb, hml, hown, hts⟩ (w_J9_floorMod l er3) (cw_J9_floorMod hts q1128 ⟨Nat.le_of_ble_eq_true rfl, Nat.le_of_ble_eq_true rfl⟩) (pre_s _) rfl rfl hl.1 rfl (lv_room (Nat.le_of_ble_eq_true rfl)) dX1_takes_10 ⟨show cc + 0 ≤ u9.1 - u.1 by omega, show ss + 0 ≤ u9.2.1 - u.2.1 by omega⟩) ?_
  obtain ⟨h4, eh4, hm⟩ := bdE hm
  refine cg_last C hw eh4 dX1_takes_13 (fun H locs hw => ?_)
  have zh4 := uL_sz eh4
  refine lv_aload_n hx hb dX1_takes_14 rfl (lv_at hl 0 rfl) ?_
  obtain ⟨a5, ea5, hm⟩ := bdE hm
  refine cg_get C hw (oR_E ea5) rfl in_X1 (by decide) q224 dX1_takes_15 ?_
  refine lv_iconst (v := 1) hx hb dX1_takes_18 (by decide) ?_
  refine lv_lload_n hx hb dX1_takes_19 rfl (lv_at hl 2 rfl) ?_
  refine lv_aload_n hx hb dX1_takes_20 rfl (lv_at hl 0 rfl) ?_
  obtain ⟨v6, ev6, hm⟩ := bdE hm
  refine cg_get C hw (oL_E ev6) rfl in_X1 (by decide) q225 dX1_takes_21 ?_
  obtain ⟨r7, er7, hm⟩ := bdE hm
  refine scl (va_runS (As := [.long x3, .long v6]) (rest := [.int (1 : Int32), .ref a5]) ⟨hx, hb, hml, hown, hts⟩ (w_J9_floorMod l er7) (cw_J9_floorMod hts q1128 ⟨Nat.le_of_ble_eq_true rfl, Nat.le_of_ble_eq_true rfl⟩) (pre_s _) rfl rfl hl.1 rfl (lv_room (Nat.le_of_ble_eq_true rfl)) dX1_takes_24 ⟨show cc + 0 ≤ u9.1 - u.1 by omega, show ss + 0 ≤ u9.2.1 - u.2.1 by omega⟩) ?_
  obtain ⟨h8, eh8, hm⟩ := bdE hm
  refine cg_last C hw eh8 dX1_takes_27 (fun H locs hw => ?_)
  have zh8 := uL_sz eh8
  refine lv_aload_n hx hb dX1_takes_28 rfl (lv_at hl 0 rfl) ?_
  obtain ⟨a9, ea9, hm⟩ := bdE hm
  refine cg_get C hw (oR_E ea9) rfl in_X1 (by decide) q224 dX1_takes_29 ?_
  refine lv_iconst (v := 2) hx hb dX1_takes_32 (by decide) ?_
  refine lv_lload hx hb dX1_takes_33 (lv_at hl 3 rfl) ?_
  refine lv_aload_n hx hb dX1_takes_35 rfl (lv_at hl 0 rfl) ?_
  obtain ⟨v10, ev10, hm⟩ := bdE hm
  refine cg_get C hw (oL_E ev10) rfl in_X1 (by decide) q225 dX1_takes_36 ?_
  obtain ⟨r11, er11, hm⟩ := bdE hm
  refine scl (va_runS (As := [.long x5, .long v10]) (rest := [.int (2 : Int32), .ref a9]) ⟨hx, hb, hml, hown, hts⟩ (w_J9_floorMod l er11) (cw_J9_floorMod hts q1128 ⟨Nat.le_of_ble_eq_true rfl, Nat.le_of_ble_eq_true rfl⟩) (pre_s _) rfl rfl hl.1 rfl (lv_room (Nat.le_of_ble_eq_true rfl)) dX1_takes_39 ⟨show cc + 0 ≤ u9.1 - u.1 by omega, show ss + 0 ≤ u9.2.1 - u.2.1 by omega⟩) ?_
  obtain ⟨h12, eh12, hm⟩ := bdE hm
  refine cg_last C hw eh12 dX1_takes_42 (fun H locs hw => ?_)
  have zh12 := uL_sz eh12
  refine lv_iconst (v := 0) hx hb dX1_takes_43 (by decide) ?_
  refine lv_istore (lv' := [(7, .int (0 : Int32)), (0, .ref x0), (1, .long x1), (3, .long x3), (5, .long x5)]) hx hb dX1_takes_44 hl (by decide) rfl (fun ls hl => ?_)
  exact hB46 f h12 x0 (0 : Int32) _ _ _ _ _ hm hw (by omega) (by omega) (lv_sub hl [1, 0] rfl)
def m_X1_dual_128 (f : Nat) (h : CH) (x1 : Nat) : Option (Nat × CH) := some (x1, h)
theorem mo_X1_dual_128 {f : Nat} : ∀ (h : CH) (x1 : Nat) (r : (Nat × CH)), m_X1_dual_128 f h x1 = some r → le2 h r.2 := by
  intro h x1 r hm
  rw [m_X1_dual_128] at hm
  cases hm
  exact le2.rf
def m_X1_dual_122 (f : Nat) (k10 : CH → Nat → Nat → Int32 → Option (Nat × CH)) (h : CH) (x0 : Nat) (x1 : Nat) (x2 : Int32) : Option (Nat × CH) := nmv ((x2 + 1) : Int32) fun v1 =>
    k10 h x0 x1 v1
theorem mo_X1_dual_122 {f : Nat} {k10 : CH → Nat → Nat → Int32 → Option (Nat × CH)} (hk10 : ∀ (h : CH) (x0 : Nat) (x1 : Nat) (x2 : Int32) (r : (Nat × CH)), k10 h x0 x1 x2 = some r → le2 h r.2) : ∀ (h : CH) (x0 : Nat) (x1 : Nat) (x2 : Int32) (r : (Nat × CH)), m_X1_dual_122 f k10 h x0 x1 x2 = some r → le2 h r.2 := by
  intro h x0 x1 x2 r hm
  rw [m_X1_dual_122] at hm
  obtain ⟨v1, ev1, hm⟩ := nmE hm
  exact (hk10 h x0 x1 v1 _ hm)
def m_X1_dual_93 (f : Nat) (k10 : CH → Nat → Nat → Int32 → Option (Nat × CH)) (k43 : CH → Nat → Nat → Int32 → Int32 → Option (Nat × CH)) (h : CH) (x0 : Nat) (x1 : Nat) (x2 : Int32) (x3 : Int32) (x4 : Int64) : Option (Nat × CH) := bd (oR h 3 0 x1) fun a1 =>
    bd (aR h 4 a1 x2) fun a2 =>
    bd (oR h 2 0 x0) fun a3 =>
    bd (oR h 3 0 a3) fun a4 =>
    bd (aR h 4 a4 x3) fun a5 =>
    bd (aL h 1 a5 x3) fun v6 =>
    gd (nzL v6) <|
    bd (uL h 1 a2 x3 ((-x4) / v6)) fun h8 =>
    nmv ((x3 + 1) : Int32) fun v9 =>
    k43 h8 x0 x1 x2 v9
theorem mo_X1_dual_93 {f : Nat} {k10 : CH → Nat → Nat → Int32 → Option (Nat × CH)} (hk10 : ∀ (h : CH) (x0 : Nat) (x1 : Nat) (x2 : Int32) (r : (Nat × CH)), k10 h x0 x1 x2 = some r → le2 h r.2) {k43 : CH → Nat → Nat → Int32 → Int32 → Option (Nat × CH)} (hk43 : ∀ (h : CH) (x0 : Nat) (x1 : Nat) (x2 : Int32) (x3 : Int32) (r : (Nat × CH)), k43 h x0 x1 x2 x3 = some r → le2 h r.2) : ∀ (h : CH) (x0 : Nat) (x1 : Nat) (x2 : Int32) (x3 : Int32) (x4 : Int64) (r : (Nat × CH)), m_X1_dual_93 f k10 k43 h x0 x1 x2 x3 x4 = some r → le2 h r.2 := by
  intro h x0 x1 x2 x3 x4 r hm
  rw [m_X1_dual_93] at hm
  obtain ⟨a1, ea1, hm⟩ := bdE hm
  obtain ⟨a2, ea2, hm⟩ := bdE hm
  obtain ⟨a3, ea3, hm⟩ := bdE hm
  obtain ⟨a4, ea4, hm⟩ := bdE hm
  obtain ⟨a5, ea5, hm⟩ := bdE hm
  obtain ⟨v6, ev6, hm⟩ := bdE hm
  obtain ⟨g7, hm⟩ := gdE hm
  obtain ⟨h8, eh8, hm⟩ := bdE hm
  have lh8 := uL_le eh8
  obtain ⟨v9, ev9, hm⟩ := nmE hm
  exact (lh8.tr (hk43 h8 x0 x1 x2 v9 _ hm))
def m_X1_dual_54 (f : Nat) (k10 : CH → Nat → Nat → Int32 → Option (Nat × CH)) (k43 : CH → Nat → Nat → Int32 → Int32 → Option (Nat × CH)) : Nat → CH → Nat → Nat → Int32 → Int32 → Int64 → Int32 → Option (Nat × CH)
  | 0, _, _, _, _, _, _, _ => none
  | n54 + 1, h, x0, x1, x2, x3, x4, x6 => if x3 ≤ x6 then
    m_X1_dual_93 f k10 k43 h x0 x1 x2 x3 x4
    else bd (oR h 3 0 x1) fun a2 =>
    bd (aR h 4 a2 x2) fun a3 =>
    bd (aL h 1 a3 x6) fun v4 =>
    bd (oR h 2 0 x0) fun a5 =>
    bd (oR h 3 0 a5) fun a6 =>
    bd (aR h 4 a6 x6) fun a7 =>
    bd (aL h 1 a7 x3) fun v8 =>
    nmv ((x4 + (v4 * v8)) : Int64) fun v9 =>
    nmv ((x6 + 1) : Int32) fun v10 =>
    m_X1_dual_54 f k10 k43 n54 h x0 x1 x2 x3 v9 v10
theorem mo_X1_dual_54 {f : Nat} {k10 : CH → Nat → Nat → Int32 → Option (Nat × CH)} (hk10 : ∀ (h : CH) (x0 : Nat) (x1 : Nat) (x2 : Int32) (r : (Nat × CH)), k10 h x0 x1 x2 = some r → le2 h r.2) {k43 : CH → Nat → Nat → Int32 → Int32 → Option (Nat × CH)} (hk43 : ∀ (h : CH) (x0 : Nat) (x1 : Nat) (x2 : Int32) (x3 : Int32) (r : (Nat × CH)), k43 h x0 x1 x2 x3 = some r → le2 h r.2) : ∀ (n54 : Nat) (h : CH) (x0 : Nat) (x1 : Nat) (x2 : Int32) (x3 : Int32) (x4 : Int64) (x6 : Int32) (r : (Nat × CH)), m_X1_dual_54 f k10 k43 n54 h x0 x1 x2 x3 x4 x6 = some r → le2 h r.2 := by
  intro n54
  induction n54 with
  | zero => intro h x0 x1 x2 x3 x4 x6 r hm; rw [m_X1_dual_54] at hm; exact noE hm
  | succ n54 ihm =>
    intro h x0 x1 x2 x3 x4 x6 r hm
    rw [m_X1_dual_54] at hm
    by_cases c1 : x3 ≤ x6
    · have hm := ifT hm c1
      exact (mo_X1_dual_93 hk10 hk43 h x0 x1 x2 x3 x4 _ hm)
    · have hm := ifF hm c1
      obtain ⟨a2, ea2, hm⟩ := bdE hm
      obtain ⟨a3, ea3, hm⟩ := bdE hm
      obtain ⟨v4, ev4, hm⟩ := bdE hm
      obtain ⟨a5, ea5, hm⟩ := bdE hm
      obtain ⟨a6, ea6, hm⟩ := bdE hm
      obtain ⟨a7, ea7, hm⟩ := bdE hm
      obtain ⟨v8, ev8, hm⟩ := bdE hm
      obtain ⟨v9, ev9, hm⟩ := nmE hm
      obtain ⟨v10, ev10, hm⟩ := nmE hm
      exact (ihm h x0 x1 x2 x3 v9 v10 _ hm)
def m_X1_dual_43 (f : Nat) (k10 : CH → Nat → Nat → Int32 → Option (Nat × CH)) : Nat → CH → Nat → Nat → Int32 → Int32 → Option (Nat × CH)
  | 0, _, _, _, _, _ => none
  | n43 + 1, h, x0, x1, x2, x3 => if (3 : Int32) ≤ x3 then
    m_X1_dual_122 f k10 h x0 x1 x2
    else m_X1_dual_54 f k10 (m_X1_dual_43 f k10 n43) f h x0 x1 x2 x3 (0 : Int64) x2
theorem mo_X1_dual_43 {f : Nat} {k10 : CH → Nat → Nat → Int32 → Option (Nat × CH)} (hk10 : ∀ (h : CH) (x0 : Nat) (x1 : Nat) (x2 : Int32) (r : (Nat × CH)), k10 h x0 x1 x2 = some r → le2 h r.2) : ∀ (n43 : Nat) (h : CH) (x0 : Nat) (x1 : Nat) (x2 : Int32) (x3 : Int32) (r : (Nat × CH)), m_X1_dual_43 f k10 n43 h x0 x1 x2 x3 = some r → le2 h r.2 := by
  intro n43
  induction n43 with
  | zero => intro h x0 x1 x2 x3 r hm; rw [m_X1_dual_43] at hm; exact noE hm
  | succ n43 ihm =>
    intro h x0 x1 x2 x3 r hm
    rw [m_X1_dual_43] at hm
    by_cases c1 : (3 : Int32) ≤ x3
    · have hm := ifT hm c1
      exact (mo_X1_dual_122 hk10 h x0 x1 x2 _ hm)
    · have hm := ifF hm c1
      exact (mo_X1_dual_54 hk10 ihm f h x0 x1 x2 x3 (0 : Int64) x2 _ hm)
def m_X1_dual_10 (f : Nat) : Nat → CH → Nat → Nat → Int32 → Option (Nat × CH)
  | 0, _, _, _, _ => none
  | n10 + 1, h, x0, x1, x2 => if (3 : Int32) ≤ x2 then
    m_X1_dual_128 f h x1
    else bd (oR h 3 0 x1) fun a2 =>
    bd (aR h 4 a2 x2) fun a3 =>
    bd (oL h 2 2 x0) fun v4 =>
    bd (oR h 2 0 x0) fun a5 =>
    bd (oR h 3 0 a5) fun a6 =>
    bd (aR h 4 a6 x2) fun a7 =>
    bd (aL h 1 a7 x2) fun v8 =>
    gd (nzL v8) <|
    bd (uL h 1 a3 x2 (v4 / v8)) fun h10 =>
    nmv ((x2 + (1 : Int32)) : Int32) fun v11 =>
    m_X1_dual_43 f (m_X1_dual_10 f n10) f h10 x0 x1 x2 v11
theorem mo_X1_dual_10 {f : Nat} : ∀ (n10 : Nat) (h : CH) (x0 : Nat) (x1 : Nat) (x2 : Int32) (r : (Nat × CH)), m_X1_dual_10 f n10 h x0 x1 x2 = some r → le2 h r.2 := by
  intro n10
  induction n10 with
  | zero => intro h x0 x1 x2 r hm; rw [m_X1_dual_10] at hm; exact noE hm
  | succ n10 ihm =>
    intro h x0 x1 x2 r hm
    rw [m_X1_dual_10] at hm
    by_cases c1 : (3 : Int32) ≤ x2
    · have hm := ifT hm c1
      exact (mo_X1_dual_128  h x1 _ hm)
    · have hm := ifF hm c1
      obtain ⟨a2, ea2, hm⟩ := bdE hm
      obtain ⟨a3, ea3, hm⟩ := bdE hm
      obtain ⟨v4, ev4, hm⟩ := bdE hm
      obtain ⟨a5, ea5, hm⟩ := bdE hm
      obtain ⟨a6, ea6, hm⟩ := bdE hm
      obtain ⟨a7, ea7, hm⟩ := bdE hm
      obtain ⟨v8, ev8, hm⟩ := bdE hm
      obtain ⟨g9, hm⟩ := gdE hm
      obtain ⟨h10, eh10, hm⟩ := bdE hm
      have lh10 := uL_le eh10
      obtain ⟨v11, ev11, hm⟩ := nmE hm
      exact (lh10.tr (mo_X1_dual_43 ihm f h10 x0 x1 x2 v11 _ hm))
def m_X1_dual_7 (f : Nat) (h : CH) (x0 : Nat) (y0 : Nat) : Option (Nat × CH) := m_X1_dual_10 f f h x0 y0 (0 : Int32)
theorem mo_X1_dual_7 {f : Nat} : ∀ (h : CH) (x0 : Nat) (y0 : Nat) (r : (Nat × CH)), m_X1_dual_7 f h x0 y0 = some r → le2 h r.2 := by
  intro h x0 y0 r hm
  rw [m_X1_dual_7] at hm
  exact (mo_X1_dual_10  f h x0 y0 (0 : Int32) _ hm)
def m_X1_dual_3 (f : Nat) (h : CH) (x0 : Nat) (y0 : Nat) : Option (Nat × CH) := bd (m_X2_init f h y0) fun h1 =>
    m_X1_dual_7 f h1 x0 y0
theorem mo_X1_dual_3 {f : Nat} : ∀ (h : CH) (x0 : Nat) (y0 : Nat) (r : (Nat × CH)), m_X1_dual_3 f h x0 y0 = some r → le2 h r.2 := by
  intro h x0 y0 r hm
  rw [m_X1_dual_3] at hm
  obtain ⟨h1, eh1, hm⟩ := bdE hm
  have lh1 := mo_X2_init eh1
  exact (lh1.tr (mo_X1_dual_7  h1 x0 y0 _ hm))
def m_X1_dual (f : Nat) (u : CH) (x0 : Nat) : Option (Nat × CH) := nmv (cn u 1 (.inl (3, [.null]))) fun h1 =>
    nmv (u.1 : Nat) fun a2 =>
    m_X1_dual_3 f h1 x0 a2
theorem mo_X1_dual {f : Nat} {u : CH} {x0 : Nat} {r0 : Nat} {u9 : CH} (hm : m_X1_dual f u x0 = some (r0, u9)) : le2 u u9 := by
  rw [m_X1_dual] at hm
  obtain ⟨h1, eh1, hm⟩ := nmE hm
  have lh1 := cn_le eh1
  obtain ⟨a2, ea2, hm⟩ := nmE hm
  exact (lh1.tr (mo_X1_dual_3  h1 x0 a2 _ hm))
abbrev rm_X1_dual (mc ms : Nat) : Room := { frames := 2, cells := mc, slots := ms, locals := 40 }
theorem cw_X1_dual {R : Room} {s : State} {args : Array Value} {own : String} {idx mc ms : Nat} (hts : ∀ w ∈ lw_all, w.before args s = true) (hl : Cond.methodLink own idx yX1_dual ∈ lw_all) (hR : 2 + 1 ≤ R.frames ∧ 8 + (7 + 11) + 40 ≤ R.locals) : CallW R s args own RX1 idx yX1_dual cX1_dual 7 (Option.some (Jvm.ClassFile.FieldType.object "CoincideBench$Rows")) (ws_ yX1_dual cX1_dual 7 (Option.some (Jvm.ClassFile.FieldType.object "CoincideBench$Rows"))) (rm_X1_dual mc ms) mc ms 0 := cwV 0 hts (lw_V hl q1141 q1142 q123 q1143) rfl rfl rfl (by decide +kernel) hR
set_option maxHeartbeats 4000000 in
set_option maxRecDepth 100000 in
theorem w_X1_dual (l : Launch) {D : va_G} {dA : Nat → ClassId} {A : Nat → Prop} {f : Nat} {u u9 : CH} {r0 : Nat} {x0 : Nat} (hm : m_X1_dual f u x0 = some (r0, u9)) : Met l yX1_dual (ws_ yX1_dual cX1_dual 7 (Option.some (Jvm.ClassFile.FieldType.object "CoincideBench$Rows"))) (rm_X1_dual (u9.1 - u.1) (u9.2.1 - u.2.1)) (va_Pc [.ref x0] (CPre D dA A u)) (va_Qr (fun u => u = u9) (fun u r t => r = r0 ∧ CPost D dA A u t) A) (u9.1 - u.1) (u9.2.1 - u.2.1) A := by
  refine Met.ofW (cc := cX1_dual) (maxL := 7) (ret := (Option.some (Jvm.ClassFile.FieldType.object "CoincideBench$Rows"))) (by decide) rfl ?_
  intro p e s m args below meth c s₁ B hml hv
  have hx := B.exec
  have hb := B.bytes
  have hr := B.returns
  have hts := atoms_spec (ws := (ws_ yX1_dual cX1_dual 7 (Option.some (Jvm.ClassFile.FieldType.object "CoincideBench$Rows")))) B.pre
  have hts : ∀ w ∈ lw_all, w.before args s = true := fun w h => hts w (List.mem_cons_of_mem _ h)
  have hown : s.vm.findClass RX1 = some m.cls := findClass_of_methodNamed B.named
  have hlocks := B.notSynchronized
  obtain ⟨hav, hv⟩ := hv
  have C : CX p s m args c cX1_dual RX1 D dA := ⟨hx, hb, hown, hts, hv.2⟩
  have hw : CW D dA A s u s.heap [] := hv.1
  generalize hQ : MQ below (va_Qr (fun u => u = u9) (fun u r t => r = r0 ∧ CPost D dA A u t) A) args s (u9.1 - u.1) (u9.2.1 - u.2.1) A = QQ
  have hent := lg_entry_eq m [.ref x0] 7
  rw [← hav] at hent
  rw [hent]
  have hl := lv_entry ([.ref x0]) (n := 7) (Nat.le_of_ble_eq_true rfl)
  generalize (lg_sl ([.ref x0]) ++ List.replicate (7 - (lg_sl ([.ref x0])).length) Slot.unset).toArray = ls at hl ⊢
  have hl : lv_has ls 7 [(0, .ref x0)] := hl
  obtain ⟨cc, ecc⟩ : ∃ z : Nat, z = 0 := ⟨0, rfl⟩
  obtain ⟨ss, ess⟩ : ∃ z : Nat, z = 0 := ⟨0, rfl⟩
  have hcc : cc + u.1 = u.1 := by omega
  have hss : ss + u.2.1 = u.2.1 := by omega
  suffices hgo : W p l e (rm_X1_dual (u9.1 - u.1) (u9.2.1 - u.2.1)) s m args below meth c s.heap [] cc ss QQ (F0 m 0 ls []) by rw [ecc, ess] at hgo; exact hgo
  have ⟨pu, qu, _, _⟩ := mo_X1_dual hm
  have hB128 : ∀ (h : CH) (x1 : Nat) (cc ss : Nat) (H : Heap) (locs : List Loc) (ls : Array Slot), m_X1_dual_128 f h x1 = some (r0, u9) → CW D dA A s h H locs → cc + u.1 = h.1 → ss + u.2.1 = h.2.1 → lv_has ls 7 [(1, .ref x1)] → W p l e (rm_X1_dual (u9.1 - u.1) (u9.2.1 - u.2.1)) s m args below meth c H locs cc ss QQ (F0 m 128 ls []) := by
    intro h x1 cc ss H locs ls hm hw hcc hss hl
    have hmo := mo_X1_dual_128  h x1 _ hm
    have sb_ : h.1 ≤ u9.1 := hmo.1
    have tb_ : h.2.1 ≤ u9.2.1 := hmo.2.1
    rw [m_X1_dual_128] at hm
    refine lv_aload_n hx hb dX1_dual_128 rfl (lv_at hl 0 rfl) ?_
    obtain ⟨er, eh⟩ := retE hm
    have ec : cc = u9.1 - u.1 := by rw [← eh]; omega
    have es : ss = u9.2.1 - u.2.1 := by rw [← eh]; omega
    rw [ec, es, ← hQ]
    exact W.aret (v := .ref x1) hx hb hr (Or.inl ⟨_, rfl⟩) (Or.inr ⟨_, rfl⟩) (fun t ht hW => ⟨⟨h, x1, rfl, eh, er, ⟨by rw [ht]; exact hw.1, by rw [ht]; exact hw.2.1⟩⟩, hw.2.2.1.F ht⟩) hw.2.2.1.2.2 dX1_dual_129
  have hB10 : ∀ (n10 : Nat), ∀ (h : CH) (x0 : Nat) (x1 : Nat) (x2 : Int32) (cc ss : Nat) (H : Heap) (locs : List Loc) (ls : Array Slot), m_X1_dual_10 f n10 h x0 x1 x2 = some (r0, u9) → CW D dA A s h H locs → cc + u.1 = h.1 → ss + u.2.1 = h.2.1 → lv_has ls 7 [(0, .ref x0), (1, .ref x1), (2, .int x2)] → W p l e (rm_X1_dual (u9.1 - u.1) (u9.2.1 - u.2.1)) s m args below meth c H locs cc ss QQ (F0 m 10 ls []) := by
    intro n10
    induction n10 with
    | zero => intro h x0 x1 x2 cc ss H locs ls hm hw hcc hss hl; rw [m_X1_dual_10] at hm; exact noE hm
    | succ n10 ih10 =>
      have hB122 : ∀ (h : CH) (x0 : Nat) (x1 : Nat) (x2 : Int32) (cc ss : Nat) (H : Heap) (locs : List Loc) (ls : Array Slot), m_X1_dual_122 f (m_X1_dual_10 f n10) h x0 x1 x2 = some (r0, u9) → CW D dA A s h H locs → cc + u.1 = h.1 → ss + u.2.1 = h.2.1 → lv_has ls 7 [(0, .ref x0), (1, .ref x1), (2, .int x2)] → W p l e (rm_X1_dual (u9.1 - u.1) (u9.2.1 - u.2.1)) s m args below meth c H locs cc ss QQ (F0 m 122 ls []) := by
        intro h x0 x1 x2 cc ss H locs ls hm hw hcc hss hl
        have hmo := mo_X1_dual_122 (mo_X1_dual_10 n10) h x0 x1 x2 _ hm
        have sb_ : h.1 ≤ u9.1 := hmo.1
        have tb_ : h.2.1 ≤ u9.2.1 := hmo.2.1
        rw [m_X1_dual_122] at hm
        obtain ⟨v1, ev1, hm⟩ := nmE hm
        refine lv_iinc (v := v1) (lv' := [(2, .int v1), (0, .ref x0), (1, .ref x1)]) hx hb dX1_dual_122 hl (k := 2) rfl (by rw [ev1]; rfl) (by decide) rfl (fun ls hl => ?_)
        refine lv_goto (tgt := 10) hx hb dX1_dual_125 (by decide) ?_
        exact ih10 h x0 x1 v1 _ _ _ _ _ hm hw (by omega) (by omega) (lv_sub hl [1, 2, 0] rfl)
      have hB43 : ∀ (n43 : Nat), ∀ (h : CH) (x0 : Nat) (x1 : Nat) (x2 : Int32) (x3 : Int32) (cc ss : Nat) (H : Heap) (locs : List Loc) (ls : Array Slot), m_X1_dual_43 f (m_X1_dual_10 f n10) n43 h x0 x1 x2 x3 = some (r0, u9) → CW D dA A s h H locs → cc + u.1 = h.1 → ss + u.2.1 = h.2.1 → lv_has ls 7 [(0, .ref x0), (1, .ref x1), (2, .int x2), (3, .int x3)] → W p l e (rm_X1_dual (u9.1 - u.1) (u9.2.1 - u.2.1)) s m args below meth c H locs cc ss QQ (F0 m 43 ls []) := by
        intro n43
        induction n43 with
        | zero => intro h x0 x1 x2 x3 cc ss H locs ls hm hw hcc hss hl; rw [m_X1_dual_43] at hm; exact noE hm
        | succ n43 ih43 =>
          have hB93 : ∀ (h : CH) (x0 : Nat) (x1 : Nat) (x2 : Int32) (x3 : Int32) (x4 : Int64) (cc ss : Nat) (H : Heap) (locs : List Loc) (ls : Array Slot), m_X1_dual_93 f (m_X1_dual_10 f n10) (m_X1_dual_43 f (m_X1_dual_10 f n10) n43) h x0 x1 x2 x3 x4 = some (r0, u9) → CW D dA A s h H locs → cc + u.1 = h.1 → ss + u.2.1 = h.2.1 → lv_has ls 7 [(0, .ref x0), (1, .ref x1), (2, .int x2), (3, .int x3), (4, .long x4)] → W p l e (rm_X1_dual (u9.1 - u.1) (u9.2.1 - u.2.1)) s m args below meth c H locs cc ss QQ (F0 m 93 ls []) := by
            intro h x0 x1 x2 x3 x4 cc ss H locs ls hm hw hcc hss hl
            have hmo := mo_X1_dual_93 (mo_X1_dual_10 n10) (mo_X1_dual_43 (mo_X1_dual_10 n10) n43) h x0 x1 x2 x3 x4 _ hm
            have sb_ : h.1 ≤ u9.1 := hmo.1
            have tb_ : h.2.1 ≤ u9.2.1 := hmo.2.1
            rw [m_X1_dual_93] at hm
            refine lv_aload_n hx hb dX1_dual_93 rfl (lv_at hl 1 rfl) ?_
            obtain ⟨a1, ea1, hm⟩ := bdE hm
            refine cg_getN C hw (by decide) (oR_E ea1) rfl in_X2 (by decide) (hw.2.2.2.2.1 _ (List.mem_of_getElem? (i := 40) rfl)) dX1_dual_94 ?_
            refine lv_iload_n hx hb dX1_dual_97 rfl (lv_at hl 2 rfl) ?_
            obtain ⟨a2, ea2, hm⟩ := bdE hm
            refine cg_aaldA C hw (ty := .array .long) rfl rfl (aR_E ea2) dX1_dual_98 ?_
            refine lv_iload_n hx hb dX1_dual_99 rfl (lv_at hl 3 rfl) ?_
            refine lv_lload hx hb dX1_dual_100 (lv_at hl 4 rfl) ?_
            refine lv_lneg hx hb dX1_dual_102 ?_
            refine lv_aload_n hx hb dX1_dual_103 rfl (lv_at hl 0 rfl) ?_
            obtain ⟨a3, ea3, hm⟩ := bdE hm
            refine cg_get C hw (oR_E ea3) rfl in_X1 (by decide) q222 dX1_dual_104 ?_
            obtain ⟨a4, ea4, hm⟩ := bdE hm
            refine cg_getN C hw (by decide) (oR_E ea4) rfl in_X2 (by decide) (hw.2.2.2.2.1 _ (List.mem_of_getElem? (i := 40) rfl)) dX1_dual_107 ?_
            refine lv_iload_n hx hb dX1_dual_110 rfl (lv_at hl 3 rfl) ?_
            obtain ⟨a5, ea5, hm⟩ := bdE hm
            refine cg_aaldA C hw (ty := .array .long) rfl rfl (aR_E ea5) dX1_dual_111 ?_
            refine lv_iload_n hx hb dX1_dual_112 rfl (lv_at hl 3 rfl) ?_
            obtain ⟨v6, ev6, hm⟩ := bdE hm
            refine cg_lald C hw ev6 dX1_dual_113 ?_
            obtain ⟨g7, hm⟩ := gdE hm
            refine lv_ldiv hx hb dX1_dual_114 (nzL_ne g7) ?_
            obtain ⟨h8, eh8, hm⟩ := bdE hm
            refine cg_last C hw eh8 dX1_dual_115 (fun H locs hw => ?_)
            have zh8 := uL_sz eh8
            obtain ⟨v9, ev9, hm⟩ := nmE hm
            refine lv_iinc (v := v9) (lv' := [(3, .int v9), (0, .ref x0), (1, .ref x1), (2, .int x2), (4, .long x4)]) hx hb dX1_dual_116 hl (k := 3) rfl (by rw [ev9]; rfl) (by decide) rfl (fun ls hl => ?_)
            refine lv_goto (tgt := 43) hx hb dX1_dual_119 (by decide) ?_
            exact ih43 h8 x0 x1 x2 v9 _ _ _ _ _ hm hw (by omega) (by omega) (lv_sub hl [1, 2, 3, 0] rfl)
          have hB54 : ∀ (n54 : Nat), ∀ (h : CH) (x0 : Nat) (x1 : Nat) (x2 : Int32) (x3 : Int32) (x4 : Int64) (x6 : Int32) (cc ss : Nat) (H : Heap) (locs : List Loc) (ls : Array Slot), m_X1_dual_54 f (m_X1_dual_10 f n10) (m_X1_dual_43 f (m_X1_dual_10 f n10) n43) n54 h x0 x1 x2 x3 x4 x6 = some (r0, u9) → CW D dA A s h H locs → cc + u.1 = h.1 → ss + u.2.1 = h.2.1 → lv_has ls 7 [(0, .ref x0), (1, .ref x1), (2, .int x2), (3, .int x3), (4, .long x4), (6, .int x6)] → W p l e (rm_X1_dual (u9.1 - u.1) (u9.2.1 - u.2.1)) s m args below meth c H locs cc ss QQ (F0 m 54 ls []) := by
            intro n54
            induction n54 with
            | zero => intro h x0 x1 x2 x3 x4 x6 cc ss H locs ls hm hw hcc hss hl; rw [m_X1_dual_54] at hm; exact noE hm
            | succ n54 ih54 =>
              intro h x0 x1 x2 x3 x4 x6 cc ss H locs ls hm hw hcc hss hl
              have hmo := mo_X1_dual_54 (mo_X1_dual_10 n10) (mo_X1_dual_43 (mo_X1_dual_10 n10) n43) (n54 + 1) h x0 x1 x2 x3 x4 x6 _ hm
              have sb_ : h.1 ≤ u9.1 := hmo.1
              have tb_ : h.2.1 ≤ u9.2.1 := hmo.2.1
              rw [m_X1_dual_54] at hm
              refine lv_iload hx hb dX1_dual_54 (lv_at hl 5 rfl) ?_
              refine lv_iload_n hx hb dX1_dual_56 rfl (lv_at hl 3 rfl) ?_
              refine lv_icmp_ge (tgt := 93) hx hb dX1_dual_57 (by decide) (fun c1 => ?_) (fun c1 => ?_)
              · have hm := ifT hm c1
                exact hB93 h x0 x1 x2 x3 x4 _ _ _ _ _ hm hw (by omega) (by omega) (lv_sub hl [0, 1, 2, 3, 4] rfl)
              · have hm := ifF hm c1
                refine lv_lload hx hb dX1_dual_60 (lv_at hl 4 rfl) ?_
                refine lv_aload_n hx hb dX1_dual_62 rfl (lv_at hl 1 rfl) ?_
                obtain ⟨a2, ea2, hm⟩ := bdE hm
                refine cg_getN C hw (by decide) (oR_E ea2) rfl in_X2 (by decide) (hw.2.2.2.2.1 _ (List.mem_of_getElem? (i := 40) rfl)) dX1_dual_63 ?_
                refine lv_iload_n hx hb dX1_dual_66 rfl (lv_at hl 2 rfl) ?_
                obtain ⟨a3, ea3, hm⟩ := bdE hm
                refine cg_aaldA C hw (ty := .array .long) rfl rfl (aR_E ea3) dX1_dual_67 ?_
                refine lv_iload hx hb dX1_dual_68 (lv_at hl 5 rfl) ?_
                obtain ⟨v4, ev4, hm⟩ := bdE hm
                refine cg_lald C hw ev4 dX1_dual_70 ?_
                refine lv_aload_n hx hb dX1_dual_71 rfl (lv_at hl 0 rfl) ?_
                obtain ⟨a5, ea5, hm⟩ := bdE hm
                refine cg_get C hw (oR_E ea5) rfl in_X1 (by decide) q222 dX1_dual_72 ?_
                obtain ⟨a6, ea6, hm⟩ := bdE hm
                refine cg_getN C hw (by decide) (oR_E ea6) rfl in_X2 (by decide) (hw.2.2.2.2.1 _ (List.mem_of_getElem? (i := 40) rfl)) dX1_dual_75 ?_
                refine lv_iload hx hb dX1_dual_78 (lv_at hl 5 rfl) ?_
                obtain ⟨a7, ea7, hm⟩ := bdE hm
                refine cg_aaldA C hw (ty := .array .long) rfl rfl (aR_E ea7) dX1_dual_80 ?_
                refine lv_iload_n hx hb dX1_dual_81 rfl (lv_at hl 3 rfl) ?_
                obtain ⟨v8, ev8, hm⟩ := bdE hm
                refine cg_lald C hw ev8 dX1_dual_82 ?_
                refine lv_lmul hx hb dX1_dual_83 ?_
                refine lv_ladd hx hb dX1_dual_84 ?_
                refine lv_topl (fun v9 ev9 => ?_)
                have hm := nmK hm ev9
                refine lv_lstore (lv' := [(4, .long v9), (0, .ref x0), (1, .ref x1), (2, .int x2), (3, .int x3), (6, .int x6)]) hx hb dX1_dual_85 hl (by decide) rfl (fun ls hl => ?_)
                obtain ⟨v10, ev10, hm⟩ := nmE hm
                refine lv_iinc (v := v10) (lv' := [(6, .int v10), (4, .long v9), (0, .ref x0), (1, .ref x1), (2, .int x2), (3, .int x3)]) hx hb dX1_dual_87 hl (k := 5) rfl (by rw [ev10]; rfl) (by decide) rfl (fun ls hl => ?_)
                refine lv_goto (tgt := 54) hx hb dX1_dual_90 (by decide) ?_
                exact ih54 h x0 x1 x2 x3 v9 v10 _ _ _ _ _ hm hw (by omega) (by omega) (lv_sub hl [2, 3, 4, 5, 1, 0] rfl)
          intro h x0 x1 x2 x3 cc ss H locs ls hm hw hcc hss hl
          have hmo := mo_X1_dual_43 (mo_X1_dual_10 n10) (n43 + 1) h x0 x1 x2 x3 _ hm
          have sb_ : h.1 ≤ u9.1 := hmo.1
          have tb_ : h.2.1 ≤ u9.2.1 := hmo.2.1
          rw [m_X1_dual_43] at hm
          refine lv_iload_n hx hb dX1_dual_43 rfl (lv_at hl 3 rfl) ?_
          refine lv_iconst (v := 3) hx hb dX1_dual_44 (by decide) ?_
          refine lv_icmp_ge (tgt := 122) hx hb dX1_dual_45 (by decide) (fun c1 => ?_) (fun c1 => ?_)
          · have hm := ifT hm c1
            exact hB122 h x0 x1 x2 _ _ _ _ _ hm hw (by omega) (by omega) (lv_sub hl [0, 1, 2] rfl)
          · have hm := ifF hm c1
            refine lv_lconst (v := 0) hx hb dX1_dual_48 (by decide) ?_
            refine lv_lstore (lv' := [(4, .long (0 : Int64)), (0, .ref x0), (1, .ref x1), (2, .int x2), (3, .int x3)]) hx hb dX1_dual_49 hl (by decide) rfl (fun ls hl => ?_)
            refine lv_iload_n hx hb dX1_dual_51 rfl (lv_at hl 3 rfl) ?_
            refine lv_istore (lv' := [(6, .int x2), (4, .long (0 : Int64)), (0, .ref x0), (1, .ref x1), (2, .int x2), (3, .int x3)]) hx hb dX1_dual_52 hl (by decide) rfl (fun ls hl => ?_)
            exact hB54 f h x0 x1 x2 x3 (0 : Int64) x2 _ _ _ _ _ hm hw (by omega) (by omega) (lv_sub hl [2, 3, 4, 5, 1, 0] rfl)
      intro h x0 x1 x2 cc ss H locs ls hm hw hcc hss hl
      have hmo := mo_X1_dual_10  (n10 + 1) h x0 x1 x2 _ hm
      have sb_ : h.1 ≤ u9.1 := hmo.1
      have tb_ : h.2.1 ≤ u9.2.1 := hmo.2.1
      rw [m_X1_dual_10] at hm
      refine lv_iload_n hx hb dX1_dual_10 rfl (lv_at hl 2 rfl) ?_
      refine lv_iconst (v := 3) hx hb dX1_dual_11 (by decide) ?_
      refine lv_icmp_ge (tgt := 128) hx hb dX1_dual_12 (by decide) (fun c1 => ?_) (fun c1 => ?_)
      · have hm := ifT hm c1
        exact hB128 h x1 _ _ _ _ _ hm hw (by omega) (by omega) (lv_sub hl [1] rfl)
      · have hm := ifF hm c1
        refine lv_aload_n hx hb dX1_dual_15 rfl (lv_at hl 1 rfl) ?_
        obtain ⟨a2, ea2, hm⟩ := bdE hm
        refine cg_getN C hw (by decide) (oR_E ea2) rfl in_X2 (by decide) (hw.2.2.2.2.1 _ (List.mem_of_getElem? (i := 40) rfl)) dX1_dual_16 ?_
        refine lv_iload_n hx hb dX1_dual_19 rfl (lv_at hl 2 rfl) ?_
        obtain ⟨a3, ea3, hm⟩ := bdE hm
        refine cg_aaldA C hw (ty := .array .long) rfl rfl (aR_E ea3) dX1_dual_20 ?_
        refine lv_iload_n hx hb dX1_dual_21 rfl (lv_at hl 2 rfl) ?_
        refine lv_aload_n hx hb dX1_dual_22 rfl (lv_at hl 0 rfl) ?_
        obtain ⟨v4, ev4, hm⟩ := bdE hm
        refine cg_get C hw (oL_E ev4) rfl in_X1 (by decide) q225 dX1_dual_23 ?_
        refine lv_aload_n hx hb dX1_dual_26 rfl (lv_at hl 0 rfl) ?_
        obtain ⟨a5, ea5, hm⟩ := bdE hm
        refine cg_get C hw (oR_E ea5) rfl in_X1 (by decide) q222 dX1_dual_27 ?_
        obtain ⟨a6, ea6, hm⟩ := bdE hm
        refine cg_getN C hw (by decide) (oR_E ea6) rfl in_X2 (by decide) (hw.2.2.2.2.1 _ (List.mem_of_getElem? (i := 40) rfl)) dX1_dual_30 ?_
        refine lv_iload_n hx hb dX1_dual_33 rfl (lv_at hl 2 rfl) ?_
        obtain ⟨a7, ea7, hm⟩ := bdE hm
        refine cg_aaldA C hw (ty := .array .long) rfl rfl (aR_E ea7) dX1_dual_34 ?_
        refine lv_iload_n hx hb dX1_dual_35 rfl (lv_at hl 2 rfl) ?_
        obtain ⟨v8, ev8, hm⟩ := bdE hm
        refine cg_lald C hw ev8 dX1_dual_36 ?_
        obtain ⟨g9, hm⟩ := gdE hm
        refine lv_ldiv hx hb dX1_dual_37 (nzL_ne g9) ?_
        obtain ⟨h10, eh10, hm⟩ := bdE hm
        refine cg_last C hw eh10 dX1_dual_38 (fun H locs hw => ?_)
        have zh10 := uL_sz eh10
        refine lv_iload_n hx hb dX1_dual_39 rfl (lv_at hl 2 rfl) ?_
        refine lv_iconst (v := 1) hx hb dX1_dual_40 (by decide) ?_
        refine lv_iadd hx hb dX1_dual_41 ?_
        refine lv_topi (fun v11 ev11 => ?_)
        have hm := nmK hm ev11
        refine lv_istore_n (lv' := [(3, .int v11), (0, .ref x0), (1, .ref x1), (2, .int x2)]) hx hb dX1_dual_42 rfl hl (by decide) rfl (fun ls hl => ?_)
        exact hB43 f h10 x0 x1 x2 v11 _ _ _ _ _ hm hw (by omega) (by omega) (lv_sub hl [1, 2, 3, 0] rfl)
  have hB7 : ∀ (h : CH) (x0 : Nat) (y0 : Nat) (cc ss : Nat) (H : Heap) (locs : List Loc) (ls : Array Slot), m_X1_dual_7 f h x0 y0 = some (r0, u9) → CW D dA A s h H locs → cc + u.1 = h.1 → ss + u.2.1 = h.2.1 → lv_has ls 7 [(0, .ref x0)] → W p l e (rm_X1_dual (u9.1 - u.1) (u9.2.1 - u.2.1)) s m args below meth c H locs cc ss QQ (F0 m 7 ls [.ref y0]) := by
    intro h x0 y0 cc ss H locs ls hm hw hcc hss hl
    have hmo := mo_X1_dual_7  h x0 y0 _ hm
    have sb_ : h.1 ≤ u9.1 := hmo.1
    have tb_ : h.2.1 ≤ u9.2.1 := hmo.2.1
    rw [m_X1_dual_7] at hm
    refine lv_astore_n (lv' := [(1, .ref y0), (0, .ref x0)]) hx hb dX1_dual_7 rfl hl (by decide) rfl (fun ls hl => ?_)
    refine lv_iconst (v := 0) hx hb dX1_dual_8 (by decide) ?_
    refine lv_istore_n (lv' := [(2, .int (0 : Int32)), (1, .ref y0), (0, .ref x0)]) hx hb dX1_dual_9 rfl hl (by decide) rfl (fun ls hl => ?_)
    exact hB10 f h x0 y0 (0 : Int32) _ _ _ _ _ hm hw (by omega) (by omega) (lv_sub hl [2, 1, 0] rfl)
  have hB3 : ∀ (h : CH) (x0 : Nat) (y0 : Nat) (cc ss : Nat) (H : Heap) (locs : List Loc) (ls : Array Slot), m_X1_dual_3 f h x0 y0 = some (r0, u9) → CW D dA A s h H locs → cc + u.1 = h.1 → ss + u.2.1 = h.2.1 → lv_has ls 7 [(0, .ref x0)] → W p l e (rm_X1_dual (u9.1 - u.1) (u9.2.1 - u.2.1)) s m args below meth c H locs cc ss QQ (F0 m 3 ls [.ref y0]) := by
    intro h x0 y0 cc ss H locs ls hm hw hcc hss hl
    have hmo := mo_X1_dual_3  h x0 y0 _ hm
    have sb_ : h.1 ≤ u9.1 := hmo.1
    have tb_ : h.2.1 ≤ u9.2.1 := hmo.2.1
    rw [m_X1_dual_3] at hm
    refine lv_dup hx hb dX1_dual_3 rfl ?_
    obtain ⟨h1, eh1, hm⟩ := bdE hm
    have lh1 := mo_X2_init eh1
    have ph1 : h.1 ≤ h1.1 := lh1.1
    have qh1 : h.2.1 ≤ h1.2.1 := lh1.2.1
    have hmo := mo_X1_dual_7   h1 x0 y0 _ hm
    have sh1 : h1.1 ≤ u9.1 := hmo.1
    have th1 : h1.2.1 ≤ u9.2.1 := hmo.2.1
    refine cg_callv hw lh1 (va_runIN (As := []) (rest := [.ref y0]) ⟨hx, hb, hml, hown, hts⟩ (w_X2_init l eh1) ⟨va_cnB 0 hts (lw_meth q201) rfl rfl rfl (hw.2.2.2.2.1 _ (List.mem_of_getElem? (i := 39) rfl)) (hts _ q124) (by decide +kernel) ⟨Nat.le_of_ble_eq_true rfl, Nat.le_of_ble_eq_true rfl⟩, rfl, hts _ q200⟩ (cg_preS C hw _) rfl rfl hl.1 rfl (lv_room (Nat.le_of_ble_eq_true rfl)) dX1_dual_4 ⟨show cc + (h1.1 - h.1) ≤ u9.1 - u.1 by omega, show ss + (h1.2.1 - h.2.1) ≤ u9.2.1 - u.2.1 by omega⟩) (fun H locs hw => ?_)
    exact hB7 h1 x0 y0 _ _ _ _ _ hm hw (by omega) (by omega) (lv_sub hl [0] rfl)
  rw [m_X1_dual] at hm
  obtain ⟨h1, eh1, hm⟩ := nmE hm
  obtain ⟨_, _, hmq⟩ := nmE hm
  have hmo := mo_X1_dual_3   h1 x0 _ _ hmq
  have sh1 : h1.1 ≤ u9.1 := hmo.1
  have th1 : h1.2.1 ≤ u9.2.1 := hmo.2.1
  have zh1 := cn_sz eh1
  refine cg_new (C0 := C) hw (ci := 3) (fs := [.null]) rfl in_X2 tyX2 tyX2_ok q197 q198 q124 (fun j hj => by rcases (show j = 0 by omega) with rfl <;> rfl) (show cc + 1 ≤ u9.1 - u.1 by omega) (show ss + 1 ≤ u9.2.1 - u.2.1 by omega) dX1_dual_0 (fun H hw => ?_)
  rw [← eh1] at hw
  refine lv_topr (fun a2 ea2 => ?_)
  have hm := nmK hm ea2
  exact hB3 h1 x0 a2 _ _ _ _ _ hm hw (by omega) (by omega) (lv_sub hl [0] rfl)
