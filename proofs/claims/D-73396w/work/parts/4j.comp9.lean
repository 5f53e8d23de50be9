/-! walks of the component (printed by gen/walkc.py) -/
set_option maxRecDepth 100000
def m_X0_kiss_21 (f : Nat) (h : CH) (y0 : Int32) : Option (Int32 × CH) := some (y0, h)
theorem mo_X0_kiss_21 {f : Nat} : ∀ (h : CH) (y0 : Int32) (r : (Int32 × CH)), m_X0_kiss_21 f h y0 = some r → le2 h r.2 := by
  intro h y0 r hm
  rw [m_X0_kiss_21] at hm
  cases hm
  exact le2.rf
def m_X0_kiss_16 (f : Nat) (h : CH) (y0 : Int32) : Option (Int32 × CH) := m_X0_kiss_21 f h y0
theorem mo_X0_kiss_16 {f : Nat} : ∀ (h : CH) (y0 : Int32) (r : (Int32 × CH)), m_X0_kiss_16 f h y0 = some r → le2 h r.2 := by
  intro h y0 r hm
  rw [m_X0_kiss_16] at hm
  exact (mo_X0_kiss_21  h y0 _ hm)
def m_X0_kiss_13 (f : Nat) (h : CH) (y0 : Nat) : Option (Int32 × CH) := gd (isC h y0 11) <|
    bd2 (m_X11_kissing f h y0) fun r3 h2 =>
    m_X0_kiss_16 f h2 r3
theorem mo_X0_kiss_13 {f : Nat} : ∀ (h : CH) (y0 : Nat) (r : (Int32 × CH)), m_X0_kiss_13 f h y0 = some r → le2 h r.2 := by
  intro h y0 r hm
  rw [m_X0_kiss_13] at hm
  obtain ⟨g1, hm⟩ := gdE hm
  obtain ⟨r3, h2, er3, hm⟩ := bd2E hm
  have lh2 := mo_X11_kissing er3
  exact (lh2.tr (mo_X0_kiss_16  h2 r3 _ hm))
def m_X0_kiss_5 (f : Nat) (h : CH) (x0 : Nat) (x1 : Int32) (y0 : Int32) : Option (Int32 × CH) := if y0 = 0 then
    m_X0_kiss_21 f h (-2 : Int32)
    else gd (isC h x0 1) <|
    bd2 (m_X0_reducedOf f h x0 x1) fun a4 h3 =>
    m_X0_kiss_13 f h3 a4
theorem mo_X0_kiss_5 {f : Nat} : ∀ (h : CH) (x0 : Nat) (x1 : Int32) (y0 : Int32) (r : (Int32 × CH)), m_X0_kiss_5 f h x0 x1 y0 = some r → le2 h r.2 := by
  intro h x0 x1 y0 r hm
  rw [m_X0_kiss_5] at hm
  by_cases c1 : y0 = 0
  · have hm := ifT hm c1
    exact (mo_X0_kiss_21  h (-2 : Int32) _ hm)
  · have hm := ifF hm c1
    obtain ⟨g2, hm⟩ := gdE hm
    obtain ⟨a4, h3, ea4, hm⟩ := bd2E hm
    have lh3 := mo_X0_reducedOf ea4
    exact (lh3.tr (mo_X0_kiss_13  h3 a4 _ hm))
def m_X0_kiss (f : Nat) (u : CH) (x0 : Nat) (x1 : Int32) : Option (Int32 × CH) := gd (isC u x0 1) <|
    bd2 (m_X0_isLattice f u x0 x1) fun r3 h2 =>
    m_X0_kiss_5 f h2 x0 x1 r3
theorem mo_X0_kiss {f : Nat} {u : CH} {x0 : Nat} {x1 : Int32} {r0 : Int32} {u9 : CH} (hm : m_X0_kiss f u x0 x1 = some (r0, u9)) : le2 u u9 := by
  rw [m_X0_kiss] at hm
  obtain ⟨g1, hm⟩ := gdE hm
  obtain ⟨r3, h2, er3, hm⟩ := bd2E hm
  have lh2 := mo_X0_isLattice er3
  exact (lh2.tr (mo_X0_kiss_5  h2 x0 x1 r3 _ hm))
abbrev rm_X0_kiss (mc ms : Nat) : Room := { frames := 106, cells := mc, slots := ms, locals := 4148 }
theorem cw_X0_kiss {R : Room} {s : State} {args : Array Value} {own : String} {idx mc ms : Nat} (hts : ∀ w ∈ lw_all, w.before args s = true) (hl : Cond.methodLink own idx yX0_kiss ∈ lw_all) (hR : 106 + 1 ≤ R.frames ∧ 8 + (2 + 11) + 4148 ≤ R.locals) : CallW R s args own RX0 idx yX0_kiss cX0_kiss 2 (Option.some Jvm.ClassFile.FieldType.int) (ws_ yX0_kiss cX0_kiss 2 (Option.some Jvm.ClassFile.FieldType.int)) (rm_X0_kiss mc ms) mc ms 1 := cwV 1 hts (lw_V hl q1274 q1275 q119 q1276) rfl rfl rfl (by decide +kernel) hR
set_option maxHeartbeats 4000000 in
set_option maxRecDepth 100000 in
theorem w_X0_kiss (l : Launch) {D : va_G} {dA : Nat → ClassId} {A : Nat → Prop} {f : Nat} {u u9 : CH} {r0 : Int32} {x0 : Nat} {x1 : Int32} (hm : m_X0_kiss f u x0 x1 = some (r0, u9)) : Met l yX0_kiss (ws_ yX0_kiss cX0_kiss 2 (Option.some Jvm.ClassFile.FieldType.int)) (rm_X0_kiss (u9.1 - u.1) (u9.2.1 - u.2.1)) (va_Pc [.ref x0, .int x1] (CPre D dA A u)) (va_Qi (fun r u => r = r0 ∧ u = u9) (CPost D dA A) A) (u9.1 - u.1) (u9.2.1 - u.2.1) A := by
  refine Met.ofW (cc := cX0_kiss) (maxL := 2) (ret := (Option.some Jvm.ClassFile.FieldType.int)) (by decide) rfl ?_
  intro p e s m args below meth c s₁ B hml hv
  have hx := B.exec
  have hb := B.bytes
  have hr := B.returns
  have hts := atoms_spec (ws := (ws_ yX0_kiss cX0_kiss 2 (Option.some Jvm.ClassFile.FieldType.int))) B.pre
  have hts : ∀ w ∈ lw_all, w.before args s = true := fun w h => hts w (List.mem_cons_of_mem _ h)
  have hown : s.vm.findClass RX0 = some m.cls := findClass_of_methodNamed B.named
  have hlocks := B.notSynchronized
  obtain ⟨hav, hv⟩ := hv
  have C : CX p s m args c cX0_kiss RX0 D dA := ⟨hx, hb, hown, hts, hv.2⟩
  have hw : CW D dA A s u s.heap [] := hv.1
  generalize hQ : MQ below (va_Qi (fun r u => r = r0 ∧ u = u9) (CPost D dA A) A) args s (u9.1 - u.1) (u9.2.1 - u.2.1) A = QQ
  have hent := lg_entry_eq m [.ref x0, .int x1] 2
  rw [← hav] at hent
  rw [hent]
  have hl := lv_entry ([.ref x0, .int x1]) (n := 2) (Nat.le_of_ble_eq_true rfl)
  generalize (lg_sl ([.ref x0, .int x1]) ++ List.replicate (2 - (lg_sl ([.ref x0, .int x1])).length) Slot.unset).toArray = ls at hl ⊢
  have hl : lv_has ls 2 [(0, .ref x0), (1, .int x1)] := hl
  obtain ⟨cc, ecc⟩ : ∃ z : Nat, z = 0 := ⟨0, rfl⟩
  obtain ⟨ss, ess⟩ : ∃ z : Nat, z = 0 := ⟨0, rfl⟩
  have hcc : cc + u.1 = u.1 := by omega
  have hss : ss + u.2.1 = u.2.1 := by omega
  suffices hgo : W p l e (rm_X0_kiss (u9.1 - u.1) (u9.2.1 - u.2.1)) s m args below meth c s.heap [] cc ss QQ (F0 m 0 ls []) by rw [ecc, ess] at hgo; exact hgo
  have ⟨pu, qu, _, _⟩ := mo_X0_kiss hm
  have hB21 : ∀ (h : CH) (y0 : Int32) (cc ss : Nat) (H : Heap) (locs : List Loc) (ls : Array Slot), m_X0_kiss_21 f h y0 = some (r0, u9) → CW D dA A s h H locs → cc + u.1 = h.1 → ss + u.2.1 = h.2.1 → lv_has ls 2 [] → W p l e (rm_X0_kiss (u9.1 - u.1) (u9.2.1 - u.2.1)) s m args below meth c H locs cc ss QQ (F0 m 21 ls [.int y0]) := by
    intro h y0 cc ss H locs ls hm hw hcc hss hl
    have hmo := mo_X0_kiss_21  h y0 _ hm
    have sb_ : h.1 ≤ u9.1 := hmo.1
    have tb_ : h.2.1 ≤ u9.2.1 := hmo.2.1
    rw [m_X0_kiss_21] at hm
    obtain ⟨er, eh⟩ := retE hm
    have ec : cc = u9.1 - u.1 := by rw [← eh]; omega
    have es : ss = u9.2.1 - u.2.1 := by rw [← eh]; omega
    rw [ec, es, ← hQ]
    exact W.iret (v := y0) hx hb hr (fun t ht hW => ⟨⟨y0, h, rfl, ⟨er, eh⟩, ⟨by rw [ht]; exact hw.1, by rw [ht]; exact hw.2.1⟩⟩, hw.2.2.1.F ht⟩) hw.2.2.1.2.2 dX0_kiss_21
  have hB16 : ∀ (h : CH) (y0 : Int32) (cc ss : Nat) (H : Heap) (locs : List Loc) (ls : Array Slot), m_X0_kiss_16 f h y0 = some (r0, u9) → CW D dA A s h H locs → cc + u.1 = h.1 → ss + u.2.1 = h.2.1 → lv_has ls 2 [] → W p l e (rm_X0_kiss (u9.1 - u.1) (u9.2.1 - u.2.1)) s m args below meth c H locs cc ss QQ (F0 m 16 ls [.int y0]) := by
    intro h y0 cc ss H locs ls hm hw hcc hss hl
    have hmo := mo_X0_kiss_16  h y0 _ hm
    have sb_ : h.1 ≤ u9.1 := hmo.1
    have tb_ : h.2.1 ≤ u9.2.1 := hmo.2.1
    rw [m_X0_kiss_16] at hm
    refine lv_goto (tgt := 21) hx hb dX0_kiss_16 (by decide) ?_
    exact hB21 h y0 _ _ _ _ _ hm hw (by omega) (by omega) (lv_sub hl [] rfl)
  have hB13 : ∀ (h : CH) (y0 : Nat) (cc ss : Nat) (H : Heap) (locs : List Loc) (ls : Array Slot), m_X0_kiss_13 f h y0 = some (r0, u9) → CW D dA A s h H locs → cc + u.1 = h.1 → ss + u.2.1 = h.2.1 → lv_has ls 2 [] → W p l e (rm_X0_kiss (u9.1 - u.1) (u9.2.1 - u.2.1)) s m args below meth c H locs cc ss QQ (F0 m 13 ls [.ref y0]) := by
    intro h y0 cc ss H locs ls hm hw hcc hss hl
    have hmo := mo_X0_kiss_13  h y0 _ hm
    have sb_ : h.1 ≤ u9.1 := hmo.1
    have tb_ : h.2.1 ≤ u9.2.1 := hmo.2.1
    rw [m_X0_kiss_13] at hm
    obtain ⟨g1, hm⟩ := gdE hm
    obtain ⟨r3, h2, er3, hm⟩ := bd2E hm
    have lh2 := mo_X11_kissing er3
    have ph2 : h.1 ≤ h2.1 := lh2.1
    have qh2 : h.2.1 ≤ h2.2.1 := lh2.2.1
    have hmo := mo_X0_kiss_16   h2 r3 _ hm
    have sh2 : h2.1 ≤ u9.1 := hmo.1
    have th2 : h2.2.1 ≤ u9.2.1 := hmo.2.1
    refine cg_calli hw lh2 (va_runVN (As := []) (rest := []) ⟨hx, hb, hml, hown, hts⟩ (w_X11_kissing l er3) ⟨va_cnB 0 hts (lw_meth q1280) rfl rfl rfl (hw.2.2.2.2.1 _ (List.mem_of_getElem? (i := 32) rfl)) (hts _ q148) (by decide +kernel) ⟨Nat.le_of_ble_eq_true rfl, Nat.le_of_ble_eq_true rfl⟩, hts _ q1279, hts _ qs40⟩ (cg_preV C hw g1 rfl _) rfl rfl hl.1 rfl (lv_room (Nat.le_of_ble_eq_true rfl)) dX0_kiss_13 ⟨show cc + (h2.1 - h.1) ≤ u9.1 - u.1 by omega, show ss + (h2.2.1 - h.2.1) ≤ u9.2.1 - u.2.1 by omega⟩) (fun H locs hw => ?_)
    exact hB16 h2 r3 _ _ _ _ _ hm hw (by omega) (by omega) (lv_sub hl [] rfl)
  have hB5 : ∀ (h : CH) (x0 : Nat) (x1 : Int32) (y0 : Int32) (cc ss : Nat) (H : Heap) (locs : List Loc) (ls : Array Slot), m_X0_kiss_5 f h x0 x1 y0 = some (r0, u9) → CW D dA A s h H locs → cc + u.1 = h.1 → ss + u.2.1 = h.2.1 → lv_has ls 2 [(0, .ref x0), (1, .int x1)] → W p l e (rm_X0_kiss (u9.1 - u.1) (u9.2.1 - u.2.1)) s m args below meth c H locs cc ss QQ (F0 m 5 ls [.int y0]) := by
    intro h x0 x1 y0 cc ss H locs ls hm hw hcc hss hl
    have hmo := mo_X0_kiss_5  h x0 x1 y0 _ hm
    have sb_ : h.1 ≤ u9.1 := hmo.1
    have tb_ : h.2.1 ≤ u9.2.1 := hmo.2.1
    rw [m_X0_kiss_5] at hm
    refine lv_if_eq (tgt := 19) hx hb dX0_kiss_5 (by decide) (fun c1 => ?_) (fun c1 => ?_)
    · have hm := ifT hm c1
      refine lv_bipush (v := -2) hx hb dX0_kiss_19 (by decide) ?_
      exact hB21 h (-2 : Int32) _ _ _ _ _ hm hw (by omega) (by omega) (lv_sub hl [] rfl)
    · have hm := ifF hm c1
      refine lv_aload_n hx hb dX0_kiss_8 rfl (lv_at hl 0 rfl) ?_
      refine lv_iload_n hx hb dX0_kiss_9 rfl (lv_at hl 1 rfl) ?_
      obtain ⟨g2, hm⟩ := gdE hm
      obtain ⟨a4, h3, ea4, hm⟩ := bd2E hm
      have lh3 := mo_X0_reducedOf ea4
      have ph3 : h.1 ≤ h3.1 := lh3.1
      have qh3 : h.2.1 ≤ h3.2.1 := lh3.2.1
      have hmo := mo_X0_kiss_13   h3 a4 _ hm
      have sh3 : h3.1 ≤ u9.1 := hmo.1
      have th3 : h3.2.1 ≤ u9.2.1 := hmo.2.1
      refine cg_callr hw lh3 (va_runV (As := [.int x1]) (rest := []) ⟨hx, hb, hml, hown, hts⟩ (w_X0_reducedOf l ea4) (cw_X0_reducedOf hts q1217 ⟨Nat.le_of_ble_eq_true rfl, Nat.le_of_ble_eq_true rfl⟩) (cg_preV C hw g2 rfl _) rfl rfl hl.1 rfl (lv_room (Nat.le_of_ble_eq_true rfl)) dX0_kiss_10 ⟨show cc + (h3.1 - h.1) ≤ u9.1 - u.1 by omega, show ss + (h3.2.1 - h.2.1) ≤ u9.2.1 - u.2.1 by omega⟩) (fun H locs hw => ?_)
      exact hB13 h3 a4 _ _ _ _ _ hm hw (by omega) (by omega) (lv_sub hl [] rfl)
  rw [m_X0_kiss] at hm
  refine lv_aload_n hx hb dX0_kiss_0 rfl (lv_at hl 0 rfl) ?_
  refine lv_iload_n hx hb dX0_kiss_1 rfl (lv_at hl 1 rfl) ?_
  obtain ⟨g1, hm⟩ := gdE hm
  obtain ⟨r3, h2, er3, hm⟩ := bd2E hm
  have lh2 := mo_X0_isLattice er3
  have ph2 : u.1 ≤ h2.1 := lh2.1
  have qh2 : u.2.1 ≤ h2.2.1 := lh2.2.1
  have hmo := mo_X0_kiss_5   h2 x0 x1 r3 _ hm
  have sh2 : h2.1 ≤ u9.1 := hmo.1
  have th2 : h2.2.1 ≤ u9.2.1 := hmo.2.1
  refine cg_calli hw lh2 (va_runV (As := [.int x1]) (rest := []) ⟨hx, hb, hml, hown, hts⟩ (w_X0_isLattice l er3) (cw_X0_isLattice hts q892 ⟨Nat.le_of_ble_eq_true rfl, Nat.le_of_ble_eq_true rfl⟩) (cg_preV C hw g1 rfl _) rfl rfl hl.1 rfl (lv_room (Nat.le_of_ble_eq_true rfl)) dX0_kiss_2 ⟨show cc + (h2.1 - u.1) ≤ u9.1 - u.1 by omega, show ss + (h2.2.1 - u.2.1) ≤ u9.2.1 - u.2.1 by omega⟩) (fun H locs hw => ?_)
  exact hB5 h2 x0 x1 r3 _ _ _ _ _ hm hw (by omega) (by omega) (lv_sub hl [0, 1] rfl)
def m_X0_meetLength_22 (f : Nat) (h : CH) : Option (Int64 × CH) := some ((-2 : Int64), h)
theorem mo_X0_meetLength_22 {f : Nat} : ∀ (h : CH) (r : (Int64 × CH)), m_X0_meetLength_22 f h = some r → le2 h r.2 := by
  intro h r hm
  rw [m_X0_meetLength_22] at hm
  cases hm
  exact le2.rf
def m_X0_meetLength_62 (f : Nat) (h : CH) (x3 : Int32) (x5 : Nat) (y0 : Int64) : Option (Int64 × CH) := bd (oL h 10 1 x5) fun v1 =>
    bd (oL h 10 1 x5) fun v2 =>
    bd (m_X0_part f y0 (v1 * v2) x3) fun r3 =>
    some (r3, h)
theorem mo_X0_meetLength_62 {f : Nat} : ∀ (h : CH) (x3 : Int32) (x5 : Nat) (y0 : Int64) (r : (Int64 × CH)), m_X0_meetLength_62 f h x3 x5 y0 = some r → le2 h r.2 := by
  intro h x3 x5 y0 r hm
  rw [m_X0_meetLength_62] at hm
  obtain ⟨v1, ev1, hm⟩ := bdE hm
  obtain ⟨v2, ev2, hm⟩ := bdE hm
  obtain ⟨r3, er3, hm⟩ := bdE hm
  cases hm
  exact le2.rf
def m_X0_meetLength_55 (f : Nat) (h : CH) (x3 : Int32) (x5 : Nat) (y0 : Nat) : Option (Int64 × CH) := bd (oR h 11 0 y0) fun a1 =>
    gd (isC h a1 3) <|
    bd2 (m_X2_square f h a1 (0 : Int32)) fun r4 h3 =>
    m_X0_meetLength_62 f h3 x3 x5 r4
theorem mo_X0_meetLength_55 {f : Nat} : ∀ (h : CH) (x3 : Int32) (x5 : Nat) (y0 : Nat) (r : (Int64 × CH)), m_X0_meetLength_55 f h x3 x5 y0 = some r → le2 h r.2 := by
  intro h x3 x5 y0 r hm
  rw [m_X0_meetLength_55] at hm
  obtain ⟨a1, ea1, hm⟩ := bdE hm
  obtain ⟨g2, hm⟩ := gdE hm
  obtain ⟨r4, h3, er4, hm⟩ := bd2E hm
  have lh3 := mo_X2_square er4
  exact (lh3.tr (mo_X0_meetLength_62  h3 x3 x5 r4 _ hm))
def m_X0_meetLength_46 (f : Nat) (h : CH) (x3 : Int32) (x5 : Nat) (y0 : Nat) : Option (Int64 × CH) := bd (oR h 10 0 x5) fun a1 =>
    bd (m_X11_init f h y0 a1) fun h2 =>
    m_X0_meetLength_55 f h2 x3 x5 y0
theorem mo_X0_meetLength_46 {f : Nat} : ∀ (h : CH) (x3 : Int32) (x5 : Nat) (y0 : Nat) (r : (Int64 × CH)), m_X0_meetLength_46 f h x3 x5 y0 = some r → le2 h r.2 := by
  intro h x3 x5 y0 r hm
  rw [m_X0_meetLength_46] at hm
  obtain ⟨a1, ea1, hm⟩ := bdE hm
  obtain ⟨h2, eh2, hm⟩ := bdE hm
  have lh2 := mo_X11_init eh2
  exact (lh2.tr (mo_X0_meetLength_55  h2 x3 x5 y0 _ hm))
def m_X0_meetLength_41 (f : Nat) (h : CH) (x3 : Int32) (y0 : Nat) : Option (Int64 × CH) := nmv (cn h 2 (.inl (11, [.null, .int 0]))) fun h1 =>
    nmv (h.1 : Nat) fun a2 =>
    m_X0_meetLength_46 f h1 x3 y0 a2
theorem mo_X0_meetLength_41 {f : Nat} : ∀ (h : CH) (x3 : Int32) (y0 : Nat) (r : (Int64 × CH)), m_X0_meetLength_41 f h x3 y0 = some r → le2 h r.2 := by
  intro h x3 y0 r hm
  rw [m_X0_meetLength_41] at hm
  obtain ⟨h1, eh1, hm⟩ := nmE hm
  have lh1 := cn_le eh1
  obtain ⟨a2, ea2, hm⟩ := nmE hm
  exact (lh1.tr (mo_X0_meetLength_46  h1 x3 y0 a2 _ hm))
def m_X0_meetLength_6 (f : Nat) (h : CH) (x0 : Nat) (x1 : Int32) (x2 : Int32) (x3 : Int32) (y0 : Int32) : Option (Int64 × CH) := if y0 = (-2 : Int32) then
    m_X0_meetLength_22 f h
    else bd (m_X0_isPart f x3) fun r2 =>
    if ¬ r2 = 0 then
    if 0 ≤ y0 then
    gd (isC h x0 1) <|
    bd2 (m_X0_meetOf f h x0 x1 x2) fun a7 h6 =>
    m_X0_meetLength_41 f h6 x3 a7
    else some ((Int32.toInt64 y0), h)
    else m_X0_meetLength_22 f h
theorem mo_X0_meetLength_6 {f : Nat} : ∀ (h : CH) (x0 : Nat) (x1 : Int32) (x2 : Int32) (x3 : Int32) (y0 : Int32) (r : (Int64 × CH)), m_X0_meetLength_6 f h x0 x1 x2 x3 y0 = some r → le2 h r.2 := by
  intro h x0 x1 x2 x3 y0 r hm
  rw [m_X0_meetLength_6] at hm
  by_cases c1 : y0 = (-2 : Int32)
  · have hm := ifT hm c1
    exact (mo_X0_meetLength_22  h _ hm)
  · have hm := ifF hm c1
    obtain ⟨r2, er2, hm⟩ := bdE hm
    by_cases c3 : ¬ r2 = 0
    · have hm := ifT hm c3
      by_cases c4 : 0 ≤ y0
      · have hm := ifT hm c4
        obtain ⟨g5, hm⟩ := gdE hm
        obtain ⟨a7, h6, ea7, hm⟩ := bd2E hm
        have lh6 := mo_X0_meetOf ea7
        exact (lh6.tr (mo_X0_meetLength_41  h6 x3 a7 _ hm))
      · have hm := ifF hm c4
        cases hm
        exact le2.rf
    · have hm := ifF hm c3
      exact (mo_X0_meetLength_22  h _ hm)
def m_X0_meetLength (f : Nat) (u : CH) (x0 : Nat) (x1 : Int32) (x2 : Int32) (x3 : Int32) : Option (Int64 × CH) := gd (isC u x0 1) <|
    bd2 (m_X0_asks f u x0 x1 x2) fun r3 h2 =>
    m_X0_meetLength_6 f h2 x0 x1 x2 x3 r3
theorem mo_X0_meetLength {f : Nat} {u : CH} {x0 : Nat} {x1 : Int32} {x2 : Int32} {x3 : Int32} {r0 : Int64} {u9 : CH} (hm : m_X0_meetLength f u x0 x1 x2 x3 = some (r0, u9)) : le2 u u9 := by
  rw [m_X0_meetLength] at hm
  obtain ⟨g1, hm⟩ := gdE hm
  obtain ⟨r3, h2, er3, hm⟩ := bd2E hm
  have lh2 := mo_X0_asks er3
  exact (lh2.tr (mo_X0_meetLength_6  h2 x0 x1 x2 x3 r3 _ hm))
abbrev rm_X0_meetLength (mc ms : Nat) : Room := { frames := 107, cells := mc, slots := ms, locals := 4183 }
theorem cw_X0_meetLength {R : Room} {s : State} {args : Array Value} {own : String} {idx mc ms : Nat} (hts : ∀ w ∈ lw_all, w.before args s = true) (hl : Cond.methodLink own idx yX0_meetLength ∈ lw_all) (hR : 107 + 1 ≤ R.frames ∧ 8 + (6 + 11) + 4183 ≤ R.locals) : CallW R s args own RX0 idx yX0_meetLength cX0_meetLength 6 (Option.some Jvm.ClassFile.FieldType.long) (ws_ yX0_meetLength cX0_meetLength 6 (Option.some Jvm.ClassFile.FieldType.long)) (rm_X0_meetLength mc ms) mc ms 3 := cwV 3 hts (lw_V hl q1282 q1283 q119 q1284) rfl rfl rfl (by decide +kernel) hR
set_option maxHeartbeats 4000000 in
set_option maxRecDepth 100000 in
theorem w_X0_meetLength (l : Launch) {D : va_G} {dA : Nat → ClassId} {A : Nat → Prop} {f : Nat} {u u9 : CH} {r0 : Int64} {x0 : Nat} {x1 : Int32} {x2 : Int32} {x3 : Int32} (hm : m_X0_meetLength f u x0 x1 x2 x3 = some (r0, u9)) : Met l yX0_meetLength (ws_ yX0_meetLength cX0_meetLength 6 (Option.some Jvm.ClassFile.FieldType.long)) (rm_X0_meetLength (u9.1 - u.1) (u9.2.1 - u.2.1)) (va_Pc [.ref x0, .int x1, .int x2, .int x3] (CPre D dA A u)) (va_Ql (fun r u => r = r0 ∧ u = u9) (CPost D dA A) A) (u9.1 - u.1) (u9.2.1 - u.2.1) A := by
  refine Met.ofW (cc := cX0_meetLength) (maxL := 6) (ret := (Option.some Jvm.ClassFile.FieldType.long)) (by decide) rfl ?_
  intro p e s m args below meth c s₁ B hml hv
  have hx := B.exec
  have hb := B.bytes
  have hr := B.returns
  have hts := atoms_spec (ws := (ws_ yX0_meetLength cX0_meetLength 6 (Option.some Jvm.ClassFile.FieldType.long))) B.pre
  have hts : ∀ w ∈ lw_all, w.before args s = true := fun w h => hts w (List.mem_cons_of_mem _ h)
  have hown : s.vm.findClass RX0 = some m.cls := findClass_of_methodNamed B.named
  have hlocks := B.notSynchronized
  obtain ⟨hav, hv⟩ := hv
  have C : CX p s m args c cX0_meetLength RX0 D dA := ⟨hx, hb, hown, hts, hv.2⟩
  have hw : CW D dA A s u s.heap [] := hv.1
  generalize hQ : MQ below (va_Ql (fun r u => r = r0 ∧ u = u9) (CPost D dA A) A) args s (u9.1 - u.1) (u9.2.1 - u.2.1) A = QQ
  have hent := lg_entry_eq m [.ref x0, .int x1, .int x2, .int x3] 6
  rw [← hav] at hent
  rw [hent]
  have hl := lv_entry ([.ref x0, .int x1, .int x2, .int x3]) (n := 6) (Nat.le_of_ble_eq_true rfl)
  generalize (lg_sl ([.ref x0, .int x1, .int x2, .int x3]) ++ List.replicate (6 - (lg_sl ([.ref x0, .int x1, .int x2, .int x3])).length) Slot.unset).toArray = ls at hl ⊢
  have hl : lv_has ls 6 [(0, .ref x0), (1, .int x1), (2, .int x2), (3, .int x3)] := hl
  obtain ⟨cc, ecc⟩ : ∃ z : Nat, z = 0 := ⟨0, rfl⟩
  obtain ⟨ss, ess⟩ : ∃ z : Nat, z = 0 := ⟨0, rfl⟩
  have hcc : cc + u.1 = u.1 := by omega
  have hss : ss + u.2.1 = u.2.1 := by omega
  suffices hgo : W p l e (rm_X0_meetLength (u9.1 - u.1) (u9.2.1 - u.2.1)) s m args below meth c s.heap [] cc ss QQ (F0 m 0 ls []) by rw [ecc, ess] at hgo; exact hgo
  have ⟨pu, qu, _, _⟩ := mo_X0_meetLength hm
  have hB22 : ∀ (h : CH) (cc ss : Nat) (H : Heap) (locs : List Loc) (ls : Array Slot), m_X0_meetLength_22 f h = some (r0, u9) → CW D dA A s h H locs → cc + u.1 = h.1 → ss + u.2.1 = h.2.1 → lv_has ls 6 [] → W p l e (rm_X0_meetLength (u9.1 - u.1) (u9.2.1 - u.2.1)) s m args below meth c H locs cc ss QQ (F0 m 22 ls []) := by
    intro h cc ss H locs ls hm hw hcc hss hl
    have hmo := mo_X0_meetLength_22  h _ hm
    have sb_ : h.1 ≤ u9.1 := hmo.1
    have tb_ : h.2.1 ≤ u9.2.1 := hmo.2.1
    rw [m_X0_meetLength_22] at hm
    refine lv_ldc2 hx hb hown (hts _ q1059) dX0_meetLength_22 ?_
    obtain ⟨er, eh⟩ := retE hm
    have ec : cc = u9.1 - u.1 := by rw [← eh]; omega
    have es : ss = u9.2.1 - u.2.1 := by rw [← eh]; omega
    rw [ec, es, ← hQ]
    exact W.lret (v := (-2 : Int64)) hx hb hr (fun t ht hW => ⟨⟨(-2 : Int64), h, rfl, ⟨er, eh⟩, ⟨by rw [ht]; exact hw.1, by rw [ht]; exact hw.2.1⟩⟩, hw.2.2.1.F ht⟩) hw.2.2.1.2.2 dX0_meetLength_25
  have hB62 : ∀ (h : CH) (x3 : Int32) (x5 : Nat) (y0 : Int64) (cc ss : Nat) (H : Heap) (locs : List Loc) (ls : Array Slot), m_X0_meetLength_62 f h x3 x5 y0 = some (r0, u9) → CW D dA A s h H locs → cc + u.1 = h.1 → ss + u.2.1 = h.2.1 → lv_has ls 6 [(3, .int x3), (5, .ref x5)] → W p l e (rm_X0_meetLength (u9.1 - u.1) (u9.2.1 - u.2.1)) s m args below meth c H locs cc ss QQ (F0 m 62 ls [.long y0]) := by
    intro h x3 x5 y0 cc ss H locs ls hm hw hcc hss hl
    have hmo := mo_X0_meetLength_62  h x3 x5 y0 _ hm
    have sb_ : h.1 ≤ u9.1 := hmo.1
    have tb_ : h.2.1 ≤ u9.2.1 := hmo.2.1
    rw [m_X0_meetLength_62] at hm
    refine lv_aload hx hb dX0_meetLength_62 (lv_at hl 1 rfl) ?_
    obtain ⟨v1, ev1, hm⟩ := bdE hm
    refine cg_getN C hw (by decide) (oL_E ev1) rfl in_X10 (by decide) (hw.2.2.2.2.1 _ (List.mem_of_getElem? (i := 29) rfl)) dX0_meetLength_64 ?_
    refine lv_aload hx hb dX0_meetLength_67 (lv_at hl 1 rfl) ?_
    obtain ⟨v2, ev2, hm⟩ := bdE hm
    refine cg_getN C hw (by decide) (oL_E ev2) rfl in_X10 (by decide) (hw.2.2.2.2.1 _ (List.mem_of_getElem? (i := 29) rfl)) dX0_meetLength_69 ?_
    refine lv_lmul hx hb dX0_meetLength_72 ?_
    refine lv_iload_n hx hb dX0_meetLength_73 rfl (lv_at hl 0 rfl) ?_
    obtain ⟨r3, er3, hm⟩ := bdE hm
    refine scl (va_runS (As := [.long y0, .long (v1 * v2), .int x3]) (rest := []) ⟨hx, hb, hml, hown, hts⟩ (w_X0_part l er3) (cw_X0_part hts q1061 ⟨Nat.le_of_ble_eq_true rfl, Nat.le_of_ble_eq_true rfl⟩) (pre_s _) rfl rfl hl.1 rfl (lv_room (Nat.le_of_ble_eq_true rfl)) dX0_meetLength_74 ⟨show cc + 0 ≤ u9.1 - u.1 by omega, show ss + 0 ≤ u9.2.1 - u.2.1 by omega⟩) ?_
    obtain ⟨er, eh⟩ := retE hm
    have ec : cc = u9.1 - u.1 := by rw [← eh]; omega
    have es : ss = u9.2.1 - u.2.1 := by rw [← eh]; omega
    rw [ec, es, ← hQ]
    exact W.lret (v := r3) hx hb hr (fun t ht hW => ⟨⟨r3, h, rfl, ⟨er, eh⟩, ⟨by rw [ht]; exact hw.1, by rw [ht]; exact hw.2.1⟩⟩, hw.2.2.1.F ht⟩) hw.2.2.1.2.2 dX0_meetLength_77
  have hB55 : ∀ (h : CH) (x3 : Int32) (x5 : Nat) (y0 : Nat) (cc ss : Nat) (H : Heap) (locs : List Loc) (ls : Array Slot), m_X0_meetLength_55 f h x3 x5 y0 = some (r0, u9) → CW D dA A s h H locs → cc + u.1 = h.1 → ss + u.2.1 = h.2.1 → lv_has ls 6 [(3, .int x3), (5, .ref x5)] → W p l e (rm_X0_meetLength (u9.1 - u.1) (u9.2.1 - u.2.1)) s m args below meth c H locs cc ss QQ (F0 m 55 ls [.ref y0]) := by
    intro h x3 x5 y0 cc ss H locs ls hm hw hcc hss hl
    have hmo := mo_X0_meetLength_55  h x3 x5 y0 _ hm
    have sb_ : h.1 ≤ u9.1 := hmo.1
    have tb_ : h.2.1 ≤ u9.2.1 := hmo.2.1
    rw [m_X0_meetLength_55] at hm
    obtain ⟨a1, ea1, hm⟩ := bdE hm
    refine cg_getN C hw (by decide) (oR_E ea1) rfl in_X11 (by decide) (hw.2.2.2.2.1 _ (List.mem_of_getElem? (i := 30) rfl)) dX0_meetLength_55 ?_
    refine lv_iconst (v := 0) hx hb dX0_meetLength_58 (by decide) ?_
    obtain ⟨g2, hm⟩ := gdE hm
    obtain ⟨r4, h3, er4, hm⟩ := bd2E hm
    have lh3 := mo_X2_square er4
    have ph3 : h.1 ≤ h3.1 := lh3.1
    have qh3 : h.2.1 ≤ h3.2.1 := lh3.2.1
    have hmo := mo_X0_meetLength_62   h3 x3 x5 r4 _ hm
    have sh3 : h3.1 ≤ u9.1 := hmo.1
    have th3 : h3.2.1 ≤ u9.2.1 := hmo.2.1
    refine cg_calll hw lh3 (va_runV (As := [.int (0 : Int32)]) (rest := []) ⟨hx, hb, hml, hown, hts⟩ (w_X2_square l er4) (cw_X2_square hts q1272 ⟨Nat.le_of_ble_eq_true rfl, Nat.le_of_ble_eq_true rfl⟩) (cg_preV C hw g2 rfl _) rfl rfl hl.1 rfl (lv_room (Nat.le_of_ble_eq_true rfl)) dX0_meetLength_59 ⟨show cc + (h3.1 - h.1) ≤ u9.1 - u.1 by omega, show ss + (h3.2.1 - h.2.1) ≤ u9.2.1 - u.2.1 by omega⟩) (fun H locs hw => ?_)
    exact hB62 h3 x3 x5 r4 _ _ _ _ _ hm hw (by omega) (by omega) (lv_sub hl [0, 1] rfl)
  have hB46 : ∀ (h : CH) (x3 : Int32) (x5 : Nat) (y0 : Nat) (cc ss : Nat) (H : Heap) (locs : List Loc) (ls : Array Slot), m_X0_meetLength_46 f h x3 x5 y0 = some (r0, u9) → CW D dA A s h H locs → cc + u.1 = h.1 → ss + u.2.1 = h.2.1 → lv_has ls 6 [(3, .int x3), (5, .ref x5)] → W p l e (rm_X0_meetLength (u9.1 - u.1) (u9.2.1 - u.2.1)) s m args below meth c H locs cc ss QQ (F0 m 46 ls [.ref y0]) := by
    intro h x3 x5 y0 cc ss H locs ls hm hw hcc hss hl
    have hmo := mo_X0_meetLength_46  h x3 x5 y0 _ hm
    have sb_ : h.1 ≤ u9.1 := hmo.1
    have tb_ : h.2.1 ≤ u9.2.1 := hmo.2.1
    rw [m_X0_meetLength_46] at hm
    refine lv_dup hx hb dX0_meetLength_46 rfl ?_
    refine lv_aload hx hb dX0_meetLength_47 (lv_at hl 1 rfl) ?_
    obtain ⟨a1, ea1, hm⟩ := bdE hm
    refine cg_getN C hw (by decide) (oR_E ea1) rfl in_X10 (by decide) (hw.2.2.2.2.1 _ (List.mem_of_getElem? (i := 28) rfl)) dX0_meetLength_49 ?_
    obtain ⟨h2, eh2, hm⟩ := bdE hm
    have lh2 := mo_X11_init eh2
    have ph2 : h.1 ≤ h2.1 := lh2.1
    have qh2 : h.2.1 ≤ h2.2.1 := lh2.2.1
    have hmo := mo_X0_meetLength_55   h2 x3 x5 y0 _ hm
    have sh2 : h2.1 ≤ u9.1 := hmo.1
    have th2 : h2.2.1 ≤ u9.2.1 := hmo.2.1
    refine cg_callv hw lh2 (va_runI (As := [.ref a1]) (rest := [.ref y0]) ⟨hx, hb, hml, hown, hts⟩ (w_X11_init l eh2) (cw_X11_init hts q1223 ⟨Nat.le_of_ble_eq_true rfl, Nat.le_of_ble_eq_true rfl⟩) (cg_preS C hw _) rfl rfl hl.1 rfl (lv_room (Nat.le_of_ble_eq_true rfl)) dX0_meetLength_52 ⟨show cc + (h2.1 - h.1) ≤ u9.1 - u.1 by omega, show ss + (h2.2.1 - h.2.1) ≤ u9.2.1 - u.2.1 by omega⟩) (fun H locs hw => ?_)
    exact hB55 h2 x3 x5 y0 _ _ _ _ _ hm hw (by omega) (by omega) (lv_sub hl [0, 1] rfl)
  have hB41 : ∀ (h : CH) (x3 : Int32) (y0 : Nat) (cc ss : Nat) (H : Heap) (locs : List Loc) (ls : Array Slot), m_X0_meetLength_41 f h x3 y0 = some (r0, u9) → CW D dA A s h H locs → cc + u.1 = h.1 → ss + u.2.1 = h.2.1 → lv_has ls 6 [(3, .int x3)] → W p l e (rm_X0_meetLength (u9.1 - u.1) (u9.2.1 - u.2.1)) s m args below meth c H locs cc ss QQ (F0 m 41 ls [.ref y0]) := by
    intro h x3 y0 cc ss H locs ls hm hw hcc hss hl
    have hmo := mo_X0_meetLength_41  h x3 y0 _ hm
    have sb_ : h.1 ≤ u9.1 := hmo.1
    have tb_ : h.2.1 ≤ u9.2.1 := hmo.2.1
    rw [m_X0_meetLength_41] at hm
    refine lv_astore (lv' := [(5, .ref y0), (3, .int x3)]) hx hb dX0_meetLength_41 hl (by decide) rfl (fun ls hl => ?_)
    obtain ⟨h1, eh1, hm⟩ := nmE hm
    obtain ⟨_, _, hmq⟩ := nmE hm
    have hmo := mo_X0_meetLength_46   h1 x3 y0 _ _ hmq
    have sh1 : h1.1 ≤ u9.1 := hmo.1
    have th1 : h1.2.1 ≤ u9.2.1 := hmo.2.1
    have zh1 := cn_sz eh1
    refine cg_new (C0 := C) hw (ci := 11) (fs := [.null, .int 0]) rfl in_X11 tyX11 tyX11_ok q1221 q1222 q148 (fun j hj => by rcases (show j = 0 ∨ j = 1 by omega) with rfl | rfl <;> rfl) (show cc + 1 ≤ u9.1 - u.1 by omega) (show ss + 2 ≤ u9.2.1 - u.2.1 by omega) dX0_meetLength_43 (fun H hw => ?_)
    rw [← eh1] at hw
    refine lv_topr (fun a2 ea2 => ?_)
    have hm := nmK hm ea2
    exact hB46 h1 x3 y0 a2 _ _ _ _ _ hm hw (by omega) (by omega) (lv_sub hl [1, 0] rfl)
  have hB6 : ∀ (h : CH) (x0 : Nat) (x1 : Int32) (x2 : Int32) (x3 : Int32) (y0 : Int32) (cc ss : Nat) (H : Heap) (locs : List Loc) (ls : Array Slot), m_X0_meetLength_6 f h x0 x1 x2 x3 y0 = some (r0, u9) → CW D dA A s h H locs → cc + u.1 = h.1 → ss + u.2.1 = h.2.1 → lv_has ls 6 [(0, .ref x0), (1, .int x1), (2, .int x2), (3, .int x3)] → W p l e (rm_X0_meetLength (u9.1 - u.1) (u9.2.1 - u.2.1)) s m args below meth c H locs cc ss QQ (F0 m 6 ls [.int y0]) := by
    intro h x0 x1 x2 x3 y0 cc ss H locs ls hm hw hcc hss hl
    have hmo := mo_X0_meetLength_6  h x0 x1 x2 x3 y0 _ hm
    have sb_ : h.1 ≤ u9.1 := hmo.1
    have tb_ : h.2.1 ≤ u9.2.1 := hmo.2.1
    rw [m_X0_meetLength_6] at hm
    refine lv_istore (lv' := [(4, .int y0), (0, .ref x0), (1, .int x1), (2, .int x2), (3, .int x3)]) hx hb dX0_meetLength_6 hl (by decide) rfl (fun ls hl => ?_)
    refine lv_iload hx hb dX0_meetLength_8 (lv_at hl 0 rfl) ?_
    refine lv_bipush (v := -2) hx hb dX0_meetLength_10 (by decide) ?_
    refine lv_icmp_eq (tgt := 22) hx hb dX0_meetLength_12 (by decide) (fun c1 => ?_) (fun c1 => ?_)
    · have hm := ifT hm c1
      exact hB22 h _ _ _ _ _ hm hw (by omega) (by omega) (lv_sub hl [] rfl)
    · have hm := ifF hm c1
      refine lv_iload_n hx hb dX0_meetLength_15 rfl (lv_at hl 4 rfl) ?_
      obtain ⟨r2, er2, hm⟩ := bdE hm
      refine sci (va_runS (As := [.int x3]) (rest := []) ⟨hx, hb, hml, hown, hts⟩ (w_X0_isPart l er2) (cw_X0_isPart hts q1056 ⟨Nat.le_of_ble_eq_true rfl, Nat.le_of_ble_eq_true rfl⟩) (pre_s _) rfl rfl hl.1 rfl (lv_room (Nat.le_of_ble_eq_true rfl)) dX0_meetLength_16 ⟨show cc + 0 ≤ u9.1 - u.1 by omega, show ss + 0 ≤ u9.2.1 - u.2.1 by omega⟩) ?_
      refine lv_if_ne (tgt := 26) hx hb dX0_meetLength_19 (by decide) (fun c3 => ?_) (fun c3 => ?_)
      · have hm := ifT hm c3
        refine lv_iload hx hb dX0_meetLength_26 (lv_at hl 0 rfl) ?_
        refine lv_if_ge (tgt := 35) hx hb dX0_meetLength_28 (by decide) (fun c4 => ?_) (fun c4 => ?_)
        · have hm := ifT hm c4
          refine lv_aload_n hx hb dX0_meetLength_35 rfl (lv_at hl 1 rfl) ?_
          refine lv_iload_n hx hb dX0_meetLength_36 rfl (lv_at hl 2 rfl) ?_
          refine lv_iload_n hx hb dX0_meetLength_37 rfl (lv_at hl 3 rfl) ?_
          obtain ⟨g5, hm⟩ := gdE hm
          obtain ⟨a7, h6, ea7, hm⟩ := bd2E hm
          have lh6 := mo_X0_meetOf ea7
          have ph6 : h.1 ≤ h6.1 := lh6.1
          have qh6 : h.2.1 ≤ h6.2.1 := lh6.2.1
          have hmo := mo_X0_meetLength_41   h6 x3 a7 _ hm
          have sh6 : h6.1 ≤ u9.1 := hmo.1
          have th6 : h6.2.1 ≤ u9.2.1 := hmo.2.1
          refine cg_callr hw lh6 (va_runV (As := [.int x1, .int x2]) (rest := []) ⟨hx, hb, hml, hown, hts⟩ (w_X0_meetOf l ea7) (cw_X0_meetOf hts q1104 ⟨Nat.le_of_ble_eq_true rfl, Nat.le_of_ble_eq_true rfl⟩) (cg_preV C hw g5 rfl _) rfl rfl hl.1 rfl (lv_room (Nat.le_of_ble_eq_true rfl)) dX0_meetLength_38 ⟨show cc + (h6.1 - h.1) ≤ u9.1 - u.1 by omega, show ss + (h6.2.1 - h.2.1) ≤ u9.2.1 - u.2.1 by omega⟩) (fun H locs hw => ?_)
          exact hB41 h6 x3 a7 _ _ _ _ _ hm hw (by omega) (by omega) (lv_sub hl [4] rfl)
        · have hm := ifF hm c4
          refine lv_iload hx hb dX0_meetLength_31 (lv_at hl 0 rfl) ?_
          refine lv_i2l hx hb dX0_meetLength_33 rfl ?_
          obtain ⟨er, eh⟩ := retE hm
          have ec : cc = u9.1 - u.1 := by rw [← eh]; omega
          have es : ss = u9.2.1 - u.2.1 := by rw [← eh]; omega
          rw [ec, es, ← hQ]
          exact W.lret (v := (Int32.toInt64 y0)) hx hb hr (fun t ht hW => ⟨⟨(Int32.toInt64 y0), h, rfl, ⟨er, eh⟩, ⟨by rw [ht]; exact hw.1, by rw [ht]; exact hw.2.1⟩⟩, hw.2.2.1.F ht⟩) hw.2.2.1.2.2 dX0_meetLength_34
      · have hm := ifT' hm c3
        exact hB22 h _ _ _ _ _ hm hw (by omega) (by omega) (lv_sub hl [] rfl)
  rw [m_X0_meetLength] at hm
  refine lv_aload_n hx hb dX0_meetLength_0 rfl (lv_at hl 0 rfl) ?_
  refine lv_iload_n hx hb dX0_meetLength_1 rfl (lv_at hl 1 rfl) ?_
  refine lv_iload_n hx hb dX0_meetLength_2 rfl (lv_at hl 2 rfl) ?_
  obtain ⟨g1, hm⟩ := gdE hm
  obtain ⟨r3, h2, er3, hm⟩ := bd2E hm
  have lh2 := mo_X0_asks er3
  have ph2 : u.1 ≤ h2.1 := lh2.1
  have qh2 : u.2.1 ≤ h2.2.1 := lh2.2.1
  have hmo := mo_X0_meetLength_6   h2 x0 x1 x2 x3 r3 _ hm
  have sh2 : h2.1 ≤ u9.1 := hmo.1
  have th2 : h2.2.1 ≤ u9.2.1 := hmo.2.1
  refine cg_calli hw lh2 (va_runV (As := [.int x1, .int x2]) (rest := []) ⟨hx, hb, hml, hown, hts⟩ (w_X0_asks l er3) (cw_X0_asks hts q1096 ⟨Nat.le_of_ble_eq_true rfl, Nat.le_of_ble_eq_true rfl⟩) (cg_preV C hw g1 rfl _) rfl rfl hl.1 rfl (lv_room (Nat.le_of_ble_eq_true rfl)) dX0_meetLength_3 ⟨show cc + (h2.1 - u.1) ≤ u9.1 - u.1 by omega, show ss + (h2.2.1 - u.2.1) ≤ u9.2.1 - u.2.1 by omega⟩) (fun H locs hw => ?_)
  exact hB6 h2 x0 x1 x2 x3 r3 _ _ _ _ _ hm hw (by omega) (by omega) (lv_sub hl [0, 1, 2, 3] rfl)
def m_X0_isPlane_80 (f : Nat) (h : CH) (y0 : Int32) : Option (Int32 × CH) := gd (zb y0) <|
    some (y0, h)
theorem mo_X0_isPlane_80 {f : Nat} : ∀ (h : CH) (y0 : Int32) (r : (Int32 × CH)), m_X0_isPlane_80 f h y0 = some r → le2 h r.2 := by
  intro h y0 r hm
  rw [m_X0_isPlane_80] at hm
  obtain ⟨g1, hm⟩ := gdE hm
  cases hm
  exact le2.rf
def m_X0_isPlane_79 (f : Nat) (h : CH) : Option (Int32 × CH) := m_X0_isPlane_80 f h (0 : Int32)
theorem mo_X0_isPlane_79 {f : Nat} : ∀ (h : CH) (r : (Int32 × CH)), m_X0_isPlane_79 f h = some r → le2 h r.2 := by
  intro h r hm
  rw [m_X0_isPlane_79] at hm
  exact (mo_X0_isPlane_80  h (0 : Int32) _ hm)
def m_X0_isPlane_75 (f : Nat) (h : CH) : Option (Int32 × CH) := m_X0_isPlane_80 f h (1 : Int32)
theorem mo_X0_isPlane_75 {f : Nat} : ∀ (h : CH) (r : (Int32 × CH)), m_X0_isPlane_75 f h = some r → le2 h r.2 := by
  intro h r hm
  rw [m_X0_isPlane_75] at hm
  exact (mo_X0_isPlane_80  h (1 : Int32) _ hm)
def m_X0_isPlane (f : Nat) (u : CH) (x0 : Nat) (x1 : Int32) (x2 : Int32) (x3 : Int32) : Option (Int32 × CH) := bd (oR u 1 6 x0) fun a1 =>
    bd (uI u 0 a1 (0 : Int32) x1) fun h2 =>
    bd (oR h2 1 6 x0) fun a3 =>
    bd (uI h2 0 a3 (1 : Int32) x2) fun h4 =>
    bd (oR h4 1 6 x0) fun a5 =>
    bd (uI h4 0 a5 (2 : Int32) x3) fun h6 =>
    bd (m_X0_isIn f (Int32.toInt64 x1) (-9 : Int64) (9 : Int64)) fun r7 =>
    if r7 = 0 then
    m_X0_isPlane_79 f h6
    else bd (m_X0_isIn f (Int32.toInt64 x2) (-9 : Int64) (9 : Int64)) fun r9 =>
    if r9 = 0 then
    m_X0_isPlane_79 f h6
    else bd (m_X0_isIn f (Int32.toInt64 x3) (-9 : Int64) (9 : Int64)) fun r11 =>
    if r11 = 0 then
    m_X0_isPlane_79 f h6
    else if ¬ x1 = 0 then
    m_X0_isPlane_75 f h6
    else if ¬ x2 = 0 then
    m_X0_isPlane_75 f h6
    else if x3 = 0 then
    m_X0_isPlane_79 f h6
    else m_X0_isPlane_75 f h6
theorem mo_X0_isPlane {f : Nat} {u : CH} {x0 : Nat} {x1 : Int32} {x2 : Int32} {x3 : Int32} {r0 : Int32} {u9 : CH} (hm : m_X0_isPlane f u x0 x1 x2 x3 = some (r0, u9)) : le2 u u9 := by
  rw [m_X0_isPlane] at hm
  obtain ⟨a1, ea1, hm⟩ := bdE hm
  obtain ⟨h2, eh2, hm⟩ := bdE hm
  have lh2 := uI_le eh2
  obtain ⟨a3, ea3, hm⟩ := bdE hm
  obtain ⟨h4, eh4, hm⟩ := bdE hm
  have lh4 := uI_le eh4
  obtain ⟨a5, ea5, hm⟩ := bdE hm
  obtain ⟨h6, eh6, hm⟩ := bdE hm
  have lh6 := uI_le eh6
  obtain ⟨r7, er7, hm⟩ := bdE hm
  by_cases c8 : r7 = 0
  · have hm := ifT hm c8
    exact (lh2.tr (lh4.tr (lh6.tr (mo_X0_isPlane_79  h6 _ hm))))
  · have hm := ifF hm c8
    obtain ⟨r9, er9, hm⟩ := bdE hm
    by_cases c10 : r9 = 0
    · have hm := ifT hm c10
      exact (lh2.tr (lh4.tr (lh6.tr (mo_X0_isPlane_79  h6 _ hm))))
    · have hm := ifF hm c10
      obtain ⟨r11, er11, hm⟩ := bdE hm
      by_cases c12 : r11 = 0
      · have hm := ifT hm c12
        exact (lh2.tr (lh4.tr (lh6.tr (mo_X0_isPlane_79  h6 _ hm))))
      · have hm := ifF hm c12
        by_cases c13 : ¬ x1 = 0
        · have hm := ifT hm c13
          exact (lh2.tr (lh4.tr (lh6.tr (mo_X0_isPlane_75  h6 _ hm))))
        · have hm := ifF hm c13
          by_cases c14 : ¬ x2 = 0
          · have hm := ifT hm c14
            exact (lh2.tr (lh4.tr (lh6.tr (mo_X0_isPlane_75  h6 _ hm))))
          · have hm := ifF hm c14
            by_cases c15 : x3 = 0
            · have hm := ifT hm c15
              exact (lh2.tr (lh4.tr (lh6.tr (mo_X0_isPlane_79  h6 _ hm))))
            · have hm := ifF hm c15
              exact (lh2.tr (lh4.tr (lh6.tr (mo_X0_isPlane_75  h6 _ hm))))
abbrev rm_X0_isPlane (mc ms : Nat) : Room := { frames := 1, cells := mc, slots := ms, locals := 25 }
theorem cw_X0_isPlane {R : Room} {s : State} {args : Array Value} {own : String} {idx mc ms : Nat} (hts : ∀ w ∈ lw_all, w.before args s = true) (hl : Cond.methodLink own idx yX0_isPlane ∈ lw_all) (hR : 1 + 1 ≤ R.frames ∧ 8 + (4 + 11) + 25 ≤ R.locals) : CallW R s args own RX0 idx yX0_isPlane cX0_isPlane 4 (Option.some Jvm.ClassFile.FieldType.boolean) (ws_ yX0_isPlane cX0_isPlane 4 (Option.some Jvm.ClassFile.FieldType.boolean)) (rm_X0_isPlane mc ms) mc ms 3 := cwV 3 hts (lw_V hl q1291 qs41 q119 q1292) rfl rfl rfl (by decide +kernel) hR
set_option maxHeartbeats 4000000 in
set_option maxRecDepth 100000 in
theorem w_X0_isPlane (l : Launch) {D : va_G} {dA : Nat → ClassId} {A : Nat → Prop} {f : Nat} {u u9 : CH} {r0 : Int32} {x0 : Nat} {x1 : Int32} {x2 : Int32} {x3 : Int32} (hm : m_X0_isPlane f u x0 x1 x2 x3 = some (r0, u9)) : Met l yX0_isPlane (ws_ yX0_isPlane cX0_isPlane 4 (Option.some Jvm.ClassFile.FieldType.boolean)) (rm_X0_isPlane (u9.1 - u.1) (u9.2.1 - u.2.1)) (va_Pc [.ref x0, .int x1, .int x2, .int x3] (CPre D dA A u)) (va_Qi (fun r u => r = r0 ∧ u = u9) (CPost D dA A) A) (u9.1 - u.1) (u9.2.1 - u.2.1) A := by
  refine Met.ofW (cc := cX0_isPlane) (maxL := 4) (ret := (Option.some Jvm.ClassFile.FieldType.boolean)) (by decide) rfl ?_
  intro p e s m args below meth c s₁ B hml hv
  have hx := B.exec
  have hb := B.bytes
  have hr := B.returns
  have hts := atoms_spec (ws := (ws_ yX0_isPlane cX0_isPlane 4 (Option.some Jvm.ClassFile.FieldType.boolean))) B.pre
  have hts : ∀ w ∈ lw_all, w.before args s = true := fun w h => hts w (List.mem_cons_of_mem _ h)
  have hown : s.vm.findClass RX0 = some m.cls := findClass_of_methodNamed B.named
  have hlocks := B.notSynchronized
  obtain ⟨hav, hv⟩ := hv
  have C : CX p s m args c cX0_isPlane RX0 D dA := ⟨hx, hb, hown, hts, hv.2⟩
  have hw : CW D dA A s u s.heap [] := hv.1
  generalize hQ : MQ below (va_Qi (fun r u => r = r0 ∧ u = u9) (CPost D dA A) A) args s (u9.1 - u.1) (u9.2.1 - u.2.1) A = QQ
  have hent := lg_entry_eq m [.ref x0, .int x1, .int x2, .int x3] 4
  rw [← hav] at hent
  rw [hent]
  have hl := lv_entry ([.ref x0, .int x1, .int x2, .int x3]) (n := 4) (Nat.le_of_ble_eq_true rfl)
  generalize (lg_sl ([.ref x0, .int x1, .int x2, .int x3]) ++ List.replicate (4 - (lg_sl ([.ref x0, .int x1, .int x2, .int x3])).length) Slot.unset).toArray = ls at hl ⊢
  have hl : lv_has ls 4 [(0, .ref x0), (1, .int x1), (2, .int x2), (3, .int x3)] := hl
  obtain ⟨cc, ecc⟩ : ∃ z : Nat, z = 0 := ⟨0, rfl⟩
  obtain ⟨ss, ess⟩ : ∃ z : Nat, z = 0 := ⟨0, rfl⟩
  have hcc : cc + u.1 = u.1 := by omega
  have hss : ss + u.2.1 = u.2.1 := by omega
  suffices hgo : W p l e (rm_X0_isPlane (u9.1 - u.1) (u9.2.1 - u.2.1)) s m args below meth c s.heap [] cc ss QQ (F0 m 0 ls []) by rw [ecc, ess] at hgo; exact hgo
  have ⟨pu, qu, _, _⟩ := mo_X0_isPlane hm
  have hB80 : ∀ (h : CH) (y0 : Int32) (cc ss : Nat) (H : Heap) (locs : List Loc) (ls : Array Slot), m_X0_isPlane_80 f h y0 = some (r0, u9) → CW D dA A s h H locs → cc + u.1 = h.1 → ss + u.2.1 = h.2.1 → lv_has ls 4 [] → W p l e (rm_X0_isPlane (u9.1 - u.1) (u9.2.1 - u.2.1)) s m args below meth c H locs cc ss QQ (F0 m 80 ls [.int y0]) := by
    intro h y0 cc ss H locs ls hm hw hcc hss hl
    have hmo := mo_X0_isPlane_80  h y0 _ hm
    have sb_ : h.1 ≤ u9.1 := hmo.1
    have tb_ : h.2.1 ≤ u9.2.1 := hmo.2.1
    rw [m_X0_isPlane_80] at hm
    obtain ⟨g1, hm⟩ := gdE hm
    obtain ⟨er, eh⟩ := retE hm
    have ec : cc = u9.1 - u.1 := by rw [← eh]; omega
    have es : ss = u9.2.1 - u.2.1 := by rw [← eh]; omega
    rw [ec, es, ← hQ]
    exact W.zret (v := y0) hx hb hr (zb_nar g1) (fun t ht hW => ⟨⟨y0, h, rfl, ⟨er, eh⟩, ⟨by rw [ht]; exact hw.1, by rw [ht]; exact hw.2.1⟩⟩, hw.2.2.1.F ht⟩) hw.2.2.1.2.2 dX0_isPlane_80
  have hB79 : ∀ (h : CH) (cc ss : Nat) (H : Heap) (locs : List Loc) (ls : Array Slot), m_X0_isPlane_79 f h = some (r0, u9) → CW D dA A s h H locs → cc + u.1 = h.1 → ss + u.2.1 = h.2.1 → lv_has ls 4 [] → W p l e (rm_X0_isPlane (u9.1 - u.1) (u9.2.1 - u.2.1)) s m args below meth c H locs cc ss QQ (F0 m 79 ls []) := by
    intro h cc ss H locs ls hm hw hcc hss hl
    have hmo := mo_X0_isPlane_79  h _ hm
    have sb_ : h.1 ≤ u9.1 := hmo.1
    have tb_ : h.2.1 ≤ u9.2.1 := hmo.2.1
    rw [m_X0_isPlane_79] at hm
    refine lv_iconst (v := 0) hx hb dX0_isPlane_79 (by decide) ?_
    exact hB80 h (0 : Int32) _ _ _ _ _ hm hw (by omega) (by omega) (lv_sub hl [] rfl)
  have hB75 : ∀ (h : CH) (cc ss : Nat) (H : Heap) (locs : List Loc) (ls : Array Slot), m_X0_isPlane_75 f h = some (r0, u9) → CW D dA A s h H locs → cc + u.1 = h.1 → ss + u.2.1 = h.2.1 → lv_has ls 4 [] → W p l e (rm_X0_isPlane (u9.1 - u.1) (u9.2.1 - u.2.1)) s m args below meth c H locs cc ss QQ (F0 m 75 ls []) := by
    intro h cc ss H locs ls hm hw hcc hss hl
    have hmo := mo_X0_isPlane_75  h _ hm
    have sb_ : h.1 ≤ u9.1 := hmo.1
    have tb_ : h.2.1 ≤ u9.2.1 := hmo.2.1
    rw [m_X0_isPlane_75] at hm
    refine lv_iconst (v := 1) hx hb dX0_isPlane_75 (by decide) ?_
    refine lv_goto (tgt := 80) hx hb dX0_isPlane_76 (by decide) ?_
    exact hB80 h (1 : Int32) _ _ _ _ _ hm hw (by omega) (by omega) (lv_sub hl [] rfl)
  rw [m_X0_isPlane] at hm
  refine lv_aload_n hx hb dX0_isPlane_0 rfl (lv_at hl 0 rfl) ?_
  obtain ⟨a1, ea1, hm⟩ := bdE hm
  refine cg_get C hw (oR_E ea1) rfl in_X0 (by decide) q245 dX0_isPlane_1 ?_
  refine lv_iconst (v := 0) hx hb dX0_isPlane_4 (by decide) ?_
  refine lv_iload_n hx hb dX0_isPlane_5 rfl (lv_at hl 1 rfl) ?_
  obtain ⟨h2, eh2, hm⟩ := bdE hm
  refine cg_iast C hw eh2 dX0_isPlane_6 (fun H locs hw => ?_)
  have zh2 := uI_sz eh2
  refine lv_aload_n hx hb dX0_isPlane_7 rfl (lv_at hl 0 rfl) ?_
  obtain ⟨a3, ea3, hm⟩ := bdE hm
  refine cg_get C hw (oR_E ea3) rfl in_X0 (by decide) q245 dX0_isPlane_8 ?_
  refine lv_iconst (v := 1) hx hb dX0_isPlane_11 (by decide) ?_
  refine lv_iload_n hx hb dX0_isPlane_12 rfl (lv_at hl 2 rfl) ?_
  obtain ⟨h4, eh4, hm⟩ := bdE hm
  refine cg_iast C hw eh4 dX0_isPlane_13 (fun H locs hw => ?_)
  have zh4 := uI_sz eh4
  refine lv_aload_n hx hb dX0_isPlane_14 rfl (lv_at hl 0 rfl) ?_
  obtain ⟨a5, ea5, hm⟩ := bdE hm
  refine cg_get C hw (oR_E ea5) rfl in_X0 (by decide) q245 dX0_isPlane_15 ?_
  refine lv_iconst (v := 2) hx hb dX0_isPlane_18 (by decide) ?_
  refine lv_iload_n hx hb dX0_isPlane_19 rfl (lv_at hl 3 rfl) ?_
  obtain ⟨h6, eh6, hm⟩ := bdE hm
  refine cg_iast C hw eh6 dX0_isPlane_20 (fun H locs hw => ?_)
  have zh6 := uI_sz eh6
  refine lv_iload_n hx hb dX0_isPlane_21 rfl (lv_at hl 1 rfl) ?_
  refine lv_i2l hx hb dX0_isPlane_22 rfl ?_
  refine lv_ldc2 hx hb hown (hts _ q1293) dX0_isPlane_23 ?_
  refine lv_ldc2 hx hb hown (hts _ q1294) dX0_isPlane_26 ?_
  obtain ⟨r7, er7, hm⟩ := bdE hm
  refine sci (va_runS (As := [.long (Int32.toInt64 x1), .long (-9 : Int64), .long (9 : Int64)]) (rest := []) ⟨hx, hb, hml, hown, hts⟩ (w_X0_isIn l er7) (cw_X0_isIn hts q297 ⟨Nat.le_of_ble_eq_true rfl, Nat.le_of_ble_eq_true rfl⟩) (pre_s _) rfl rfl hl.1 rfl (lv_room (Nat.le_of_ble_eq_true rfl)) dX0_isPlane_29 ⟨show cc + 0 ≤ u9.1 - u.1 by omega, show ss + 0 ≤ u9.2.1 - u.2.1 by omega⟩) ?_
  refine lv_if_eq (tgt := 79) hx hb dX0_isPlane_32 (by decide) (fun c8 => ?_) (fun c8 => ?_)
  · have hm := ifT hm c8
    exact hB79 h6 _ _ _ _ _ hm hw (by omega) (by omega) (lv_sub hl [] rfl)
  · have hm := ifF hm c8
    refine lv_iload_n hx hb dX0_isPlane_35 rfl (lv_at hl 2 rfl) ?_
    refine lv_i2l hx hb dX0_isPlane_36 rfl ?_
    refine lv_ldc2 hx hb hown (hts _ q1293) dX0_isPlane_37 ?_
    refine lv_ldc2 hx hb hown (hts _ q1294) dX0_isPlane_40 ?_
    obtain ⟨r9, er9, hm⟩ := bdE hm
    refine sci (va_runS (As := [.long (Int32.toInt64 x2), .long (-9 : Int64), .long (9 : Int64)]) (rest := []) ⟨hx, hb, hml, hown, hts⟩ (w_X0_isIn l er9) (cw_X0_isIn hts q297 ⟨Nat.le_of_ble_eq_true rfl, Nat.le_of_ble_eq_true rfl⟩) (pre_s _) rfl rfl hl.1 rfl (lv_room (Nat.le_of_ble_eq_true rfl)) dX0_isPlane_43 ⟨show cc + 0 ≤ u9.1 - u.1 by omega, show ss + 0 ≤ u9.2.1 - u.2.1 by omega⟩) ?_
    refine lv_if_eq (tgt := 79) hx hb dX0_isPlane_46 (by decide) (fun c10 => ?_) (fun c10 => ?_)
    · have hm := ifT hm c10
      exact hB79 h6 _ _ _ _ _ hm hw (by omega) (by omega) (lv_sub hl [] rfl)
    · have hm := ifF hm c10
      refine lv_iload_n hx hb dX0_isPlane_49 rfl (lv_at hl 3 rfl) ?_
      refine lv_i2l hx hb dX0_isPlane_50 rfl ?_
      refine lv_ldc2 hx hb hown (hts _ q1293) dX0_isPlane_51 ?_
      refine lv_ldc2 hx hb hown (hts _ q1294) dX0_isPlane_54 ?_
      obtain ⟨r11, er11, hm⟩ := bdE hm
      refine sci (va_runS (As := [.long (Int32.toInt64 x3), .long (-9 : Int64), .long (9 : Int64)]) (rest := []) ⟨hx, hb, hml, hown, hts⟩ (w_X0_isIn l er11) (cw_X0_isIn hts q297 ⟨Nat.le_of_ble_eq_true rfl, Nat.le_of_ble_eq_true rfl⟩) (pre_s _) rfl rfl hl.1 rfl (lv_room (Nat.le_of_ble_eq_true rfl)) dX0_isPlane_57 ⟨show cc + 0 ≤ u9.1 - u.1 by omega, show ss + 0 ≤ u9.2.1 - u.2.1 by omega⟩) ?_
      refine lv_if_eq (tgt := 79) hx hb dX0_isPlane_60 (by decide) (fun c12 => ?_) (fun c12 => ?_)
      · have hm := ifT hm c12
        exact hB79 h6 _ _ _ _ _ hm hw (by omega) (by omega) (lv_sub hl [] rfl)
      · have hm := ifF hm c12
        refine lv_iload_n hx hb dX0_isPlane_63 rfl (lv_at hl 1 rfl) ?_
        refine lv_if_ne (tgt := 75) hx hb dX0_isPlane_64 (by decide) (fun c13 => ?_) (fun c13 => ?_)
        · have hm := ifT hm c13
          exact hB75 h6 _ _ _ _ _ hm hw (by omega) (by omega) (lv_sub hl [] rfl)
        · have hm := ifT' hm c13
          refine lv_iload_n hx hb dX0_isPlane_67 rfl (lv_at hl 2 rfl) ?_
          refine lv_if_ne (tgt := 75) hx hb dX0_isPlane_68 (by decide) (fun c14 => ?_) (fun c14 => ?_)
          · have hm := ifT hm c14
            exact hB75 h6 _ _ _ _ _ hm hw (by omega) (by omega) (lv_sub hl [] rfl)
          · have hm := ifT' hm c14
            refine lv_iload_n hx hb dX0_isPlane_71 rfl (lv_at hl 3 rfl) ?_
            refine lv_if_eq (tgt := 79) hx hb dX0_isPlane_72 (by decide) (fun c15 => ?_) (fun c15 => ?_)
            · have hm := ifT hm c15
              exact hB79 h6 _ _ _ _ _ hm hw (by omega) (by omega) (lv_sub hl [] rfl)
            · have hm := ifF hm c15
              exact hB75 h6 _ _ _ _ _ hm hw (by omega) (by omega) (lv_sub hl [] rfl)
def m_X2_across_66 (f : Nat) (h : CH) (x2 : Int64) : Option (Int64 × CH) := some (x2, h)
theorem mo_X2_across_66 {f : Nat} : ∀ (h : CH) (x2 : Int64) (r : (Int64 × CH)), m_X2_across_66 f h x2 = some r → le2 h r.2 := by
  intro h x2 r hm
  rw [m_X2_across_66] at hm
  cases hm
  exact le2.rf
def m_X2_across_5 (f : Nat) : Nat → CH → Nat → Nat → Int64 → Int32 → Option (Int64 × CH)
  | 0, _, _, _, _, _ => none
  | n5 + 1, h, x0, x1, x2, x4 => if (3 : Int32) ≤ x4 then
    m_X2_across_66 f h x2
    else bd (oR h 3 0 x0) fun a2 =>
    bd (aR h 4 a2 x4) fun a3 =>
    bd (aL h 1 a3 (0 : Int32)) fun v4 =>
    bd (aI h 0 x1 (0 : Int32)) fun v5 =>
    bd (oR h 3 0 x0) fun a6 =>
    bd (aR h 4 a6 x4) fun a7 =>
    bd (aL h 1 a7 (1 : Int32)) fun v8 =>
    bd (aI h 0 x1 (1 : Int32)) fun v9 =>
    bd (oR h 3 0 x0) fun a10 =>
    bd (aR h 4 a10 x4) fun a11 =>
    bd (aL h 1 a11 (2 : Int32)) fun v12 =>
    bd (aI h 0 x1 (2 : Int32)) fun v13 =>
    bd (m_X0_divisor f x2 (((v4 * (Int32.toInt64 v5)) + (v8 * (Int32.toInt64 v9))) + (v12 * (Int32.toInt64 v13)))) fun r14 =>
    nmv ((x4 + 1) : Int32) fun v15 =>
    m_X2_across_5 f n5 h x0 x1 r14 v15
theorem mo_X2_across_5 {f : Nat} : ∀ (n5 : Nat) (h : CH) (x0 : Nat) (x1 : Nat) (x2 : Int64) (x4 : Int32) (r : (Int64 × CH)), m_X2_across_5 f n5 h x0 x1 x2 x4 = some r → le2 h r.2 := by
  intro n5
  induction n5 with
  | zero => intro h x0 x1 x2 x4 r hm; rw [m_X2_across_5] at hm; exact noE hm
  | succ n5 ihm =>
    intro h x0 x1 x2 x4 r hm
    rw [m_X2_across_5] at hm
    by_cases c1 : (3 : Int32) ≤ x4
    · have hm := ifT hm c1
      exact (mo_X2_across_66  h x2 _ hm)
    · have hm := ifF hm c1
      obtain ⟨a2, ea2, hm⟩ := bdE hm
      obtain ⟨a3, ea3, hm⟩ := bdE hm
      obtain ⟨v4, ev4, hm⟩ := bdE hm
      obtain ⟨v5, ev5, hm⟩ := bdE hm
      obtain ⟨a6, ea6, hm⟩ := bdE hm
      obtain ⟨a7, ea7, hm⟩ := bdE hm
      obtain ⟨v8, ev8, hm⟩ := bdE hm
      obtain ⟨v9, ev9, hm⟩ := bdE hm
      obtain ⟨a10, ea10, hm⟩ := bdE hm
      obtain ⟨a11, ea11, hm⟩ := bdE hm
      obtain ⟨v12, ev12, hm⟩ := bdE hm
      obtain ⟨v13, ev13, hm⟩ := bdE hm
      obtain ⟨r14, er14, hm⟩ := bdE hm
      obtain ⟨v15, ev15, hm⟩ := nmE hm
      exact (ihm h x0 x1 r14 v15 _ hm)
def m_X2_across (f : Nat) (u : CH) (x0 : Nat) (x1 : Nat) : Option (Int64 × CH) := m_X2_across_5 f f u x0 x1 (0 : Int64) (0 : Int32)
theorem mo_X2_across {f : Nat} {u : CH} {x0 : Nat} {x1 : Nat} {r0 : Int64} {u9 : CH} (hm : m_X2_across f u x0 x1 = some (r0, u9)) : le2 u u9 := by
  rw [m_X2_across] at hm
  exact (mo_X2_across_5  f u x0 x1 (0 : Int64) (0 : Int32) _ hm)
abbrev rm_X2_across (mc ms : Nat) : Room := { frames := 102, cells := mc, slots := ms, locals := 4063 }
theorem cw_X2_across {R : Room} {s : State} {args : Array Value} {own : String} {idx mc ms : Nat} (hts : ∀ w ∈ lw_all, w.before args s = true) (hl : Cond.methodLink own idx yX2_across ∈ lw_all) (hR : 102 + 1 ≤ R.frames ∧ 8 + (5 + 11) + 4063 ≤ R.locals) : CallW R s args own RX2 idx yX2_across cX2_across 5 (Option.some Jvm.ClassFile.FieldType.long) (ws_ yX2_across cX2_across 5 (Option.some Jvm.ClassFile.FieldType.long)) (rm_X2_across mc ms) mc ms 1 := cwV 1 hts (lw_V hl q1296 q1297 q124 q1298) rfl rfl rfl (by decide +kernel) hR
set_option maxHeartbeats 4000000 in
set_option maxRecDepth 100000 in
theorem w_X2_across (l : Launch) {D : va_G} {dA : Nat → ClassId} {A : Nat → Prop} {f : Nat} {u u9 : CH} {r0 : Int64} {x0 : Nat} {x1 : Nat} (hm : m_X2_across f u x0 x1 = some (r0, u9)) : Met l yX2_across (ws_ yX2_across cX2_across 5 (Option.some Jvm.ClassFile.FieldType.long)) (rm_X2_across (u9.1 - u.1) (u9.2.1 - u.2.1)) (va_Pc [.ref x0, .ref x1] (CPre D dA A u)) (va_Ql (fun r u => r = r0 ∧ u = u9) (CPost D dA A) A) (u9.1 - u.1) (u9.2.1 - u.2.1) A := by
  refine Met.ofW (cc := cX2_across) (maxL := 5) (ret := (Option.some Jvm.ClassFile.FieldType.long)) (by decide) rfl ?_
  intro p e s m args below meth c s₁ B hml hv
  have hx := B.exec
  have hb := B.bytes
  have hr := B.returns
  have hts := atoms_spec (ws := (ws_ yX2_across cX2_across 5 (Option.some Jvm.ClassFile.FieldType.long))) B.pre
  have hts : ∀ w ∈ lw_all, w.before args s = true := fun w h => hts w (List.mem_cons_of_mem _ h)
  have hown : s.vm.findClass RX2 = some m.cls := findClass_of_methodNamed B.named
  have hlocks := B.notSynchronized
  obtain ⟨hav, hv⟩ := hv
  have C : CX p s m args c cX2_across RX2 D dA := ⟨hx, hb, hown, hts, hv.2⟩
  have hw : CW D dA A s u s.heap [] := hv.1
  generalize hQ : MQ below (va_Ql (fun r u => r = r0 ∧ u = u9) (CPost D dA A) A) args s (u9.1 - u.1) (u9.2.1 - u.2.1) A = QQ
  have hent := lg_entry_eq m [.ref x0, .ref x1] 5
  rw [← hav] at hent
  rw [hent]
  have hl := lv_entry ([.ref x0, .ref x1]) (n := 5) (Nat.le_of_ble_eq_true rfl)
  generalize (lg_sl ([.ref x0, .ref x1]) ++ List.replicate (5 - (lg_sl ([.ref x0, .ref x1])).length) Slot.unset).toArray = ls at hl ⊢
  have hl : lv_has ls 5 [(0, .ref x0), (1, .ref x1)] := hl
  obtain ⟨cc, ecc⟩ : ∃ z : Nat, z = 0 := ⟨0, rfl⟩
  obtain ⟨ss, ess⟩ : ∃ z : Nat, z = 0 := ⟨0, rfl⟩
  have hcc : cc + u.1 = u.1 := by omega
  have hss : ss + u.2.1 = u.2.1 := by omega
  suffices hgo : W p l e (rm_X2_across (u9.1 - u.1) (u9.2.1 - u.2.1)) s m args below meth c s.heap [] cc ss QQ (F0 m 0 ls []) by rw [ecc, ess] at hgo; exact hgo
  have ⟨pu, qu, _, _⟩ := mo_X2_across hm
  have hB66 : ∀ (h : CH) (x2 : Int64) (cc ss : Nat) (H : Heap) (locs : List Loc) (ls : Array Slot), m_X2_across_66 f h x2 = some (r0, u9) → CW D dA A s h H locs → cc + u.1 = h.1 → ss + u.2.1 = h.2.1 → lv_has ls 5 [(2, .long x2)] → W p l e (rm_X2_across (u9.1 - u.1) (u9.2.1 - u.2.1)) s m args below meth c H locs cc ss QQ (F0 m 66 ls []) := by
    intro h x2 cc ss H locs ls hm hw hcc hss hl
    have hmo := mo_X2_across_66  h x2 _ hm
    have sb_ : h.1 ≤ u9.1 := hmo.1
    have tb_ : h.2.1 ≤ u9.2.1 := hmo.2.1
    rw [m_X2_across_66] at hm
    refine lv_lload_n hx hb dX2_across_66 rfl (lv_at hl 0 rfl) ?_
    obtain ⟨er, eh⟩ := retE hm
    have ec : cc = u9.1 - u.1 := by rw [← eh]; omega
    have es : ss = u9.2.1 - u.2.1 := by rw [← eh]; omega
    rw [ec, es, ← hQ]
    exact W.lret (v := x2) hx hb hr (fun t ht hW => ⟨⟨x2, h, rfl, ⟨er, eh⟩, ⟨by rw [ht]; exact hw.1, by rw [ht]; exact hw.2.1⟩⟩, hw.2.2.1.F ht⟩) hw.2.2.1.2.2 dX2_across_67
  have hB5 : ∀ (n5 : Nat), ∀ (h : CH) (x0 : Nat) (x1 : Nat) (x2 : Int64) (x4 : Int32) (cc ss : Nat) (H : Heap) (locs : List Loc) (ls : Array Slot), m_X2_across_5 f n5 h x0 x1 x2 x4 = some (r0, u9) → CW D dA A s h H locs → cc + u.1 = h.1 → ss + u.2.1 = h.2.1 → lv_has ls 5 [(0, .ref x0), (1, .ref x1), (2, .long x2), (4, .int x4)] → W p l e (rm_X2_across (u9.1 - u.1) (u9.2.1 - u.2.1)) s m args below meth c H locs cc ss QQ (F0 m 5 ls []) := by
    intro n5
    induction n5 with
    | zero => intro h x0 x1 x2 x4 cc ss H locs ls hm hw hcc hss hl; rw [m_X2_across_5] at hm; exact noE hm
    | succ n5 ih5 =>
      intro h x0 x1 x2 x4 cc ss H locs ls hm hw hcc hss hl
      have hmo := mo_X2_across_5  (n5 + 1) h x0 x1 x2 x4 _ hm
      have sb_ : h.1 ≤ u9.1 := hmo.1
      have tb_ : h.2.1 ≤ u9.2.1 := hmo.2.1
      rw [m_X2_across_5] at hm
      refine lv_iload hx hb dX2_across_5 (lv_at hl 3 rfl) ?_
      refine lv_iconst (v := 3) hx hb dX2_across_7 (by decide) ?_
      refine lv_icmp_ge (tgt := 66) hx hb dX2_across_8 (by decide) (fun c1 => ?_) (fun c1 => ?_)
      · have hm := ifT hm c1
        exact hB66 h x2 _ _ _ _ _ hm hw (by omega) (by omega) (lv_sub hl [2] rfl)
      · have hm := ifF hm c1
        refine lv_lload_n hx hb dX2_across_11 rfl (lv_at hl 2 rfl) ?_
        refine lv_aload_n hx hb dX2_across_12 rfl (lv_at hl 0 rfl) ?_
        obtain ⟨a2, ea2, hm⟩ := bdE hm
        refine cg_get C hw (oR_E ea2) rfl in_X2 (by decide) q205 dX2_across_13 ?_
        refine lv_iload hx hb dX2_across_16 (lv_at hl 3 rfl) ?_
        obtain ⟨a3, ea3, hm⟩ := bdE hm
        refine cg_aaldA C hw (ty := .array .long) rfl rfl (aR_E ea3) dX2_across_18 ?_
        refine lv_iconst (v := 0) hx hb dX2_across_19 (by decide) ?_
        obtain ⟨v4, ev4, hm⟩ := bdE hm
        refine cg_lald C hw ev4 dX2_across_20 ?_
        refine lv_aload_n hx hb dX2_across_21 rfl (lv_at hl 1 rfl) ?_
        refine lv_iconst (v := 0) hx hb dX2_across_22 (by decide) ?_
        obtain ⟨v5, ev5, hm⟩ := bdE hm
        refine cg_iald C hw ev5 dX2_across_23 ?_
        refine lv_i2l hx hb dX2_across_24 rfl ?_
        refine lv_lmul hx hb dX2_across_25 ?_
        refine lv_aload_n hx hb dX2_across_26 rfl (lv_at hl 0 rfl) ?_
        obtain ⟨a6, ea6, hm⟩ := bdE hm
        refine cg_get C hw (oR_E ea6) rfl in_X2 (by decide) q205 dX2_across_27 ?_
        refine lv_iload hx hb dX2_across_30 (lv_at hl 3 rfl) ?_
        obtain ⟨a7, ea7, hm⟩ := bdE hm
        refine cg_aaldA C hw (ty := .array .long) rfl rfl (aR_E ea7) dX2_across_32 ?_
        refine lv_iconst (v := 1) hx hb dX2_across_33 (by decide) ?_
        obtain ⟨v8, ev8, hm⟩ := bdE hm
        refine cg_lald C hw ev8 dX2_across_34 ?_
        refine lv_aload_n hx hb dX2_across_35 rfl (lv_at hl 1 rfl) ?_
        refine lv_iconst (v := 1) hx hb dX2_across_36 (by decide) ?_
        obtain ⟨v9, ev9, hm⟩ := bdE hm
        refine cg_iald C hw ev9 dX2_across_37 ?_
        refine lv_i2l hx hb dX2_across_38 rfl ?_
        refine lv_lmul hx hb dX2_across_39 ?_
        refine lv_ladd hx hb dX2_across_40 ?_
        refine lv_aload_n hx hb dX2_across_41 rfl (lv_at hl 0 rfl) ?_
        obtain ⟨a10, ea10, hm⟩ := bdE hm
        refine cg_get C hw (oR_E ea10) rfl in_X2 (by decide) q205 dX2_across_42 ?_
        refine lv_iload hx hb dX2_across_45 (lv_at hl 3 rfl) ?_
        obtain ⟨a11, ea11, hm⟩ := bdE hm
        refine cg_aaldA C hw (ty := .array .long) rfl rfl (aR_E ea11) dX2_across_47 ?_
        refine lv_iconst (v := 2) hx hb dX2_across_48 (by decide) ?_
        obtain ⟨v12, ev12, hm⟩ := bdE hm
        refine cg_lald C hw ev12 dX2_across_49 ?_
        refine lv_aload_n hx hb dX2_across_50 rfl (lv_at hl 1 rfl) ?_
        refine lv_iconst (v := 2) hx hb dX2_across_51 (by decide) ?_
        obtain ⟨v13, ev13, hm⟩ := bdE hm
        refine cg_iald C hw ev13 dX2_across_52 ?_
        refine lv_i2l hx hb dX2_across_53 rfl ?_
        refine lv_lmul hx hb dX2_across_54 ?_
        refine lv_ladd hx hb dX2_across_55 ?_
        obtain ⟨r14, er14, hm⟩ := bdE hm
        refine scl (va_runSN (As := [.long x2, .long (((v4 * (Int32.toInt64 v5)) + (v8 * (Int32.toInt64 v9))) + (v12 * (Int32.toInt64 v13)))]) (rest := []) ⟨hx, hb, hml, hown, hts⟩ (w_X0_divisor l er14) ⟨va_cnB 2 hts (lw_meth q932) rfl rfl rfl (hw.2.2.2.2.1 _ (List.mem_of_getElem? (i := 59) rfl)) (hts _ q119) (by decide +kernel) ⟨Nat.le_of_ble_eq_true rfl, Nat.le_of_ble_eq_true rfl⟩, hts _ q931, trivial⟩ (pre_s _) rfl rfl hl.1 rfl (lv_room (Nat.le_of_ble_eq_true rfl)) dX2_across_56 ⟨show cc + 0 ≤ u9.1 - u.1 by omega, show ss + 0 ≤ u9.2.1 - u.2.1 by omega⟩) ?_
        refine lv_lstore_n (lv' := [(2, .long r14), (0, .ref x0), (1, .ref x1), (4, .int x4)]) hx hb dX2_across_59 rfl hl (by decide) rfl (fun ls hl => ?_)
        obtain ⟨v15, ev15, hm⟩ := nmE hm
        refine lv_iinc (v := v15) (lv' := [(4, .int v15), (2, .long r14), (0, .ref x0), (1, .ref x1)]) hx hb dX2_across_60 hl (k := 3) rfl (by rw [ev15]; rfl) (by decide) rfl (fun ls hl => ?_)
        refine lv_goto (tgt := 5) hx hb dX2_across_63 (by decide) ?_
        exact ih5 h x0 x1 r14 v15 _ _ _ _ _ hm hw (by omega) (by omega) (lv_sub hl [2, 3, 1, 0] rfl)
  rw [m_X2_across] at hm
  refine lv_lconst (v := 0) hx hb dX2_across_0 (by decide) ?_
  refine lv_lstore_n (lv' := [(2, .long (0 : Int64)), (0, .ref x0), (1, .ref x1)]) hx hb dX2_across_1 rfl hl (by decide) rfl (fun ls hl => ?_)
  refine lv_iconst (v := 0) hx hb dX2_across_2 (by decide) ?_
  refine lv_istore (lv' := [(4, .int (0 : Int32)), (2, .long (0 : Int64)), (0, .ref x0), (1, .ref x1)]) hx hb dX2_across_3 hl (by decide) rfl (fun ls hl => ?_)
  exact hB5 f u x0 x1 (0 : Int64) (0 : Int32) _ _ _ _ _ hm hw (by omega) (by omega) (lv_sub hl [2, 3, 1, 0] rfl)
def m_X0_area_27 (f : Nat) (h : CH) : Option (Int64 × CH) := some ((-2 : Int64), h)
theorem mo_X0_area_27 {f : Nat} : ∀ (h : CH) (r : (Int64 × CH)), m_X0_area_27 f h = some r → le2 h r.2 := by
  intro h r hm
  rw [m_X0_area_27] at hm
  cases hm
  exact le2.rf
def m_X0_area_113 (f : Nat) (h : CH) (x2 : Int32) (x3 : Int32) (x4 : Int32) (x5 : Int32) (x7 : Int64) (y0 : Int64) (y1 : Int64) : Option (Int64 × CH) := nmv ((y0 * y1) : Int64) fun v1 =>
    bd (m_X0_divisor f x7 v1) fun r2 =>
    gd (nzL r2) <|
    nmv ((x7 / r2) : Int64) fun v4 =>
    gd (nzL r2) <|
    nmv ((v1 / r2) : Int64) fun v6 =>
    bd (m_X0_part f ((v4 * v4) * (Int32.toInt64 (((x2 * x2) + (x3 * x3)) + (x4 * x4)))) (v6 * v6) x5) fun r7 =>
    some (r7, h)
theorem mo_X0_area_113 {f : Nat} : ∀ (h : CH) (x2 : Int32) (x3 : Int32) (x4 : Int32) (x5 : Int32) (x7 : Int64) (y0 : Int64) (y1 : Int64) (r : (Int64 × CH)), m_X0_area_113 f h x2 x3 x4 x5 x7 y0 y1 = some r → le2 h r.2 := by
  intro h x2 x3 x4 x5 x7 y0 y1 r hm
  rw [m_X0_area_113] at hm
  obtain ⟨v1, ev1, hm⟩ := nmE hm
  obtain ⟨r2, er2, hm⟩ := bdE hm
  obtain ⟨g3, hm⟩ := gdE hm
  obtain ⟨v4, ev4, hm⟩ := nmE hm
  obtain ⟨g5, hm⟩ := gdE hm
  obtain ⟨v6, ev6, hm⟩ := nmE hm
  obtain ⟨r7, er7, hm⟩ := bdE hm
  cases hm
  exact le2.rf
def m_X0_area_110 (f : Nat) (h : CH) (x2 : Int32) (x3 : Int32) (x4 : Int32) (x5 : Int32) (x7 : Int64) (y0 : Int64) (y1 : Nat) : Option (Int64 × CH) := if isC h y1 6 = true then
    bd2 (m_X6_over f h y1) fun r3 h2 =>
    m_X0_area_113 f h2 x2 x3 x4 x5 x7 y0 r3
    else gd (isC h y1 7) <|
    bd2 (m_X7_over f h y1) fun r6 h5 =>
    m_X0_area_113 f h5 x2 x3 x4 x5 x7 y0 r6
theorem mo_X0_area_110 {f : Nat} : ∀ (h : CH) (x2 : Int32) (x3 : Int32) (x4 : Int32) (x5 : Int32) (x7 : Int64) (y0 : Int64) (y1 : Nat) (r : (Int64 × CH)), m_X0_area_110 f h x2 x3 x4 x5 x7 y0 y1 = some r → le2 h r.2 := by
  intro h x2 x3 x4 x5 x7 y0 y1 r hm
  rw [m_X0_area_110] at hm
  by_cases c1 : isC h y1 6 = true
  · have hm := ifT hm c1
    obtain ⟨r3, h2, er3, hm⟩ := bd2E hm
    have lh2 := mo_X6_over er3
    exact (lh2.tr (mo_X0_area_113  h2 x2 x3 x4 x5 x7 y0 r3 _ hm))
  · have hm := ifF hm c1
    obtain ⟨g4, hm⟩ := gdE hm
    obtain ⟨r6, h5, er6, hm⟩ := bd2E hm
    have lh5 := mo_X7_over er6
    exact (lh5.tr (mo_X0_area_113  h5 x2 x3 x4 x5 x7 y0 r6 _ hm))
def m_X0_area_104 (f : Nat) (h : CH) (x0 : Nat) (x1 : Int32) (x2 : Int32) (x3 : Int32) (x4 : Int32) (x5 : Int32) (x7 : Int64) (y0 : Int64) (y1 : Int64) : Option (Int64 × CH) := gd (isC h x0 1) <|
    bd2 (m_X0_at f h x0 x1) fun a3 h2 =>
    m_X0_area_110 f h2 x2 x3 x4 x5 x7 (y0 * y1) a3
theorem mo_X0_area_104 {f : Nat} : ∀ (h : CH) (x0 : Nat) (x1 : Int32) (x2 : Int32) (x3 : Int32) (x4 : Int32) (x5 : Int32) (x7 : Int64) (y0 : Int64) (y1 : Int64) (r : (Int64 × CH)), m_X0_area_104 f h x0 x1 x2 x3 x4 x5 x7 y0 y1 = some r → le2 h r.2 := by
  intro h x0 x1 x2 x3 x4 x5 x7 y0 y1 r hm
  rw [m_X0_area_104] at hm
  obtain ⟨g1, hm⟩ := gdE hm
  obtain ⟨a3, h2, ea3, hm⟩ := bd2E hm
  have lh2 := mo_X0_at ea3
  exact (lh2.tr (mo_X0_area_110  h2 x2 x3 x4 x5 x7 (y0 * y1) a3 _ hm))
def m_X0_area_101 (f : Nat) (h : CH) (x0 : Nat) (x1 : Int32) (x2 : Int32) (x3 : Int32) (x4 : Int32) (x5 : Int32) (x7 : Int64) (y0 : Int64) (y1 : Nat) : Option (Int64 × CH) := if isC h y1 6 = true then
    bd2 (m_X6_over f h y1) fun r3 h2 =>
    m_X0_area_104 f h2 x0 x1 x2 x3 x4 x5 x7 y0 r3
    else gd (isC h y1 7) <|
    bd2 (m_X7_over f h y1) fun r6 h5 =>
    m_X0_area_104 f h5 x0 x1 x2 x3 x4 x5 x7 y0 r6
theorem mo_X0_area_101 {f : Nat} : ∀ (h : CH) (x0 : Nat) (x1 : Int32) (x2 : Int32) (x3 : Int32) (x4 : Int32) (x5 : Int32) (x7 : Int64) (y0 : Int64) (y1 : Nat) (r : (Int64 × CH)), m_X0_area_101 f h x0 x1 x2 x3 x4 x5 x7 y0 y1 = some r → le2 h r.2 := by
  intro h x0 x1 x2 x3 x4 x5 x7 y0 y1 r hm
  rw [m_X0_area_101] at hm
  by_cases c1 : isC h y1 6 = true
  · have hm := ifT hm c1
    obtain ⟨r3, h2, er3, hm⟩ := bd2E hm
    have lh2 := mo_X6_over er3
    exact (lh2.tr (mo_X0_area_104  h2 x0 x1 x2 x3 x4 x5 x7 y0 r3 _ hm))
  · have hm := ifF hm c1
    obtain ⟨g4, hm⟩ := gdE hm
    obtain ⟨r6, h5, er6, hm⟩ := bd2E hm
    have lh5 := mo_X7_over er6
    exact (lh5.tr (mo_X0_area_104  h5 x0 x1 x2 x3 x4 x5 x7 y0 r6 _ hm))
def m_X0_area_92 (f : Nat) (h : CH) (x0 : Nat) (x1 : Int32) (x2 : Int32) (x3 : Int32) (x4 : Int32) (x5 : Int32) (x7 : Int64) (y0 : Int64) (y1 : Int64) (y2 : Int64) : Option (Int64 × CH) := bd (m_X0_divisor f y1 y2) fun r1 =>
    gd (nzL r1) <|
    gd (isC h x0 1) <|
    bd2 (m_X0_at f h x0 x1) fun a5 h4 =>
    m_X0_area_101 f h4 x0 x1 x2 x3 x4 x5 x7 (y0 / r1) a5
theorem mo_X0_area_92 {f : Nat} : ∀ (h : CH) (x0 : Nat) (x1 : Int32) (x2 : Int32) (x3 : Int32) (x4 : Int32) (x5 : Int32) (x7 : Int64) (y0 : Int64) (y1 : Int64) (y2 : Int64) (r : (Int64 × CH)), m_X0_area_92 f h x0 x1 x2 x3 x4 x5 x7 y0 y1 y2 = some r → le2 h r.2 := by
  intro h x0 x1 x2 x3 x4 x5 x7 y0 y1 y2 r hm
  rw [m_X0_area_92] at hm
  obtain ⟨r1, er1, hm⟩ := bdE hm
  obtain ⟨g2, hm⟩ := gdE hm
  obtain ⟨g3, hm⟩ := gdE hm
  obtain ⟨a5, h4, ea5, hm⟩ := bd2E hm
  have lh4 := mo_X0_at ea5
  exact (lh4.tr (mo_X0_area_101  h4 x0 x1 x2 x3 x4 x5 x7 (y0 / r1) a5 _ hm))
def m_X0_area_83 (f : Nat) (h : CH) (x0 : Nat) (x1 : Int32) (x2 : Int32) (x3 : Int32) (x4 : Int32) (x5 : Int32) (x6 : Nat) (x7 : Int64) (y0 : Int64) (y1 : Int64) : Option (Int64 × CH) := bd (oR h 1 6 x0) fun a1 =>
    gd (isC h x6 3) <|
    bd2 (m_X2_across f h x6 a1) fun r4 h3 =>
    m_X0_area_92 f h3 x0 x1 x2 x3 x4 x5 x7 y0 y1 r4
theorem mo_X0_area_83 {f : Nat} : ∀ (h : CH) (x0 : Nat) (x1 : Int32) (x2 : Int32) (x3 : Int32) (x4 : Int32) (x5 : Int32) (x6 : Nat) (x7 : Int64) (y0 : Int64) (y1 : Int64) (r : (Int64 × CH)), m_X0_area_83 f h x0 x1 x2 x3 x4 x5 x6 x7 y0 y1 = some r → le2 h r.2 := by
  intro h x0 x1 x2 x3 x4 x5 x6 x7 y0 y1 r hm
  rw [m_X0_area_83] at hm
  obtain ⟨a1, ea1, hm⟩ := bdE hm
  obtain ⟨g2, hm⟩ := gdE hm
  obtain ⟨r4, h3, er4, hm⟩ := bd2E hm
  have lh3 := mo_X2_across er4
  exact (lh3.tr (mo_X0_area_92  h3 x0 x1 x2 x3 x4 x5 x7 y0 y1 r4 _ hm))
def m_X0_area_78 (f : Nat) (h : CH) (x0 : Nat) (x1 : Int32) (x2 : Int32) (x3 : Int32) (x4 : Int32) (x5 : Int32) (x6 : Nat) (x7 : Int64) (y0 : Int64) : Option (Int64 × CH) := gd (isC h x6 3) <|
    bd2 (m_X2_determinant f h x6) fun r3 h2 =>
    m_X0_area_83 f h2 x0 x1 x2 x3 x4 x5 x6 x7 y0 r3
theorem mo_X0_area_78 {f : Nat} : ∀ (h : CH) (x0 : Nat) (x1 : Int32) (x2 : Int32) (x3 : Int32) (x4 : Int32) (x5 : Int32) (x6 : Nat) (x7 : Int64) (y0 : Int64) (r : (Int64 × CH)), m_X0_area_78 f h x0 x1 x2 x3 x4 x5 x6 x7 y0 = some r → le2 h r.2 := by
  intro h x0 x1 x2 x3 x4 x5 x6 x7 y0 r hm
  rw [m_X0_area_78] at hm
  obtain ⟨g1, hm⟩ := gdE hm
  obtain ⟨r3, h2, er3, hm⟩ := bd2E hm
  have lh2 := mo_X2_determinant er3
  exact (lh2.tr (mo_X0_area_83  h2 x0 x1 x2 x3 x4 x5 x6 x7 y0 r3 _ hm))
def m_X0_area_63 (f : Nat) (h : CH) (x0 : Nat) (x1 : Int32) (x2 : Int32) (x3 : Int32) (x4 : Int32) (x5 : Int32) (x6 : Nat) (y0 : Int64) (y1 : Int64) (y2 : Int64) : Option (Int64 × CH) := bd (m_X0_divisor f y1 y2) fun r1 =>
    gd (nzL r1) <|
    nmv ((y0 / r1) : Int64) fun v3 =>
    bd (oR h 1 6 x0) fun a4 =>
    gd (isC h x6 3) <|
    bd2 (m_X2_across f h x6 a4) fun r7 h6 =>
    m_X0_area_78 f h6 x0 x1 x2 x3 x4 x5 x6 v3 r7
theorem mo_X0_area_63 {f : Nat} : ∀ (h : CH) (x0 : Nat) (x1 : Int32) (x2 : Int32) (x3 : Int32) (x4 : Int32) (x5 : Int32) (x6 : Nat) (y0 : Int64) (y1 : Int64) (y2 : Int64) (r : (Int64 × CH)), m_X0_area_63 f h x0 x1 x2 x3 x4 x5 x6 y0 y1 y2 = some r → le2 h r.2 := by
  intro h x0 x1 x2 x3 x4 x5 x6 y0 y1 y2 r hm
  rw [m_X0_area_63] at hm
  obtain ⟨r1, er1, hm⟩ := bdE hm
  obtain ⟨g2, hm⟩ := gdE hm
  obtain ⟨v3, ev3, hm⟩ := nmE hm
  obtain ⟨a4, ea4, hm⟩ := bdE hm
  obtain ⟨g5, hm⟩ := gdE hm
  obtain ⟨r7, h6, er7, hm⟩ := bd2E hm
  have lh6 := mo_X2_across er7
  exact (lh6.tr (mo_X0_area_78  h6 x0 x1 x2 x3 x4 x5 x6 v3 r7 _ hm))
def m_X0_area_54 (f : Nat) (h : CH) (x0 : Nat) (x1 : Int32) (x2 : Int32) (x3 : Int32) (x4 : Int32) (x5 : Int32) (x6 : Nat) (y0 : Int64) (y1 : Int64) : Option (Int64 × CH) := bd (oR h 1 6 x0) fun a1 =>
    gd (isC h x6 3) <|
    bd2 (m_X2_across f h x6 a1) fun r4 h3 =>
    m_X0_area_63 f h3 x0 x1 x2 x3 x4 x5 x6 y0 y1 r4
theorem mo_X0_area_54 {f : Nat} : ∀ (h : CH) (x0 : Nat) (x1 : Int32) (x2 : Int32) (x3 : Int32) (x4 : Int32) (x5 : Int32) (x6 : Nat) (y0 : Int64) (y1 : Int64) (r : (Int64 × CH)), m_X0_area_54 f h x0 x1 x2 x3 x4 x5 x6 y0 y1 = some r → le2 h r.2 := by
  intro h x0 x1 x2 x3 x4 x5 x6 y0 y1 r hm
  rw [m_X0_area_54] at hm
  obtain ⟨a1, ea1, hm⟩ := bdE hm
  obtain ⟨g2, hm⟩ := gdE hm
  obtain ⟨r4, h3, er4, hm⟩ := bd2E hm
  have lh3 := mo_X2_across er4
  exact (lh3.tr (mo_X0_area_63  h3 x0 x1 x2 x3 x4 x5 x6 y0 y1 r4 _ hm))
def m_X0_area_46 (f : Nat) (h : CH) (x0 : Nat) (x1 : Int32) (x2 : Int32) (x3 : Int32) (x4 : Int32) (x5 : Int32) (x6 : Nat) (y0 : Int64) : Option (Int64 × CH) := bd (m_J9_abs f y0) fun r1 =>
    gd (isC h x6 3) <|
    bd2 (m_X2_determinant f h x6) fun r4 h3 =>
    m_X0_area_54 f h3 x0 x1 x2 x3 x4 x5 x6 r1 r4
theorem mo_X0_area_46 {f : Nat} : ∀ (h : CH) (x0 : Nat) (x1 : Int32) (x2 : Int32) (x3 : Int32) (x4 : Int32) (x5 : Int32) (x6 : Nat) (y0 : Int64) (r : (Int64 × CH)), m_X0_area_46 f h x0 x1 x2 x3 x4 x5 x6 y0 = some r → le2 h r.2 := by
  intro h x0 x1 x2 x3 x4 x5 x6 y0 r hm
  rw [m_X0_area_46] at hm
  obtain ⟨r1, er1, hm⟩ := bdE hm
  obtain ⟨g2, hm⟩ := gdE hm
  obtain ⟨r4, h3, er4, hm⟩ := bd2E hm
  have lh3 := mo_X2_determinant er4
  exact (lh3.tr (mo_X0_area_54  h3 x0 x1 x2 x3 x4 x5 x6 r1 r4 _ hm))
def m_X0_area_39 (f : Nat) (h : CH) (x0 : Nat) (x1 : Int32) (x2 : Int32) (x3 : Int32) (x4 : Int32) (x5 : Int32) (y0 : Nat) : Option (Int64 × CH) := gd (isC h y0 3) <|
    bd2 (m_X2_determinant f h y0) fun r3 h2 =>
    m_X0_area_46 f h2 x0 x1 x2 x3 x4 x5 y0 r3
theorem mo_X0_area_39 {f : Nat} : ∀ (h : CH) (x0 : Nat) (x1 : Int32) (x2 : Int32) (x3 : Int32) (x4 : Int32) (x5 : Int32) (y0 : Nat) (r : (Int64 × CH)), m_X0_area_39 f h x0 x1 x2 x3 x4 x5 y0 = some r → le2 h r.2 := by
  intro h x0 x1 x2 x3 x4 x5 y0 r hm
  rw [m_X0_area_39] at hm
  obtain ⟨g1, hm⟩ := gdE hm
  obtain ⟨r3, h2, er3, hm⟩ := bd2E hm
  have lh2 := mo_X2_determinant er3
  exact (lh2.tr (mo_X0_area_46  h2 x0 x1 x2 x3 x4 x5 y0 r3 _ hm))
def m_X0_area_36 (f : Nat) (h : CH) (x0 : Nat) (x1 : Int32) (x2 : Int32) (x3 : Int32) (x4 : Int32) (x5 : Int32) (y0 : Nat) : Option (Int64 × CH) := if isC h y0 6 = true then
    bd2 (m_X6_rows f h y0) fun a3 h2 =>
    m_X0_area_39 f h2 x0 x1 x2 x3 x4 x5 a3
    else gd (isC h y0 7) <|
    bd2 (m_X7_rows f h y0) fun a6 h5 =>
    m_X0_area_39 f h5 x0 x1 x2 x3 x4 x5 a6
theorem mo_X0_area_36 {f : Nat} : ∀ (h : CH) (x0 : Nat) (x1 : Int32) (x2 : Int32) (x3 : Int32) (x4 : Int32) (x5 : Int32) (y0 : Nat) (r : (Int64 × CH)), m_X0_area_36 f h x0 x1 x2 x3 x4 x5 y0 = some r → le2 h r.2 := by
  intro h x0 x1 x2 x3 x4 x5 y0 r hm
  rw [m_X0_area_36] at hm
  by_cases c1 : isC h y0 6 = true
  · have hm := ifT hm c1
    obtain ⟨a3, h2, ea3, hm⟩ := bd2E hm
    have lh2 := mo_X6_rows ea3
    exact (lh2.tr (mo_X0_area_39  h2 x0 x1 x2 x3 x4 x5 a3 _ hm))
  · have hm := ifF hm c1
    obtain ⟨g4, hm⟩ := gdE hm
    obtain ⟨a6, h5, ea6, hm⟩ := bd2E hm
    have lh5 := mo_X7_rows ea6
    exact (lh5.tr (mo_X0_area_39  h5 x0 x1 x2 x3 x4 x5 a6 _ hm))
def m_X0_area_16 (f : Nat) (h : CH) (x0 : Nat) (x1 : Int32) (x2 : Int32) (x3 : Int32) (x4 : Int32) (x5 : Int32) (y0 : Int32) : Option (Int64 × CH) := if y0 = 0 then
    m_X0_area_27 f h
    else bd (m_X0_isPart f x5) fun r2 =>
    if ¬ r2 = 0 then
    gd (isC h x0 1) <|
    bd2 (m_X0_at f h x0 x1) fun a6 h5 =>
    m_X0_area_36 f h5 x0 x1 x2 x3 x4 x5 a6
    else m_X0_area_27 f h
theorem mo_X0_area_16 {f : Nat} : ∀ (h : CH) (x0 : Nat) (x1 : Int32) (x2 : Int32) (x3 : Int32) (x4 : Int32) (x5 : Int32) (y0 : Int32) (r : (Int64 × CH)), m_X0_area_16 f h x0 x1 x2 x3 x4 x5 y0 = some r → le2 h r.2 := by
  intro h x0 x1 x2 x3 x4 x5 y0 r hm
  rw [m_X0_area_16] at hm
  by_cases c1 : y0 = 0
  · have hm := ifT hm c1
    exact (mo_X0_area_27  h _ hm)
  · have hm := ifF hm c1
    obtain ⟨r2, er2, hm⟩ := bdE hm
    by_cases c3 : ¬ r2 = 0
    · have hm := ifT hm c3
      obtain ⟨g4, hm⟩ := gdE hm
      obtain ⟨a6, h5, ea6, hm⟩ := bd2E hm
      have lh5 := mo_X0_at ea6
      exact (lh5.tr (mo_X0_area_36  h5 x0 x1 x2 x3 x4 x5 a6 _ hm))
    · have hm := ifF hm c3
      exact (mo_X0_area_27  h _ hm)
def m_X0_area_5 (f : Nat) (h : CH) (x0 : Nat) (x1 : Int32) (x2 : Int32) (x3 : Int32) (x4 : Int32) (x5 : Int32) (y0 : Int32) : Option (Int64 × CH) := if y0 = 0 then
    m_X0_area_27 f h
    else gd (isC h x0 1) <|
    bd2 (m_X0_isPlane f h x0 x2 x3 x4) fun r4 h3 =>
    m_X0_area_16 f h3 x0 x1 x2 x3 x4 x5 r4
theorem mo_X0_area_5 {f : Nat} : ∀ (h : CH) (x0 : Nat) (x1 : Int32) (x2 : Int32) (x3 : Int32) (x4 : Int32) (x5 : Int32) (y0 : Int32) (r : (Int64 × CH)), m_X0_area_5 f h x0 x1 x2 x3 x4 x5 y0 = some r → le2 h r.2 := by
  intro h x0 x1 x2 x3 x4 x5 y0 r hm
  rw [m_X0_area_5] at hm
  by_cases c1 : y0 = 0
  · have hm := ifT hm c1
    exact (mo_X0_area_27  h _ hm)
  · have hm := ifF hm c1
    obtain ⟨g2, hm⟩ := gdE hm
    obtain ⟨r4, h3, er4, hm⟩ := bd2E hm
    have lh3 := mo_X0_isPlane er4
    exact (lh3.tr (mo_X0_area_16  h3 x0 x1 x2 x3 x4 x5 r4 _ hm))
def m_X0_area (f : Nat) (u : CH) (x0 : Nat) (x1 : Int32) (x2 : Int32) (x3 : Int32) (x4 : Int32) (x5 : Int32) : Option (Int64 × CH) := gd (isC u x0 1) <|
    bd2 (m_X0_isLattice f u x0 x1) fun r3 h2 =>
    m_X0_area_5 f h2 x0 x1 x2 x3 x4 x5 r3
theorem mo_X0_area {f : Nat} {u : CH} {x0 : Nat} {x1 : Int32} {x2 : Int32} {x3 : Int32} {x4 : Int32} {x5 : Int32} {r0 : Int64} {u9 : CH} (hm : m_X0_area f u x0 x1 x2 x3 x4 x5 = some (r0, u9)) : le2 u u9 := by
  rw [m_X0_area] at hm
  obtain ⟨g1, hm⟩ := gdE hm
  obtain ⟨r3, h2, er3, hm⟩ := bd2E hm
  have lh2 := mo_X0_isLattice er3
  exact (lh2.tr (mo_X0_area_5  h2 x0 x1 x2 x3 x4 x5 r3 _ hm))
abbrev rm_X0_area (mc ms : Nat) : Room := { frames := 105, cells := mc, slots := ms, locals := 4127 }
theorem cw_X0_area {R : Room} {s : State} {args : Array Value} {own : String} {idx mc ms : Nat} (hts : ∀ w ∈ lw_all, w.before args s = true) (hl : Cond.methodLink own idx yX0_area ∈ lw_all) (hR : 105 + 1 ≤ R.frames ∧ 8 + (13 + 11) + 4127 ≤ R.locals) : CallW R s args own RX0 idx yX0_area cX0_area 13 (Option.some Jvm.ClassFile.FieldType.long) (ws_ yX0_area cX0_area 13 (Option.some Jvm.ClassFile.FieldType.long)) (rm_X0_area mc ms) mc ms 5 := cwV 5 hts (lw_V hl q1286 q1287 q119 q1288) rfl rfl rfl (by decide +kernel) hR
set_option maxHeartbeats 4000000 in
set_option maxRecDepth 100000 in
theorem w_X0_area (l : Launch) {D : va_G} {dA : Nat → ClassId} {A : Nat → Prop} {f : Nat} {u u9 : CH} {r0 : Int64} {x0 : Nat} {x1 : Int32} {x2 : Int32} {x3 : Int32} {x4 : Int32} {x5 : Int32} (hm : m_X0_area f u x0 x1 x2 x3 x4 x5 = some (r0, u9)) : Met l yX0_area (ws_ yX0_area cX0_area 13 (Option.some Jvm.ClassFile.FieldType.long)) (rm_X0_area (u9.1 - u.1) (u9.2.1 - u.2.1)) (va_Pc [.ref x0, .int x1, .int x2, .int x3, .int x4, .int x5] (CPre D dA A u)) (va_Ql (fun r u => r = r0 ∧ u = u9) (CPost D dA A) A) (u9.1 - u.1) (u9.2.1 - u.2.1) A := by
  refine Met.ofW (cc := cX0_area) (maxL := 13) (ret := (Option.some Jvm.ClassFile.FieldType.long)) (by decide) rfl ?_
  intro p e s m args below meth c s₁ B hml hv
  have hx := B.exec
  have hb := B.bytes
  have hr := B.returns
  have hts := atoms_spec (ws := (ws_ yX0_area cX0_area 13 (Option.some Jvm.ClassFile.FieldType.long))) B.pre
  have hts : ∀ w ∈ lw_all, w.before args s = true := fun w h => hts w (List.mem_cons_of_mem _ h)
  have hown : s.vm.findClass RX0 = some m.cls := findClass_of_methodNamed B.named
  have hlocks := B.notSynchronized
  obtain ⟨hav, hv⟩ := hv
  have C : CX p s m args c cX0_area RX0 D dA := ⟨hx, hb, hown, hts, hv.2⟩
  have hw : CW D dA A s u s.heap [] := hv.1
  generalize hQ : MQ below (va_Ql (fun r u => r = r0 ∧ u = u9) (CPost D dA A) A) args s (u9.1 - u.1) (u9.2.1 - u.2.1) A = QQ
  have hent := lg_entry_eq m [.ref x0, .int x1, .int x2, .int x3, .int x4, .int x5] 13
  rw [← hav] at hent
  rw [hent]
  have hl := lv_entry ([.ref x0, .int x1, .int x2, .int x3, .int x4, .int x5]) (n := 13) (Nat.le_of_ble_eq_true rfl)
  generalize (lg_sl ([.ref x0, .int x1, .int x2, .int x3, .int x4, .int x5]) ++ List.replicate (13 - (lg_sl ([.ref x0, .int x1, .int x2, .int x3, .int x4, .int x5])).length) Slot.unset).toArray = ls at hl ⊢
  have hl : lv_has ls 13 [(0, .ref x0), (1, .int x1), (2, .int x2), (3, .int x3), (4, .int x4), (5, .int x5)] := hl
  obtain ⟨cc, ecc⟩ : ∃ z : Nat, z = 0 := ⟨0, rfl⟩
  obtain ⟨ss, ess⟩ : ∃ z : Nat, z = 0 := ⟨0, rfl⟩
  have hcc : cc + u.1 = u.1 := by omega
  have hss : ss + u.2.1 = u.2.1 := by omega
  suffices hgo : W p l e (rm_X0_area (u9.1 - u.1) (u9.2.1 - u.2.1)) s m args below meth c s.heap [] cc ss QQ (F0 m 0 ls []) by rw [ecc, ess] at hgo; exact hgo
  have ⟨pu, qu, _, _⟩ := mo_X0_area hm
  have hB27 : ∀ (h : CH) (cc ss : Nat) (H : Heap) (locs : List Loc) (ls : Array Slot), m_X0_area_27 f h = some (r0, u9) → CW D dA A s h H locs → cc + u.1 = h.1 → ss + u.2.1 = h.2.1 → lv_has ls 13 [] → W p l e (rm_X0_area (u9.1 - u.1) (u9.2.1 - u.2.1)) s m args below meth c H locs cc ss QQ (F0 m 27 ls []) := by
    intro h cc ss H locs ls hm hw hcc hss hl
    have hmo := mo_X0_area_27  h _ hm
    have sb_ : h.1 ≤ u9.1 := hmo.1
    have tb_ : h.2.1 ≤ u9.2.1 := hmo.2.1
    rw [m_X0_area_27] at hm
    refine lv_ldc2 hx hb hown (hts _ q1059) dX0_area_27 ?_
    obtain ⟨er, eh⟩ := retE hm
    have ec : cc = u9.1 - u.1 := by rw [← eh]; omega
    have es : ss = u9.2.1 - u.2.1 := by rw [← eh]; omega
    rw [ec, es, ← hQ]
    exact W.lret (v := (-2 : Int64)) hx hb hr (fun t ht hW => ⟨⟨(-2 : Int64), h, rfl, ⟨er, eh⟩, ⟨by rw [ht]; exact hw.1, by rw [ht]; exact hw.2.1⟩⟩, hw.2.2.1.F ht⟩) hw.2.2.1.2.2 dX0_area_30
  have hB113 : ∀ (h : CH) (x2 : Int32) (x3 : Int32) (x4 : Int32) (x5 : Int32) (x7 : Int64) (y0 : Int64) (y1 : Int64) (cc ss : Nat) (H : Heap) (locs : List Loc) (ls : Array Slot), m_X0_area_113 f h x2 x3 x4 x5 x7 y0 y1 = some (r0, u9) → CW D dA A s h H locs → cc + u.1 = h.1 → ss + u.2.1 = h.2.1 → lv_has ls 13 [(2, .int x2), (3, .int x3), (4, .int x4), (5, .int x5), (7, .long x7)] → W p l e (rm_X0_area (u9.1 - u.1) (u9.2.1 - u.2.1)) s m args below meth c H locs cc ss QQ (F0 m 113 ls [.long y1, .long y0]) := by
    intro h x2 x3 x4 x5 x7 y0 y1 cc ss H locs ls hm hw hcc hss hl
    have hmo := mo_X0_area_113  h x2 x3 x4 x5 x7 y0 y1 _ hm
    have sb_ : h.1 ≤ u9.1 := hmo.1
    have tb_ : h.2.1 ≤ u9.2.1 := hmo.2.1
    rw [m_X0_area_113] at hm
    refine lv_lmul hx hb dX0_area_113 ?_
    refine lv_topl (fun v1 ev1 => ?_)
    have hm := nmK hm ev1
    refine lv_lstore (lv' := [(9, .long v1), (2, .int x2), (3, .int x3), (4, .int x4), (5, .int x5), (7, .long x7)]) hx hb dX0_area_114 hl (by decide) rfl (fun ls hl => ?_)
    refine lv_lload hx hb dX0_area_116 (lv_at hl 5 rfl) ?_
    refine lv_lload hx hb dX0_area_118 (lv_at hl 0 rfl) ?_
    obtain ⟨r2, er2, hm⟩ := bdE hm
    refine scl (va_runS (As := [.long x7, .long v1]) (rest := []) ⟨hx, hb, hml, hown, hts⟩ (w_X0_divisor l er2) (cw_X0_divisor hts q934 ⟨Nat.le_of_ble_eq_true rfl, Nat.le_of_ble_eq_true rfl⟩) (pre_s _) rfl rfl hl.1 rfl (lv_room (Nat.le_of_ble_eq_true rfl)) dX0_area_120 ⟨show cc + 0 ≤ u9.1 - u.1 by omega, show ss + 0 ≤ u9.2.1 - u.2.1 by omega⟩) ?_
    refine lv_lstore (lv' := [(11, .long r2), (9, .long v1), (2, .int x2), (3, .int x3), (4, .int x4), (5, .int x5), (7, .long x7)]) hx hb dX0_area_123 hl (by decide) rfl (fun ls hl => ?_)
    refine lv_lload hx hb dX0_area_125 (lv_at hl 6 rfl) ?_
    refine lv_lload hx hb dX0_area_127 (lv_at hl 0 rfl) ?_
    obtain ⟨g3, hm⟩ := gdE hm
    refine lv_ldiv hx hb dX0_area_129 (nzL_ne g3) ?_
    refine lv_topl (fun v4 ev4 => ?_)
    have hm := nmK hm ev4
    refine lv_lstore (lv' := [(7, .long v4), (11, .long r2), (9, .long v1), (2, .int x2), (3, .int x3), (4, .int x4), (5, .int x5)]) hx hb dX0_area_130 hl (by decide) rfl (fun ls hl => ?_)
    refine lv_lload hx hb dX0_area_132 (lv_at hl 2 rfl) ?_
    refine lv_lload hx hb dX0_area_134 (lv_at hl 1 rfl) ?_
    obtain ⟨g5, hm⟩ := gdE hm
    refine lv_ldiv hx hb dX0_area_136 (nzL_ne g5) ?_
    refine lv_topl (fun v6 ev6 => ?_)
    have hm := nmK hm ev6
    refine lv_lstore (lv' := [(9, .long v6), (7, .long v4), (11, .long r2), (2, .int x2), (3, .int x3), (4, .int x4), (5, .int x5)]) hx hb dX0_area_137 hl (by decide) rfl (fun ls hl => ?_)
    refine lv_lload hx hb dX0_area_139 (lv_at hl 1 rfl) ?_
    refine lv_lload hx hb dX0_area_141 (lv_at hl 1 rfl) ?_
    refine lv_lmul hx hb dX0_area_143 ?_
    refine lv_iload_n hx hb dX0_area_144 rfl (lv_at hl 3 rfl) ?_
    refine lv_iload_n hx hb dX0_area_145 rfl (lv_at hl 3 rfl) ?_
    refine lv_imul hx hb dX0_area_146 ?_
    refine lv_iload_n hx hb dX0_area_147 rfl (lv_at hl 4 rfl) ?_
    refine lv_iload_n hx hb dX0_area_148 rfl (lv_at hl 4 rfl) ?_
    refine lv_imul hx hb dX0_area_149 ?_
    refine lv_iadd hx hb dX0_area_150 ?_
    refine lv_iload hx hb dX0_area_151 (lv_at hl 5 rfl) ?_
    refine lv_iload hx hb dX0_area_153 (lv_at hl 5 rfl) ?_
    refine lv_imul hx hb dX0_area_155 ?_
    refine lv_iadd hx hb dX0_area_156 ?_
    refine lv_i2l hx hb dX0_area_157 rfl ?_
    refine lv_lmul hx hb dX0_area_158 ?_
    refine lv_lload hx hb dX0_area_159 (lv_at hl 0 rfl) ?_
    refine lv_lload hx hb dX0_area_161 (lv_at hl 0 rfl) ?_
    refine lv_lmul hx hb dX0_area_163 ?_
    refine lv_iload hx hb dX0_area_164 (lv_at hl 6 rfl) ?_
    obtain ⟨r7, er7, hm⟩ := bdE hm
    refine scl (va_runS (As := [.long ((v4 * v4) * (Int32.toInt64 (((x2 * x2) + (x3 * x3)) + (x4 * x4)))), .long (v6 * v6), .int x5]) (rest := []) ⟨hx, hb, hml, hown, hts⟩ (w_X0_part l er7) (cw_X0_part hts q1061 ⟨Nat.le_of_ble_eq_true rfl, Nat.le_of_ble_eq_true rfl⟩) (pre_s _) rfl rfl hl.1 rfl (lv_room (Nat.le_of_ble_eq_true rfl)) dX0_area_166 ⟨show cc + 0 ≤ u9.1 - u.1 by omega, show ss + 0 ≤ u9.2.1 - u.2.1 by omega⟩) ?_
    obtain ⟨er, eh⟩ := retE hm
    have ec : cc = u9.1 - u.1 := by rw [← eh]; omega
    have es : ss = u9.2.1 - u.2.1 := by rw [← eh]; omega
    rw [ec, es, ← hQ]
    exact W.lret (v := r7) hx hb hr (fun t ht hW => ⟨⟨r7, h, rfl, ⟨er, eh⟩, ⟨by rw [ht]; exact hw.1, by rw [ht]; exact hw.2.1⟩⟩, hw.2.2.1.F ht⟩) hw.2.2.1.2.2 dX0_area_169
  have hB110 : ∀ (h : CH) (x2 : Int32) (x3 : Int32) (x4 : Int32) (x5 : Int32) (x7 : Int64) (y0 : Int64) (y1 : Nat) (cc ss : Nat) (H : Heap) (locs : List Loc) (ls : Array Slot), m_X0_area_110 f h x2 x3 x4 x5 x7 y0 y1 = some (r0, u9) → CW D dA A s h H locs → cc + u.1 = h.1 → ss + u.2.1 = h.2.1 → lv_has ls 13 [(2, .int x2), (3, .int x3), (4, .int x4), (5, .int x5), (7, .long x7)] → W p l e (rm_X0_area (u9.1 - u.1) (u9.2.1 - u.2.1)) s m args below meth c H locs cc ss QQ (F0 m 110 ls [.ref y1, .long y0]) := by
    intro h x2 x3 x4 x5 x7 y0 y1 cc ss H locs ls hm hw hcc hss hl
    have hmo := mo_X0_area_110  h x2 x3 x4 x5 x7 y0 y1 _ hm
    have sb_ : h.1 ≤ u9.1 := hmo.1
    have tb_ : h.2.1 ≤ u9.2.1 := hmo.2.1
    rw [m_X0_area_110] at hm
    by_cases c1 : isC h y1 6 = true
    · have hm := ifT hm c1
      obtain ⟨r3, h2, er3, hm⟩ := bd2E hm
      have lh2 := mo_X6_over er3
      have ph2 : h.1 ≤ h2.1 := lh2.1
      have qh2 : h.2.1 ≤ h2.2.1 := lh2.2.1
      have hmo := mo_X0_area_113   h2 x2 x3 x4 x5 x7 y0 r3 _ hm
      have sh2 : h2.1 ≤ u9.1 := hmo.1
      have th2 : h2.2.1 ≤ u9.2.1 := hmo.2.1
      refine cg_calll hw lh2 (va_runV (As := []) (rest := [.long y0]) ⟨hx, hb, hml, hown, hts⟩ (w_X6_over l er3) (cw_X6_over hts q945 ⟨Nat.le_of_ble_eq_true rfl, Nat.le_of_ble_eq_true rfl⟩) (cg_preV C hw c1 rfl _) rfl rfl hl.1 rfl (lv_room (Nat.le_of_ble_eq_true rfl)) dX0_area_110 ⟨show cc + (h2.1 - h.1) ≤ u9.1 - u.1 by omega, show ss + (h2.2.1 - h.2.1) ≤ u9.2.1 - u.2.1 by omega⟩) (fun H locs hw => ?_)
      exact hB113 h2 x2 x3 x4 x5 x7 y0 r3 _ _ _ _ _ hm hw (by omega) (by omega) (lv_sub hl [0, 1, 2, 3, 4] rfl)
    · have hm := ifF hm c1
      obtain ⟨g4, hm⟩ := gdE hm
      obtain ⟨r6, h5, er6, hm⟩ := bd2E hm
      have lh5 := mo_X7_over er6
      have ph5 : h.1 ≤ h5.1 := lh5.1
      have qh5 : h.2.1 ≤ h5.2.1 := lh5.2.1
      have hmo := mo_X0_area_113   h5 x2 x3 x4 x5 x7 y0 r6 _ hm
      have sh5 : h5.1 ≤ u9.1 := hmo.1
      have th5 : h5.2.1 ≤ u9.2.1 := hmo.2.1
      refine cg_calll hw lh5 (va_runU (As := []) (rest := [.long y0]) ⟨hx, hb, hml, hown, hts⟩ (w_X7_over l er6) (va_cwO 0 hts (lwO q945 q948 q946 q949 q950 q144 q951) rfl rfl rfl q952 (by decide +kernel) ⟨Nat.le_of_ble_eq_true rfl, Nat.le_of_ble_eq_true rfl⟩) (cg_preV C hw g4 rfl _) rfl rfl hl.1 rfl (lv_room (Nat.le_of_ble_eq_true rfl)) dX0_area_110 ⟨show cc + (h5.1 - h.1) ≤ u9.1 - u.1 by omega, show ss + (h5.2.1 - h.2.1) ≤ u9.2.1 - u.2.1 by omega⟩) (fun H locs hw => ?_)
      exact hB113 h5 x2 x3 x4 x5 x7 y0 r6 _ _ _ _ _ hm hw (by omega) (by omega) (lv_sub hl [0, 1, 2, 3, 4] rfl)
  have hB104 : ∀ (h : CH) (x0 : Nat) (x1 : Int32) (x2 : Int32) (x3 : Int32) (x4 : Int32) (x5 : Int32) (x7 : Int64) (y0 : Int64) (y1 : Int64) (cc ss : Nat) (H : Heap) (locs : List Loc) (ls : Array Slot), m_X0_area_104 f h x0 x1 x2 x3 x4 x5 x7 y0 y1 = some (r0, u9) → CW D dA A s h H locs → cc + u.1 = h.1 → ss + u.2.1 = h.2.1 → lv_has ls 13 [(0, .ref x0), (1, .int x1), (2, .int x2), (3, .int x3), (4, .int x4), (5, .int x5), (7, .long x7)] → W p l e (rm_X0_area (u9.1 - u.1) (u9.2.1 - u.2.1)) s m args below meth c H locs cc ss QQ (F0 m 104 ls [.long y1, .long y0]) := by
    intro h x0 x1 x2 x3 x4 x5 x7 y0 y1 cc ss H locs ls hm hw hcc hss hl
    have hmo := mo_X0_area_104  h x0 x1 x2 x3 x4 x5 x7 y0 y1 _ hm
    have sb_ : h.1 ≤ u9.1 := hmo.1
    have tb_ : h.2.1 ≤ u9.2.1 := hmo.2.1
    rw [m_X0_area_104] at hm
    refine lv_lmul hx hb dX0_area_104 ?_
    refine lv_aload_n hx hb dX0_area_105 rfl (lv_at hl 0 rfl) ?_
    refine lv_iload_n hx hb dX0_area_106 rfl (lv_at hl 1 rfl) ?_
    obtain ⟨g1, hm⟩ := gdE hm
    obtain ⟨a3, h2, ea3, hm⟩ := bd2E hm
    have lh2 := mo_X0_at ea3
    have ph2 : h.1 ≤ h2.1 := lh2.1
    have qh2 : h.2.1 ≤ h2.2.1 := lh2.2.1
    have hmo := mo_X0_area_110   h2 x2 x3 x4 x5 x7 (y0 * y1) a3 _ hm
    have sh2 : h2.1 ≤ u9.1 := hmo.1
    have th2 : h2.2.1 ≤ u9.2.1 := hmo.2.1
    refine cg_callr hw lh2 (va_runV (As := [.int x1]) (rest := [.long (y0 * y1)]) ⟨hx, hb, hml, hown, hts⟩ (w_X0_at l ea3) (cw_X0_at hts q900 ⟨Nat.le_of_ble_eq_true rfl, Nat.le_of_ble_eq_true rfl⟩) (cg_preV C hw g1 rfl _) rfl rfl hl.1 rfl (lv_room (Nat.le_of_ble_eq_true rfl)) dX0_area_107 ⟨show cc + (h2.1 - h.1) ≤ u9.1 - u.1 by omega, show ss + (h2.2.1 - h.2.1) ≤ u9.2.1 - u.2.1 by omega⟩) (fun H locs hw => ?_)
    exact hB110 h2 x2 x3 x4 x5 x7 (y0 * y1) a3 _ _ _ _ _ hm hw (by omega) (by omega) (lv_sub hl [2, 3, 4, 5, 6] rfl)
  have hB101 : ∀ (h : CH) (x0 : Nat) (x1 : Int32) (x2 : Int32) (x3 : Int32) (x4 : Int32) (x5 : Int32) (x7 : Int64) (y0 : Int64) (y1 : Nat) (cc ss : Nat) (H : Heap) (locs : List Loc) (ls : Array Slot), m_X0_area_101 f h x0 x1 x2 x3 x4 x5 x7 y0 y1 = some (r0, u9) → CW D dA A s h H locs → cc + u.1 = h.1 → ss + u.2.1 = h.2.1 → lv_has ls 13 [(0, .ref x0), (1, .int x1), (2, .int x2), (3, .int x3), (4, .int x4), (5, .int x5), (7, .long x7)] → W p l e (rm_X0_area (u9.1 - u.1) (u9.2.1 - u.2.1)) s m args below meth c H locs cc ss QQ (F0 m 101 ls [.ref y1, .long y0]) := by
    intro h x0 x1 x2 x3 x4 x5 x7 y0 y1 cc ss H locs ls hm hw hcc hss hl
    have hmo := mo_X0_area_101  h x0 x1 x2 x3 x4 x5 x7 y0 y1 _ hm
    have sb_ : h.1 ≤ u9.1 := hmo.1
    have tb_ : h.2.1 ≤ u9.2.1 := hmo.2.1
    rw [m_X0_area_101] at hm
    by_cases c1 : isC h y1 6 = true
    · have hm := ifT hm c1
      obtain ⟨r3, h2, er3, hm⟩ := bd2E hm
      have lh2 := mo_X6_over er3
      have ph2 : h.1 ≤ h2.1 := lh2.1
      have qh2 : h.2.1 ≤ h2.2.1 := lh2.2.1
      have hmo := mo_X0_area_104   h2 x0 x1 x2 x3 x4 x5 x7 y0 r3 _ hm
      have sh2 : h2.1 ≤ u9.1 := hmo.1
      have th2 : h2.2.1 ≤ u9.2.1 := hmo.2.1
      refine cg_calll hw lh2 (va_runV (As := []) (rest := [.long y0]) ⟨hx, hb, hml, hown, hts⟩ (w_X6_over l er3) (cw_X6_over hts q945 ⟨Nat.le_of_ble_eq_true rfl, Nat.le_of_ble_eq_true rfl⟩) (cg_preV C hw c1 rfl _) rfl rfl hl.1 rfl (lv_room (Nat.le_of_ble_eq_true rfl)) dX0_area_101 ⟨show cc + (h2.1 - h.1) ≤ u9.1 - u.1 by omega, show ss + (h2.2.1 - h.2.1) ≤ u9.2.1 - u.2.1 by omega⟩) (fun H locs hw => ?_)
      exact hB104 h2 x0 x1 x2 x3 x4 x5 x7 y0 r3 _ _ _ _ _ hm hw (by omega) (by omega) (lv_sub hl [0, 1, 2, 3, 4, 5, 6] rfl)
    · have hm := ifF hm c1
      obtain ⟨g4, hm⟩ := gdE hm
      obtain ⟨r6, h5, er6, hm⟩ := bd2E hm
      have lh5 := mo_X7_over er6
      have ph5 : h.1 ≤ h5.1 := lh5.1
      have qh5 : h.2.1 ≤ h5.2.1 := lh5.2.1
      have hmo := mo_X0_area_104   h5 x0 x1 x2 x3 x4 x5 x7 y0 r6 _ hm
      have sh5 : h5.1 ≤ u9.1 := hmo.1
      have th5 : h5.2.1 ≤ u9.2.1 := hmo.2.1
      refine cg_calll hw lh5 (va_runU (As := []) (rest := [.long y0]) ⟨hx, hb, hml, hown, hts⟩ (w_X7_over l er6) (va_cwO 0 hts (lwO q945 q948 q946 q949 q950 q144 q951) rfl rfl rfl q952 (by decide +kernel) ⟨Nat.le_of_ble_eq_true rfl, Nat.le_of_ble_eq_true rfl⟩) (cg_preV C hw g4 rfl _) rfl rfl hl.1 rfl (lv_room (Nat.le_of_ble_eq_true rfl)) dX0_area_101 ⟨show cc + (h5.1 - h.1) ≤ u9.1 - u.1 by omega, show ss + (h5.2.1 - h.2.1) ≤ u9.2.1 - u.2.1 by omega⟩) (fun H locs hw => ?_)
      exact hB104 h5 x0 x1 x2 x3 x4 x5 x7 y0 r6 _ _ _ _ _ hm hw (by omega) (by omega) (lv_sub hl [0, 1, 2, 3, 4, 5, 6] rfl)
  have hB92 : ∀ (h : CH) (x0 : Nat) (x1 : Int32) (x2 : Int32) (x3 : Int32) (x4 : Int32) (x5 : Int32) (x7 : Int64) (y0 : Int64) (y1 : Int64) (y2 : Int64) (cc ss : Nat) (H : Heap) (locs : List Loc) (ls : Array Slot), m_X0_area_92 f h x0 x1 x2 x3 x4 x5 x7 y0 y1 y2 = some (r0, u9) → CW D dA A s h H locs → cc + u.1 = h.1 → ss + u.2.1 = h.2.1 → lv_has ls 13 [(0, .ref x0), (1, .int x1), (2, .int x2), (3, .int x3), (4, .int x4), (5, .int x5), (7, .long x7)] → W p l e (rm_X0_area (u9.1 - u.1) (u9.2.1 - u.2.1)) s m args below meth c H locs cc ss QQ (F0 m 92 ls [.long y2, .long y1, .long y0]) := by
    intro h x0 x1 x2 x3 x4 x5 x7 y0 y1 y2 cc ss H locs ls hm hw hcc hss hl
    have hmo := mo_X0_area_92  h x0 x1 x2 x3 x4 x5 x7 y0 y1 y2 _ hm
    have sb_ : h.1 ≤ u9.1 := hmo.1
    have tb_ : h.2.1 ≤ u9.2.1 := hmo.2.1
    rw [m_X0_area_92] at hm
    obtain ⟨r1, er1, hm⟩ := bdE hm
    refine scl (va_runS (As := [.long y1, .long y2]) (rest := [.long y0]) ⟨hx, hb, hml, hown, hts⟩ (w_X0_divisor l er1) (cw_X0_divisor hts q934 ⟨Nat.le_of_ble_eq_true rfl, Nat.le_of_ble_eq_true rfl⟩) (pre_s _) rfl rfl hl.1 rfl (lv_room (Nat.le_of_ble_eq_true rfl)) dX0_area_92 ⟨show cc + 0 ≤ u9.1 - u.1 by omega, show ss + 0 ≤ u9.2.1 - u.2.1 by omega⟩) ?_
    obtain ⟨g2, hm⟩ := gdE hm
    refine lv_ldiv hx hb dX0_area_95 (nzL_ne g2) ?_
    refine lv_aload_n hx hb dX0_area_96 rfl (lv_at hl 0 rfl) ?_
    refine lv_iload_n hx hb dX0_area_97 rfl (lv_at hl 1 rfl) ?_
    obtain ⟨g3, hm⟩ := gdE hm
    obtain ⟨a5, h4, ea5, hm⟩ := bd2E hm
    have lh4 := mo_X0_at ea5
    have ph4 : h.1 ≤ h4.1 := lh4.1
    have qh4 : h.2.1 ≤ h4.2.1 := lh4.2.1
    have hmo := mo_X0_area_101   h4 x0 x1 x2 x3 x4 x5 x7 (y0 / r1) a5 _ hm
    have sh4 : h4.1 ≤ u9.1 := hmo.1
    have th4 : h4.2.1 ≤ u9.2.1 := hmo.2.1
    refine cg_callr hw lh4 (va_runV (As := [.int x1]) (rest := [.long (y0 / r1)]) ⟨hx, hb, hml, hown, hts⟩ (w_X0_at l ea5) (cw_X0_at hts q900 ⟨Nat.le_of_ble_eq_true rfl, Nat.le_of_ble_eq_true rfl⟩) (cg_preV C hw g3 rfl _) rfl rfl hl.1 rfl (lv_room (Nat.le_of_ble_eq_true rfl)) dX0_area_98 ⟨show cc + (h4.1 - h.1) ≤ u9.1 - u.1 by omega, show ss + (h4.2.1 - h.2.1) ≤ u9.2.1 - u.2.1 by omega⟩) (fun H locs hw => ?_)
    exact hB101 h4 x0 x1 x2 x3 x4 x5 x7 (y0 / r1) a5 _ _ _ _ _ hm hw (by omega) (by omega) (lv_sub hl [0, 1, 2, 3, 4, 5, 6] rfl)
  have hB83 : ∀ (h : CH) (x0 : Nat) (x1 : Int32) (x2 : Int32) (x3 : Int32) (x4 : Int32) (x5 : Int32) (x6 : Nat) (x7 : Int64) (y0 : Int64) (y1 : Int64) (cc ss : Nat) (H : Heap) (locs : List Loc) (ls : Array Slot), m_X0_area_83 f h x0 x1 x2 x3 x4 x5 x6 x7 y0 y1 = some (r0, u9) → CW D dA A s h H locs → cc + u.1 = h.1 → ss + u.2.1 = h.2.1 → lv_has ls 13 [(0, .ref x0), (1, .int x1), (2, .int x2), (3, .int x3), (4, .int x4), (5, .int x5), (6, .ref x6), (7, .long x7)] → W p l e (rm_X0_area (u9.1 - u.1) (u9.2.1 - u.2.1)) s m args below meth c H locs cc ss QQ (F0 m 83 ls [.long y1, .long y0]) := by
    intro h x0 x1 x2 x3 x4 x5 x6 x7 y0 y1 cc ss H locs ls hm hw hcc hss hl
    have hmo := mo_X0_area_83  h x0 x1 x2 x3 x4 x5 x6 x7 y0 y1 _ hm
    have sb_ : h.1 ≤ u9.1 := hmo.1
    have tb_ : h.2.1 ≤ u9.2.1 := hmo.2.1
    rw [m_X0_area_83] at hm
    refine lv_aload hx hb dX0_area_83 (lv_at hl 6 rfl) ?_
    refine lv_aload_n hx hb dX0_area_85 rfl (lv_at hl 0 rfl) ?_
    obtain ⟨a1, ea1, hm⟩ := bdE hm
    refine cg_get C hw (oR_E ea1) rfl in_X0 (by decide) q245 dX0_area_86 ?_
    obtain ⟨g2, hm⟩ := gdE hm
    obtain ⟨r4, h3, er4, hm⟩ := bd2E hm
    have lh3 := mo_X2_across er4
    have ph3 : h.1 ≤ h3.1 := lh3.1
    have qh3 : h.2.1 ≤ h3.2.1 := lh3.2.1
    have hmo := mo_X0_area_92   h3 x0 x1 x2 x3 x4 x5 x7 y0 y1 r4 _ hm
    have sh3 : h3.1 ≤ u9.1 := hmo.1
    have th3 : h3.2.1 ≤ u9.2.1 := hmo.2.1
    refine cg_calll hw lh3 (va_runV (As := [.ref a1]) (rest := [.long y1, .long y0]) ⟨hx, hb, hml, hown, hts⟩ (w_X2_across l er4) (cw_X2_across hts q1295 ⟨Nat.le_of_ble_eq_true rfl, Nat.le_of_ble_eq_true rfl⟩) (cg_preV C hw g2 rfl _) rfl rfl hl.1 rfl (lv_room (Nat.le_of_ble_eq_true rfl)) dX0_area_89 ⟨show cc + (h3.1 - h.1) ≤ u9.1 - u.1 by omega, show ss + (h3.2.1 - h.2.1) ≤ u9.2.1 - u.2.1 by omega⟩) (fun H locs hw => ?_)
    exact hB92 h3 x0 x1 x2 x3 x4 x5 x7 y0 y1 r4 _ _ _ _ _ hm hw (by omega) (by omega) (lv_sub hl [0, 1, 2, 3, 4, 5, 7] rfl)
  have hB78 : ∀ (h : CH) (x0 : Nat) (x1 : Int32) (x2 : Int32) (x3 : Int32) (x4 : Int32) (x5 : Int32) (x6 : Nat) (x7 : Int64) (y0 : Int64) (cc ss : Nat) (H : Heap) (locs : List Loc) (ls : Array Slot), m_X0_area_78 f h x0 x1 x2 x3 x4 x5 x6 x7 y0 = some (r0, u9) → CW D dA A s h H locs → cc + u.1 = h.1 → ss + u.2.1 = h.2.1 → lv_has ls 13 [(0, .ref x0), (1, .int x1), (2, .int x2), (3, .int x3), (4, .int x4), (5, .int x5), (6, .ref x6), (7, .long x7)] → W p l e (rm_X0_area (u9.1 - u.1) (u9.2.1 - u.2.1)) s m args below meth c H locs cc ss QQ (F0 m 78 ls [.long y0]) := by
    intro h x0 x1 x2 x3 x4 x5 x6 x7 y0 cc ss H locs ls hm hw hcc hss hl
    have hmo := mo_X0_area_78  h x0 x1 x2 x3 x4 x5 x6 x7 y0 _ hm
    have sb_ : h.1 ≤ u9.1 := hmo.1
    have tb_ : h.2.1 ≤ u9.2.1 := hmo.2.1
    rw [m_X0_area_78] at hm
    refine lv_aload hx hb dX0_area_78 (lv_at hl 6 rfl) ?_
    obtain ⟨g1, hm⟩ := gdE hm
    obtain ⟨r3, h2, er3, hm⟩ := bd2E hm
    have lh2 := mo_X2_determinant er3
    have ph2 : h.1 ≤ h2.1 := lh2.1
    have qh2 : h.2.1 ≤ h2.2.1 := lh2.2.1
    have hmo := mo_X0_area_83   h2 x0 x1 x2 x3 x4 x5 x6 x7 y0 r3 _ hm
    have sh2 : h2.1 ≤ u9.1 := hmo.1
    have th2 : h2.2.1 ≤ u9.2.1 := hmo.2.1
    refine cg_calll hw lh2 (va_runV (As := []) (rest := [.long y0]) ⟨hx, hb, hml, hown, hts⟩ (w_X2_determinant l er3) (cw_X2_determinant hts q1060 ⟨Nat.le_of_ble_eq_true rfl, Nat.le_of_ble_eq_true rfl⟩) (cg_preV C hw g1 rfl _) rfl rfl hl.1 rfl (lv_room (Nat.le_of_ble_eq_true rfl)) dX0_area_80 ⟨show cc + (h2.1 - h.1) ≤ u9.1 - u.1 by omega, show ss + (h2.2.1 - h.2.1) ≤ u9.2.1 - u.2.1 by omega⟩) (fun H locs hw => ?_)
    exact hB83 h2 x0 x1 x2 x3 x4 x5 x6 x7 y0 r3 _ _ _ _ _ hm hw (by omega) (by omega) (lv_sub hl [0, 1, 2, 3, 4, 5, 6, 7] rfl)
  have hB63 : ∀ (h : CH) (x0 : Nat) (x1 : Int32) (x2 : Int32) (x3 : Int32) (x4 : Int32) (x5 : Int32) (x6 : Nat) (y0 : Int64) (y1 : Int64) (y2 : Int64) (cc ss : Nat) (H : Heap) (locs : List Loc) (ls : Array Slot), m_X0_area_63 f h x0 x1 x2 x3 x4 x5 x6 y0 y1 y2 = some (r0, u9) → CW D dA A s h H locs → cc + u.1 = h.1 → ss + u.2.1 = h.2.1 → lv_has ls 13 [(0, .ref x0), (1, .int x1), (2, .int x2), (3, .int x3), (4, .int x4), (5, .int x5), (6, .ref x6)] → W p l e (rm_X0_area (u9.1 - u.1) (u9.2.1 - u.2.1)) s m args below meth c H locs cc ss QQ (F0 m 63 ls [.long y2, .long y1, .long y0]) := by
    intro h x0 x1 x2 x3 x4 x5 x6 y0 y1 y2 cc ss H locs ls hm hw hcc hss hl
    have hmo := mo_X0_area_63  h x0 x1 x2 x3 x4 x5 x6 y0 y1 y2 _ hm
    have sb_ : h.1 ≤ u9.1 := hmo.1
    have tb_ : h.2.1 ≤ u9.2.1 := hmo.2.1
    rw [m_X0_area_63] at hm
    obtain ⟨r1, er1, hm⟩ := bdE hm
    refine scl (va_runS (As := [.long y1, .long y2]) (rest := [.long y0]) ⟨hx, hb, hml, hown, hts⟩ (w_X0_divisor l er1) (cw_X0_divisor hts q934 ⟨Nat.le_of_ble_eq_true rfl, Nat.le_of_ble_eq_true rfl⟩) (pre_s _) rfl rfl hl.1 rfl (lv_room (Nat.le_of_ble_eq_true rfl)) dX0_area_63 ⟨show cc + 0 ≤ u9.1 - u.1 by omega, show ss + 0 ≤ u9.2.1 - u.2.1 by omega⟩) ?_
    obtain ⟨g2, hm⟩ := gdE hm
    refine lv_ldiv hx hb dX0_area_66 (nzL_ne g2) ?_
    refine lv_topl (fun v3 ev3 => ?_)
    have hm := nmK hm ev3
    refine lv_lstore (lv' := [(7, .long v3), (0, .ref x0), (1, .int x1), (2, .int x2), (3, .int x3), (4, .int x4), (5, .int x5), (6, .ref x6)]) hx hb dX0_area_67 hl (by decide) rfl (fun ls hl => ?_)
    refine lv_aload hx hb dX0_area_69 (lv_at hl 7 rfl) ?_
    refine lv_aload_n hx hb dX0_area_71 rfl (lv_at hl 1 rfl) ?_
    obtain ⟨a4, ea4, hm⟩ := bdE hm
    refine cg_get C hw (oR_E ea4) rfl in_X0 (by decide) q245 dX0_area_72 ?_
    obtain ⟨g5, hm⟩ := gdE hm
    obtain ⟨r7, h6, er7, hm⟩ := bd2E hm
    have lh6 := mo_X2_across er7
    have ph6 : h.1 ≤ h6.1 := lh6.1
    have qh6 : h.2.1 ≤ h6.2.1 := lh6.2.1
    have hmo := mo_X0_area_78   h6 x0 x1 x2 x3 x4 x5 x6 v3 r7 _ hm
    have sh6 : h6.1 ≤ u9.1 := hmo.1
    have th6 : h6.2.1 ≤ u9.2.1 := hmo.2.1
    refine cg_calll hw lh6 (va_runV (As := [.ref a4]) (rest := []) ⟨hx, hb, hml, hown, hts⟩ (w_X2_across l er7) (cw_X2_across hts q1295 ⟨Nat.le_of_ble_eq_true rfl, Nat.le_of_ble_eq_true rfl⟩) (cg_preV C hw g5 rfl _) rfl rfl hl.1 rfl (lv_room (Nat.le_of_ble_eq_true rfl)) dX0_area_75 ⟨show cc + (h6.1 - h.1) ≤ u9.1 - u.1 by omega, show ss + (h6.2.1 - h.2.1) ≤ u9.2.1 - u.2.1 by omega⟩) (fun H locs hw => ?_)
    exact hB78 h6 x0 x1 x2 x3 x4 x5 x6 v3 r7 _ _ _ _ _ hm hw (by omega) (by omega) (lv_sub hl [1, 2, 3, 4, 5, 6, 7, 0] rfl)
  have hB54 : ∀ (h : CH) (x0 : Nat) (x1 : Int32) (x2 : Int32) (x3 : Int32) (x4 : Int32) (x5 : Int32) (x6 : Nat) (y0 : Int64) (y1 : Int64) (cc ss : Nat) (H : Heap) (locs : List Loc) (ls : Array Slot), m_X0_area_54 f h x0 x1 x2 x3 x4 x5 x6 y0 y1 = some (r0, u9) → CW D dA A s h H locs → cc + u.1 = h.1 → ss + u.2.1 = h.2.1 → lv_has ls 13 [(0, .ref x0), (1, .int x1), (2, .int x2), (3, .int x3), (4, .int x4), (5, .int x5), (6, .ref x6)] → W p l e (rm_X0_area (u9.1 - u.1) (u9.2.1 - u.2.1)) s m args below meth c H locs cc ss QQ (F0 m 54 ls [.long y1, .long y0]) := by
    intro h x0 x1 x2 x3 x4 x5 x6 y0 y1 cc ss H locs ls hm hw hcc hss hl
    have hmo := mo_X0_area_54  h x0 x1 x2 x3 x4 x5 x6 y0 y1 _ hm
    have sb_ : h.1 ≤ u9.1 := hmo.1
    have tb_ : h.2.1 ≤ u9.2.1 := hmo.2.1
    rw [m_X0_area_54] at hm
    refine lv_aload hx hb dX0_area_54 (lv_at hl 6 rfl) ?_
    refine lv_aload_n hx hb dX0_area_56 rfl (lv_at hl 0 rfl) ?_
    obtain ⟨a1, ea1, hm⟩ := bdE hm
    refine cg_get C hw (oR_E ea1) rfl in_X0 (by decide) q245 dX0_area_57 ?_
    obtain ⟨g2, hm⟩ := gdE hm
    obtain ⟨r4, h3, er4, hm⟩ := bd2E hm
    have lh3 := mo_X2_across er4
    have ph3 : h.1 ≤ h3.1 := lh3.1
    have qh3 : h.2.1 ≤ h3.2.1 := lh3.2.1
    have hmo := mo_X0_area_63   h3 x0 x1 x2 x3 x4 x5 x6 y0 y1 r4 _ hm
    have sh3 : h3.1 ≤ u9.1 := hmo.1
    have th3 : h3.2.1 ≤ u9.2.1 := hmo.2.1
    refine cg_calll hw lh3 (va_runV (As := [.ref a1]) (rest := [.long y1, .long y0]) ⟨hx, hb, hml, hown, hts⟩ (w_X2_across l er4) (cw_X2_across hts q1295 ⟨Nat.le_of_ble_eq_true rfl, Nat.le_of_ble_eq_true rfl⟩) (cg_preV C hw g2 rfl _) rfl rfl hl.1 rfl (lv_room (Nat.le_of_ble_eq_true rfl)) dX0_area_60 ⟨show cc + (h3.1 - h.1) ≤ u9.1 - u.1 by omega, show ss + (h3.2.1 - h.2.1) ≤ u9.2.1 - u.2.1 by omega⟩) (fun H locs hw => ?_)
    exact hB63 h3 x0 x1 x2 x3 x4 x5 x6 y0 y1 r4 _ _ _ _ _ hm hw (by omega) (by omega) (lv_sub hl [0, 1, 2, 3, 4, 5, 6] rfl)
  have hB46 : ∀ (h : CH) (x0 : Nat) (x1 : Int32) (x2 : Int32) (x3 : Int32) (x4 : Int32) (x5 : Int32) (x6 : Nat) (y0 : Int64) (cc ss : Nat) (H : Heap) (locs : List Loc) (ls : Array Slot), m_X0_area_46 f h x0 x1 x2 x3 x4 x5 x6 y0 = some (r0, u9) → CW D dA A s h H locs → cc + u.1 = h.1 → ss + u.2.1 = h.2.1 → lv_has ls 13 [(0, .ref x0), (1, .int x1), (2, .int x2), (3, .int x3), (4, .int x4), (5, .int x5), (6, .ref x6)] → W p l e (rm_X0_area (u9.1 - u.1) (u9.2.1 - u.2.1)) s m args below meth c H locs cc ss QQ (F0 m 46 ls [.long y0]) := by
    intro h x0 x1 x2 x3 x4 x5 x6 y0 cc ss H locs ls hm hw hcc hss hl
    have hmo := mo_X0_area_46  h x0 x1 x2 x3 x4 x5 x6 y0 _ hm
    have sb_ : h.1 ≤ u9.1 := hmo.1
    have tb_ : h.2.1 ≤ u9.2.1 := hmo.2.1
    rw [m_X0_area_46] at hm
    obtain ⟨r1, er1, hm⟩ := bdE hm
    refine scl (va_runS (As := [.long y0]) (rest := []) ⟨hx, hb, hml, hown, hts⟩ (w_J9_abs l er1) (cw_J9_abs hts q933 ⟨Nat.le_of_ble_eq_true rfl, Nat.le_of_ble_eq_true rfl⟩) (pre_s _) rfl rfl hl.1 rfl (lv_room (Nat.le_of_ble_eq_true rfl)) dX0_area_46 ⟨show cc + 0 ≤ u9.1 - u.1 by omega, show ss + 0 ≤ u9.2.1 - u.2.1 by omega⟩) ?_
    refine lv_aload hx hb dX0_area_49 (lv_at hl 6 rfl) ?_
    obtain ⟨g2, hm⟩ := gdE hm
    obtain ⟨r4, h3, er4, hm⟩ := bd2E hm
    have lh3 := mo_X2_determinant er4
    have ph3 : h.1 ≤ h3.1 := lh3.1
    have qh3 : h.2.1 ≤ h3.2.1 := lh3.2.1
    have hmo := mo_X0_area_54   h3 x0 x1 x2 x3 x4 x5 x6 r1 r4 _ hm
    have sh3 : h3.1 ≤ u9.1 := hmo.1
    have th3 : h3.2.1 ≤ u9.2.1 := hmo.2.1
    refine cg_calll hw lh3 (va_runV (As := []) (rest := [.long r1]) ⟨hx, hb, hml, hown, hts⟩ (w_X2_determinant l er4) (cw_X2_determinant hts q1060 ⟨Nat.le_of_ble_eq_true rfl, Nat.le_of_ble_eq_true rfl⟩) (cg_preV C hw g2 rfl _) rfl rfl hl.1 rfl (lv_room (Nat.le_of_ble_eq_true rfl)) dX0_area_51 ⟨show cc + (h3.1 - h.1) ≤ u9.1 - u.1 by omega, show ss + (h3.2.1 - h.2.1) ≤ u9.2.1 - u.2.1 by omega⟩) (fun H locs hw => ?_)
    exact hB54 h3 x0 x1 x2 x3 x4 x5 x6 r1 r4 _ _ _ _ _ hm hw (by omega) (by omega) (lv_sub hl [0, 1, 2, 3, 4, 5, 6] rfl)
  have hB39 : ∀ (h : CH) (x0 : Nat) (x1 : Int32) (x2 : Int32) (x3 : Int32) (x4 : Int32) (x5 : Int32) (y0 : Nat) (cc ss : Nat) (H : Heap) (locs : List Loc) (ls : Array Slot), m_X0_area_39 f h x0 x1 x2 x3 x4 x5 y0 = some (r0, u9) → CW D dA A s h H locs → cc + u.1 = h.1 → ss + u.2.1 = h.2.1 → lv_has ls 13 [(0, .ref x0), (1, .int x1), (2, .int x2), (3, .int x3), (4, .int x4), (5, .int x5)] → W p l e (rm_X0_area (u9.1 - u.1) (u9.2.1 - u.2.1)) s m args below meth c H locs cc ss QQ (F0 m 39 ls [.ref y0]) := by
    intro h x0 x1 x2 x3 x4 x5 y0 cc ss H locs ls hm hw hcc hss hl
    have hmo := mo_X0_area_39  h x0 x1 x2 x3 x4 x5 y0 _ hm
    have sb_ : h.1 ≤ u9.1 := hmo.1
    have tb_ : h.2.1 ≤ u9.2.1 := hmo.2.1
    rw [m_X0_area_39] at hm
    refine lv_astore (lv' := [(6, .ref y0), (0, .ref x0), (1, .int x1), (2, .int x2), (3, .int x3), (4, .int x4), (5, .int x5)]) hx hb dX0_area_39 hl (by decide) rfl (fun ls hl => ?_)
    refine lv_aload hx hb dX0_area_41 (lv_at hl 0 rfl) ?_
    obtain ⟨g1, hm⟩ := gdE hm
    obtain ⟨r3, h2, er3, hm⟩ := bd2E hm
    have lh2 := mo_X2_determinant er3
    have ph2 : h.1 ≤ h2.1 := lh2.1
    have qh2 : h.2.1 ≤ h2.2.1 := lh2.2.1
    have hmo := mo_X0_area_46   h2 x0 x1 x2 x3 x4 x5 y0 r3 _ hm
    have sh2 : h2.1 ≤ u9.1 := hmo.1
    have th2 : h2.2.1 ≤ u9.2.1 := hmo.2.1
    refine cg_calll hw lh2 (va_runV (As := []) (rest := []) ⟨hx, hb, hml, hown, hts⟩ (w_X2_determinant l er3) (cw_X2_determinant hts q1060 ⟨Nat.le_of_ble_eq_true rfl, Nat.le_of_ble_eq_true rfl⟩) (cg_preV C hw g1 rfl _) rfl rfl hl.1 rfl (lv_room (Nat.le_of_ble_eq_true rfl)) dX0_area_43 ⟨show cc + (h2.1 - h.1) ≤ u9.1 - u.1 by omega, show ss + (h2.2.1 - h.2.1) ≤ u9.2.1 - u.2.1 by omega⟩) (fun H locs hw => ?_)
    exact hB46 h2 x0 x1 x2 x3 x4 x5 y0 r3 _ _ _ _ _ hm hw (by omega) (by omega) (lv_sub hl [1, 2, 3, 4, 5, 6, 0] rfl)
  have hB36 : ∀ (h : CH) (x0 : Nat) (x1 : Int32) (x2 : Int32) (x3 : Int32) (x4 : Int32) (x5 : Int32) (y0 : Nat) (cc ss : Nat) (H : Heap) (locs : List Loc) (ls : Array Slot), m_X0_area_36 f h x0 x1 x2 x3 x4 x5 y0 = some (r0, u9) → CW D dA A s h H locs → cc + u.1 = h.1 → ss + u.2.1 = h.2.1 → lv_has ls 13 [(0, .ref x0), (1, .int x1), (2, .int x2), (3, .int x3), (4, .int x4), (5, .int x5)] → W p l e (rm_X0_area (u9.1 - u.1) (u9.2.1 - u.2.1)) s m args below meth c H locs cc ss QQ (F0 m 36 ls [.ref y0]) := by
    intro h x0 x1 x2 x3 x4 x5 y0 cc ss H locs ls hm hw hcc hss hl
    have hmo := mo_X0_area_36  h x0 x1 x2 x3 x4 x5 y0 _ hm
    have sb_ : h.1 ≤ u9.1 := hmo.1
    have tb_ : h.2.1 ≤ u9.2.1 := hmo.2.1
    rw [m_X0_area_36] at hm
    by_cases c1 : isC h y0 6 = true
    · have hm := ifT hm c1
      obtain ⟨a3, h2, ea3, hm⟩ := bd2E hm
      have lh2 := mo_X6_rows ea3
      have ph2 : h.1 ≤ h2.1 := lh2.1
      have qh2 : h.2.1 ≤ h2.2.1 := lh2.2.1
      have hmo := mo_X0_area_39   h2 x0 x1 x2 x3 x4 x5 a3 _ hm
      have sh2 : h2.1 ≤ u9.1 := hmo.1
      have th2 : h2.2.1 ≤ u9.2.1 := hmo.2.1
      refine cg_callr hw lh2 (va_runV (As := []) (rest := []) ⟨hx, hb, hml, hown, hts⟩ (w_X6_rows l ea3) (cw_X6_rows hts q904 ⟨Nat.le_of_ble_eq_true rfl, Nat.le_of_ble_eq_true rfl⟩) (cg_preV C hw c1 rfl _) rfl rfl hl.1 rfl (lv_room (Nat.le_of_ble_eq_true rfl)) dX0_area_36 ⟨show cc + (h2.1 - h.1) ≤ u9.1 - u.1 by omega, show ss + (h2.2.1 - h.2.1) ≤ u9.2.1 - u.2.1 by omega⟩) (fun H locs hw => ?_)
      exact hB39 h2 x0 x1 x2 x3 x4 x5 a3 _ _ _ _ _ hm hw (by omega) (by omega) (lv_sub hl [0, 1, 2, 3, 4, 5] rfl)
    · have hm := ifF hm c1
      obtain ⟨g4, hm⟩ := gdE hm
      obtain ⟨a6, h5, ea6, hm⟩ := bd2E hm
      have lh5 := mo_X7_rows ea6
      have ph5 : h.1 ≤ h5.1 := lh5.1
      have qh5 : h.2.1 ≤ h5.2.1 := lh5.2.1
      have hmo := mo_X0_area_39   h5 x0 x1 x2 x3 x4 x5 a6 _ hm
      have sh5 : h5.1 ≤ u9.1 := hmo.1
      have th5 : h5.2.1 ≤ u9.2.1 := hmo.2.1
      refine cg_callr hw lh5 (va_runU (As := []) (rest := []) ⟨hx, hb, hml, hown, hts⟩ (w_X7_rows l ea6) (va_cwO 0 hts (lwO q904 q907 q905 q908 q909 q144 q910) rfl rfl rfl q940 (by decide +kernel) ⟨Nat.le_of_ble_eq_true rfl, Nat.le_of_ble_eq_true rfl⟩) (cg_preV C hw g4 rfl _) rfl rfl hl.1 rfl (lv_room (Nat.le_of_ble_eq_true rfl)) dX0_area_36 ⟨show cc + (h5.1 - h.1) ≤ u9.1 - u.1 by omega, show ss + (h5.2.1 - h.2.1) ≤ u9.2.1 - u.2.1 by omega⟩) (fun H locs hw => ?_)
      exact hB39 h5 x0 x1 x2 x3 x4 x5 a6 _ _ _ _ _ hm hw (by omega) (by omega) (lv_sub hl [0, 1, 2, 3, 4, 5] rfl)
  have hB16 : ∀ (h : CH) (x0 : Nat) (x1 : Int32) (x2 : Int32) (x3 : Int32) (x4 : Int32) (x5 : Int32) (y0 : Int32) (cc ss : Nat) (H : Heap) (locs : List Loc) (ls : Array Slot), m_X0_area_16 f h x0 x1 x2 x3 x4 x5 y0 = some (r0, u9) → CW D dA A s h H locs → cc + u.1 = h.1 → ss + u.2.1 = h.2.1 → lv_has ls 13 [(0, .ref x0), (1, .int x1), (2, .int x2), (3, .int x3), (4, .int x4), (5, .int x5)] → W p l e (rm_X0_area (u9.1 - u.1) (u9.2.1 - u.2.1)) s m args below meth c H locs cc ss QQ (F0 m 16 ls [.int y0]) := by
    intro h x0 x1 x2 x3 x4 x5 y0 cc ss H locs ls hm hw hcc hss hl
    have hmo := mo_X0_area_16  h x0 x1 x2 x3 x4 x5 y0 _ hm
    have sb_ : h.1 ≤ u9.1 := hmo.1
    have tb_ : h.2.1 ≤ u9.2.1 := hmo.2.1
    rw [m_X0_area_16] at hm
    refine lv_if_eq (tgt := 27) hx hb dX0_area_16 (by decide) (fun c1 => ?_) (fun c1 => ?_)
    · have hm := ifT hm c1
      exact hB27 h _ _ _ _ _ hm hw (by omega) (by omega) (lv_sub hl [] rfl)
    · have hm := ifF hm c1
      refine lv_iload hx hb dX0_area_19 (lv_at hl 5 rfl) ?_
      obtain ⟨r2, er2, hm⟩ := bdE hm
      refine sci (va_runS (As := [.int x5]) (rest := []) ⟨hx, hb, hml, hown, hts⟩ (w_X0_isPart l er2) (cw_X0_isPart hts q1056 ⟨Nat.le_of_ble_eq_true rfl, Nat.le_of_ble_eq_true rfl⟩) (pre_s _) rfl rfl hl.1 rfl (lv_room (Nat.le_of_ble_eq_true rfl)) dX0_area_21 ⟨show cc + 0 ≤ u9.1 - u.1 by omega, show ss + 0 ≤ u9.2.1 - u.2.1 by omega⟩) ?_
      refine lv_if_ne (tgt := 31) hx hb dX0_area_24 (by decide) (fun c3 => ?_) (fun c3 => ?_)
      · have hm := ifT hm c3
        refine lv_aload_n hx hb dX0_area_31 rfl (lv_at hl 0 rfl) ?_
        refine lv_iload_n hx hb dX0_area_32 rfl (lv_at hl 1 rfl) ?_
        obtain ⟨g4, hm⟩ := gdE hm
        obtain ⟨a6, h5, ea6, hm⟩ := bd2E hm
        have lh5 := mo_X0_at ea6
        have ph5 : h.1 ≤ h5.1 := lh5.1
        have qh5 : h.2.1 ≤ h5.2.1 := lh5.2.1
        have hmo := mo_X0_area_36   h5 x0 x1 x2 x3 x4 x5 a6 _ hm
        have sh5 : h5.1 ≤ u9.1 := hmo.1
        have th5 : h5.2.1 ≤ u9.2.1 := hmo.2.1
        refine cg_callr hw lh5 (va_runV (As := [.int x1]) (rest := []) ⟨hx, hb, hml, hown, hts⟩ (w_X0_at l ea6) (cw_X0_at hts q900 ⟨Nat.le_of_ble_eq_true rfl, Nat.le_of_ble_eq_true rfl⟩) (cg_preV C hw g4 rfl _) rfl rfl hl.1 rfl (lv_room (Nat.le_of_ble_eq_true rfl)) dX0_area_33 ⟨show cc + (h5.1 - h.1) ≤ u9.1 - u.1 by omega, show ss + (h5.2.1 - h.2.1) ≤ u9.2.1 - u.2.1 by omega⟩) (fun H locs hw => ?_)
        exact hB36 h5 x0 x1 x2 x3 x4 x5 a6 _ _ _ _ _ hm hw (by omega) (by omega) (lv_sub hl [0, 1, 2, 3, 4, 5] rfl)
      · have hm := ifT' hm c3
        exact hB27 h _ _ _ _ _ hm hw (by omega) (by omega) (lv_sub hl [] rfl)
  have hB5 : ∀ (h : CH) (x0 : Nat) (x1 : Int32) (x2 : Int32) (x3 : Int32) (x4 : Int32) (x5 : Int32) (y0 : Int32) (cc ss : Nat) (H : Heap) (locs : List Loc) (ls : Array Slot), m_X0_area_5 f h x0 x1 x2 x3 x4 x5 y0 = some (r0, u9) → CW D dA A s h H locs → cc + u.1 = h.1 → ss + u.2.1 = h.2.1 → lv_has ls 13 [(0, .ref x0), (1, .int x1), (2, .int x2), (3, .int x3), (4, .int x4), (5, .int x5)] → W p l e (rm_X0_area (u9.1 - u.1) (u9.2.1 - u.2.1)) s m args below meth c H locs cc ss QQ (F0 m 5 ls [.int y0]) := by
    intro h x0 x1 x2 x3 x4 x5 y0 cc ss H locs ls hm hw hcc hss hl
    have hmo := mo_X0_area_5  h x0 x1 x2 x3 x4 x5 y0 _ hm
    have sb_ : h.1 ≤ u9.1 := hmo.1
    have tb_ : h.2.1 ≤ u9.2.1 := hmo.2.1
    rw [m_X0_area_5] at hm
    refine lv_if_eq (tgt := 27) hx hb dX0_area_5 (by decide) (fun c1 => ?_) (fun c1 => ?_)
    · have hm := ifT hm c1
      exact hB27 h _ _ _ _ _ hm hw (by omega) (by omega) (lv_sub hl [] rfl)
    · have hm := ifF hm c1
      refine lv_aload_n hx hb dX0_area_8 rfl (lv_at hl 0 rfl) ?_
      refine lv_iload_n hx hb dX0_area_9 rfl (lv_at hl 2 rfl) ?_
      refine lv_iload_n hx hb dX0_area_10 rfl (lv_at hl 3 rfl) ?_
      refine lv_iload hx hb dX0_area_11 (lv_at hl 4 rfl) ?_
      obtain ⟨g2, hm⟩ := gdE hm
      obtain ⟨r4, h3, er4, hm⟩ := bd2E hm
      have lh3 := mo_X0_isPlane er4
      have ph3 : h.1 ≤ h3.1 := lh3.1
      have qh3 : h.2.1 ≤ h3.2.1 := lh3.2.1
      have hmo := mo_X0_area_16   h3 x0 x1 x2 x3 x4 x5 r4 _ hm
      have sh3 : h3.1 ≤ u9.1 := hmo.1
      have th3 : h3.2.1 ≤ u9.2.1 := hmo.2.1
      refine cg_calli hw lh3 (va_runV (As := [.int x2, .int x3, .int x4]) (rest := []) ⟨hx, hb, hml, hown, hts⟩ (w_X0_isPlane l er4) (cw_X0_isPlane hts q1289 ⟨Nat.le_of_ble_eq_true rfl, Nat.le_of_ble_eq_true rfl⟩) (cg_preV C hw g2 rfl _) rfl rfl hl.1 rfl (lv_room (Nat.le_of_ble_eq_true rfl)) dX0_area_13 ⟨show cc + (h3.1 - h.1) ≤ u9.1 - u.1 by omega, show ss + (h3.2.1 - h.2.1) ≤ u9.2.1 - u.2.1 by omega⟩) (fun H locs hw => ?_)
      exact hB16 h3 x0 x1 x2 x3 x4 x5 r4 _ _ _ _ _ hm hw (by omega) (by omega) (lv_sub hl [0, 1, 2, 3, 4, 5] rfl)
  rw [m_X0_area] at hm
  refine lv_aload_n hx hb dX0_area_0 rfl (lv_at hl 0 rfl) ?_
  refine lv_iload_n hx hb dX0_area_1 rfl (lv_at hl 1 rfl) ?_
  obtain ⟨g1, hm⟩ := gdE hm
  obtain ⟨r3, h2, er3, hm⟩ := bd2E hm
  have lh2 := mo_X0_isLattice er3
  have ph2 : u.1 ≤ h2.1 := lh2.1
  have qh2 : u.2.1 ≤ h2.2.1 := lh2.2.1
  have hmo := mo_X0_area_5   h2 x0 x1 x2 x3 x4 x5 r3 _ hm
  have sh2 : h2.1 ≤ u9.1 := hmo.1
  have th2 : h2.2.1 ≤ u9.2.1 := hmo.2.1
  refine cg_calli hw lh2 (va_runV (As := [.int x1]) (rest := []) ⟨hx, hb, hml, hown, hts⟩ (w_X0_isLattice l er3) (cw_X0_isLattice hts q892 ⟨Nat.le_of_ble_eq_true rfl, Nat.le_of_ble_eq_true rfl⟩) (cg_preV C hw g1 rfl _) rfl rfl hl.1 rfl (lv_room (Nat.le_of_ble_eq_true rfl)) dX0_area_2 ⟨show cc + (h2.1 - u.1) ≤ u9.1 - u.1 by omega, show ss + (h2.2.1 - u.2.1) ≤ u9.2.1 - u.2.1 by omega⟩) (fun H locs hw => ?_)
  exact hB5 h2 x0 x1 x2 x3 x4 x5 r3 _ _ _ _ _ hm hw (by omega) (by omega) (lv_sub hl [0, 1, 2, 3, 4, 5] rfl)
def m_X0_asksPlane_34 (f : Nat) (h : CH) (y0 : Int32) : Option (Int32 × CH) := some (y0, h)
theorem mo_X0_asksPlane_34 {f : Nat} : ∀ (h : CH) (y0 : Int32) (r : (Int32 × CH)), m_X0_asksPlane_34 f h y0 = some r → le2 h r.2 := by
  intro h y0 r hm
  rw [m_X0_asksPlane_34] at hm
  cases hm
  exact le2.rf
def m_X0_asksPlane_27 (f : Nat) (h : CH) : Option (Int32 × CH) := m_X0_asksPlane_34 f h (-2 : Int32)
theorem mo_X0_asksPlane_27 {f : Nat} : ∀ (h : CH) (r : (Int32 × CH)), m_X0_asksPlane_27 f h = some r → le2 h r.2 := by
  intro h r hm
  rw [m_X0_asksPlane_27] at hm
  exact (mo_X0_asksPlane_34  h (-2 : Int32) _ hm)
def m_X0_asksPlane_24 (f : Nat) (h : CH) (x6 : Int32) (y0 : Int32) : Option (Int32 × CH) := if ¬ y0 = 0 then
    m_X0_asksPlane_34 f h x6
    else m_X0_asksPlane_27 f h
theorem mo_X0_asksPlane_24 {f : Nat} : ∀ (h : CH) (x6 : Int32) (y0 : Int32) (r : (Int32 × CH)), m_X0_asksPlane_24 f h x6 y0 = some r → le2 h r.2 := by
  intro h x6 y0 r hm
  rw [m_X0_asksPlane_24] at hm
  by_cases c1 : ¬ y0 = 0
  · have hm := ifT hm c1
    exact (mo_X0_asksPlane_34  h x6 _ hm)
  · have hm := ifF hm c1
    exact (mo_X0_asksPlane_27  h _ hm)
def m_X0_asksPlane_6 (f : Nat) (h : CH) (x0 : Nat) (x3 : Int32) (x4 : Int32) (x5 : Int32) (y0 : Int32) : Option (Int32 × CH) := if y0 = (-2 : Int32) then
    m_X0_asksPlane_27 f h
    else gd (isC h x0 1) <|
    bd2 (m_X0_isPlane f h x0 x3 x4 x5) fun r4 h3 =>
    m_X0_asksPlane_24 f h3 y0 r4
theorem mo_X0_asksPlane_6 {f : Nat} : ∀ (h : CH) (x0 : Nat) (x3 : Int32) (x4 : Int32) (x5 : Int32) (y0 : Int32) (r : (Int32 × CH)), m_X0_asksPlane_6 f h x0 x3 x4 x5 y0 = some r → le2 h r.2 := by
  intro h x0 x3 x4 x5 y0 r hm
  rw [m_X0_asksPlane_6] at hm
  by_cases c1 : y0 = (-2 : Int32)
  · have hm := ifT hm c1
    exact (mo_X0_asksPlane_27  h _ hm)
  · have hm := ifF hm c1
    obtain ⟨g2, hm⟩ := gdE hm
    obtain ⟨r4, h3, er4, hm⟩ := bd2E hm
    have lh3 := mo_X0_isPlane er4
    exact (lh3.tr (mo_X0_asksPlane_24  h3 y0 r4 _ hm))
def m_X0_asksPlane (f : Nat) (u : CH) (x0 : Nat) (x1 : Int32) (x2 : Int32) (x3 : Int32) (x4 : Int32) (x5 : Int32) : Option (Int32 × CH) := gd (isC u x0 1) <|
    bd2 (m_X0_asks f u x0 x1 x2) fun r3 h2 =>
    m_X0_asksPlane_6 f h2 x0 x3 x4 x5 r3
theorem mo_X0_asksPlane {f : Nat} {u : CH} {x0 : Nat} {x1 : Int32} {x2 : Int32} {x3 : Int32} {x4 : Int32} {x5 : Int32} {r0 : Int32} {u9 : CH} (hm : m_X0_asksPlane f u x0 x1 x2 x3 x4 x5 = some (r0, u9)) : le2 u u9 := by
  rw [m_X0_asksPlane] at hm
  obtain ⟨g1, hm⟩ := gdE hm
  obtain ⟨r3, h2, er3, hm⟩ := bd2E hm
  have lh2 := mo_X0_asks er3
  exact (lh2.tr (mo_X0_asksPlane_6  h2 x0 x3 x4 x5 r3 _ hm))
abbrev rm_X0_asksPlane (mc ms : Nat) : Room := { frames := 5, cells := mc, slots := ms, locals := 107 }
theorem cw_X0_asksPlane {R : Room} {s : State} {args : Array Value} {own : String} {idx mc ms : Nat} (hts : ∀ w ∈ lw_all, w.before args s = true) (hl : Cond.methodLink own idx yX0_asksPlane ∈ lw_all) (hR : 5 + 1 ≤ R.frames ∧ 8 + (7 + 11) + 107 ≤ R.locals) : CallW R s args own RX0 idx yX0_asksPlane cX0_asksPlane 7 (Option.some Jvm.ClassFile.FieldType.int) (ws_ yX0_asksPlane cX0_asksPlane 7 (Option.some Jvm.ClassFile.FieldType.int)) (rm_X0_asksPlane mc ms) mc ms 5 := cwV 5 hts (lw_V hl q1305 qs42 q119 q1306) rfl rfl rfl (by decide +kernel) hR
set_option maxHeartbeats 4000000 in
set_option maxRecDepth 100000 in
theorem w_X0_asksPlane (l : Launch) {D : va_G} {dA : Nat → ClassId} {A : Nat → Prop} {f : Nat} {u u9 : CH} {r0 : Int32} {x0 : Nat} {x1 : Int32} {x2 : Int32} {x3 : Int32} {x4 : Int32} {x5 : Int32} (hm : m_X0_asksPlane f u x0 x1 x2 x3 x4 x5 = some (r0, u9)) : Met l yX0_asksPlane (ws_ yX0_asksPlane cX0_asksPlane 7 (Option.some Jvm.ClassFile.FieldType.int)) (rm_X0_asksPlane (u9.1 - u.1) (u9.2.1 - u.2.1)) (va_Pc [.ref x0, .int x1, .int x2, .int x3, .int x4, .int x5] (CPre D dA A u)) (va_Qi (fun r u => r = r0 ∧ u = u9) (CPost D dA A) A) (u9.1 - u.1) (u9.2.1 - u.2.1) A := by
  refine Met.ofW (cc := cX0_asksPlane) (maxL := 7) (ret := (Option.some Jvm.ClassFile.FieldType.int)) (by decide) rfl ?_
  intro p e s m args below meth c s₁ B hml hv
  have hx := B.exec
  have hb := B.bytes
  have hr := B.returns
  have hts := atoms_spec (ws := (ws_ yX0_asksPlane cX0_asksPlane 7 (Option.some Jvm.ClassFile.FieldType.int))) B.pre
  have hts : ∀ w ∈ lw_all, w.before args s = true := fun w h => hts w (List.mem_cons_of_mem _ h)
  have hown : s.vm.findClass RX0 = some m.cls := findClass_of_methodNamed B.named
  have hlocks := B.notSynchronized
  obtain ⟨hav, hv⟩ := hv
  have C : CX p s m args c cX0_asksPlane RX0 D dA := ⟨hx, hb, hown, hts, hv.2⟩
  have hw : CW D dA A s u s.heap [] := hv.1
  generalize hQ : MQ below (va_Qi (fun r u => r = r0 ∧ u = u9) (CPost D dA A) A) args s (u9.1 - u.1) (u9.2.1 - u.2.1) A = QQ
  have hent := lg_entry_eq m [.ref x0, .int x1, .int x2, .int x3, .int x4, .int x5] 7
  rw [← hav] at hent
  rw [hent]
  have hl := lv_entry ([.ref x0, .int x1, .int x2, .int x3, .int x4, .int x5]) (n := 7) (Nat.le_of_ble_eq_true rfl)
  generalize (lg_sl ([.ref x0, .int x1, .int x2, .int x3, .int x4, .int x5]) ++ List.replicate (7 - (lg_sl ([.ref x0, .int x1, .int x2, .int x3, .int x4, .int x5])).length) Slot.unset).toArray = ls at hl ⊢
  have hl : lv_has ls 7 [(0, .ref x0), (1, .int x1), (2, .int x2), (3, .int x3), (4, .int x4), (5, .int x5)] := hl
  obtain ⟨cc, ecc⟩ : ∃ z : Nat, z = 0 := ⟨0, rfl⟩
  obtain ⟨ss, ess⟩ : ∃ z : Nat, z = 0 := ⟨0, rfl⟩
  have hcc : cc + u.1 = u.1 := by omega
  have hss : ss + u.2.1 = u.2.1 := by omega
  suffices hgo : W p l e (rm_X0_asksPlane (u9.1 - u.1) (u9.2.1 - u.2.1)) s m args below meth c s.heap [] cc ss QQ (F0 m 0 ls []) by rw [ecc, ess] at hgo; exact hgo
  have ⟨pu, qu, _, _⟩ := mo_X0_asksPlane hm
  have hB34 : ∀ (h : CH) (y0 : Int32) (cc ss : Nat) (H : Heap) (locs : List Loc) (ls : Array Slot), m_X0_asksPlane_34 f h y0 = some (r0, u9) → CW D dA A s h H locs → cc + u.1 = h.1 → ss + u.2.1 = h.2.1 → lv_has ls 7 [] → W p l e (rm_X0_asksPlane (u9.1 - u.1) (u9.2.1 - u.2.1)) s m args below meth c H locs cc ss QQ (F0 m 34 ls [.int y0]) := by
    intro h y0 cc ss H locs ls hm hw hcc hss hl
    have hmo := mo_X0_asksPlane_34  h y0 _ hm
    have sb_ : h.1 ≤ u9.1 := hmo.1
    have tb_ : h.2.1 ≤ u9.2.1 := hmo.2.1
    rw [m_X0_asksPlane_34] at hm
    obtain ⟨er, eh⟩ := retE hm
    have ec : cc = u9.1 - u.1 := by rw [← eh]; omega
    have es : ss = u9.2.1 - u.2.1 := by rw [← eh]; omega
    rw [ec, es, ← hQ]
    exact W.iret (v := y0) hx hb hr (fun t ht hW => ⟨⟨y0, h, rfl, ⟨er, eh⟩, ⟨by rw [ht]; exact hw.1, by rw [ht]; exact hw.2.1⟩⟩, hw.2.2.1.F ht⟩) hw.2.2.1.2.2 dX0_asksPlane_34
  have hB27 : ∀ (h : CH) (cc ss : Nat) (H : Heap) (locs : List Loc) (ls : Array Slot), m_X0_asksPlane_27 f h = some (r0, u9) → CW D dA A s h H locs → cc + u.1 = h.1 → ss + u.2.1 = h.2.1 → lv_has ls 7 [] → W p l e (rm_X0_asksPlane (u9.1 - u.1) (u9.2.1 - u.2.1)) s m args below meth c H locs cc ss QQ (F0 m 27 ls []) := by
    intro h cc ss H locs ls hm hw hcc hss hl
    have hmo := mo_X0_asksPlane_27  h _ hm
    have sb_ : h.1 ≤ u9.1 := hmo.1
    have tb_ : h.2.1 ≤ u9.2.1 := hmo.2.1
    rw [m_X0_asksPlane_27] at hm
    refine lv_bipush (v := -2) hx hb dX0_asksPlane_27 (by decide) ?_
    refine lv_goto (tgt := 34) hx hb dX0_asksPlane_29 (by decide) ?_
    exact hB34 h (-2 : Int32) _ _ _ _ _ hm hw (by omega) (by omega) (lv_sub hl [] rfl)
  have hB24 : ∀ (h : CH) (x6 : Int32) (y0 : Int32) (cc ss : Nat) (H : Heap) (locs : List Loc) (ls : Array Slot), m_X0_asksPlane_24 f h x6 y0 = some (r0, u9) → CW D dA A s h H locs → cc + u.1 = h.1 → ss + u.2.1 = h.2.1 → lv_has ls 7 [(6, .int x6)] → W p l e (rm_X0_asksPlane (u9.1 - u.1) (u9.2.1 - u.2.1)) s m args below meth c H locs cc ss QQ (F0 m 24 ls [.int y0]) := by
    intro h x6 y0 cc ss H locs ls hm hw hcc hss hl
    have hmo := mo_X0_asksPlane_24  h x6 y0 _ hm
    have sb_ : h.1 ≤ u9.1 := hmo.1
    have tb_ : h.2.1 ≤ u9.2.1 := hmo.2.1
    rw [m_X0_asksPlane_24] at hm
    refine lv_if_ne (tgt := 32) hx hb dX0_asksPlane_24 (by decide) (fun c1 => ?_) (fun c1 => ?_)
    · have hm := ifT hm c1
      refine lv_iload hx hb dX0_asksPlane_32 (lv_at hl 0 rfl) ?_
      exact hB34 h x6 _ _ _ _ _ hm hw (by omega) (by omega) (lv_sub hl [] rfl)
    · have hm := ifT' hm c1
      exact hB27 h _ _ _ _ _ hm hw (by omega) (by omega) (lv_sub hl [] rfl)
  have hB6 : ∀ (h : CH) (x0 : Nat) (x3 : Int32) (x4 : Int32) (x5 : Int32) (y0 : Int32) (cc ss : Nat) (H : Heap) (locs : List Loc) (ls : Array Slot), m_X0_asksPlane_6 f h x0 x3 x4 x5 y0 = some (r0, u9) → CW D dA A s h H locs → cc + u.1 = h.1 → ss + u.2.1 = h.2.1 → lv_has ls 7 [(0, .ref x0), (3, .int x3), (4, .int x4), (5, .int x5)] → W p l e (rm_X0_asksPlane (u9.1 - u.1) (u9.2.1 - u.2.1)) s m args below meth c H locs cc ss QQ (F0 m 6 ls [.int y0]) := by
    intro h x0 x3 x4 x5 y0 cc ss H locs ls hm hw hcc hss hl
    have hmo := mo_X0_asksPlane_6  h x0 x3 x4 x5 y0 _ hm
    have sb_ : h.1 ≤ u9.1 := hmo.1
    have tb_ : h.2.1 ≤ u9.2.1 := hmo.2.1
    rw [m_X0_asksPlane_6] at hm
    refine lv_istore (lv' := [(6, .int y0), (0, .ref x0), (3, .int x3), (4, .int x4), (5, .int x5)]) hx hb dX0_asksPlane_6 hl (by decide) rfl (fun ls hl => ?_)
    refine lv_iload hx hb dX0_asksPlane_8 (lv_at hl 0 rfl) ?_
    refine lv_bipush (v := -2) hx hb dX0_asksPlane_10 (by decide) ?_
    refine lv_icmp_eq (tgt := 27) hx hb dX0_asksPlane_12 (by decide) (fun c1 => ?_) (fun c1 => ?_)
    · have hm := ifT hm c1
      exact hB27 h _ _ _ _ _ hm hw (by omega) (by omega) (lv_sub hl [] rfl)
    · have hm := ifF hm c1
      refine lv_aload_n hx hb dX0_asksPlane_15 rfl (lv_at hl 1 rfl) ?_
      refine lv_iload_n hx hb dX0_asksPlane_16 rfl (lv_at hl 2 rfl) ?_
      refine lv_iload hx hb dX0_asksPlane_17 (lv_at hl 3 rfl) ?_
      refine lv_iload hx hb dX0_asksPlane_19 (lv_at hl 4 rfl) ?_
      obtain ⟨g2, hm⟩ := gdE hm
      obtain ⟨r4, h3, er4, hm⟩ := bd2E hm
      have lh3 := mo_X0_isPlane er4
      have ph3 : h.1 ≤ h3.1 := lh3.1
      have qh3 : h.2.1 ≤ h3.2.1 := lh3.2.1
      have hmo := mo_X0_asksPlane_24   h3 y0 r4 _ hm
      have sh3 : h3.1 ≤ u9.1 := hmo.1
      have th3 : h3.2.1 ≤ u9.2.1 := hmo.2.1
      refine cg_calli hw lh3 (va_runV (As := [.int x3, .int x4, .int x5]) (rest := []) ⟨hx, hb, hml, hown, hts⟩ (w_X0_isPlane l er4) (cw_X0_isPlane hts q1289 ⟨Nat.le_of_ble_eq_true rfl, Nat.le_of_ble_eq_true rfl⟩) (cg_preV C hw g2 rfl _) rfl rfl hl.1 rfl (lv_room (Nat.le_of_ble_eq_true rfl)) dX0_asksPlane_21 ⟨show cc + (h3.1 - h.1) ≤ u9.1 - u.1 by omega, show ss + (h3.2.1 - h.2.1) ≤ u9.2.1 - u.2.1 by omega⟩) (fun H locs hw => ?_)
      exact hB24 h3 y0 r4 _ _ _ _ _ hm hw (by omega) (by omega) (lv_sub hl [0] rfl)
  rw [m_X0_asksPlane] at hm
  refine lv_aload_n hx hb dX0_asksPlane_0 rfl (lv_at hl 0 rfl) ?_
  refine lv_iload_n hx hb dX0_asksPlane_1 rfl (lv_at hl 1 rfl) ?_
  refine lv_iload_n hx hb dX0_asksPlane_2 rfl (lv_at hl 2 rfl) ?_
  obtain ⟨g1, hm⟩ := gdE hm
  obtain ⟨r3, h2, er3, hm⟩ := bd2E hm
  have lh2 := mo_X0_asks er3
  have ph2 : u.1 ≤ h2.1 := lh2.1
  have qh2 : u.2.1 ≤ h2.2.1 := lh2.2.1
  have hmo := mo_X0_asksPlane_6   h2 x0 x3 x4 x5 r3 _ hm
  have sh2 : h2.1 ≤ u9.1 := hmo.1
  have th2 : h2.2.1 ≤ u9.2.1 := hmo.2.1
  refine cg_calli hw lh2 (va_runV (As := [.int x1, .int x2]) (rest := []) ⟨hx, hb, hml, hown, hts⟩ (w_X0_asks l er3) (cw_X0_asks hts q1096 ⟨Nat.le_of_ble_eq_true rfl, Nat.le_of_ble_eq_true rfl⟩) (cg_preV C hw g1 rfl _) rfl rfl hl.1 rfl (lv_room (Nat.le_of_ble_eq_true rfl)) dX0_asksPlane_3 ⟨show cc + (h2.1 - u.1) ≤ u9.1 - u.1 by omega, show ss + (h2.2.1 - u.2.1) ≤ u9.2.1 - u.2.1 by omega⟩) (fun H locs hw => ?_)
  exact hB6 h2 x0 x3 x4 x5 r3 _ _ _ _ _ hm hw (by omega) (by omega) (lv_sub hl [0, 3, 4, 5] rfl)
def m_X0_layersOf_59 (f : Nat) (h : CH) (y0 : Int64) (y1 : Int64) : Option (Int64 × CH) := gd (nzL y1) <|
    some ((y0 / y1), h)
theorem mo_X0_layersOf_59 {f : Nat} : ∀ (h : CH) (y0 : Int64) (y1 : Int64) (r : (Int64 × CH)), m_X0_layersOf_59 f h y0 y1 = some r → le2 h r.2 := by
  intro h y0 y1 r hm
  rw [m_X0_layersOf_59] at hm
  obtain ⟨g1, hm⟩ := gdE hm
  cases hm
  exact le2.rf
def m_X0_layersOf_52 (f : Nat) (h : CH) (x0 : Nat) (y0 : Int64) (y1 : Nat) : Option (Int64 × CH) := bd (oR h 1 6 x0) fun a1 =>
    gd (isC h y1 3) <|
    bd2 (m_X2_across f h y1 a1) fun r4 h3 =>
    m_X0_layersOf_59 f h3 y0 r4
theorem mo_X0_layersOf_52 {f : Nat} : ∀ (h : CH) (x0 : Nat) (y0 : Int64) (y1 : Nat) (r : (Int64 × CH)), m_X0_layersOf_52 f h x0 y0 y1 = some r → le2 h r.2 := by
  intro h x0 y0 y1 r hm
  rw [m_X0_layersOf_52] at hm
  obtain ⟨a1, ea1, hm⟩ := bdE hm
  obtain ⟨g2, hm⟩ := gdE hm
  obtain ⟨r4, h3, er4, hm⟩ := bd2E hm
  have lh3 := mo_X2_across er4
  exact (lh3.tr (mo_X0_layersOf_59  h3 y0 r4 _ hm))
def m_X0_layersOf_45 (f : Nat) (h : CH) (x0 : Nat) (x1 : Int32) (x4 : Int64) (y0 : Int64) : Option (Int64 × CH) := gd (isC h x0 1) <|
    bd2 (m_X0_rowsBy f h x0 x1 x4) fun a3 h2 =>
    m_X0_layersOf_52 f h2 x0 y0 a3
theorem mo_X0_layersOf_45 {f : Nat} : ∀ (h : CH) (x0 : Nat) (x1 : Int32) (x4 : Int64) (y0 : Int64) (r : (Int64 × CH)), m_X0_layersOf_45 f h x0 x1 x4 y0 = some r → le2 h r.2 := by
  intro h x0 x1 x4 y0 r hm
  rw [m_X0_layersOf_45] at hm
  obtain ⟨g1, hm⟩ := gdE hm
  obtain ⟨a3, h2, ea3, hm⟩ := bd2E hm
  have lh2 := mo_X0_rowsBy ea3
  exact (lh2.tr (mo_X0_layersOf_52  h2 x0 y0 a3 _ hm))
def m_X0_layersOf_38 (f : Nat) (h : CH) (x0 : Nat) (x1 : Int32) (x4 : Int64) (y0 : Nat) : Option (Int64 × CH) := bd (oR h 1 6 x0) fun a1 =>
    gd (isC h y0 3) <|
    bd2 (m_X2_across f h y0 a1) fun r4 h3 =>
    m_X0_layersOf_45 f h3 x0 x1 x4 r4
theorem mo_X0_layersOf_38 {f : Nat} : ∀ (h : CH) (x0 : Nat) (x1 : Int32) (x4 : Int64) (y0 : Nat) (r : (Int64 × CH)), m_X0_layersOf_38 f h x0 x1 x4 y0 = some r → le2 h r.2 := by
  intro h x0 x1 x4 y0 r hm
  rw [m_X0_layersOf_38] at hm
  obtain ⟨a1, ea1, hm⟩ := bdE hm
  obtain ⟨g2, hm⟩ := gdE hm
  obtain ⟨r4, h3, er4, hm⟩ := bd2E hm
  have lh3 := mo_X2_across er4
  exact (lh3.tr (mo_X0_layersOf_45  h3 x0 x1 x4 r4 _ hm))
def m_X0_layersOf_19 (f : Nat) (h : CH) (x0 : Nat) (x1 : Int32) (x3 : Nat) (y0 : Int64) (y1 : Int64) : Option (Int64 × CH) := bd (m_X0_multiple f y0 y1) fun r1 =>
    bd (oR h 10 0 x3) fun a2 =>
    bd (oL h 10 1 x3) fun v3 =>
    gd (nzL v3) <|
    gd (isC h a2 3) <|
    bd2 (m_X2_times_2 f h a2 (r1 / v3)) fun a7 h6 =>
    m_X0_layersOf_38 f h6 x0 x1 r1 a7
theorem mo_X0_layersOf_19 {f : Nat} : ∀ (h : CH) (x0 : Nat) (x1 : Int32) (x3 : Nat) (y0 : Int64) (y1 : Int64) (r : (Int64 × CH)), m_X0_layersOf_19 f h x0 x1 x3 y0 y1 = some r → le2 h r.2 := by
  intro h x0 x1 x3 y0 y1 r hm
  rw [m_X0_layersOf_19] at hm
  obtain ⟨r1, er1, hm⟩ := bdE hm
  obtain ⟨a2, ea2, hm⟩ := bdE hm
  obtain ⟨v3, ev3, hm⟩ := bdE hm
  obtain ⟨g4, hm⟩ := gdE hm
  obtain ⟨g5, hm⟩ := gdE hm
  obtain ⟨a7, h6, ea7, hm⟩ := bd2E hm
  have lh6 := mo_X2_times_2 ea7
  exact (lh6.tr (mo_X0_layersOf_38  h6 x0 x1 r1 a7 _ hm))
def m_X0_layersOf_16 (f : Nat) (h : CH) (x0 : Nat) (x1 : Int32) (x3 : Nat) (y0 : Int64) (y1 : Nat) : Option (Int64 × CH) := if isC h y1 6 = true then
    bd2 (m_X6_over f h y1) fun r3 h2 =>
    m_X0_layersOf_19 f h2 x0 x1 x3 y0 r3
    else gd (isC h y1 7) <|
    bd2 (m_X7_over f h y1) fun r6 h5 =>
    m_X0_layersOf_19 f h5 x0 x1 x3 y0 r6
theorem mo_X0_layersOf_16 {f : Nat} : ∀ (h : CH) (x0 : Nat) (x1 : Int32) (x3 : Nat) (y0 : Int64) (y1 : Nat) (r : (Int64 × CH)), m_X0_layersOf_16 f h x0 x1 x3 y0 y1 = some r → le2 h r.2 := by
  intro h x0 x1 x3 y0 y1 r hm
  rw [m_X0_layersOf_16] at hm
  by_cases c1 : isC h y1 6 = true
  · have hm := ifT hm c1
    obtain ⟨r3, h2, er3, hm⟩ := bd2E hm
    have lh2 := mo_X6_over er3
    exact (lh2.tr (mo_X0_layersOf_19  h2 x0 x1 x3 y0 r3 _ hm))
  · have hm := ifF hm c1
    obtain ⟨g4, hm⟩ := gdE hm
    obtain ⟨r6, h5, er6, hm⟩ := bd2E hm
    have lh5 := mo_X7_over er6
    exact (lh5.tr (mo_X0_layersOf_19  h5 x0 x1 x3 y0 r6 _ hm))
def m_X0_layersOf_6 (f : Nat) (h : CH) (x0 : Nat) (x1 : Int32) (y0 : Nat) : Option (Int64 × CH) := bd (oL h 10 1 y0) fun v1 =>
    gd (isC h x0 1) <|
    bd2 (m_X0_at f h x0 x1) fun a4 h3 =>
    m_X0_layersOf_16 f h3 x0 x1 y0 v1 a4
theorem mo_X0_layersOf_6 {f : Nat} : ∀ (h : CH) (x0 : Nat) (x1 : Int32) (y0 : Nat) (r : (Int64 × CH)), m_X0_layersOf_6 f h x0 x1 y0 = some r → le2 h r.2 := by
  intro h x0 x1 y0 r hm
  rw [m_X0_layersOf_6] at hm
  obtain ⟨v1, ev1, hm⟩ := bdE hm
  obtain ⟨g2, hm⟩ := gdE hm
  obtain ⟨a4, h3, ea4, hm⟩ := bd2E hm
  have lh3 := mo_X0_at ea4
  exact (lh3.tr (mo_X0_layersOf_16  h3 x0 x1 y0 v1 a4 _ hm))
def m_X0_layersOf (f : Nat) (u : CH) (x0 : Nat) (x1 : Int32) (x2 : Int32) : Option (Int64 × CH) := gd (isC u x0 1) <|
    bd2 (m_X0_meetOf f u x0 x1 x2) fun a3 h2 =>
    m_X0_layersOf_6 f h2 x0 x1 a3
theorem mo_X0_layersOf {f : Nat} {u : CH} {x0 : Nat} {x1 : Int32} {x2 : Int32} {r0 : Int64} {u9 : CH} (hm : m_X0_layersOf f u x0 x1 x2 = some (r0, u9)) : le2 u u9 := by
  rw [m_X0_layersOf] at hm
  obtain ⟨g1, hm⟩ := gdE hm
  obtain ⟨a3, h2, ea3, hm⟩ := bd2E hm
  have lh2 := mo_X0_meetOf ea3
  exact (lh2.tr (mo_X0_layersOf_6  h2 x0 x1 a3 _ hm))
abbrev rm_X0_layersOf (mc ms : Nat) : Room := { frames := 107, cells := mc, slots := ms, locals := 4183 }
theorem cw_X0_layersOf {R : Room} {s : State} {args : Array Value} {own : String} {idx mc ms : Nat} (hts : ∀ w ∈ lw_all, w.before args s = true) (hl : Cond.methodLink own idx yX0_layersOf ∈ lw_all) (hR : 107 + 1 ≤ R.frames ∧ 8 + (6 + 11) + 4183 ≤ R.locals) : CallW R s args own RX0 idx yX0_layersOf cX0_layersOf 6 (Option.some Jvm.ClassFile.FieldType.long) (ws_ yX0_layersOf cX0_layersOf 6 (Option.some Jvm.ClassFile.FieldType.long)) (rm_X0_layersOf mc ms) mc ms 2 := cwV 2 hts (lw_V hl q1309 qs43 q119 q1310) rfl rfl rfl (by decide +kernel) hR
set_option maxHeartbeats 4000000 in
set_option maxRecDepth 100000 in
theorem w_X0_layersOf (l : Launch) {D : va_G} {dA : Nat → ClassId} {A : Nat → Prop} {f : Nat} {u u9 : CH} {r0 : Int64} {x0 : Nat} {x1 : Int32} {x2 : Int32} (hm : m_X0_layersOf f u x0 x1 x2 = some (r0, u9)) : Met l yX0_layersOf (ws_ yX0_layersOf cX0_layersOf 6 (Option.some Jvm.ClassFile.FieldType.long)) (rm_X0_layersOf (u9.1 - u.1) (u9.2.1 - u.2.1)) (va_Pc [.ref x0, .int x1, .int x2] (CPre D dA A u)) (va_Ql (fun r u => r = r0 ∧ u = u9) (CPost D dA A) A) (u9.1 - u.1) (u9.2.1 - u.2.1) A := by
  refine Met.ofW (cc := cX0_layersOf) (maxL := 6) (ret := (Option.some Jvm.ClassFile.FieldType.long)) (by decide) rfl ?_
  intro p e s m args below meth c s₁ B hml hv
  have hx := B.exec
  have hb := B.bytes
  have hr := B.returns
  have hts := atoms_spec (ws := (ws_ yX0_layersOf cX0_layersOf 6 (Option.some Jvm.ClassFile.FieldType.long))) B.pre
  have hts : ∀ w ∈ lw_all, w.before args s = true := fun w h => hts w (List.mem_cons_of_mem _ h)
  have hown : s.vm.findClass RX0 = some m.cls := findClass_of_methodNamed B.named
  have hlocks := B.notSynchronized
  obtain ⟨hav, hv⟩ := hv
  have C : CX p s m args c cX0_layersOf RX0 D dA := ⟨hx, hb, hown, hts, hv.2⟩
  have hw : CW D dA A s u s.heap [] := hv.1
  generalize hQ : MQ below (va_Ql (fun r u => r = r0 ∧ u = u9) (CPost D dA A) A) args s (u9.1 - u.1) (u9.2.1 - u.2.1) A = QQ
  have hent := lg_entry_eq m [.ref x0, .int x1, .int x2] 6
  rw [← hav] at hent
  rw [hent]
  have hl := lv_entry ([.ref x0, .int x1, .int x2]) (n := 6) (Nat.le_of_ble_eq_true rfl)
  generalize (lg_sl ([.ref x0, .int x1, .int x2]) ++ List.replicate (6 - (lg_sl ([.ref x0, .int x1, .int x2])).length) Slot.unset).toArray = ls at hl ⊢
  have hl : lv_has ls 6 [(0, .ref x0), (1, .int x1), (2, .int x2)] := hl
  obtain ⟨cc, ecc⟩ : ∃ z : Nat, z = 0 := ⟨0, rfl⟩
  obtain ⟨ss, ess⟩ : ∃ z : Nat, z = 0 := ⟨0, rfl⟩
  have hcc : cc + u.1 = u.1 := by omega
  have hss : ss + u.2.1 = u.2.1 := by omega
  suffices hgo : W p l e (rm_X0_layersOf (u9.1 - u.1) (u9.2.1 - u.2.1)) s m args below meth c s.heap [] cc ss QQ (F0 m 0 ls []) by rw [ecc, ess] at hgo; exact hgo
  have ⟨pu, qu, _, _⟩ := mo_X0_layersOf hm
  have hB59 : ∀ (h : CH) (y0 : Int64) (y1 : Int64) (cc ss : Nat) (H : Heap) (locs : List Loc) (ls : Array Slot), m_X0_layersOf_59 f h y0 y1 = some (r0, u9) → CW D dA A s h H locs → cc + u.1 = h.1 → ss + u.2.1 = h.2.1 → lv_has ls 6 [] → W p l e (rm_X0_layersOf (u9.1 - u.1) (u9.2.1 - u.2.1)) s m args below meth c H locs cc ss QQ (F0 m 59 ls [.long y1, .long y0]) := by
    intro h y0 y1 cc ss H locs ls hm hw hcc hss hl
    have hmo := mo_X0_layersOf_59  h y0 y1 _ hm
    have sb_ : h.1 ≤ u9.1 := hmo.1
    have tb_ : h.2.1 ≤ u9.2.1 := hmo.2.1
    rw [m_X0_layersOf_59] at hm
    obtain ⟨g1, hm⟩ := gdE hm
    refine lv_ldiv hx hb dX0_layersOf_59 (nzL_ne g1) ?_
    obtain ⟨er, eh⟩ := retE hm
    have ec : cc = u9.1 - u.1 := by rw [← eh]; omega
    have es : ss = u9.2.1 - u.2.1 := by rw [← eh]; omega
    rw [ec, es, ← hQ]
    exact W.lret (v := (y0 / y1)) hx hb hr (fun t ht hW => ⟨⟨(y0 / y1), h, rfl, ⟨er, eh⟩, ⟨by rw [ht]; exact hw.1, by rw [ht]; exact hw.2.1⟩⟩, hw.2.2.1.F ht⟩) hw.2.2.1.2.2 dX0_layersOf_60
  have hB52 : ∀ (h : CH) (x0 : Nat) (y0 : Int64) (y1 : Nat) (cc ss : Nat) (H : Heap) (locs : List Loc) (ls : Array Slot), m_X0_layersOf_52 f h x0 y0 y1 = some (r0, u9) → CW D dA A s h H locs → cc + u.1 = h.1 → ss + u.2.1 = h.2.1 → lv_has ls 6 [(0, .ref x0)] → W p l e (rm_X0_layersOf (u9.1 - u.1) (u9.2.1 - u.2.1)) s m args below meth c H locs cc ss QQ (F0 m 52 ls [.ref y1, .long y0]) := by
    intro h x0 y0 y1 cc ss H locs ls hm hw hcc hss hl
    have hmo := mo_X0_layersOf_52  h x0 y0 y1 _ hm
    have sb_ : h.1 ≤ u9.1 := hmo.1
    have tb_ : h.2.1 ≤ u9.2.1 := hmo.2.1
    rw [m_X0_layersOf_52] at hm
    refine lv_aload_n hx hb dX0_layersOf_52 rfl (lv_at hl 0 rfl) ?_
    obtain ⟨a1, ea1, hm⟩ := bdE hm
    refine cg_get C hw (oR_E ea1) rfl in_X0 (by decide) q245 dX0_layersOf_53 ?_
    obtain ⟨g2, hm⟩ := gdE hm
    obtain ⟨r4, h3, er4, hm⟩ := bd2E hm
    have lh3 := mo_X2_across er4
    have ph3 : h.1 ≤ h3.1 := lh3.1
    have qh3 : h.2.1 ≤ h3.2.1 := lh3.2.1
    have hmo := mo_X0_layersOf_59   h3 y0 r4 _ hm
    have sh3 : h3.1 ≤ u9.1 := hmo.1
    have th3 : h3.2.1 ≤ u9.2.1 := hmo.2.1
    refine cg_calll hw lh3 (va_runV (As := [.ref a1]) (rest := [.long y0]) ⟨hx, hb, hml, hown, hts⟩ (w_X2_across l er4) (cw_X2_across hts q1295 ⟨Nat.le_of_ble_eq_true rfl, Nat.le_of_ble_eq_true rfl⟩) (cg_preV C hw g2 rfl _) rfl rfl hl.1 rfl (lv_room (Nat.le_of_ble_eq_true rfl)) dX0_layersOf_56 ⟨show cc + (h3.1 - h.1) ≤ u9.1 - u.1 by omega, show ss + (h3.2.1 - h.2.1) ≤ u9.2.1 - u.2.1 by omega⟩) (fun H locs hw => ?_)
    exact hB59 h3 y0 r4 _ _ _ _ _ hm hw (by omega) (by omega) (lv_sub hl [] rfl)
  have hB45 : ∀ (h : CH) (x0 : Nat) (x1 : Int32) (x4 : Int64) (y0 : Int64) (cc ss : Nat) (H : Heap) (locs : List Loc) (ls : Array Slot), m_X0_layersOf_45 f h x0 x1 x4 y0 = some (r0, u9) → CW D dA A s h H locs → cc + u.1 = h.1 → ss + u.2.1 = h.2.1 → lv_has ls 6 [(0, .ref x0), (1, .int x1), (4, .long x4)] → W p l e (rm_X0_layersOf (u9.1 - u.1) (u9.2.1 - u.2.1)) s m args below meth c H locs cc ss QQ (F0 m 45 ls [.long y0]) := by
    intro h x0 x1 x4 y0 cc ss H locs ls hm hw hcc hss hl
    have hmo := mo_X0_layersOf_45  h x0 x1 x4 y0 _ hm
    have sb_ : h.1 ≤ u9.1 := hmo.1
    have tb_ : h.2.1 ≤ u9.2.1 := hmo.2.1
    rw [m_X0_layersOf_45] at hm
    refine lv_aload_n hx hb dX0_layersOf_45 rfl (lv_at hl 0 rfl) ?_
    refine lv_iload_n hx hb dX0_layersOf_46 rfl (lv_at hl 1 rfl) ?_
    refine lv_lload hx hb dX0_layersOf_47 (lv_at hl 2 rfl) ?_
    obtain ⟨g1, hm⟩ := gdE hm
    obtain ⟨a3, h2, ea3, hm⟩ := bd2E hm
    have lh2 := mo_X0_rowsBy ea3
    have ph2 : h.1 ≤ h2.1 := lh2.1
    have qh2 : h.2.1 ≤ h2.2.1 := lh2.2.1
    have hmo := mo_X0_layersOf_52   h2 x0 y0 a3 _ hm
    have sh2 : h2.1 ≤ u9.1 := hmo.1
    have th2 : h2.2.1 ≤ u9.2.1 := hmo.2.1
    refine cg_callr hw lh2 (va_runV (As := [.int x1, .long x4]) (rest := [.long y0]) ⟨hx, hb, hml, hown, hts⟩ (w_X0_rowsBy l ea3) (cw_X0_rowsBy hts q1115 ⟨Nat.le_of_ble_eq_true rfl, Nat.le_of_ble_eq_true rfl⟩) (cg_preV C hw g1 rfl _) rfl rfl hl.1 rfl (lv_room (Nat.le_of_ble_eq_true rfl)) dX0_layersOf_49 ⟨show cc + (h2.1 - h.1) ≤ u9.1 - u.1 by omega, show ss + (h2.2.1 - h.2.1) ≤ u9.2.1 - u.2.1 by omega⟩) (fun H locs hw => ?_)
    exact hB52 h2 x0 y0 a3 _ _ _ _ _ hm hw (by omega) (by omega) (lv_sub hl [0] rfl)
  have hB38 : ∀ (h : CH) (x0 : Nat) (x1 : Int32) (x4 : Int64) (y0 : Nat) (cc ss : Nat) (H : Heap) (locs : List Loc) (ls : Array Slot), m_X0_layersOf_38 f h x0 x1 x4 y0 = some (r0, u9) → CW D dA A s h H locs → cc + u.1 = h.1 → ss + u.2.1 = h.2.1 → lv_has ls 6 [(0, .ref x0), (1, .int x1), (4, .long x4)] → W p l e (rm_X0_layersOf (u9.1 - u.1) (u9.2.1 - u.2.1)) s m args below meth c H locs cc ss QQ (F0 m 38 ls [.ref y0]) := by
    intro h x0 x1 x4 y0 cc ss H locs ls hm hw hcc hss hl
    have hmo := mo_X0_layersOf_38  h x0 x1 x4 y0 _ hm
    have sb_ : h.1 ≤ u9.1 := hmo.1
    have tb_ : h.2.1 ≤ u9.2.1 := hmo.2.1
    rw [m_X0_layersOf_38] at hm
    refine lv_aload_n hx hb dX0_layersOf_38 rfl (lv_at hl 0 rfl) ?_
    obtain ⟨a1, ea1, hm⟩ := bdE hm
    refine cg_get C hw (oR_E ea1) rfl in_X0 (by decide) q245 dX0_layersOf_39 ?_
    obtain ⟨g2, hm⟩ := gdE hm
    obtain ⟨r4, h3, er4, hm⟩ := bd2E hm
    have lh3 := mo_X2_across er4
    have ph3 : h.1 ≤ h3.1 := lh3.1
    have qh3 : h.2.1 ≤ h3.2.1 := lh3.2.1
    have hmo := mo_X0_layersOf_45   h3 x0 x1 x4 r4 _ hm
    have sh3 : h3.1 ≤ u9.1 := hmo.1
    have th3 : h3.2.1 ≤ u9.2.1 := hmo.2.1
    refine cg_calll hw lh3 (va_runV (As := [.ref a1]) (rest := []) ⟨hx, hb, hml, hown, hts⟩ (w_X2_across l er4) (cw_X2_across hts q1295 ⟨Nat.le_of_ble_eq_true rfl, Nat.le_of_ble_eq_true rfl⟩) (cg_preV C hw g2 rfl _) rfl rfl hl.1 rfl (lv_room (Nat.le_of_ble_eq_true rfl)) dX0_layersOf_42 ⟨show cc + (h3.1 - h.1) ≤ u9.1 - u.1 by omega, show ss + (h3.2.1 - h.2.1) ≤ u9.2.1 - u.2.1 by omega⟩) (fun H locs hw => ?_)
    exact hB45 h3 x0 x1 x4 r4 _ _ _ _ _ hm hw (by omega) (by omega) (lv_sub hl [0, 1, 2] rfl)
  have hB19 : ∀ (h : CH) (x0 : Nat) (x1 : Int32) (x3 : Nat) (y0 : Int64) (y1 : Int64) (cc ss : Nat) (H : Heap) (locs : List Loc) (ls : Array Slot), m_X0_layersOf_19 f h x0 x1 x3 y0 y1 = some (r0, u9) → CW D dA A s h H locs → cc + u.1 = h.1 → ss + u.2.1 = h.2.1 → lv_has ls 6 [(0, .ref x0), (1, .int x1), (3, .ref x3)] → W p l e (rm_X0_layersOf (u9.1 - u.1) (u9.2.1 - u.2.1)) s m args below meth c H locs cc ss QQ (F0 m 19 ls [.long y1, .long y0]) := by
    intro h x0 x1 x3 y0 y1 cc ss H locs ls hm hw hcc hss hl
    have hmo := mo_X0_layersOf_19  h x0 x1 x3 y0 y1 _ hm
    have sb_ : h.1 ≤ u9.1 := hmo.1
    have tb_ : h.2.1 ≤ u9.2.1 := hmo.2.1
    rw [m_X0_layersOf_19] at hm
    obtain ⟨r1, er1, hm⟩ := bdE hm
    refine scl (va_runS (As := [.long y0, .long y1]) (rest := []) ⟨hx, hb, hml, hown, hts⟩ (w_X0_multiple l er1) (cw_X0_multiple hts q1112 ⟨Nat.le_of_ble_eq_true rfl, Nat.le_of_ble_eq_true rfl⟩) (pre_s _) rfl rfl hl.1 rfl (lv_room (Nat.le_of_ble_eq_true rfl)) dX0_layersOf_19 ⟨show cc + 0 ≤ u9.1 - u.1 by omega, show ss + 0 ≤ u9.2.1 - u.2.1 by omega⟩) ?_
    refine lv_lstore (lv' := [(4, .long r1), (0, .ref x0), (1, .int x1), (3, .ref x3)]) hx hb dX0_layersOf_22 hl (by decide) rfl (fun ls hl => ?_)
    refine lv_aload_n hx hb dX0_layersOf_24 rfl (lv_at hl 3 rfl) ?_
    obtain ⟨a2, ea2, hm⟩ := bdE hm
    refine cg_getN C hw (by decide) (oR_E ea2) rfl in_X10 (by decide) (hw.2.2.2.2.1 _ (List.mem_of_getElem? (i := 28) rfl)) dX0_layersOf_25 ?_
    refine lv_lload hx hb dX0_layersOf_28 (lv_at hl 0 rfl) ?_
    refine lv_aload_n hx hb dX0_layersOf_30 rfl (lv_at hl 3 rfl) ?_
    obtain ⟨v3, ev3, hm⟩ := bdE hm
    refine cg_getN C hw (by decide) (oL_E ev3) rfl in_X10 (by decide) (hw.2.2.2.2.1 _ (List.mem_of_getElem? (i := 29) rfl)) dX0_layersOf_31 ?_
    obtain ⟨g4, hm⟩ := gdE hm
    refine lv_ldiv hx hb dX0_layersOf_34 (nzL_ne g4) ?_
    obtain ⟨g5, hm⟩ := gdE hm
    obtain ⟨a7, h6, ea7, hm⟩ := bd2E hm
    have lh6 := mo_X2_times_2 ea7
    have ph6 : h.1 ≤ h6.1 := lh6.1
    have qh6 : h.2.1 ≤ h6.2.1 := lh6.2.1
    have hmo := mo_X0_layersOf_38   h6 x0 x1 r1 a7 _ hm
    have sh6 : h6.1 ≤ u9.1 := hmo.1
    have th6 : h6.2.1 ≤ u9.2.1 := hmo.2.1
    refine cg_callr hw lh6 (va_runV (As := [.long (r1 / v3)]) (rest := []) ⟨hx, hb, hml, hown, hts⟩ (w_X2_times_2 l ea7) (cw_X2_times_2 hts q1119 ⟨Nat.le_of_ble_eq_true rfl, Nat.le_of_ble_eq_true rfl⟩) (cg_preV C hw g5 rfl _) rfl rfl hl.1 rfl (lv_room (Nat.le_of_ble_eq_true rfl)) dX0_layersOf_35 ⟨show cc + (h6.1 - h.1) ≤ u9.1 - u.1 by omega, show ss + (h6.2.1 - h.2.1) ≤ u9.2.1 - u.2.1 by omega⟩) (fun H locs hw => ?_)
    exact hB38 h6 x0 x1 r1 a7 _ _ _ _ _ hm hw (by omega) (by omega) (lv_sub hl [1, 2, 0] rfl)
  have hB16 : ∀ (h : CH) (x0 : Nat) (x1 : Int32) (x3 : Nat) (y0 : Int64) (y1 : Nat) (cc ss : Nat) (H : Heap) (locs : List Loc) (ls : Array Slot), m_X0_layersOf_16 f h x0 x1 x3 y0 y1 = some (r0, u9) → CW D dA A s h H locs → cc + u.1 = h.1 → ss + u.2.1 = h.2.1 → lv_has ls 6 [(0, .ref x0), (1, .int x1), (3, .ref x3)] → W p l e (rm_X0_layersOf (u9.1 - u.1) (u9.2.1 - u.2.1)) s m args below meth c H locs cc ss QQ (F0 m 16 ls [.ref y1, .long y0]) := by
    intro h x0 x1 x3 y0 y1 cc ss H locs ls hm hw hcc hss hl
    have hmo := mo_X0_layersOf_16  h x0 x1 x3 y0 y1 _ hm
    have sb_ : h.1 ≤ u9.1 := hmo.1
    have tb_ : h.2.1 ≤ u9.2.1 := hmo.2.1
    rw [m_X0_layersOf_16] at hm
    by_cases c1 : isC h y1 6 = true
    · have hm := ifT hm c1
      obtain ⟨r3, h2, er3, hm⟩ := bd2E hm
      have lh2 := mo_X6_over er3
      have ph2 : h.1 ≤ h2.1 := lh2.1
      have qh2 : h.2.1 ≤ h2.2.1 := lh2.2.1
      have hmo := mo_X0_layersOf_19   h2 x0 x1 x3 y0 r3 _ hm
      have sh2 : h2.1 ≤ u9.1 := hmo.1
      have th2 : h2.2.1 ≤ u9.2.1 := hmo.2.1
      refine cg_calll hw lh2 (va_runV (As := []) (rest := [.long y0]) ⟨hx, hb, hml, hown, hts⟩ (w_X6_over l er3) (cw_X6_over hts q945 ⟨Nat.le_of_ble_eq_true rfl, Nat.le_of_ble_eq_true rfl⟩) (cg_preV C hw c1 rfl _) rfl rfl hl.1 rfl (lv_room (Nat.le_of_ble_eq_true rfl)) dX0_layersOf_16 ⟨show cc + (h2.1 - h.1) ≤ u9.1 - u.1 by omega, show ss + (h2.2.1 - h.2.1) ≤ u9.2.1 - u.2.1 by omega⟩) (fun H locs hw => ?_)
      exact hB19 h2 x0 x1 x3 y0 r3 _ _ _ _ _ hm hw (by omega) (by omega) (lv_sub hl [0, 1, 2] rfl)
    · have hm := ifF hm c1
      obtain ⟨g4, hm⟩ := gdE hm
      obtain ⟨r6, h5, er6, hm⟩ := bd2E hm
      have lh5 := mo_X7_over er6
      have ph5 : h.1 ≤ h5.1 := lh5.1
      have qh5 : h.2.1 ≤ h5.2.1 := lh5.2.1
      have hmo := mo_X0_layersOf_19   h5 x0 x1 x3 y0 r6 _ hm
      have sh5 : h5.1 ≤ u9.1 := hmo.1
      have th5 : h5.2.1 ≤ u9.2.1 := hmo.2.1
      refine cg_calll hw lh5 (va_runU (As := []) (rest := [.long y0]) ⟨hx, hb, hml, hown, hts⟩ (w_X7_over l er6) (va_cwO 0 hts (lwO q945 q948 q946 q949 q950 q144 q951) rfl rfl rfl q952 (by decide +kernel) ⟨Nat.le_of_ble_eq_true rfl, Nat.le_of_ble_eq_true rfl⟩) (cg_preV C hw g4 rfl _) rfl rfl hl.1 rfl (lv_room (Nat.le_of_ble_eq_true rfl)) dX0_layersOf_16 ⟨show cc + (h5.1 - h.1) ≤ u9.1 - u.1 by omega, show ss + (h5.2.1 - h.2.1) ≤ u9.2.1 - u.2.1 by omega⟩) (fun H locs hw => ?_)
      exact hB19 h5 x0 x1 x3 y0 r6 _ _ _ _ _ hm hw (by omega) (by omega) (lv_sub hl [0, 1, 2] rfl)
  have hB6 : ∀ (h : CH) (x0 : Nat) (x1 : Int32) (y0 : Nat) (cc ss : Nat) (H : Heap) (locs : List Loc) (ls : Array Slot), m_X0_layersOf_6 f h x0 x1 y0 = some (r0, u9) → CW D dA A s h H locs → cc + u.1 = h.1 → ss + u.2.1 = h.2.1 → lv_has ls 6 [(0, .ref x0), (1, .int x1)] → W p l e (rm_X0_layersOf (u9.1 - u.1) (u9.2.1 - u.2.1)) s m args below meth c H locs cc ss QQ (F0 m 6 ls [.ref y0]) := by
    intro h x0 x1 y0 cc ss H locs ls hm hw hcc hss hl
    have hmo := mo_X0_layersOf_6  h x0 x1 y0 _ hm
    have sb_ : h.1 ≤ u9.1 := hmo.1
    have tb_ : h.2.1 ≤ u9.2.1 := hmo.2.1
    rw [m_X0_layersOf_6] at hm
    refine lv_astore_n (lv' := [(3, .ref y0), (0, .ref x0), (1, .int x1)]) hx hb dX0_layersOf_6 rfl hl (by decide) rfl (fun ls hl => ?_)
    refine lv_aload_n hx hb dX0_layersOf_7 rfl (lv_at hl 0 rfl) ?_
    obtain ⟨v1, ev1, hm⟩ := bdE hm
    refine cg_getN C hw (by decide) (oL_E ev1) rfl in_X10 (by decide) (hw.2.2.2.2.1 _ (List.mem_of_getElem? (i := 29) rfl)) dX0_layersOf_8 ?_
    refine lv_aload_n hx hb dX0_layersOf_11 rfl (lv_at hl 1 rfl) ?_
    refine lv_iload_n hx hb dX0_layersOf_12 rfl (lv_at hl 2 rfl) ?_
    obtain ⟨g2, hm⟩ := gdE hm
    obtain ⟨a4, h3, ea4, hm⟩ := bd2E hm
    have lh3 := mo_X0_at ea4
    have ph3 : h.1 ≤ h3.1 := lh3.1
    have qh3 : h.2.1 ≤ h3.2.1 := lh3.2.1
    have hmo := mo_X0_layersOf_16   h3 x0 x1 y0 v1 a4 _ hm
    have sh3 : h3.1 ≤ u9.1 := hmo.1
    have th3 : h3.2.1 ≤ u9.2.1 := hmo.2.1
    refine cg_callr hw lh3 (va_runV (As := [.int x1]) (rest := [.long v1]) ⟨hx, hb, hml, hown, hts⟩ (w_X0_at l ea4) (cw_X0_at hts q900 ⟨Nat.le_of_ble_eq_true rfl, Nat.le_of_ble_eq_true rfl⟩) (cg_preV C hw g2 rfl _) rfl rfl hl.1 rfl (lv_room (Nat.le_of_ble_eq_true rfl)) dX0_layersOf_13 ⟨show cc + (h3.1 - h.1) ≤ u9.1 - u.1 by omega, show ss + (h3.2.1 - h.2.1) ≤ u9.2.1 - u.2.1 by omega⟩) (fun H locs hw => ?_)
    exact hB16 h3 x0 x1 y0 v1 a4 _ _ _ _ _ hm hw (by omega) (by omega) (lv_sub hl [1, 2, 0] rfl)
  rw [m_X0_layersOf] at hm
  refine lv_aload_n hx hb dX0_layersOf_0 rfl (lv_at hl 0 rfl) ?_
  refine lv_iload_n hx hb dX0_layersOf_1 rfl (lv_at hl 1 rfl) ?_
  refine lv_iload_n hx hb dX0_layersOf_2 rfl (lv_at hl 2 rfl) ?_
  obtain ⟨g1, hm⟩ := gdE hm
  obtain ⟨a3, h2, ea3, hm⟩ := bd2E hm
  have lh2 := mo_X0_meetOf ea3
  have ph2 : u.1 ≤ h2.1 := lh2.1
  have qh2 : u.2.1 ≤ h2.2.1 := lh2.2.1
  have hmo := mo_X0_layersOf_6   h2 x0 x1 a3 _ hm
  have sh2 : h2.1 ≤ u9.1 := hmo.1
  have th2 : h2.2.1 ≤ u9.2.1 := hmo.2.1
  refine cg_callr hw lh2 (va_runV (As := [.int x1, .int x2]) (rest := []) ⟨hx, hb, hml, hown, hts⟩ (w_X0_meetOf l ea3) (cw_X0_meetOf hts q1104 ⟨Nat.le_of_ble_eq_true rfl, Nat.le_of_ble_eq_true rfl⟩) (cg_preV C hw g1 rfl _) rfl rfl hl.1 rfl (lv_room (Nat.le_of_ble_eq_true rfl)) dX0_layersOf_3 ⟨show cc + (h2.1 - u.1) ≤ u9.1 - u.1 by omega, show ss + (h2.2.1 - u.2.1) ≤ u9.2.1 - u.2.1 by omega⟩) (fun H locs hw => ?_)
  exact hB6 h2 x0 x1 a3 _ _ _ _ _ hm hw (by omega) (by omega) (lv_sub hl [0, 1] rfl)
def m_X0_layers_30 (f : Nat) (h : CH) (y0 : Int64) : Option (Int64 × CH) := some (y0, h)
theorem mo_X0_layers_30 {f : Nat} : ∀ (h : CH) (y0 : Int64) (r : (Int64 × CH)), m_X0_layers_30 f h y0 = some r → le2 h r.2 := by
  intro h y0 r hm
  rw [m_X0_layers_30] at hm
  cases hm
  exact le2.rf
def m_X0_layers_11 (f : Nat) (h : CH) (x0 : Nat) (x1 : Int32) (x2 : Int32) (y0 : Int32) : Option (Int64 × CH) := if 0 ≤ y0 then
    gd (isC h x0 1) <|
    bd2 (m_X0_layersOf f h x0 x1 x2) fun r4 h3 =>
    m_X0_layers_30 f h3 r4
    else m_X0_layers_30 f h (Int32.toInt64 y0)
theorem mo_X0_layers_11 {f : Nat} : ∀ (h : CH) (x0 : Nat) (x1 : Int32) (x2 : Int32) (y0 : Int32) (r : (Int64 × CH)), m_X0_layers_11 f h x0 x1 x2 y0 = some r → le2 h r.2 := by
  intro h x0 x1 x2 y0 r hm
  rw [m_X0_layers_11] at hm
  by_cases c1 : 0 ≤ y0
  · have hm := ifT hm c1
    obtain ⟨g2, hm⟩ := gdE hm
    obtain ⟨r4, h3, er4, hm⟩ := bd2E hm
    have lh3 := mo_X0_layersOf er4
    exact (lh3.tr (mo_X0_layers_30  h3 r4 _ hm))
  · have hm := ifF hm c1
    exact (mo_X0_layers_30  h (Int32.toInt64 y0) _ hm)
def m_X0_layers (f : Nat) (u : CH) (x0 : Nat) (x1 : Int32) (x2 : Int32) (x3 : Int32) (x4 : Int32) (x5 : Int32) : Option (Int64 × CH) := gd (isC u x0 1) <|
    bd2 (m_X0_asksPlane f u x0 x1 x2 x3 x4 x5) fun r3 h2 =>
    m_X0_layers_11 f h2 x0 x1 x2 r3
theorem mo_X0_layers {f : Nat} {u : CH} {x0 : Nat} {x1 : Int32} {x2 : Int32} {x3 : Int32} {x4 : Int32} {x5 : Int32} {r0 : Int64} {u9 : CH} (hm : m_X0_layers f u x0 x1 x2 x3 x4 x5 = some (r0, u9)) : le2 u u9 := by
  rw [m_X0_layers] at hm
  obtain ⟨g1, hm⟩ := gdE hm
  obtain ⟨r3, h2, er3, hm⟩ := bd2E hm
  have lh2 := mo_X0_asksPlane er3
  exact (lh2.tr (mo_X0_layers_11  h2 x0 x1 x2 r3 _ hm))
abbrev rm_X0_layers (mc ms : Nat) : Room := { frames := 108, cells := mc, slots := ms, locals := 4208 }
theorem cw_X0_layers {R : Room} {s : State} {args : Array Value} {own : String} {idx mc ms : Nat} (hts : ∀ w ∈ lw_all, w.before args s = true) (hl : Cond.methodLink own idx yX0_layers ∈ lw_all) (hR : 108 + 1 ≤ R.frames ∧ 8 + (7 + 11) + 4208 ≤ R.locals) : CallW R s args own RX0 idx yX0_layers cX0_layers 7 (Option.some Jvm.ClassFile.FieldType.long) (ws_ yX0_layers cX0_layers 7 (Option.some Jvm.ClassFile.FieldType.long)) (rm_X0_layers mc ms) mc ms 5 := cwV 5 hts (lw_V hl q1300 q1301 q119 q1302) rfl rfl rfl (by decide +kernel) hR
set_option maxHeartbeats 4000000 in
set_option maxRecDepth 100000 in
theorem w_X0_layers (l : Launch) {D : va_G} {dA : Nat → ClassId} {A : Nat → Prop} {f : Nat} {u u9 : CH} {r0 : Int64} {x0 : Nat} {x1 : Int32} {x2 : Int32} {x3 : Int32} {x4 : Int32} {x5 : Int32} (hm : m_X0_layers f u x0 x1 x2 x3 x4 x5 = some (r0, u9)) : Met l yX0_layers (ws_ yX0_layers cX0_layers 7 (Option.some Jvm.ClassFile.FieldType.long)) (rm_X0_layers (u9.1 - u.1) (u9.2.1 - u.2.1)) (va_Pc [.ref x0, .int x1, .int x2, .int x3, .int x4, .int x5] (CPre D dA A u)) (va_Ql (fun r u => r = r0 ∧ u = u9) (CPost D dA A) A) (u9.1 - u.1) (u9.2.1 - u.2.1) A := by
  refine Met.ofW (cc := cX0_layers) (maxL := 7) (ret := (Option.some Jvm.ClassFile.FieldType.long)) (by decide) rfl ?_
  intro p e s m args below meth c s₁ B hml hv
  have hx := B.exec
  have hb := B.bytes
  have hr := B.returns
  have hts := atoms_spec (ws := (ws_ yX0_layers cX0_layers 7 (Option.some Jvm.ClassFile.FieldType.long))) B.pre
  have hts : ∀ w ∈ lw_all, w.before args s = true := fun w h => hts w (List.mem_cons_of_mem _ h)
  have hown : s.vm.findClass RX0 = some m.cls := findClass_of_methodNamed B.named
  have hlocks := B.notSynchronized
  obtain ⟨hav, hv⟩ := hv
  have C : CX p s m args c cX0_layers RX0 D dA := ⟨hx, hb, hown, hts, hv.2⟩
  have hw : CW D dA A s u s.heap [] := hv.1
  generalize hQ : MQ below (va_Ql (fun r u => r = r0 ∧ u = u9) (CPost D dA A) A) args s (u9.1 - u.1) (u9.2.1 - u.2.1) A = QQ
  have hent := lg_entry_eq m [.ref x0, .int x1, .int x2, .int x3, .int x4, .int x5] 7
  rw [← hav] at hent
  rw [hent]
  have hl := lv_entry ([.ref x0, .int x1, .int x2, .int x3, .int x4, .int x5]) (n := 7) (Nat.le_of_ble_eq_true rfl)
  generalize (lg_sl ([.ref x0, .int x1, .int x2, .int x3, .int x4, .int x5]) ++ List.replicate (7 - (lg_sl ([.ref x0, .int x1, .int x2, .int x3, .int x4, .int x5])).length) Slot.unset).toArray = ls at hl ⊢
  have hl : lv_has ls 7 [(0, .ref x0), (1, .int x1), (2, .int x2), (3, .int x3), (4, .int x4), (5, .int x5)] := hl
  obtain ⟨cc, ecc⟩ : ∃ z : Nat, z = 0 := ⟨0, rfl⟩
  obtain ⟨ss, ess⟩ : ∃ z : Nat, z = 0 := ⟨0, rfl⟩
  have hcc : cc + u.1 = u.1 := by omega
  have hss : ss + u.2.1 = u.2.1 := by omega
  suffices hgo : W p l e (rm_X0_layers (u9.1 - u.1) (u9.2.1 - u.2.1)) s m args below meth c s.heap [] cc ss QQ (F0 m 0 ls []) by rw [ecc, ess] at hgo; exact hgo
  have ⟨pu, qu, _, _⟩ := mo_X0_layers hm
  have hB30 : ∀ (h : CH) (y0 : Int64) (cc ss : Nat) (H : Heap) (locs : List Loc) (ls : Array Slot), m_X0_layers_30 f h y0 = some (r0, u9) → CW D dA A s h H locs → cc + u.1 = h.1 → ss + u.2.1 = h.2.1 → lv_has ls 7 [] → W p l e (rm_X0_layers (u9.1 - u.1) (u9.2.1 - u.2.1)) s m args below meth c H locs cc ss QQ (F0 m 30 ls [.long y0]) := by
    intro h y0 cc ss H locs ls hm hw hcc hss hl
    have hmo := mo_X0_layers_30  h y0 _ hm
    have sb_ : h.1 ≤ u9.1 := hmo.1
    have tb_ : h.2.1 ≤ u9.2.1 := hmo.2.1
    rw [m_X0_layers_30] at hm
    obtain ⟨er, eh⟩ := retE hm
    have ec : cc = u9.1 - u.1 := by rw [← eh]; omega
    have es : ss = u9.2.1 - u.2.1 := by rw [← eh]; omega
    rw [ec, es, ← hQ]
    exact W.lret (v := y0) hx hb hr (fun t ht hW => ⟨⟨y0, h, rfl, ⟨er, eh⟩, ⟨by rw [ht]; exact hw.1, by rw [ht]; exact hw.2.1⟩⟩, hw.2.2.1.F ht⟩) hw.2.2.1.2.2 dX0_layers_30
  have hB11 : ∀ (h : CH) (x0 : Nat) (x1 : Int32) (x2 : Int32) (y0 : Int32) (cc ss : Nat) (H : Heap) (locs : List Loc) (ls : Array Slot), m_X0_layers_11 f h x0 x1 x2 y0 = some (r0, u9) → CW D dA A s h H locs → cc + u.1 = h.1 → ss + u.2.1 = h.2.1 → lv_has ls 7 [(0, .ref x0), (1, .int x1), (2, .int x2)] → W p l e (rm_X0_layers (u9.1 - u.1) (u9.2.1 - u.2.1)) s m args below meth c H locs cc ss QQ (F0 m 11 ls [.int y0]) := by
    intro h x0 x1 x2 y0 cc ss H locs ls hm hw hcc hss hl
    have hmo := mo_X0_layers_11  h x0 x1 x2 y0 _ hm
    have sb_ : h.1 ≤ u9.1 := hmo.1
    have tb_ : h.2.1 ≤ u9.2.1 := hmo.2.1
    rw [m_X0_layers_11] at hm
    refine lv_istore (lv' := [(6, .int y0), (0, .ref x0), (1, .int x1), (2, .int x2)]) hx hb dX0_layers_11 hl (by decide) rfl (fun ls hl => ?_)
    refine lv_iload hx hb dX0_layers_13 (lv_at hl 0 rfl) ?_
    refine lv_if_ge (tgt := 24) hx hb dX0_layers_15 (by decide) (fun c1 => ?_) (fun c1 => ?_)
    · have hm := ifT hm c1
      refine lv_aload_n hx hb dX0_layers_24 rfl (lv_at hl 1 rfl) ?_
      refine lv_iload_n hx hb dX0_layers_25 rfl (lv_at hl 2 rfl) ?_
      refine lv_iload_n hx hb dX0_layers_26 rfl (lv_at hl 3 rfl) ?_
      obtain ⟨g2, hm⟩ := gdE hm
      obtain ⟨r4, h3, er4, hm⟩ := bd2E hm
      have lh3 := mo_X0_layersOf er4
      have ph3 : h.1 ≤ h3.1 := lh3.1
      have qh3 : h.2.1 ≤ h3.2.1 := lh3.2.1
      have hmo := mo_X0_layers_30   h3 r4 _ hm
      have sh3 : h3.1 ≤ u9.1 := hmo.1
      have th3 : h3.2.1 ≤ u9.2.1 := hmo.2.1
      refine cg_calll hw lh3 (va_runV (As := [.int x1, .int x2]) (rest := []) ⟨hx, hb, hml, hown, hts⟩ (w_X0_layersOf l er4) (cw_X0_layersOf hts q1307 ⟨Nat.le_of_ble_eq_true rfl, Nat.le_of_ble_eq_true rfl⟩) (cg_preV C hw g2 rfl _) rfl rfl hl.1 rfl (lv_room (Nat.le_of_ble_eq_true rfl)) dX0_layers_27 ⟨show cc + (h3.1 - h.1) ≤ u9.1 - u.1 by omega, show ss + (h3.2.1 - h.2.1) ≤ u9.2.1 - u.2.1 by omega⟩) (fun H locs hw => ?_)
      exact hB30 h3 r4 _ _ _ _ _ hm hw (by omega) (by omega) (lv_sub hl [] rfl)
    · have hm := ifF hm c1
      refine lv_iload hx hb dX0_layers_18 (lv_at hl 0 rfl) ?_
      refine lv_i2l hx hb dX0_layers_20 rfl ?_
      refine lv_goto (tgt := 30) hx hb dX0_layers_21 (by decide) ?_
      exact hB30 h (Int32.toInt64 y0) _ _ _ _ _ hm hw (by omega) (by omega) (lv_sub hl [] rfl)
  rw [m_X0_layers] at hm
  refine lv_aload_n hx hb dX0_layers_0 rfl (lv_at hl 0 rfl) ?_
  refine lv_iload_n hx hb dX0_layers_1 rfl (lv_at hl 1 rfl) ?_
  refine lv_iload_n hx hb dX0_layers_2 rfl (lv_at hl 2 rfl) ?_
  refine lv_iload_n hx hb dX0_layers_3 rfl (lv_at hl 3 rfl) ?_
  refine lv_iload hx hb dX0_layers_4 (lv_at hl 4 rfl) ?_
  refine lv_iload hx hb dX0_layers_6 (lv_at hl 5 rfl) ?_
  obtain ⟨g1, hm⟩ := gdE hm
  obtain ⟨r3, h2, er3, hm⟩ := bd2E hm
  have lh2 := mo_X0_asksPlane er3
  have ph2 : u.1 ≤ h2.1 := lh2.1
  have qh2 : u.2.1 ≤ h2.2.1 := lh2.2.1
  have hmo := mo_X0_layers_11   h2 x0 x1 x2 r3 _ hm
  have sh2 : h2.1 ≤ u9.1 := hmo.1
  have th2 : h2.2.1 ≤ u9.2.1 := hmo.2.1
  refine cg_calli hw lh2 (va_runV (As := [.int x1, .int x2, .int x3, .int x4, .int x5]) (rest := []) ⟨hx, hb, hml, hown, hts⟩ (w_X0_asksPlane l er3) (cw_X0_asksPlane hts q1303 ⟨Nat.le_of_ble_eq_true rfl, Nat.le_of_ble_eq_true rfl⟩) (cg_preV C hw g1 rfl _) rfl rfl hl.1 rfl (lv_room (Nat.le_of_ble_eq_true rfl)) dX0_layers_8 ⟨show cc + (h2.1 - u.1) ≤ u9.1 - u.1 by omega, show ss + (h2.2.1 - u.2.1) ≤ u9.2.1 - u.2.1 by omega⟩) (fun H locs hw => ?_)
  exact hB11 h2 x0 x1 x2 r3 _ _ _ _ _ hm hw (by omega) (by omega) (lv_sub hl [0, 1, 2] rfl)
def m_X0_planar_37 (f : Nat) (h : CH) (y0 : Int64) : Option (Int64 × CH) := some (y0, h)
theorem mo_X0_planar_37 {f : Nat} : ∀ (h : CH) (y0 : Int64) (r : (Int64 × CH)), m_X0_planar_37 f h y0 = some r → le2 h r.2 := by
  intro h y0 r hm
  rw [m_X0_planar_37] at hm
  cases hm
  exact le2.rf
def m_X0_planar_36 (f : Nat) (h : CH) (y0 : Int64) (y1 : Int64) : Option (Int64 × CH) := gd (nzL y1) <|
    m_X0_planar_37 f h (y0 / y1)
theorem mo_X0_planar_36 {f : Nat} : ∀ (h : CH) (y0 : Int64) (y1 : Int64) (r : (Int64 × CH)), m_X0_planar_36 f h y0 y1 = some r → le2 h r.2 := by
  intro h y0 y1 r hm
  rw [m_X0_planar_36] at hm
  obtain ⟨g1, hm⟩ := gdE hm
  exact (mo_X0_planar_37  h (y0 / y1) _ hm)
def m_X0_planar_30 (f : Nat) (h : CH) (x0 : Nat) (x1 : Int32) (x2 : Int32) (y0 : Int64) : Option (Int64 × CH) := gd (isC h x0 1) <|
    bd2 (m_X0_layersOf f h x0 x1 x2) fun r3 h2 =>
    m_X0_planar_36 f h2 y0 r3
theorem mo_X0_planar_30 {f : Nat} : ∀ (h : CH) (x0 : Nat) (x1 : Int32) (x2 : Int32) (y0 : Int64) (r : (Int64 × CH)), m_X0_planar_30 f h x0 x1 x2 y0 = some r → le2 h r.2 := by
  intro h x0 x1 x2 y0 r hm
  rw [m_X0_planar_30] at hm
  obtain ⟨g1, hm⟩ := gdE hm
  obtain ⟨r3, h2, er3, hm⟩ := bd2E hm
  have lh2 := mo_X0_layersOf er3
  exact (lh2.tr (mo_X0_planar_36  h2 y0 r3 _ hm))
def m_X0_planar_11 (f : Nat) (h : CH) (x0 : Nat) (x1 : Int32) (x2 : Int32) (y0 : Int32) : Option (Int64 × CH) := if 0 ≤ y0 then
    gd (isC h x0 1) <|
    bd2 (m_X0_index f h x0 x1 x2) fun r4 h3 =>
    m_X0_planar_30 f h3 x0 x1 x2 r4
    else m_X0_planar_37 f h (Int32.toInt64 y0)
theorem mo_X0_planar_11 {f : Nat} : ∀ (h : CH) (x0 : Nat) (x1 : Int32) (x2 : Int32) (y0 : Int32) (r : (Int64 × CH)), m_X0_planar_11 f h x0 x1 x2 y0 = some r → le2 h r.2 := by
  intro h x0 x1 x2 y0 r hm
  rw [m_X0_planar_11] at hm
  by_cases c1 : 0 ≤ y0
  · have hm := ifT hm c1
    obtain ⟨g2, hm⟩ := gdE hm
    obtain ⟨r4, h3, er4, hm⟩ := bd2E hm
    have lh3 := mo_X0_index er4
    exact (lh3.tr (mo_X0_planar_30  h3 x0 x1 x2 r4 _ hm))
  · have hm := ifF hm c1
    exact (mo_X0_planar_37  h (Int32.toInt64 y0) _ hm)
def m_X0_planar (f : Nat) (u : CH) (x0 : Nat) (x1 : Int32) (x2 : Int32) (x3 : Int32) (x4 : Int32) (x5 : Int32) : Option (Int64 × CH) := gd (isC u x0 1) <|
    bd2 (m_X0_asksPlane f u x0 x1 x2 x3 x4 x5) fun r3 h2 =>
    m_X0_planar_11 f h2 x0 x1 x2 r3
theorem mo_X0_planar {f : Nat} {u : CH} {x0 : Nat} {x1 : Int32} {x2 : Int32} {x3 : Int32} {x4 : Int32} {x5 : Int32} {r0 : Int64} {u9 : CH} (hm : m_X0_planar f u x0 x1 x2 x3 x4 x5 = some (r0, u9)) : le2 u u9 := by
  rw [m_X0_planar] at hm
  obtain ⟨g1, hm⟩ := gdE hm
  obtain ⟨r3, h2, er3, hm⟩ := bd2E hm
  have lh2 := mo_X0_asksPlane er3
  exact (lh2.tr (mo_X0_planar_11  h2 x0 x1 x2 r3 _ hm))
abbrev rm_X0_planar (mc ms : Nat) : Room := { frames := 109, cells := mc, slots := ms, locals := 4232 }
theorem cw_X0_planar {R : Room} {s : State} {args : Array Value} {own : String} {idx mc ms : Nat} (hts : ∀ w ∈ lw_all, w.before args s = true) (hl : Cond.methodLink own idx yX0_planar ∈ lw_all) (hR : 109 + 1 ≤ R.frames ∧ 8 + (7 + 11) + 4232 ≤ R.locals) : CallW R s args own RX0 idx yX0_planar cX0_planar 7 (Option.some Jvm.ClassFile.FieldType.long) (ws_ yX0_planar cX0_planar 7 (Option.some Jvm.ClassFile.FieldType.long)) (rm_X0_planar mc ms) mc ms 5 := cwV 5 hts (lw_V hl q1312 q1313 q119 q1314) rfl rfl rfl (by decide +kernel) hR
set_option maxHeartbeats 4000000 in
set_option maxRecDepth 100000 in
theorem w_X0_planar (l : Launch) {D : va_G} {dA : Nat → ClassId} {A : Nat → Prop} {f : Nat} {u u9 : CH} {r0 : Int64} {x0 : Nat} {x1 : Int32} {x2 : Int32} {x3 : Int32} {x4 : Int32} {x5 : Int32} (hm : m_X0_planar f u x0 x1 x2 x3 x4 x5 = some (r0, u9)) : Met l yX0_planar (ws_ yX0_planar cX0_planar 7 (Option.some Jvm.ClassFile.FieldType.long)) (rm_X0_planar (u9.1 - u.1) (u9.2.1 - u.2.1)) (va_Pc [.ref x0, .int x1, .int x2, .int x3, .int x4, .int x5] (CPre D dA A u)) (va_Ql (fun r u => r = r0 ∧ u = u9) (CPost D dA A) A) (u9.1 - u.1) (u9.2.1 - u.2.1) A := by
  refine Met.ofW (cc := cX0_planar) (maxL := 7) (ret := (Option.some Jvm.ClassFile.FieldType.long)) (by decide) rfl ?_
  intro p e s m args below meth c s₁ B hml hv
  have hx := B.exec
  have hb := B.bytes
  have hr := B.returns
  have hts := atoms_spec (ws := (ws_ yX0_planar cX0_planar 7 (Option.some Jvm.ClassFile.FieldType.long))) B.pre
  have hts : ∀ w ∈ lw_all, w.before args s = true := fun w h => hts w (List.mem_cons_of_mem _ h)
  have hown : s.vm.findClass RX0 = some m.cls := findClass_of_methodNamed B.named
  have hlocks := B.notSynchronized
  obtain ⟨hav, hv⟩ := hv
  have C : CX p s m args c cX0_planar RX0 D dA := ⟨hx, hb, hown, hts, hv.2⟩
  have hw : CW D dA A s u s.heap [] := hv.1
  generalize hQ : MQ below (va_Ql (fun r u => r = r0 ∧ u = u9) (CPost D dA A) A) args s (u9.1 - u.1) (u9.2.1 - u.2.1) A = QQ
  have hent := lg_entry_eq m [.ref x0, .int x1, .int x2, .int x3, .int x4, .int x5] 7
  rw [← hav] at hent
  rw [hent]
  have hl := lv_entry ([.ref x0, .int x1, .int x2, .int x3, .int x4, .int x5]) (n := 7) (Nat.le_of_ble_eq_true rfl)
  generalize (lg_sl ([.ref x0, .int x1, .int x2, .int x3, .int x4, .int x5]) ++ List.replicate (7 - (lg_sl ([.ref x0, .int x1, .int x2, .int x3, .int x4, .int x5])).length) Slot.unset).toArray = ls at hl ⊢
  have hl : lv_has ls 7 [(0, .ref x0), (1, .int x1), (2, .int x2), (3, .int x3), (4, .int x4), (5, .int x5)] := hl
  obtain ⟨cc, ecc⟩ : ∃ z : Nat, z = 0 := ⟨0, rfl⟩
  obtain ⟨ss, ess⟩ : ∃ z : Nat, z = 0 := ⟨0, rfl⟩
  have hcc : cc + u.1 = u.1 := by omega
  have hss : ss + u.2.1 = u.2.1 := by omega
  suffices hgo : W p l e (rm_X0_planar (u9.1 - u.1) (u9.2.1 - u.2.1)) s m args below meth c s.heap [] cc ss QQ (F0 m 0 ls []) by rw [ecc, ess] at hgo; exact hgo
  have ⟨pu, qu, _, _⟩ := mo_X0_planar hm
  have hB37 : ∀ (h : CH) (y0 : Int64) (cc ss : Nat) (H : Heap) (locs : List Loc) (ls : Array Slot), m_X0_planar_37 f h y0 = some (r0, u9) → CW D dA A s h H locs → cc + u.1 = h.1 → ss + u.2.1 = h.2.1 → lv_has ls 7 [] → W p l e (rm_X0_planar (u9.1 - u.1) (u9.2.1 - u.2.1)) s m args below meth c H locs cc ss QQ (F0 m 37 ls [.long y0]) := by
    intro h y0 cc ss H locs ls hm hw hcc hss hl
    have hmo := mo_X0_planar_37  h y0 _ hm
    have sb_ : h.1 ≤ u9.1 := hmo.1
    have tb_ : h.2.1 ≤ u9.2.1 := hmo.2.1
    rw [m_X0_planar_37] at hm
    obtain ⟨er, eh⟩ := retE hm
    have ec : cc = u9.1 - u.1 := by rw [← eh]; omega
    have es : ss = u9.2.1 - u.2.1 := by rw [← eh]; omega
    rw [ec, es, ← hQ]
    exact W.lret (v := y0) hx hb hr (fun t ht hW => ⟨⟨y0, h, rfl, ⟨er, eh⟩, ⟨by rw [ht]; exact hw.1, by rw [ht]; exact hw.2.1⟩⟩, hw.2.2.1.F ht⟩) hw.2.2.1.2.2 dX0_planar_37
  have hB36 : ∀ (h : CH) (y0 : Int64) (y1 : Int64) (cc ss : Nat) (H : Heap) (locs : List Loc) (ls : Array Slot), m_X0_planar_36 f h y0 y1 = some (r0, u9) → CW D dA A s h H locs → cc + u.1 = h.1 → ss + u.2.1 = h.2.1 → lv_has ls 7 [] → W p l e (rm_X0_planar (u9.1 - u.1) (u9.2.1 - u.2.1)) s m args below meth c H locs cc ss QQ (F0 m 36 ls [.long y1, .long y0]) := by
    intro h y0 y1 cc ss H locs ls hm hw hcc hss hl
    have hmo := mo_X0_planar_36  h y0 y1 _ hm
    have sb_ : h.1 ≤ u9.1 := hmo.1
    have tb_ : h.2.1 ≤ u9.2.1 := hmo.2.1
    rw [m_X0_planar_36] at hm
    obtain ⟨g1, hm⟩ := gdE hm
    refine lv_ldiv hx hb dX0_planar_36 (nzL_ne g1) ?_
    exact hB37 h (y0 / y1) _ _ _ _ _ hm hw (by omega) (by omega) (lv_sub hl [] rfl)
  have hB30 : ∀ (h : CH) (x0 : Nat) (x1 : Int32) (x2 : Int32) (y0 : Int64) (cc ss : Nat) (H : Heap) (locs : List Loc) (ls : Array Slot), m_X0_planar_30 f h x0 x1 x2 y0 = some (r0, u9) → CW D dA A s h H locs → cc + u.1 = h.1 → ss + u.2.1 = h.2.1 → lv_has ls 7 [(0, .ref x0), (1, .int x1), (2, .int x2)] → W p l e (rm_X0_planar (u9.1 - u.1) (u9.2.1 - u.2.1)) s m args below meth c H locs cc ss QQ (F0 m 30 ls [.long y0]) := by
    intro h x0 x1 x2 y0 cc ss H locs ls hm hw hcc hss hl
    have hmo := mo_X0_planar_30  h x0 x1 x2 y0 _ hm
    have sb_ : h.1 ≤ u9.1 := hmo.1
    have tb_ : h.2.1 ≤ u9.2.1 := hmo.2.1
    rw [m_X0_planar_30] at hm
    refine lv_aload_n hx hb dX0_planar_30 rfl (lv_at hl 0 rfl) ?_
    refine lv_iload_n hx hb dX0_planar_31 rfl (lv_at hl 1 rfl) ?_
    refine lv_iload_n hx hb dX0_planar_32 rfl (lv_at hl 2 rfl) ?_
    obtain ⟨g1, hm⟩ := gdE hm
    obtain ⟨r3, h2, er3, hm⟩ := bd2E hm
    have lh2 := mo_X0_layersOf er3
    have ph2 : h.1 ≤ h2.1 := lh2.1
    have qh2 : h.2.1 ≤ h2.2.1 := lh2.2.1
    have hmo := mo_X0_planar_36   h2 y0 r3 _ hm
    have sh2 : h2.1 ≤ u9.1 := hmo.1
    have th2 : h2.2.1 ≤ u9.2.1 := hmo.2.1
    refine cg_calll hw lh2 (va_runV (As := [.int x1, .int x2]) (rest := [.long y0]) ⟨hx, hb, hml, hown, hts⟩ (w_X0_layersOf l er3) (cw_X0_layersOf hts q1307 ⟨Nat.le_of_ble_eq_true rfl, Nat.le_of_ble_eq_true rfl⟩) (cg_preV C hw g1 rfl _) rfl rfl hl.1 rfl (lv_room (Nat.le_of_ble_eq_true rfl)) dX0_planar_33 ⟨show cc + (h2.1 - h.1) ≤ u9.1 - u.1 by omega, show ss + (h2.2.1 - h.2.1) ≤ u9.2.1 - u.2.1 by omega⟩) (fun H locs hw => ?_)
    exact hB36 h2 y0 r3 _ _ _ _ _ hm hw (by omega) (by omega) (lv_sub hl [] rfl)
  have hB11 : ∀ (h : CH) (x0 : Nat) (x1 : Int32) (x2 : Int32) (y0 : Int32) (cc ss : Nat) (H : Heap) (locs : List Loc) (ls : Array Slot), m_X0_planar_11 f h x0 x1 x2 y0 = some (r0, u9) → CW D dA A s h H locs → cc + u.1 = h.1 → ss + u.2.1 = h.2.1 → lv_has ls 7 [(0, .ref x0), (1, .int x1), (2, .int x2)] → W p l e (rm_X0_planar (u9.1 - u.1) (u9.2.1 - u.2.1)) s m args below meth c H locs cc ss QQ (F0 m 11 ls [.int y0]) := by
    intro h x0 x1 x2 y0 cc ss H locs ls hm hw hcc hss hl
    have hmo := mo_X0_planar_11  h x0 x1 x2 y0 _ hm
    have sb_ : h.1 ≤ u9.1 := hmo.1
    have tb_ : h.2.1 ≤ u9.2.1 := hmo.2.1
    rw [m_X0_planar_11] at hm
    refine lv_istore (lv' := [(6, .int y0), (0, .ref x0), (1, .int x1), (2, .int x2)]) hx hb dX0_planar_11 hl (by decide) rfl (fun ls hl => ?_)
    refine lv_iload hx hb dX0_planar_13 (lv_at hl 0 rfl) ?_
    refine lv_if_ge (tgt := 24) hx hb dX0_planar_15 (by decide) (fun c1 => ?_) (fun c1 => ?_)
    · have hm := ifT hm c1
      refine lv_aload_n hx hb dX0_planar_24 rfl (lv_at hl 1 rfl) ?_
      refine lv_iload_n hx hb dX0_planar_25 rfl (lv_at hl 2 rfl) ?_
      refine lv_iload_n hx hb dX0_planar_26 rfl (lv_at hl 3 rfl) ?_
      obtain ⟨g2, hm⟩ := gdE hm
      obtain ⟨r4, h3, er4, hm⟩ := bd2E hm
      have lh3 := mo_X0_index er4
      have ph3 : h.1 ≤ h3.1 := lh3.1
      have qh3 : h.2.1 ≤ h3.2.1 := lh3.2.1
      have hmo := mo_X0_planar_30   h3 x0 x1 x2 r4 _ hm
      have sh3 : h3.1 ≤ u9.1 := hmo.1
      have th3 : h3.2.1 ≤ u9.2.1 := hmo.2.1
      refine cg_calll hw lh3 (va_runV (As := [.int x1, .int x2]) (rest := []) ⟨hx, hb, hml, hown, hts⟩ (w_X0_index l er4) (cw_X0_index hts q1315 ⟨Nat.le_of_ble_eq_true rfl, Nat.le_of_ble_eq_true rfl⟩) (cg_preV C hw g2 rfl _) rfl rfl hl.1 rfl (lv_room (Nat.le_of_ble_eq_true rfl)) dX0_planar_27 ⟨show cc + (h3.1 - h.1) ≤ u9.1 - u.1 by omega, show ss + (h3.2.1 - h.2.1) ≤ u9.2.1 - u.2.1 by omega⟩) (fun H locs hw => ?_)
      exact hB30 h3 x0 x1 x2 r4 _ _ _ _ _ hm hw (by omega) (by omega) (lv_sub hl [1, 2, 3] rfl)
    · have hm := ifF hm c1
      refine lv_iload hx hb dX0_planar_18 (lv_at hl 0 rfl) ?_
      refine lv_i2l hx hb dX0_planar_20 rfl ?_
      refine lv_goto (tgt := 37) hx hb dX0_planar_21 (by decide) ?_
      exact hB37 h (Int32.toInt64 y0) _ _ _ _ _ hm hw (by omega) (by omega) (lv_sub hl [] rfl)
  rw [m_X0_planar] at hm
  refine lv_aload_n hx hb dX0_planar_0 rfl (lv_at hl 0 rfl) ?_
  refine lv_iload_n hx hb dX0_planar_1 rfl (lv_at hl 1 rfl) ?_
  refine lv_iload_n hx hb dX0_planar_2 rfl (lv_at hl 2 rfl) ?_
  refine lv_iload_n hx hb dX0_planar_3 rfl (lv_at hl 3 rfl) ?_
  refine lv_iload hx hb dX0_planar_4 (lv_at hl 4 rfl) ?_
  refine lv_iload hx hb dX0_planar_6 (lv_at hl 5 rfl) ?_
  obtain ⟨g1, hm⟩ := gdE hm
  obtain ⟨r3, h2, er3, hm⟩ := bd2E hm
  have lh2 := mo_X0_asksPlane er3
  have ph2 : u.1 ≤ h2.1 := lh2.1
  have qh2 : u.2.1 ≤ h2.2.1 := lh2.2.1
  have hmo := mo_X0_planar_11   h2 x0 x1 x2 r3 _ hm
  have sh2 : h2.1 ≤ u9.1 := hmo.1
  have th2 : h2.2.1 ≤ u9.2.1 := hmo.2.1
  refine cg_calli hw lh2 (va_runV (As := [.int x1, .int x2, .int x3, .int x4, .int x5]) (rest := []) ⟨hx, hb, hml, hown, hts⟩ (w_X0_asksPlane l er3) (cw_X0_asksPlane hts q1303 ⟨Nat.le_of_ble_eq_true rfl, Nat.le_of_ble_eq_true rfl⟩) (cg_preV C hw g1 rfl _) rfl rfl hl.1 rfl (lv_room (Nat.le_of_ble_eq_true rfl)) dX0_planar_8 ⟨show cc + (h2.1 - u.1) ≤ u9.1 - u.1 by omega, show ss + (h2.2.1 - u.2.1) ≤ u9.2.1 - u.2.1 by omega⟩) (fun H locs hw => ?_)
  exact hB11 h2 x0 x1 x2 r3 _ _ _ _ _ hm hw (by omega) (by omega) (lv_sub hl [0, 1, 2] rfl)
def m_X0_best_206 (f : Nat) (h : CH) (x11 : Int32) : Option (Int32 × CH) := some (x11, h)
theorem mo_X0_best_206 {f : Nat} : ∀ (h : CH) (x11 : Int32) (r : (Int32 × CH)), m_X0_best_206 f h x11 = some r → le2 h r.2 := by
  intro h x11 r hm
  rw [m_X0_best_206] at hm
  cases hm
  exact le2.rf
def m_X0_best_200 (f : Nat) (k76 : CH → Nat → Nat → Nat → Int64 → Int32 → Int32 → Option (Int32 × CH)) (h : CH) (x0 : Nat) (x7 : Nat) (x8 : Nat) (x9 : Int64) (x11 : Int32) (x12 : Int32) : Option (Int32 × CH) := nmv ((x12 + 1) : Int32) fun v1 =>
    k76 h x0 x7 x8 x9 x11 v1
theorem mo_X0_best_200 {f : Nat} {k76 : CH → Nat → Nat → Nat → Int64 → Int32 → Int32 → Option (Int32 × CH)} (hk76 : ∀ (h : CH) (x0 : Nat) (x7 : Nat) (x8 : Nat) (x9 : Int64) (x11 : Int32) (x12 : Int32) (r : (Int32 × CH)), k76 h x0 x7 x8 x9 x11 x12 = some r → le2 h r.2) : ∀ (h : CH) (x0 : Nat) (x7 : Nat) (x8 : Nat) (x9 : Int64) (x11 : Int32) (x12 : Int32) (r : (Int32 × CH)), m_X0_best_200 f k76 h x0 x7 x8 x9 x11 x12 = some r → le2 h r.2 := by
  intro h x0 x7 x8 x9 x11 x12 r hm
  rw [m_X0_best_200] at hm
  obtain ⟨v1, ev1, hm⟩ := nmE hm
  exact (hk76 h x0 x7 x8 x9 x11 v1 _ hm)
def m_X0_best_194 (f : Nat) (k76 : CH → Nat → Nat → Nat → Int64 → Int32 → Int32 → Option (Int32 × CH)) (k86 : CH → Nat → Nat → Nat → Int64 → Int32 → Int32 → Int32 → Option (Int32 × CH)) (h : CH) (x0 : Nat) (x7 : Nat) (x8 : Nat) (x9 : Int64) (x11 : Int32) (x12 : Int32) (x13 : Int32) : Option (Int32 × CH) := nmv ((x13 + 1) : Int32) fun v1 =>
    k86 h x0 x7 x8 x9 x11 x12 v1
theorem mo_X0_best_194 {f : Nat} {k76 : CH → Nat → Nat → Nat → Int64 → Int32 → Int32 → Option (Int32 × CH)} (hk76 : ∀ (h : CH) (x0 : Nat) (x7 : Nat) (x8 : Nat) (x9 : Int64) (x11 : Int32) (x12 : Int32) (r : (Int32 × CH)), k76 h x0 x7 x8 x9 x11 x12 = some r → le2 h r.2) {k86 : CH → Nat → Nat → Nat → Int64 → Int32 → Int32 → Int32 → Option (Int32 × CH)} (hk86 : ∀ (h : CH) (x0 : Nat) (x7 : Nat) (x8 : Nat) (x9 : Int64) (x11 : Int32) (x12 : Int32) (x13 : Int32) (r : (Int32 × CH)), k86 h x0 x7 x8 x9 x11 x12 x13 = some r → le2 h r.2) : ∀ (h : CH) (x0 : Nat) (x7 : Nat) (x8 : Nat) (x9 : Int64) (x11 : Int32) (x12 : Int32) (x13 : Int32) (r : (Int32 × CH)), m_X0_best_194 f k76 k86 h x0 x7 x8 x9 x11 x12 x13 = some r → le2 h r.2 := by
  intro h x0 x7 x8 x9 x11 x12 x13 r hm
  rw [m_X0_best_194] at hm
  obtain ⟨v1, ev1, hm⟩ := nmE hm
  exact (hk86 h x0 x7 x8 x9 x11 x12 v1 _ hm)
def m_X0_best_188 (f : Nat) (k76 : CH → Nat → Nat → Nat → Int64 → Int32 → Int32 → Option (Int32 × CH)) (k86 : CH → Nat → Nat → Nat → Int64 → Int32 → Int32 → Int32 → Option (Int32 × CH)) (k96 : CH → Nat → Nat → Nat → Int64 → Int32 → Int32 → Int32 → Int32 → Option (Int32 × CH)) (h : CH) (x0 : Nat) (x7 : Nat) (x8 : Nat) (x9 : Int64) (x11 : Int32) (x12 : Int32) (x13 : Int32) (x14 : Int32) : Option (Int32 × CH) := nmv ((x14 + 1) : Int32) fun v1 =>
    k96 h x0 x7 x8 x9 x11 x12 x13 v1
theorem mo_X0_best_188 {f : Nat} {k76 : CH → Nat → Nat → Nat → Int64 → Int32 → Int32 → Option (Int32 × CH)} (hk76 : ∀ (h : CH) (x0 : Nat) (x7 : Nat) (x8 : Nat) (x9 : Int64) (x11 : Int32) (x12 : Int32) (r : (Int32 × CH)), k76 h x0 x7 x8 x9 x11 x12 = some r → le2 h r.2) {k86 : CH → Nat → Nat → Nat → Int64 → Int32 → Int32 → Int32 → Option (Int32 × CH)} (hk86 : ∀ (h : CH) (x0 : Nat) (x7 : Nat) (x8 : Nat) (x9 : Int64) (x11 : Int32) (x12 : Int32) (x13 : Int32) (r : (Int32 × CH)), k86 h x0 x7 x8 x9 x11 x12 x13 = some r → le2 h r.2) {k96 : CH → Nat → Nat → Nat → Int64 → Int32 → Int32 → Int32 → Int32 → Option (Int32 × CH)} (hk96 : ∀ (h : CH) (x0 : Nat) (x7 : Nat) (x8 : Nat) (x9 : Int64) (x11 : Int32) (x12 : Int32) (x13 : Int32) (x14 : Int32) (r : (Int32 × CH)), k96 h x0 x7 x8 x9 x11 x12 x13 x14 = some r → le2 h r.2) : ∀ (h : CH) (x0 : Nat) (x7 : Nat) (x8 : Nat) (x9 : Int64) (x11 : Int32) (x12 : Int32) (x13 : Int32) (x14 : Int32) (r : (Int32 × CH)), m_X0_best_188 f k76 k86 k96 h x0 x7 x8 x9 x11 x12 x13 x14 = some r → le2 h r.2 := by
  intro h x0 x7 x8 x9 x11 x12 x13 x14 r hm
  rw [m_X0_best_188] at hm
  obtain ⟨v1, ev1, hm⟩ := nmE hm
  exact (hk96 h x0 x7 x8 x9 x11 x12 x13 v1 _ hm)
def m_X0_best_148 (f : Nat) (k76 : CH → Nat → Nat → Nat → Int64 → Int32 → Int32 → Option (Int32 × CH)) (k86 : CH → Nat → Nat → Nat → Int64 → Int32 → Int32 → Int32 → Option (Int32 × CH)) (k96 : CH → Nat → Nat → Nat → Int64 → Int32 → Int32 → Int32 → Int32 → Option (Int32 × CH)) (h : CH) (x0 : Nat) (x7 : Nat) (x8 : Nat) (x9 : Int64) (x11 : Int32) (x12 : Int32) (x13 : Int32) (x14 : Int32) (y0 : Int64) (y1 : Int64) : Option (Int32 × CH) := gd (nzL y1) <|
    nmv ((y0 / y1) : Int64) fun v2 =>
    if x9 < v2 then
    nmv ((((((100 : Int32) * (x12 + (3 : Int32))) + ((10 : Int32) * (x13 + (3 : Int32)))) + x14) + (3 : Int32)) : Int32) fun v4 =>
    m_X0_best_188 f k76 k86 k96 h x0 x7 x8 v2 v4 x12 x13 x14
    else m_X0_best_188 f k76 k86 k96 h x0 x7 x8 x9 x11 x12 x13 x14
theorem mo_X0_best_148 {f : Nat} {k76 : CH → Nat → Nat → Nat → Int64 → Int32 → Int32 → Option (Int32 × CH)} (hk76 : ∀ (h : CH) (x0 : Nat) (x7 : Nat) (x8 : Nat) (x9 : Int64) (x11 : Int32) (x12 : Int32) (r : (Int32 × CH)), k76 h x0 x7 x8 x9 x11 x12 = some r → le2 h r.2) {k86 : CH → Nat → Nat → Nat → Int64 → Int32 → Int32 → Int32 → Option (Int32 × CH)} (hk86 : ∀ (h : CH) (x0 : Nat) (x7 : Nat) (x8 : Nat) (x9 : Int64) (x11 : Int32) (x12 : Int32) (x13 : Int32) (r : (Int32 × CH)), k86 h x0 x7 x8 x9 x11 x12 x13 = some r → le2 h r.2) {k96 : CH → Nat → Nat → Nat → Int64 → Int32 → Int32 → Int32 → Int32 → Option (Int32 × CH)} (hk96 : ∀ (h : CH) (x0 : Nat) (x7 : Nat) (x8 : Nat) (x9 : Int64) (x11 : Int32) (x12 : Int32) (x13 : Int32) (x14 : Int32) (r : (Int32 × CH)), k96 h x0 x7 x8 x9 x11 x12 x13 x14 = some r → le2 h r.2) : ∀ (h : CH) (x0 : Nat) (x7 : Nat) (x8 : Nat) (x9 : Int64) (x11 : Int32) (x12 : Int32) (x13 : Int32) (x14 : Int32) (y0 : Int64) (y1 : Int64) (r : (Int32 × CH)), m_X0_best_148 f k76 k86 k96 h x0 x7 x8 x9 x11 x12 x13 x14 y0 y1 = some r → le2 h r.2 := by
  intro h x0 x7 x8 x9 x11 x12 x13 x14 y0 y1 r hm
  rw [m_X0_best_148] at hm
  obtain ⟨g1, hm⟩ := gdE hm
  obtain ⟨v2, ev2, hm⟩ := nmE hm
  by_cases c3 : x9 < v2
  · have hm := ifT hm c3
    obtain ⟨v4, ev4, hm⟩ := nmE hm
    exact (mo_X0_best_188 hk76 hk86 hk96 h x0 x7 x8 v2 v4 x12 x13 x14 _ hm)
  · have hm := ifF hm c3
    exact (mo_X0_best_188 hk76 hk86 hk96 h x0 x7 x8 x9 x11 x12 x13 x14 _ hm)
def m_X0_best_139 (f : Nat) (k76 : CH → Nat → Nat → Nat → Int64 → Int32 → Int32 → Option (Int32 × CH)) (k86 : CH → Nat → Nat → Nat → Int64 → Int32 → Int32 → Int32 → Option (Int32 × CH)) (k96 : CH → Nat → Nat → Nat → Int64 → Int32 → Int32 → Int32 → Int32 → Option (Int32 × CH)) (h : CH) (x0 : Nat) (x7 : Nat) (x8 : Nat) (x9 : Int64) (x11 : Int32) (x12 : Int32) (x13 : Int32) (x14 : Int32) (y0 : Int64) : Option (Int32 × CH) := bd (oR h 1 6 x0) fun a1 =>
    gd (isC h x7 3) <|
    bd2 (m_X2_across f h x7 a1) fun r4 h3 =>
    m_X0_best_148 f k76 k86 k96 h3 x0 x7 x8 x9 x11 x12 x13 x14 y0 r4
theorem mo_X0_best_139 {f : Nat} {k76 : CH → Nat → Nat → Nat → Int64 → Int32 → Int32 → Option (Int32 × CH)} (hk76 : ∀ (h : CH) (x0 : Nat) (x7 : Nat) (x8 : Nat) (x9 : Int64) (x11 : Int32) (x12 : Int32) (r : (Int32 × CH)), k76 h x0 x7 x8 x9 x11 x12 = some r → le2 h r.2) {k86 : CH → Nat → Nat → Nat → Int64 → Int32 → Int32 → Int32 → Option (Int32 × CH)} (hk86 : ∀ (h : CH) (x0 : Nat) (x7 : Nat) (x8 : Nat) (x9 : Int64) (x11 : Int32) (x12 : Int32) (x13 : Int32) (r : (Int32 × CH)), k86 h x0 x7 x8 x9 x11 x12 x13 = some r → le2 h r.2) {k96 : CH → Nat → Nat → Nat → Int64 → Int32 → Int32 → Int32 → Int32 → Option (Int32 × CH)} (hk96 : ∀ (h : CH) (x0 : Nat) (x7 : Nat) (x8 : Nat) (x9 : Int64) (x11 : Int32) (x12 : Int32) (x13 : Int32) (x14 : Int32) (r : (Int32 × CH)), k96 h x0 x7 x8 x9 x11 x12 x13 x14 = some r → le2 h r.2) : ∀ (h : CH) (x0 : Nat) (x7 : Nat) (x8 : Nat) (x9 : Int64) (x11 : Int32) (x12 : Int32) (x13 : Int32) (x14 : Int32) (y0 : Int64) (r : (Int32 × CH)), m_X0_best_139 f k76 k86 k96 h x0 x7 x8 x9 x11 x12 x13 x14 y0 = some r → le2 h r.2 := by
  intro h x0 x7 x8 x9 x11 x12 x13 x14 y0 r hm
  rw [m_X0_best_139] at hm
  obtain ⟨a1, ea1, hm⟩ := bdE hm
  obtain ⟨g2, hm⟩ := gdE hm
  obtain ⟨r4, h3, er4, hm⟩ := bd2E hm
  have lh3 := mo_X2_across er4
  exact (lh3.tr (mo_X0_best_148 hk76 hk86 hk96 h3 x0 x7 x8 x9 x11 x12 x13 x14 y0 r4 _ hm))
def m_X0_best_124 (f : Nat) (k76 : CH → Nat → Nat → Nat → Int64 → Int32 → Int32 → Option (Int32 × CH)) (k86 : CH → Nat → Nat → Nat → Int64 → Int32 → Int32 → Int32 → Option (Int32 × CH)) (k96 : CH → Nat → Nat → Nat → Int64 → Int32 → Int32 → Int32 → Int32 → Option (Int32 × CH)) (h : CH) (x0 : Nat) (x7 : Nat) (x8 : Nat) (x9 : Int64) (x11 : Int32) (x12 : Int32) (x13 : Int32) (x14 : Int32) (y0 : Int32) : Option (Int32 × CH) := if ¬ y0 = 0 then
    bd (oR h 1 6 x0) fun a2 =>
    gd (isC h x8 3) <|
    bd2 (m_X2_across f h x8 a2) fun r5 h4 =>
    m_X0_best_139 f k76 k86 k96 h4 x0 x7 x8 x9 x11 x12 x13 x14 r5
    else m_X0_best_188 f k76 k86 k96 h x0 x7 x8 x9 x11 x12 x13 x14
theorem mo_X0_best_124 {f : Nat} {k76 : CH → Nat → Nat → Nat → Int64 → Int32 → Int32 → Option (Int32 × CH)} (hk76 : ∀ (h : CH) (x0 : Nat) (x7 : Nat) (x8 : Nat) (x9 : Int64) (x11 : Int32) (x12 : Int32) (r : (Int32 × CH)), k76 h x0 x7 x8 x9 x11 x12 = some r → le2 h r.2) {k86 : CH → Nat → Nat → Nat → Int64 → Int32 → Int32 → Int32 → Option (Int32 × CH)} (hk86 : ∀ (h : CH) (x0 : Nat) (x7 : Nat) (x8 : Nat) (x9 : Int64) (x11 : Int32) (x12 : Int32) (x13 : Int32) (r : (Int32 × CH)), k86 h x0 x7 x8 x9 x11 x12 x13 = some r → le2 h r.2) {k96 : CH → Nat → Nat → Nat → Int64 → Int32 → Int32 → Int32 → Int32 → Option (Int32 × CH)} (hk96 : ∀ (h : CH) (x0 : Nat) (x7 : Nat) (x8 : Nat) (x9 : Int64) (x11 : Int32) (x12 : Int32) (x13 : Int32) (x14 : Int32) (r : (Int32 × CH)), k96 h x0 x7 x8 x9 x11 x12 x13 x14 = some r → le2 h r.2) : ∀ (h : CH) (x0 : Nat) (x7 : Nat) (x8 : Nat) (x9 : Int64) (x11 : Int32) (x12 : Int32) (x13 : Int32) (x14 : Int32) (y0 : Int32) (r : (Int32 × CH)), m_X0_best_124 f k76 k86 k96 h x0 x7 x8 x9 x11 x12 x13 x14 y0 = some r → le2 h r.2 := by
  intro h x0 x7 x8 x9 x11 x12 x13 x14 y0 r hm
  rw [m_X0_best_124] at hm
  by_cases c1 : ¬ y0 = 0
  · have hm := ifT hm c1
    obtain ⟨a2, ea2, hm⟩ := bdE hm
    obtain ⟨g3, hm⟩ := gdE hm
    obtain ⟨r5, h4, er5, hm⟩ := bd2E hm
    have lh4 := mo_X2_across er5
    exact (lh4.tr (mo_X0_best_139 hk76 hk86 hk96 h4 x0 x7 x8 x9 x11 x12 x13 x14 r5 _ hm))
  · have hm := ifF hm c1
    exact (mo_X0_best_188 hk76 hk86 hk96 h x0 x7 x8 x9 x11 x12 x13 x14 _ hm)
def m_X0_best_96 (f : Nat) (k76 : CH → Nat → Nat → Nat → Int64 → Int32 → Int32 → Option (Int32 × CH)) (k86 : CH → Nat → Nat → Nat → Int64 → Int32 → Int32 → Int32 → Option (Int32 × CH)) : Nat → CH → Nat → Nat → Nat → Int64 → Int32 → Int32 → Int32 → Int32 → Option (Int32 × CH)
  | 0, _, _, _, _, _, _, _, _, _ => none
  | n96 + 1, h, x0, x7, x8, x9, x11, x12, x13, x14 => if (3 : Int32) < x14 then
    m_X0_best_194 f k76 k86 h x0 x7 x8 x9 x11 x12 x13
    else bd (m_X0_isNormal f x12 x13 x14) fun r2 =>
    if r2 = 0 then
    m_X0_best_188 f k76 k86 (m_X0_best_96 f k76 k86 n96) h x0 x7 x8 x9 x11 x12 x13 x14
    else gd (isC h x0 1) <|
    bd2 (m_X0_isPlane f h x0 x12 x13 x14) fun r6 h5 =>
    m_X0_best_124 f k76 k86 (m_X0_best_96 f k76 k86 n96) h5 x0 x7 x8 x9 x11 x12 x13 x14 r6
theorem mo_X0_best_96 {f : Nat} {k76 : CH → Nat → Nat → Nat → Int64 → Int32 → Int32 → Option (Int32 × CH)} (hk76 : ∀ (h : CH) (x0 : Nat) (x7 : Nat) (x8 : Nat) (x9 : Int64) (x11 : Int32) (x12 : Int32) (r : (Int32 × CH)), k76 h x0 x7 x8 x9 x11 x12 = some r → le2 h r.2) {k86 : CH → Nat → Nat → Nat → Int64 → Int32 → Int32 → Int32 → Option (Int32 × CH)} (hk86 : ∀ (h : CH) (x0 : Nat) (x7 : Nat) (x8 : Nat) (x9 : Int64) (x11 : Int32) (x12 : Int32) (x13 : Int32) (r : (Int32 × CH)), k86 h x0 x7 x8 x9 x11 x12 x13 = some r → le2 h r.2) : ∀ (n96 : Nat) (h : CH) (x0 : Nat) (x7 : Nat) (x8 : Nat) (x9 : Int64) (x11 : Int32) (x12 : Int32) (x13 : Int32) (x14 : Int32) (r : (Int32 × CH)), m_X0_best_96 f k76 k86 n96 h x0 x7 x8 x9 x11 x12 x13 x14 = some r → le2 h r.2 := by
  intro n96
  induction n96 with
  | zero => intro h x0 x7 x8 x9 x11 x12 x13 x14 r hm; rw [m_X0_best_96] at hm; exact noE hm
  | succ n96 ihm =>
    intro h x0 x7 x8 x9 x11 x12 x13 x14 r hm
    rw [m_X0_best_96] at hm
    by_cases c1 : (3 : Int32) < x14
    · have hm := ifT hm c1
      exact (mo_X0_best_194 hk76 hk86 h x0 x7 x8 x9 x11 x12 x13 _ hm)
    · have hm := ifF hm c1
      obtain ⟨r2, er2, hm⟩ := bdE hm
      by_cases c3 : r2 = 0
      · have hm := ifT hm c3
        exact (mo_X0_best_188 hk76 hk86 ihm h x0 x7 x8 x9 x11 x12 x13 x14 _ hm)
      · have hm := ifF hm c3
        obtain ⟨g4, hm⟩ := gdE hm
        obtain ⟨r6, h5, er6, hm⟩ := bd2E hm
        have lh5 := mo_X0_isPlane er6
        exact (lh5.tr (mo_X0_best_124 hk76 hk86 ihm h5 x0 x7 x8 x9 x11 x12 x13 x14 r6 _ hm))
def m_X0_best_86 (f : Nat) (k76 : CH → Nat → Nat → Nat → Int64 → Int32 → Int32 → Option (Int32 × CH)) : Nat → CH → Nat → Nat → Nat → Int64 → Int32 → Int32 → Int32 → Option (Int32 × CH)
  | 0, _, _, _, _, _, _, _, _ => none
  | n86 + 1, h, x0, x7, x8, x9, x11, x12, x13 => if (3 : Int32) < x13 then
    m_X0_best_200 f k76 h x0 x7 x8 x9 x11 x12
    else m_X0_best_96 f k76 (m_X0_best_86 f k76 n86) f h x0 x7 x8 x9 x11 x12 x13 (-3 : Int32)
theorem mo_X0_best_86 {f : Nat} {k76 : CH → Nat → Nat → Nat → Int64 → Int32 → Int32 → Option (Int32 × CH)} (hk76 : ∀ (h : CH) (x0 : Nat) (x7 : Nat) (x8 : Nat) (x9 : Int64) (x11 : Int32) (x12 : Int32) (r : (Int32 × CH)), k76 h x0 x7 x8 x9 x11 x12 = some r → le2 h r.2) : ∀ (n86 : Nat) (h : CH) (x0 : Nat) (x7 : Nat) (x8 : Nat) (x9 : Int64) (x11 : Int32) (x12 : Int32) (x13 : Int32) (r : (Int32 × CH)), m_X0_best_86 f k76 n86 h x0 x7 x8 x9 x11 x12 x13 = some r → le2 h r.2 := by
  intro n86
  induction n86 with
  | zero => intro h x0 x7 x8 x9 x11 x12 x13 r hm; rw [m_X0_best_86] at hm; exact noE hm
  | succ n86 ihm =>
    intro h x0 x7 x8 x9 x11 x12 x13 r hm
    rw [m_X0_best_86] at hm
    by_cases c1 : (3 : Int32) < x13
    · have hm := ifT hm c1
      exact (mo_X0_best_200 hk76 h x0 x7 x8 x9 x11 x12 _ hm)
    · have hm := ifF hm c1
      exact (mo_X0_best_96 hk76 ihm f h x0 x7 x8 x9 x11 x12 x13 (-3 : Int32) _ hm)
def m_X0_best_76 (f : Nat) : Nat → CH → Nat → Nat → Nat → Int64 → Int32 → Int32 → Option (Int32 × CH)
  | 0, _, _, _, _, _, _, _ => none
  | n76 + 1, h, x0, x7, x8, x9, x11, x12 => if (3 : Int32) < x12 then
    m_X0_best_206 f h x11
    else m_X0_best_86 f (m_X0_best_76 f n76) f h x0 x7 x8 x9 x11 x12 (-3 : Int32)
theorem mo_X0_best_76 {f : Nat} : ∀ (n76 : Nat) (h : CH) (x0 : Nat) (x7 : Nat) (x8 : Nat) (x9 : Int64) (x11 : Int32) (x12 : Int32) (r : (Int32 × CH)), m_X0_best_76 f n76 h x0 x7 x8 x9 x11 x12 = some r → le2 h r.2 := by
  intro n76
  induction n76 with
  | zero => intro h x0 x7 x8 x9 x11 x12 r hm; rw [m_X0_best_76] at hm; exact noE hm
  | succ n76 ihm =>
    intro h x0 x7 x8 x9 x11 x12 r hm
    rw [m_X0_best_76] at hm
    by_cases c1 : (3 : Int32) < x12
    · have hm := ifT hm c1
      exact (mo_X0_best_206  h x11 _ hm)
    · have hm := ifF hm c1
      exact (mo_X0_best_86 ihm f h x0 x7 x8 x9 x11 x12 (-3 : Int32) _ hm)
def m_X0_best_64 (f : Nat) (h : CH) (x0 : Nat) (x7 : Nat) (y0 : Nat) : Option (Int32 × CH) := m_X0_best_76 f f h x0 x7 y0 (0 : Int64) (-1 : Int32) (-3 : Int32)
theorem mo_X0_best_64 {f : Nat} : ∀ (h : CH) (x0 : Nat) (x7 : Nat) (y0 : Nat) (r : (Int32 × CH)), m_X0_best_64 f h x0 x7 y0 = some r → le2 h r.2 := by
  intro h x0 x7 y0 r hm
  rw [m_X0_best_64] at hm
  exact (mo_X0_best_76  f h x0 x7 y0 (0 : Int64) (-1 : Int32) (-3 : Int32) _ hm)
def m_X0_best_46 (f : Nat) (h : CH) (x0 : Nat) (x4 : Nat) (x5 : Int64) (y0 : Nat) : Option (Int32 × CH) := bd (oR h 10 0 x4) fun a1 =>
    bd (oL h 10 1 x4) fun v2 =>
    gd (nzL v2) <|
    gd (isC h a1 3) <|
    bd2 (m_X2_times_2 f h a1 (x5 / v2)) fun a6 h5 =>
    m_X0_best_64 f h5 x0 y0 a6
theorem mo_X0_best_46 {f : Nat} : ∀ (h : CH) (x0 : Nat) (x4 : Nat) (x5 : Int64) (y0 : Nat) (r : (Int32 × CH)), m_X0_best_46 f h x0 x4 x5 y0 = some r → le2 h r.2 := by
  intro h x0 x4 x5 y0 r hm
  rw [m_X0_best_46] at hm
  obtain ⟨a1, ea1, hm⟩ := bdE hm
  obtain ⟨v2, ev2, hm⟩ := bdE hm
  obtain ⟨g3, hm⟩ := gdE hm
  obtain ⟨g4, hm⟩ := gdE hm
  obtain ⟨a6, h5, ea6, hm⟩ := bd2E hm
  have lh5 := mo_X2_times_2 ea6
  exact (lh5.tr (mo_X0_best_64  h5 x0 y0 a6 _ hm))
def m_X0_best_34 (f : Nat) (h : CH) (x0 : Nat) (x1 : Int32) (x4 : Nat) (y0 : Int64) (y1 : Int64) : Option (Int32 × CH) := bd (m_X0_multiple f y0 y1) fun r1 =>
    gd (isC h x0 1) <|
    bd2 (m_X0_rowsBy f h x0 x1 r1) fun a4 h3 =>
    m_X0_best_46 f h3 x0 x4 r1 a4
theorem mo_X0_best_34 {f : Nat} : ∀ (h : CH) (x0 : Nat) (x1 : Int32) (x4 : Nat) (y0 : Int64) (y1 : Int64) (r : (Int32 × CH)), m_X0_best_34 f h x0 x1 x4 y0 y1 = some r → le2 h r.2 := by
  intro h x0 x1 x4 y0 y1 r hm
  rw [m_X0_best_34] at hm
  obtain ⟨r1, er1, hm⟩ := bdE hm
  obtain ⟨g2, hm⟩ := gdE hm
  obtain ⟨a4, h3, ea4, hm⟩ := bd2E hm
  have lh3 := mo_X0_rowsBy ea4
  exact (lh3.tr (mo_X0_best_46  h3 x0 x4 r1 a4 _ hm))
def m_X0_best_31 (f : Nat) (h : CH) (x0 : Nat) (x1 : Int32) (x4 : Nat) (y0 : Int64) (y1 : Nat) : Option (Int32 × CH) := if isC h y1 6 = true then
    bd2 (m_X6_over f h y1) fun r3 h2 =>
    m_X0_best_34 f h2 x0 x1 x4 y0 r3
    else gd (isC h y1 7) <|
    bd2 (m_X7_over f h y1) fun r6 h5 =>
    m_X0_best_34 f h5 x0 x1 x4 y0 r6
theorem mo_X0_best_31 {f : Nat} : ∀ (h : CH) (x0 : Nat) (x1 : Int32) (x4 : Nat) (y0 : Int64) (y1 : Nat) (r : (Int32 × CH)), m_X0_best_31 f h x0 x1 x4 y0 y1 = some r → le2 h r.2 := by
  intro h x0 x1 x4 y0 y1 r hm
  rw [m_X0_best_31] at hm
  by_cases c1 : isC h y1 6 = true
  · have hm := ifT hm c1
    obtain ⟨r3, h2, er3, hm⟩ := bd2E hm
    have lh2 := mo_X6_over er3
    exact (lh2.tr (mo_X0_best_34  h2 x0 x1 x4 y0 r3 _ hm))
  · have hm := ifF hm c1
    obtain ⟨g4, hm⟩ := gdE hm
    obtain ⟨r6, h5, er6, hm⟩ := bd2E hm
    have lh5 := mo_X7_over er6
    exact (lh5.tr (mo_X0_best_34  h5 x0 x1 x4 y0 r6 _ hm))
def m_X0_best_19 (f : Nat) (h : CH) (x0 : Nat) (x1 : Int32) (y0 : Nat) : Option (Int32 × CH) := bd (oL h 10 1 y0) fun v1 =>
    gd (isC h x0 1) <|
    bd2 (m_X0_at f h x0 x1) fun a4 h3 =>
    m_X0_best_31 f h3 x0 x1 y0 v1 a4
theorem mo_X0_best_19 {f : Nat} : ∀ (h : CH) (x0 : Nat) (x1 : Int32) (y0 : Nat) (r : (Int32 × CH)), m_X0_best_19 f h x0 x1 y0 = some r → le2 h r.2 := by
  intro h x0 x1 y0 r hm
  rw [m_X0_best_19] at hm
  obtain ⟨v1, ev1, hm⟩ := bdE hm
  obtain ⟨g2, hm⟩ := gdE hm
  obtain ⟨a4, h3, ea4, hm⟩ := bd2E hm
  have lh3 := mo_X0_at ea4
  exact (lh3.tr (mo_X0_best_31  h3 x0 x1 y0 v1 a4 _ hm))
def m_X0_best_6 (f : Nat) (h : CH) (x0 : Nat) (x1 : Int32) (x2 : Int32) (y0 : Int32) : Option (Int32 × CH) := if 0 ≤ y0 then
    gd (isC h x0 1) <|
    bd2 (m_X0_meetOf f h x0 x1 x2) fun a4 h3 =>
    m_X0_best_19 f h3 x0 x1 a4
    else some (y0, h)
theorem mo_X0_best_6 {f : Nat} : ∀ (h : CH) (x0 : Nat) (x1 : Int32) (x2 : Int32) (y0 : Int32) (r : (Int32 × CH)), m_X0_best_6 f h x0 x1 x2 y0 = some r → le2 h r.2 := by
  intro h x0 x1 x2 y0 r hm
  rw [m_X0_best_6] at hm
  by_cases c1 : 0 ≤ y0
  · have hm := ifT hm c1
    obtain ⟨g2, hm⟩ := gdE hm
    obtain ⟨a4, h3, ea4, hm⟩ := bd2E hm
    have lh3 := mo_X0_meetOf ea4
    exact (lh3.tr (mo_X0_best_19  h3 x0 x1 a4 _ hm))
  · have hm := ifF hm c1
    cases hm
    exact le2.rf
def m_X0_best (f : Nat) (u : CH) (x0 : Nat) (x1 : Int32) (x2 : Int32) : Option (Int32 × CH) := gd (isC u x0 1) <|
    bd2 (m_X0_asks f u x0 x1 x2) fun r3 h2 =>
    m_X0_best_6 f h2 x0 x1 x2 r3
theorem mo_X0_best {f : Nat} {u : CH} {x0 : Nat} {x1 : Int32} {x2 : Int32} {r0 : Int32} {u9 : CH} (hm : m_X0_best f u x0 x1 x2 = some (r0, u9)) : le2 u u9 := by
  rw [m_X0_best] at hm
  obtain ⟨g1, hm⟩ := gdE hm
  obtain ⟨r3, h2, er3, hm⟩ := bd2E hm
  have lh2 := mo_X0_asks er3
  exact (lh2.tr (mo_X0_best_6  h2 x0 x1 x2 r3 _ hm))
abbrev rm_X0_best (mc ms : Nat) : Room := { frames := 107, cells := mc, slots := ms, locals := 4183 }
theorem cw_X0_best {R : Room} {s : State} {args : Array Value} {own : String} {idx mc ms : Nat} (hts : ∀ w ∈ lw_all, w.before args s = true) (hl : Cond.methodLink own idx yX0_best ∈ lw_all) (hR : 107 + 1 ≤ R.frames ∧ 8 + (17 + 11) + 4183 ≤ R.locals) : CallW R s args own RX0 idx yX0_best cX0_best 17 (Option.some Jvm.ClassFile.FieldType.int) (ws_ yX0_best cX0_best 17 (Option.some Jvm.ClassFile.FieldType.int)) (rm_X0_best mc ms) mc ms 2 := cwV 2 hts (lw_V hl q1317 q1318 q119 q1319) rfl rfl rfl (by decide +kernel) hR
set_option maxHeartbeats 4000000 in
set_option maxRecDepth 100000 in
theorem w_X0_best (l : Launch) {D : va_G} {dA : Nat → ClassId} {A : Nat → Prop} {f : Nat} {u u9 : CH} {r0 : Int32} {x0 : Nat} {x1 : Int32} {x2 : Int32} (hm : m_X0_best f u x0 x1 x2 = some (r0, u9)) : Met l yX0_best (ws_ yX0_best cX0_best 17 (Option.some Jvm.ClassFile.FieldType.int)) (rm_X0_best (u9.1 - u.1) (u9.2.1 - u.2.1)) (va_Pc [.ref x0, .int x1, .int x2] (CPre D dA A u)) (va_Qi (fun r u => r = r0 ∧ u = u9) (CPost D dA A) A) (u9.1 - u.1) (u9.2.1 - u.2.1) A := by
  refine Met.ofW (cc := cX0_best) (maxL := 17) (ret := (Option.some Jvm.ClassFile.FieldType.int)) (by decide) rfl ?_
  intro p e s m args below meth c s₁ B hml hv
  have hx := B.exec
  have hb := B.bytes
  have hr := B.returns
  have hts := atoms_spec (ws := (ws_ yX0_best cX0_best 17 (Option.some Jvm.ClassFile.FieldType.int))) B.pre
  have hts : ∀ w ∈ lw_all, w.before args s = true := fun w h => hts w (List.mem_cons_of_mem _ h)
  have hown : s.vm.findClass RX0 = some m.cls := findClass_of_methodNamed B.named
  have hlocks := B.notSynchronized
  obtain ⟨hav, hv⟩ := hv
  have C : CX p s m args c cX0_best RX0 D dA := ⟨hx, hb, hown, hts, hv.2⟩
  have hw : CW D dA A s u s.heap [] := hv.1
  generalize hQ : MQ below (va_Qi (fun r u => r = r0 ∧ u = u9) (CPost D dA A) A) args s (u9.1 - u.1) (u9.2.1 - u.2.1) A = QQ
  have hent := lg_entry_eq m [.ref x0, .int x1, .int x2] 17
  rw [← hav] at hent
  rw [hent]
  have hl := lv_entry ([.ref x0, .int x1, .int x2]) (n := 17) (Nat.le_of_ble_eq_true rfl)
  generalize (lg_sl ([.ref x0, .int x1, .int x2]) ++ List.replicate (17 - (lg_sl ([.ref x0, .int x1, .int x2])).length) Slot.unset).toArray = ls at hl ⊢
  have hl : lv_has ls 17 [(0, .ref x0), (1, .int x1), (2, .int x2)] := hl
  obtain ⟨cc, ecc⟩ : ∃ z : Nat, z = 0 := ⟨0, rfl⟩
  obtain ⟨ss, ess⟩ : ∃ z : Nat, z = 0 := ⟨0, rfl⟩
  have hcc : cc + u.1 = u.1 := by omega
  have hss : ss + u.2.1 = u.2.1 := by omega
  suffices hgo : W p l e (rm_X0_best (u9.1 - u.1) (u9.2.1 - u.2.1)) s m args below meth c s.heap [] cc ss QQ (F0 m 0 ls []) by rw [ecc, ess] at hgo; exact hgo
  have ⟨pu, qu, _, _⟩ := mo_X0_best hm
  have hB206 : ∀ (h : CH) (x11 : Int32) (cc ss : Nat) (H : Heap) (locs : List Loc) (ls : Array Slot), m_X0_best_206 f h x11 = some (r0, u9) → CW D dA A s h H locs → cc + u.1 = h.1 → ss + u.2.1 = h.2.1 → lv_has ls 17 [(11, .int x11)] → W p l e (rm_X0_best (u9.1 - u.1) (u9.2.1 - u.2.1)) s m args below meth c H locs cc ss QQ (F0 m 206 ls []) := by
    intro h x11 cc ss H locs ls hm hw hcc hss hl
    have hmo := mo_X0_best_206  h x11 _ hm
    have sb_ : h.1 ≤ u9.1 := hmo.1
    have tb_ : h.2.1 ≤ u9.2.1 := hmo.2.1
    rw [m_X0_best_206] at hm
    refine lv_iload hx hb dX0_best_206 (lv_at hl 0 rfl) ?_
    obtain ⟨er, eh⟩ := retE hm
    have ec : cc = u9.1 - u.1 := by rw [← eh]; omega
    have es : ss = u9.2.1 - u.2.1 := by rw [← eh]; omega
    rw [ec, es, ← hQ]
    exact W.iret (v := x11) hx hb hr (fun t ht hW => ⟨⟨x11, h, rfl, ⟨er, eh⟩, ⟨by rw [ht]; exact hw.1, by rw [ht]; exact hw.2.1⟩⟩, hw.2.2.1.F ht⟩) hw.2.2.1.2.2 dX0_best_208
  have hB76 : ∀ (n76 : Nat), ∀ (h : CH) (x0 : Nat) (x7 : Nat) (x8 : Nat) (x9 : Int64) (x11 : Int32) (x12 : Int32) (cc ss : Nat) (H : Heap) (locs : List Loc) (ls : Array Slot), m_X0_best_76 f n76 h x0 x7 x8 x9 x11 x12 = some (r0, u9) → CW D dA A s h H locs → cc + u.1 = h.1 → ss + u.2.1 = h.2.1 → lv_has ls 17 [(0, .ref x0), (7, .ref x7), (8, .ref x8), (9, .long x9), (11, .int x11), (12, .int x12)] → W p l e (rm_X0_best (u9.1 - u.1) (u9.2.1 - u.2.1)) s m args below meth c H locs cc ss QQ (F0 m 76 ls []) := by
    intro n76
    induction n76 with
    | zero => intro h x0 x7 x8 x9 x11 x12 cc ss H locs ls hm hw hcc hss hl; rw [m_X0_best_76] at hm; exact noE hm
    | succ n76 ih76 =>
      have hB200 : ∀ (h : CH) (x0 : Nat) (x7 : Nat) (x8 : Nat) (x9 : Int64) (x11 : Int32) (x12 : Int32) (cc ss : Nat) (H : Heap) (locs : List Loc) (ls : Array Slot), m_X0_best_200 f (m_X0_best_76 f n76) h x0 x7 x8 x9 x11 x12 = some (r0, u9) → CW D dA A s h H locs → cc + u.1 = h.1 → ss + u.2.1 = h.2.1 → lv_has ls 17 [(0, .ref x0), (7, .ref x7), (8, .ref x8), (9, .long x9), (11, .int x11), (12, .int x12)] → W p l e (rm_X0_best (u9.1 - u.1) (u9.2.1 - u.2.1)) s m args below meth c H locs cc ss QQ (F0 m 200 ls []) := by
        intro h x0 x7 x8 x9 x11 x12 cc ss H locs ls hm hw hcc hss hl
        have hmo := mo_X0_best_200 (mo_X0_best_76 n76) h x0 x7 x8 x9 x11 x12 _ hm
        have sb_ : h.1 ≤ u9.1 := hmo.1
        have tb_ : h.2.1 ≤ u9.2.1 := hmo.2.1
        rw [m_X0_best_200] at hm
        obtain ⟨v1, ev1, hm⟩ := nmE hm
        refine lv_iinc (v := v1) (lv' := [(12, .int v1), (0, .ref x0), (7, .ref x7), (8, .ref x8), (9, .long x9), (11, .int x11)]) hx hb dX0_best_200 hl (k := 5) rfl (by rw [ev1]; rfl) (by decide) rfl (fun ls hl => ?_)
        refine lv_goto (tgt := 76) hx hb dX0_best_203 (by decide) ?_
        exact ih76 h x0 x7 x8 x9 x11 v1 _ _ _ _ _ hm hw (by omega) (by omega) (lv_sub hl [1, 2, 3, 4, 5, 0] rfl)
      have hB86 : ∀ (n86 : Nat), ∀ (h : CH) (x0 : Nat) (x7 : Nat) (x8 : Nat) (x9 : Int64) (x11 : Int32) (x12 : Int32) (x13 : Int32) (cc ss : Nat) (H : Heap) (locs : List Loc) (ls : Array Slot), m_X0_best_86 f (m_X0_best_76 f n76) n86 h x0 x7 x8 x9 x11 x12 x13 = some (r0, u9) → CW D dA A s h H locs → cc + u.1 = h.1 → ss + u.2.1 = h.2.1 → lv_has ls 17 [(0, .ref x0), (7, .ref x7), (8, .ref x8), (9, .long x9), (11, .int x11), (12, .int x12), (13, .int x13)] → W p l e (rm_X0_best (u9.1 - u.1) (u9.2.1 - u.2.1)) s m args below meth c H locs cc ss QQ (F0 m 86 ls []) := by
        intro n86
        induction n86 with
        | zero => intro h x0 x7 x8 x9 x11 x12 x13 cc ss H locs ls hm hw hcc hss hl; rw [m_X0_best_86] at hm; exact noE hm
        | succ n86 ih86 =>
          have hB194 : ∀ (h : CH) (x0 : Nat) (x7 : Nat) (x8 : Nat) (x9 : Int64) (x11 : Int32) (x12 : Int32) (x13 : Int32) (cc ss : Nat) (H : Heap) (locs : List Loc) (ls : Array Slot), m_X0_best_194 f (m_X0_best_76 f n76) (m_X0_best_86 f (m_X0_best_76 f n76) n86) h x0 x7 x8 x9 x11 x12 x13 = some (r0, u9) → CW D dA A s h H locs → cc + u.1 = h.1 → ss + u.2.1 = h.2.1 → lv_has ls 17 [(0, .ref x0), (7, .ref x7), (8, .ref x8), (9, .long x9), (11, .int x11), (12, .int x12), (13, .int x13)] → W p l e (rm_X0_best (u9.1 - u.1) (u9.2.1 - u.2.1)) s m args below meth c H locs cc ss QQ (F0 m 194 ls []) := by
            intro h x0 x7 x8 x9 x11 x12 x13 cc ss H locs ls hm hw hcc hss hl
            have hmo := mo_X0_best_194 (mo_X0_best_76 n76) (mo_X0_best_86 (mo_X0_best_76 n76) n86) h x0 x7 x8 x9 x11 x12 x13 _ hm
            have sb_ : h.1 ≤ u9.1 := hmo.1
            have tb_ : h.2.1 ≤ u9.2.1 := hmo.2.1
            rw [m_X0_best_194] at hm
            obtain ⟨v1, ev1, hm⟩ := nmE hm
            refine lv_iinc (v := v1) (lv' := [(13, .int v1), (0, .ref x0), (7, .ref x7), (8, .ref x8), (9, .long x9), (11, .int x11), (12, .int x12)]) hx hb dX0_best_194 hl (k := 6) rfl (by rw [ev1]; rfl) (by decide) rfl (fun ls hl => ?_)
            refine lv_goto (tgt := 86) hx hb dX0_best_197 (by decide) ?_
            exact ih86 h x0 x7 x8 x9 x11 x12 v1 _ _ _ _ _ hm hw (by omega) (by omega) (lv_sub hl [1, 2, 3, 4, 5, 6, 0] rfl)
          have hB96 : ∀ (n96 : Nat), ∀ (h : CH) (x0 : Nat) (x7 : Nat) (x8 : Nat) (x9 : Int64) (x11 : Int32) (x12 : Int32) (x13 : Int32) (x14 : Int32) (cc ss : Nat) (H : Heap) (locs : List Loc) (ls : Array Slot), m_X0_best_96 f (m_X0_best_76 f n76) (m_X0_best_86 f (m_X0_best_76 f n76) n86) n96 h x0 x7 x8 x9 x11 x12 x13 x14 = some (r0, u9) → CW D dA A s h H locs → cc + u.1 = h.1 → ss + u.2.1 = h.2.1 → lv_has ls 17 [(0, .ref x0), (7, .ref x7), (8, .ref x8), (9, .long x9), (11, .int x11), (12, .int x12), (13, .int x13), (14, .int x14)] → W p l e (rm_X0_best (u9.1 - u.1) (u9.2.1 - u.2.1)) s m args below meth c H locs cc ss QQ (F0 m 96 ls []) := by
            intro n96
            induction n96 with
            | zero => intro h x0 x7 x8 x9 x11 x12 x13 x14 cc ss H locs ls hm hw hcc hss hl; rw [m_X0_best_96] at hm; exact noE hm
            | succ n96 ih96 =>
              have hB188 : ∀ (h : CH) (x0 : Nat) (x7 : Nat) (x8 : Nat) (x9 : Int64) (x11 : Int32) (x12 : Int32) (x13 : Int32) (x14 : Int32) (cc ss : Nat) (H : Heap) (locs : List Loc) (ls : Array Slot), m_X0_best_188 f (m_X0_best_76 f n76) (m_X0_best_86 f (m_X0_best_76 f n76) n86) (m_X0_best_96 f (m_X0_best_76 f n76) (m_X0_best_86 f (m_X0_best_76 f n76) n86) n96) h x0 x7 x8 x9 x11 x12 x13 x14 = some (r0, u9) → CW D dA A s h H locs → cc + u.1 = h.1 → ss + u.2.1 = h.2.1 → lv_has ls 17 [(0, .ref x0), (7, .ref x7), (8, .ref x8), (9, .long x9), (11, .int x11), (12, .int x12), (13, .int x13), (14, .int x14)] → W p l e (rm_X0_best (u9.1 - u.1) (u9.2.1 - u.2.1)) s m args below meth c H locs cc ss QQ (F0 m 188 ls []) := by
                intro h x0 x7 x8 x9 x11 x12 x13 x14 cc ss H locs ls hm hw hcc hss hl
                have hmo := mo_X0_best_188 (mo_X0_best_76 n76) (mo_X0_best_86 (mo_X0_best_76 n76) n86) (mo_X0_best_96 (mo_X0_best_76 n76) (mo_X0_best_86 (mo_X0_best_76 n76) n86) n96) h x0 x7 x8 x9 x11 x12 x13 x14 _ hm
                have sb_ : h.1 ≤ u9.1 := hmo.1
                have tb_ : h.2.1 ≤ u9.2.1 := hmo.2.1
                rw [m_X0_best_188] at hm
                obtain ⟨v1, ev1, hm⟩ := nmE hm
                refine lv_iinc (v := v1) (lv' := [(14, .int v1), (0, .ref x0), (7, .ref x7), (8, .ref x8), (9, .long x9), (11, .int x11), (12, .int x12), (13, .int x13)]) hx hb dX0_best_188 hl (k := 7) rfl (by rw [ev1]; rfl) (by decide) rfl (fun ls hl => ?_)
                refine lv_goto (tgt := 96) hx hb dX0_best_191 (by decide) ?_
                exact ih96 h x0 x7 x8 x9 x11 x12 x13 v1 _ _ _ _ _ hm hw (by omega) (by omega) (lv_sub hl [1, 2, 3, 4, 5, 6, 7, 0] rfl)
              have hB148 : ∀ (h : CH) (x0 : Nat) (x7 : Nat) (x8 : Nat) (x9 : Int64) (x11 : Int32) (x12 : Int32) (x13 : Int32) (x14 : Int32) (y0 : Int64) (y1 : Int64) (cc ss : Nat) (H : Heap) (locs : List Loc) (ls : Array Slot), m_X0_best_148 f (m_X0_best_76 f n76) (m_X0_best_86 f (m_X0_best_76 f n76) n86) (m_X0_best_96 f (m_X0_best_76 f n76) (m_X0_best_86 f (m_X0_best_76 f n76) n86) n96) h x0 x7 x8 x9 x11 x12 x13 x14 y0 y1 = some (r0, u9) → CW D dA A s h H locs → cc + u.1 = h.1 → ss + u.2.1 = h.2.1 → lv_has ls 17 [(0, .ref x0), (7, .ref x7), (8, .ref x8), (9, .long x9), (11, .int x11), (12, .int x12), (13, .int x13), (14, .int x14)] → W p l e (rm_X0_best (u9.1 - u.1) (u9.2.1 - u.2.1)) s m args below meth c H locs cc ss QQ (F0 m 148 ls [.long y1, .long y0]) := by
                intro h x0 x7 x8 x9 x11 x12 x13 x14 y0 y1 cc ss H locs ls hm hw hcc hss hl
                have hmo := mo_X0_best_148 (mo_X0_best_76 n76) (mo_X0_best_86 (mo_X0_best_76 n76) n86) (mo_X0_best_96 (mo_X0_best_76 n76) (mo_X0_best_86 (mo_X0_best_76 n76) n86) n96) h x0 x7 x8 x9 x11 x12 x13 x14 y0 y1 _ hm
                have sb_ : h.1 ≤ u9.1 := hmo.1
                have tb_ : h.2.1 ≤ u9.2.1 := hmo.2.1
                rw [m_X0_best_148] at hm
                obtain ⟨g1, hm⟩ := gdE hm
                refine lv_ldiv hx hb dX0_best_148 (nzL_ne g1) ?_
                refine lv_topl (fun v2 ev2 => ?_)
                have hm := nmK hm ev2
                refine lv_lstore (lv' := [(15, .long v2), (0, .ref x0), (7, .ref x7), (8, .ref x8), (9, .long x9), (11, .int x11), (12, .int x12), (13, .int x13), (14, .int x14)]) hx hb dX0_best_149 hl (by decide) rfl (fun ls hl => ?_)
                refine lv_lload hx hb dX0_best_151 (lv_at hl 0 rfl) ?_
                refine lv_lload hx hb dX0_best_153 (lv_at hl 4 rfl) ?_
                refine lc_gt (tgt := 162) hx hb dX0_best_155 dX0_best_156 (by decide) (fun c3 => ?_) (fun c3 => ?_)
                · have hm := ifT hm c3
                  refine lv_lload hx hb dX0_best_162 (lv_at hl 0 rfl) ?_
                  refine lv_lstore (lv' := [(9, .long v2), (15, .long v2), (0, .ref x0), (7, .ref x7), (8, .ref x8), (11, .int x11), (12, .int x12), (13, .int x13), (14, .int x14)]) hx hb dX0_best_164 hl (by decide) rfl (fun ls hl => ?_)
                  refine lv_bipush (v := 100) hx hb dX0_best_166 (by decide) ?_
                  refine lv_iload hx hb dX0_best_168 (lv_at hl 6 rfl) ?_
                  refine lv_iconst (v := 3) hx hb dX0_best_170 (by decide) ?_
                  refine lv_iadd hx hb dX0_best_171 ?_
                  refine lv_imul hx hb dX0_best_172 ?_
                  refine lv_bipush (v := 10) hx hb dX0_best_173 (by decide) ?_
                  refine lv_iload hx hb dX0_best_175 (lv_at hl 7 rfl) ?_
                  refine lv_iconst (v := 3) hx hb dX0_best_177 (by decide) ?_
                  refine lv_iadd hx hb dX0_best_178 ?_
                  refine lv_imul hx hb dX0_best_179 ?_
                  refine lv_iadd hx hb dX0_best_180 ?_
                  refine lv_iload hx hb dX0_best_181 (lv_at hl 8 rfl) ?_
                  refine lv_iadd hx hb dX0_best_183 ?_
                  refine lv_iconst (v := 3) hx hb dX0_best_184 (by decide) ?_
                  refine lv_iadd hx hb dX0_best_185 ?_
                  refine lv_topi (fun v4 ev4 => ?_)
                  have hm := nmK hm ev4
                  refine lv_istore (lv' := [(11, .int v4), (9, .long v2), (15, .long v2), (0, .ref x0), (7, .ref x7), (8, .ref x8), (12, .int x12), (13, .int x13), (14, .int x14)]) hx hb dX0_best_186 hl (by decide) rfl (fun ls hl => ?_)
                  exact hB188 h x0 x7 x8 v2 v4 x12 x13 x14 _ _ _ _ _ hm hw (by omega) (by omega) (lv_sub hl [3, 4, 5, 1, 0, 6, 7, 8] rfl)
                · have hm := ifF hm c3
                  refine lv_goto (tgt := 188) hx hb dX0_best_159 (by decide) ?_
                  exact hB188 h x0 x7 x8 x9 x11 x12 x13 x14 _ _ _ _ _ hm hw (by omega) (by omega) (lv_sub hl [1, 2, 3, 4, 5, 6, 7, 8] rfl)
              have hB139 : ∀ (h : CH) (x0 : Nat) (x7 : Nat) (x8 : Nat) (x9 : Int64) (x11 : Int32) (x12 : Int32) (x13 : Int32) (x14 : Int32) (y0 : Int64) (cc ss : Nat) (H : Heap) (locs : List Loc) (ls : Array Slot), m_X0_best_139 f (m_X0_best_76 f n76) (m_X0_best_86 f (m_X0_best_76 f n76) n86) (m_X0_best_96 f (m_X0_best_76 f n76) (m_X0_best_86 f (m_X0_best_76 f n76) n86) n96) h x0 x7 x8 x9 x11 x12 x13 x14 y0 = some (r0, u9) → CW D dA A s h H locs → cc + u.1 = h.1 → ss + u.2.1 = h.2.1 → lv_has ls 17 [(0, .ref x0), (7, .ref x7), (8, .ref x8), (9, .long x9), (11, .int x11), (12, .int x12), (13, .int x13), (14, .int x14)] → W p l e (rm_X0_best (u9.1 - u.1) (u9.2.1 - u.2.1)) s m args below meth c H locs cc ss QQ (F0 m 139 ls [.long y0]) := by
                intro h x0 x7 x8 x9 x11 x12 x13 x14 y0 cc ss H locs ls hm hw hcc hss hl
                have hmo := mo_X0_best_139 (mo_X0_best_76 n76) (mo_X0_best_86 (mo_X0_best_76 n76) n86) (mo_X0_best_96 (mo_X0_best_76 n76) (mo_X0_best_86 (mo_X0_best_76 n76) n86) n96) h x0 x7 x8 x9 x11 x12 x13 x14 y0 _ hm
                have sb_ : h.1 ≤ u9.1 := hmo.1
                have tb_ : h.2.1 ≤ u9.2.1 := hmo.2.1
                rw [m_X0_best_139] at hm
                refine lv_aload hx hb dX0_best_139 (lv_at hl 1 rfl) ?_
                refine lv_aload_n hx hb dX0_best_141 rfl (lv_at hl 0 rfl) ?_
                obtain ⟨a1, ea1, hm⟩ := bdE hm
                refine cg_get C hw (oR_E ea1) rfl in_X0 (by decide) q245 dX0_best_142 ?_
                obtain ⟨g2, hm⟩ := gdE hm
                obtain ⟨r4, h3, er4, hm⟩ := bd2E hm
                have lh3 := mo_X2_across er4
                have ph3 : h.1 ≤ h3.1 := lh3.1
                have qh3 : h.2.1 ≤ h3.2.1 := lh3.2.1
                have hmo := mo_X0_best_148 (mo_X0_best_76 n76) (mo_X0_best_86 (mo_X0_best_76 n76) n86) (mo_X0_best_96 (mo_X0_best_76 n76) (mo_X0_best_86 (mo_X0_best_76 n76) n86) n96)  h3 x0 x7 x8 x9 x11 x12 x13 x14 y0 r4 _ hm
                have sh3 : h3.1 ≤ u9.1 := hmo.1
                have th3 : h3.2.1 ≤ u9.2.1 := hmo.2.1
                refine cg_calll hw lh3 (va_runV (As := [.ref a1]) (rest := [.long y0]) ⟨hx, hb, hml, hown, hts⟩ (w_X2_across l er4) (cw_X2_across hts q1295 ⟨Nat.le_of_ble_eq_true rfl, Nat.le_of_ble_eq_true rfl⟩) (cg_preV C hw g2 rfl _) rfl rfl hl.1 rfl (lv_room (Nat.le_of_ble_eq_true rfl)) dX0_best_145 ⟨show cc + (h3.1 - h.1) ≤ u9.1 - u.1 by omega, show ss + (h3.2.1 - h.2.1) ≤ u9.2.1 - u.2.1 by omega⟩) (fun H locs hw => ?_)
                exact hB148 h3 x0 x7 x8 x9 x11 x12 x13 x14 y0 r4 _ _ _ _ _ hm hw (by omega) (by omega) (lv_sub hl [0, 1, 2, 3, 4, 5, 6, 7] rfl)
              have hB124 : ∀ (h : CH) (x0 : Nat) (x7 : Nat) (x8 : Nat) (x9 : Int64) (x11 : Int32) (x12 : Int32) (x13 : Int32) (x14 : Int32) (y0 : Int32) (cc ss : Nat) (H : Heap) (locs : List Loc) (ls : Array Slot), m_X0_best_124 f (m_X0_best_76 f n76) (m_X0_best_86 f (m_X0_best_76 f n76) n86) (m_X0_best_96 f (m_X0_best_76 f n76) (m_X0_best_86 f (m_X0_best_76 f n76) n86) n96) h x0 x7 x8 x9 x11 x12 x13 x14 y0 = some (r0, u9) → CW D dA A s h H locs → cc + u.1 = h.1 → ss + u.2.1 = h.2.1 → lv_has ls 17 [(0, .ref x0), (7, .ref x7), (8, .ref x8), (9, .long x9), (11, .int x11), (12, .int x12), (13, .int x13), (14, .int x14)] → W p l e (rm_X0_best (u9.1 - u.1) (u9.2.1 - u.2.1)) s m args below meth c H locs cc ss QQ (F0 m 124 ls [.int y0]) := by
                intro h x0 x7 x8 x9 x11 x12 x13 x14 y0 cc ss H locs ls hm hw hcc hss hl
                have hmo := mo_X0_best_124 (mo_X0_best_76 n76) (mo_X0_best_86 (mo_X0_best_76 n76) n86) (mo_X0_best_96 (mo_X0_best_76 n76) (mo_X0_best_86 (mo_X0_best_76 n76) n86) n96) h x0 x7 x8 x9 x11 x12 x13 x14 y0 _ hm
                have sb_ : h.1 ≤ u9.1 := hmo.1
                have tb_ : h.2.1 ≤ u9.2.1 := hmo.2.1
                rw [m_X0_best_124] at hm
                refine lv_if_ne (tgt := 130) hx hb dX0_best_124 (by decide) (fun c1 => ?_) (fun c1 => ?_)
                · have hm := ifT hm c1
                  refine lv_aload hx hb dX0_best_130 (lv_at hl 2 rfl) ?_
                  refine lv_aload_n hx hb dX0_best_132 rfl (lv_at hl 0 rfl) ?_
                  obtain ⟨a2, ea2, hm⟩ := bdE hm
                  refine cg_get C hw (oR_E ea2) rfl in_X0 (by decide) q245 dX0_best_133 ?_
                  obtain ⟨g3, hm⟩ := gdE hm
                  obtain ⟨r5, h4, er5, hm⟩ := bd2E hm
                  have lh4 := mo_X2_across er5
                  have ph4 : h.1 ≤ h4.1 := lh4.1
                  have qh4 : h.2.1 ≤ h4.2.1 := lh4.2.1
                  have hmo := mo_X0_best_139 (mo_X0_best_76 n76) (mo_X0_best_86 (mo_X0_best_76 n76) n86) (mo_X0_best_96 (mo_X0_best_76 n76) (mo_X0_best_86 (mo_X0_best_76 n76) n86) n96)  h4 x0 x7 x8 x9 x11 x12 x13 x14 r5 _ hm
                  have sh4 : h4.1 ≤ u9.1 := hmo.1
                  have th4 : h4.2.1 ≤ u9.2.1 := hmo.2.1
                  refine cg_calll hw lh4 (va_runV (As := [.ref a2]) (rest := []) ⟨hx, hb, hml, hown, hts⟩ (w_X2_across l er5) (cw_X2_across hts q1295 ⟨Nat.le_of_ble_eq_true rfl, Nat.le_of_ble_eq_true rfl⟩) (cg_preV C hw g3 rfl _) rfl rfl hl.1 rfl (lv_room (Nat.le_of_ble_eq_true rfl)) dX0_best_136 ⟨show cc + (h4.1 - h.1) ≤ u9.1 - u.1 by omega, show ss + (h4.2.1 - h.2.1) ≤ u9.2.1 - u.2.1 by omega⟩) (fun H locs hw => ?_)
                  exact hB139 h4 x0 x7 x8 x9 x11 x12 x13 x14 r5 _ _ _ _ _ hm hw (by omega) (by omega) (lv_sub hl [0, 1, 2, 3, 4, 5, 6, 7] rfl)
                · have hm := ifT' hm c1
                  refine lv_goto (tgt := 188) hx hb dX0_best_127 (by decide) ?_
                  exact hB188 h x0 x7 x8 x9 x11 x12 x13 x14 _ _ _ _ _ hm hw (by omega) (by omega) (lv_sub hl [0, 1, 2, 3, 4, 5, 6, 7] rfl)
              intro h x0 x7 x8 x9 x11 x12 x13 x14 cc ss H locs ls hm hw hcc hss hl
              have hmo := mo_X0_best_96 (mo_X0_best_76 n76) (mo_X0_best_86 (mo_X0_best_76 n76) n86) (n96 + 1) h x0 x7 x8 x9 x11 x12 x13 x14 _ hm
              have sb_ : h.1 ≤ u9.1 := hmo.1
              have tb_ : h.2.1 ≤ u9.2.1 := hmo.2.1
              rw [m_X0_best_96] at hm
              refine lv_iload hx hb dX0_best_96 (lv_at hl 7 rfl) ?_
              refine lv_iconst (v := 3) hx hb dX0_best_98 (by decide) ?_
              refine lv_icmp_gt (tgt := 194) hx hb dX0_best_99 (by decide) (fun c1 => ?_) (fun c1 => ?_)
              · have hm := ifT hm c1
                exact hB194 h x0 x7 x8 x9 x11 x12 x13 _ _ _ _ _ hm hw (by omega) (by omega) (lv_sub hl [0, 1, 2, 3, 4, 5, 6] rfl)
              · have hm := ifF hm c1
                refine lv_iload hx hb dX0_best_102 (lv_at hl 5 rfl) ?_
                refine lv_iload hx hb dX0_best_104 (lv_at hl 6 rfl) ?_
                refine lv_iload hx hb dX0_best_106 (lv_at hl 7 rfl) ?_
                obtain ⟨r2, er2, hm⟩ := bdE hm
                refine sci (va_runS (As := [.int x12, .int x13, .int x14]) (rest := []) ⟨hx, hb, hml, hown, hts⟩ (w_X0_isNormal l er2) (cw_X0_isNormal hts q1320 ⟨Nat.le_of_ble_eq_true rfl, Nat.le_of_ble_eq_true rfl⟩) (pre_s _) rfl rfl hl.1 rfl (lv_room (Nat.le_of_ble_eq_true rfl)) dX0_best_108 ⟨show cc + 0 ≤ u9.1 - u.1 by omega, show ss + 0 ≤ u9.2.1 - u.2.1 by omega⟩) ?_
                refine lv_if_eq (tgt := 188) hx hb dX0_best_111 (by decide) (fun c3 => ?_) (fun c3 => ?_)
                · have hm := ifT hm c3
                  exact hB188 h x0 x7 x8 x9 x11 x12 x13 x14 _ _ _ _ _ hm hw (by omega) (by omega) (lv_sub hl [0, 1, 2, 3, 4, 5, 6, 7] rfl)
                · have hm := ifF hm c3
                  refine lv_aload_n hx hb dX0_best_114 rfl (lv_at hl 0 rfl) ?_
                  refine lv_iload hx hb dX0_best_115 (lv_at hl 5 rfl) ?_
                  refine lv_iload hx hb dX0_best_117 (lv_at hl 6 rfl) ?_
                  refine lv_iload hx hb dX0_best_119 (lv_at hl 7 rfl) ?_
                  obtain ⟨g4, hm⟩ := gdE hm
                  obtain ⟨r6, h5, er6, hm⟩ := bd2E hm
                  have lh5 := mo_X0_isPlane er6
                  have ph5 : h.1 ≤ h5.1 := lh5.1
                  have qh5 : h.2.1 ≤ h5.2.1 := lh5.2.1
                  have hmo := mo_X0_best_124 (mo_X0_best_76 n76) (mo_X0_best_86 (mo_X0_best_76 n76) n86) (mo_X0_best_96 (mo_X0_best_76 n76) (mo_X0_best_86 (mo_X0_best_76 n76) n86) n96)  h5 x0 x7 x8 x9 x11 x12 x13 x14 r6 _ hm
                  have sh5 : h5.1 ≤ u9.1 := hmo.1
                  have th5 : h5.2.1 ≤ u9.2.1 := hmo.2.1
                  refine cg_calli hw lh5 (va_runV (As := [.int x12, .int x13, .int x14]) (rest := []) ⟨hx, hb, hml, hown, hts⟩ (w_X0_isPlane l er6) (cw_X0_isPlane hts q1289 ⟨Nat.le_of_ble_eq_true rfl, Nat.le_of_ble_eq_true rfl⟩) (cg_preV C hw g4 rfl _) rfl rfl hl.1 rfl (lv_room (Nat.le_of_ble_eq_true rfl)) dX0_best_121 ⟨show cc + (h5.1 - h.1) ≤ u9.1 - u.1 by omega, show ss + (h5.2.1 - h.2.1) ≤ u9.2.1 - u.2.1 by omega⟩) (fun H locs hw => ?_)
                  exact hB124 h5 x0 x7 x8 x9 x11 x12 x13 x14 r6 _ _ _ _ _ hm hw (by omega) (by omega) (lv_sub hl [0, 1, 2, 3, 4, 5, 6, 7] rfl)
          intro h x0 x7 x8 x9 x11 x12 x13 cc ss H locs ls hm hw hcc hss hl
          have hmo := mo_X0_best_86 (mo_X0_best_76 n76) (n86 + 1) h x0 x7 x8 x9 x11 x12 x13 _ hm
          have sb_ : h.1 ≤ u9.1 := hmo.1
          have tb_ : h.2.1 ≤ u9.2.1 := hmo.2.1
          rw [m_X0_best_86] at hm
          refine lv_iload hx hb dX0_best_86 (lv_at hl 6 rfl) ?_
          refine lv_iconst (v := 3) hx hb dX0_best_88 (by decide) ?_
          refine lv_icmp_gt (tgt := 200) hx hb dX0_best_89 (by decide) (fun c1 => ?_) (fun c1 => ?_)
          · have hm := ifT hm c1
            exact hB200 h x0 x7 x8 x9 x11 x12 _ _ _ _ _ hm hw (by omega) (by omega) (lv_sub hl [0, 1, 2, 3, 4, 5] rfl)
          · have hm := ifF hm c1
            refine lv_bipush (v := -3) hx hb dX0_best_92 (by decide) ?_
            refine lv_istore (lv' := [(14, .int (-3 : Int32)), (0, .ref x0), (7, .ref x7), (8, .ref x8), (9, .long x9), (11, .int x11), (12, .int x12), (13, .int x13)]) hx hb dX0_best_94 hl (by decide) rfl (fun ls hl => ?_)
            exact hB96 f h x0 x7 x8 x9 x11 x12 x13 (-3 : Int32) _ _ _ _ _ hm hw (by omega) (by omega) (lv_sub hl [1, 2, 3, 4, 5, 6, 7, 0] rfl)
      intro h x0 x7 x8 x9 x11 x12 cc ss H locs ls hm hw hcc hss hl
      have hmo := mo_X0_best_76  (n76 + 1) h x0 x7 x8 x9 x11 x12 _ hm
      have sb_ : h.1 ≤ u9.1 := hmo.1
      have tb_ : h.2.1 ≤ u9.2.1 := hmo.2.1
      rw [m_X0_best_76] at hm
      refine lv_iload hx hb dX0_best_76 (lv_at hl 5 rfl) ?_
      refine lv_iconst (v := 3) hx hb dX0_best_78 (by decide) ?_
      refine lv_icmp_gt (tgt := 206) hx hb dX0_best_79 (by decide) (fun c1 => ?_) (fun c1 => ?_)
      · have hm := ifT hm c1
        exact hB206 h x11 _ _ _ _ _ hm hw (by omega) (by omega) (lv_sub hl [4] rfl)
      · have hm := ifF hm c1
        refine lv_bipush (v := -3) hx hb dX0_best_82 (by decide) ?_
        refine lv_istore (lv' := [(13, .int (-3 : Int32)), (0, .ref x0), (7, .ref x7), (8, .ref x8), (9, .long x9), (11, .int x11), (12, .int x12)]) hx hb dX0_best_84 hl (by decide) rfl (fun ls hl => ?_)
        exact hB86 f h x0 x7 x8 x9 x11 x12 (-3 : Int32) _ _ _ _ _ hm hw (by omega) (by omega) (lv_sub hl [1, 2, 3, 4, 5, 6, 0] rfl)
  have hB64 : ∀ (h : CH) (x0 : Nat) (x7 : Nat) (y0 : Nat) (cc ss : Nat) (H : Heap) (locs : List Loc) (ls : Array Slot), m_X0_best_64 f h x0 x7 y0 = some (r0, u9) → CW D dA A s h H locs → cc + u.1 = h.1 → ss + u.2.1 = h.2.1 → lv_has ls 17 [(0, .ref x0), (7, .ref x7)] → W p l e (rm_X0_best (u9.1 - u.1) (u9.2.1 - u.2.1)) s m args below meth c H locs cc ss QQ (F0 m 64 ls [.ref y0]) := by
    intro h x0 x7 y0 cc ss H locs ls hm hw hcc hss hl
    have hmo := mo_X0_best_64  h x0 x7 y0 _ hm
    have sb_ : h.1 ≤ u9.1 := hmo.1
    have tb_ : h.2.1 ≤ u9.2.1 := hmo.2.1
    rw [m_X0_best_64] at hm
    refine lv_astore (lv' := [(8, .ref y0), (0, .ref x0), (7, .ref x7)]) hx hb dX0_best_64 hl (by decide) rfl (fun ls hl => ?_)
    refine lv_lconst (v := 0) hx hb dX0_best_66 (by decide) ?_
    refine lv_lstore (lv' := [(9, .long (0 : Int64)), (8, .ref y0), (0, .ref x0), (7, .ref x7)]) hx hb dX0_best_67 hl (by decide) rfl (fun ls hl => ?_)
    refine lv_iconst (v := -1) hx hb dX0_best_69 (by decide) ?_
    refine lv_istore (lv' := [(11, .int (-1 : Int32)), (9, .long (0 : Int64)), (8, .ref y0), (0, .ref x0), (7, .ref x7)]) hx hb dX0_best_70 hl (by decide) rfl (fun ls hl => ?_)
    refine lv_bipush (v := -3) hx hb dX0_best_72 (by decide) ?_
    refine lv_istore (lv' := [(12, .int (-3 : Int32)), (11, .int (-1 : Int32)), (9, .long (0 : Int64)), (8, .ref y0), (0, .ref x0), (7, .ref x7)]) hx hb dX0_best_74 hl (by decide) rfl (fun ls hl => ?_)
    exact hB76 f h x0 x7 y0 (0 : Int64) (-1 : Int32) (-3 : Int32) _ _ _ _ _ hm hw (by omega) (by omega) (lv_sub hl [4, 5, 3, 2, 1, 0] rfl)
  have hB46 : ∀ (h : CH) (x0 : Nat) (x4 : Nat) (x5 : Int64) (y0 : Nat) (cc ss : Nat) (H : Heap) (locs : List Loc) (ls : Array Slot), m_X0_best_46 f h x0 x4 x5 y0 = some (r0, u9) → CW D dA A s h H locs → cc + u.1 = h.1 → ss + u.2.1 = h.2.1 → lv_has ls 17 [(0, .ref x0), (4, .ref x4), (5, .long x5)] → W p l e (rm_X0_best (u9.1 - u.1) (u9.2.1 - u.2.1)) s m args below meth c H locs cc ss QQ (F0 m 46 ls [.ref y0]) := by
    intro h x0 x4 x5 y0 cc ss H locs ls hm hw hcc hss hl
    have hmo := mo_X0_best_46  h x0 x4 x5 y0 _ hm
    have sb_ : h.1 ≤ u9.1 := hmo.1
    have tb_ : h.2.1 ≤ u9.2.1 := hmo.2.1
    rw [m_X0_best_46] at hm
    refine lv_astore (lv' := [(7, .ref y0), (0, .ref x0), (4, .ref x4), (5, .long x5)]) hx hb dX0_best_46 hl (by decide) rfl (fun ls hl => ?_)
    refine lv_aload hx hb dX0_best_48 (lv_at hl 2 rfl) ?_
    obtain ⟨a1, ea1, hm⟩ := bdE hm
    refine cg_getN C hw (by decide) (oR_E ea1) rfl in_X10 (by decide) (hw.2.2.2.2.1 _ (List.mem_of_getElem? (i := 28) rfl)) dX0_best_50 ?_
    refine lv_lload hx hb dX0_best_53 (lv_at hl 3 rfl) ?_
    refine lv_aload hx hb dX0_best_55 (lv_at hl 2 rfl) ?_
    obtain ⟨v2, ev2, hm⟩ := bdE hm
    refine cg_getN C hw (by decide) (oL_E ev2) rfl in_X10 (by decide) (hw.2.2.2.2.1 _ (List.mem_of_getElem? (i := 29) rfl)) dX0_best_57 ?_
    obtain ⟨g3, hm⟩ := gdE hm
    refine lv_ldiv hx hb dX0_best_60 (nzL_ne g3) ?_
    obtain ⟨g4, hm⟩ := gdE hm
    obtain ⟨a6, h5, ea6, hm⟩ := bd2E hm
    have lh5 := mo_X2_times_2 ea6
    have ph5 : h.1 ≤ h5.1 := lh5.1
    have qh5 : h.2.1 ≤ h5.2.1 := lh5.2.1
    have hmo := mo_X0_best_64   h5 x0 y0 a6 _ hm
    have sh5 : h5.1 ≤ u9.1 := hmo.1
    have th5 : h5.2.1 ≤ u9.2.1 := hmo.2.1
    refine cg_callr hw lh5 (va_runV (As := [.long (x5 / v2)]) (rest := []) ⟨hx, hb, hml, hown, hts⟩ (w_X2_times_2 l ea6) (cw_X2_times_2 hts q1119 ⟨Nat.le_of_ble_eq_true rfl, Nat.le_of_ble_eq_true rfl⟩) (cg_preV C hw g4 rfl _) rfl rfl hl.1 rfl (lv_room (Nat.le_of_ble_eq_true rfl)) dX0_best_61 ⟨show cc + (h5.1 - h.1) ≤ u9.1 - u.1 by omega, show ss + (h5.2.1 - h.2.1) ≤ u9.2.1 - u.2.1 by omega⟩) (fun H locs hw => ?_)
    exact hB64 h5 x0 y0 a6 _ _ _ _ _ hm hw (by omega) (by omega) (lv_sub hl [1, 0] rfl)
  have hB34 : ∀ (h : CH) (x0 : Nat) (x1 : Int32) (x4 : Nat) (y0 : Int64) (y1 : Int64) (cc ss : Nat) (H : Heap) (locs : List Loc) (ls : Array Slot), m_X0_best_34 f h x0 x1 x4 y0 y1 = some (r0, u9) → CW D dA A s h H locs → cc + u.1 = h.1 → ss + u.2.1 = h.2.1 → lv_has ls 17 [(0, .ref x0), (1, .int x1), (4, .ref x4)] → W p l e (rm_X0_best (u9.1 - u.1) (u9.2.1 - u.2.1)) s m args below meth c H locs cc ss QQ (F0 m 34 ls [.long y1, .long y0]) := by
    intro h x0 x1 x4 y0 y1 cc ss H locs ls hm hw hcc hss hl
    have hmo := mo_X0_best_34  h x0 x1 x4 y0 y1 _ hm
    have sb_ : h.1 ≤ u9.1 := hmo.1
    have tb_ : h.2.1 ≤ u9.2.1 := hmo.2.1
    rw [m_X0_best_34] at hm
    obtain ⟨r1, er1, hm⟩ := bdE hm
    refine scl (va_runS (As := [.long y0, .long y1]) (rest := []) ⟨hx, hb, hml, hown, hts⟩ (w_X0_multiple l er1) (cw_X0_multiple hts q1112 ⟨Nat.le_of_ble_eq_true rfl, Nat.le_of_ble_eq_true rfl⟩) (pre_s _) rfl rfl hl.1 rfl (lv_room (Nat.le_of_ble_eq_true rfl)) dX0_best_34 ⟨show cc + 0 ≤ u9.1 - u.1 by omega, show ss + 0 ≤ u9.2.1 - u.2.1 by omega⟩) ?_
    refine lv_lstore (lv' := [(5, .long r1), (0, .ref x0), (1, .int x1), (4, .ref x4)]) hx hb dX0_best_37 hl (by decide) rfl (fun ls hl => ?_)
    refine lv_aload_n hx hb dX0_best_39 rfl (lv_at hl 1 rfl) ?_
    refine lv_iload_n hx hb dX0_best_40 rfl (lv_at hl 2 rfl) ?_
    refine lv_lload hx hb dX0_best_41 (lv_at hl 0 rfl) ?_
    obtain ⟨g2, hm⟩ := gdE hm
    obtain ⟨a4, h3, ea4, hm⟩ := bd2E hm
    have lh3 := mo_X0_rowsBy ea4
    have ph3 : h.1 ≤ h3.1 := lh3.1
    have qh3 : h.2.1 ≤ h3.2.1 := lh3.2.1
    have hmo := mo_X0_best_46   h3 x0 x4 r1 a4 _ hm
    have sh3 : h3.1 ≤ u9.1 := hmo.1
    have th3 : h3.2.1 ≤ u9.2.1 := hmo.2.1
    refine cg_callr hw lh3 (va_runV (As := [.int x1, .long r1]) (rest := []) ⟨hx, hb, hml, hown, hts⟩ (w_X0_rowsBy l ea4) (cw_X0_rowsBy hts q1115 ⟨Nat.le_of_ble_eq_true rfl, Nat.le_of_ble_eq_true rfl⟩) (cg_preV C hw g2 rfl _) rfl rfl hl.1 rfl (lv_room (Nat.le_of_ble_eq_true rfl)) dX0_best_43 ⟨show cc + (h3.1 - h.1) ≤ u9.1 - u.1 by omega, show ss + (h3.2.1 - h.2.1) ≤ u9.2.1 - u.2.1 by omega⟩) (fun H locs hw => ?_)
    exact hB46 h3 x0 x4 r1 a4 _ _ _ _ _ hm hw (by omega) (by omega) (lv_sub hl [1, 3, 0] rfl)
  have hB31 : ∀ (h : CH) (x0 : Nat) (x1 : Int32) (x4 : Nat) (y0 : Int64) (y1 : Nat) (cc ss : Nat) (H : Heap) (locs : List Loc) (ls : Array Slot), m_X0_best_31 f h x0 x1 x4 y0 y1 = some (r0, u9) → CW D dA A s h H locs → cc + u.1 = h.1 → ss + u.2.1 = h.2.1 → lv_has ls 17 [(0, .ref x0), (1, .int x1), (4, .ref x4)] → W p l e (rm_X0_best (u9.1 - u.1) (u9.2.1 - u.2.1)) s m args below meth c H locs cc ss QQ (F0 m 31 ls [.ref y1, .long y0]) := by
    intro h x0 x1 x4 y0 y1 cc ss H locs ls hm hw hcc hss hl
    have hmo := mo_X0_best_31  h x0 x1 x4 y0 y1 _ hm
    have sb_ : h.1 ≤ u9.1 := hmo.1
    have tb_ : h.2.1 ≤ u9.2.1 := hmo.2.1
    rw [m_X0_best_31] at hm
    by_cases c1 : isC h y1 6 = true
    · have hm := ifT hm c1
      obtain ⟨r3, h2, er3, hm⟩ := bd2E hm
      have lh2 := mo_X6_over er3
      have ph2 : h.1 ≤ h2.1 := lh2.1
      have qh2 : h.2.1 ≤ h2.2.1 := lh2.2.1
      have hmo := mo_X0_best_34   h2 x0 x1 x4 y0 r3 _ hm
      have sh2 : h2.1 ≤ u9.1 := hmo.1
      have th2 : h2.2.1 ≤ u9.2.1 := hmo.2.1
      refine cg_calll hw lh2 (va_runV (As := []) (rest := [.long y0]) ⟨hx, hb, hml, hown, hts⟩ (w_X6_over l er3) (cw_X6_over hts q945 ⟨Nat.le_of_ble_eq_true rfl, Nat.le_of_ble_eq_true rfl⟩) (cg_preV C hw c1 rfl _) rfl rfl hl.1 rfl (lv_room (Nat.le_of_ble_eq_true rfl)) dX0_best_31 ⟨show cc + (h2.1 - h.1) ≤ u9.1 - u.1 by omega, show ss + (h2.2.1 - h.2.1) ≤ u9.2.1 - u.2.1 by omega⟩) (fun H locs hw => ?_)
      exact hB34 h2 x0 x1 x4 y0 r3 _ _ _ _ _ hm hw (by omega) (by omega) (lv_sub hl [0, 1, 2] rfl)
    · have hm := ifF hm c1
      obtain ⟨g4, hm⟩ := gdE hm
      obtain ⟨r6, h5, er6, hm⟩ := bd2E hm
      have lh5 := mo_X7_over er6
      have ph5 : h.1 ≤ h5.1 := lh5.1
      have qh5 : h.2.1 ≤ h5.2.1 := lh5.2.1
      have hmo := mo_X0_best_34   h5 x0 x1 x4 y0 r6 _ hm
      have sh5 : h5.1 ≤ u9.1 := hmo.1
      have th5 : h5.2.1 ≤ u9.2.1 := hmo.2.1
      refine cg_calll hw lh5 (va_runU (As := []) (rest := [.long y0]) ⟨hx, hb, hml, hown, hts⟩ (w_X7_over l er6) (va_cwO 0 hts (lwO q945 q948 q946 q949 q950 q144 q951) rfl rfl rfl q952 (by decide +kernel) ⟨Nat.le_of_ble_eq_true rfl, Nat.le_of_ble_eq_true rfl⟩) (cg_preV C hw g4 rfl _) rfl rfl hl.1 rfl (lv_room (Nat.le_of_ble_eq_true rfl)) dX0_best_31 ⟨show cc + (h5.1 - h.1) ≤ u9.1 - u.1 by omega, show ss + (h5.2.1 - h.2.1) ≤ u9.2.1 - u.2.1 by omega⟩) (fun H locs hw => ?_)
      exact hB34 h5 x0 x1 x4 y0 r6 _ _ _ _ _ hm hw (by omega) (by omega) (lv_sub hl [0, 1, 2] rfl)
  have hB19 : ∀ (h : CH) (x0 : Nat) (x1 : Int32) (y0 : Nat) (cc ss : Nat) (H : Heap) (locs : List Loc) (ls : Array Slot), m_X0_best_19 f h x0 x1 y0 = some (r0, u9) → CW D dA A s h H locs → cc + u.1 = h.1 → ss + u.2.1 = h.2.1 → lv_has ls 17 [(0, .ref x0), (1, .int x1)] → W p l e (rm_X0_best (u9.1 - u.1) (u9.2.1 - u.2.1)) s m args below meth c H locs cc ss QQ (F0 m 19 ls [.ref y0]) := by
    intro h x0 x1 y0 cc ss H locs ls hm hw hcc hss hl
    have hmo := mo_X0_best_19  h x0 x1 y0 _ hm
    have sb_ : h.1 ≤ u9.1 := hmo.1
    have tb_ : h.2.1 ≤ u9.2.1 := hmo.2.1
    rw [m_X0_best_19] at hm
    refine lv_astore (lv' := [(4, .ref y0), (0, .ref x0), (1, .int x1)]) hx hb dX0_best_19 hl (by decide) rfl (fun ls hl => ?_)
    refine lv_aload hx hb dX0_best_21 (lv_at hl 0 rfl) ?_
    obtain ⟨v1, ev1, hm⟩ := bdE hm
    refine cg_getN C hw (by decide) (oL_E ev1) rfl in_X10 (by decide) (hw.2.2.2.2.1 _ (List.mem_of_getElem? (i := 29) rfl)) dX0_best_23 ?_
    refine lv_aload_n hx hb dX0_best_26 rfl (lv_at hl 1 rfl) ?_
    refine lv_iload_n hx hb dX0_best_27 rfl (lv_at hl 2 rfl) ?_
    obtain ⟨g2, hm⟩ := gdE hm
    obtain ⟨a4, h3, ea4, hm⟩ := bd2E hm
    have lh3 := mo_X0_at ea4
    have ph3 : h.1 ≤ h3.1 := lh3.1
    have qh3 : h.2.1 ≤ h3.2.1 := lh3.2.1
    have hmo := mo_X0_best_31   h3 x0 x1 y0 v1 a4 _ hm
    have sh3 : h3.1 ≤ u9.1 := hmo.1
    have th3 : h3.2.1 ≤ u9.2.1 := hmo.2.1
    refine cg_callr hw lh3 (va_runV (As := [.int x1]) (rest := [.long v1]) ⟨hx, hb, hml, hown, hts⟩ (w_X0_at l ea4) (cw_X0_at hts q900 ⟨Nat.le_of_ble_eq_true rfl, Nat.le_of_ble_eq_true rfl⟩) (cg_preV C hw g2 rfl _) rfl rfl hl.1 rfl (lv_room (Nat.le_of_ble_eq_true rfl)) dX0_best_28 ⟨show cc + (h3.1 - h.1) ≤ u9.1 - u.1 by omega, show ss + (h3.2.1 - h.2.1) ≤ u9.2.1 - u.2.1 by omega⟩) (fun H locs hw => ?_)
    exact hB31 h3 x0 x1 y0 v1 a4 _ _ _ _ _ hm hw (by omega) (by omega) (lv_sub hl [1, 2, 0] rfl)
  have hB6 : ∀ (h : CH) (x0 : Nat) (x1 : Int32) (x2 : Int32) (y0 : Int32) (cc ss : Nat) (H : Heap) (locs : List Loc) (ls : Array Slot), m_X0_best_6 f h x0 x1 x2 y0 = some (r0, u9) → CW D dA A s h H locs → cc + u.1 = h.1 → ss + u.2.1 = h.2.1 → lv_has ls 17 [(0, .ref x0), (1, .int x1), (2, .int x2)] → W p l e (rm_X0_best (u9.1 - u.1) (u9.2.1 - u.2.1)) s m args below meth c H locs cc ss QQ (F0 m 6 ls [.int y0]) := by
    intro h x0 x1 x2 y0 cc ss H locs ls hm hw hcc hss hl
    have hmo := mo_X0_best_6  h x0 x1 x2 y0 _ hm
    have sb_ : h.1 ≤ u9.1 := hmo.1
    have tb_ : h.2.1 ≤ u9.2.1 := hmo.2.1
    rw [m_X0_best_6] at hm
    refine lv_istore_n (lv' := [(3, .int y0), (0, .ref x0), (1, .int x1), (2, .int x2)]) hx hb dX0_best_6 rfl hl (by decide) rfl (fun ls hl => ?_)
    refine lv_iload_n hx hb dX0_best_7 rfl (lv_at hl 0 rfl) ?_
    refine lv_if_ge (tgt := 13) hx hb dX0_best_8 (by decide) (fun c1 => ?_) (fun c1 => ?_)
    · have hm := ifT hm c1
      refine lv_aload_n hx hb dX0_best_13 rfl (lv_at hl 1 rfl) ?_
      refine lv_iload_n hx hb dX0_best_14 rfl (lv_at hl 2 rfl) ?_
      refine lv_iload_n hx hb dX0_best_15 rfl (lv_at hl 3 rfl) ?_
      obtain ⟨g2, hm⟩ := gdE hm
      obtain ⟨a4, h3, ea4, hm⟩ := bd2E hm
      have lh3 := mo_X0_meetOf ea4
      have ph3 : h.1 ≤ h3.1 := lh3.1
      have qh3 : h.2.1 ≤ h3.2.1 := lh3.2.1
      have hmo := mo_X0_best_19   h3 x0 x1 a4 _ hm
      have sh3 : h3.1 ≤ u9.1 := hmo.1
      have th3 : h3.2.1 ≤ u9.2.1 := hmo.2.1
      refine cg_callr hw lh3 (va_runV (As := [.int x1, .int x2]) (rest := []) ⟨hx, hb, hml, hown, hts⟩ (w_X0_meetOf l ea4) (cw_X0_meetOf hts q1104 ⟨Nat.le_of_ble_eq_true rfl, Nat.le_of_ble_eq_true rfl⟩) (cg_preV C hw g2 rfl _) rfl rfl hl.1 rfl (lv_room (Nat.le_of_ble_eq_true rfl)) dX0_best_16 ⟨show cc + (h3.1 - h.1) ≤ u9.1 - u.1 by omega, show ss + (h3.2.1 - h.2.1) ≤ u9.2.1 - u.2.1 by omega⟩) (fun H locs hw => ?_)
      exact hB19 h3 x0 x1 a4 _ _ _ _ _ hm hw (by omega) (by omega) (lv_sub hl [1, 2] rfl)
    · have hm := ifF hm c1
      refine lv_iload_n hx hb dX0_best_11 rfl (lv_at hl 0 rfl) ?_
      obtain ⟨er, eh⟩ := retE hm
      have ec : cc = u9.1 - u.1 := by rw [← eh]; omega
      have es : ss = u9.2.1 - u.2.1 := by rw [← eh]; omega
      rw [ec, es, ← hQ]
      exact W.iret (v := y0) hx hb hr (fun t ht hW => ⟨⟨y0, h, rfl, ⟨er, eh⟩, ⟨by rw [ht]; exact hw.1, by rw [ht]; exact hw.2.1⟩⟩, hw.2.2.1.F ht⟩) hw.2.2.1.2.2 dX0_best_12
  rw [m_X0_best] at hm
  refine lv_aload_n hx hb dX0_best_0 rfl (lv_at hl 0 rfl) ?_
  refine lv_iload_n hx hb dX0_best_1 rfl (lv_at hl 1 rfl) ?_
  refine lv_iload_n hx hb dX0_best_2 rfl (lv_at hl 2 rfl) ?_
  obtain ⟨g1, hm⟩ := gdE hm
  obtain ⟨r3, h2, er3, hm⟩ := bd2E hm
  have lh2 := mo_X0_asks er3
  have ph2 : u.1 ≤ h2.1 := lh2.1
  have qh2 : u.2.1 ≤ h2.2.1 := lh2.2.1
  have hmo := mo_X0_best_6   h2 x0 x1 x2 r3 _ hm
  have sh2 : h2.1 ≤ u9.1 := hmo.1
  have th2 : h2.2.1 ≤ u9.2.1 := hmo.2.1
  refine cg_calli hw lh2 (va_runV (As := [.int x1, .int x2]) (rest := []) ⟨hx, hb, hml, hown, hts⟩ (w_X0_asks l er3) (cw_X0_asks hts q1096 ⟨Nat.le_of_ble_eq_true rfl, Nat.le_of_ble_eq_true rfl⟩) (cg_preV C hw g1 rfl _) rfl rfl hl.1 rfl (lv_room (Nat.le_of_ble_eq_true rfl)) dX0_best_3 ⟨show cc + (h2.1 - u.1) ≤ u9.1 - u.1 by omega, show ss + (h2.2.1 - u.2.1) ≤ u9.2.1 - u.2.1 by omega⟩) (fun H locs hw => ?_)
  exact hB6 h2 x0 x1 x2 r3 _ _ _ _ _ hm hw (by omega) (by omega) (lv_sub hl [0, 1, 2] rfl)
def m_X0_cosine_39 (f : Nat) (h : CH) : Option (Int32 × CH) := some ((-1000000 : Int32), h)
theorem mo_X0_cosine_39 {f : Nat} : ∀ (h : CH) (r : (Int32 × CH)), m_X0_cosine_39 f h = some r → le2 h r.2 := by
  intro h r hm
  rw [m_X0_cosine_39] at hm
  cases hm
  exact le2.rf
def m_X0_cosine_81 (f : Nat) (h : CH) (y0 : Int64) : Option (Int32 × CH) := some ((Int64.toInt32 y0), h)
theorem mo_X0_cosine_81 {f : Nat} : ∀ (h : CH) (y0 : Int64) (r : (Int32 × CH)), m_X0_cosine_81 f h y0 = some r → le2 h r.2 := by
  intro h y0 r hm
  rw [m_X0_cosine_81] at hm
  cases hm
  exact le2.rf
def m_X0_cosine_20 (f : Nat) (h : CH) (x2 : Int32) (y0 : Nat) : Option (Int32 × CH) := if isC h y0 6 = true then
    if (0 : Int32) = 0 then
    m_X0_cosine_39 f h
    else gd (isC h y0 7) <|
    if ¬ x2 = 0 then
    bd (oL h 7 3 y0) fun v5 =>
    bd (oL h 7 4 y0) fun v6 =>
    bd (oL h 7 3 y0) fun v7 =>
    bd (m_X0_divisor f v6 v7) fun r8 =>
    gd (nzL r8) <|
    m_X0_cosine_81 f h (v5 / r8)
    else bd (oL h 7 4 y0) fun v10 =>
    bd (oL h 7 4 y0) fun v11 =>
    bd (oL h 7 3 y0) fun v12 =>
    bd (m_X0_divisor f v11 v12) fun r13 =>
    gd (nzL r13) <|
    m_X0_cosine_81 f h (v10 / r13)
    else gd (isC h y0 7) <|
    if (1 : Int32) = 0 then
    m_X0_cosine_39 f h
    else gd (isC h y0 7) <|
    if ¬ x2 = 0 then
    bd (oL h 7 3 y0) fun v19 =>
    bd (oL h 7 4 y0) fun v20 =>
    bd (oL h 7 3 y0) fun v21 =>
    bd (m_X0_divisor f v20 v21) fun r22 =>
    gd (nzL r22) <|
    m_X0_cosine_81 f h (v19 / r22)
    else bd (oL h 7 4 y0) fun v24 =>
    bd (oL h 7 4 y0) fun v25 =>
    bd (oL h 7 3 y0) fun v26 =>
    bd (m_X0_divisor f v25 v26) fun r27 =>
    gd (nzL r27) <|
    m_X0_cosine_81 f h (v24 / r27)
theorem mo_X0_cosine_20 {f : Nat} : ∀ (h : CH) (x2 : Int32) (y0 : Nat) (r : (Int32 × CH)), m_X0_cosine_20 f h x2 y0 = some r → le2 h r.2 := by
  intro h x2 y0 r hm
  rw [m_X0_cosine_20] at hm
  by_cases c1 : isC h y0 6 = true
  · have hm := ifT hm c1
    by_cases c2 : (0 : Int32) = 0
    · have hm := ifT hm c2
      exact (mo_X0_cosine_39  h _ hm)
    · have hm := ifF hm c2
      obtain ⟨g3, hm⟩ := gdE hm
      by_cases c4 : ¬ x2 = 0
      · have hm := ifT hm c4
        obtain ⟨v5, ev5, hm⟩ := bdE hm
        obtain ⟨v6, ev6, hm⟩ := bdE hm
        obtain ⟨v7, ev7, hm⟩ := bdE hm
        obtain ⟨r8, er8, hm⟩ := bdE hm
        obtain ⟨g9, hm⟩ := gdE hm
        exact (mo_X0_cosine_81  h (v5 / r8) _ hm)
      · have hm := ifF hm c4
        obtain ⟨v10, ev10, hm⟩ := bdE hm
        obtain ⟨v11, ev11, hm⟩ := bdE hm
        obtain ⟨v12, ev12, hm⟩ := bdE hm
        obtain ⟨r13, er13, hm⟩ := bdE hm
        obtain ⟨g14, hm⟩ := gdE hm
        exact (mo_X0_cosine_81  h (v10 / r13) _ hm)
  · have hm := ifF hm c1
    obtain ⟨g15, hm⟩ := gdE hm
    by_cases c16 : (1 : Int32) = 0
    · have hm := ifT hm c16
      exact (mo_X0_cosine_39  h _ hm)
    · have hm := ifF hm c16
      obtain ⟨g17, hm⟩ := gdE hm
      by_cases c18 : ¬ x2 = 0
      · have hm := ifT hm c18
        obtain ⟨v19, ev19, hm⟩ := bdE hm
        obtain ⟨v20, ev20, hm⟩ := bdE hm
        obtain ⟨v21, ev21, hm⟩ := bdE hm
        obtain ⟨r22, er22, hm⟩ := bdE hm
        obtain ⟨g23, hm⟩ := gdE hm
        exact (mo_X0_cosine_81  h (v19 / r22) _ hm)
      · have hm := ifF hm c18
        obtain ⟨v24, ev24, hm⟩ := bdE hm
        obtain ⟨v25, ev25, hm⟩ := bdE hm
        obtain ⟨v26, ev26, hm⟩ := bdE hm
        obtain ⟨r27, er27, hm⟩ := bdE hm
        obtain ⟨g28, hm⟩ := gdE hm
        exact (mo_X0_cosine_81  h (v24 / r27) _ hm)
def m_X0_cosine_5 (f : Nat) (h : CH) (x0 : Nat) (x1 : Int32) (x2 : Int32) (y0 : Int32) : Option (Int32 × CH) := if y0 = 0 then
    m_X0_cosine_39 f h
    else bd (m_X0_isPart f x2) fun r2 =>
    if r2 = 0 then
    m_X0_cosine_39 f h
    else gd (isC h x0 1) <|
    bd2 (m_X0_at f h x0 x1) fun a6 h5 =>
    m_X0_cosine_20 f h5 x2 a6
theorem mo_X0_cosine_5 {f : Nat} : ∀ (h : CH) (x0 : Nat) (x1 : Int32) (x2 : Int32) (y0 : Int32) (r : (Int32 × CH)), m_X0_cosine_5 f h x0 x1 x2 y0 = some r → le2 h r.2 := by
  intro h x0 x1 x2 y0 r hm
  rw [m_X0_cosine_5] at hm
  by_cases c1 : y0 = 0
  · have hm := ifT hm c1
    exact (mo_X0_cosine_39  h _ hm)
  · have hm := ifF hm c1
    obtain ⟨r2, er2, hm⟩ := bdE hm
    by_cases c3 : r2 = 0
    · have hm := ifT hm c3
      exact (mo_X0_cosine_39  h _ hm)
    · have hm := ifF hm c3
      obtain ⟨g4, hm⟩ := gdE hm
      obtain ⟨a6, h5, ea6, hm⟩ := bd2E hm
      have lh5 := mo_X0_at ea6
      exact (lh5.tr (mo_X0_cosine_20  h5 x2 a6 _ hm))
def m_X0_cosine (f : Nat) (u : CH) (x0 : Nat) (x1 : Int32) (x2 : Int32) : Option (Int32 × CH) := gd (isC u x0 1) <|
    bd2 (m_X0_isLattice f u x0 x1) fun r3 h2 =>
    m_X0_cosine_5 f h2 x0 x1 x2 r3
theorem mo_X0_cosine {f : Nat} {u : CH} {x0 : Nat} {x1 : Int32} {x2 : Int32} {r0 : Int32} {u9 : CH} (hm : m_X0_cosine f u x0 x1 x2 = some (r0, u9)) : le2 u u9 := by
  rw [m_X0_cosine] at hm
  obtain ⟨g1, hm⟩ := gdE hm
  obtain ⟨r3, h2, er3, hm⟩ := bd2E hm
  have lh2 := mo_X0_isLattice er3
  exact (lh2.tr (mo_X0_cosine_5  h2 x0 x1 x2 r3 _ hm))
abbrev rm_X0_cosine (mc ms : Nat) : Room := { frames := 102, cells := mc, slots := ms, locals := 4063 }
theorem cw_X0_cosine {R : Room} {s : State} {args : Array Value} {own : String} {idx mc ms : Nat} (hts : ∀ w ∈ lw_all, w.before args s = true) (hl : Cond.methodLink own idx yX0_cosine ∈ lw_all) (hR : 102 + 1 ≤ R.frames ∧ 8 + (5 + 11) + 4063 ≤ R.locals) : CallW R s args own RX0 idx yX0_cosine cX0_cosine 5 (Option.some Jvm.ClassFile.FieldType.int) (ws_ yX0_cosine cX0_cosine 5 (Option.some Jvm.ClassFile.FieldType.int)) (rm_X0_cosine mc ms) mc ms 2 := cwV 2 hts (lw_V hl q1324 q1325 q119 q1326) rfl rfl rfl (by decide +kernel) hR
set_option maxHeartbeats 4000000 in
set_option maxRecDepth 100000 in
theorem w_X0_cosine (l : Launch) {D : va_G} {dA : Nat → ClassId} {A : Nat → Prop} {f : Nat} {u u9 : CH} {r0 : Int32} {x0 : Nat} {x1 : Int32} {x2 : Int32} (hm : m_X0_cosine f u x0 x1 x2 = some (r0, u9)) : Met l yX0_cosine (ws_ yX0_cosine cX0_cosine 5 (Option.some Jvm.ClassFile.FieldType.int)) (rm_X0_cosine (u9.1 - u.1) (u9.2.1 - u.2.1)) (va_Pc [.ref x0, .int x1, .int x2] (CPre D dA A u)) (va_Qi (fun r u => r = r0 ∧ u = u9) (CPost D dA A) A) (u9.1 - u.1) (u9.2.1 - u.2.1) A := by
  refine Met.ofW (cc := cX0_cosine) (maxL := 5) (ret := (Option.some Jvm.ClassFile.FieldType.int)) (by decide) rfl ?_
  intro p e s m args below meth c s₁ B hml hv
  have hx := B.exec
  have hb := B.bytes
  have hr := B.returns
  have hts := atoms_spec (ws := (ws_ yX0_cosine cX0_cosine 5 (Option.some Jvm.ClassFile.FieldType.int))) B.pre
  have hts : ∀ w ∈ lw_all, w.before args s = true := fun w h => hts w (List.mem_cons_of_mem _ h)
  have hown : s.vm.findClass RX0 = some m.cls := findClass_of_methodNamed B.named
  have hlocks := B.notSynchronized
  obtain ⟨hav, hv⟩ := hv
  have C : CX p s m args c cX0_cosine RX0 D dA := ⟨hx, hb, hown, hts, hv.2⟩
  have hw : CW D dA A s u s.heap [] := hv.1
  generalize hQ : MQ below (va_Qi (fun r u => r = r0 ∧ u = u9) (CPost D dA A) A) args s (u9.1 - u.1) (u9.2.1 - u.2.1) A = QQ
  have hent := lg_entry_eq m [.ref x0, .int x1, .int x2] 5
  rw [← hav] at hent
  rw [hent]
  have hl := lv_entry ([.ref x0, .int x1, .int x2]) (n := 5) (Nat.le_of_ble_eq_true rfl)
  generalize (lg_sl ([.ref x0, .int x1, .int x2]) ++ List.replicate (5 - (lg_sl ([.ref x0, .int x1, .int x2])).length) Slot.unset).toArray = ls at hl ⊢
  have hl : lv_has ls 5 [(0, .ref x0), (1, .int x1), (2, .int x2)] := hl
  obtain ⟨cc, ecc⟩ : ∃ z : Nat, z = 0 := ⟨0, rfl⟩
  obtain ⟨ss, ess⟩ : ∃ z : Nat, z = 0 := ⟨0, rfl⟩
  have hcc : cc + u.1 = u.1 := by omega
  have hss : ss + u.2.1 = u.2.1 := by omega
  suffices hgo : W p l e (rm_X0_cosine (u9.1 - u.1) (u9.2.1 - u.2.1)) s m args below meth c s.heap [] cc ss QQ (F0 m 0 ls []) by rw [ecc, ess] at hgo; exact hgo
  have ⟨pu, qu, _, _⟩ := mo_X0_cosine hm
  have hB39 : ∀ (h : CH) (cc ss : Nat) (H : Heap) (locs : List Loc) (ls : Array Slot), m_X0_cosine_39 f h = some (r0, u9) → CW D dA A s h H locs → cc + u.1 = h.1 → ss + u.2.1 = h.2.1 → lv_has ls 5 [] → W p l e (rm_X0_cosine (u9.1 - u.1) (u9.2.1 - u.2.1)) s m args below meth c H locs cc ss QQ (F0 m 39 ls []) := by
    intro h cc ss H locs ls hm hw hcc hss hl
    have hmo := mo_X0_cosine_39  h _ hm
    have sb_ : h.1 ≤ u9.1 := hmo.1
    have tb_ : h.2.1 ≤ u9.2.1 := hmo.2.1
    rw [m_X0_cosine_39] at hm
    refine lv_ldc hx hb hown (hts _ q1050) dX0_cosine_39 ?_
    obtain ⟨er, eh⟩ := retE hm
    have ec : cc = u9.1 - u.1 := by rw [← eh]; omega
    have es : ss = u9.2.1 - u.2.1 := by rw [← eh]; omega
    rw [ec, es, ← hQ]
    exact W.iret (v := (-1000000 : Int32)) hx hb hr (fun t ht hW => ⟨⟨(-1000000 : Int32), h, rfl, ⟨er, eh⟩, ⟨by rw [ht]; exact hw.1, by rw [ht]; exact hw.2.1⟩⟩, hw.2.2.1.F ht⟩) hw.2.2.1.2.2 dX0_cosine_41
  have hB81 : ∀ (h : CH) (y0 : Int64) (cc ss : Nat) (H : Heap) (locs : List Loc) (ls : Array Slot), m_X0_cosine_81 f h y0 = some (r0, u9) → CW D dA A s h H locs → cc + u.1 = h.1 → ss + u.2.1 = h.2.1 → lv_has ls 5 [] → W p l e (rm_X0_cosine (u9.1 - u.1) (u9.2.1 - u.2.1)) s m args below meth c H locs cc ss QQ (F0 m 81 ls [.long y0]) := by
    intro h y0 cc ss H locs ls hm hw hcc hss hl
    have hmo := mo_X0_cosine_81  h y0 _ hm
    have sb_ : h.1 ≤ u9.1 := hmo.1
    have tb_ : h.2.1 ≤ u9.2.1 := hmo.2.1
    rw [m_X0_cosine_81] at hm
    refine lv_l2i hx hb dX0_cosine_81 rfl ?_
    obtain ⟨er, eh⟩ := retE hm
    have ec : cc = u9.1 - u.1 := by rw [← eh]; omega
    have es : ss = u9.2.1 - u.2.1 := by rw [← eh]; omega
    rw [ec, es, ← hQ]
    exact W.iret (v := (Int64.toInt32 y0)) hx hb hr (fun t ht hW => ⟨⟨(Int64.toInt32 y0), h, rfl, ⟨er, eh⟩, ⟨by rw [ht]; exact hw.1, by rw [ht]; exact hw.2.1⟩⟩, hw.2.2.1.F ht⟩) hw.2.2.1.2.2 dX0_cosine_82
  have hB20 : ∀ (h : CH) (x2 : Int32) (y0 : Nat) (cc ss : Nat) (H : Heap) (locs : List Loc) (ls : Array Slot), m_X0_cosine_20 f h x2 y0 = some (r0, u9) → CW D dA A s h H locs → cc + u.1 = h.1 → ss + u.2.1 = h.2.1 → lv_has ls 5 [(2, .int x2)] → W p l e (rm_X0_cosine (u9.1 - u.1) (u9.2.1 - u.2.1)) s m args below meth c H locs cc ss QQ (F0 m 20 ls [.ref y0]) := by
    intro h x2 y0 cc ss H locs ls hm hw hcc hss hl
    have hmo := mo_X0_cosine_20  h x2 y0 _ hm
    have sb_ : h.1 ≤ u9.1 := hmo.1
    have tb_ : h.2.1 ≤ u9.2.1 := hmo.2.1
    rw [m_X0_cosine_20] at hm
    refine lv_astore (lv' := [(4, .ref y0), (2, .int x2)]) hx hb dX0_cosine_20 hl (by decide) rfl (fun ls hl => ?_)
    refine lv_aload hx hb dX0_cosine_22 (lv_at hl 0 rfl) ?_
    by_cases c1 : isC h y0 6 = true
    · have hm := ifT hm c1
      refine cg_instN C hw c1 q1327 dX0_cosine_24 ?_
      refine lv_if_eq (tgt := 39) hx hb dX0_cosine_27 (by decide) (fun c2 => ?_) (fun c2 => ?_)
      · have hm := ifT hm c2
        exact hB39 h _ _ _ _ _ hm hw (by omega) (by omega) (lv_sub hl [] rfl)
      · have hm := ifF hm c2
        refine lv_aload hx hb dX0_cosine_30 (lv_at hl 0 rfl) ?_
        obtain ⟨g3, hm⟩ := gdE hm
        refine cg_castS C hw g3 rfl q1327 dX0_cosine_32 ?_
        refine lv_astore_n (lv' := [(3, .ref y0), (4, .ref y0), (2, .int x2)]) hx hb dX0_cosine_35 rfl hl (by decide) rfl (fun ls hl => ?_)
        refine lv_goto (tgt := 42) hx hb dX0_cosine_36 (by decide) ?_
        refine lv_iload_n hx hb dX0_cosine_42 rfl (lv_at hl 2 rfl) ?_
        refine lv_if_ne (tgt := 65) hx hb dX0_cosine_43 (by decide) (fun c4 => ?_) (fun c4 => ?_)
        · have hm := ifT hm c4
          refine lv_aload_n hx hb dX0_cosine_65 rfl (lv_at hl 0 rfl) ?_
          obtain ⟨v5, ev5, hm⟩ := bdE hm
          refine cg_getN C hw (by decide) (oL_E ev5) rfl in_X7 (by decide) (hw.2.2.2.2.1 _ (List.mem_of_getElem? (i := 19) rfl)) dX0_cosine_66 ?_
          refine lv_aload_n hx hb dX0_cosine_69 rfl (lv_at hl 0 rfl) ?_
          obtain ⟨v6, ev6, hm⟩ := bdE hm
          refine cg_getN C hw (by decide) (oL_E ev6) rfl in_X7 (by decide) (hw.2.2.2.2.1 _ (List.mem_of_getElem? (i := 20) rfl)) dX0_cosine_70 ?_
          refine lv_aload_n hx hb dX0_cosine_73 rfl (lv_at hl 0 rfl) ?_
          obtain ⟨v7, ev7, hm⟩ := bdE hm
          refine cg_getN C hw (by decide) (oL_E ev7) rfl in_X7 (by decide) (hw.2.2.2.2.1 _ (List.mem_of_getElem? (i := 19) rfl)) dX0_cosine_74 ?_
          obtain ⟨r8, er8, hm⟩ := bdE hm
          refine scl (va_runS (As := [.long v6, .long v7]) (rest := [.long v5]) ⟨hx, hb, hml, hown, hts⟩ (w_X0_divisor l er8) (cw_X0_divisor hts q934 ⟨Nat.le_of_ble_eq_true rfl, Nat.le_of_ble_eq_true rfl⟩) (pre_s _) rfl rfl hl.1 rfl (lv_room (Nat.le_of_ble_eq_true rfl)) dX0_cosine_77 ⟨show cc + 0 ≤ u9.1 - u.1 by omega, show ss + 0 ≤ u9.2.1 - u.2.1 by omega⟩) ?_
          obtain ⟨g9, hm⟩ := gdE hm
          refine lv_ldiv hx hb dX0_cosine_80 (nzL_ne g9) ?_
          exact hB81 h (v5 / r8) _ _ _ _ _ hm hw (by omega) (by omega) (lv_sub hl [] rfl)
        · have hm := ifT' hm c4
          refine lv_aload_n hx hb dX0_cosine_46 rfl (lv_at hl 0 rfl) ?_
          obtain ⟨v10, ev10, hm⟩ := bdE hm
          refine cg_getN C hw (by decide) (oL_E ev10) rfl in_X7 (by decide) (hw.2.2.2.2.1 _ (List.mem_of_getElem? (i := 20) rfl)) dX0_cosine_47 ?_
          refine lv_aload_n hx hb dX0_cosine_50 rfl (lv_at hl 0 rfl) ?_
          obtain ⟨v11, ev11, hm⟩ := bdE hm
          refine cg_getN C hw (by decide) (oL_E ev11) rfl in_X7 (by decide) (hw.2.2.2.2.1 _ (List.mem_of_getElem? (i := 20) rfl)) dX0_cosine_51 ?_
          refine lv_aload_n hx hb dX0_cosine_54 rfl (lv_at hl 0 rfl) ?_
          obtain ⟨v12, ev12, hm⟩ := bdE hm
          refine cg_getN C hw (by decide) (oL_E ev12) rfl in_X7 (by decide) (hw.2.2.2.2.1 _ (List.mem_of_getElem? (i := 19) rfl)) dX0_cosine_55 ?_
          obtain ⟨r13, er13, hm⟩ := bdE hm
          refine scl (va_runS (As := [.long v11, .long v12]) (rest := [.long v10]) ⟨hx, hb, hml, hown, hts⟩ (w_X0_divisor l er13) (cw_X0_divisor hts q934 ⟨Nat.le_of_ble_eq_true rfl, Nat.le_of_ble_eq_true rfl⟩) (pre_s _) rfl rfl hl.1 rfl (lv_room (Nat.le_of_ble_eq_true rfl)) dX0_cosine_58 ⟨show cc + 0 ≤ u9.1 - u.1 by omega, show ss + 0 ≤ u9.2.1 - u.2.1 by omega⟩) ?_
          obtain ⟨g14, hm⟩ := gdE hm
          refine lv_ldiv hx hb dX0_cosine_61 (nzL_ne g14) ?_
          refine lv_goto (tgt := 81) hx hb dX0_cosine_62 (by decide) ?_
          exact hB81 h (v10 / r13) _ _ _ _ _ hm hw (by omega) (by omega) (lv_sub hl [] rfl)
    · have hm := ifF hm c1
      obtain ⟨g15, hm⟩ := gdE hm
      refine cg_instS C hw g15 rfl q1327 dX0_cosine_24 ?_
      refine lv_if_eq (tgt := 39) hx hb dX0_cosine_27 (by decide) (fun c16 => ?_) (fun c16 => ?_)
      · have hm := ifT hm c16
        exact hB39 h _ _ _ _ _ hm hw (by omega) (by omega) (lv_sub hl [] rfl)
      · have hm := ifF hm c16
        refine lv_aload hx hb dX0_cosine_30 (lv_at hl 0 rfl) ?_
        obtain ⟨g17, hm⟩ := gdE hm
        refine cg_castS C hw g17 rfl q1327 dX0_cosine_32 ?_
        refine lv_astore_n (lv' := [(3, .ref y0), (4, .ref y0), (2, .int x2)]) hx hb dX0_cosine_35 rfl hl (by decide) rfl (fun ls hl => ?_)
        refine lv_goto (tgt := 42) hx hb dX0_cosine_36 (by decide) ?_
        refine lv_iload_n hx hb dX0_cosine_42 rfl (lv_at hl 2 rfl) ?_
        refine lv_if_ne (tgt := 65) hx hb dX0_cosine_43 (by decide) (fun c18 => ?_) (fun c18 => ?_)
        · have hm := ifT hm c18
          refine lv_aload_n hx hb dX0_cosine_65 rfl (lv_at hl 0 rfl) ?_
          obtain ⟨v19, ev19, hm⟩ := bdE hm
          refine cg_getN C hw (by decide) (oL_E ev19) rfl in_X7 (by decide) (hw.2.2.2.2.1 _ (List.mem_of_getElem? (i := 19) rfl)) dX0_cosine_66 ?_
          refine lv_aload_n hx hb dX0_cosine_69 rfl (lv_at hl 0 rfl) ?_
          obtain ⟨v20, ev20, hm⟩ := bdE hm
          refine cg_getN C hw (by decide) (oL_E ev20) rfl in_X7 (by decide) (hw.2.2.2.2.1 _ (List.mem_of_getElem? (i := 20) rfl)) dX0_cosine_70 ?_
          refine lv_aload_n hx hb dX0_cosine_73 rfl (lv_at hl 0 rfl) ?_
          obtain ⟨v21, ev21, hm⟩ := bdE hm
          refine cg_getN C hw (by decide) (oL_E ev21) rfl in_X7 (by decide) (hw.2.2.2.2.1 _ (List.mem_of_getElem? (i := 19) rfl)) dX0_cosine_74 ?_
          obtain ⟨r22, er22, hm⟩ := bdE hm
          refine scl (va_runS (As := [.long v20, .long v21]) (rest := [.long v19]) ⟨hx, hb, hml, hown, hts⟩ (w_X0_divisor l er22) (cw_X0_divisor hts q934 ⟨Nat.le_of_ble_eq_true rfl, Nat.le_of_ble_eq_true rfl⟩) (pre_s _) rfl rfl hl.1 rfl (lv_room (Nat.le_of_ble_eq_true rfl)) dX0_cosine_77 ⟨show cc + 0 ≤ u9.1 - u.1 by omega, show ss + 0 ≤ u9.2.1 - u.2.1 by omega⟩) ?_
          obtain ⟨g23, hm⟩ := gdE hm
          refine lv_ldiv hx hb dX0_cosine_80 (nzL_ne g23) ?_
          exact hB81 h (v19 / r22) _ _ _ _ _ hm hw (by omega) (by omega) (lv_sub hl [] rfl)
        · have hm := ifT' hm c18
          refine lv_aload_n hx hb dX0_cosine_46 rfl (lv_at hl 0 rfl) ?_
          obtain ⟨v24, ev24, hm⟩ := bdE hm
          refine cg_getN C hw (by decide) (oL_E ev24) rfl in_X7 (by decide) (hw.2.2.2.2.1 _ (List.mem_of_getElem? (i := 20) rfl)) dX0_cosine_47 ?_
          refine lv_aload_n hx hb dX0_cosine_50 rfl (lv_at hl 0 rfl) ?_
          obtain ⟨v25, ev25, hm⟩ := bdE hm
          refine cg_getN C hw (by decide) (oL_E ev25) rfl in_X7 (by decide) (hw.2.2.2.2.1 _ (List.mem_of_getElem? (i := 20) rfl)) dX0_cosine_51 ?_
          refine lv_aload_n hx hb dX0_cosine_54 rfl (lv_at hl 0 rfl) ?_
          obtain ⟨v26, ev26, hm⟩ := bdE hm
          refine cg_getN C hw (by decide) (oL_E ev26) rfl in_X7 (by decide) (hw.2.2.2.2.1 _ (List.mem_of_getElem? (i := 19) rfl)) dX0_cosine_55 ?_
          obtain ⟨r27, er27, hm⟩ := bdE hm
          refine scl (va_runS (As := [.long v25, .long v26]) (rest := [.long v24]) ⟨hx, hb, hml, hown, hts⟩ (w_X0_divisor l er27) (cw_X0_divisor hts q934 ⟨Nat.le_of_ble_eq_true rfl, Nat.le_of_ble_eq_true rfl⟩) (pre_s _) rfl rfl hl.1 rfl (lv_room (Nat.le_of_ble_eq_true rfl)) dX0_cosine_58 ⟨show cc + 0 ≤ u9.1 - u.1 by omega, show ss + 0 ≤ u9.2.1 - u.2.1 by omega⟩) ?_
          obtain ⟨g28, hm⟩ := gdE hm
          refine lv_ldiv hx hb dX0_cosine_61 (nzL_ne g28) ?_
          refine lv_goto (tgt := 81) hx hb dX0_cosine_62 (by decide) ?_
          exact hB81 h (v24 / r27) _ _ _ _ _ hm hw (by omega) (by omega) (lv_sub hl [] rfl)
  have hB5 : ∀ (h : CH) (x0 : Nat) (x1 : Int32) (x2 : Int32) (y0 : Int32) (cc ss : Nat) (H : Heap) (locs : List Loc) (ls : Array Slot), m_X0_cosine_5 f h x0 x1 x2 y0 = some (r0, u9) → CW D dA A s h H locs → cc + u.1 = h.1 → ss + u.2.1 = h.2.1 → lv_has ls 5 [(0, .ref x0), (1, .int x1), (2, .int x2)] → W p l e (rm_X0_cosine (u9.1 - u.1) (u9.2.1 - u.2.1)) s m args below meth c H locs cc ss QQ (F0 m 5 ls [.int y0]) := by
    intro h x0 x1 x2 y0 cc ss H locs ls hm hw hcc hss hl
    have hmo := mo_X0_cosine_5  h x0 x1 x2 y0 _ hm
    have sb_ : h.1 ≤ u9.1 := hmo.1
    have tb_ : h.2.1 ≤ u9.2.1 := hmo.2.1
    rw [m_X0_cosine_5] at hm
    refine lv_if_eq (tgt := 39) hx hb dX0_cosine_5 (by decide) (fun c1 => ?_) (fun c1 => ?_)
    · have hm := ifT hm c1
      exact hB39 h _ _ _ _ _ hm hw (by omega) (by omega) (lv_sub hl [] rfl)
    · have hm := ifF hm c1
      refine lv_iload_n hx hb dX0_cosine_8 rfl (lv_at hl 2 rfl) ?_
      obtain ⟨r2, er2, hm⟩ := bdE hm
      refine sci (va_runS (As := [.int x2]) (rest := []) ⟨hx, hb, hml, hown, hts⟩ (w_X0_isPart l er2) (cw_X0_isPart hts q1056 ⟨Nat.le_of_ble_eq_true rfl, Nat.le_of_ble_eq_true rfl⟩) (pre_s _) rfl rfl hl.1 rfl (lv_room (Nat.le_of_ble_eq_true rfl)) dX0_cosine_9 ⟨show cc + 0 ≤ u9.1 - u.1 by omega, show ss + 0 ≤ u9.2.1 - u.2.1 by omega⟩) ?_
      refine lv_if_eq (tgt := 39) hx hb dX0_cosine_12 (by decide) (fun c3 => ?_) (fun c3 => ?_)
      · have hm := ifT hm c3
        exact hB39 h _ _ _ _ _ hm hw (by omega) (by omega) (lv_sub hl [] rfl)
      · have hm := ifF hm c3
        refine lv_aload_n hx hb dX0_cosine_15 rfl (lv_at hl 0 rfl) ?_
        refine lv_iload_n hx hb dX0_cosine_16 rfl (lv_at hl 1 rfl) ?_
        obtain ⟨g4, hm⟩ := gdE hm
        obtain ⟨a6, h5, ea6, hm⟩ := bd2E hm
        have lh5 := mo_X0_at ea6
        have ph5 : h.1 ≤ h5.1 := lh5.1
        have qh5 : h.2.1 ≤ h5.2.1 := lh5.2.1
        have hmo := mo_X0_cosine_20   h5 x2 a6 _ hm
        have sh5 : h5.1 ≤ u9.1 := hmo.1
        have th5 : h5.2.1 ≤ u9.2.1 := hmo.2.1
        refine cg_callr hw lh5 (va_runV (As := [.int x1]) (rest := []) ⟨hx, hb, hml, hown, hts⟩ (w_X0_at l ea6) (cw_X0_at hts q900 ⟨Nat.le_of_ble_eq_true rfl, Nat.le_of_ble_eq_true rfl⟩) (cg_preV C hw g4 rfl _) rfl rfl hl.1 rfl (lv_room (Nat.le_of_ble_eq_true rfl)) dX0_cosine_17 ⟨show cc + (h5.1 - h.1) ≤ u9.1 - u.1 by omega, show ss + (h5.2.1 - h.2.1) ≤ u9.2.1 - u.2.1 by omega⟩) (fun H locs hw => ?_)
        exact hB20 h5 x2 a6 _ _ _ _ _ hm hw (by omega) (by omega) (lv_sub hl [2] rfl)
  rw [m_X0_cosine] at hm
  refine lv_aload_n hx hb dX0_cosine_0 rfl (lv_at hl 0 rfl) ?_
  refine lv_iload_n hx hb dX0_cosine_1 rfl (lv_at hl 1 rfl) ?_
  obtain ⟨g1, hm⟩ := gdE hm
  obtain ⟨r3, h2, er3, hm⟩ := bd2E hm
  have lh2 := mo_X0_isLattice er3
  have ph2 : u.1 ≤ h2.1 := lh2.1
  have qh2 : u.2.1 ≤ h2.2.1 := lh2.2.1
  have hmo := mo_X0_cosine_5   h2 x0 x1 x2 r3 _ hm
  have sh2 : h2.1 ≤ u9.1 := hmo.1
  have th2 : h2.2.1 ≤ u9.2.1 := hmo.2.1
  refine cg_calli hw lh2 (va_runV (As := [.int x1]) (rest := []) ⟨hx, hb, hml, hown, hts⟩ (w_X0_isLattice l er3) (cw_X0_isLattice hts q892 ⟨Nat.le_of_ble_eq_true rfl, Nat.le_of_ble_eq_true rfl⟩) (cg_preV C hw g1 rfl _) rfl rfl hl.1 rfl (lv_room (Nat.le_of_ble_eq_true rfl)) dX0_cosine_2 ⟨show cc + (h2.1 - u.1) ≤ u9.1 - u.1 by omega, show ss + (h2.2.1 - u.2.1) ≤ u9.2.1 - u.2.1 by omega⟩) (fun H locs hw => ?_)
  exact hB5 h2 x0 x1 x2 r3 _ _ _ _ _ hm hw (by omega) (by omega) (lv_sub hl [0, 1, 2] rfl)
