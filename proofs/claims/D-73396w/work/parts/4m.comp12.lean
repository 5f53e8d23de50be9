/-! walks of the component (printed by gen/walkc.py) -/
set_option maxRecDepth 100000
def m_J14_init_2_X17_6 (f : Nat) (h : CH) : Option CH := some h
theorem mo_J14_init_2_X17_6 {f : Nat} : ∀ (h : CH) (r : CH), m_J14_init_2_X17_6 f h = some r → le2 h r := by
  intro h r hm
  rw [m_J14_init_2_X17_6] at hm
  cases hm
  exact le2.rf
def m_J14_init_2_X17 (f : Nat) (u : CH) (x0 : Nat) (x1 : Nat) (x2 : Nat) : Option CH := bd (m_J13_init_2_X17 f u x0 x1 x2) fun h1 =>
    m_J14_init_2_X17_6 f h1
theorem mo_J14_init_2_X17 {f : Nat} {u : CH} {x0 : Nat} {x1 : Nat} {x2 : Nat} {u9 : CH} (hm : m_J14_init_2_X17 f u x0 x1 x2 = some u9) : le2 u u9 := by
  rw [m_J14_init_2_X17] at hm
  obtain ⟨h1, eh1, hm⟩ := bdE hm
  have lh1 := mo_J13_init_2_X17 eh1
  exact (lh1.tr (mo_J14_init_2_X17_6  h1 _ hm))
abbrev rm_J14_init_2_X17 (mc ms : Nat) : Room := { frames := 4, cells := mc, slots := ms, locals := 82 }
theorem cw_J14_init_2_X17 {R : Room} {s : State} {args : Array Value} {own : String} {idx mc ms : Nat} (hts : ∀ w ∈ lw_all, w.before args s = true) (hl : Cond.methodLink own idx yJ14_init_2 ∈ lw_all) (hR : 4 + 1 ≤ R.frames ∧ 8 + (3 + 11) + 82 ≤ R.locals) : CallB R s args own idx yJ14_init_2 cJ14_init_2 3 none (ws_ yJ14_init_2 cJ14_init_2 3 (Option.none : Option Jvm.ClassFile.FieldType)) (rm_J14_init_2_X17 mc ms) mc ms 2 ∧ yJ14_init_2.name = "<init>" ∧ (Cond.instanceMethod yJ14_init_2).before args s = true := cwI 2 hts (lw_meth q1481) rfl rfl rfl (hts _ q140) (hts _ hl) (hts _ q1480) rfl (by decide +kernel) hR
set_option maxHeartbeats 4000000 in
set_option maxRecDepth 100000 in
theorem w_J14_init_2_X17 (l : Launch) (htl : l.stackTraces = false) {D : va_G} {dA : Nat → ClassId} {A : Nat → Prop} {f : Nat} {u u9 : CH} {x0 : Nat} {x1 : Nat} {x2 : Nat} (hm : m_J14_init_2_X17 f u x0 x1 x2 = some u9) : Met l yJ14_init_2 (ws_ yJ14_init_2 cJ14_init_2 3 (Option.none : Option Jvm.ClassFile.FieldType)) (rm_J14_init_2_X17 (u9.1 - u.1) (u9.2.1 - u.2.1)) (va_Pc [.ref x0, .ref x1, .ref x2] (CPre D dA A u)) (va_Qv (fun u => u = u9) (CPost D dA A) A) (u9.1 - u.1) (u9.2.1 - u.2.1) A := by
  refine metOfWF (cc := cJ14_init_2) (maxL := 3) (ret := (Option.none : Option Jvm.ClassFile.FieldType)) (by decide +kernel) rfl ?_
  intro p e s m args below meth c s₁ B hml hv
  have hx := B.exec
  have hb := B.bytes
  have hr := B.returns
  have hts := atoms_spec (ws := (ws_ yJ14_init_2 cJ14_init_2 3 (Option.none : Option Jvm.ClassFile.FieldType))) B.pre
  have hts : ∀ w ∈ lw_all, w.before args s = true := fun w h => hts w (List.mem_cons_of_mem _ h)
  have hown : s.vm.findClass RJ14 = some m.cls := findClass_of_methodNamed B.named
  have hlocks := B.notSynchronized
  have hin : meth.name = "<init>" := (name_of_methodNamed B.named B.method).1
  obtain ⟨hav, hv⟩ := hv
  have C : CX p s m args c cJ14_init_2 RJ14 D dA := ⟨hx, hb, hown, hts, hv.2⟩
  have hw : CW D dA A s u s.heap [] := hv.1
  generalize hQ : MQ below (va_Qv (fun u => u = u9) (CPost D dA A) A) args s (u9.1 - u.1) (u9.2.1 - u.2.1) A = QQ
  have hent := lg_entry_eq m [.ref x0, .ref x1, .ref x2] 3
  rw [← hav] at hent
  rw [hent]
  have hl := lv_entry ([.ref x0, .ref x1, .ref x2]) (n := 3) (Nat.le_of_ble_eq_true rfl)
  generalize (lg_sl ([.ref x0, .ref x1, .ref x2]) ++ List.replicate (3 - (lg_sl ([.ref x0, .ref x1, .ref x2])).length) Slot.unset).toArray = ls at hl ⊢
  have hl : lv_has ls 3 [(0, .ref x0), (1, .ref x1), (2, .ref x2)] := hl
  obtain ⟨cc, ecc⟩ : ∃ z : Nat, z = 0 := ⟨0, rfl⟩
  obtain ⟨ss, ess⟩ : ∃ z : Nat, z = 0 := ⟨0, rfl⟩
  have hcc : cc + u.1 = u.1 := by omega
  have hss : ss + u.2.1 = u.2.1 := by omega
  suffices hgo : W p l e (rm_J14_init_2_X17 (u9.1 - u.1) (u9.2.1 - u.2.1)) s m args below meth c s.heap [] cc ss QQ (F0 m 0 ls []) by rw [ecc, ess] at hgo; exact hgo
  have ⟨pu, qu, _, _⟩ := mo_J14_init_2_X17 hm
  have hB6 : ∀ (h : CH) (cc ss : Nat) (H : Heap) (locs : List Loc) (ls : Array Slot), m_J14_init_2_X17_6 f h = some u9 → CW D dA A s h H locs → cc + u.1 = h.1 → ss + u.2.1 = h.2.1 → lv_has ls 3 [] → W p l e (rm_J14_init_2_X17 (u9.1 - u.1) (u9.2.1 - u.2.1)) s m args below meth c H locs cc ss QQ (F0 m 6 ls []) := by
    intro h cc ss H locs ls hm hw hcc hss hl
    have hmo := mo_J14_init_2_X17_6  h _ hm
    have sb_ : h.1 ≤ u9.1 := hmo.1
    have tb_ : h.2.1 ≤ u9.2.1 := hmo.2.1
    rw [m_J14_init_2_X17_6] at hm
    have eh := ret1 hm
    have ec : cc = u9.1 - u.1 := by rw [← eh]; omega
    have es : ss = u9.2.1 - u.2.1 := by rw [← eh]; omega
    rw [ec, es, ← hQ]
    exact W.vret hx hb hr (fun t ht hW => ⟨⟨h, rfl, eh, ⟨by rw [ht]; exact hw.1, by rw [ht]; exact hw.2.1⟩⟩, hw.2.2.1.F ht⟩) hw.2.2.1.2.2 dJ14_init_2_6
  rw [m_J14_init_2_X17] at hm
  refine lv_aload_n hx hb dJ14_init_2_0 rfl (lv_at hl 0 rfl) ?_
  refine lv_aload_n hx hb dJ14_init_2_1 rfl (lv_at hl 1 rfl) ?_
  refine lv_aload_n hx hb dJ14_init_2_2 rfl (lv_at hl 2 rfl) ?_
  obtain ⟨h1, eh1, hm⟩ := bdE hm
  have lh1 := mo_J13_init_2_X17 eh1
  have ph1 : u.1 ≤ h1.1 := lh1.1
  have qh1 : u.2.1 ≤ h1.2.1 := lh1.2.1
  have hmo := mo_J14_init_2_X17_6   h1 _ hm
  have sh1 : h1.1 ≤ u9.1 := hmo.1
  have th1 : h1.2.1 ≤ u9.2.1 := hmo.2.1
  refine cg_callv hw lh1 (va_runI (As := [.ref x1, .ref x2]) (rest := []) ⟨hx, hb, hml, hown, hts⟩ (w_J13_init_2_X17 l htl eh1) (cw_J13_init_2_X17 hts q1482 ⟨Nat.le_of_ble_eq_true rfl, Nat.le_of_ble_eq_true rfl⟩) (cg_preS C hw _) rfl rfl hl.1 rfl (lv_room (Nat.le_of_ble_eq_true rfl)) dJ14_init_2_3 ⟨show cc + (h1.1 - u.1) ≤ u9.1 - u.1 by omega, show ss + (h1.2.1 - u.2.1) ≤ u9.2.1 - u.2.1 by omega⟩) (fun H locs hw => ?_)
  exact hB6 h1 _ _ _ _ _ hm hw (by omega) (by omega) (lv_sub hl [] rfl)
def m_X17_init_7 (f : Nat) (h : CH) (x0 : Nat) (x1 : Int32) (x2 : Int32) : Option CH := bd (pF h 16 6 x0 (.int x1)) fun h1 =>
    bd (pF h1 16 7 x0 (.int x2)) fun h2 =>
    some h2
theorem mo_X17_init_7 {f : Nat} : ∀ (h : CH) (x0 : Nat) (x1 : Int32) (x2 : Int32) (r : CH), m_X17_init_7 f h x0 x1 x2 = some r → le2 h r := by
  intro h x0 x1 x2 r hm
  rw [m_X17_init_7] at hm
  obtain ⟨h1, eh1, hm⟩ := bdE hm
  have lh1 := pF_le eh1
  obtain ⟨h2, eh2, hm⟩ := bdE hm
  have lh2 := pF_le eh2
  cases hm
  exact (lh1.tr (lh2.tr le2.rf))
def m_X17_init (f : Nat) (u : CH) (x0 : Nat) (x1 : Int32) (x2 : Int32) (x3 : Nat) : Option CH := bd (sR u (20 + 0)) fun a1 =>
    bd (m_J14_init_2_X17 f u x0 a1 x3) fun h2 =>
    m_X17_init_7 f h2 x0 x1 x2
theorem mo_X17_init {f : Nat} {u : CH} {x0 : Nat} {x1 : Int32} {x2 : Int32} {x3 : Nat} {u9 : CH} (hm : m_X17_init f u x0 x1 x2 x3 = some u9) : le2 u u9 := by
  rw [m_X17_init] at hm
  obtain ⟨a1, ea1, hm⟩ := bdE hm
  obtain ⟨h2, eh2, hm⟩ := bdE hm
  have lh2 := mo_J14_init_2_X17 eh2
  exact (lh2.tr (mo_X17_init_7  h2 x0 x1 x2 _ hm))
abbrev rm_X17_init (mc ms : Nat) : Room := { frames := 5, cells := mc, slots := ms, locals := 104 }
theorem cw_X17_init {R : Room} {s : State} {args : Array Value} {own : String} {idx mc ms : Nat} (hts : ∀ w ∈ lw_all, w.before args s = true) (hl : Cond.methodLink own idx yX17_init ∈ lw_all) (hR : 5 + 1 ≤ R.frames ∧ 8 + (4 + 11) + 104 ≤ R.locals) : CallB R s args own idx yX17_init cX17_init 4 none (ws_ yX17_init cX17_init 4 (Option.none : Option Jvm.ClassFile.FieldType)) (rm_X17_init mc ms) mc ms 3 ∧ yX17_init.name = "<init>" ∧ (Cond.instanceMethod yX17_init).before args s = true := cwI 3 hts (lw_meth q1477) rfl rfl rfl (hts _ q154) (hts _ hl) (hts _ q1476) rfl (by decide +kernel) hR
set_option maxHeartbeats 4000000 in
set_option maxRecDepth 100000 in
theorem w_X17_init (l : Launch) (htl : l.stackTraces = false) {D : va_G} {dA : Nat → ClassId} {A : Nat → Prop} {f : Nat} {u u9 : CH} {x0 : Nat} {x1 : Int32} {x2 : Int32} {x3 : Nat} (hm : m_X17_init f u x0 x1 x2 x3 = some u9) : Met l yX17_init (ws_ yX17_init cX17_init 4 (Option.none : Option Jvm.ClassFile.FieldType)) (rm_X17_init (u9.1 - u.1) (u9.2.1 - u.2.1)) (va_Pc [.ref x0, .int x1, .int x2, .ref x3] (CPre D dA A u)) (va_Qv (fun u => u = u9) (CPost D dA A) A) (u9.1 - u.1) (u9.2.1 - u.2.1) A := by
  refine Met.ofW (cc := cX17_init) (maxL := 4) (ret := (Option.none : Option Jvm.ClassFile.FieldType)) (by decide) rfl ?_
  intro p e s m args below meth c s₁ B hml hv
  have hx := B.exec
  have hb := B.bytes
  have hr := B.returns
  have hts := atoms_spec (ws := (ws_ yX17_init cX17_init 4 (Option.none : Option Jvm.ClassFile.FieldType))) B.pre
  have hts : ∀ w ∈ lw_all, w.before args s = true := fun w h => hts w (List.mem_cons_of_mem _ h)
  have hown : s.vm.findClass RX17 = some m.cls := findClass_of_methodNamed B.named
  have hlocks := B.notSynchronized
  have hin : meth.name = "<init>" := (name_of_methodNamed B.named B.method).1
  obtain ⟨hav, hv⟩ := hv
  have C : CX p s m args c cX17_init RX17 D dA := ⟨hx, hb, hown, hts, hv.2⟩
  have hw : CW D dA A s u s.heap [] := hv.1
  generalize hQ : MQ below (va_Qv (fun u => u = u9) (CPost D dA A) A) args s (u9.1 - u.1) (u9.2.1 - u.2.1) A = QQ
  have hent := lg_entry_eq m [.ref x0, .int x1, .int x2, .ref x3] 4
  rw [← hav] at hent
  rw [hent]
  have hl := lv_entry ([.ref x0, .int x1, .int x2, .ref x3]) (n := 4) (Nat.le_of_ble_eq_true rfl)
  generalize (lg_sl ([.ref x0, .int x1, .int x2, .ref x3]) ++ List.replicate (4 - (lg_sl ([.ref x0, .int x1, .int x2, .ref x3])).length) Slot.unset).toArray = ls at hl ⊢
  have hl : lv_has ls 4 [(0, .ref x0), (1, .int x1), (2, .int x2), (3, .ref x3)] := hl
  obtain ⟨cc, ecc⟩ : ∃ z : Nat, z = 0 := ⟨0, rfl⟩
  obtain ⟨ss, ess⟩ : ∃ z : Nat, z = 0 := ⟨0, rfl⟩
  have hcc : cc + u.1 = u.1 := by omega
  have hss : ss + u.2.1 = u.2.1 := by omega
  suffices hgo : W p l e (rm_X17_init (u9.1 - u.1) (u9.2.1 - u.2.1)) s m args below meth c s.heap [] cc ss QQ (F0 m 0 ls []) by rw [ecc, ess] at hgo; exact hgo
  have ⟨pu, qu, _, _⟩ := mo_X17_init hm
  have hB7 : ∀ (h : CH) (x0 : Nat) (x1 : Int32) (x2 : Int32) (cc ss : Nat) (H : Heap) (locs : List Loc) (ls : Array Slot), m_X17_init_7 f h x0 x1 x2 = some u9 → CW D dA A s h H locs → cc + u.1 = h.1 → ss + u.2.1 = h.2.1 → lv_has ls 4 [(0, .ref x0), (1, .int x1), (2, .int x2)] → W p l e (rm_X17_init (u9.1 - u.1) (u9.2.1 - u.2.1)) s m args below meth c H locs cc ss QQ (F0 m 7 ls []) := by
    intro h x0 x1 x2 cc ss H locs ls hm hw hcc hss hl
    have hmo := mo_X17_init_7  h x0 x1 x2 _ hm
    have sb_ : h.1 ≤ u9.1 := hmo.1
    have tb_ : h.2.1 ≤ u9.2.1 := hmo.2.1
    rw [m_X17_init_7] at hm
    refine lv_aload_n hx hb dX17_init_7 rfl (lv_at hl 0 rfl) ?_
    refine lv_iload_n hx hb dX17_init_8 rfl (lv_at hl 1 rfl) ?_
    obtain ⟨h1, eh1, hm⟩ := bdE hm
    refine cg_putF C hw eh1 rfl in_X17 tyX17 tyX17_ok nmX17 (by decide) q1485 rfl hin rfl rfl rfl dX17_init_9 (fun H locs hw => ?_)
    have zh1 := pF_sz eh1
    refine lv_aload_n hx hb dX17_init_12 rfl (lv_at hl 0 rfl) ?_
    refine lv_iload_n hx hb dX17_init_13 rfl (lv_at hl 2 rfl) ?_
    obtain ⟨h2, eh2, hm⟩ := bdE hm
    refine cg_putF C hw eh2 rfl in_X17 tyX17 tyX17_ok nmX17 (by decide) q1487 rfl hin rfl rfl rfl dX17_init_14 (fun H locs hw => ?_)
    have zh2 := pF_sz eh2
    have eh := ret1 hm
    have ec : cc = u9.1 - u.1 := by rw [← eh]; omega
    have es : ss = u9.2.1 - u.2.1 := by rw [← eh]; omega
    rw [ec, es, ← hQ]
    exact W.vret hx hb hr (fun t ht hW => ⟨⟨h2, rfl, eh, ⟨by rw [ht]; exact hw.1, by rw [ht]; exact hw.2.1⟩⟩, hw.2.2.1.F ht⟩) hw.2.2.1.2.2 dX17_init_17
  rw [m_X17_init] at hm
  refine lv_aload_n hx hb dX17_init_0 rfl (lv_at hl 0 rfl) ?_
  obtain ⟨a1, ea1, hm⟩ := bdE hm
  refine cg_ldcs C hw (i := 0) ea1 rfl dX17_init_1 ?_
  refine lv_aload_n hx hb dX17_init_3 rfl (lv_at hl 3 rfl) ?_
  obtain ⟨h2, eh2, hm⟩ := bdE hm
  have lh2 := mo_J14_init_2_X17 eh2
  have ph2 : u.1 ≤ h2.1 := lh2.1
  have qh2 : u.2.1 ≤ h2.2.1 := lh2.2.1
  have hmo := mo_X17_init_7   h2 x0 x1 x2 _ hm
  have sh2 : h2.1 ≤ u9.1 := hmo.1
  have th2 : h2.2.1 ≤ u9.2.1 := hmo.2.1
  refine cg_callv hw lh2 (va_runI (As := [.ref a1, .ref x3]) (rest := []) ⟨hx, hb, hml, hown, hts⟩ (w_J14_init_2_X17 l htl eh2) (cw_J14_init_2_X17 hts q1479 ⟨Nat.le_of_ble_eq_true rfl, Nat.le_of_ble_eq_true rfl⟩) (cg_preS C hw _) rfl rfl hl.1 rfl (lv_room (Nat.le_of_ble_eq_true rfl)) dX17_init_4 ⟨show cc + (h2.1 - u.1) ≤ u9.1 - u.1 by omega, show ss + (h2.2.1 - u.2.1) ≤ u9.2.1 - u.2.1 by omega⟩) (fun H locs hw => ?_)
  exact hB7 h2 x0 x1 x2 _ _ _ _ _ hm hw (by omega) (by omega) (lv_sub hl [0, 1, 2] rfl)
def m_X0_changes_55 (f : Nat) (h : CH) (x3 : Nat) (y0 : Nat) : Option ((Unit ⊕ Nat) × CH) := bd (pF h 6 0 y0 (.ref x3)) fun h1 =>
    some (.inl (), h1)
theorem mo_X0_changes_55 {f : Nat} : ∀ (h : CH) (x3 : Nat) (y0 : Nat) (r : ((Unit ⊕ Nat) × CH)), m_X0_changes_55 f h x3 y0 = some r → le2 h r.2 := by
  intro h x3 y0 r hm
  rw [m_X0_changes_55] at hm
  obtain ⟨h1, eh1, hm⟩ := bdE hm
  have lh1 := pF_le eh1
  cases hm
  exact (lh1.tr le2.rf)
def m_X0_changes_49 (f : Nat) (h : CH) (x0 : Nat) (x2 : Int32) (x3 : Nat) (y0 : Int32) : Option ((Unit ⊕ Nat) × CH) := gd (isC h x0 1) <|
    bd2 (m_X0_at f h x0 x2) fun a3 h2 =>
    m_X0_changes_55 f h2 x3 a3
theorem mo_X0_changes_49 {f : Nat} : ∀ (h : CH) (x0 : Nat) (x2 : Int32) (x3 : Nat) (y0 : Int32) (r : ((Unit ⊕ Nat) × CH)), m_X0_changes_49 f h x0 x2 x3 y0 = some r → le2 h r.2 := by
  intro h x0 x2 x3 y0 r hm
  rw [m_X0_changes_49] at hm
  obtain ⟨g1, hm⟩ := gdE hm
  obtain ⟨a3, h2, ea3, hm⟩ := bd2E hm
  have lh2 := mo_X0_at ea3
  exact (lh2.tr (mo_X0_changes_55  h2 x3 a3 _ hm))
def m_X0_changes_46 (f : Nat) (h : CH) (x0 : Nat) (x2 : Int32) (x3 : Nat) (y0 : Nat) (y1 : Nat) : Option ((Unit ⊕ Nat) × CH) := gd (isC h y0 17) <|
    bd2 (m_J2_add f h y0 y1) fun r3 h2 =>
    m_X0_changes_49 f h2 x0 x2 x3 r3
theorem mo_X0_changes_46 {f : Nat} : ∀ (h : CH) (x0 : Nat) (x2 : Int32) (x3 : Nat) (y0 : Nat) (y1 : Nat) (r : ((Unit ⊕ Nat) × CH)), m_X0_changes_46 f h x0 x2 x3 y0 y1 = some r → le2 h r.2 := by
  intro h x0 x2 x3 y0 y1 r hm
  rw [m_X0_changes_46] at hm
  obtain ⟨g1, hm⟩ := gdE hm
  obtain ⟨r3, h2, er3, hm⟩ := bd2E hm
  have lh2 := mo_J2_add er3
  exact (lh2.tr (mo_X0_changes_49  h2 x0 x2 x3 r3 _ hm))
def m_X0_changes_40 (f : Nat) (h : CH) (x0 : Nat) (x2 : Int32) (x3 : Nat) (y0 : Nat) (y1 : Nat) (y2 : Nat) (y3 : Int32) (y4 : Nat) : Option ((Unit ⊕ Nat) × CH) := bd (oR h 6 0 y4) fun a1 =>
    bd (m_X16_init f h y2 y3 a1) fun h2 =>
    m_X0_changes_46 f h2 x0 x2 x3 y0 y1
theorem mo_X0_changes_40 {f : Nat} : ∀ (h : CH) (x0 : Nat) (x2 : Int32) (x3 : Nat) (y0 : Nat) (y1 : Nat) (y2 : Nat) (y3 : Int32) (y4 : Nat) (r : ((Unit ⊕ Nat) × CH)), m_X0_changes_40 f h x0 x2 x3 y0 y1 y2 y3 y4 = some r → le2 h r.2 := by
  intro h x0 x2 x3 y0 y1 y2 y3 y4 r hm
  rw [m_X0_changes_40] at hm
  obtain ⟨a1, ea1, hm⟩ := bdE hm
  obtain ⟨h2, eh2, hm⟩ := bdE hm
  have lh2 := mo_X16_init eh2
  exact (lh2.tr (mo_X0_changes_46  h2 x0 x2 x3 y0 y1 _ hm))
def m_X0_changes_33 (f : Nat) (h : CH) (x0 : Nat) (x2 : Int32) (x3 : Nat) (y0 : Nat) (y1 : Nat) : Option ((Unit ⊕ Nat) × CH) := gd (isC h x0 1) <|
    bd2 (m_X0_at f h x0 x2) fun a3 h2 =>
    m_X0_changes_40 f h2 x0 x2 x3 y0 y1 y1 x2 a3
theorem mo_X0_changes_33 {f : Nat} : ∀ (h : CH) (x0 : Nat) (x2 : Int32) (x3 : Nat) (y0 : Nat) (y1 : Nat) (r : ((Unit ⊕ Nat) × CH)), m_X0_changes_33 f h x0 x2 x3 y0 y1 = some r → le2 h r.2 := by
  intro h x0 x2 x3 y0 y1 r hm
  rw [m_X0_changes_33] at hm
  obtain ⟨g1, hm⟩ := gdE hm
  obtain ⟨a3, h2, ea3, hm⟩ := bd2E hm
  have lh2 := mo_X0_at ea3
  exact (lh2.tr (mo_X0_changes_40  h2 x0 x2 x3 y0 y1 y1 x2 a3 _ hm))
def m_X0_changes_26 (f : Nat) (h : CH) (x0 : Nat) (x2 : Int32) (x3 : Nat) : Option ((Unit ⊕ Nat) × CH) := bd (oR h 1 14 x0) fun a1 =>
    nmv (cn h 2 (.inl (15, [.int 0, .null]))) fun h2 =>
    nmv (h.1 : Nat) fun a3 =>
    m_X0_changes_33 f h2 x0 x2 x3 a1 a3
theorem mo_X0_changes_26 {f : Nat} : ∀ (h : CH) (x0 : Nat) (x2 : Int32) (x3 : Nat) (r : ((Unit ⊕ Nat) × CH)), m_X0_changes_26 f h x0 x2 x3 = some r → le2 h r.2 := by
  intro h x0 x2 x3 r hm
  rw [m_X0_changes_26] at hm
  obtain ⟨a1, ea1, hm⟩ := bdE hm
  obtain ⟨h2, eh2, hm⟩ := nmE hm
  have lh2 := cn_le eh2
  obtain ⟨a3, ea3, hm⟩ := nmE hm
  exact (lh2.tr (mo_X0_changes_33  h2 x0 x2 x3 a1 a3 _ hm))
def m_X0_changes_75 (f : Nat) (h : CH) (y0 : Nat) : Option ((Unit ⊕ Nat) × CH) := gd (isC h y0 16) <|
    some (.inr y0, h)
theorem mo_X0_changes_75 {f : Nat} : ∀ (h : CH) (y0 : Nat) (r : ((Unit ⊕ Nat) × CH)), m_X0_changes_75 f h y0 = some r → le2 h r.2 := by
  intro h y0 r hm
  rw [m_X0_changes_75] at hm
  obtain ⟨g1, hm⟩ := gdE hm
  cases hm
  exact le2.rf
def m_X0_changes_67 (f : Nat) (h : CH) (x1 : Int32) (x2 : Int32) (x5 : Nat) (y0 : Nat) : Option ((Unit ⊕ Nat) × CH) := bd (m_X17_init f h y0 x1 x2 x5) fun h1 =>
    m_X0_changes_75 f h1 y0
theorem mo_X0_changes_67 {f : Nat} : ∀ (h : CH) (x1 : Int32) (x2 : Int32) (x5 : Nat) (y0 : Nat) (r : ((Unit ⊕ Nat) × CH)), m_X0_changes_67 f h x1 x2 x5 y0 = some r → le2 h r.2 := by
  intro h x1 x2 x5 y0 r hm
  rw [m_X0_changes_67] at hm
  obtain ⟨h1, eh1, hm⟩ := bdE hm
  have lh1 := mo_X17_init eh1
  exact (lh1.tr (mo_X0_changes_75  h1 y0 _ hm))
def m_X0_changes_62 (f : Nat) (h : CH) (x1 : Int32) (x2 : Int32) (y0 : Nat) : Option ((Unit ⊕ Nat) × CH) := nmv (cn h 8 (.inl (16, [.null, .null, .null, .null, .null, .int 0, .int 0, .int 0]))) fun h1 =>
    nmv (h.1 : Nat) fun a2 =>
    m_X0_changes_67 f h1 x1 x2 y0 a2
theorem mo_X0_changes_62 {f : Nat} : ∀ (h : CH) (x1 : Int32) (x2 : Int32) (y0 : Nat) (r : ((Unit ⊕ Nat) × CH)), m_X0_changes_62 f h x1 x2 y0 = some r → le2 h r.2 := by
  intro h x1 x2 y0 r hm
  rw [m_X0_changes_62] at hm
  obtain ⟨h1, eh1, hm⟩ := nmE hm
  have lh1 := cn_le eh1
  obtain ⟨a2, ea2, hm⟩ := nmE hm
  exact (lh1.tr (mo_X0_changes_67  h1 x1 x2 y0 a2 _ hm))
def m_X0_changes_89 (f : Nat) (h : CH) (y0 : Nat) : Option ((Unit ⊕ Nat) × CH) := gd (isC h y0 16) <|
    some (.inr y0, h)
theorem mo_X0_changes_89 {f : Nat} : ∀ (h : CH) (y0 : Nat) (r : ((Unit ⊕ Nat) × CH)), m_X0_changes_89 f h y0 = some r → le2 h r.2 := by
  intro h y0 r hm
  rw [m_X0_changes_89] at hm
  obtain ⟨g1, hm⟩ := gdE hm
  cases hm
  exact le2.rf
def m_X0_changes_81 (f : Nat) (h : CH) (x1 : Int32) (x2 : Int32) (x5 : Nat) (y0 : Nat) : Option ((Unit ⊕ Nat) × CH) := bd (m_X17_init f h y0 x1 x2 x5) fun h1 =>
    m_X0_changes_89 f h1 y0
theorem mo_X0_changes_81 {f : Nat} : ∀ (h : CH) (x1 : Int32) (x2 : Int32) (x5 : Nat) (y0 : Nat) (r : ((Unit ⊕ Nat) × CH)), m_X0_changes_81 f h x1 x2 x5 y0 = some r → le2 h r.2 := by
  intro h x1 x2 x5 y0 r hm
  rw [m_X0_changes_81] at hm
  obtain ⟨h1, eh1, hm⟩ := bdE hm
  have lh1 := mo_X17_init eh1
  exact (lh1.tr (mo_X0_changes_89  h1 y0 _ hm))
def m_X0_changes_76 (f : Nat) (h : CH) (x1 : Int32) (x2 : Int32) (y0 : Nat) : Option ((Unit ⊕ Nat) × CH) := nmv (cn h 8 (.inl (16, [.null, .null, .null, .null, .null, .int 0, .int 0, .int 0]))) fun h1 =>
    nmv (h.1 : Nat) fun a2 =>
    m_X0_changes_81 f h1 x1 x2 y0 a2
theorem mo_X0_changes_76 {f : Nat} : ∀ (h : CH) (x1 : Int32) (x2 : Int32) (y0 : Nat) (r : ((Unit ⊕ Nat) × CH)), m_X0_changes_76 f h x1 x2 y0 = some r → le2 h r.2 := by
  intro h x1 x2 y0 r hm
  rw [m_X0_changes_76] at hm
  obtain ⟨h1, eh1, hm⟩ := nmE hm
  have lh1 := cn_le eh1
  obtain ⟨a2, ea2, hm⟩ := nmE hm
  exact (lh1.tr (mo_X0_changes_81  h1 x1 x2 y0 a2 _ hm))
def m_X0_changes_19 (f : Nat) (h : CH) (x1 : Int32) (x2 : Int32) (y0 : Nat) : Option ((Unit ⊕ Nat) × CH) := gd (isC h y0 12) <|
    m_X0_changes_76 f h x1 x2 y0
theorem mo_X0_changes_19 {f : Nat} : ∀ (h : CH) (x1 : Int32) (x2 : Int32) (y0 : Nat) (r : ((Unit ⊕ Nat) × CH)), m_X0_changes_19 f h x1 x2 y0 = some r → le2 h r.2 := by
  intro h x1 x2 y0 r hm
  rw [m_X0_changes_19] at hm
  obtain ⟨g1, hm⟩ := gdE hm
  exact (mo_X0_changes_76  h x1 x2 y0 _ hm)
def m_X0_changes_15 (f : Nat) (h : CH) (x1 : Int32) (x2 : Int32) (y0 : Nat) : Option ((Unit ⊕ Nat) × CH) := bd (m_X13_init f h y0) fun h1 =>
    m_X0_changes_19 f h1 x1 x2 y0
theorem mo_X0_changes_15 {f : Nat} : ∀ (h : CH) (x1 : Int32) (x2 : Int32) (y0 : Nat) (r : ((Unit ⊕ Nat) × CH)), m_X0_changes_15 f h x1 x2 y0 = some r → le2 h r.2 := by
  intro h x1 x2 y0 r hm
  rw [m_X0_changes_15] at hm
  obtain ⟨h1, eh1, hm⟩ := bdE hm
  have lh1 := mo_X13_init eh1
  exact (lh1.tr (mo_X0_changes_19  h1 x1 x2 y0 _ hm))
def m_X0_changes_7 (f : Nat) (h : CH) (x0 : Nat) (x1 : Int32) (x2 : Int32) (x3 : Nat) (x4 : Int32) (y0 : Int32) : Option ((Unit ⊕ Nat) × CH) := if ¬ y0 = (20 : Int32) then
    bx (m_X0_checks f h x3 x4) (fun r3 h2 =>
    m_X0_changes_26 f h2 x0 x2 x3) (fun q4 h2 =>
    if isC h2 q4 13 = true then
    m_X0_changes_62 f h2 x1 x2 q4
    else gd (isC h2 q4 14) <|
    m_X0_changes_62 f h2 x1 x2 q4)
    else nmv (cn h 7 (.inl (12, [.int 0, .null, .null, .null, .null, .null, .int 0]))) fun h7 =>
    nmv (h.1 : Nat) fun a8 =>
    m_X0_changes_15 f h7 x1 x2 a8
theorem mo_X0_changes_7 {f : Nat} : ∀ (h : CH) (x0 : Nat) (x1 : Int32) (x2 : Int32) (x3 : Nat) (x4 : Int32) (y0 : Int32) (r : ((Unit ⊕ Nat) × CH)), m_X0_changes_7 f h x0 x1 x2 x3 x4 y0 = some r → le2 h r.2 := by
  intro h x0 x1 x2 x3 x4 y0 r hm
  rw [m_X0_changes_7] at hm
  by_cases c1 : ¬ y0 = (20 : Int32)
  · have hm := ifT hm c1
    rcases bxE hm with ⟨r3, h2, eh2, hm⟩ | ⟨q4, h2, eh2, hm⟩
    · have lh2 := mo_X0_checks eh2
      exact (lh2.tr (mo_X0_changes_26  h2 x0 x2 x3 _ hm))
    · have lh2 := mo_X0_checks eh2
      by_cases c5 : isC h2 q4 13 = true
      · have hm := ifT hm c5
        exact (lh2.tr (mo_X0_changes_62  h2 x1 x2 q4 _ hm))
      · have hm := ifF hm c5
        obtain ⟨g6, hm⟩ := gdE hm
        exact (lh2.tr (mo_X0_changes_62  h2 x1 x2 q4 _ hm))
  · have hm := ifF hm c1
    obtain ⟨h7, eh7, hm⟩ := nmE hm
    have lh7 := cn_le eh7
    obtain ⟨a8, ea8, hm⟩ := nmE hm
    exact (lh7.tr (mo_X0_changes_15  h7 x1 x2 a8 _ hm))
def m_X0_changes (f : Nat) (u : CH) (x0 : Nat) (x1 : Int32) (x2 : Int32) (x3 : Nat) (x4 : Int32) : Option ((Unit ⊕ Nat) × CH) := bd (oR u 1 14 x0) fun a1 =>
    gd (isC u a1 17) <|
    bd2 (m_J2_size f u a1) fun r4 h3 =>
    m_X0_changes_7 f h3 x0 x1 x2 x3 x4 r4
theorem mo_X0_changes {f : Nat} {u : CH} {x0 : Nat} {x1 : Int32} {x2 : Int32} {x3 : Nat} {x4 : Int32} {r0 : Unit ⊕ Nat} {u9 : CH} (hm : m_X0_changes f u x0 x1 x2 x3 x4 = some (r0, u9)) : le2 u u9 := by
  rw [m_X0_changes] at hm
  obtain ⟨a1, ea1, hm⟩ := bdE hm
  obtain ⟨g2, hm⟩ := gdE hm
  obtain ⟨r4, h3, er4, hm⟩ := bd2E hm
  have lh3 := mo_J2_size er4
  exact (lh3.tr (mo_X0_changes_7  h3 x0 x1 x2 x3 x4 r4 _ hm))
abbrev rm_X0_changes (mc ms : Nat) : Room := { frames := 8, cells := mc, slots := ms, locals := 191 }
theorem cw_X0_changes {R : Room} {s : State} {args : Array Value} {own : String} {idx mc ms : Nat} (hts : ∀ w ∈ lw_all, w.before args s = true) (hl : Cond.methodLink own idx yX0_changes ∈ lw_all) (hR : 8 + 1 ≤ R.frames ∧ 8 + (6 + 11) + 191 ≤ R.locals) : vy_CVW R s args own RX0 idx yX0_changes cX0_changes 6 (Option.none : Option Jvm.ClassFile.FieldType) [(0, 59, 62, 367), (0, 59, 62, 372), (0, 59, 76, 375)] (wsW_ yX0_changes cX0_changes 6 (Option.none : Option Jvm.ClassFile.FieldType) [(0, 59, 62, 367), (0, 59, 62, 372), (0, 59, 76, 375)]) (rm_X0_changes mc ms) mc ms 4 := vy_cwVW 4 hts (lw_VW hl q1390 qs51 q119 q1391) rfl rfl rfl (by decide +kernel) hR
set_option maxHeartbeats 4000000 in
set_option maxRecDepth 100000 in
theorem w_X0_changes (l : Launch) (htl : l.stackTraces = false) {D : va_G} {dA : Nat → ClassId} {A : Nat → Prop} {f : Nat} {u u9 : CH} {r0 : Unit ⊕ Nat} {x0 : Nat} {x1 : Int32} {x2 : Int32} {x3 : Nat} {x4 : Int32} (hm : m_X0_changes f u x0 x1 x2 x3 x4 = some (r0, u9)) : vy_Met l yX0_changes (wsW_ yX0_changes cX0_changes 6 (Option.none : Option Jvm.ClassFile.FieldType) [(0, 59, 62, 367), (0, 59, 62, 372), (0, 59, 76, 375)]) (rm_X0_changes (u9.1 - u.1) (u9.2.1 - u.2.1)) (va_Pc [.ref x0, .int x1, .int x2, .ref x3, .int x4] (CPre D dA A u)) (cxQv D dA A r0 u9) (cxX D dA A r0 u9) (u9.1 - u.1) (u9.2.1 - u.2.1) A := by
  refine vy_ofWH (cc := cX0_changes) (maxL := 6) (ret := (Option.none : Option Jvm.ClassFile.FieldType)) (by decide) rfl ?_
  intro p e s m args below meth c s₁ B hml hv
  have hx := B.exec
  have hb := B.bytes
  have hr := B.returns
  have hts := atoms_spec (ws := (wsW_ yX0_changes cX0_changes 6 (Option.none : Option Jvm.ClassFile.FieldType) [(0, 59, 62, 367), (0, 59, 62, 372), (0, 59, 76, 375)])) B.pre
  have htab := vy_table (x := yX0_changes) B (hts _ List.mem_cons_self)
  have hts : ∀ w ∈ lw_all, w.before args s = true := fun w h => hts w (List.mem_cons_of_mem _ h)
  have hown : s.vm.findClass RX0 = some m.cls := findClass_of_methodNamed B.named
  have hlocks := B.notSynchronized
  obtain ⟨hav, hv⟩ := hv
  have C : CX p s m args c cX0_changes RX0 D dA := ⟨hx, hb, hown, hts, hv.2⟩
  have hw : CW D dA A s u s.heap [] := hv.1
  generalize hQ : vy_MQ below (cxQv D dA A r0 u9) (cxX D dA A r0 u9) args s (u9.1 - u.1) (u9.2.1 - u.2.1) A = QQ
  have hent := lg_entry_eq m [.ref x0, .int x1, .int x2, .ref x3, .int x4] 6
  rw [← hav] at hent
  rw [hent]
  have hl := lv_entry ([.ref x0, .int x1, .int x2, .ref x3, .int x4]) (n := 6) (Nat.le_of_ble_eq_true rfl)
  generalize (lg_sl ([.ref x0, .int x1, .int x2, .ref x3, .int x4]) ++ List.replicate (6 - (lg_sl ([.ref x0, .int x1, .int x2, .ref x3, .int x4])).length) Slot.unset).toArray = ls at hl ⊢
  have hl : lv_has ls 6 [(0, .ref x0), (1, .int x1), (2, .int x2), (3, .ref x3), (4, .int x4)] := hl
  obtain ⟨cc, ecc⟩ : ∃ z : Nat, z = 0 := ⟨0, rfl⟩
  obtain ⟨ss, ess⟩ : ∃ z : Nat, z = 0 := ⟨0, rfl⟩
  have hcc : cc + u.1 = u.1 := by omega
  have hss : ss + u.2.1 = u.2.1 := by omega
  suffices hgo : W p l e (rm_X0_changes (u9.1 - u.1) (u9.2.1 - u.2.1)) s m args below meth c s.heap [] cc ss QQ (F0 m 0 ls []) by rw [ecc, ess] at hgo; exact hgo
  have ⟨pu, qu, _, _⟩ := mo_X0_changes hm
  have hB55 : ∀ (h : CH) (x3 : Nat) (y0 : Nat) (cc ss : Nat) (H : Heap) (locs : List Loc) (ls : Array Slot), m_X0_changes_55 f h x3 y0 = some (r0, u9) → CW D dA A s h H locs → cc + u.1 = h.1 → ss + u.2.1 = h.2.1 → lv_has ls 6 [(3, .ref x3)] → W p l e (rm_X0_changes (u9.1 - u.1) (u9.2.1 - u.2.1)) s m args below meth c H locs cc ss QQ (F0 m 55 ls [.ref y0]) := by
    intro h x3 y0 cc ss H locs ls hm hw hcc hss hl
    have hmo := mo_X0_changes_55  h x3 y0 _ hm
    have sb_ : h.1 ≤ u9.1 := hmo.1
    have tb_ : h.2.1 ≤ u9.2.1 := hmo.2.1
    rw [m_X0_changes_55] at hm
    refine lv_aload_n hx hb dX0_changes_55 rfl (lv_at hl 0 rfl) ?_
    obtain ⟨h1, eh1, hm⟩ := bdE hm
    refine cg_putN C hw eh1 rfl in_X6 tyX6 tyX6_ok nmX6 (by decide) (hw.2.2.2.2.1 _ (List.mem_of_getElem? (i := 21) rfl)) rfl rfl rfl dX0_changes_56 (fun H locs hw => ?_)
    have zh1 := pF_sz eh1
    refine lv_goto (tgt := 90) hx hb dX0_changes_59 (by decide) ?_
    obtain ⟨er, eh⟩ := retE hm
    have ec : cc = u9.1 - u.1 := by rw [← eh]; omega
    have es : ss = u9.2.1 - u.2.1 := by rw [← eh]; omega
    rw [ec, es, ← hQ]
    refine vy_ret ?_
    exact W.vret hx hb hr (fun t ht hW => ⟨⟨h1, rfl, ⟨er.symm, eh⟩, ⟨by rw [ht]; exact hw.1, by rw [ht]; exact hw.2.1⟩⟩, hw.2.2.1.F ht⟩) hw.2.2.1.2.2 dX0_changes_90
  have hB49 : ∀ (h : CH) (x0 : Nat) (x2 : Int32) (x3 : Nat) (y0 : Int32) (cc ss : Nat) (H : Heap) (locs : List Loc) (ls : Array Slot), m_X0_changes_49 f h x0 x2 x3 y0 = some (r0, u9) → CW D dA A s h H locs → cc + u.1 = h.1 → ss + u.2.1 = h.2.1 → lv_has ls 6 [(0, .ref x0), (2, .int x2), (3, .ref x3)] → W p l e (rm_X0_changes (u9.1 - u.1) (u9.2.1 - u.2.1)) s m args below meth c H locs cc ss QQ (F0 m 49 ls [.int y0]) := by
    intro h x0 x2 x3 y0 cc ss H locs ls hm hw hcc hss hl
    have hmo := mo_X0_changes_49  h x0 x2 x3 y0 _ hm
    have sb_ : h.1 ≤ u9.1 := hmo.1
    have tb_ : h.2.1 ≤ u9.2.1 := hmo.2.1
    rw [m_X0_changes_49] at hm
    refine lv_pop hx hb dX0_changes_49 rfl ?_
    refine lv_aload_n hx hb dX0_changes_50 rfl (lv_at hl 0 rfl) ?_
    refine lv_iload_n hx hb dX0_changes_51 rfl (lv_at hl 1 rfl) ?_
    obtain ⟨g1, hm⟩ := gdE hm
    obtain ⟨a3, h2, ea3, hm⟩ := bd2E hm
    have lh2 := mo_X0_at ea3
    have ph2 : h.1 ≤ h2.1 := lh2.1
    have qh2 : h.2.1 ≤ h2.2.1 := lh2.2.1
    have hmo := mo_X0_changes_55   h2 x3 a3 _ hm
    have sh2 : h2.1 ≤ u9.1 := hmo.1
    have th2 : h2.2.1 ≤ u9.2.1 := hmo.2.1
    refine cg_callr hw lh2 (va_runV (As := [.int x2]) (rest := []) ⟨hx, hb, hml, hown, hts⟩ (w_X0_at l ea3) (cw_X0_at hts q900 ⟨Nat.le_of_ble_eq_true rfl, Nat.le_of_ble_eq_true rfl⟩) (cg_preV C hw g1 rfl _) rfl rfl hl.1 rfl (lv_room (Nat.le_of_ble_eq_true rfl)) dX0_changes_52 ⟨show cc + (h2.1 - h.1) ≤ u9.1 - u.1 by omega, show ss + (h2.2.1 - h.2.1) ≤ u9.2.1 - u.2.1 by omega⟩) (fun H locs hw => ?_)
    exact hB55 h2 x3 a3 _ _ _ _ _ hm hw (by omega) (by omega) (lv_sub hl [2] rfl)
  have hB46 : ∀ (h : CH) (x0 : Nat) (x2 : Int32) (x3 : Nat) (y0 : Nat) (y1 : Nat) (cc ss : Nat) (H : Heap) (locs : List Loc) (ls : Array Slot), m_X0_changes_46 f h x0 x2 x3 y0 y1 = some (r0, u9) → CW D dA A s h H locs → cc + u.1 = h.1 → ss + u.2.1 = h.2.1 → lv_has ls 6 [(0, .ref x0), (2, .int x2), (3, .ref x3)] → W p l e (rm_X0_changes (u9.1 - u.1) (u9.2.1 - u.2.1)) s m args below meth c H locs cc ss QQ (F0 m 46 ls [.ref y1, .ref y0]) := by
    intro h x0 x2 x3 y0 y1 cc ss H locs ls hm hw hcc hss hl
    have hmo := mo_X0_changes_46  h x0 x2 x3 y0 y1 _ hm
    have sb_ : h.1 ≤ u9.1 := hmo.1
    have tb_ : h.2.1 ≤ u9.2.1 := hmo.2.1
    rw [m_X0_changes_46] at hm
    obtain ⟨g1, hm⟩ := gdE hm
    obtain ⟨r3, h2, er3, hm⟩ := bd2E hm
    have lh2 := mo_J2_add er3
    have ph2 : h.1 ≤ h2.1 := lh2.1
    have qh2 : h.2.1 ≤ h2.2.1 := lh2.2.1
    have hmo := mo_X0_changes_49   h2 x0 x2 x3 r3 _ hm
    have sh2 : h2.1 ≤ u9.1 := hmo.1
    have th2 : h2.2.1 ≤ u9.2.1 := hmo.2.1
    refine cg_calli hw lh2 (va_runV (As := [.ref y1]) (rest := []) ⟨hx, hb, hml, hown, hts⟩ (w_J2_add l er3) (cw_J2_add hts q1466 ⟨Nat.le_of_ble_eq_true rfl, Nat.le_of_ble_eq_true rfl⟩) (cg_preV C hw g1 rfl _) rfl rfl hl.1 rfl (lv_room (Nat.le_of_ble_eq_true rfl)) dX0_changes_46 ⟨show cc + (h2.1 - h.1) ≤ u9.1 - u.1 by omega, show ss + (h2.2.1 - h.2.1) ≤ u9.2.1 - u.2.1 by omega⟩) (fun H locs hw => ?_)
    exact hB49 h2 x0 x2 x3 r3 _ _ _ _ _ hm hw (by omega) (by omega) (lv_sub hl [0, 1, 2] rfl)
  have hB40 : ∀ (h : CH) (x0 : Nat) (x2 : Int32) (x3 : Nat) (y0 : Nat) (y1 : Nat) (y2 : Nat) (y3 : Int32) (y4 : Nat) (cc ss : Nat) (H : Heap) (locs : List Loc) (ls : Array Slot), m_X0_changes_40 f h x0 x2 x3 y0 y1 y2 y3 y4 = some (r0, u9) → CW D dA A s h H locs → cc + u.1 = h.1 → ss + u.2.1 = h.2.1 → lv_has ls 6 [(0, .ref x0), (2, .int x2), (3, .ref x3)] → W p l e (rm_X0_changes (u9.1 - u.1) (u9.2.1 - u.2.1)) s m args below meth c H locs cc ss QQ (F0 m 40 ls [.ref y4, .int y3, .ref y2, .ref y1, .ref y0]) := by
    intro h x0 x2 x3 y0 y1 y2 y3 y4 cc ss H locs ls hm hw hcc hss hl
    have hmo := mo_X0_changes_40  h x0 x2 x3 y0 y1 y2 y3 y4 _ hm
    have sb_ : h.1 ≤ u9.1 := hmo.1
    have tb_ : h.2.1 ≤ u9.2.1 := hmo.2.1
    rw [m_X0_changes_40] at hm
    obtain ⟨a1, ea1, hm⟩ := bdE hm
    refine cg_getN C hw (by decide) (oR_E ea1) rfl in_X6 (by decide) (hw.2.2.2.2.1 _ (List.mem_of_getElem? (i := 21) rfl)) dX0_changes_40 ?_
    obtain ⟨h2, eh2, hm⟩ := bdE hm
    have lh2 := mo_X16_init eh2
    have ph2 : h.1 ≤ h2.1 := lh2.1
    have qh2 : h.2.1 ≤ h2.2.1 := lh2.2.1
    have hmo := mo_X0_changes_46   h2 x0 x2 x3 y0 y1 _ hm
    have sh2 : h2.1 ≤ u9.1 := hmo.1
    have th2 : h2.2.1 ≤ u9.2.1 := hmo.2.1
    refine cg_callv hw lh2 (va_runI (As := [.int y3, .ref a1]) (rest := [.ref y1, .ref y0]) ⟨hx, hb, hml, hown, hts⟩ (w_X16_init l eh2) (cw_X16_init hts q1453 ⟨Nat.le_of_ble_eq_true rfl, Nat.le_of_ble_eq_true rfl⟩) (cg_preS C hw _) rfl rfl hl.1 rfl (lv_room (Nat.le_of_ble_eq_true rfl)) dX0_changes_43 ⟨show cc + (h2.1 - h.1) ≤ u9.1 - u.1 by omega, show ss + (h2.2.1 - h.2.1) ≤ u9.2.1 - u.2.1 by omega⟩) (fun H locs hw => ?_)
    exact hB46 h2 x0 x2 x3 y0 y1 _ _ _ _ _ hm hw (by omega) (by omega) (lv_sub hl [0, 1, 2] rfl)
  have hB33 : ∀ (h : CH) (x0 : Nat) (x2 : Int32) (x3 : Nat) (y0 : Nat) (y1 : Nat) (cc ss : Nat) (H : Heap) (locs : List Loc) (ls : Array Slot), m_X0_changes_33 f h x0 x2 x3 y0 y1 = some (r0, u9) → CW D dA A s h H locs → cc + u.1 = h.1 → ss + u.2.1 = h.2.1 → lv_has ls 6 [(0, .ref x0), (2, .int x2), (3, .ref x3)] → W p l e (rm_X0_changes (u9.1 - u.1) (u9.2.1 - u.2.1)) s m args below meth c H locs cc ss QQ (F0 m 33 ls [.ref y1, .ref y0]) := by
    intro h x0 x2 x3 y0 y1 cc ss H locs ls hm hw hcc hss hl
    have hmo := mo_X0_changes_33  h x0 x2 x3 y0 y1 _ hm
    have sb_ : h.1 ≤ u9.1 := hmo.1
    have tb_ : h.2.1 ≤ u9.2.1 := hmo.2.1
    rw [m_X0_changes_33] at hm
    refine lv_dup hx hb dX0_changes_33 rfl ?_
    refine lv_iload_n hx hb dX0_changes_34 rfl (lv_at hl 1 rfl) ?_
    refine lv_aload_n hx hb dX0_changes_35 rfl (lv_at hl 0 rfl) ?_
    refine lv_iload_n hx hb dX0_changes_36 rfl (lv_at hl 1 rfl) ?_
    obtain ⟨g1, hm⟩ := gdE hm
    obtain ⟨a3, h2, ea3, hm⟩ := bd2E hm
    have lh2 := mo_X0_at ea3
    have ph2 : h.1 ≤ h2.1 := lh2.1
    have qh2 : h.2.1 ≤ h2.2.1 := lh2.2.1
    have hmo := mo_X0_changes_40   h2 x0 x2 x3 y0 y1 y1 x2 a3 _ hm
    have sh2 : h2.1 ≤ u9.1 := hmo.1
    have th2 : h2.2.1 ≤ u9.2.1 := hmo.2.1
    refine cg_callr hw lh2 (va_runV (As := [.int x2]) (rest := [.int x2, .ref y1, .ref y1, .ref y0]) ⟨hx, hb, hml, hown, hts⟩ (w_X0_at l ea3) (cw_X0_at hts q900 ⟨Nat.le_of_ble_eq_true rfl, Nat.le_of_ble_eq_true rfl⟩) (cg_preV C hw g1 rfl _) rfl rfl hl.1 rfl (lv_room (Nat.le_of_ble_eq_true rfl)) dX0_changes_37 ⟨show cc + (h2.1 - h.1) ≤ u9.1 - u.1 by omega, show ss + (h2.2.1 - h.2.1) ≤ u9.2.1 - u.2.1 by omega⟩) (fun H locs hw => ?_)
    exact hB40 h2 x0 x2 x3 y0 y1 y1 x2 a3 _ _ _ _ _ hm hw (by omega) (by omega) (lv_sub hl [0, 1, 2] rfl)
  have hB26 : ∀ (h : CH) (x0 : Nat) (x2 : Int32) (x3 : Nat) (cc ss : Nat) (H : Heap) (locs : List Loc) (ls : Array Slot), m_X0_changes_26 f h x0 x2 x3 = some (r0, u9) → CW D dA A s h H locs → cc + u.1 = h.1 → ss + u.2.1 = h.2.1 → lv_has ls 6 [(0, .ref x0), (2, .int x2), (3, .ref x3)] → W p l e (rm_X0_changes (u9.1 - u.1) (u9.2.1 - u.2.1)) s m args below meth c H locs cc ss QQ (F0 m 26 ls []) := by
    intro h x0 x2 x3 cc ss H locs ls hm hw hcc hss hl
    have hmo := mo_X0_changes_26  h x0 x2 x3 _ hm
    have sb_ : h.1 ≤ u9.1 := hmo.1
    have tb_ : h.2.1 ≤ u9.2.1 := hmo.2.1
    rw [m_X0_changes_26] at hm
    refine lv_aload_n hx hb dX0_changes_26 rfl (lv_at hl 0 rfl) ?_
    obtain ⟨a1, ea1, hm⟩ := bdE hm
    refine cg_get C hw (oR_E ea1) rfl in_X0 (by decide) q253 dX0_changes_27 ?_
    obtain ⟨h2, eh2, hm⟩ := nmE hm
    obtain ⟨_, _, hmq⟩ := nmE hm
    have hmo := mo_X0_changes_33   h2 x0 x2 x3 a1 _ _ hmq
    have sh2 : h2.1 ≤ u9.1 := hmo.1
    have th2 : h2.2.1 ≤ u9.2.1 := hmo.2.1
    have zh2 := cn_sz eh2
    refine cg_new (C0 := C) hw (ci := 15) (fs := [.int 0, .null]) rfl in_X16 tyX16 tyX16_ok q1451 q1452 q153 (fun j hj => by rcases (show j = 0 ∨ j = 1 by omega) with rfl | rfl <;> rfl) (show cc + 1 ≤ u9.1 - u.1 by omega) (show ss + 2 ≤ u9.2.1 - u.2.1 by omega) dX0_changes_30 (fun H hw => ?_)
    rw [← eh2] at hw
    refine lv_topr (fun a3 ea3 => ?_)
    have hm := nmK hm ea3
    exact hB33 h2 x0 x2 x3 a1 a3 _ _ _ _ _ hm hw (by omega) (by omega) (lv_sub hl [0, 1, 2] rfl)
  have hB75 : ∀ (h : CH) (y0 : Nat) (cc ss : Nat) (H : Heap) (locs : List Loc) (ls : Array Slot), m_X0_changes_75 f h y0 = some (r0, u9) → CW D dA A s h H locs → cc + u.1 = h.1 → ss + u.2.1 = h.2.1 → lv_has ls 6 [] → W p l e (rm_X0_changes (u9.1 - u.1) (u9.2.1 - u.2.1)) s m args below meth c H locs cc ss QQ (F0 m 75 ls [.ref y0]) := by
    intro h y0 cc ss H locs ls hm hw hcc hss hl
    have hmo := mo_X0_changes_75  h y0 _ hm
    have sb_ : h.1 ≤ u9.1 := hmo.1
    have tb_ : h.2.1 ≤ u9.2.1 := hmo.2.1
    rw [m_X0_changes_75] at hm
    obtain ⟨g1, hm⟩ := gdE hm
    refine vy_athrow hx hb dX0_changes_75 ?_
    obtain ⟨er, eh⟩ := retE hm
    rw [← hQ]
    exact cx_out C hw g1 (by decide) rfl er eh (by rw [htab]; decide) hlocks (by rw [← eh]; omega) (by rw [← eh]; omega)
  have hB67 : ∀ (h : CH) (x1 : Int32) (x2 : Int32) (x5 : Nat) (y0 : Nat) (cc ss : Nat) (H : Heap) (locs : List Loc) (ls : Array Slot), m_X0_changes_67 f h x1 x2 x5 y0 = some (r0, u9) → CW D dA A s h H locs → cc + u.1 = h.1 → ss + u.2.1 = h.2.1 → lv_has ls 6 [(1, .int x1), (2, .int x2), (5, .ref x5)] → W p l e (rm_X0_changes (u9.1 - u.1) (u9.2.1 - u.2.1)) s m args below meth c H locs cc ss QQ (F0 m 67 ls [.ref y0]) := by
    intro h x1 x2 x5 y0 cc ss H locs ls hm hw hcc hss hl
    have hmo := mo_X0_changes_67  h x1 x2 x5 y0 _ hm
    have sb_ : h.1 ≤ u9.1 := hmo.1
    have tb_ : h.2.1 ≤ u9.2.1 := hmo.2.1
    rw [m_X0_changes_67] at hm
    refine lv_dup hx hb dX0_changes_67 rfl ?_
    refine lv_iload_n hx hb dX0_changes_68 rfl (lv_at hl 0 rfl) ?_
    refine lv_iload_n hx hb dX0_changes_69 rfl (lv_at hl 1 rfl) ?_
    refine lv_aload hx hb dX0_changes_70 (lv_at hl 2 rfl) ?_
    obtain ⟨h1, eh1, hm⟩ := bdE hm
    have lh1 := mo_X17_init eh1
    have ph1 : h.1 ≤ h1.1 := lh1.1
    have qh1 : h.2.1 ≤ h1.2.1 := lh1.2.1
    have hmo := mo_X0_changes_75   h1 y0 _ hm
    have sh1 : h1.1 ≤ u9.1 := hmo.1
    have th1 : h1.2.1 ≤ u9.2.1 := hmo.2.1
    refine cg_callv hw lh1 (va_runI (As := [.int x1, .int x2, .ref x5]) (rest := [.ref y0]) ⟨hx, hb, hml, hown, hts⟩ (w_X17_init l htl eh1) (cw_X17_init hts q1475 ⟨Nat.le_of_ble_eq_true rfl, Nat.le_of_ble_eq_true rfl⟩) (cg_preS C hw _) rfl rfl hl.1 rfl (lv_room (Nat.le_of_ble_eq_true rfl)) dX0_changes_72 ⟨show cc + (h1.1 - h.1) ≤ u9.1 - u.1 by omega, show ss + (h1.2.1 - h.2.1) ≤ u9.2.1 - u.2.1 by omega⟩) (fun H locs hw => ?_)
    exact hB75 h1 y0 _ _ _ _ _ hm hw (by omega) (by omega) (lv_sub hl [] rfl)
  have hB62 : ∀ (h : CH) (x1 : Int32) (x2 : Int32) (y0 : Nat) (cc ss : Nat) (H : Heap) (locs : List Loc) (ls : Array Slot), m_X0_changes_62 f h x1 x2 y0 = some (r0, u9) → CW D dA A s h H locs → cc + u.1 = h.1 → ss + u.2.1 = h.2.1 → lv_has ls 6 [(1, .int x1), (2, .int x2)] → W p l e (rm_X0_changes (u9.1 - u.1) (u9.2.1 - u.2.1)) s m args below meth c H locs cc ss QQ (F0 m 62 ls [.ref y0]) := by
    intro h x1 x2 y0 cc ss H locs ls hm hw hcc hss hl
    have hmo := mo_X0_changes_62  h x1 x2 y0 _ hm
    have sb_ : h.1 ≤ u9.1 := hmo.1
    have tb_ : h.2.1 ≤ u9.2.1 := hmo.2.1
    rw [m_X0_changes_62] at hm
    refine lv_astore (lv' := [(5, .ref y0), (1, .int x1), (2, .int x2)]) hx hb dX0_changes_62 hl (by decide) rfl (fun ls hl => ?_)
    obtain ⟨h1, eh1, hm⟩ := nmE hm
    obtain ⟨_, _, hmq⟩ := nmE hm
    have hmo := mo_X0_changes_67   h1 x1 x2 y0 _ _ hmq
    have sh1 : h1.1 ≤ u9.1 := hmo.1
    have th1 : h1.2.1 ≤ u9.2.1 := hmo.2.1
    have zh1 := cn_sz eh1
    refine cg_new (C0 := C) hw (ci := 16) (fs := [.null, .null, .null, .null, .null, .int 0, .int 0, .int 0]) rfl in_X17 tyX17 tyX17_ok q1385 q1467 q154 (fun j hj => by rcases (show j = 0 ∨ j = 1 ∨ j = 2 ∨ j = 3 ∨ j = 4 ∨ j = 5 ∨ j = 6 ∨ j = 7 by omega) with rfl | rfl | rfl | rfl | rfl | rfl | rfl | rfl <;> rfl) (show cc + 1 ≤ u9.1 - u.1 by omega) (show ss + 8 ≤ u9.2.1 - u.2.1 by omega) dX0_changes_64 (fun H hw => ?_)
    rw [← eh1] at hw
    refine lv_topr (fun a2 ea2 => ?_)
    have hm := nmK hm ea2
    exact hB67 h1 x1 x2 y0 a2 _ _ _ _ _ hm hw (by omega) (by omega) (lv_sub hl [1, 2, 0] rfl)
  have hB89 : ∀ (h : CH) (y0 : Nat) (cc ss : Nat) (H : Heap) (locs : List Loc) (ls : Array Slot), m_X0_changes_89 f h y0 = some (r0, u9) → CW D dA A s h H locs → cc + u.1 = h.1 → ss + u.2.1 = h.2.1 → lv_has ls 6 [] → W p l e (rm_X0_changes (u9.1 - u.1) (u9.2.1 - u.2.1)) s m args below meth c H locs cc ss QQ (F0 m 89 ls [.ref y0]) := by
    intro h y0 cc ss H locs ls hm hw hcc hss hl
    have hmo := mo_X0_changes_89  h y0 _ hm
    have sb_ : h.1 ≤ u9.1 := hmo.1
    have tb_ : h.2.1 ≤ u9.2.1 := hmo.2.1
    rw [m_X0_changes_89] at hm
    obtain ⟨g1, hm⟩ := gdE hm
    refine vy_athrow hx hb dX0_changes_89 ?_
    obtain ⟨er, eh⟩ := retE hm
    rw [← hQ]
    exact cx_out C hw g1 (by decide) rfl er eh (by rw [htab]; decide) hlocks (by rw [← eh]; omega) (by rw [← eh]; omega)
  have hB81 : ∀ (h : CH) (x1 : Int32) (x2 : Int32) (x5 : Nat) (y0 : Nat) (cc ss : Nat) (H : Heap) (locs : List Loc) (ls : Array Slot), m_X0_changes_81 f h x1 x2 x5 y0 = some (r0, u9) → CW D dA A s h H locs → cc + u.1 = h.1 → ss + u.2.1 = h.2.1 → lv_has ls 6 [(1, .int x1), (2, .int x2), (5, .ref x5)] → W p l e (rm_X0_changes (u9.1 - u.1) (u9.2.1 - u.2.1)) s m args below meth c H locs cc ss QQ (F0 m 81 ls [.ref y0]) := by
    intro h x1 x2 x5 y0 cc ss H locs ls hm hw hcc hss hl
    have hmo := mo_X0_changes_81  h x1 x2 x5 y0 _ hm
    have sb_ : h.1 ≤ u9.1 := hmo.1
    have tb_ : h.2.1 ≤ u9.2.1 := hmo.2.1
    rw [m_X0_changes_81] at hm
    refine lv_dup hx hb dX0_changes_81 rfl ?_
    refine lv_iload_n hx hb dX0_changes_82 rfl (lv_at hl 0 rfl) ?_
    refine lv_iload_n hx hb dX0_changes_83 rfl (lv_at hl 1 rfl) ?_
    refine lv_aload hx hb dX0_changes_84 (lv_at hl 2 rfl) ?_
    obtain ⟨h1, eh1, hm⟩ := bdE hm
    have lh1 := mo_X17_init eh1
    have ph1 : h.1 ≤ h1.1 := lh1.1
    have qh1 : h.2.1 ≤ h1.2.1 := lh1.2.1
    have hmo := mo_X0_changes_89   h1 y0 _ hm
    have sh1 : h1.1 ≤ u9.1 := hmo.1
    have th1 : h1.2.1 ≤ u9.2.1 := hmo.2.1
    refine cg_callv hw lh1 (va_runI (As := [.int x1, .int x2, .ref x5]) (rest := [.ref y0]) ⟨hx, hb, hml, hown, hts⟩ (w_X17_init l htl eh1) (cw_X17_init hts q1475 ⟨Nat.le_of_ble_eq_true rfl, Nat.le_of_ble_eq_true rfl⟩) (cg_preS C hw _) rfl rfl hl.1 rfl (lv_room (Nat.le_of_ble_eq_true rfl)) dX0_changes_86 ⟨show cc + (h1.1 - h.1) ≤ u9.1 - u.1 by omega, show ss + (h1.2.1 - h.2.1) ≤ u9.2.1 - u.2.1 by omega⟩) (fun H locs hw => ?_)
    exact hB89 h1 y0 _ _ _ _ _ hm hw (by omega) (by omega) (lv_sub hl [] rfl)
  have hB76 : ∀ (h : CH) (x1 : Int32) (x2 : Int32) (y0 : Nat) (cc ss : Nat) (H : Heap) (locs : List Loc) (ls : Array Slot), m_X0_changes_76 f h x1 x2 y0 = some (r0, u9) → CW D dA A s h H locs → cc + u.1 = h.1 → ss + u.2.1 = h.2.1 → lv_has ls 6 [(1, .int x1), (2, .int x2)] → W p l e (rm_X0_changes (u9.1 - u.1) (u9.2.1 - u.2.1)) s m args below meth c H locs cc ss QQ (F0 m 76 ls [.ref y0]) := by
    intro h x1 x2 y0 cc ss H locs ls hm hw hcc hss hl
    have hmo := mo_X0_changes_76  h x1 x2 y0 _ hm
    have sb_ : h.1 ≤ u9.1 := hmo.1
    have tb_ : h.2.1 ≤ u9.2.1 := hmo.2.1
    rw [m_X0_changes_76] at hm
    refine lv_astore (lv' := [(5, .ref y0), (1, .int x1), (2, .int x2)]) hx hb dX0_changes_76 hl (by decide) rfl (fun ls hl => ?_)
    obtain ⟨h1, eh1, hm⟩ := nmE hm
    obtain ⟨_, _, hmq⟩ := nmE hm
    have hmo := mo_X0_changes_81   h1 x1 x2 y0 _ _ hmq
    have sh1 : h1.1 ≤ u9.1 := hmo.1
    have th1 : h1.2.1 ≤ u9.2.1 := hmo.2.1
    have zh1 := cn_sz eh1
    refine cg_new (C0 := C) hw (ci := 16) (fs := [.null, .null, .null, .null, .null, .int 0, .int 0, .int 0]) rfl in_X17 tyX17 tyX17_ok q1385 q1467 q154 (fun j hj => by rcases (show j = 0 ∨ j = 1 ∨ j = 2 ∨ j = 3 ∨ j = 4 ∨ j = 5 ∨ j = 6 ∨ j = 7 by omega) with rfl | rfl | rfl | rfl | rfl | rfl | rfl | rfl <;> rfl) (show cc + 1 ≤ u9.1 - u.1 by omega) (show ss + 8 ≤ u9.2.1 - u.2.1 by omega) dX0_changes_78 (fun H hw => ?_)
    rw [← eh1] at hw
    refine lv_topr (fun a2 ea2 => ?_)
    have hm := nmK hm ea2
    exact hB81 h1 x1 x2 y0 a2 _ _ _ _ _ hm hw (by omega) (by omega) (lv_sub hl [1, 2, 0] rfl)
  have hB19 : ∀ (h : CH) (x1 : Int32) (x2 : Int32) (y0 : Nat) (cc ss : Nat) (H : Heap) (locs : List Loc) (ls : Array Slot), m_X0_changes_19 f h x1 x2 y0 = some (r0, u9) → CW D dA A s h H locs → cc + u.1 = h.1 → ss + u.2.1 = h.2.1 → lv_has ls 6 [(1, .int x1), (2, .int x2)] → W p l e (rm_X0_changes (u9.1 - u.1) (u9.2.1 - u.2.1)) s m args below meth c H locs cc ss QQ (F0 m 19 ls [.ref y0]) := by
    intro h x1 x2 y0 cc ss H locs ls hm hw hcc hss hl
    have hmo := mo_X0_changes_19  h x1 x2 y0 _ hm
    have sb_ : h.1 ≤ u9.1 := hmo.1
    have tb_ : h.2.1 ≤ u9.2.1 := hmo.2.1
    rw [m_X0_changes_19] at hm
    obtain ⟨g1, hm⟩ := gdE hm
    refine vy_athrow hx hb dX0_changes_19 ?_
    refine cx_catch C hw g1 (by decide) rfl [{ startPc := 0, endPc := 59, handlerPc := 62, catchType := 367 }, { startPc := 0, endPc := 59, handlerPc := 62, catchType := 372 }] { startPc := 0, endPc := 59, handlerPc := 76, catchType := 375 } [] (htab.trans rfl) (List.forall_mem_cons.mpr ⟨Or.inr ⟨by decide, "CoincideBench$TooGreat", hts _ q1392, hw.2.2.2.2.2.2.2.2.2.1 2 _ rfl⟩, List.forall_mem_cons.mpr ⟨Or.inr ⟨by decide, "CoincideBench$Flat", hts _ q1393, hw.2.2.2.2.2.2.2.2.2.1 3 _ rfl⟩, fun _ h => absurd h List.not_mem_nil⟩⟩) (by decide) (by decide) q1394 (hw.2.2.2.2.1 _ (List.mem_of_getElem? (i := 47) rfl)) ?_
    exact hB76 h x1 x2 y0 _ _ _ _ _ hm hw (by omega) (by omega) (lv_sub hl [0, 1] rfl)
  have hB15 : ∀ (h : CH) (x1 : Int32) (x2 : Int32) (y0 : Nat) (cc ss : Nat) (H : Heap) (locs : List Loc) (ls : Array Slot), m_X0_changes_15 f h x1 x2 y0 = some (r0, u9) → CW D dA A s h H locs → cc + u.1 = h.1 → ss + u.2.1 = h.2.1 → lv_has ls 6 [(1, .int x1), (2, .int x2)] → W p l e (rm_X0_changes (u9.1 - u.1) (u9.2.1 - u.2.1)) s m args below meth c H locs cc ss QQ (F0 m 15 ls [.ref y0]) := by
    intro h x1 x2 y0 cc ss H locs ls hm hw hcc hss hl
    have hmo := mo_X0_changes_15  h x1 x2 y0 _ hm
    have sb_ : h.1 ≤ u9.1 := hmo.1
    have tb_ : h.2.1 ≤ u9.2.1 := hmo.2.1
    rw [m_X0_changes_15] at hm
    refine lv_dup hx hb dX0_changes_15 rfl ?_
    obtain ⟨h1, eh1, hm⟩ := bdE hm
    have lh1 := mo_X13_init eh1
    have ph1 : h.1 ≤ h1.1 := lh1.1
    have qh1 : h.2.1 ≤ h1.2.1 := lh1.2.1
    have hmo := mo_X0_changes_19   h1 x1 x2 y0 _ hm
    have sh1 : h1.1 ≤ u9.1 := hmo.1
    have th1 : h1.2.1 ≤ u9.2.1 := hmo.2.1
    refine cg_callv hw lh1 (va_runI (As := []) (rest := [.ref y0]) ⟨hx, hb, hml, hown, hts⟩ (w_X13_init l htl eh1) (cw_X13_init hts q1403 ⟨Nat.le_of_ble_eq_true rfl, Nat.le_of_ble_eq_true rfl⟩) (cg_preS C hw _) rfl rfl hl.1 rfl (lv_room (Nat.le_of_ble_eq_true rfl)) dX0_changes_16 ⟨show cc + (h1.1 - h.1) ≤ u9.1 - u.1 by omega, show ss + (h1.2.1 - h.2.1) ≤ u9.2.1 - u.2.1 by omega⟩) (fun H locs hw => ?_)
    exact hB19 h1 x1 x2 y0 _ _ _ _ _ hm hw (by omega) (by omega) (lv_sub hl [0, 1] rfl)
  have hB7 : ∀ (h : CH) (x0 : Nat) (x1 : Int32) (x2 : Int32) (x3 : Nat) (x4 : Int32) (y0 : Int32) (cc ss : Nat) (H : Heap) (locs : List Loc) (ls : Array Slot), m_X0_changes_7 f h x0 x1 x2 x3 x4 y0 = some (r0, u9) → CW D dA A s h H locs → cc + u.1 = h.1 → ss + u.2.1 = h.2.1 → lv_has ls 6 [(0, .ref x0), (1, .int x1), (2, .int x2), (3, .ref x3), (4, .int x4)] → W p l e (rm_X0_changes (u9.1 - u.1) (u9.2.1 - u.2.1)) s m args below meth c H locs cc ss QQ (F0 m 7 ls [.int y0]) := by
    intro h x0 x1 x2 x3 x4 y0 cc ss H locs ls hm hw hcc hss hl
    have hmo := mo_X0_changes_7  h x0 x1 x2 x3 x4 y0 _ hm
    have sb_ : h.1 ≤ u9.1 := hmo.1
    have tb_ : h.2.1 ≤ u9.2.1 := hmo.2.1
    rw [m_X0_changes_7] at hm
    refine lv_bipush (v := 20) hx hb dX0_changes_7 (by decide) ?_
    refine lv_icmp_ne (tgt := 20) hx hb dX0_changes_9 (by decide) (fun c1 => ?_) (fun c1 => ?_)
    · have hm := ifT hm c1
      refine lv_aload_n hx hb dX0_changes_20 rfl (lv_at hl 3 rfl) ?_
      refine lv_iload hx hb dX0_changes_21 (lv_at hl 4 rfl) ?_
      rcases bxE hm with ⟨r3, h2, eh2, hm⟩ | ⟨q4, h2, eh2, hm⟩
      · have lh2 := mo_X0_checks eh2
        have ph2 : h.1 ≤ h2.1 := lh2.1
        have qh2 : h.2.1 ≤ h2.2.1 := lh2.2.1
        have hmo := mo_X0_changes_26   h2 x0 x2 x3 _ hm
        have sh2 : h2.1 ≤ u9.1 := hmo.1
        have th2 : h2.2.1 ≤ u9.2.1 := hmo.2.1
        refine cx_callv hw lh2 (vy_runS (As := [.ref x3, .int x4]) (rest := []) ⟨hx, hb, hml, hown, hts⟩ (w_X0_checks l htl eh2) (cw_X0_checks hts q1416 ⟨Nat.le_of_ble_eq_true rfl, Nat.le_of_ble_eq_true rfl⟩) (cg_preS C hw _) rfl rfl hl.1 rfl (lv_room (Nat.le_of_ble_eq_true rfl)) dX0_changes_23 ⟨show cc + (h2.1 - h.1) ≤ u9.1 - u.1 by omega, show ss + (h2.2.1 - h.2.1) ≤ u9.2.1 - u.2.1 by omega⟩) (fun H locs hw => ?_)
        exact hB26 h2 x0 x2 x3 _ _ _ _ _ hm hw (by omega) (by omega) (lv_sub hl [0, 2, 3] rfl)
      · have lh2 := mo_X0_checks eh2
        have ph2 : h.1 ≤ h2.1 := lh2.1
        have qh2 : h.2.1 ≤ h2.2.1 := lh2.2.1
        by_cases c5 : isC h2 q4 13 = true
        · have hm := ifT hm c5
          have hmo := mo_X0_changes_62   h2 x1 x2 q4 _ hm
          have sh2 : h2.1 ≤ u9.1 := hmo.1
          have th2 : h2.2.1 ≤ u9.2.1 := hmo.2.1
          refine cx_callX hw lh2 noQv (vy_runS (As := [.ref x3, .int x4]) (rest := []) ⟨hx, hb, hml, hown, hts⟩ (w_X0_checks l htl eh2) (cw_X0_checks hts q1416 ⟨Nat.le_of_ble_eq_true rfl, Nat.le_of_ble_eq_true rfl⟩) (cg_preS C hw _) rfl rfl hl.1 rfl (lv_room (Nat.le_of_ble_eq_true rfl)) dX0_changes_23 ⟨show cc + (h2.1 - h.1) ≤ u9.1 - u.1 by omega, show ss + (h2.2.1 - h.2.1) ≤ u9.2.1 - u.2.1 by omega⟩) (fun H locs hw => ?_)
          refine cx_catch C hw c5 (by decide) rfl [] { startPc := 0, endPc := 59, handlerPc := 62, catchType := 367 } [{ startPc := 0, endPc := 59, handlerPc := 62, catchType := 372 }, { startPc := 0, endPc := 59, handlerPc := 76, catchType := 375 }] (htab.trans rfl) (fun _ h => absurd h List.not_mem_nil) (by decide) (by decide) q1392 (hw.2.2.2.2.1 _ (List.mem_of_getElem? (i := 50) rfl)) ?_
          exact hB62 h2 x1 x2 q4 _ _ _ _ _ hm hw (by omega) (by omega) (lv_sub hl [1, 2] rfl)
        · have hm := ifF hm c5
          obtain ⟨g6, hm⟩ := gdE hm
          have hmo := mo_X0_changes_62   h2 x1 x2 q4 _ hm
          have sh2 : h2.1 ≤ u9.1 := hmo.1
          have th2 : h2.2.1 ≤ u9.2.1 := hmo.2.1
          refine cx_callX hw lh2 noQv (vy_runS (As := [.ref x3, .int x4]) (rest := []) ⟨hx, hb, hml, hown, hts⟩ (w_X0_checks l htl eh2) (cw_X0_checks hts q1416 ⟨Nat.le_of_ble_eq_true rfl, Nat.le_of_ble_eq_true rfl⟩) (cg_preS C hw _) rfl rfl hl.1 rfl (lv_room (Nat.le_of_ble_eq_true rfl)) dX0_changes_23 ⟨show cc + (h2.1 - h.1) ≤ u9.1 - u.1 by omega, show ss + (h2.2.1 - h.2.1) ≤ u9.2.1 - u.2.1 by omega⟩) (fun H locs hw => ?_)
          refine cx_catch C hw g6 (by decide) rfl [{ startPc := 0, endPc := 59, handlerPc := 62, catchType := 367 }] { startPc := 0, endPc := 59, handlerPc := 62, catchType := 372 } [{ startPc := 0, endPc := 59, handlerPc := 76, catchType := 375 }] (htab.trans rfl) (List.forall_mem_cons.mpr ⟨Or.inr ⟨by decide, "CoincideBench$TooGreat", hts _ q1392, hw.2.2.2.2.2.2.2.2.2.1 1 _ rfl⟩, fun _ h => absurd h List.not_mem_nil⟩) (by decide) (by decide) q1393 (hw.2.2.2.2.1 _ (List.mem_of_getElem? (i := 53) rfl)) ?_
          exact hB62 h2 x1 x2 q4 _ _ _ _ _ hm hw (by omega) (by omega) (lv_sub hl [1, 2] rfl)
    · have hm := ifT' hm c1
      obtain ⟨h7, eh7, hm⟩ := nmE hm
      obtain ⟨_, _, hmq⟩ := nmE hm
      have hmo := mo_X0_changes_15   h7 x1 x2 _ _ hmq
      have sh7 : h7.1 ≤ u9.1 := hmo.1
      have th7 : h7.2.1 ≤ u9.2.1 := hmo.2.1
      have zh7 := cn_sz eh7
      refine cg_new (C0 := C) hw (ci := 12) (fs := [.int 0, .null, .null, .null, .null, .null, .int 0]) rfl in_X13 tyX13 tyX13_ok q1394 q1395 q150 (fun j hj => by rcases (show j = 0 ∨ j = 1 ∨ j = 2 ∨ j = 3 ∨ j = 4 ∨ j = 5 ∨ j = 6 by omega) with rfl | rfl | rfl | rfl | rfl | rfl | rfl <;> rfl) (show cc + 1 ≤ u9.1 - u.1 by omega) (show ss + 7 ≤ u9.2.1 - u.2.1 by omega) dX0_changes_12 (fun H hw => ?_)
      rw [← eh7] at hw
      refine lv_topr (fun a8 ea8 => ?_)
      have hm := nmK hm ea8
      exact hB15 h7 x1 x2 a8 _ _ _ _ _ hm hw (by omega) (by omega) (lv_sub hl [1, 2] rfl)
  rw [m_X0_changes] at hm
  refine lv_aload_n hx hb dX0_changes_0 rfl (lv_at hl 0 rfl) ?_
  obtain ⟨a1, ea1, hm⟩ := bdE hm
  refine cg_get C hw (oR_E ea1) rfl in_X0 (by decide) q253 dX0_changes_1 ?_
  obtain ⟨g2, hm⟩ := gdE hm
  obtain ⟨r4, h3, er4, hm⟩ := bd2E hm
  have lh3 := mo_J2_size er4
  have ph3 : u.1 ≤ h3.1 := lh3.1
  have qh3 : u.2.1 ≤ h3.2.1 := lh3.2.1
  have hmo := mo_X0_changes_7   h3 x0 x1 x2 x3 x4 r4 _ hm
  have sh3 : h3.1 ≤ u9.1 := hmo.1
  have th3 : h3.2.1 ≤ u9.2.1 := hmo.2.1
  refine cg_calli hw lh3 (va_runV (As := []) (rest := []) ⟨hx, hb, hml, hown, hts⟩ (w_J2_size l er4) (cw_J2_size hts q880 ⟨Nat.le_of_ble_eq_true rfl, Nat.le_of_ble_eq_true rfl⟩) (cg_preV C hw g2 rfl _) rfl rfl hl.1 rfl (lv_room (Nat.le_of_ble_eq_true rfl)) dX0_changes_4 ⟨show cc + (h3.1 - u.1) ≤ u9.1 - u.1 by omega, show ss + (h3.2.1 - u.2.1) ≤ u9.2.1 - u.2.1 by omega⟩) (fun H locs hw => ?_)
  exact hB7 h3 x0 x1 x2 x3 x4 r4 _ _ _ _ _ hm hw (by omega) (by omega) (lv_sub hl [0, 1, 2, 3, 4] rfl)
def m_X0_does_31 (f : Nat) (h : CH) : Option ((Int32 ⊕ Nat) × CH) := some (.inl (0 : Int32), h)
theorem mo_X0_does_31 {f : Nat} : ∀ (h : CH) (r : ((Int32 ⊕ Nat) × CH)), m_X0_does_31 f h = some r → le2 h r.2 := by
  intro h r hm
  rw [m_X0_does_31] at hm
  cases hm
  exact le2.rf
def m_X0_does_33 (f : Nat) (h : CH) (x0 : Nat) (y0 : Nat) : Option ((Int32 ⊕ Nat) × CH) := bd (pF h 1 13 x0 (.ref y0)) fun h1 =>
    some (.inl (-5 : Int32), h1)
theorem mo_X0_does_33 {f : Nat} : ∀ (h : CH) (x0 : Nat) (y0 : Nat) (r : ((Int32 ⊕ Nat) × CH)), m_X0_does_33 f h x0 y0 = some r → le2 h r.2 := by
  intro h x0 y0 r hm
  rw [m_X0_does_33] at hm
  obtain ⟨h1, eh1, hm⟩ := bdE hm
  have lh1 := pF_le eh1
  cases hm
  exact (lh1.tr le2.rf)
def m_X0_does_19 (f : Nat) (h : CH) (x0 : Nat) (x1 : Int32) (x2 : Int32) (x3 : Nat) (x4 : Nat) : Option ((Int32 ⊕ Nat) × CH) := bd (oI h 9 1 x3) fun v1 =>
    gd (isC h x0 1) <|
    bx (m_X0_changes f h x0 x1 x2 x4 v1) (fun r4 h3 =>
    m_X0_does_31 f h3) (fun q5 h3 =>
    gd (isC h3 q5 16) <|
    m_X0_does_33 f h3 x0 q5)
theorem mo_X0_does_19 {f : Nat} : ∀ (h : CH) (x0 : Nat) (x1 : Int32) (x2 : Int32) (x3 : Nat) (x4 : Nat) (r : ((Int32 ⊕ Nat) × CH)), m_X0_does_19 f h x0 x1 x2 x3 x4 = some r → le2 h r.2 := by
  intro h x0 x1 x2 x3 x4 r hm
  rw [m_X0_does_19] at hm
  obtain ⟨v1, ev1, hm⟩ := bdE hm
  obtain ⟨g2, hm⟩ := gdE hm
  rcases bxE hm with ⟨r4, h3, eh3, hm⟩ | ⟨q5, h3, eh3, hm⟩
  · have lh3 := mo_X0_changes eh3
    exact (lh3.tr (mo_X0_does_31  h3 _ hm))
  · have lh3 := mo_X0_changes eh3
    obtain ⟨g6, hm⟩ := gdE hm
    exact (lh3.tr (mo_X0_does_33  h3 x0 q5 _ hm))
def m_X0_does_11 (f : Nat) (h : CH) (x0 : Nat) (x1 : Int32) (x2 : Int32) (x3 : Nat) (y0 : Nat) : Option ((Int32 ⊕ Nat) × CH) := gd (isC h x3 9) <|
    bd (m_X9_goes f h x3 y0) fun h2 =>
    m_X0_does_19 f h2 x0 x1 x2 x3 y0
theorem mo_X0_does_11 {f : Nat} : ∀ (h : CH) (x0 : Nat) (x1 : Int32) (x2 : Int32) (x3 : Nat) (y0 : Nat) (r : ((Int32 ⊕ Nat) × CH)), m_X0_does_11 f h x0 x1 x2 x3 y0 = some r → le2 h r.2 := by
  intro h x0 x1 x2 x3 y0 r hm
  rw [m_X0_does_11] at hm
  obtain ⟨g1, hm⟩ := gdE hm
  obtain ⟨h2, eh2, hm⟩ := bdE hm
  have lh2 := mo_X9_goes eh2
  exact (lh2.tr (mo_X0_does_19  h2 x0 x1 x2 x3 y0 _ hm))
def m_X0_does_5 (f : Nat) (h : CH) (x0 : Nat) (x1 : Int32) (x2 : Int32) (x3 : Nat) (y0 : Nat) : Option ((Int32 ⊕ Nat) × CH) := bd (oR h 6 0 y0) fun a1 =>
    gd (isC h a1 3) <|
    bd2 (m_X2_copy f h a1) fun a4 h3 =>
    m_X0_does_11 f h3 x0 x1 x2 x3 a4
theorem mo_X0_does_5 {f : Nat} : ∀ (h : CH) (x0 : Nat) (x1 : Int32) (x2 : Int32) (x3 : Nat) (y0 : Nat) (r : ((Int32 ⊕ Nat) × CH)), m_X0_does_5 f h x0 x1 x2 x3 y0 = some r → le2 h r.2 := by
  intro h x0 x1 x2 x3 y0 r hm
  rw [m_X0_does_5] at hm
  obtain ⟨a1, ea1, hm⟩ := bdE hm
  obtain ⟨g2, hm⟩ := gdE hm
  obtain ⟨a4, h3, ea4, hm⟩ := bd2E hm
  have lh3 := mo_X2_copy ea4
  exact (lh3.tr (mo_X0_does_11  h3 x0 x1 x2 x3 a4 _ hm))
def m_X0_does (f : Nat) (u : CH) (x0 : Nat) (x1 : Int32) (x2 : Int32) (x3 : Nat) : Option ((Int32 ⊕ Nat) × CH) := gd (isC u x0 1) <|
    bd2 (m_X0_at f u x0 x2) fun a3 h2 =>
    m_X0_does_5 f h2 x0 x1 x2 x3 a3
theorem mo_X0_does {f : Nat} {u : CH} {x0 : Nat} {x1 : Int32} {x2 : Int32} {x3 : Nat} {r0 : Int32 ⊕ Nat} {u9 : CH} (hm : m_X0_does f u x0 x1 x2 x3 = some (r0, u9)) : le2 u u9 := by
  rw [m_X0_does] at hm
  obtain ⟨g1, hm⟩ := gdE hm
  obtain ⟨a3, h2, ea3, hm⟩ := bd2E hm
  have lh2 := mo_X0_at ea3
  exact (lh2.tr (mo_X0_does_5  h2 x0 x1 x2 x3 a3 _ hm))
abbrev rm_X0_does (mc ms : Nat) : Room := { frames := 9, cells := mc, slots := ms, locals := 216 }
theorem cw_X0_does {R : Room} {s : State} {args : Array Value} {own : String} {idx mc ms : Nat} (hts : ∀ w ∈ lw_all, w.before args s = true) (hl : Cond.methodLink own idx yX0_does ∈ lw_all) (hR : 9 + 1 ≤ R.frames ∧ 8 + (6 + 11) + 216 ≤ R.locals) : vy_CVW R s args own RX0 idx yX0_does cX0_does 6 (Option.some Jvm.ClassFile.FieldType.int) [(19, 32, 33, 392)] (wsW_ yX0_does cX0_does 6 (Option.some Jvm.ClassFile.FieldType.int) [(19, 32, 33, 392)]) (rm_X0_does mc ms) mc ms 3 := vy_cwVW 3 hts (lw_VW hl q1383 qs50 q119 q1384) rfl rfl rfl (by decide +kernel) hR
set_option maxHeartbeats 4000000 in
set_option maxRecDepth 100000 in
theorem w_X0_does (l : Launch) (htl : l.stackTraces = false) {D : va_G} {dA : Nat → ClassId} {A : Nat → Prop} {f : Nat} {u u9 : CH} {r0 : Int32 ⊕ Nat} {x0 : Nat} {x1 : Int32} {x2 : Int32} {x3 : Nat} (hm : m_X0_does f u x0 x1 x2 x3 = some (r0, u9)) : vy_Met l yX0_does (wsW_ yX0_does cX0_does 6 (Option.some Jvm.ClassFile.FieldType.int) [(19, 32, 33, 392)]) (rm_X0_does (u9.1 - u.1) (u9.2.1 - u.2.1)) (va_Pc [.ref x0, .int x1, .int x2, .ref x3] (CPre D dA A u)) (cxQi D dA A r0 u9) (cxX D dA A r0 u9) (u9.1 - u.1) (u9.2.1 - u.2.1) A := by
  refine vy_ofWH (cc := cX0_does) (maxL := 6) (ret := (Option.some Jvm.ClassFile.FieldType.int)) (by decide) rfl ?_
  intro p e s m args below meth c s₁ B hml hv
  have hx := B.exec
  have hb := B.bytes
  have hr := B.returns
  have hts := atoms_spec (ws := (wsW_ yX0_does cX0_does 6 (Option.some Jvm.ClassFile.FieldType.int) [(19, 32, 33, 392)])) B.pre
  have htab := vy_table (x := yX0_does) B (hts _ List.mem_cons_self)
  have hts : ∀ w ∈ lw_all, w.before args s = true := fun w h => hts w (List.mem_cons_of_mem _ h)
  have hown : s.vm.findClass RX0 = some m.cls := findClass_of_methodNamed B.named
  have hlocks := B.notSynchronized
  obtain ⟨hav, hv⟩ := hv
  have C : CX p s m args c cX0_does RX0 D dA := ⟨hx, hb, hown, hts, hv.2⟩
  have hw : CW D dA A s u s.heap [] := hv.1
  generalize hQ : vy_MQ below (cxQi D dA A r0 u9) (cxX D dA A r0 u9) args s (u9.1 - u.1) (u9.2.1 - u.2.1) A = QQ
  have hent := lg_entry_eq m [.ref x0, .int x1, .int x2, .ref x3] 6
  rw [← hav] at hent
  rw [hent]
  have hl := lv_entry ([.ref x0, .int x1, .int x2, .ref x3]) (n := 6) (Nat.le_of_ble_eq_true rfl)
  generalize (lg_sl ([.ref x0, .int x1, .int x2, .ref x3]) ++ List.replicate (6 - (lg_sl ([.ref x0, .int x1, .int x2, .ref x3])).length) Slot.unset).toArray = ls at hl ⊢
  have hl : lv_has ls 6 [(0, .ref x0), (1, .int x1), (2, .int x2), (3, .ref x3)] := hl
  obtain ⟨cc, ecc⟩ : ∃ z : Nat, z = 0 := ⟨0, rfl⟩
  obtain ⟨ss, ess⟩ : ∃ z : Nat, z = 0 := ⟨0, rfl⟩
  have hcc : cc + u.1 = u.1 := by omega
  have hss : ss + u.2.1 = u.2.1 := by omega
  suffices hgo : W p l e (rm_X0_does (u9.1 - u.1) (u9.2.1 - u.2.1)) s m args below meth c s.heap [] cc ss QQ (F0 m 0 ls []) by rw [ecc, ess] at hgo; exact hgo
  have ⟨pu, qu, _, _⟩ := mo_X0_does hm
  have hB31 : ∀ (h : CH) (cc ss : Nat) (H : Heap) (locs : List Loc) (ls : Array Slot), m_X0_does_31 f h = some (r0, u9) → CW D dA A s h H locs → cc + u.1 = h.1 → ss + u.2.1 = h.2.1 → lv_has ls 6 [] → W p l e (rm_X0_does (u9.1 - u.1) (u9.2.1 - u.2.1)) s m args below meth c H locs cc ss QQ (F0 m 31 ls []) := by
    intro h cc ss H locs ls hm hw hcc hss hl
    have hmo := mo_X0_does_31  h _ hm
    have sb_ : h.1 ≤ u9.1 := hmo.1
    have tb_ : h.2.1 ≤ u9.2.1 := hmo.2.1
    rw [m_X0_does_31] at hm
    refine lv_iconst (v := 0) hx hb dX0_does_31 (by decide) ?_
    obtain ⟨er, eh⟩ := retE hm
    have ec : cc = u9.1 - u.1 := by rw [← eh]; omega
    have es : ss = u9.2.1 - u.2.1 := by rw [← eh]; omega
    rw [ec, es, ← hQ]
    refine vy_ret ?_
    exact W.iret (v := (0 : Int32)) hx hb hr (fun t ht hW => ⟨⟨(0 : Int32), h, rfl, ⟨er.symm, eh⟩, ⟨by rw [ht]; exact hw.1, by rw [ht]; exact hw.2.1⟩⟩, hw.2.2.1.F ht⟩) hw.2.2.1.2.2 dX0_does_32
  have hB33 : ∀ (h : CH) (x0 : Nat) (y0 : Nat) (cc ss : Nat) (H : Heap) (locs : List Loc) (ls : Array Slot), m_X0_does_33 f h x0 y0 = some (r0, u9) → CW D dA A s h H locs → cc + u.1 = h.1 → ss + u.2.1 = h.2.1 → lv_has ls 6 [(0, .ref x0)] → W p l e (rm_X0_does (u9.1 - u.1) (u9.2.1 - u.2.1)) s m args below meth c H locs cc ss QQ (F0 m 33 ls [.ref y0]) := by
    intro h x0 y0 cc ss H locs ls hm hw hcc hss hl
    have hmo := mo_X0_does_33  h x0 y0 _ hm
    have sb_ : h.1 ≤ u9.1 := hmo.1
    have tb_ : h.2.1 ≤ u9.2.1 := hmo.2.1
    rw [m_X0_does_33] at hm
    refine lv_astore (lv' := [(5, .ref y0), (0, .ref x0)]) hx hb dX0_does_33 hl (by decide) rfl (fun ls hl => ?_)
    refine lv_aload_n hx hb dX0_does_35 rfl (lv_at hl 1 rfl) ?_
    refine lv_aload hx hb dX0_does_36 (lv_at hl 0 rfl) ?_
    obtain ⟨h1, eh1, hm⟩ := bdE hm
    refine cg_put C hw eh1 rfl in_X0 tyX0 tyX0_ok nmX0 (by decide) q252 rfl rfl rfl dX0_does_38 (fun H locs hw => ?_)
    have zh1 := pF_sz eh1
    refine lv_bipush (v := -5) hx hb dX0_does_41 (by decide) ?_
    obtain ⟨er, eh⟩ := retE hm
    have ec : cc = u9.1 - u.1 := by rw [← eh]; omega
    have es : ss = u9.2.1 - u.2.1 := by rw [← eh]; omega
    rw [ec, es, ← hQ]
    refine vy_ret ?_
    exact W.iret (v := (-5 : Int32)) hx hb hr (fun t ht hW => ⟨⟨(-5 : Int32), h1, rfl, ⟨er.symm, eh⟩, ⟨by rw [ht]; exact hw.1, by rw [ht]; exact hw.2.1⟩⟩, hw.2.2.1.F ht⟩) hw.2.2.1.2.2 dX0_does_43
  have hB19 : ∀ (h : CH) (x0 : Nat) (x1 : Int32) (x2 : Int32) (x3 : Nat) (x4 : Nat) (cc ss : Nat) (H : Heap) (locs : List Loc) (ls : Array Slot), m_X0_does_19 f h x0 x1 x2 x3 x4 = some (r0, u9) → CW D dA A s h H locs → cc + u.1 = h.1 → ss + u.2.1 = h.2.1 → lv_has ls 6 [(0, .ref x0), (1, .int x1), (2, .int x2), (3, .ref x3), (4, .ref x4)] → W p l e (rm_X0_does (u9.1 - u.1) (u9.2.1 - u.2.1)) s m args below meth c H locs cc ss QQ (F0 m 19 ls []) := by
    intro h x0 x1 x2 x3 x4 cc ss H locs ls hm hw hcc hss hl
    have hmo := mo_X0_does_19  h x0 x1 x2 x3 x4 _ hm
    have sb_ : h.1 ≤ u9.1 := hmo.1
    have tb_ : h.2.1 ≤ u9.2.1 := hmo.2.1
    rw [m_X0_does_19] at hm
    refine lv_aload_n hx hb dX0_does_19 rfl (lv_at hl 0 rfl) ?_
    refine lv_iload_n hx hb dX0_does_20 rfl (lv_at hl 1 rfl) ?_
    refine lv_iload_n hx hb dX0_does_21 rfl (lv_at hl 2 rfl) ?_
    refine lv_aload hx hb dX0_does_22 (lv_at hl 4 rfl) ?_
    refine lv_aload_n hx hb dX0_does_24 rfl (lv_at hl 3 rfl) ?_
    obtain ⟨v1, ev1, hm⟩ := bdE hm
    refine cg_getN C hw (by decide) (oI_E ev1) rfl in_X9 (by decide) (hw.2.2.2.2.1 _ (List.mem_of_getElem? (i := 23) rfl)) dX0_does_25 ?_
    obtain ⟨g2, hm⟩ := gdE hm
    rcases bxE hm with ⟨r4, h3, eh3, hm⟩ | ⟨q5, h3, eh3, hm⟩
    · have lh3 := mo_X0_changes eh3
      have ph3 : h.1 ≤ h3.1 := lh3.1
      have qh3 : h.2.1 ≤ h3.2.1 := lh3.2.1
      have hmo := mo_X0_does_31   h3 _ hm
      have sh3 : h3.1 ≤ u9.1 := hmo.1
      have th3 : h3.2.1 ≤ u9.2.1 := hmo.2.1
      refine cx_callv hw lh3 (vy_runVX (As := [.int x1, .int x2, .ref x4, .int v1]) (rest := []) ⟨hx, hb, hml, hown, hts⟩ (w_X0_changes l htl eh3) (cw_X0_changes hts q1388 ⟨Nat.le_of_ble_eq_true rfl, Nat.le_of_ble_eq_true rfl⟩) (cg_preV C hw g2 rfl _) rfl rfl hl.1 rfl (lv_room (Nat.le_of_ble_eq_true rfl)) dX0_does_28 ⟨show cc + (h3.1 - h.1) ≤ u9.1 - u.1 by omega, show ss + (h3.2.1 - h.2.1) ≤ u9.2.1 - u.2.1 by omega⟩) (fun H locs hw => ?_)
      exact hB31 h3 _ _ _ _ _ hm hw (by omega) (by omega) (lv_sub hl [] rfl)
    · have lh3 := mo_X0_changes eh3
      have ph3 : h.1 ≤ h3.1 := lh3.1
      have qh3 : h.2.1 ≤ h3.2.1 := lh3.2.1
      obtain ⟨g6, hm⟩ := gdE hm
      have hmo := mo_X0_does_33   h3 x0 q5 _ hm
      have sh3 : h3.1 ≤ u9.1 := hmo.1
      have th3 : h3.2.1 ≤ u9.2.1 := hmo.2.1
      refine cx_callX hw lh3 noQv (vy_runVX (As := [.int x1, .int x2, .ref x4, .int v1]) (rest := []) ⟨hx, hb, hml, hown, hts⟩ (w_X0_changes l htl eh3) (cw_X0_changes hts q1388 ⟨Nat.le_of_ble_eq_true rfl, Nat.le_of_ble_eq_true rfl⟩) (cg_preV C hw g2 rfl _) rfl rfl hl.1 rfl (lv_room (Nat.le_of_ble_eq_true rfl)) dX0_does_28 ⟨show cc + (h3.1 - h.1) ≤ u9.1 - u.1 by omega, show ss + (h3.2.1 - h.2.1) ≤ u9.2.1 - u.2.1 by omega⟩) (fun H locs hw => ?_)
      refine cx_catch C hw g6 (by decide) rfl [] { startPc := 19, endPc := 32, handlerPc := 33, catchType := 392 } [] (htab.trans rfl) (fun _ h => absurd h List.not_mem_nil) (by decide) (by decide) q1385 (hw.2.2.2.2.1 _ (List.mem_of_getElem? (i := 57) rfl)) ?_
      exact hB33 h3 x0 q5 _ _ _ _ _ hm hw (by omega) (by omega) (lv_sub hl [0] rfl)
  have hB11 : ∀ (h : CH) (x0 : Nat) (x1 : Int32) (x2 : Int32) (x3 : Nat) (y0 : Nat) (cc ss : Nat) (H : Heap) (locs : List Loc) (ls : Array Slot), m_X0_does_11 f h x0 x1 x2 x3 y0 = some (r0, u9) → CW D dA A s h H locs → cc + u.1 = h.1 → ss + u.2.1 = h.2.1 → lv_has ls 6 [(0, .ref x0), (1, .int x1), (2, .int x2), (3, .ref x3)] → W p l e (rm_X0_does (u9.1 - u.1) (u9.2.1 - u.2.1)) s m args below meth c H locs cc ss QQ (F0 m 11 ls [.ref y0]) := by
    intro h x0 x1 x2 x3 y0 cc ss H locs ls hm hw hcc hss hl
    have hmo := mo_X0_does_11  h x0 x1 x2 x3 y0 _ hm
    have sb_ : h.1 ≤ u9.1 := hmo.1
    have tb_ : h.2.1 ≤ u9.2.1 := hmo.2.1
    rw [m_X0_does_11] at hm
    refine lv_astore (lv' := [(4, .ref y0), (0, .ref x0), (1, .int x1), (2, .int x2), (3, .ref x3)]) hx hb dX0_does_11 hl (by decide) rfl (fun ls hl => ?_)
    refine lv_aload_n hx hb dX0_does_13 rfl (lv_at hl 4 rfl) ?_
    refine lv_aload hx hb dX0_does_14 (lv_at hl 0 rfl) ?_
    obtain ⟨g1, hm⟩ := gdE hm
    obtain ⟨h2, eh2, hm⟩ := bdE hm
    have lh2 := mo_X9_goes eh2
    have ph2 : h.1 ≤ h2.1 := lh2.1
    have qh2 : h.2.1 ≤ h2.2.1 := lh2.2.1
    have hmo := mo_X0_does_19   h2 x0 x1 x2 x3 y0 _ hm
    have sh2 : h2.1 ≤ u9.1 := hmo.1
    have th2 : h2.2.1 ≤ u9.2.1 := hmo.2.1
    refine cg_callv hw lh2 (va_runV (As := [.ref y0]) (rest := []) ⟨hx, hb, hml, hown, hts⟩ (w_X9_goes l eh2) (cw_X9_goes hts q1387 ⟨Nat.le_of_ble_eq_true rfl, Nat.le_of_ble_eq_true rfl⟩) (cg_preV C hw g1 rfl _) rfl rfl hl.1 rfl (lv_room (Nat.le_of_ble_eq_true rfl)) dX0_does_16 ⟨show cc + (h2.1 - h.1) ≤ u9.1 - u.1 by omega, show ss + (h2.2.1 - h.2.1) ≤ u9.2.1 - u.2.1 by omega⟩) (fun H locs hw => ?_)
    exact hB19 h2 x0 x1 x2 x3 y0 _ _ _ _ _ hm hw (by omega) (by omega) (lv_sub hl [1, 2, 3, 4, 0] rfl)
  have hB5 : ∀ (h : CH) (x0 : Nat) (x1 : Int32) (x2 : Int32) (x3 : Nat) (y0 : Nat) (cc ss : Nat) (H : Heap) (locs : List Loc) (ls : Array Slot), m_X0_does_5 f h x0 x1 x2 x3 y0 = some (r0, u9) → CW D dA A s h H locs → cc + u.1 = h.1 → ss + u.2.1 = h.2.1 → lv_has ls 6 [(0, .ref x0), (1, .int x1), (2, .int x2), (3, .ref x3)] → W p l e (rm_X0_does (u9.1 - u.1) (u9.2.1 - u.2.1)) s m args below meth c H locs cc ss QQ (F0 m 5 ls [.ref y0]) := by
    intro h x0 x1 x2 x3 y0 cc ss H locs ls hm hw hcc hss hl
    have hmo := mo_X0_does_5  h x0 x1 x2 x3 y0 _ hm
    have sb_ : h.1 ≤ u9.1 := hmo.1
    have tb_ : h.2.1 ≤ u9.2.1 := hmo.2.1
    rw [m_X0_does_5] at hm
    obtain ⟨a1, ea1, hm⟩ := bdE hm
    refine cg_getN C hw (by decide) (oR_E ea1) rfl in_X6 (by decide) (hw.2.2.2.2.1 _ (List.mem_of_getElem? (i := 21) rfl)) dX0_does_5 ?_
    obtain ⟨g2, hm⟩ := gdE hm
    obtain ⟨a4, h3, ea4, hm⟩ := bd2E hm
    have lh3 := mo_X2_copy ea4
    have ph3 : h.1 ≤ h3.1 := lh3.1
    have qh3 : h.2.1 ≤ h3.2.1 := lh3.2.1
    have hmo := mo_X0_does_11   h3 x0 x1 x2 x3 a4 _ hm
    have sh3 : h3.1 ≤ u9.1 := hmo.1
    have th3 : h3.2.1 ≤ u9.2.1 := hmo.2.1
    refine cg_callr hw lh3 (va_runV (As := []) (rest := []) ⟨hx, hb, hml, hown, hts⟩ (w_X2_copy l ea4) (cw_X2_copy hts q1386 ⟨Nat.le_of_ble_eq_true rfl, Nat.le_of_ble_eq_true rfl⟩) (cg_preV C hw g2 rfl _) rfl rfl hl.1 rfl (lv_room (Nat.le_of_ble_eq_true rfl)) dX0_does_8 ⟨show cc + (h3.1 - h.1) ≤ u9.1 - u.1 by omega, show ss + (h3.2.1 - h.2.1) ≤ u9.2.1 - u.2.1 by omega⟩) (fun H locs hw => ?_)
    exact hB11 h3 x0 x1 x2 x3 a4 _ _ _ _ _ hm hw (by omega) (by omega) (lv_sub hl [0, 1, 2, 3] rfl)
  rw [m_X0_does] at hm
  refine lv_aload_n hx hb dX0_does_0 rfl (lv_at hl 0 rfl) ?_
  refine lv_iload_n hx hb dX0_does_1 rfl (lv_at hl 2 rfl) ?_
  obtain ⟨g1, hm⟩ := gdE hm
  obtain ⟨a3, h2, ea3, hm⟩ := bd2E hm
  have lh2 := mo_X0_at ea3
  have ph2 : u.1 ≤ h2.1 := lh2.1
  have qh2 : u.2.1 ≤ h2.2.1 := lh2.2.1
  have hmo := mo_X0_does_5   h2 x0 x1 x2 x3 a3 _ hm
  have sh2 : h2.1 ≤ u9.1 := hmo.1
  have th2 : h2.2.1 ≤ u9.2.1 := hmo.2.1
  refine cg_callr hw lh2 (va_runV (As := [.int x2]) (rest := []) ⟨hx, hb, hml, hown, hts⟩ (w_X0_at l ea3) (cw_X0_at hts q900 ⟨Nat.le_of_ble_eq_true rfl, Nat.le_of_ble_eq_true rfl⟩) (cg_preV C hw g1 rfl _) rfl rfl hl.1 rfl (lv_room (Nat.le_of_ble_eq_true rfl)) dX0_does_2 ⟨show cc + (h2.1 - u.1) ≤ u9.1 - u.1 by omega, show ss + (h2.2.1 - u.2.1) ≤ u9.2.1 - u.2.1 by omega⟩) (fun H locs hw => ?_)
  exact hB5 h2 x0 x1 x2 x3 a3 _ _ _ _ _ hm hw (by omega) (by omega) (lv_sub hl [0, 1, 2, 3] rfl)
def m_X0_add_66 (f : Nat) (h : CH) (y0 : Int32) : Option (Int32 × CH) := some (y0, h)
theorem mo_X0_add_66 {f : Nat} : ∀ (h : CH) (y0 : Int32) (r : (Int32 × CH)), m_X0_add_66 f h y0 = some r → le2 h r.2 := by
  intro h y0 r hm
  rw [m_X0_add_66] at hm
  cases hm
  exact le2.rf
def m_X0_add_64 (f : Nat) (h : CH) : Option (Int32 × CH) := m_X0_add_66 f h (-2 : Int32)
theorem mo_X0_add_64 {f : Nat} : ∀ (h : CH) (r : (Int32 × CH)), m_X0_add_64 f h = some r → le2 h r.2 := by
  intro h r hm
  rw [m_X0_add_64] at hm
  exact (mo_X0_add_66  h (-2 : Int32) _ hm)
def m_X0_add_61 (f : Nat) (h : CH) (y0 : Int32) : Option (Int32 × CH) := m_X0_add_66 f h y0
theorem mo_X0_add_61 {f : Nat} : ∀ (h : CH) (y0 : Int32) (r : (Int32 × CH)), m_X0_add_61 f h y0 = some r → le2 h r.2 := by
  intro h y0 r hm
  rw [m_X0_add_61] at hm
  exact (mo_X0_add_66  h y0 _ hm)
def m_X0_add_58 (f : Nat) (h : CH) (y0 : Nat) (y1 : Int32) (y2 : Int32) (y3 : Nat) : Option (Int32 × CH) := gd (isC h y0 1) <|
    bx (m_X0_does f h y0 y1 y2 y3) (fun r3 h2 =>
    m_X0_add_61 f h2 r3) (fun q4 h2 =>
    none)
theorem mo_X0_add_58 {f : Nat} : ∀ (h : CH) (y0 : Nat) (y1 : Int32) (y2 : Int32) (y3 : Nat) (r : (Int32 × CH)), m_X0_add_58 f h y0 y1 y2 y3 = some r → le2 h r.2 := by
  intro h y0 y1 y2 y3 r hm
  rw [m_X0_add_58] at hm
  obtain ⟨g1, hm⟩ := gdE hm
  rcases bxE hm with ⟨r3, h2, eh2, hm⟩ | ⟨q4, h2, eh2, hm⟩
  · have lh2 := mo_X0_does eh2
    exact (lh2.tr (mo_X0_add_61  h2 r3 _ hm))
  · exact noE hm
def m_X0_add_48 (f : Nat) (h : CH) (x2 : Int32) (x3 : Int32) (x4 : Int32) (y0 : Nat) (y1 : Int32) (y2 : Int32) (y3 : Nat) : Option (Int32 × CH) := bd (m_X9_init f h y3 (1 : Int32) x2 x3 (Int32.toInt64 x4)) fun h1 =>
    m_X0_add_58 f h1 y0 y1 y2 y3
theorem mo_X0_add_48 {f : Nat} : ∀ (h : CH) (x2 : Int32) (x3 : Int32) (x4 : Int32) (y0 : Nat) (y1 : Int32) (y2 : Int32) (y3 : Nat) (r : (Int32 × CH)), m_X0_add_48 f h x2 x3 x4 y0 y1 y2 y3 = some r → le2 h r.2 := by
  intro h x2 x3 x4 y0 y1 y2 y3 r hm
  rw [m_X0_add_48] at hm
  obtain ⟨h1, eh1, hm⟩ := bdE hm
  have lh1 := mo_X9_init eh1
  exact (lh1.tr (mo_X0_add_58  h1 y0 y1 y2 y3 _ hm))
def m_X0_add_5 (f : Nat) (h : CH) (x0 : Nat) (x1 : Int32) (x2 : Int32) (x3 : Int32) (x4 : Int32) (y0 : Int32) : Option (Int32 × CH) := if y0 = 0 then
    m_X0_add_64 f h
    else bd (m_X0_isSide f x2) fun r2 =>
    if r2 = 0 then
    m_X0_add_64 f h
    else bd (m_X0_isSide f x3) fun r4 =>
    if r4 = 0 then
    m_X0_add_64 f h
    else if x2 = x3 then
    m_X0_add_64 f h
    else bd (m_X0_isIn f (Int32.toInt64 x4) (-99 : Int64) (99 : Int64)) fun r7 =>
    if r7 = 0 then
    m_X0_add_64 f h
    else nmv (cn h 4 (.inl (9, [.int 0, .int 0, .int 0, .long 0]))) fun h9 =>
    nmv (h.1 : Nat) fun a10 =>
    m_X0_add_48 f h9 x2 x3 x4 x0 (1 : Int32) x1 a10
theorem mo_X0_add_5 {f : Nat} : ∀ (h : CH) (x0 : Nat) (x1 : Int32) (x2 : Int32) (x3 : Int32) (x4 : Int32) (y0 : Int32) (r : (Int32 × CH)), m_X0_add_5 f h x0 x1 x2 x3 x4 y0 = some r → le2 h r.2 := by
  intro h x0 x1 x2 x3 x4 y0 r hm
  rw [m_X0_add_5] at hm
  by_cases c1 : y0 = 0
  · have hm := ifT hm c1
    exact (mo_X0_add_64  h _ hm)
  · have hm := ifF hm c1
    obtain ⟨r2, er2, hm⟩ := bdE hm
    by_cases c3 : r2 = 0
    · have hm := ifT hm c3
      exact (mo_X0_add_64  h _ hm)
    · have hm := ifF hm c3
      obtain ⟨r4, er4, hm⟩ := bdE hm
      by_cases c5 : r4 = 0
      · have hm := ifT hm c5
        exact (mo_X0_add_64  h _ hm)
      · have hm := ifF hm c5
        by_cases c6 : x2 = x3
        · have hm := ifT hm c6
          exact (mo_X0_add_64  h _ hm)
        · have hm := ifF hm c6
          obtain ⟨r7, er7, hm⟩ := bdE hm
          by_cases c8 : r7 = 0
          · have hm := ifT hm c8
            exact (mo_X0_add_64  h _ hm)
          · have hm := ifF hm c8
            obtain ⟨h9, eh9, hm⟩ := nmE hm
            have lh9 := cn_le eh9
            obtain ⟨a10, ea10, hm⟩ := nmE hm
            exact (lh9.tr (mo_X0_add_48  h9 x2 x3 x4 x0 (1 : Int32) x1 a10 _ hm))
def m_X0_add (f : Nat) (u : CH) (x0 : Nat) (x1 : Int32) (x2 : Int32) (x3 : Int32) (x4 : Int32) : Option (Int32 × CH) := gd (isC u x0 1) <|
    bd2 (m_X0_isOwn f u x0 x1) fun r3 h2 =>
    m_X0_add_5 f h2 x0 x1 x2 x3 x4 r3
theorem mo_X0_add {f : Nat} {u : CH} {x0 : Nat} {x1 : Int32} {x2 : Int32} {x3 : Int32} {x4 : Int32} {r0 : Int32} {u9 : CH} (hm : m_X0_add f u x0 x1 x2 x3 x4 = some (r0, u9)) : le2 u u9 := by
  rw [m_X0_add] at hm
  obtain ⟨g1, hm⟩ := gdE hm
  obtain ⟨r3, h2, er3, hm⟩ := bd2E hm
  have lh2 := mo_X0_isOwn er3
  exact (lh2.tr (mo_X0_add_5  h2 x0 x1 x2 x3 x4 r3 _ hm))
abbrev rm_X0_add (mc ms : Nat) : Room := { frames := 10, cells := mc, slots := ms, locals := 241 }
theorem cw_X0_add {R : Room} {s : State} {args : Array Value} {own : String} {idx mc ms : Nat} (hts : ∀ w ∈ lw_all, w.before args s = true) (hl : Cond.methodLink own idx yX0_add ∈ lw_all) (hR : 10 + 1 ≤ R.frames ∧ 8 + (5 + 11) + 241 ≤ R.locals) : CallW R s args own RX0 idx yX0_add cX0_add 5 (Option.some Jvm.ClassFile.FieldType.int) (ws_ yX0_add cX0_add 5 (Option.some Jvm.ClassFile.FieldType.int)) (rm_X0_add mc ms) mc ms 4 := cwV 4 hts (lw_V hl q1371 q1372 q119 q1373) rfl rfl rfl (by decide +kernel) hR
set_option maxHeartbeats 4000000 in
set_option maxRecDepth 100000 in
theorem w_X0_add (l : Launch) (htl : l.stackTraces = false) {D : va_G} {dA : Nat → ClassId} {A : Nat → Prop} {f : Nat} {u u9 : CH} {r0 : Int32} {x0 : Nat} {x1 : Int32} {x2 : Int32} {x3 : Int32} {x4 : Int32} (hm : m_X0_add f u x0 x1 x2 x3 x4 = some (r0, u9)) : Met l yX0_add (ws_ yX0_add cX0_add 5 (Option.some Jvm.ClassFile.FieldType.int)) (rm_X0_add (u9.1 - u.1) (u9.2.1 - u.2.1)) (va_Pc [.ref x0, .int x1, .int x2, .int x3, .int x4] (CPre D dA A u)) (va_Qi (fun r u => r = r0 ∧ u = u9) (CPost D dA A) A) (u9.1 - u.1) (u9.2.1 - u.2.1) A := by
  refine Met.ofW (cc := cX0_add) (maxL := 5) (ret := (Option.some Jvm.ClassFile.FieldType.int)) (by decide) rfl ?_
  intro p e s m args below meth c s₁ B hml hv
  have hx := B.exec
  have hb := B.bytes
  have hr := B.returns
  have hts := atoms_spec (ws := (ws_ yX0_add cX0_add 5 (Option.some Jvm.ClassFile.FieldType.int))) B.pre
  have hts : ∀ w ∈ lw_all, w.before args s = true := fun w h => hts w (List.mem_cons_of_mem _ h)
  have hown : s.vm.findClass RX0 = some m.cls := findClass_of_methodNamed B.named
  have hlocks := B.notSynchronized
  obtain ⟨hav, hv⟩ := hv
  have C : CX p s m args c cX0_add RX0 D dA := ⟨hx, hb, hown, hts, hv.2⟩
  have hw : CW D dA A s u s.heap [] := hv.1
  generalize hQ : MQ below (va_Qi (fun r u => r = r0 ∧ u = u9) (CPost D dA A) A) args s (u9.1 - u.1) (u9.2.1 - u.2.1) A = QQ
  have hent := lg_entry_eq m [.ref x0, .int x1, .int x2, .int x3, .int x4] 5
  rw [← hav] at hent
  rw [hent]
  have hl := lv_entry ([.ref x0, .int x1, .int x2, .int x3, .int x4]) (n := 5) (Nat.le_of_ble_eq_true rfl)
  generalize (lg_sl ([.ref x0, .int x1, .int x2, .int x3, .int x4]) ++ List.replicate (5 - (lg_sl ([.ref x0, .int x1, .int x2, .int x3, .int x4])).length) Slot.unset).toArray = ls at hl ⊢
  have hl : lv_has ls 5 [(0, .ref x0), (1, .int x1), (2, .int x2), (3, .int x3), (4, .int x4)] := hl
  obtain ⟨cc, ecc⟩ : ∃ z : Nat, z = 0 := ⟨0, rfl⟩
  obtain ⟨ss, ess⟩ : ∃ z : Nat, z = 0 := ⟨0, rfl⟩
  have hcc : cc + u.1 = u.1 := by omega
  have hss : ss + u.2.1 = u.2.1 := by omega
  suffices hgo : W p l e (rm_X0_add (u9.1 - u.1) (u9.2.1 - u.2.1)) s m args below meth c s.heap [] cc ss QQ (F0 m 0 ls []) by rw [ecc, ess] at hgo; exact hgo
  have ⟨pu, qu, _, _⟩ := mo_X0_add hm
  have hB66 : ∀ (h : CH) (y0 : Int32) (cc ss : Nat) (H : Heap) (locs : List Loc) (ls : Array Slot), m_X0_add_66 f h y0 = some (r0, u9) → CW D dA A s h H locs → cc + u.1 = h.1 → ss + u.2.1 = h.2.1 → lv_has ls 5 [] → W p l e (rm_X0_add (u9.1 - u.1) (u9.2.1 - u.2.1)) s m args below meth c H locs cc ss QQ (F0 m 66 ls [.int y0]) := by
    intro h y0 cc ss H locs ls hm hw hcc hss hl
    have hmo := mo_X0_add_66  h y0 _ hm
    have sb_ : h.1 ≤ u9.1 := hmo.1
    have tb_ : h.2.1 ≤ u9.2.1 := hmo.2.1
    rw [m_X0_add_66] at hm
    obtain ⟨er, eh⟩ := retE hm
    have ec : cc = u9.1 - u.1 := by rw [← eh]; omega
    have es : ss = u9.2.1 - u.2.1 := by rw [← eh]; omega
    rw [ec, es, ← hQ]
    exact W.iret (v := y0) hx hb hr (fun t ht hW => ⟨⟨y0, h, rfl, ⟨er, eh⟩, ⟨by rw [ht]; exact hw.1, by rw [ht]; exact hw.2.1⟩⟩, hw.2.2.1.F ht⟩) hw.2.2.1.2.2 dX0_add_66
  have hB64 : ∀ (h : CH) (cc ss : Nat) (H : Heap) (locs : List Loc) (ls : Array Slot), m_X0_add_64 f h = some (r0, u9) → CW D dA A s h H locs → cc + u.1 = h.1 → ss + u.2.1 = h.2.1 → lv_has ls 5 [] → W p l e (rm_X0_add (u9.1 - u.1) (u9.2.1 - u.2.1)) s m args below meth c H locs cc ss QQ (F0 m 64 ls []) := by
    intro h cc ss H locs ls hm hw hcc hss hl
    have hmo := mo_X0_add_64  h _ hm
    have sb_ : h.1 ≤ u9.1 := hmo.1
    have tb_ : h.2.1 ≤ u9.2.1 := hmo.2.1
    rw [m_X0_add_64] at hm
    refine lv_bipush (v := -2) hx hb dX0_add_64 (by decide) ?_
    exact hB66 h (-2 : Int32) _ _ _ _ _ hm hw (by omega) (by omega) (lv_sub hl [] rfl)
  have hB61 : ∀ (h : CH) (y0 : Int32) (cc ss : Nat) (H : Heap) (locs : List Loc) (ls : Array Slot), m_X0_add_61 f h y0 = some (r0, u9) → CW D dA A s h H locs → cc + u.1 = h.1 → ss + u.2.1 = h.2.1 → lv_has ls 5 [] → W p l e (rm_X0_add (u9.1 - u.1) (u9.2.1 - u.2.1)) s m args below meth c H locs cc ss QQ (F0 m 61 ls [.int y0]) := by
    intro h y0 cc ss H locs ls hm hw hcc hss hl
    have hmo := mo_X0_add_61  h y0 _ hm
    have sb_ : h.1 ≤ u9.1 := hmo.1
    have tb_ : h.2.1 ≤ u9.2.1 := hmo.2.1
    rw [m_X0_add_61] at hm
    refine lv_goto (tgt := 66) hx hb dX0_add_61 (by decide) ?_
    exact hB66 h y0 _ _ _ _ _ hm hw (by omega) (by omega) (lv_sub hl [] rfl)
  have hB58 : ∀ (h : CH) (y0 : Nat) (y1 : Int32) (y2 : Int32) (y3 : Nat) (cc ss : Nat) (H : Heap) (locs : List Loc) (ls : Array Slot), m_X0_add_58 f h y0 y1 y2 y3 = some (r0, u9) → CW D dA A s h H locs → cc + u.1 = h.1 → ss + u.2.1 = h.2.1 → lv_has ls 5 [] → W p l e (rm_X0_add (u9.1 - u.1) (u9.2.1 - u.2.1)) s m args below meth c H locs cc ss QQ (F0 m 58 ls [.ref y3, .int y2, .int y1, .ref y0]) := by
    intro h y0 y1 y2 y3 cc ss H locs ls hm hw hcc hss hl
    have hmo := mo_X0_add_58  h y0 y1 y2 y3 _ hm
    have sb_ : h.1 ≤ u9.1 := hmo.1
    have tb_ : h.2.1 ≤ u9.2.1 := hmo.2.1
    rw [m_X0_add_58] at hm
    obtain ⟨g1, hm⟩ := gdE hm
    rcases bxE hm with ⟨r3, h2, eh2, hm⟩ | ⟨q4, h2, eh2, hm⟩
    · have lh2 := mo_X0_does eh2
      have ph2 : h.1 ≤ h2.1 := lh2.1
      have qh2 : h.2.1 ≤ h2.2.1 := lh2.2.1
      have hmo := mo_X0_add_61   h2 r3 _ hm
      have sh2 : h2.1 ≤ u9.1 := hmo.1
      have th2 : h2.2.1 ≤ u9.2.1 := hmo.2.1
      refine cx_calli hw lh2 (vy_runVX (As := [.int y1, .int y2, .ref y3]) (rest := []) ⟨hx, hb, hml, hown, hts⟩ (w_X0_does l htl eh2) (cw_X0_does hts q1381 ⟨Nat.le_of_ble_eq_true rfl, Nat.le_of_ble_eq_true rfl⟩) (cg_preV C hw g1 rfl _) rfl rfl hl.1 rfl (lv_room (Nat.le_of_ble_eq_true rfl)) dX0_add_58 ⟨show cc + (h2.1 - h.1) ≤ u9.1 - u.1 by omega, show ss + (h2.2.1 - h.2.1) ≤ u9.2.1 - u.2.1 by omega⟩) (fun H locs hw => ?_)
      exact hB61 h2 r3 _ _ _ _ _ hm hw (by omega) (by omega) (lv_sub hl [] rfl)
    · exact noE hm
  have hB48 : ∀ (h : CH) (x2 : Int32) (x3 : Int32) (x4 : Int32) (y0 : Nat) (y1 : Int32) (y2 : Int32) (y3 : Nat) (cc ss : Nat) (H : Heap) (locs : List Loc) (ls : Array Slot), m_X0_add_48 f h x2 x3 x4 y0 y1 y2 y3 = some (r0, u9) → CW D dA A s h H locs → cc + u.1 = h.1 → ss + u.2.1 = h.2.1 → lv_has ls 5 [(2, .int x2), (3, .int x3), (4, .int x4)] → W p l e (rm_X0_add (u9.1 - u.1) (u9.2.1 - u.2.1)) s m args below meth c H locs cc ss QQ (F0 m 48 ls [.ref y3, .int y2, .int y1, .ref y0]) := by
    intro h x2 x3 x4 y0 y1 y2 y3 cc ss H locs ls hm hw hcc hss hl
    have hmo := mo_X0_add_48  h x2 x3 x4 y0 y1 y2 y3 _ hm
    have sb_ : h.1 ≤ u9.1 := hmo.1
    have tb_ : h.2.1 ≤ u9.2.1 := hmo.2.1
    rw [m_X0_add_48] at hm
    refine lv_dup hx hb dX0_add_48 rfl ?_
    refine lv_iconst (v := 1) hx hb dX0_add_49 (by decide) ?_
    refine lv_iload_n hx hb dX0_add_50 rfl (lv_at hl 0 rfl) ?_
    refine lv_iload_n hx hb dX0_add_51 rfl (lv_at hl 1 rfl) ?_
    refine lv_iload hx hb dX0_add_52 (lv_at hl 2 rfl) ?_
    refine lv_i2l hx hb dX0_add_54 rfl ?_
    obtain ⟨h1, eh1, hm⟩ := bdE hm
    have lh1 := mo_X9_init eh1
    have ph1 : h.1 ≤ h1.1 := lh1.1
    have qh1 : h.2.1 ≤ h1.2.1 := lh1.2.1
    have hmo := mo_X0_add_58   h1 y0 y1 y2 y3 _ hm
    have sh1 : h1.1 ≤ u9.1 := hmo.1
    have th1 : h1.2.1 ≤ u9.2.1 := hmo.2.1
    refine cg_callv hw lh1 (va_runI (As := [.int (1 : Int32), .int x2, .int x3, .long (Int32.toInt64 x4)]) (rest := [.ref y3, .int y2, .int y1, .ref y0]) ⟨hx, hb, hml, hown, hts⟩ (w_X9_init l eh1) (cw_X9_init hts q1380 ⟨Nat.le_of_ble_eq_true rfl, Nat.le_of_ble_eq_true rfl⟩) (cg_preS C hw _) rfl rfl hl.1 rfl (lv_room (Nat.le_of_ble_eq_true rfl)) dX0_add_55 ⟨show cc + (h1.1 - h.1) ≤ u9.1 - u.1 by omega, show ss + (h1.2.1 - h.2.1) ≤ u9.2.1 - u.2.1 by omega⟩) (fun H locs hw => ?_)
    exact hB58 h1 y0 y1 y2 y3 _ _ _ _ _ hm hw (by omega) (by omega) (lv_sub hl [] rfl)
  have hB5 : ∀ (h : CH) (x0 : Nat) (x1 : Int32) (x2 : Int32) (x3 : Int32) (x4 : Int32) (y0 : Int32) (cc ss : Nat) (H : Heap) (locs : List Loc) (ls : Array Slot), m_X0_add_5 f h x0 x1 x2 x3 x4 y0 = some (r0, u9) → CW D dA A s h H locs → cc + u.1 = h.1 → ss + u.2.1 = h.2.1 → lv_has ls 5 [(0, .ref x0), (1, .int x1), (2, .int x2), (3, .int x3), (4, .int x4)] → W p l e (rm_X0_add (u9.1 - u.1) (u9.2.1 - u.2.1)) s m args below meth c H locs cc ss QQ (F0 m 5 ls [.int y0]) := by
    intro h x0 x1 x2 x3 x4 y0 cc ss H locs ls hm hw hcc hss hl
    have hmo := mo_X0_add_5  h x0 x1 x2 x3 x4 y0 _ hm
    have sb_ : h.1 ≤ u9.1 := hmo.1
    have tb_ : h.2.1 ≤ u9.2.1 := hmo.2.1
    rw [m_X0_add_5] at hm
    refine lv_if_eq (tgt := 64) hx hb dX0_add_5 (by decide) (fun c1 => ?_) (fun c1 => ?_)
    · have hm := ifT hm c1
      exact hB64 h _ _ _ _ _ hm hw (by omega) (by omega) (lv_sub hl [] rfl)
    · have hm := ifF hm c1
      refine lv_iload_n hx hb dX0_add_8 rfl (lv_at hl 2 rfl) ?_
      obtain ⟨r2, er2, hm⟩ := bdE hm
      refine sci (va_runS (As := [.int x2]) (rest := []) ⟨hx, hb, hml, hown, hts⟩ (w_X0_isSide l er2) (cw_X0_isSide hts q896 ⟨Nat.le_of_ble_eq_true rfl, Nat.le_of_ble_eq_true rfl⟩) (pre_s _) rfl rfl hl.1 rfl (lv_room (Nat.le_of_ble_eq_true rfl)) dX0_add_9 ⟨show cc + 0 ≤ u9.1 - u.1 by omega, show ss + 0 ≤ u9.2.1 - u.2.1 by omega⟩) ?_
      refine lv_if_eq (tgt := 64) hx hb dX0_add_12 (by decide) (fun c3 => ?_) (fun c3 => ?_)
      · have hm := ifT hm c3
        exact hB64 h _ _ _ _ _ hm hw (by omega) (by omega) (lv_sub hl [] rfl)
      · have hm := ifF hm c3
        refine lv_iload_n hx hb dX0_add_15 rfl (lv_at hl 3 rfl) ?_
        obtain ⟨r4, er4, hm⟩ := bdE hm
        refine sci (va_runS (As := [.int x3]) (rest := []) ⟨hx, hb, hml, hown, hts⟩ (w_X0_isSide l er4) (cw_X0_isSide hts q896 ⟨Nat.le_of_ble_eq_true rfl, Nat.le_of_ble_eq_true rfl⟩) (pre_s _) rfl rfl hl.1 rfl (lv_room (Nat.le_of_ble_eq_true rfl)) dX0_add_16 ⟨show cc + 0 ≤ u9.1 - u.1 by omega, show ss + 0 ≤ u9.2.1 - u.2.1 by omega⟩) ?_
        refine lv_if_eq (tgt := 64) hx hb dX0_add_19 (by decide) (fun c5 => ?_) (fun c5 => ?_)
        · have hm := ifT hm c5
          exact hB64 h _ _ _ _ _ hm hw (by omega) (by omega) (lv_sub hl [] rfl)
        · have hm := ifF hm c5
          refine lv_iload_n hx hb dX0_add_22 rfl (lv_at hl 2 rfl) ?_
          refine lv_iload_n hx hb dX0_add_23 rfl (lv_at hl 3 rfl) ?_
          refine lv_icmp_eq (tgt := 64) hx hb dX0_add_24 (by decide) (fun c6 => ?_) (fun c6 => ?_)
          · have hm := ifT hm c6
            exact hB64 h _ _ _ _ _ hm hw (by omega) (by omega) (lv_sub hl [] rfl)
          · have hm := ifF hm c6
            refine lv_iload hx hb dX0_add_27 (lv_at hl 4 rfl) ?_
            refine lv_i2l hx hb dX0_add_29 rfl ?_
            refine lv_ldc2 hx hb hown (hts _ q1378) dX0_add_30 ?_
            refine lv_ldc2 hx hb hown (hts _ q1379) dX0_add_33 ?_
            obtain ⟨r7, er7, hm⟩ := bdE hm
            refine sci (va_runS (As := [.long (Int32.toInt64 x4), .long (-99 : Int64), .long (99 : Int64)]) (rest := []) ⟨hx, hb, hml, hown, hts⟩ (w_X0_isIn l er7) (cw_X0_isIn hts q297 ⟨Nat.le_of_ble_eq_true rfl, Nat.le_of_ble_eq_true rfl⟩) (pre_s _) rfl rfl hl.1 rfl (lv_room (Nat.le_of_ble_eq_true rfl)) dX0_add_36 ⟨show cc + 0 ≤ u9.1 - u.1 by omega, show ss + 0 ≤ u9.2.1 - u.2.1 by omega⟩) ?_
            refine lv_if_eq (tgt := 64) hx hb dX0_add_39 (by decide) (fun c8 => ?_) (fun c8 => ?_)
            · have hm := ifT hm c8
              exact hB64 h _ _ _ _ _ hm hw (by omega) (by omega) (lv_sub hl [] rfl)
            · have hm := ifF hm c8
              refine lv_aload_n hx hb dX0_add_42 rfl (lv_at hl 0 rfl) ?_
              refine lv_iconst (v := 1) hx hb dX0_add_43 (by decide) ?_
              refine lv_iload_n hx hb dX0_add_44 rfl (lv_at hl 1 rfl) ?_
              obtain ⟨h9, eh9, hm⟩ := nmE hm
              obtain ⟨_, _, hmq⟩ := nmE hm
              have hmo := mo_X0_add_48   h9 x2 x3 x4 x0 (1 : Int32) x1 _ _ hmq
              have sh9 : h9.1 ≤ u9.1 := hmo.1
              have th9 : h9.2.1 ≤ u9.2.1 := hmo.2.1
              have zh9 := cn_sz eh9
              refine cg_new (C0 := C) hw (ci := 9) (fs := [.int 0, .int 0, .int 0, .long 0]) rfl in_X9 tyX9 tyX9_ok q1051 q989 q146 (fun j hj => by rcases (show j = 0 ∨ j = 1 ∨ j = 2 ∨ j = 3 by omega) with rfl | rfl | rfl | rfl <;> rfl) (show cc + 1 ≤ u9.1 - u.1 by omega) (show ss + 4 ≤ u9.2.1 - u.2.1 by omega) dX0_add_45 (fun H hw => ?_)
              rw [← eh9] at hw
              refine lv_topr (fun a10 ea10 => ?_)
              have hm := nmK hm ea10
              exact hB48 h9 x2 x3 x4 x0 (1 : Int32) x1 a10 _ _ _ _ _ hm hw (by omega) (by omega) (lv_sub hl [2, 3, 4] rfl)
  rw [m_X0_add] at hm
  refine lv_aload_n hx hb dX0_add_0 rfl (lv_at hl 0 rfl) ?_
  refine lv_iload_n hx hb dX0_add_1 rfl (lv_at hl 1 rfl) ?_
  obtain ⟨g1, hm⟩ := gdE hm
  obtain ⟨r3, h2, er3, hm⟩ := bd2E hm
  have lh2 := mo_X0_isOwn er3
  have ph2 : u.1 ≤ h2.1 := lh2.1
  have qh2 : u.2.1 ≤ h2.2.1 := lh2.2.1
  have hmo := mo_X0_add_5   h2 x0 x1 x2 x3 x4 r3 _ hm
  have sh2 : h2.1 ≤ u9.1 := hmo.1
  have th2 : h2.2.1 ≤ u9.2.1 := hmo.2.1
  refine cg_calli hw lh2 (va_runV (As := [.int x1]) (rest := []) ⟨hx, hb, hml, hown, hts⟩ (w_X0_isOwn l er3) (cw_X0_isOwn hts q1374 ⟨Nat.le_of_ble_eq_true rfl, Nat.le_of_ble_eq_true rfl⟩) (cg_preV C hw g1 rfl _) rfl rfl hl.1 rfl (lv_room (Nat.le_of_ble_eq_true rfl)) dX0_add_2 ⟨show cc + (h2.1 - u.1) ≤ u9.1 - u.1 by omega, show ss + (h2.2.1 - u.2.1) ≤ u9.2.1 - u.2.1 by omega⟩) (fun H locs hw => ?_)
  exact hB5 h2 x0 x1 x2 x3 x4 r3 _ _ _ _ _ hm hw (by omega) (by omega) (lv_sub hl [0, 1, 2, 3, 4] rfl)
def m_X0_exchange_49 (f : Nat) (h : CH) (y0 : Int32) : Option (Int32 × CH) := some (y0, h)
theorem mo_X0_exchange_49 {f : Nat} : ∀ (h : CH) (y0 : Int32) (r : (Int32 × CH)), m_X0_exchange_49 f h y0 = some r → le2 h r.2 := by
  intro h y0 r hm
  rw [m_X0_exchange_49] at hm
  cases hm
  exact le2.rf
def m_X0_exchange_47 (f : Nat) (h : CH) : Option (Int32 × CH) := m_X0_exchange_49 f h (-2 : Int32)
theorem mo_X0_exchange_47 {f : Nat} : ∀ (h : CH) (r : (Int32 × CH)), m_X0_exchange_47 f h = some r → le2 h r.2 := by
  intro h r hm
  rw [m_X0_exchange_47] at hm
  exact (mo_X0_exchange_49  h (-2 : Int32) _ hm)
def m_X0_exchange_44 (f : Nat) (h : CH) (y0 : Int32) : Option (Int32 × CH) := m_X0_exchange_49 f h y0
theorem mo_X0_exchange_44 {f : Nat} : ∀ (h : CH) (y0 : Int32) (r : (Int32 × CH)), m_X0_exchange_44 f h y0 = some r → le2 h r.2 := by
  intro h y0 r hm
  rw [m_X0_exchange_44] at hm
  exact (mo_X0_exchange_49  h y0 _ hm)
def m_X0_exchange_41 (f : Nat) (h : CH) (y0 : Nat) (y1 : Int32) (y2 : Int32) (y3 : Nat) : Option (Int32 × CH) := gd (isC h y0 1) <|
    bx (m_X0_does f h y0 y1 y2 y3) (fun r3 h2 =>
    m_X0_exchange_44 f h2 r3) (fun q4 h2 =>
    none)
theorem mo_X0_exchange_41 {f : Nat} : ∀ (h : CH) (y0 : Nat) (y1 : Int32) (y2 : Int32) (y3 : Nat) (r : (Int32 × CH)), m_X0_exchange_41 f h y0 y1 y2 y3 = some r → le2 h r.2 := by
  intro h y0 y1 y2 y3 r hm
  rw [m_X0_exchange_41] at hm
  obtain ⟨g1, hm⟩ := gdE hm
  rcases bxE hm with ⟨r3, h2, eh2, hm⟩ | ⟨q4, h2, eh2, hm⟩
  · have lh2 := mo_X0_does eh2
    exact (lh2.tr (mo_X0_exchange_44  h2 r3 _ hm))
  · exact noE hm
def m_X0_exchange_33 (f : Nat) (h : CH) (x2 : Int32) (x3 : Int32) (y0 : Nat) (y1 : Int32) (y2 : Int32) (y3 : Nat) : Option (Int32 × CH) := bd (m_X9_init f h y3 (0 : Int32) x2 x3 (0 : Int64)) fun h1 =>
    m_X0_exchange_41 f h1 y0 y1 y2 y3
theorem mo_X0_exchange_33 {f : Nat} : ∀ (h : CH) (x2 : Int32) (x3 : Int32) (y0 : Nat) (y1 : Int32) (y2 : Int32) (y3 : Nat) (r : (Int32 × CH)), m_X0_exchange_33 f h x2 x3 y0 y1 y2 y3 = some r → le2 h r.2 := by
  intro h x2 x3 y0 y1 y2 y3 r hm
  rw [m_X0_exchange_33] at hm
  obtain ⟨h1, eh1, hm⟩ := bdE hm
  have lh1 := mo_X9_init eh1
  exact (lh1.tr (mo_X0_exchange_41  h1 y0 y1 y2 y3 _ hm))
def m_X0_exchange_5 (f : Nat) (h : CH) (x0 : Nat) (x1 : Int32) (x2 : Int32) (x3 : Int32) (y0 : Int32) : Option (Int32 × CH) := if y0 = 0 then
    m_X0_exchange_47 f h
    else bd (m_X0_isSide f x2) fun r2 =>
    if r2 = 0 then
    m_X0_exchange_47 f h
    else bd (m_X0_isSide f x3) fun r4 =>
    if r4 = 0 then
    m_X0_exchange_47 f h
    else if x2 = x3 then
    m_X0_exchange_47 f h
    else nmv (cn h 4 (.inl (9, [.int 0, .int 0, .int 0, .long 0]))) fun h7 =>
    nmv (h.1 : Nat) fun a8 =>
    m_X0_exchange_33 f h7 x2 x3 x0 (2 : Int32) x1 a8
theorem mo_X0_exchange_5 {f : Nat} : ∀ (h : CH) (x0 : Nat) (x1 : Int32) (x2 : Int32) (x3 : Int32) (y0 : Int32) (r : (Int32 × CH)), m_X0_exchange_5 f h x0 x1 x2 x3 y0 = some r → le2 h r.2 := by
  intro h x0 x1 x2 x3 y0 r hm
  rw [m_X0_exchange_5] at hm
  by_cases c1 : y0 = 0
  · have hm := ifT hm c1
    exact (mo_X0_exchange_47  h _ hm)
  · have hm := ifF hm c1
    obtain ⟨r2, er2, hm⟩ := bdE hm
    by_cases c3 : r2 = 0
    · have hm := ifT hm c3
      exact (mo_X0_exchange_47  h _ hm)
    · have hm := ifF hm c3
      obtain ⟨r4, er4, hm⟩ := bdE hm
      by_cases c5 : r4 = 0
      · have hm := ifT hm c5
        exact (mo_X0_exchange_47  h _ hm)
      · have hm := ifF hm c5
        by_cases c6 : x2 = x3
        · have hm := ifT hm c6
          exact (mo_X0_exchange_47  h _ hm)
        · have hm := ifF hm c6
          obtain ⟨h7, eh7, hm⟩ := nmE hm
          have lh7 := cn_le eh7
          obtain ⟨a8, ea8, hm⟩ := nmE hm
          exact (lh7.tr (mo_X0_exchange_33  h7 x2 x3 x0 (2 : Int32) x1 a8 _ hm))
def m_X0_exchange (f : Nat) (u : CH) (x0 : Nat) (x1 : Int32) (x2 : Int32) (x3 : Int32) : Option (Int32 × CH) := gd (isC u x0 1) <|
    bd2 (m_X0_isOwn f u x0 x1) fun r3 h2 =>
    m_X0_exchange_5 f h2 x0 x1 x2 x3 r3
theorem mo_X0_exchange {f : Nat} {u : CH} {x0 : Nat} {x1 : Int32} {x2 : Int32} {x3 : Int32} {r0 : Int32} {u9 : CH} (hm : m_X0_exchange f u x0 x1 x2 x3 = some (r0, u9)) : le2 u u9 := by
  rw [m_X0_exchange] at hm
  obtain ⟨g1, hm⟩ := gdE hm
  obtain ⟨r3, h2, er3, hm⟩ := bd2E hm
  have lh2 := mo_X0_isOwn er3
  exact (lh2.tr (mo_X0_exchange_5  h2 x0 x1 x2 x3 r3 _ hm))
abbrev rm_X0_exchange (mc ms : Nat) : Room := { frames := 10, cells := mc, slots := ms, locals := 241 }
theorem cw_X0_exchange {R : Room} {s : State} {args : Array Value} {own : String} {idx mc ms : Nat} (hts : ∀ w ∈ lw_all, w.before args s = true) (hl : Cond.methodLink own idx yX0_exchange ∈ lw_all) (hR : 10 + 1 ≤ R.frames ∧ 8 + (4 + 11) + 241 ≤ R.locals) : CallW R s args own RX0 idx yX0_exchange cX0_exchange 4 (Option.some Jvm.ClassFile.FieldType.int) (ws_ yX0_exchange cX0_exchange 4 (Option.some Jvm.ClassFile.FieldType.int)) (rm_X0_exchange mc ms) mc ms 3 := cwV 3 hts (lw_V hl q1496 q1497 q119 q1498) rfl rfl rfl (by decide +kernel) hR
set_option maxHeartbeats 4000000 in
set_option maxRecDepth 100000 in
theorem w_X0_exchange (l : Launch) (htl : l.stackTraces = false) {D : va_G} {dA : Nat → ClassId} {A : Nat → Prop} {f : Nat} {u u9 : CH} {r0 : Int32} {x0 : Nat} {x1 : Int32} {x2 : Int32} {x3 : Int32} (hm : m_X0_exchange f u x0 x1 x2 x3 = some (r0, u9)) : Met l yX0_exchange (ws_ yX0_exchange cX0_exchange 4 (Option.some Jvm.ClassFile.FieldType.int)) (rm_X0_exchange (u9.1 - u.1) (u9.2.1 - u.2.1)) (va_Pc [.ref x0, .int x1, .int x2, .int x3] (CPre D dA A u)) (va_Qi (fun r u => r = r0 ∧ u = u9) (CPost D dA A) A) (u9.1 - u.1) (u9.2.1 - u.2.1) A := by
  refine Met.ofW (cc := cX0_exchange) (maxL := 4) (ret := (Option.some Jvm.ClassFile.FieldType.int)) (by decide) rfl ?_
  intro p e s m args below meth c s₁ B hml hv
  have hx := B.exec
  have hb := B.bytes
  have hr := B.returns
  have hts := atoms_spec (ws := (ws_ yX0_exchange cX0_exchange 4 (Option.some Jvm.ClassFile.FieldType.int))) B.pre
  have hts : ∀ w ∈ lw_all, w.before args s = true := fun w h => hts w (List.mem_cons_of_mem _ h)
  have hown : s.vm.findClass RX0 = some m.cls := findClass_of_methodNamed B.named
  have hlocks := B.notSynchronized
  obtain ⟨hav, hv⟩ := hv
  have C : CX p s m args c cX0_exchange RX0 D dA := ⟨hx, hb, hown, hts, hv.2⟩
  have hw : CW D dA A s u s.heap [] := hv.1
  generalize hQ : MQ below (va_Qi (fun r u => r = r0 ∧ u = u9) (CPost D dA A) A) args s (u9.1 - u.1) (u9.2.1 - u.2.1) A = QQ
  have hent := lg_entry_eq m [.ref x0, .int x1, .int x2, .int x3] 4
  rw [← hav] at hent
  rw [hent]
  have hl := lv_entry ([.ref x0, .int x1, .int x2, .int x3]) (n := 4) (Nat.le_of_ble_eq_true rfl)
  generalize (lg_sl ([.ref x0, .int x1, .int x2, .int x3]) ++ List.replicate (4 - (lg_sl ([.ref x0, .int x1, .int x2, .int x3])).length) Slot.unset).toArray = ls at hl ⊢
  have hl : lv_has ls 4 [(0, .ref x0), (1, .int x1), (2, .int x2), (3, .int x3)] := hl
  obtain ⟨cc, ecc⟩ : ∃ z : Nat, z = 0 := ⟨0, rfl⟩
  obtain ⟨ss, ess⟩ : ∃ z : Nat, z = 0 := ⟨0, rfl⟩
  have hcc : cc + u.1 = u.1 := by omega
  have hss : ss + u.2.1 = u.2.1 := by omega
  suffices hgo : W p l e (rm_X0_exchange (u9.1 - u.1) (u9.2.1 - u.2.1)) s m args below meth c s.heap [] cc ss QQ (F0 m 0 ls []) by rw [ecc, ess] at hgo; exact hgo
  have ⟨pu, qu, _, _⟩ := mo_X0_exchange hm
  have hB49 : ∀ (h : CH) (y0 : Int32) (cc ss : Nat) (H : Heap) (locs : List Loc) (ls : Array Slot), m_X0_exchange_49 f h y0 = some (r0, u9) → CW D dA A s h H locs → cc + u.1 = h.1 → ss + u.2.1 = h.2.1 → lv_has ls 4 [] → W p l e (rm_X0_exchange (u9.1 - u.1) (u9.2.1 - u.2.1)) s m args below meth c H locs cc ss QQ (F0 m 49 ls [.int y0]) := by
    intro h y0 cc ss H locs ls hm hw hcc hss hl
    have hmo := mo_X0_exchange_49  h y0 _ hm
    have sb_ : h.1 ≤ u9.1 := hmo.1
    have tb_ : h.2.1 ≤ u9.2.1 := hmo.2.1
    rw [m_X0_exchange_49] at hm
    obtain ⟨er, eh⟩ := retE hm
    have ec : cc = u9.1 - u.1 := by rw [← eh]; omega
    have es : ss = u9.2.1 - u.2.1 := by rw [← eh]; omega
    rw [ec, es, ← hQ]
    exact W.iret (v := y0) hx hb hr (fun t ht hW => ⟨⟨y0, h, rfl, ⟨er, eh⟩, ⟨by rw [ht]; exact hw.1, by rw [ht]; exact hw.2.1⟩⟩, hw.2.2.1.F ht⟩) hw.2.2.1.2.2 dX0_exchange_49
  have hB47 : ∀ (h : CH) (cc ss : Nat) (H : Heap) (locs : List Loc) (ls : Array Slot), m_X0_exchange_47 f h = some (r0, u9) → CW D dA A s h H locs → cc + u.1 = h.1 → ss + u.2.1 = h.2.1 → lv_has ls 4 [] → W p l e (rm_X0_exchange (u9.1 - u.1) (u9.2.1 - u.2.1)) s m args below meth c H locs cc ss QQ (F0 m 47 ls []) := by
    intro h cc ss H locs ls hm hw hcc hss hl
    have hmo := mo_X0_exchange_47  h _ hm
    have sb_ : h.1 ≤ u9.1 := hmo.1
    have tb_ : h.2.1 ≤ u9.2.1 := hmo.2.1
    rw [m_X0_exchange_47] at hm
    refine lv_bipush (v := -2) hx hb dX0_exchange_47 (by decide) ?_
    exact hB49 h (-2 : Int32) _ _ _ _ _ hm hw (by omega) (by omega) (lv_sub hl [] rfl)
  have hB44 : ∀ (h : CH) (y0 : Int32) (cc ss : Nat) (H : Heap) (locs : List Loc) (ls : Array Slot), m_X0_exchange_44 f h y0 = some (r0, u9) → CW D dA A s h H locs → cc + u.1 = h.1 → ss + u.2.1 = h.2.1 → lv_has ls 4 [] → W p l e (rm_X0_exchange (u9.1 - u.1) (u9.2.1 - u.2.1)) s m args below meth c H locs cc ss QQ (F0 m 44 ls [.int y0]) := by
    intro h y0 cc ss H locs ls hm hw hcc hss hl
    have hmo := mo_X0_exchange_44  h y0 _ hm
    have sb_ : h.1 ≤ u9.1 := hmo.1
    have tb_ : h.2.1 ≤ u9.2.1 := hmo.2.1
    rw [m_X0_exchange_44] at hm
    refine lv_goto (tgt := 49) hx hb dX0_exchange_44 (by decide) ?_
    exact hB49 h y0 _ _ _ _ _ hm hw (by omega) (by omega) (lv_sub hl [] rfl)
  have hB41 : ∀ (h : CH) (y0 : Nat) (y1 : Int32) (y2 : Int32) (y3 : Nat) (cc ss : Nat) (H : Heap) (locs : List Loc) (ls : Array Slot), m_X0_exchange_41 f h y0 y1 y2 y3 = some (r0, u9) → CW D dA A s h H locs → cc + u.1 = h.1 → ss + u.2.1 = h.2.1 → lv_has ls 4 [] → W p l e (rm_X0_exchange (u9.1 - u.1) (u9.2.1 - u.2.1)) s m args below meth c H locs cc ss QQ (F0 m 41 ls [.ref y3, .int y2, .int y1, .ref y0]) := by
    intro h y0 y1 y2 y3 cc ss H locs ls hm hw hcc hss hl
    have hmo := mo_X0_exchange_41  h y0 y1 y2 y3 _ hm
    have sb_ : h.1 ≤ u9.1 := hmo.1
    have tb_ : h.2.1 ≤ u9.2.1 := hmo.2.1
    rw [m_X0_exchange_41] at hm
    obtain ⟨g1, hm⟩ := gdE hm
    rcases bxE hm with ⟨r3, h2, eh2, hm⟩ | ⟨q4, h2, eh2, hm⟩
    · have lh2 := mo_X0_does eh2
      have ph2 : h.1 ≤ h2.1 := lh2.1
      have qh2 : h.2.1 ≤ h2.2.1 := lh2.2.1
      have hmo := mo_X0_exchange_44   h2 r3 _ hm
      have sh2 : h2.1 ≤ u9.1 := hmo.1
      have th2 : h2.2.1 ≤ u9.2.1 := hmo.2.1
      refine cx_calli hw lh2 (vy_runVX (As := [.int y1, .int y2, .ref y3]) (rest := []) ⟨hx, hb, hml, hown, hts⟩ (w_X0_does l htl eh2) (cw_X0_does hts q1381 ⟨Nat.le_of_ble_eq_true rfl, Nat.le_of_ble_eq_true rfl⟩) (cg_preV C hw g1 rfl _) rfl rfl hl.1 rfl (lv_room (Nat.le_of_ble_eq_true rfl)) dX0_exchange_41 ⟨show cc + (h2.1 - h.1) ≤ u9.1 - u.1 by omega, show ss + (h2.2.1 - h.2.1) ≤ u9.2.1 - u.2.1 by omega⟩) (fun H locs hw => ?_)
      exact hB44 h2 r3 _ _ _ _ _ hm hw (by omega) (by omega) (lv_sub hl [] rfl)
    · exact noE hm
  have hB33 : ∀ (h : CH) (x2 : Int32) (x3 : Int32) (y0 : Nat) (y1 : Int32) (y2 : Int32) (y3 : Nat) (cc ss : Nat) (H : Heap) (locs : List Loc) (ls : Array Slot), m_X0_exchange_33 f h x2 x3 y0 y1 y2 y3 = some (r0, u9) → CW D dA A s h H locs → cc + u.1 = h.1 → ss + u.2.1 = h.2.1 → lv_has ls 4 [(2, .int x2), (3, .int x3)] → W p l e (rm_X0_exchange (u9.1 - u.1) (u9.2.1 - u.2.1)) s m args below meth c H locs cc ss QQ (F0 m 33 ls [.ref y3, .int y2, .int y1, .ref y0]) := by
    intro h x2 x3 y0 y1 y2 y3 cc ss H locs ls hm hw hcc hss hl
    have hmo := mo_X0_exchange_33  h x2 x3 y0 y1 y2 y3 _ hm
    have sb_ : h.1 ≤ u9.1 := hmo.1
    have tb_ : h.2.1 ≤ u9.2.1 := hmo.2.1
    rw [m_X0_exchange_33] at hm
    refine lv_dup hx hb dX0_exchange_33 rfl ?_
    refine lv_iconst (v := 0) hx hb dX0_exchange_34 (by decide) ?_
    refine lv_iload_n hx hb dX0_exchange_35 rfl (lv_at hl 0 rfl) ?_
    refine lv_iload_n hx hb dX0_exchange_36 rfl (lv_at hl 1 rfl) ?_
    refine lv_lconst (v := 0) hx hb dX0_exchange_37 (by decide) ?_
    obtain ⟨h1, eh1, hm⟩ := bdE hm
    have lh1 := mo_X9_init eh1
    have ph1 : h.1 ≤ h1.1 := lh1.1
    have qh1 : h.2.1 ≤ h1.2.1 := lh1.2.1
    have hmo := mo_X0_exchange_41   h1 y0 y1 y2 y3 _ hm
    have sh1 : h1.1 ≤ u9.1 := hmo.1
    have th1 : h1.2.1 ≤ u9.2.1 := hmo.2.1
    refine cg_callv hw lh1 (va_runI (As := [.int (0 : Int32), .int x2, .int x3, .long (0 : Int64)]) (rest := [.ref y3, .int y2, .int y1, .ref y0]) ⟨hx, hb, hml, hown, hts⟩ (w_X9_init l eh1) (cw_X9_init hts q1380 ⟨Nat.le_of_ble_eq_true rfl, Nat.le_of_ble_eq_true rfl⟩) (cg_preS C hw _) rfl rfl hl.1 rfl (lv_room (Nat.le_of_ble_eq_true rfl)) dX0_exchange_38 ⟨show cc + (h1.1 - h.1) ≤ u9.1 - u.1 by omega, show ss + (h1.2.1 - h.2.1) ≤ u9.2.1 - u.2.1 by omega⟩) (fun H locs hw => ?_)
    exact hB41 h1 y0 y1 y2 y3 _ _ _ _ _ hm hw (by omega) (by omega) (lv_sub hl [] rfl)
  have hB5 : ∀ (h : CH) (x0 : Nat) (x1 : Int32) (x2 : Int32) (x3 : Int32) (y0 : Int32) (cc ss : Nat) (H : Heap) (locs : List Loc) (ls : Array Slot), m_X0_exchange_5 f h x0 x1 x2 x3 y0 = some (r0, u9) → CW D dA A s h H locs → cc + u.1 = h.1 → ss + u.2.1 = h.2.1 → lv_has ls 4 [(0, .ref x0), (1, .int x1), (2, .int x2), (3, .int x3)] → W p l e (rm_X0_exchange (u9.1 - u.1) (u9.2.1 - u.2.1)) s m args below meth c H locs cc ss QQ (F0 m 5 ls [.int y0]) := by
    intro h x0 x1 x2 x3 y0 cc ss H locs ls hm hw hcc hss hl
    have hmo := mo_X0_exchange_5  h x0 x1 x2 x3 y0 _ hm
    have sb_ : h.1 ≤ u9.1 := hmo.1
    have tb_ : h.2.1 ≤ u9.2.1 := hmo.2.1
    rw [m_X0_exchange_5] at hm
    refine lv_if_eq (tgt := 47) hx hb dX0_exchange_5 (by decide) (fun c1 => ?_) (fun c1 => ?_)
    · have hm := ifT hm c1
      exact hB47 h _ _ _ _ _ hm hw (by omega) (by omega) (lv_sub hl [] rfl)
    · have hm := ifF hm c1
      refine lv_iload_n hx hb dX0_exchange_8 rfl (lv_at hl 2 rfl) ?_
      obtain ⟨r2, er2, hm⟩ := bdE hm
      refine sci (va_runS (As := [.int x2]) (rest := []) ⟨hx, hb, hml, hown, hts⟩ (w_X0_isSide l er2) (cw_X0_isSide hts q896 ⟨Nat.le_of_ble_eq_true rfl, Nat.le_of_ble_eq_true rfl⟩) (pre_s _) rfl rfl hl.1 rfl (lv_room (Nat.le_of_ble_eq_true rfl)) dX0_exchange_9 ⟨show cc + 0 ≤ u9.1 - u.1 by omega, show ss + 0 ≤ u9.2.1 - u.2.1 by omega⟩) ?_
      refine lv_if_eq (tgt := 47) hx hb dX0_exchange_12 (by decide) (fun c3 => ?_) (fun c3 => ?_)
      · have hm := ifT hm c3
        exact hB47 h _ _ _ _ _ hm hw (by omega) (by omega) (lv_sub hl [] rfl)
      · have hm := ifF hm c3
        refine lv_iload_n hx hb dX0_exchange_15 rfl (lv_at hl 3 rfl) ?_
        obtain ⟨r4, er4, hm⟩ := bdE hm
        refine sci (va_runS (As := [.int x3]) (rest := []) ⟨hx, hb, hml, hown, hts⟩ (w_X0_isSide l er4) (cw_X0_isSide hts q896 ⟨Nat.le_of_ble_eq_true rfl, Nat.le_of_ble_eq_true rfl⟩) (pre_s _) rfl rfl hl.1 rfl (lv_room (Nat.le_of_ble_eq_true rfl)) dX0_exchange_16 ⟨show cc + 0 ≤ u9.1 - u.1 by omega, show ss + 0 ≤ u9.2.1 - u.2.1 by omega⟩) ?_
        refine lv_if_eq (tgt := 47) hx hb dX0_exchange_19 (by decide) (fun c5 => ?_) (fun c5 => ?_)
        · have hm := ifT hm c5
          exact hB47 h _ _ _ _ _ hm hw (by omega) (by omega) (lv_sub hl [] rfl)
        · have hm := ifF hm c5
          refine lv_iload_n hx hb dX0_exchange_22 rfl (lv_at hl 2 rfl) ?_
          refine lv_iload_n hx hb dX0_exchange_23 rfl (lv_at hl 3 rfl) ?_
          refine lv_icmp_eq (tgt := 47) hx hb dX0_exchange_24 (by decide) (fun c6 => ?_) (fun c6 => ?_)
          · have hm := ifT hm c6
            exact hB47 h _ _ _ _ _ hm hw (by omega) (by omega) (lv_sub hl [] rfl)
          · have hm := ifF hm c6
            refine lv_aload_n hx hb dX0_exchange_27 rfl (lv_at hl 0 rfl) ?_
            refine lv_iconst (v := 2) hx hb dX0_exchange_28 (by decide) ?_
            refine lv_iload_n hx hb dX0_exchange_29 rfl (lv_at hl 1 rfl) ?_
            obtain ⟨h7, eh7, hm⟩ := nmE hm
            obtain ⟨_, _, hmq⟩ := nmE hm
            have hmo := mo_X0_exchange_33   h7 x2 x3 x0 (2 : Int32) x1 _ _ hmq
            have sh7 : h7.1 ≤ u9.1 := hmo.1
            have th7 : h7.2.1 ≤ u9.2.1 := hmo.2.1
            have zh7 := cn_sz eh7
            refine cg_new (C0 := C) hw (ci := 9) (fs := [.int 0, .int 0, .int 0, .long 0]) rfl in_X9 tyX9 tyX9_ok q1051 q989 q146 (fun j hj => by rcases (show j = 0 ∨ j = 1 ∨ j = 2 ∨ j = 3 by omega) with rfl | rfl | rfl | rfl <;> rfl) (show cc + 1 ≤ u9.1 - u.1 by omega) (show ss + 4 ≤ u9.2.1 - u.2.1 by omega) dX0_exchange_30 (fun H hw => ?_)
            rw [← eh7] at hw
            refine lv_topr (fun a8 ea8 => ?_)
            have hm := nmK hm ea8
            exact hB33 h7 x2 x3 x0 (2 : Int32) x1 a8 _ _ _ _ _ hm hw (by omega) (by omega) (lv_sub hl [2, 3] rfl)
  rw [m_X0_exchange] at hm
  refine lv_aload_n hx hb dX0_exchange_0 rfl (lv_at hl 0 rfl) ?_
  refine lv_iload_n hx hb dX0_exchange_1 rfl (lv_at hl 1 rfl) ?_
  obtain ⟨g1, hm⟩ := gdE hm
  obtain ⟨r3, h2, er3, hm⟩ := bd2E hm
  have lh2 := mo_X0_isOwn er3
  have ph2 : u.1 ≤ h2.1 := lh2.1
  have qh2 : u.2.1 ≤ h2.2.1 := lh2.2.1
  have hmo := mo_X0_exchange_5   h2 x0 x1 x2 x3 r3 _ hm
  have sh2 : h2.1 ≤ u9.1 := hmo.1
  have th2 : h2.2.1 ≤ u9.2.1 := hmo.2.1
  refine cg_calli hw lh2 (va_runV (As := [.int x1]) (rest := []) ⟨hx, hb, hml, hown, hts⟩ (w_X0_isOwn l er3) (cw_X0_isOwn hts q1374 ⟨Nat.le_of_ble_eq_true rfl, Nat.le_of_ble_eq_true rfl⟩) (cg_preV C hw g1 rfl _) rfl rfl hl.1 rfl (lv_room (Nat.le_of_ble_eq_true rfl)) dX0_exchange_2 ⟨show cc + (h2.1 - u.1) ≤ u9.1 - u.1 by omega, show ss + (h2.2.1 - u.2.1) ≤ u9.2.1 - u.2.1 by omega⟩) (fun H locs hw => ?_)
  exact hB5 h2 x0 x1 x2 x3 r3 _ _ _ _ _ hm hw (by omega) (by omega) (lv_sub hl [0, 1, 2, 3] rfl)
def m_X0_negate_37 (f : Nat) (h : CH) (y0 : Int32) : Option (Int32 × CH) := some (y0, h)
theorem mo_X0_negate_37 {f : Nat} : ∀ (h : CH) (y0 : Int32) (r : (Int32 × CH)), m_X0_negate_37 f h y0 = some r → le2 h r.2 := by
  intro h y0 r hm
  rw [m_X0_negate_37] at hm
  cases hm
  exact le2.rf
def m_X0_negate_35 (f : Nat) (h : CH) : Option (Int32 × CH) := m_X0_negate_37 f h (-2 : Int32)
theorem mo_X0_negate_35 {f : Nat} : ∀ (h : CH) (r : (Int32 × CH)), m_X0_negate_35 f h = some r → le2 h r.2 := by
  intro h r hm
  rw [m_X0_negate_35] at hm
  exact (mo_X0_negate_37  h (-2 : Int32) _ hm)
def m_X0_negate_32 (f : Nat) (h : CH) (y0 : Int32) : Option (Int32 × CH) := m_X0_negate_37 f h y0
theorem mo_X0_negate_32 {f : Nat} : ∀ (h : CH) (y0 : Int32) (r : (Int32 × CH)), m_X0_negate_32 f h y0 = some r → le2 h r.2 := by
  intro h y0 r hm
  rw [m_X0_negate_32] at hm
  exact (mo_X0_negate_37  h y0 _ hm)
def m_X0_negate_29 (f : Nat) (h : CH) (y0 : Nat) (y1 : Int32) (y2 : Int32) (y3 : Nat) : Option (Int32 × CH) := gd (isC h y0 1) <|
    bx (m_X0_does f h y0 y1 y2 y3) (fun r3 h2 =>
    m_X0_negate_32 f h2 r3) (fun q4 h2 =>
    none)
theorem mo_X0_negate_29 {f : Nat} : ∀ (h : CH) (y0 : Nat) (y1 : Int32) (y2 : Int32) (y3 : Nat) (r : (Int32 × CH)), m_X0_negate_29 f h y0 y1 y2 y3 = some r → le2 h r.2 := by
  intro h y0 y1 y2 y3 r hm
  rw [m_X0_negate_29] at hm
  obtain ⟨g1, hm⟩ := gdE hm
  rcases bxE hm with ⟨r3, h2, eh2, hm⟩ | ⟨q4, h2, eh2, hm⟩
  · have lh2 := mo_X0_does eh2
    exact (lh2.tr (mo_X0_negate_32  h2 r3 _ hm))
  · exact noE hm
def m_X0_negate_21 (f : Nat) (h : CH) (x2 : Int32) (y0 : Nat) (y1 : Int32) (y2 : Int32) (y3 : Nat) : Option (Int32 × CH) := bd (m_X9_init f h y3 (2 : Int32) x2 (-1 : Int32) (0 : Int64)) fun h1 =>
    m_X0_negate_29 f h1 y0 y1 y2 y3
theorem mo_X0_negate_21 {f : Nat} : ∀ (h : CH) (x2 : Int32) (y0 : Nat) (y1 : Int32) (y2 : Int32) (y3 : Nat) (r : (Int32 × CH)), m_X0_negate_21 f h x2 y0 y1 y2 y3 = some r → le2 h r.2 := by
  intro h x2 y0 y1 y2 y3 r hm
  rw [m_X0_negate_21] at hm
  obtain ⟨h1, eh1, hm⟩ := bdE hm
  have lh1 := mo_X9_init eh1
  exact (lh1.tr (mo_X0_negate_29  h1 y0 y1 y2 y3 _ hm))
def m_X0_negate_5 (f : Nat) (h : CH) (x0 : Nat) (x1 : Int32) (x2 : Int32) (y0 : Int32) : Option (Int32 × CH) := if y0 = 0 then
    m_X0_negate_35 f h
    else bd (m_X0_isSide f x2) fun r2 =>
    if r2 = 0 then
    m_X0_negate_35 f h
    else nmv (cn h 4 (.inl (9, [.int 0, .int 0, .int 0, .long 0]))) fun h4 =>
    nmv (h.1 : Nat) fun a5 =>
    m_X0_negate_21 f h4 x2 x0 (3 : Int32) x1 a5
theorem mo_X0_negate_5 {f : Nat} : ∀ (h : CH) (x0 : Nat) (x1 : Int32) (x2 : Int32) (y0 : Int32) (r : (Int32 × CH)), m_X0_negate_5 f h x0 x1 x2 y0 = some r → le2 h r.2 := by
  intro h x0 x1 x2 y0 r hm
  rw [m_X0_negate_5] at hm
  by_cases c1 : y0 = 0
  · have hm := ifT hm c1
    exact (mo_X0_negate_35  h _ hm)
  · have hm := ifF hm c1
    obtain ⟨r2, er2, hm⟩ := bdE hm
    by_cases c3 : r2 = 0
    · have hm := ifT hm c3
      exact (mo_X0_negate_35  h _ hm)
    · have hm := ifF hm c3
      obtain ⟨h4, eh4, hm⟩ := nmE hm
      have lh4 := cn_le eh4
      obtain ⟨a5, ea5, hm⟩ := nmE hm
      exact (lh4.tr (mo_X0_negate_21  h4 x2 x0 (3 : Int32) x1 a5 _ hm))
def m_X0_negate (f : Nat) (u : CH) (x0 : Nat) (x1 : Int32) (x2 : Int32) : Option (Int32 × CH) := gd (isC u x0 1) <|
    bd2 (m_X0_isOwn f u x0 x1) fun r3 h2 =>
    m_X0_negate_5 f h2 x0 x1 x2 r3
theorem mo_X0_negate {f : Nat} {u : CH} {x0 : Nat} {x1 : Int32} {x2 : Int32} {r0 : Int32} {u9 : CH} (hm : m_X0_negate f u x0 x1 x2 = some (r0, u9)) : le2 u u9 := by
  rw [m_X0_negate] at hm
  obtain ⟨g1, hm⟩ := gdE hm
  obtain ⟨r3, h2, er3, hm⟩ := bd2E hm
  have lh2 := mo_X0_isOwn er3
  exact (lh2.tr (mo_X0_negate_5  h2 x0 x1 x2 r3 _ hm))
abbrev rm_X0_negate (mc ms : Nat) : Room := { frames := 10, cells := mc, slots := ms, locals := 241 }
theorem cw_X0_negate {R : Room} {s : State} {args : Array Value} {own : String} {idx mc ms : Nat} (hts : ∀ w ∈ lw_all, w.before args s = true) (hl : Cond.methodLink own idx yX0_negate ∈ lw_all) (hR : 10 + 1 ≤ R.frames ∧ 8 + (3 + 11) + 241 ≤ R.locals) : CallW R s args own RX0 idx yX0_negate cX0_negate 3 (Option.some Jvm.ClassFile.FieldType.int) (ws_ yX0_negate cX0_negate 3 (Option.some Jvm.ClassFile.FieldType.int)) (rm_X0_negate mc ms) mc ms 2 := cwV 2 hts (lw_V hl q1500 q1501 q119 q1502) rfl rfl rfl (by decide +kernel) hR
set_option maxHeartbeats 4000000 in
set_option maxRecDepth 100000 in
theorem w_X0_negate (l : Launch) (htl : l.stackTraces = false) {D : va_G} {dA : Nat → ClassId} {A : Nat → Prop} {f : Nat} {u u9 : CH} {r0 : Int32} {x0 : Nat} {x1 : Int32} {x2 : Int32} (hm : m_X0_negate f u x0 x1 x2 = some (r0, u9)) : Met l yX0_negate (ws_ yX0_negate cX0_negate 3 (Option.some Jvm.ClassFile.FieldType.int)) (rm_X0_negate (u9.1 - u.1) (u9.2.1 - u.2.1)) (va_Pc [.ref x0, .int x1, .int x2] (CPre D dA A u)) (va_Qi (fun r u => r = r0 ∧ u = u9) (CPost D dA A) A) (u9.1 - u.1) (u9.2.1 - u.2.1) A := by
  refine Met.ofW (cc := cX0_negate) (maxL := 3) (ret := (Option.some Jvm.ClassFile.FieldType.int)) (by decide) rfl ?_
  intro p e s m args below meth c s₁ B hml hv
  have hx := B.exec
  have hb := B.bytes
  have hr := B.returns
  have hts := atoms_spec (ws := (ws_ yX0_negate cX0_negate 3 (Option.some Jvm.ClassFile.FieldType.int))) B.pre
  have hts : ∀ w ∈ lw_all, w.before args s = true := fun w h => hts w (List.mem_cons_of_mem _ h)
  have hown : s.vm.findClass RX0 = some m.cls := findClass_of_methodNamed B.named
  have hlocks := B.notSynchronized
  obtain ⟨hav, hv⟩ := hv
  have C : CX p s m args c cX0_negate RX0 D dA := ⟨hx, hb, hown, hts, hv.2⟩
  have hw : CW D dA A s u s.heap [] := hv.1
  generalize hQ : MQ below (va_Qi (fun r u => r = r0 ∧ u = u9) (CPost D dA A) A) args s (u9.1 - u.1) (u9.2.1 - u.2.1) A = QQ
  have hent := lg_entry_eq m [.ref x0, .int x1, .int x2] 3
  rw [← hav] at hent
  rw [hent]
  have hl := lv_entry ([.ref x0, .int x1, .int x2]) (n := 3) (Nat.le_of_ble_eq_true rfl)
  generalize (lg_sl ([.ref x0, .int x1, .int x2]) ++ List.replicate (3 - (lg_sl ([.ref x0, .int x1, .int x2])).length) Slot.unset).toArray = ls at hl ⊢
  have hl : lv_has ls 3 [(0, .ref x0), (1, .int x1), (2, .int x2)] := hl
  obtain ⟨cc, ecc⟩ : ∃ z : Nat, z = 0 := ⟨0, rfl⟩
  obtain ⟨ss, ess⟩ : ∃ z : Nat, z = 0 := ⟨0, rfl⟩
  have hcc : cc + u.1 = u.1 := by omega
  have hss : ss + u.2.1 = u.2.1 := by omega
  suffices hgo : W p l e (rm_X0_negate (u9.1 - u.1) (u9.2.1 - u.2.1)) s m args below meth c s.heap [] cc ss QQ (F0 m 0 ls []) by rw [ecc, ess] at hgo; exact hgo
  have ⟨pu, qu, _, _⟩ := mo_X0_negate hm
  have hB37 : ∀ (h : CH) (y0 : Int32) (cc ss : Nat) (H : Heap) (locs : List Loc) (ls : Array Slot), m_X0_negate_37 f h y0 = some (r0, u9) → CW D dA A s h H locs → cc + u.1 = h.1 → ss + u.2.1 = h.2.1 → lv_has ls 3 [] → W p l e (rm_X0_negate (u9.1 - u.1) (u9.2.1 - u.2.1)) s m args below meth c H locs cc ss QQ (F0 m 37 ls [.int y0]) := by
    intro h y0 cc ss H locs ls hm hw hcc hss hl
    have hmo := mo_X0_negate_37  h y0 _ hm
    have sb_ : h.1 ≤ u9.1 := hmo.1
    have tb_ : h.2.1 ≤ u9.2.1 := hmo.2.1
    rw [m_X0_negate_37] at hm
    obtain ⟨er, eh⟩ := retE hm
    have ec : cc = u9.1 - u.1 := by rw [← eh]; omega
    have es : ss = u9.2.1 - u.2.1 := by rw [← eh]; omega
    rw [ec, es, ← hQ]
    exact W.iret (v := y0) hx hb hr (fun t ht hW => ⟨⟨y0, h, rfl, ⟨er, eh⟩, ⟨by rw [ht]; exact hw.1, by rw [ht]; exact hw.2.1⟩⟩, hw.2.2.1.F ht⟩) hw.2.2.1.2.2 dX0_negate_37
  have hB35 : ∀ (h : CH) (cc ss : Nat) (H : Heap) (locs : List Loc) (ls : Array Slot), m_X0_negate_35 f h = some (r0, u9) → CW D dA A s h H locs → cc + u.1 = h.1 → ss + u.2.1 = h.2.1 → lv_has ls 3 [] → W p l e (rm_X0_negate (u9.1 - u.1) (u9.2.1 - u.2.1)) s m args below meth c H locs cc ss QQ (F0 m 35 ls []) := by
    intro h cc ss H locs ls hm hw hcc hss hl
    have hmo := mo_X0_negate_35  h _ hm
    have sb_ : h.1 ≤ u9.1 := hmo.1
    have tb_ : h.2.1 ≤ u9.2.1 := hmo.2.1
    rw [m_X0_negate_35] at hm
    refine lv_bipush (v := -2) hx hb dX0_negate_35 (by decide) ?_
    exact hB37 h (-2 : Int32) _ _ _ _ _ hm hw (by omega) (by omega) (lv_sub hl [] rfl)
  have hB32 : ∀ (h : CH) (y0 : Int32) (cc ss : Nat) (H : Heap) (locs : List Loc) (ls : Array Slot), m_X0_negate_32 f h y0 = some (r0, u9) → CW D dA A s h H locs → cc + u.1 = h.1 → ss + u.2.1 = h.2.1 → lv_has ls 3 [] → W p l e (rm_X0_negate (u9.1 - u.1) (u9.2.1 - u.2.1)) s m args below meth c H locs cc ss QQ (F0 m 32 ls [.int y0]) := by
    intro h y0 cc ss H locs ls hm hw hcc hss hl
    have hmo := mo_X0_negate_32  h y0 _ hm
    have sb_ : h.1 ≤ u9.1 := hmo.1
    have tb_ : h.2.1 ≤ u9.2.1 := hmo.2.1
    rw [m_X0_negate_32] at hm
    refine lv_goto (tgt := 37) hx hb dX0_negate_32 (by decide) ?_
    exact hB37 h y0 _ _ _ _ _ hm hw (by omega) (by omega) (lv_sub hl [] rfl)
  have hB29 : ∀ (h : CH) (y0 : Nat) (y1 : Int32) (y2 : Int32) (y3 : Nat) (cc ss : Nat) (H : Heap) (locs : List Loc) (ls : Array Slot), m_X0_negate_29 f h y0 y1 y2 y3 = some (r0, u9) → CW D dA A s h H locs → cc + u.1 = h.1 → ss + u.2.1 = h.2.1 → lv_has ls 3 [] → W p l e (rm_X0_negate (u9.1 - u.1) (u9.2.1 - u.2.1)) s m args below meth c H locs cc ss QQ (F0 m 29 ls [.ref y3, .int y2, .int y1, .ref y0]) := by
    intro h y0 y1 y2 y3 cc ss H locs ls hm hw hcc hss hl
    have hmo := mo_X0_negate_29  h y0 y1 y2 y3 _ hm
    have sb_ : h.1 ≤ u9.1 := hmo.1
    have tb_ : h.2.1 ≤ u9.2.1 := hmo.2.1
    rw [m_X0_negate_29] at hm
    obtain ⟨g1, hm⟩ := gdE hm
    rcases bxE hm with ⟨r3, h2, eh2, hm⟩ | ⟨q4, h2, eh2, hm⟩
    · have lh2 := mo_X0_does eh2
      have ph2 : h.1 ≤ h2.1 := lh2.1
      have qh2 : h.2.1 ≤ h2.2.1 := lh2.2.1
      have hmo := mo_X0_negate_32   h2 r3 _ hm
      have sh2 : h2.1 ≤ u9.1 := hmo.1
      have th2 : h2.2.1 ≤ u9.2.1 := hmo.2.1
      refine cx_calli hw lh2 (vy_runVX (As := [.int y1, .int y2, .ref y3]) (rest := []) ⟨hx, hb, hml, hown, hts⟩ (w_X0_does l htl eh2) (cw_X0_does hts q1381 ⟨Nat.le_of_ble_eq_true rfl, Nat.le_of_ble_eq_true rfl⟩) (cg_preV C hw g1 rfl _) rfl rfl hl.1 rfl (lv_room (Nat.le_of_ble_eq_true rfl)) dX0_negate_29 ⟨show cc + (h2.1 - h.1) ≤ u9.1 - u.1 by omega, show ss + (h2.2.1 - h.2.1) ≤ u9.2.1 - u.2.1 by omega⟩) (fun H locs hw => ?_)
      exact hB32 h2 r3 _ _ _ _ _ hm hw (by omega) (by omega) (lv_sub hl [] rfl)
    · exact noE hm
  have hB21 : ∀ (h : CH) (x2 : Int32) (y0 : Nat) (y1 : Int32) (y2 : Int32) (y3 : Nat) (cc ss : Nat) (H : Heap) (locs : List Loc) (ls : Array Slot), m_X0_negate_21 f h x2 y0 y1 y2 y3 = some (r0, u9) → CW D dA A s h H locs → cc + u.1 = h.1 → ss + u.2.1 = h.2.1 → lv_has ls 3 [(2, .int x2)] → W p l e (rm_X0_negate (u9.1 - u.1) (u9.2.1 - u.2.1)) s m args below meth c H locs cc ss QQ (F0 m 21 ls [.ref y3, .int y2, .int y1, .ref y0]) := by
    intro h x2 y0 y1 y2 y3 cc ss H locs ls hm hw hcc hss hl
    have hmo := mo_X0_negate_21  h x2 y0 y1 y2 y3 _ hm
    have sb_ : h.1 ≤ u9.1 := hmo.1
    have tb_ : h.2.1 ≤ u9.2.1 := hmo.2.1
    rw [m_X0_negate_21] at hm
    refine lv_dup hx hb dX0_negate_21 rfl ?_
    refine lv_iconst (v := 2) hx hb dX0_negate_22 (by decide) ?_
    refine lv_iload_n hx hb dX0_negate_23 rfl (lv_at hl 0 rfl) ?_
    refine lv_iconst (v := -1) hx hb dX0_negate_24 (by decide) ?_
    refine lv_lconst (v := 0) hx hb dX0_negate_25 (by decide) ?_
    obtain ⟨h1, eh1, hm⟩ := bdE hm
    have lh1 := mo_X9_init eh1
    have ph1 : h.1 ≤ h1.1 := lh1.1
    have qh1 : h.2.1 ≤ h1.2.1 := lh1.2.1
    have hmo := mo_X0_negate_29   h1 y0 y1 y2 y3 _ hm
    have sh1 : h1.1 ≤ u9.1 := hmo.1
    have th1 : h1.2.1 ≤ u9.2.1 := hmo.2.1
    refine cg_callv hw lh1 (va_runI (As := [.int (2 : Int32), .int x2, .int (-1 : Int32), .long (0 : Int64)]) (rest := [.ref y3, .int y2, .int y1, .ref y0]) ⟨hx, hb, hml, hown, hts⟩ (w_X9_init l eh1) (cw_X9_init hts q1380 ⟨Nat.le_of_ble_eq_true rfl, Nat.le_of_ble_eq_true rfl⟩) (cg_preS C hw _) rfl rfl hl.1 rfl (lv_room (Nat.le_of_ble_eq_true rfl)) dX0_negate_26 ⟨show cc + (h1.1 - h.1) ≤ u9.1 - u.1 by omega, show ss + (h1.2.1 - h.2.1) ≤ u9.2.1 - u.2.1 by omega⟩) (fun H locs hw => ?_)
    exact hB29 h1 y0 y1 y2 y3 _ _ _ _ _ hm hw (by omega) (by omega) (lv_sub hl [] rfl)
  have hB5 : ∀ (h : CH) (x0 : Nat) (x1 : Int32) (x2 : Int32) (y0 : Int32) (cc ss : Nat) (H : Heap) (locs : List Loc) (ls : Array Slot), m_X0_negate_5 f h x0 x1 x2 y0 = some (r0, u9) → CW D dA A s h H locs → cc + u.1 = h.1 → ss + u.2.1 = h.2.1 → lv_has ls 3 [(0, .ref x0), (1, .int x1), (2, .int x2)] → W p l e (rm_X0_negate (u9.1 - u.1) (u9.2.1 - u.2.1)) s m args below meth c H locs cc ss QQ (F0 m 5 ls [.int y0]) := by
    intro h x0 x1 x2 y0 cc ss H locs ls hm hw hcc hss hl
    have hmo := mo_X0_negate_5  h x0 x1 x2 y0 _ hm
    have sb_ : h.1 ≤ u9.1 := hmo.1
    have tb_ : h.2.1 ≤ u9.2.1 := hmo.2.1
    rw [m_X0_negate_5] at hm
    refine lv_if_eq (tgt := 35) hx hb dX0_negate_5 (by decide) (fun c1 => ?_) (fun c1 => ?_)
    · have hm := ifT hm c1
      exact hB35 h _ _ _ _ _ hm hw (by omega) (by omega) (lv_sub hl [] rfl)
    · have hm := ifF hm c1
      refine lv_iload_n hx hb dX0_negate_8 rfl (lv_at hl 2 rfl) ?_
      obtain ⟨r2, er2, hm⟩ := bdE hm
      refine sci (va_runS (As := [.int x2]) (rest := []) ⟨hx, hb, hml, hown, hts⟩ (w_X0_isSide l er2) (cw_X0_isSide hts q896 ⟨Nat.le_of_ble_eq_true rfl, Nat.le_of_ble_eq_true rfl⟩) (pre_s _) rfl rfl hl.1 rfl (lv_room (Nat.le_of_ble_eq_true rfl)) dX0_negate_9 ⟨show cc + 0 ≤ u9.1 - u.1 by omega, show ss + 0 ≤ u9.2.1 - u.2.1 by omega⟩) ?_
      refine lv_if_eq (tgt := 35) hx hb dX0_negate_12 (by decide) (fun c3 => ?_) (fun c3 => ?_)
      · have hm := ifT hm c3
        exact hB35 h _ _ _ _ _ hm hw (by omega) (by omega) (lv_sub hl [] rfl)
      · have hm := ifF hm c3
        refine lv_aload_n hx hb dX0_negate_15 rfl (lv_at hl 0 rfl) ?_
        refine lv_iconst (v := 3) hx hb dX0_negate_16 (by decide) ?_
        refine lv_iload_n hx hb dX0_negate_17 rfl (lv_at hl 1 rfl) ?_
        obtain ⟨h4, eh4, hm⟩ := nmE hm
        obtain ⟨_, _, hmq⟩ := nmE hm
        have hmo := mo_X0_negate_21   h4 x2 x0 (3 : Int32) x1 _ _ hmq
        have sh4 : h4.1 ≤ u9.1 := hmo.1
        have th4 : h4.2.1 ≤ u9.2.1 := hmo.2.1
        have zh4 := cn_sz eh4
        refine cg_new (C0 := C) hw (ci := 9) (fs := [.int 0, .int 0, .int 0, .long 0]) rfl in_X9 tyX9 tyX9_ok q1051 q989 q146 (fun j hj => by rcases (show j = 0 ∨ j = 1 ∨ j = 2 ∨ j = 3 by omega) with rfl | rfl | rfl | rfl <;> rfl) (show cc + 1 ≤ u9.1 - u.1 by omega) (show ss + 4 ≤ u9.2.1 - u.2.1 by omega) dX0_negate_18 (fun H hw => ?_)
        rw [← eh4] at hw
        refine lv_topr (fun a5 ea5 => ?_)
        have hm := nmK hm ea5
        exact hB21 h4 x2 x0 (3 : Int32) x1 a5 _ _ _ _ _ hm hw (by omega) (by omega) (lv_sub hl [2] rfl)
  rw [m_X0_negate] at hm
  refine lv_aload_n hx hb dX0_negate_0 rfl (lv_at hl 0 rfl) ?_
  refine lv_iload_n hx hb dX0_negate_1 rfl (lv_at hl 1 rfl) ?_
  obtain ⟨g1, hm⟩ := gdE hm
  obtain ⟨r3, h2, er3, hm⟩ := bd2E hm
  have lh2 := mo_X0_isOwn er3
  have ph2 : u.1 ≤ h2.1 := lh2.1
  have qh2 : u.2.1 ≤ h2.2.1 := lh2.2.1
  have hmo := mo_X0_negate_5   h2 x0 x1 x2 r3 _ hm
  have sh2 : h2.1 ≤ u9.1 := hmo.1
  have th2 : h2.2.1 ≤ u9.2.1 := hmo.2.1
  refine cg_calli hw lh2 (va_runV (As := [.int x1]) (rest := []) ⟨hx, hb, hml, hown, hts⟩ (w_X0_isOwn l er3) (cw_X0_isOwn hts q1374 ⟨Nat.le_of_ble_eq_true rfl, Nat.le_of_ble_eq_true rfl⟩) (cg_preV C hw g1 rfl _) rfl rfl hl.1 rfl (lv_room (Nat.le_of_ble_eq_true rfl)) dX0_negate_2 ⟨show cc + (h2.1 - u.1) ≤ u9.1 - u.1 by omega, show ss + (h2.2.1 - u.2.1) ≤ u9.2.1 - u.2.1 by omega⟩) (fun H locs hw => ?_)
  exact hB5 h2 x0 x1 x2 r3 _ _ _ _ _ hm hw (by omega) (by omega) (lv_sub hl [0, 1, 2] rfl)
def m_X0_put_37 (f : Nat) (h : CH) : Option ((Int32 ⊕ Nat) × CH) := some (.inl (-1000 : Int32), h)
theorem mo_X0_put_37 {f : Nat} : ∀ (h : CH) (r : ((Int32 ⊕ Nat) × CH)), m_X0_put_37 f h = some r → le2 h r.2 := by
  intro h r hm
  rw [m_X0_put_37] at hm
  cases hm
  exact le2.rf
def m_X0_put_87 (f : Nat) (h : CH) (x6 : Int32) : Option ((Int32 ⊕ Nat) × CH) := some (.inl x6, h)
theorem mo_X0_put_87 {f : Nat} : ∀ (h : CH) (x6 : Int32) (r : ((Int32 ⊕ Nat) × CH)), m_X0_put_87 f h x6 = some r → le2 h r.2 := by
  intro h x6 r hm
  rw [m_X0_put_87] at hm
  cases hm
  exact le2.rf
def m_X0_put_90 (f : Nat) (h : CH) (x0 : Nat) (y0 : Nat) : Option ((Int32 ⊕ Nat) × CH) := bd (pF h 1 13 x0 (.ref y0)) fun h1 =>
    some (.inl (-2000 : Int32), h1)
theorem mo_X0_put_90 {f : Nat} : ∀ (h : CH) (x0 : Nat) (y0 : Nat) (r : ((Int32 ⊕ Nat) × CH)), m_X0_put_90 f h x0 y0 = some r → le2 h r.2 := by
  intro h x0 y0 r hm
  rw [m_X0_put_90] at hm
  obtain ⟨h1, eh1, hm⟩ := bdE hm
  have lh1 := pF_le eh1
  cases hm
  exact (lh1.tr le2.rf)
def m_X0_put_52 (f : Nat) (h : CH) (x0 : Nat) (x1 : Int32) (x2 : Int32) (x3 : Int32) (x4 : Int32) (y0 : Nat) : Option ((Int32 ⊕ Nat) × CH) := bd (oR h 3 0 y0) fun a1 =>
    bd (aR h 4 a1 x2) fun a2 =>
    bd (aL h 1 a2 x3) fun v3 =>
    nmv ((Int64.toInt32 v3) : Int32) fun v4 =>
    bd (oR h 3 0 y0) fun a5 =>
    bd (aR h 4 a5 x2) fun a6 =>
    bd (uL h 1 a6 x3 (Int32.toInt64 x4)) fun h7 =>
    gd (isC h7 x0 1) <|
    bx (m_X0_changes f h7 x0 (4 : Int32) x1 y0 x2) (fun r10 h9 =>
    m_X0_put_87 f h9 v4) (fun q11 h9 =>
    gd (isC h9 q11 16) <|
    m_X0_put_90 f h9 x0 q11)
theorem mo_X0_put_52 {f : Nat} : ∀ (h : CH) (x0 : Nat) (x1 : Int32) (x2 : Int32) (x3 : Int32) (x4 : Int32) (y0 : Nat) (r : ((Int32 ⊕ Nat) × CH)), m_X0_put_52 f h x0 x1 x2 x3 x4 y0 = some r → le2 h r.2 := by
  intro h x0 x1 x2 x3 x4 y0 r hm
  rw [m_X0_put_52] at hm
  obtain ⟨a1, ea1, hm⟩ := bdE hm
  obtain ⟨a2, ea2, hm⟩ := bdE hm
  obtain ⟨v3, ev3, hm⟩ := bdE hm
  obtain ⟨v4, ev4, hm⟩ := nmE hm
  obtain ⟨a5, ea5, hm⟩ := bdE hm
  obtain ⟨a6, ea6, hm⟩ := bdE hm
  obtain ⟨h7, eh7, hm⟩ := bdE hm
  have lh7 := uL_le eh7
  obtain ⟨g8, hm⟩ := gdE hm
  rcases bxE hm with ⟨r10, h9, eh9, hm⟩ | ⟨q11, h9, eh9, hm⟩
  · have lh9 := mo_X0_changes eh9
    exact (lh7.tr (lh9.tr (mo_X0_put_87  h9 v4 _ hm)))
  · have lh9 := mo_X0_changes eh9
    obtain ⟨g12, hm⟩ := gdE hm
    exact (lh7.tr (lh9.tr (mo_X0_put_90  h9 x0 q11 _ hm)))
def m_X0_put_46 (f : Nat) (h : CH) (x0 : Nat) (x1 : Int32) (x2 : Int32) (x3 : Int32) (x4 : Int32) (y0 : Nat) : Option ((Int32 ⊕ Nat) × CH) := bd (oR h 6 0 y0) fun a1 =>
    gd (isC h a1 3) <|
    bd2 (m_X2_copy f h a1) fun a4 h3 =>
    m_X0_put_52 f h3 x0 x1 x2 x3 x4 a4
theorem mo_X0_put_46 {f : Nat} : ∀ (h : CH) (x0 : Nat) (x1 : Int32) (x2 : Int32) (x3 : Int32) (x4 : Int32) (y0 : Nat) (r : ((Int32 ⊕ Nat) × CH)), m_X0_put_46 f h x0 x1 x2 x3 x4 y0 = some r → le2 h r.2 := by
  intro h x0 x1 x2 x3 x4 y0 r hm
  rw [m_X0_put_46] at hm
  obtain ⟨a1, ea1, hm⟩ := bdE hm
  obtain ⟨g2, hm⟩ := gdE hm
  obtain ⟨a4, h3, ea4, hm⟩ := bd2E hm
  have lh3 := mo_X2_copy ea4
  exact (lh3.tr (mo_X0_put_52  h3 x0 x1 x2 x3 x4 a4 _ hm))
def m_X0_put_5 (f : Nat) (h : CH) (x0 : Nat) (x1 : Int32) (x2 : Int32) (x3 : Int32) (x4 : Int32) (y0 : Int32) : Option ((Int32 ⊕ Nat) × CH) := if y0 = 0 then
    m_X0_put_37 f h
    else bd (m_X0_isSide f x2) fun r2 =>
    if r2 = 0 then
    m_X0_put_37 f h
    else bd (m_X0_isSide f x3) fun r4 =>
    if r4 = 0 then
    m_X0_put_37 f h
    else bd (m_X0_isIn f (Int32.toInt64 x4) (-6 : Int64) (6 : Int64)) fun r6 =>
    if ¬ r6 = 0 then
    gd (isC h x0 1) <|
    bd2 (m_X0_at f h x0 x1) fun a10 h9 =>
    m_X0_put_46 f h9 x0 x1 x2 x3 x4 a10
    else m_X0_put_37 f h
theorem mo_X0_put_5 {f : Nat} : ∀ (h : CH) (x0 : Nat) (x1 : Int32) (x2 : Int32) (x3 : Int32) (x4 : Int32) (y0 : Int32) (r : ((Int32 ⊕ Nat) × CH)), m_X0_put_5 f h x0 x1 x2 x3 x4 y0 = some r → le2 h r.2 := by
  intro h x0 x1 x2 x3 x4 y0 r hm
  rw [m_X0_put_5] at hm
  by_cases c1 : y0 = 0
  · have hm := ifT hm c1
    exact (mo_X0_put_37  h _ hm)
  · have hm := ifF hm c1
    obtain ⟨r2, er2, hm⟩ := bdE hm
    by_cases c3 : r2 = 0
    · have hm := ifT hm c3
      exact (mo_X0_put_37  h _ hm)
    · have hm := ifF hm c3
      obtain ⟨r4, er4, hm⟩ := bdE hm
      by_cases c5 : r4 = 0
      · have hm := ifT hm c5
        exact (mo_X0_put_37  h _ hm)
      · have hm := ifF hm c5
        obtain ⟨r6, er6, hm⟩ := bdE hm
        by_cases c7 : ¬ r6 = 0
        · have hm := ifT hm c7
          obtain ⟨g8, hm⟩ := gdE hm
          obtain ⟨a10, h9, ea10, hm⟩ := bd2E hm
          have lh9 := mo_X0_at ea10
          exact (lh9.tr (mo_X0_put_46  h9 x0 x1 x2 x3 x4 a10 _ hm))
        · have hm := ifF hm c7
          exact (mo_X0_put_37  h _ hm)
def m_X0_put (f : Nat) (u : CH) (x0 : Nat) (x1 : Int32) (x2 : Int32) (x3 : Int32) (x4 : Int32) : Option ((Int32 ⊕ Nat) × CH) := gd (isC u x0 1) <|
    bd2 (m_X0_isOwn f u x0 x1) fun r3 h2 =>
    m_X0_put_5 f h2 x0 x1 x2 x3 x4 r3
theorem mo_X0_put {f : Nat} {u : CH} {x0 : Nat} {x1 : Int32} {x2 : Int32} {x3 : Int32} {x4 : Int32} {r0 : Int32 ⊕ Nat} {u9 : CH} (hm : m_X0_put f u x0 x1 x2 x3 x4 = some (r0, u9)) : le2 u u9 := by
  rw [m_X0_put] at hm
  obtain ⟨g1, hm⟩ := gdE hm
  obtain ⟨r3, h2, er3, hm⟩ := bd2E hm
  have lh2 := mo_X0_isOwn er3
  exact (lh2.tr (mo_X0_put_5  h2 x0 x1 x2 x3 x4 r3 _ hm))
abbrev rm_X0_put (mc ms : Nat) : Room := { frames := 9, cells := mc, slots := ms, locals := 216 }
theorem cw_X0_put {R : Room} {s : State} {args : Array Value} {own : String} {idx mc ms : Nat} (hts : ∀ w ∈ lw_all, w.before args s = true) (hl : Cond.methodLink own idx yX0_put ∈ lw_all) (hR : 9 + 1 ≤ R.frames ∧ 8 + (8 + 11) + 216 ≤ R.locals) : vy_CVW R s args own RX0 idx yX0_put cX0_put 8 (Option.some Jvm.ClassFile.FieldType.int) [(78, 89, 90, 392)] (wsW_ yX0_put cX0_put 8 (Option.some Jvm.ClassFile.FieldType.int) [(78, 89, 90, 392)]) (rm_X0_put mc ms) mc ms 4 := vy_cwVW 4 hts (lw_VW hl q1504 q1505 q119 q1506) rfl rfl rfl (by decide +kernel) hR
set_option maxHeartbeats 4000000 in
set_option maxRecDepth 100000 in
theorem w_X0_put (l : Launch) (htl : l.stackTraces = false) {D : va_G} {dA : Nat → ClassId} {A : Nat → Prop} {f : Nat} {u u9 : CH} {r0 : Int32 ⊕ Nat} {x0 : Nat} {x1 : Int32} {x2 : Int32} {x3 : Int32} {x4 : Int32} (hm : m_X0_put f u x0 x1 x2 x3 x4 = some (r0, u9)) : vy_Met l yX0_put (wsW_ yX0_put cX0_put 8 (Option.some Jvm.ClassFile.FieldType.int) [(78, 89, 90, 392)]) (rm_X0_put (u9.1 - u.1) (u9.2.1 - u.2.1)) (va_Pc [.ref x0, .int x1, .int x2, .int x3, .int x4] (CPre D dA A u)) (cxQi D dA A r0 u9) (cxX D dA A r0 u9) (u9.1 - u.1) (u9.2.1 - u.2.1) A := by
  refine vy_ofWH (cc := cX0_put) (maxL := 8) (ret := (Option.some Jvm.ClassFile.FieldType.int)) (by decide) rfl ?_
  intro p e s m args below meth c s₁ B hml hv
  have hx := B.exec
  have hb := B.bytes
  have hr := B.returns
  have hts := atoms_spec (ws := (wsW_ yX0_put cX0_put 8 (Option.some Jvm.ClassFile.FieldType.int) [(78, 89, 90, 392)])) B.pre
  have htab := vy_table (x := yX0_put) B (hts _ List.mem_cons_self)
  have hts : ∀ w ∈ lw_all, w.before args s = true := fun w h => hts w (List.mem_cons_of_mem _ h)
  have hown : s.vm.findClass RX0 = some m.cls := findClass_of_methodNamed B.named
  have hlocks := B.notSynchronized
  obtain ⟨hav, hv⟩ := hv
  have C : CX p s m args c cX0_put RX0 D dA := ⟨hx, hb, hown, hts, hv.2⟩
  have hw : CW D dA A s u s.heap [] := hv.1
  generalize hQ : vy_MQ below (cxQi D dA A r0 u9) (cxX D dA A r0 u9) args s (u9.1 - u.1) (u9.2.1 - u.2.1) A = QQ
  have hent := lg_entry_eq m [.ref x0, .int x1, .int x2, .int x3, .int x4] 8
  rw [← hav] at hent
  rw [hent]
  have hl := lv_entry ([.ref x0, .int x1, .int x2, .int x3, .int x4]) (n := 8) (Nat.le_of_ble_eq_true rfl)
  generalize (lg_sl ([.ref x0, .int x1, .int x2, .int x3, .int x4]) ++ List.replicate (8 - (lg_sl ([.ref x0, .int x1, .int x2, .int x3, .int x4])).length) Slot.unset).toArray = ls at hl ⊢
  have hl : lv_has ls 8 [(0, .ref x0), (1, .int x1), (2, .int x2), (3, .int x3), (4, .int x4)] := hl
  obtain ⟨cc, ecc⟩ : ∃ z : Nat, z = 0 := ⟨0, rfl⟩
  obtain ⟨ss, ess⟩ : ∃ z : Nat, z = 0 := ⟨0, rfl⟩
  have hcc : cc + u.1 = u.1 := by omega
  have hss : ss + u.2.1 = u.2.1 := by omega
  suffices hgo : W p l e (rm_X0_put (u9.1 - u.1) (u9.2.1 - u.2.1)) s m args below meth c s.heap [] cc ss QQ (F0 m 0 ls []) by rw [ecc, ess] at hgo; exact hgo
  have ⟨pu, qu, _, _⟩ := mo_X0_put hm
  have hB37 : ∀ (h : CH) (cc ss : Nat) (H : Heap) (locs : List Loc) (ls : Array Slot), m_X0_put_37 f h = some (r0, u9) → CW D dA A s h H locs → cc + u.1 = h.1 → ss + u.2.1 = h.2.1 → lv_has ls 8 [] → W p l e (rm_X0_put (u9.1 - u.1) (u9.2.1 - u.2.1)) s m args below meth c H locs cc ss QQ (F0 m 37 ls []) := by
    intro h cc ss H locs ls hm hw hcc hss hl
    have hmo := mo_X0_put_37  h _ hm
    have sb_ : h.1 ≤ u9.1 := hmo.1
    have tb_ : h.2.1 ≤ u9.2.1 := hmo.2.1
    rw [m_X0_put_37] at hm
    refine lv_sipush (v := -1000) hx hb dX0_put_37 (by decide) ?_
    obtain ⟨er, eh⟩ := retE hm
    have ec : cc = u9.1 - u.1 := by rw [← eh]; omega
    have es : ss = u9.2.1 - u.2.1 := by rw [← eh]; omega
    rw [ec, es, ← hQ]
    refine vy_ret ?_
    exact W.iret (v := (-1000 : Int32)) hx hb hr (fun t ht hW => ⟨⟨(-1000 : Int32), h, rfl, ⟨er.symm, eh⟩, ⟨by rw [ht]; exact hw.1, by rw [ht]; exact hw.2.1⟩⟩, hw.2.2.1.F ht⟩) hw.2.2.1.2.2 dX0_put_40
  have hB87 : ∀ (h : CH) (x6 : Int32) (cc ss : Nat) (H : Heap) (locs : List Loc) (ls : Array Slot), m_X0_put_87 f h x6 = some (r0, u9) → CW D dA A s h H locs → cc + u.1 = h.1 → ss + u.2.1 = h.2.1 → lv_has ls 8 [(6, .int x6)] → W p l e (rm_X0_put (u9.1 - u.1) (u9.2.1 - u.2.1)) s m args below meth c H locs cc ss QQ (F0 m 87 ls []) := by
    intro h x6 cc ss H locs ls hm hw hcc hss hl
    have hmo := mo_X0_put_87  h x6 _ hm
    have sb_ : h.1 ≤ u9.1 := hmo.1
    have tb_ : h.2.1 ≤ u9.2.1 := hmo.2.1
    rw [m_X0_put_87] at hm
    refine lv_iload hx hb dX0_put_87 (lv_at hl 0 rfl) ?_
    obtain ⟨er, eh⟩ := retE hm
    have ec : cc = u9.1 - u.1 := by rw [← eh]; omega
    have es : ss = u9.2.1 - u.2.1 := by rw [← eh]; omega
    rw [ec, es, ← hQ]
    refine vy_ret ?_
    exact W.iret (v := x6) hx hb hr (fun t ht hW => ⟨⟨x6, h, rfl, ⟨er.symm, eh⟩, ⟨by rw [ht]; exact hw.1, by rw [ht]; exact hw.2.1⟩⟩, hw.2.2.1.F ht⟩) hw.2.2.1.2.2 dX0_put_89
  have hB90 : ∀ (h : CH) (x0 : Nat) (y0 : Nat) (cc ss : Nat) (H : Heap) (locs : List Loc) (ls : Array Slot), m_X0_put_90 f h x0 y0 = some (r0, u9) → CW D dA A s h H locs → cc + u.1 = h.1 → ss + u.2.1 = h.2.1 → lv_has ls 8 [(0, .ref x0)] → W p l e (rm_X0_put (u9.1 - u.1) (u9.2.1 - u.2.1)) s m args below meth c H locs cc ss QQ (F0 m 90 ls [.ref y0]) := by
    intro h x0 y0 cc ss H locs ls hm hw hcc hss hl
    have hmo := mo_X0_put_90  h x0 y0 _ hm
    have sb_ : h.1 ≤ u9.1 := hmo.1
    have tb_ : h.2.1 ≤ u9.2.1 := hmo.2.1
    rw [m_X0_put_90] at hm
    refine lv_astore (lv' := [(7, .ref y0), (0, .ref x0)]) hx hb dX0_put_90 hl (by decide) rfl (fun ls hl => ?_)
    refine lv_aload_n hx hb dX0_put_92 rfl (lv_at hl 1 rfl) ?_
    refine lv_aload hx hb dX0_put_93 (lv_at hl 0 rfl) ?_
    obtain ⟨h1, eh1, hm⟩ := bdE hm
    refine cg_put C hw eh1 rfl in_X0 tyX0 tyX0_ok nmX0 (by decide) q252 rfl rfl rfl dX0_put_95 (fun H locs hw => ?_)
    have zh1 := pF_sz eh1
    refine lv_sipush (v := -2000) hx hb dX0_put_98 (by decide) ?_
    obtain ⟨er, eh⟩ := retE hm
    have ec : cc = u9.1 - u.1 := by rw [← eh]; omega
    have es : ss = u9.2.1 - u.2.1 := by rw [← eh]; omega
    rw [ec, es, ← hQ]
    refine vy_ret ?_
    exact W.iret (v := (-2000 : Int32)) hx hb hr (fun t ht hW => ⟨⟨(-2000 : Int32), h1, rfl, ⟨er.symm, eh⟩, ⟨by rw [ht]; exact hw.1, by rw [ht]; exact hw.2.1⟩⟩, hw.2.2.1.F ht⟩) hw.2.2.1.2.2 dX0_put_101
  have hB52 : ∀ (h : CH) (x0 : Nat) (x1 : Int32) (x2 : Int32) (x3 : Int32) (x4 : Int32) (y0 : Nat) (cc ss : Nat) (H : Heap) (locs : List Loc) (ls : Array Slot), m_X0_put_52 f h x0 x1 x2 x3 x4 y0 = some (r0, u9) → CW D dA A s h H locs → cc + u.1 = h.1 → ss + u.2.1 = h.2.1 → lv_has ls 8 [(0, .ref x0), (1, .int x1), (2, .int x2), (3, .int x3), (4, .int x4)] → W p l e (rm_X0_put (u9.1 - u.1) (u9.2.1 - u.2.1)) s m args below meth c H locs cc ss QQ (F0 m 52 ls [.ref y0]) := by
    intro h x0 x1 x2 x3 x4 y0 cc ss H locs ls hm hw hcc hss hl
    have hmo := mo_X0_put_52  h x0 x1 x2 x3 x4 y0 _ hm
    have sb_ : h.1 ≤ u9.1 := hmo.1
    have tb_ : h.2.1 ≤ u9.2.1 := hmo.2.1
    rw [m_X0_put_52] at hm
    refine lv_astore (lv' := [(5, .ref y0), (0, .ref x0), (1, .int x1), (2, .int x2), (3, .int x3), (4, .int x4)]) hx hb dX0_put_52 hl (by decide) rfl (fun ls hl => ?_)
    refine lv_aload hx hb dX0_put_54 (lv_at hl 0 rfl) ?_
    obtain ⟨a1, ea1, hm⟩ := bdE hm
    refine cg_getN C hw (by decide) (oR_E ea1) rfl in_X2 (by decide) (hw.2.2.2.2.1 _ (List.mem_of_getElem? (i := 12) rfl)) dX0_put_56 ?_
    refine lv_iload_n hx hb dX0_put_59 rfl (lv_at hl 3 rfl) ?_
    obtain ⟨a2, ea2, hm⟩ := bdE hm
    refine cg_aaldA C hw (ty := .array .long) rfl rfl (aR_E ea2) dX0_put_60 ?_
    refine lv_iload_n hx hb dX0_put_61 rfl (lv_at hl 4 rfl) ?_
    obtain ⟨v3, ev3, hm⟩ := bdE hm
    refine cg_lald C hw ev3 dX0_put_62 ?_
    refine lv_l2i hx hb dX0_put_63 rfl ?_
    refine lv_topi (fun v4 ev4 => ?_)
    have hm := nmK hm ev4
    refine lv_istore (lv' := [(6, .int v4), (5, .ref y0), (0, .ref x0), (1, .int x1), (2, .int x2), (3, .int x3), (4, .int x4)]) hx hb dX0_put_64 hl (by decide) rfl (fun ls hl => ?_)
    refine lv_aload hx hb dX0_put_66 (lv_at hl 1 rfl) ?_
    obtain ⟨a5, ea5, hm⟩ := bdE hm
    refine cg_getN C hw (by decide) (oR_E ea5) rfl in_X2 (by decide) (hw.2.2.2.2.1 _ (List.mem_of_getElem? (i := 12) rfl)) dX0_put_68 ?_
    refine lv_iload_n hx hb dX0_put_71 rfl (lv_at hl 4 rfl) ?_
    obtain ⟨a6, ea6, hm⟩ := bdE hm
    refine cg_aaldA C hw (ty := .array .long) rfl rfl (aR_E ea6) dX0_put_72 ?_
    refine lv_iload_n hx hb dX0_put_73 rfl (lv_at hl 5 rfl) ?_
    refine lv_iload hx hb dX0_put_74 (lv_at hl 6 rfl) ?_
    refine lv_i2l hx hb dX0_put_76 rfl ?_
    obtain ⟨h7, eh7, hm⟩ := bdE hm
    refine cg_last C hw eh7 dX0_put_77 (fun H locs hw => ?_)
    have zh7 := uL_sz eh7
    refine lv_aload_n hx hb dX0_put_78 rfl (lv_at hl 2 rfl) ?_
    refine lv_iconst (v := 4) hx hb dX0_put_79 (by decide) ?_
    refine lv_iload_n hx hb dX0_put_80 rfl (lv_at hl 3 rfl) ?_
    refine lv_aload hx hb dX0_put_81 (lv_at hl 1 rfl) ?_
    refine lv_iload_n hx hb dX0_put_83 rfl (lv_at hl 4 rfl) ?_
    obtain ⟨g8, hm⟩ := gdE hm
    rcases bxE hm with ⟨r10, h9, eh9, hm⟩ | ⟨q11, h9, eh9, hm⟩
    · have lh9 := mo_X0_changes eh9
      have ph9 : h7.1 ≤ h9.1 := lh9.1
      have qh9 : h7.2.1 ≤ h9.2.1 := lh9.2.1
      have hmo := mo_X0_put_87   h9 v4 _ hm
      have sh9 : h9.1 ≤ u9.1 := hmo.1
      have th9 : h9.2.1 ≤ u9.2.1 := hmo.2.1
      refine cx_callv hw lh9 (vy_runVX (As := [.int (4 : Int32), .int x1, .ref y0, .int x2]) (rest := []) ⟨hx, hb, hml, hown, hts⟩ (w_X0_changes l htl eh9) (cw_X0_changes hts q1388 ⟨Nat.le_of_ble_eq_true rfl, Nat.le_of_ble_eq_true rfl⟩) (cg_preV C hw g8 rfl _) rfl rfl hl.1 rfl (lv_room (Nat.le_of_ble_eq_true rfl)) dX0_put_84 ⟨show cc + (h9.1 - h7.1) ≤ u9.1 - u.1 by omega, show ss + (h9.2.1 - h7.2.1) ≤ u9.2.1 - u.2.1 by omega⟩) (fun H locs hw => ?_)
      exact hB87 h9 v4 _ _ _ _ _ hm hw (by omega) (by omega) (lv_sub hl [0] rfl)
    · have lh9 := mo_X0_changes eh9
      have ph9 : h7.1 ≤ h9.1 := lh9.1
      have qh9 : h7.2.1 ≤ h9.2.1 := lh9.2.1
      obtain ⟨g12, hm⟩ := gdE hm
      have hmo := mo_X0_put_90   h9 x0 q11 _ hm
      have sh9 : h9.1 ≤ u9.1 := hmo.1
      have th9 : h9.2.1 ≤ u9.2.1 := hmo.2.1
      refine cx_callX hw lh9 noQv (vy_runVX (As := [.int (4 : Int32), .int x1, .ref y0, .int x2]) (rest := []) ⟨hx, hb, hml, hown, hts⟩ (w_X0_changes l htl eh9) (cw_X0_changes hts q1388 ⟨Nat.le_of_ble_eq_true rfl, Nat.le_of_ble_eq_true rfl⟩) (cg_preV C hw g8 rfl _) rfl rfl hl.1 rfl (lv_room (Nat.le_of_ble_eq_true rfl)) dX0_put_84 ⟨show cc + (h9.1 - h7.1) ≤ u9.1 - u.1 by omega, show ss + (h9.2.1 - h7.2.1) ≤ u9.2.1 - u.2.1 by omega⟩) (fun H locs hw => ?_)
      refine cx_catch C hw g12 (by decide) rfl [] { startPc := 78, endPc := 89, handlerPc := 90, catchType := 392 } [] (htab.trans rfl) (fun _ h => absurd h List.not_mem_nil) (by decide) (by decide) q1385 (hw.2.2.2.2.1 _ (List.mem_of_getElem? (i := 57) rfl)) ?_
      exact hB90 h9 x0 q11 _ _ _ _ _ hm hw (by omega) (by omega) (lv_sub hl [2] rfl)
  have hB46 : ∀ (h : CH) (x0 : Nat) (x1 : Int32) (x2 : Int32) (x3 : Int32) (x4 : Int32) (y0 : Nat) (cc ss : Nat) (H : Heap) (locs : List Loc) (ls : Array Slot), m_X0_put_46 f h x0 x1 x2 x3 x4 y0 = some (r0, u9) → CW D dA A s h H locs → cc + u.1 = h.1 → ss + u.2.1 = h.2.1 → lv_has ls 8 [(0, .ref x0), (1, .int x1), (2, .int x2), (3, .int x3), (4, .int x4)] → W p l e (rm_X0_put (u9.1 - u.1) (u9.2.1 - u.2.1)) s m args below meth c H locs cc ss QQ (F0 m 46 ls [.ref y0]) := by
    intro h x0 x1 x2 x3 x4 y0 cc ss H locs ls hm hw hcc hss hl
    have hmo := mo_X0_put_46  h x0 x1 x2 x3 x4 y0 _ hm
    have sb_ : h.1 ≤ u9.1 := hmo.1
    have tb_ : h.2.1 ≤ u9.2.1 := hmo.2.1
    rw [m_X0_put_46] at hm
    obtain ⟨a1, ea1, hm⟩ := bdE hm
    refine cg_getN C hw (by decide) (oR_E ea1) rfl in_X6 (by decide) (hw.2.2.2.2.1 _ (List.mem_of_getElem? (i := 21) rfl)) dX0_put_46 ?_
    obtain ⟨g2, hm⟩ := gdE hm
    obtain ⟨a4, h3, ea4, hm⟩ := bd2E hm
    have lh3 := mo_X2_copy ea4
    have ph3 : h.1 ≤ h3.1 := lh3.1
    have qh3 : h.2.1 ≤ h3.2.1 := lh3.2.1
    have hmo := mo_X0_put_52   h3 x0 x1 x2 x3 x4 a4 _ hm
    have sh3 : h3.1 ≤ u9.1 := hmo.1
    have th3 : h3.2.1 ≤ u9.2.1 := hmo.2.1
    refine cg_callr hw lh3 (va_runV (As := []) (rest := []) ⟨hx, hb, hml, hown, hts⟩ (w_X2_copy l ea4) (cw_X2_copy hts q1386 ⟨Nat.le_of_ble_eq_true rfl, Nat.le_of_ble_eq_true rfl⟩) (cg_preV C hw g2 rfl _) rfl rfl hl.1 rfl (lv_room (Nat.le_of_ble_eq_true rfl)) dX0_put_49 ⟨show cc + (h3.1 - h.1) ≤ u9.1 - u.1 by omega, show ss + (h3.2.1 - h.2.1) ≤ u9.2.1 - u.2.1 by omega⟩) (fun H locs hw => ?_)
    exact hB52 h3 x0 x1 x2 x3 x4 a4 _ _ _ _ _ hm hw (by omega) (by omega) (lv_sub hl [0, 1, 2, 3, 4] rfl)
  have hB5 : ∀ (h : CH) (x0 : Nat) (x1 : Int32) (x2 : Int32) (x3 : Int32) (x4 : Int32) (y0 : Int32) (cc ss : Nat) (H : Heap) (locs : List Loc) (ls : Array Slot), m_X0_put_5 f h x0 x1 x2 x3 x4 y0 = some (r0, u9) → CW D dA A s h H locs → cc + u.1 = h.1 → ss + u.2.1 = h.2.1 → lv_has ls 8 [(0, .ref x0), (1, .int x1), (2, .int x2), (3, .int x3), (4, .int x4)] → W p l e (rm_X0_put (u9.1 - u.1) (u9.2.1 - u.2.1)) s m args below meth c H locs cc ss QQ (F0 m 5 ls [.int y0]) := by
    intro h x0 x1 x2 x3 x4 y0 cc ss H locs ls hm hw hcc hss hl
    have hmo := mo_X0_put_5  h x0 x1 x2 x3 x4 y0 _ hm
    have sb_ : h.1 ≤ u9.1 := hmo.1
    have tb_ : h.2.1 ≤ u9.2.1 := hmo.2.1
    rw [m_X0_put_5] at hm
    refine lv_if_eq (tgt := 37) hx hb dX0_put_5 (by decide) (fun c1 => ?_) (fun c1 => ?_)
    · have hm := ifT hm c1
      exact hB37 h _ _ _ _ _ hm hw (by omega) (by omega) (lv_sub hl [] rfl)
    · have hm := ifF hm c1
      refine lv_iload_n hx hb dX0_put_8 rfl (lv_at hl 2 rfl) ?_
      obtain ⟨r2, er2, hm⟩ := bdE hm
      refine sci (va_runS (As := [.int x2]) (rest := []) ⟨hx, hb, hml, hown, hts⟩ (w_X0_isSide l er2) (cw_X0_isSide hts q896 ⟨Nat.le_of_ble_eq_true rfl, Nat.le_of_ble_eq_true rfl⟩) (pre_s _) rfl rfl hl.1 rfl (lv_room (Nat.le_of_ble_eq_true rfl)) dX0_put_9 ⟨show cc + 0 ≤ u9.1 - u.1 by omega, show ss + 0 ≤ u9.2.1 - u.2.1 by omega⟩) ?_
      refine lv_if_eq (tgt := 37) hx hb dX0_put_12 (by decide) (fun c3 => ?_) (fun c3 => ?_)
      · have hm := ifT hm c3
        exact hB37 h _ _ _ _ _ hm hw (by omega) (by omega) (lv_sub hl [] rfl)
      · have hm := ifF hm c3
        refine lv_iload_n hx hb dX0_put_15 rfl (lv_at hl 3 rfl) ?_
        obtain ⟨r4, er4, hm⟩ := bdE hm
        refine sci (va_runS (As := [.int x3]) (rest := []) ⟨hx, hb, hml, hown, hts⟩ (w_X0_isSide l er4) (cw_X0_isSide hts q896 ⟨Nat.le_of_ble_eq_true rfl, Nat.le_of_ble_eq_true rfl⟩) (pre_s _) rfl rfl hl.1 rfl (lv_room (Nat.le_of_ble_eq_true rfl)) dX0_put_16 ⟨show cc + 0 ≤ u9.1 - u.1 by omega, show ss + 0 ≤ u9.2.1 - u.2.1 by omega⟩) ?_
        refine lv_if_eq (tgt := 37) hx hb dX0_put_19 (by decide) (fun c5 => ?_) (fun c5 => ?_)
        · have hm := ifT hm c5
          exact hB37 h _ _ _ _ _ hm hw (by omega) (by omega) (lv_sub hl [] rfl)
        · have hm := ifF hm c5
          refine lv_iload hx hb dX0_put_22 (lv_at hl 4 rfl) ?_
          refine lv_i2l hx hb dX0_put_24 rfl ?_
          refine lv_ldc2 hx hb hown (hts _ q1507) dX0_put_25 ?_
          refine lv_ldc2 hx hb hown (hts _ q1508) dX0_put_28 ?_
          obtain ⟨r6, er6, hm⟩ := bdE hm
          refine sci (va_runS (As := [.long (Int32.toInt64 x4), .long (-6 : Int64), .long (6 : Int64)]) (rest := []) ⟨hx, hb, hml, hown, hts⟩ (w_X0_isIn l er6) (cw_X0_isIn hts q297 ⟨Nat.le_of_ble_eq_true rfl, Nat.le_of_ble_eq_true rfl⟩) (pre_s _) rfl rfl hl.1 rfl (lv_room (Nat.le_of_ble_eq_true rfl)) dX0_put_31 ⟨show cc + 0 ≤ u9.1 - u.1 by omega, show ss + 0 ≤ u9.2.1 - u.2.1 by omega⟩) ?_
          refine lv_if_ne (tgt := 41) hx hb dX0_put_34 (by decide) (fun c7 => ?_) (fun c7 => ?_)
          · have hm := ifT hm c7
            refine lv_aload_n hx hb dX0_put_41 rfl (lv_at hl 0 rfl) ?_
            refine lv_iload_n hx hb dX0_put_42 rfl (lv_at hl 1 rfl) ?_
            obtain ⟨g8, hm⟩ := gdE hm
            obtain ⟨a10, h9, ea10, hm⟩ := bd2E hm
            have lh9 := mo_X0_at ea10
            have ph9 : h.1 ≤ h9.1 := lh9.1
            have qh9 : h.2.1 ≤ h9.2.1 := lh9.2.1
            have hmo := mo_X0_put_46   h9 x0 x1 x2 x3 x4 a10 _ hm
            have sh9 : h9.1 ≤ u9.1 := hmo.1
            have th9 : h9.2.1 ≤ u9.2.1 := hmo.2.1
            refine cg_callr hw lh9 (va_runV (As := [.int x1]) (rest := []) ⟨hx, hb, hml, hown, hts⟩ (w_X0_at l ea10) (cw_X0_at hts q900 ⟨Nat.le_of_ble_eq_true rfl, Nat.le_of_ble_eq_true rfl⟩) (cg_preV C hw g8 rfl _) rfl rfl hl.1 rfl (lv_room (Nat.le_of_ble_eq_true rfl)) dX0_put_43 ⟨show cc + (h9.1 - h.1) ≤ u9.1 - u.1 by omega, show ss + (h9.2.1 - h.2.1) ≤ u9.2.1 - u.2.1 by omega⟩) (fun H locs hw => ?_)
            exact hB46 h9 x0 x1 x2 x3 x4 a10 _ _ _ _ _ hm hw (by omega) (by omega) (lv_sub hl [0, 1, 2, 3, 4] rfl)
          · have hm := ifT' hm c7
            exact hB37 h _ _ _ _ _ hm hw (by omega) (by omega) (lv_sub hl [] rfl)
  rw [m_X0_put] at hm
  refine lv_aload_n hx hb dX0_put_0 rfl (lv_at hl 0 rfl) ?_
  refine lv_iload_n hx hb dX0_put_1 rfl (lv_at hl 1 rfl) ?_
  obtain ⟨g1, hm⟩ := gdE hm
  obtain ⟨r3, h2, er3, hm⟩ := bd2E hm
  have lh2 := mo_X0_isOwn er3
  have ph2 : u.1 ≤ h2.1 := lh2.1
  have qh2 : u.2.1 ≤ h2.2.1 := lh2.2.1
  have hmo := mo_X0_put_5   h2 x0 x1 x2 x3 x4 r3 _ hm
  have sh2 : h2.1 ≤ u9.1 := hmo.1
  have th2 : h2.2.1 ≤ u9.2.1 := hmo.2.1
  refine cg_calli hw lh2 (va_runV (As := [.int x1]) (rest := []) ⟨hx, hb, hml, hown, hts⟩ (w_X0_isOwn l er3) (cw_X0_isOwn hts q1374 ⟨Nat.le_of_ble_eq_true rfl, Nat.le_of_ble_eq_true rfl⟩) (cg_preV C hw g1 rfl _) rfl rfl hl.1 rfl (lv_room (Nat.le_of_ble_eq_true rfl)) dX0_put_2 ⟨show cc + (h2.1 - u.1) ≤ u9.1 - u.1 by omega, show ss + (h2.2.1 - u.2.1) ≤ u9.2.1 - u.2.1 by omega⟩) (fun H locs hw => ?_)
  exact hB5 h2 x0 x1 x2 x3 x4 r3 _ _ _ _ _ hm hw (by omega) (by omega) (lv_sub hl [0, 1, 2, 3, 4] rfl)
def m_X17_hindrance (f : Nat) (u : CH) (x0 : Nat) : Option (Nat × CH) := bd (oR u 16 0 x0) fun a1 =>
    gd (decide (¬ a1 = x0) && decide (u.2.2.1 ≤ x0)) <|
    if isC u a1 12 = true then
    if (1 : Int32) = 0 then
    none
    else if isC u a1 12 = true then
    some (a1, u)
    else if isC u a1 13 = true then
    some (a1, u)
    else gd (isC u a1 14) <|
    some (a1, u)
    else if isC u a1 13 = true then
    if (1 : Int32) = 0 then
    none
    else if isC u a1 12 = true then
    some (a1, u)
    else if isC u a1 13 = true then
    some (a1, u)
    else gd (isC u a1 14) <|
    some (a1, u)
    else gd (isC u a1 14) <|
    if (1 : Int32) = 0 then
    none
    else if isC u a1 12 = true then
    some (a1, u)
    else if isC u a1 13 = true then
    some (a1, u)
    else gd (isC u a1 14) <|
    some (a1, u)
theorem mo_X17_hindrance {f : Nat} {u : CH} {x0 : Nat} {r0 : Nat} {u9 : CH} (hm : m_X17_hindrance f u x0 = some (r0, u9)) : le2 u u9 := by
  rw [m_X17_hindrance] at hm
  obtain ⟨a1, ea1, hm⟩ := bdE hm
  obtain ⟨g2, hm⟩ := gdE hm
  by_cases c3 : isC u a1 12 = true
  · have hm := ifT hm c3
    by_cases c4 : (1 : Int32) = 0
    · have hm := ifT hm c4
      exact noE hm
    · have hm := ifF hm c4
      by_cases c5 : isC u a1 12 = true
      · have hm := ifT hm c5
        cases hm
        exact le2.rf
      · have hm := ifF hm c5
        by_cases c6 : isC u a1 13 = true
        · have hm := ifT hm c6
          cases hm
          exact le2.rf
        · have hm := ifF hm c6
          obtain ⟨g7, hm⟩ := gdE hm
          cases hm
          exact le2.rf
  · have hm := ifF hm c3
    by_cases c8 : isC u a1 13 = true
    · have hm := ifT hm c8
      by_cases c9 : (1 : Int32) = 0
      · have hm := ifT hm c9
        exact noE hm
      · have hm := ifF hm c9
        by_cases c10 : isC u a1 12 = true
        · have hm := ifT hm c10
          cases hm
          exact le2.rf
        · have hm := ifF hm c10
          by_cases c11 : isC u a1 13 = true
          · have hm := ifT hm c11
            cases hm
            exact le2.rf
          · have hm := ifF hm c11
            obtain ⟨g12, hm⟩ := gdE hm
            cases hm
            exact le2.rf
    · have hm := ifF hm c8
      obtain ⟨g13, hm⟩ := gdE hm
      by_cases c14 : (1 : Int32) = 0
      · have hm := ifT hm c14
        exact noE hm
      · have hm := ifF hm c14
        by_cases c15 : isC u a1 12 = true
        · have hm := ifT hm c15
          cases hm
          exact le2.rf
        · have hm := ifF hm c15
          by_cases c16 : isC u a1 13 = true
          · have hm := ifT hm c16
            cases hm
            exact le2.rf
          · have hm := ifF hm c16
            obtain ⟨g17, hm⟩ := gdE hm
            cases hm
            exact le2.rf
abbrev rm_X17_hindrance (mc ms : Nat) : Room := { frames := 2, cells := mc, slots := ms, locals := 40 }
theorem cw_X17_hindrance {R : Room} {s : State} {args : Array Value} {own : String} {idx mc ms : Nat} (hts : ∀ w ∈ lw_all, w.before args s = true) (hl : Cond.methodLink own idx yX17_hindrance ∈ lw_all) (hR : 2 + 1 ≤ R.frames ∧ 8 + (3 + 11) + 40 ≤ R.locals) : CallW R s args own RX17 idx yX17_hindrance cX17_hindrance 3 (Option.some (Jvm.ClassFile.FieldType.object "CoincideBench$Hindrance")) (ws_ yX17_hindrance cX17_hindrance 3 (Option.some (Jvm.ClassFile.FieldType.object "CoincideBench$Hindrance"))) (rm_X17_hindrance mc ms) mc ms 0 := cwV 0 hts (lw_V hl q1514 q1515 q154 q1516) rfl rfl rfl (by decide +kernel) hR
set_option maxHeartbeats 4000000 in
set_option maxRecDepth 100000 in
theorem w_X17_hindrance (l : Launch) {D : va_G} {dA : Nat → ClassId} {A : Nat → Prop} {f : Nat} {u u9 : CH} {r0 : Nat} {x0 : Nat} (hm : m_X17_hindrance f u x0 = some (r0, u9)) : Met l yX17_hindrance (ws_ yX17_hindrance cX17_hindrance 3 (Option.some (Jvm.ClassFile.FieldType.object "CoincideBench$Hindrance"))) (rm_X17_hindrance (u9.1 - u.1) (u9.2.1 - u.2.1)) (va_Pc [.ref x0] (CPre D dA A u)) (va_Qr (fun u => u = u9) (fun u r t => r = r0 ∧ CPost D dA A u t) A) (u9.1 - u.1) (u9.2.1 - u.2.1) A := by
  refine Met.ofW (cc := cX17_hindrance) (maxL := 3) (ret := (Option.some (Jvm.ClassFile.FieldType.object "CoincideBench$Hindrance"))) (by decide) rfl ?_
  intro p e s m args below meth c s₁ B hml hv
  have hx := B.exec
  have hb := B.bytes
  have hr := B.returns
  have hts := atoms_spec (ws := (ws_ yX17_hindrance cX17_hindrance 3 (Option.some (Jvm.ClassFile.FieldType.object "CoincideBench$Hindrance")))) B.pre
  have hts : ∀ w ∈ lw_all, w.before args s = true := fun w h => hts w (List.mem_cons_of_mem _ h)
  have hown : s.vm.findClass RX17 = some m.cls := findClass_of_methodNamed B.named
  have hlocks := B.notSynchronized
  obtain ⟨hav, hv⟩ := hv
  have C : CX p s m args c cX17_hindrance RX17 D dA := ⟨hx, hb, hown, hts, hv.2⟩
  have hw : CW D dA A s u s.heap [] := hv.1
  generalize hQ : MQ below (va_Qr (fun u => u = u9) (fun u r t => r = r0 ∧ CPost D dA A u t) A) args s (u9.1 - u.1) (u9.2.1 - u.2.1) A = QQ
  have hent := lg_entry_eq m [.ref x0] 3
  rw [← hav] at hent
  rw [hent]
  have hl := lv_entry ([.ref x0]) (n := 3) (Nat.le_of_ble_eq_true rfl)
  generalize (lg_sl ([.ref x0]) ++ List.replicate (3 - (lg_sl ([.ref x0])).length) Slot.unset).toArray = ls at hl ⊢
  have hl : lv_has ls 3 [(0, .ref x0)] := hl
  obtain ⟨cc, ecc⟩ : ∃ z : Nat, z = 0 := ⟨0, rfl⟩
  obtain ⟨ss, ess⟩ : ∃ z : Nat, z = 0 := ⟨0, rfl⟩
  have hcc : cc + u.1 = u.1 := by omega
  have hss : ss + u.2.1 = u.2.1 := by omega
  suffices hgo : W p l e (rm_X17_hindrance (u9.1 - u.1) (u9.2.1 - u.2.1)) s m args below meth c s.heap [] cc ss QQ (F0 m 0 ls []) by rw [ecc, ess] at hgo; exact hgo
  have ⟨pu, qu, _, _⟩ := mo_X17_hindrance hm
  rw [m_X17_hindrance] at hm
  refine lv_aload_n hx hb dX17_hindrance_0 rfl (lv_at hl 0 rfl) ?_
  obtain ⟨a1, ea1, hm⟩ := bdE hm
  obtain ⟨g2, hm⟩ := gdE hm
  refine cg_cause C hw (hml.trans hl.1.symm) (oR_E ea1) g2 q1517 (Nat.le_of_ble_eq_true rfl) (Nat.le_of_ble_eq_true rfl) dX17_hindrance_1 ?_
  refine lv_astore_n (lv' := [(2, .ref a1), (0, .ref x0)]) hx hb dX17_hindrance_4 rfl hl (by decide) rfl (fun ls hl => ?_)
  refine lv_aload_n hx hb dX17_hindrance_5 rfl (lv_at hl 0 rfl) ?_
  by_cases c3 : isC u a1 12 = true
  · have hm := ifT hm c3
    refine cg_instY C hw c3 rfl q1523 (hw.2.2.2.2.1 _ (List.mem_of_getElem? (i := 48) rfl)) dX17_hindrance_6 ?_
    refine lv_if_eq (tgt := 21) hx hb dX17_hindrance_9 (by decide) (fun c4 => ?_) (fun c4 => ?_)
    · have hm := ifT hm c4
      exact noE hm
    · have hm := ifF hm c4
      refine lv_aload_n hx hb dX17_hindrance_12 rfl (lv_at hl 0 rfl) ?_
      by_cases c5 : isC u a1 12 = true
      · have hm := ifT hm c5
        refine cg_castY C hw c5 rfl q1523 (hw.2.2.2.2.1 _ (List.mem_of_getElem? (i := 48) rfl)) dX17_hindrance_13 ?_
        refine lv_astore_n (lv' := [(1, .ref a1), (2, .ref a1), (0, .ref x0)]) hx hb dX17_hindrance_16 rfl hl (by decide) rfl (fun ls hl => ?_)
        refine lv_aload_n hx hb dX17_hindrance_17 rfl (lv_at hl 0 rfl) ?_
        refine lv_goto (tgt := 22) hx hb dX17_hindrance_18 (by decide) ?_
        obtain ⟨er, eh⟩ := retE hm
        have ec : cc = u9.1 - u.1 := by rw [← eh]; omega
        have es : ss = u9.2.1 - u.2.1 := by rw [← eh]; omega
        rw [ec, es, ← hQ]
        exact W.aret (v := .ref a1) hx hb hr (Or.inl ⟨_, rfl⟩) (Or.inr ⟨_, rfl⟩) (fun t ht hW => ⟨⟨u, a1, rfl, eh, er, ⟨by rw [ht]; exact hw.1, by rw [ht]; exact hw.2.1⟩⟩, hw.2.2.1.F ht⟩) hw.2.2.1.2.2 dX17_hindrance_22
      · have hm := ifF hm c5
        by_cases c6 : isC u a1 13 = true
        · have hm := ifT hm c6
          refine cg_castY C hw c6 rfl q1523 (hw.2.2.2.2.1 _ (List.mem_of_getElem? (i := 51) rfl)) dX17_hindrance_13 ?_
          refine lv_astore_n (lv' := [(1, .ref a1), (2, .ref a1), (0, .ref x0)]) hx hb dX17_hindrance_16 rfl hl (by decide) rfl (fun ls hl => ?_)
          refine lv_aload_n hx hb dX17_hindrance_17 rfl (lv_at hl 0 rfl) ?_
          refine lv_goto (tgt := 22) hx hb dX17_hindrance_18 (by decide) ?_
          obtain ⟨er, eh⟩ := retE hm
          have ec : cc = u9.1 - u.1 := by rw [← eh]; omega
          have es : ss = u9.2.1 - u.2.1 := by rw [← eh]; omega
          rw [ec, es, ← hQ]
          exact W.aret (v := .ref a1) hx hb hr (Or.inl ⟨_, rfl⟩) (Or.inr ⟨_, rfl⟩) (fun t ht hW => ⟨⟨u, a1, rfl, eh, er, ⟨by rw [ht]; exact hw.1, by rw [ht]; exact hw.2.1⟩⟩, hw.2.2.1.F ht⟩) hw.2.2.1.2.2 dX17_hindrance_22
        · have hm := ifF hm c6
          obtain ⟨g7, hm⟩ := gdE hm
          refine cg_castY C hw g7 rfl q1523 (hw.2.2.2.2.1 _ (List.mem_of_getElem? (i := 54) rfl)) dX17_hindrance_13 ?_
          refine lv_astore_n (lv' := [(1, .ref a1), (2, .ref a1), (0, .ref x0)]) hx hb dX17_hindrance_16 rfl hl (by decide) rfl (fun ls hl => ?_)
          refine lv_aload_n hx hb dX17_hindrance_17 rfl (lv_at hl 0 rfl) ?_
          refine lv_goto (tgt := 22) hx hb dX17_hindrance_18 (by decide) ?_
          obtain ⟨er, eh⟩ := retE hm
          have ec : cc = u9.1 - u.1 := by rw [← eh]; omega
          have es : ss = u9.2.1 - u.2.1 := by rw [← eh]; omega
          rw [ec, es, ← hQ]
          exact W.aret (v := .ref a1) hx hb hr (Or.inl ⟨_, rfl⟩) (Or.inr ⟨_, rfl⟩) (fun t ht hW => ⟨⟨u, a1, rfl, eh, er, ⟨by rw [ht]; exact hw.1, by rw [ht]; exact hw.2.1⟩⟩, hw.2.2.1.F ht⟩) hw.2.2.1.2.2 dX17_hindrance_22
  · have hm := ifF hm c3
    by_cases c8 : isC u a1 13 = true
    · have hm := ifT hm c8
      refine cg_instY C hw c8 rfl q1523 (hw.2.2.2.2.1 _ (List.mem_of_getElem? (i := 51) rfl)) dX17_hindrance_6 ?_
      refine lv_if_eq (tgt := 21) hx hb dX17_hindrance_9 (by decide) (fun c9 => ?_) (fun c9 => ?_)
      · have hm := ifT hm c9
        exact noE hm
      · have hm := ifF hm c9
        refine lv_aload_n hx hb dX17_hindrance_12 rfl (lv_at hl 0 rfl) ?_
        by_cases c10 : isC u a1 12 = true
        · have hm := ifT hm c10
          refine cg_castY C hw c10 rfl q1523 (hw.2.2.2.2.1 _ (List.mem_of_getElem? (i := 48) rfl)) dX17_hindrance_13 ?_
          refine lv_astore_n (lv' := [(1, .ref a1), (2, .ref a1), (0, .ref x0)]) hx hb dX17_hindrance_16 rfl hl (by decide) rfl (fun ls hl => ?_)
          refine lv_aload_n hx hb dX17_hindrance_17 rfl (lv_at hl 0 rfl) ?_
          refine lv_goto (tgt := 22) hx hb dX17_hindrance_18 (by decide) ?_
          obtain ⟨er, eh⟩ := retE hm
          have ec : cc = u9.1 - u.1 := by rw [← eh]; omega
          have es : ss = u9.2.1 - u.2.1 := by rw [← eh]; omega
          rw [ec, es, ← hQ]
          exact W.aret (v := .ref a1) hx hb hr (Or.inl ⟨_, rfl⟩) (Or.inr ⟨_, rfl⟩) (fun t ht hW => ⟨⟨u, a1, rfl, eh, er, ⟨by rw [ht]; exact hw.1, by rw [ht]; exact hw.2.1⟩⟩, hw.2.2.1.F ht⟩) hw.2.2.1.2.2 dX17_hindrance_22
        · have hm := ifF hm c10
          by_cases c11 : isC u a1 13 = true
          · have hm := ifT hm c11
            refine cg_castY C hw c11 rfl q1523 (hw.2.2.2.2.1 _ (List.mem_of_getElem? (i := 51) rfl)) dX17_hindrance_13 ?_
            refine lv_astore_n (lv' := [(1, .ref a1), (2, .ref a1), (0, .ref x0)]) hx hb dX17_hindrance_16 rfl hl (by decide) rfl (fun ls hl => ?_)
            refine lv_aload_n hx hb dX17_hindrance_17 rfl (lv_at hl 0 rfl) ?_
            refine lv_goto (tgt := 22) hx hb dX17_hindrance_18 (by decide) ?_
            obtain ⟨er, eh⟩ := retE hm
            have ec : cc = u9.1 - u.1 := by rw [← eh]; omega
            have es : ss = u9.2.1 - u.2.1 := by rw [← eh]; omega
            rw [ec, es, ← hQ]
            exact W.aret (v := .ref a1) hx hb hr (Or.inl ⟨_, rfl⟩) (Or.inr ⟨_, rfl⟩) (fun t ht hW => ⟨⟨u, a1, rfl, eh, er, ⟨by rw [ht]; exact hw.1, by rw [ht]; exact hw.2.1⟩⟩, hw.2.2.1.F ht⟩) hw.2.2.1.2.2 dX17_hindrance_22
          · have hm := ifF hm c11
            obtain ⟨g12, hm⟩ := gdE hm
            refine cg_castY C hw g12 rfl q1523 (hw.2.2.2.2.1 _ (List.mem_of_getElem? (i := 54) rfl)) dX17_hindrance_13 ?_
            refine lv_astore_n (lv' := [(1, .ref a1), (2, .ref a1), (0, .ref x0)]) hx hb dX17_hindrance_16 rfl hl (by decide) rfl (fun ls hl => ?_)
            refine lv_aload_n hx hb dX17_hindrance_17 rfl (lv_at hl 0 rfl) ?_
            refine lv_goto (tgt := 22) hx hb dX17_hindrance_18 (by decide) ?_
            obtain ⟨er, eh⟩ := retE hm
            have ec : cc = u9.1 - u.1 := by rw [← eh]; omega
            have es : ss = u9.2.1 - u.2.1 := by rw [← eh]; omega
            rw [ec, es, ← hQ]
            exact W.aret (v := .ref a1) hx hb hr (Or.inl ⟨_, rfl⟩) (Or.inr ⟨_, rfl⟩) (fun t ht hW => ⟨⟨u, a1, rfl, eh, er, ⟨by rw [ht]; exact hw.1, by rw [ht]; exact hw.2.1⟩⟩, hw.2.2.1.F ht⟩) hw.2.2.1.2.2 dX17_hindrance_22
    · have hm := ifF hm c8
      obtain ⟨g13, hm⟩ := gdE hm
      refine cg_instY C hw g13 rfl q1523 (hw.2.2.2.2.1 _ (List.mem_of_getElem? (i := 54) rfl)) dX17_hindrance_6 ?_
      refine lv_if_eq (tgt := 21) hx hb dX17_hindrance_9 (by decide) (fun c14 => ?_) (fun c14 => ?_)
      · have hm := ifT hm c14
        exact noE hm
      · have hm := ifF hm c14
        refine lv_aload_n hx hb dX17_hindrance_12 rfl (lv_at hl 0 rfl) ?_
        by_cases c15 : isC u a1 12 = true
        · have hm := ifT hm c15
          refine cg_castY C hw c15 rfl q1523 (hw.2.2.2.2.1 _ (List.mem_of_getElem? (i := 48) rfl)) dX17_hindrance_13 ?_
          refine lv_astore_n (lv' := [(1, .ref a1), (2, .ref a1), (0, .ref x0)]) hx hb dX17_hindrance_16 rfl hl (by decide) rfl (fun ls hl => ?_)
          refine lv_aload_n hx hb dX17_hindrance_17 rfl (lv_at hl 0 rfl) ?_
          refine lv_goto (tgt := 22) hx hb dX17_hindrance_18 (by decide) ?_
          obtain ⟨er, eh⟩ := retE hm
          have ec : cc = u9.1 - u.1 := by rw [← eh]; omega
          have es : ss = u9.2.1 - u.2.1 := by rw [← eh]; omega
          rw [ec, es, ← hQ]
          exact W.aret (v := .ref a1) hx hb hr (Or.inl ⟨_, rfl⟩) (Or.inr ⟨_, rfl⟩) (fun t ht hW => ⟨⟨u, a1, rfl, eh, er, ⟨by rw [ht]; exact hw.1, by rw [ht]; exact hw.2.1⟩⟩, hw.2.2.1.F ht⟩) hw.2.2.1.2.2 dX17_hindrance_22
        · have hm := ifF hm c15
          by_cases c16 : isC u a1 13 = true
          · have hm := ifT hm c16
            refine cg_castY C hw c16 rfl q1523 (hw.2.2.2.2.1 _ (List.mem_of_getElem? (i := 51) rfl)) dX17_hindrance_13 ?_
            refine lv_astore_n (lv' := [(1, .ref a1), (2, .ref a1), (0, .ref x0)]) hx hb dX17_hindrance_16 rfl hl (by decide) rfl (fun ls hl => ?_)
            refine lv_aload_n hx hb dX17_hindrance_17 rfl (lv_at hl 0 rfl) ?_
            refine lv_goto (tgt := 22) hx hb dX17_hindrance_18 (by decide) ?_
            obtain ⟨er, eh⟩ := retE hm
            have ec : cc = u9.1 - u.1 := by rw [← eh]; omega
            have es : ss = u9.2.1 - u.2.1 := by rw [← eh]; omega
            rw [ec, es, ← hQ]
            exact W.aret (v := .ref a1) hx hb hr (Or.inl ⟨_, rfl⟩) (Or.inr ⟨_, rfl⟩) (fun t ht hW => ⟨⟨u, a1, rfl, eh, er, ⟨by rw [ht]; exact hw.1, by rw [ht]; exact hw.2.1⟩⟩, hw.2.2.1.F ht⟩) hw.2.2.1.2.2 dX17_hindrance_22
          · have hm := ifF hm c16
            obtain ⟨g17, hm⟩ := gdE hm
            refine cg_castY C hw g17 rfl q1523 (hw.2.2.2.2.1 _ (List.mem_of_getElem? (i := 54) rfl)) dX17_hindrance_13 ?_
            refine lv_astore_n (lv' := [(1, .ref a1), (2, .ref a1), (0, .ref x0)]) hx hb dX17_hindrance_16 rfl hl (by decide) rfl (fun ls hl => ?_)
            refine lv_aload_n hx hb dX17_hindrance_17 rfl (lv_at hl 0 rfl) ?_
            refine lv_goto (tgt := 22) hx hb dX17_hindrance_18 (by decide) ?_
            obtain ⟨er, eh⟩ := retE hm
            have ec : cc = u9.1 - u.1 := by rw [← eh]; omega
            have es : ss = u9.2.1 - u.2.1 := by rw [← eh]; omega
            rw [ec, es, ← hQ]
            exact W.aret (v := .ref a1) hx hb hr (Or.inl ⟨_, rfl⟩) (Or.inr ⟨_, rfl⟩) (fun t ht hW => ⟨⟨u, a1, rfl, eh, er, ⟨by rw [ht]; exact hw.1, by rw [ht]; exact hw.2.1⟩⟩, hw.2.2.1.F ht⟩) hw.2.2.1.2.2 dX17_hindrance_22
def m_X13_kind (f : Nat) (u : CH) (x0 : Nat) : Option (Int32 × CH) := some ((3 : Int32), u)
theorem mo_X13_kind {f : Nat} {u : CH} {x0 : Nat} {r0 : Int32} {u9 : CH} (hm : m_X13_kind f u x0 = some (r0, u9)) : le2 u u9 := by
  rw [m_X13_kind] at hm
  cases hm
  exact le2.rf
abbrev rm_X13_kind (mc ms : Nat) : Room := { frames := 0, cells := mc, slots := ms, locals := 0 }
set_option maxHeartbeats 4000000 in
set_option maxRecDepth 100000 in
theorem w_X13_kind (l : Launch) {D : va_G} {dA : Nat → ClassId} {A : Nat → Prop} {f : Nat} {u u9 : CH} {r0 : Int32} {x0 : Nat} (hm : m_X13_kind f u x0 = some (r0, u9)) : Met l yX13_kind (ws_ yX13_kind cX13_kind 1 (Option.some Jvm.ClassFile.FieldType.int)) (rm_X13_kind (u9.1 - u.1) (u9.2.1 - u.2.1)) (va_Pc [.ref x0] (CPre D dA A u)) (va_Qi (fun r u => r = r0 ∧ u = u9) (CPost D dA A) A) (u9.1 - u.1) (u9.2.1 - u.2.1) A := by
  refine Met.ofW (cc := cX13_kind) (maxL := 1) (ret := (Option.some Jvm.ClassFile.FieldType.int)) (by decide) rfl ?_
  intro p e s m args below meth c s₁ B hml hv
  have hx := B.exec
  have hb := B.bytes
  have hr := B.returns
  have hts := atoms_spec (ws := (ws_ yX13_kind cX13_kind 1 (Option.some Jvm.ClassFile.FieldType.int))) B.pre
  have hts : ∀ w ∈ lw_all, w.before args s = true := fun w h => hts w (List.mem_cons_of_mem _ h)
  have hown : s.vm.findClass RX13 = some m.cls := findClass_of_methodNamed B.named
  have hlocks := B.notSynchronized
  obtain ⟨hav, hv⟩ := hv
  have C : CX p s m args c cX13_kind RX13 D dA := ⟨hx, hb, hown, hts, hv.2⟩
  have hw : CW D dA A s u s.heap [] := hv.1
  generalize hQ : MQ below (va_Qi (fun r u => r = r0 ∧ u = u9) (CPost D dA A) A) args s (u9.1 - u.1) (u9.2.1 - u.2.1) A = QQ
  have hent := lg_entry_eq m [.ref x0] 1
  rw [← hav] at hent
  rw [hent]
  have hl := lv_entry ([.ref x0]) (n := 1) (Nat.le_of_ble_eq_true rfl)
  generalize (lg_sl ([.ref x0]) ++ List.replicate (1 - (lg_sl ([.ref x0])).length) Slot.unset).toArray = ls at hl ⊢
  have hl : lv_has ls 1 [(0, .ref x0)] := hl
  obtain ⟨cc, ecc⟩ : ∃ z : Nat, z = 0 := ⟨0, rfl⟩
  obtain ⟨ss, ess⟩ : ∃ z : Nat, z = 0 := ⟨0, rfl⟩
  have hcc : cc + u.1 = u.1 := by omega
  have hss : ss + u.2.1 = u.2.1 := by omega
  suffices hgo : W p l e (rm_X13_kind (u9.1 - u.1) (u9.2.1 - u.2.1)) s m args below meth c s.heap [] cc ss QQ (F0 m 0 ls []) by rw [ecc, ess] at hgo; exact hgo
  have ⟨pu, qu, _, _⟩ := mo_X13_kind hm
  rw [m_X13_kind] at hm
  refine lv_iconst (v := 3) hx hb dX13_kind_0 (by decide) ?_
  obtain ⟨er, eh⟩ := retE hm
  have ec : cc = u9.1 - u.1 := by rw [← eh]; omega
  have es : ss = u9.2.1 - u.2.1 := by rw [← eh]; omega
  rw [ec, es, ← hQ]
  exact W.iret (v := (3 : Int32)) hx hb hr (fun t ht hW => ⟨⟨(3 : Int32), u, rfl, ⟨er, eh⟩, ⟨by rw [ht]; exact hw.1, by rw [ht]; exact hw.2.1⟩⟩, hw.2.2.1.F ht⟩) hw.2.2.1.2.2 dX13_kind_1
def m_X14_kind (f : Nat) (u : CH) (x0 : Nat) : Option (Int32 × CH) := some ((1 : Int32), u)
theorem mo_X14_kind {f : Nat} {u : CH} {x0 : Nat} {r0 : Int32} {u9 : CH} (hm : m_X14_kind f u x0 = some (r0, u9)) : le2 u u9 := by
  rw [m_X14_kind] at hm
  cases hm
  exact le2.rf
abbrev rm_X14_kind (mc ms : Nat) : Room := { frames := 0, cells := mc, slots := ms, locals := 0 }
set_option maxHeartbeats 4000000 in
set_option maxRecDepth 100000 in
theorem w_X14_kind (l : Launch) {D : va_G} {dA : Nat → ClassId} {A : Nat → Prop} {f : Nat} {u u9 : CH} {r0 : Int32} {x0 : Nat} (hm : m_X14_kind f u x0 = some (r0, u9)) : Met l yX14_kind (ws_ yX14_kind cX14_kind 1 (Option.some Jvm.ClassFile.FieldType.int)) (rm_X14_kind (u9.1 - u.1) (u9.2.1 - u.2.1)) (va_Pc [.ref x0] (CPre D dA A u)) (va_Qi (fun r u => r = r0 ∧ u = u9) (CPost D dA A) A) (u9.1 - u.1) (u9.2.1 - u.2.1) A := by
  refine Met.ofW (cc := cX14_kind) (maxL := 1) (ret := (Option.some Jvm.ClassFile.FieldType.int)) (by decide) rfl ?_
  intro p e s m args below meth c s₁ B hml hv
  have hx := B.exec
  have hb := B.bytes
  have hr := B.returns
  have hts := atoms_spec (ws := (ws_ yX14_kind cX14_kind 1 (Option.some Jvm.ClassFile.FieldType.int))) B.pre
  have hts : ∀ w ∈ lw_all, w.before args s = true := fun w h => hts w (List.mem_cons_of_mem _ h)
  have hown : s.vm.findClass RX14 = some m.cls := findClass_of_methodNamed B.named
  have hlocks := B.notSynchronized
  obtain ⟨hav, hv⟩ := hv
  have C : CX p s m args c cX14_kind RX14 D dA := ⟨hx, hb, hown, hts, hv.2⟩
  have hw : CW D dA A s u s.heap [] := hv.1
  generalize hQ : MQ below (va_Qi (fun r u => r = r0 ∧ u = u9) (CPost D dA A) A) args s (u9.1 - u.1) (u9.2.1 - u.2.1) A = QQ
  have hent := lg_entry_eq m [.ref x0] 1
  rw [← hav] at hent
  rw [hent]
  have hl := lv_entry ([.ref x0]) (n := 1) (Nat.le_of_ble_eq_true rfl)
  generalize (lg_sl ([.ref x0]) ++ List.replicate (1 - (lg_sl ([.ref x0])).length) Slot.unset).toArray = ls at hl ⊢
  have hl : lv_has ls 1 [(0, .ref x0)] := hl
  obtain ⟨cc, ecc⟩ : ∃ z : Nat, z = 0 := ⟨0, rfl⟩
  obtain ⟨ss, ess⟩ : ∃ z : Nat, z = 0 := ⟨0, rfl⟩
  have hcc : cc + u.1 = u.1 := by omega
  have hss : ss + u.2.1 = u.2.1 := by omega
  suffices hgo : W p l e (rm_X14_kind (u9.1 - u.1) (u9.2.1 - u.2.1)) s m args below meth c s.heap [] cc ss QQ (F0 m 0 ls []) by rw [ecc, ess] at hgo; exact hgo
  have ⟨pu, qu, _, _⟩ := mo_X14_kind hm
  rw [m_X14_kind] at hm
  refine lv_iconst (v := 1) hx hb dX14_kind_0 (by decide) ?_
  obtain ⟨er, eh⟩ := retE hm
  have ec : cc = u9.1 - u.1 := by rw [← eh]; omega
  have es : ss = u9.2.1 - u.2.1 := by rw [← eh]; omega
  rw [ec, es, ← hQ]
  exact W.iret (v := (1 : Int32)) hx hb hr (fun t ht hW => ⟨⟨(1 : Int32), u, rfl, ⟨er, eh⟩, ⟨by rw [ht]; exact hw.1, by rw [ht]; exact hw.2.1⟩⟩, hw.2.2.1.F ht⟩) hw.2.2.1.2.2 dX14_kind_1
def m_X15_kind (f : Nat) (u : CH) (x0 : Nat) : Option (Int32 × CH) := some ((2 : Int32), u)
theorem mo_X15_kind {f : Nat} {u : CH} {x0 : Nat} {r0 : Int32} {u9 : CH} (hm : m_X15_kind f u x0 = some (r0, u9)) : le2 u u9 := by
  rw [m_X15_kind] at hm
  cases hm
  exact le2.rf
abbrev rm_X15_kind (mc ms : Nat) : Room := { frames := 0, cells := mc, slots := ms, locals := 0 }
set_option maxHeartbeats 4000000 in
set_option maxRecDepth 100000 in
theorem w_X15_kind (l : Launch) {D : va_G} {dA : Nat → ClassId} {A : Nat → Prop} {f : Nat} {u u9 : CH} {r0 : Int32} {x0 : Nat} (hm : m_X15_kind f u x0 = some (r0, u9)) : Met l yX15_kind (ws_ yX15_kind cX15_kind 1 (Option.some Jvm.ClassFile.FieldType.int)) (rm_X15_kind (u9.1 - u.1) (u9.2.1 - u.2.1)) (va_Pc [.ref x0] (CPre D dA A u)) (va_Qi (fun r u => r = r0 ∧ u = u9) (CPost D dA A) A) (u9.1 - u.1) (u9.2.1 - u.2.1) A := by
  refine Met.ofW (cc := cX15_kind) (maxL := 1) (ret := (Option.some Jvm.ClassFile.FieldType.int)) (by decide) rfl ?_
  intro p e s m args below meth c s₁ B hml hv
  have hx := B.exec
  have hb := B.bytes
  have hr := B.returns
  have hts := atoms_spec (ws := (ws_ yX15_kind cX15_kind 1 (Option.some Jvm.ClassFile.FieldType.int))) B.pre
  have hts : ∀ w ∈ lw_all, w.before args s = true := fun w h => hts w (List.mem_cons_of_mem _ h)
  have hown : s.vm.findClass RX15 = some m.cls := findClass_of_methodNamed B.named
  have hlocks := B.notSynchronized
  obtain ⟨hav, hv⟩ := hv
  have C : CX p s m args c cX15_kind RX15 D dA := ⟨hx, hb, hown, hts, hv.2⟩
  have hw : CW D dA A s u s.heap [] := hv.1
  generalize hQ : MQ below (va_Qi (fun r u => r = r0 ∧ u = u9) (CPost D dA A) A) args s (u9.1 - u.1) (u9.2.1 - u.2.1) A = QQ
  have hent := lg_entry_eq m [.ref x0] 1
  rw [← hav] at hent
  rw [hent]
  have hl := lv_entry ([.ref x0]) (n := 1) (Nat.le_of_ble_eq_true rfl)
  generalize (lg_sl ([.ref x0]) ++ List.replicate (1 - (lg_sl ([.ref x0])).length) Slot.unset).toArray = ls at hl ⊢
  have hl : lv_has ls 1 [(0, .ref x0)] := hl
  obtain ⟨cc, ecc⟩ : ∃ z : Nat, z = 0 := ⟨0, rfl⟩
  obtain ⟨ss, ess⟩ : ∃ z : Nat, z = 0 := ⟨0, rfl⟩
  have hcc : cc + u.1 = u.1 := by omega
  have hss : ss + u.2.1 = u.2.1 := by omega
  suffices hgo : W p l e (rm_X15_kind (u9.1 - u.1) (u9.2.1 - u.2.1)) s m args below meth c s.heap [] cc ss QQ (F0 m 0 ls []) by rw [ecc, ess] at hgo; exact hgo
  have ⟨pu, qu, _, _⟩ := mo_X15_kind hm
  rw [m_X15_kind] at hm
  refine lv_iconst (v := 2) hx hb dX15_kind_0 (by decide) ?_
  obtain ⟨er, eh⟩ := retE hm
  have ec : cc = u9.1 - u.1 := by rw [← eh]; omega
  have es : ss = u9.2.1 - u.2.1 := by rw [← eh]; omega
  rw [ec, es, ← hQ]
  exact W.iret (v := (2 : Int32)) hx hb hr (fun t ht hW => ⟨⟨(2 : Int32), u, rfl, ⟨er, eh⟩, ⟨by rw [ht]; exact hw.1, by rw [ht]; exact hw.2.1⟩⟩, hw.2.2.1.F ht⟩) hw.2.2.1.2.2 dX15_kind_1
def m_X0_why_86 (f : Nat) (h : CH) (y0 : Nat) : Option (Int32 × CH) := if isC h y0 12 = true then
    bd (oI h 12 0 y0) fun v1 =>
    some (v1, h)
    else if isC h y0 13 = true then
    bd (oI h 13 0 y0) fun v3 =>
    some (v3, h)
    else bd (oI h 14 0 y0) fun v5 =>
    some (v5, h)
theorem mo_X0_why_86 {f : Nat} : ∀ (h : CH) (y0 : Nat) (r : (Int32 × CH)), m_X0_why_86 f h y0 = some r → le2 h r.2 := by
  intro h y0 r hm
  rw [m_X0_why_86] at hm
  by_cases c2 : isC h y0 12 = true
  · have hm := ifT hm c2
    obtain ⟨v1, ev1, hm⟩ := bdE hm
    cases hm
    exact le2.rf
  · have hm := ifF hm c2
    by_cases c4 : isC h y0 13 = true
    · have hm := ifT hm c4
      obtain ⟨v3, ev3, hm⟩ := bdE hm
      cases hm
      exact le2.rf
    · have hm := ifF hm c4
      obtain ⟨v5, ev5, hm⟩ := bdE hm
      cases hm
      exact le2.rf
def m_X0_why_70 (f : Nat) (h : CH) (y0 : Int32) : Option (Int32 × CH) := some (y0, h)
theorem mo_X0_why_70 {f : Nat} : ∀ (h : CH) (y0 : Int32) (r : (Int32 × CH)), m_X0_why_70 f h y0 = some r → le2 h r.2 := by
  intro h y0 r hm
  rw [m_X0_why_70] at hm
  cases hm
  exact le2.rf
def m_X0_why_67 (f : Nat) (h : CH) (y0 : Nat) : Option (Int32 × CH) := if isC h y0 12 = true then
    bd2 (m_X13_kind f h y0) fun r3 h2 =>
    m_X0_why_70 f h2 r3
    else if isC h y0 13 = true then
    bd2 (m_X14_kind f h y0) fun r6 h5 =>
    m_X0_why_70 f h5 r6
    else gd (isC h y0 14) <|
    bd2 (m_X15_kind f h y0) fun r9 h8 =>
    m_X0_why_70 f h8 r9
theorem mo_X0_why_67 {f : Nat} : ∀ (h : CH) (y0 : Nat) (r : (Int32 × CH)), m_X0_why_67 f h y0 = some r → le2 h r.2 := by
  intro h y0 r hm
  rw [m_X0_why_67] at hm
  by_cases c1 : isC h y0 12 = true
  · have hm := ifT hm c1
    obtain ⟨r3, h2, er3, hm⟩ := bd2E hm
    have lh2 := mo_X13_kind er3
    exact (lh2.tr (mo_X0_why_70  h2 r3 _ hm))
  · have hm := ifF hm c1
    by_cases c4 : isC h y0 13 = true
    · have hm := ifT hm c4
      obtain ⟨r6, h5, er6, hm⟩ := bd2E hm
      have lh5 := mo_X14_kind er6
      exact (lh5.tr (mo_X0_why_70  h5 r6 _ hm))
    · have hm := ifF hm c4
      obtain ⟨g7, hm⟩ := gdE hm
      obtain ⟨r9, h8, er9, hm⟩ := bd2E hm
      have lh8 := mo_X15_kind er9
      exact (lh8.tr (mo_X0_why_70  h8 r9 _ hm))
def m_X0_why (f : Nat) (u : CH) (x0 : Nat) (x1 : Int32) : Option (Int32 × CH) := bd (m_X0_isIn f (Int32.toInt64 x1) (0 : Int64) (3 : Int64)) fun r1 =>
    if ¬ r1 = 0 then
    bd (oQ u 1 13 x0) fun a3 =>
    if a3 = none then
    some ((-1 : Int32), u)
    else if x1 = (0 : Int32) then
    bd (oR u 1 13 x0) fun a6 =>
    bd (oI u 16 6 a6) fun v7 =>
    some (v7, u)
    else if x1 = (1 : Int32) then
    bd (oR u 1 13 x0) fun a9 =>
    gd (isC u a9 16) <|
    bd2 (m_X17_hindrance f u a9) fun a12 h11 =>
    m_X0_why_67 f h11 a12
    else if x1 = (2 : Int32) then
    bd (oR u 1 13 x0) fun a14 =>
    bd (oI u 16 7 a14) fun v15 =>
    some (v15, u)
    else bd (oR u 1 13 x0) fun a17 =>
    gd (isC u a17 16) <|
    bd2 (m_X17_hindrance f u a17) fun a20 h19 =>
    m_X0_why_86 f h19 a20
    else some ((-2 : Int32), u)
theorem mo_X0_why {f : Nat} {u : CH} {x0 : Nat} {x1 : Int32} {r0 : Int32} {u9 : CH} (hm : m_X0_why f u x0 x1 = some (r0, u9)) : le2 u u9 := by
  rw [m_X0_why] at hm
  obtain ⟨r1, er1, hm⟩ := bdE hm
  by_cases c2 : ¬ r1 = 0
  · have hm := ifT hm c2
    obtain ⟨a3, ea3, hm⟩ := bdE hm
    by_cases c4 : a3 = none
    · have hm := ifT hm c4
      cases hm
      exact le2.rf
    · have hm := ifF hm c4
      by_cases c5 : x1 = (0 : Int32)
      · have hm := ifT hm c5
        obtain ⟨a6, ea6, hm⟩ := bdE hm
        obtain ⟨v7, ev7, hm⟩ := bdE hm
        cases hm
        exact le2.rf
      · have hm := ifF hm c5
        by_cases c8 : x1 = (1 : Int32)
        · have hm := ifT hm c8
          obtain ⟨a9, ea9, hm⟩ := bdE hm
          obtain ⟨g10, hm⟩ := gdE hm
          obtain ⟨a12, h11, ea12, hm⟩ := bd2E hm
          have lh11 := mo_X17_hindrance ea12
          exact (lh11.tr (mo_X0_why_67  h11 a12 _ hm))
        · have hm := ifF hm c8
          by_cases c13 : x1 = (2 : Int32)
          · have hm := ifT hm c13
            obtain ⟨a14, ea14, hm⟩ := bdE hm
            obtain ⟨v15, ev15, hm⟩ := bdE hm
            cases hm
            exact le2.rf
          · have hm := ifF hm c13
            obtain ⟨a17, ea17, hm⟩ := bdE hm
            obtain ⟨g18, hm⟩ := gdE hm
            obtain ⟨a20, h19, ea20, hm⟩ := bd2E hm
            have lh19 := mo_X17_hindrance ea20
            exact (lh19.tr (mo_X0_why_86  h19 a20 _ hm))
  · have hm := ifF hm c2
    cases hm
    exact le2.rf
abbrev rm_X0_why (mc ms : Nat) : Room := { frames := 3, cells := mc, slots := ms, locals := 62 }
theorem cw_X0_why {R : Room} {s : State} {args : Array Value} {own : String} {idx mc ms : Nat} (hts : ∀ w ∈ lw_all, w.before args s = true) (hl : Cond.methodLink own idx yX0_why ∈ lw_all) (hR : 3 + 1 ≤ R.frames ∧ 8 + (2 + 11) + 62 ≤ R.locals) : CallW R s args own RX0 idx yX0_why cX0_why 2 (Option.some Jvm.ClassFile.FieldType.int) (ws_ yX0_why cX0_why 2 (Option.some Jvm.ClassFile.FieldType.int)) (rm_X0_why mc ms) mc ms 1 := cwV 1 hts (lw_V hl q1510 q1511 q119 q1512) rfl rfl rfl (by decide +kernel) hR
set_option maxHeartbeats 4000000 in
set_option maxRecDepth 100000 in
theorem w_X0_why (l : Launch) {D : va_G} {dA : Nat → ClassId} {A : Nat → Prop} {f : Nat} {u u9 : CH} {r0 : Int32} {x0 : Nat} {x1 : Int32} (hm : m_X0_why f u x0 x1 = some (r0, u9)) : Met l yX0_why (ws_ yX0_why cX0_why 2 (Option.some Jvm.ClassFile.FieldType.int)) (rm_X0_why (u9.1 - u.1) (u9.2.1 - u.2.1)) (va_Pc [.ref x0, .int x1] (CPre D dA A u)) (va_Qi (fun r u => r = r0 ∧ u = u9) (CPost D dA A) A) (u9.1 - u.1) (u9.2.1 - u.2.1) A := by
  refine Met.ofW (cc := cX0_why) (maxL := 2) (ret := (Option.some Jvm.ClassFile.FieldType.int)) (by decide) rfl ?_
  intro p e s m args below meth c s₁ B hml hv
  have hx := B.exec
  have hb := B.bytes
  have hr := B.returns
  have hts := atoms_spec (ws := (ws_ yX0_why cX0_why 2 (Option.some Jvm.ClassFile.FieldType.int))) B.pre
  have hts : ∀ w ∈ lw_all, w.before args s = true := fun w h => hts w (List.mem_cons_of_mem _ h)
  have hown : s.vm.findClass RX0 = some m.cls := findClass_of_methodNamed B.named
  have hlocks := B.notSynchronized
  obtain ⟨hav, hv⟩ := hv
  have C : CX p s m args c cX0_why RX0 D dA := ⟨hx, hb, hown, hts, hv.2⟩
  have hw : CW D dA A s u s.heap [] := hv.1
  generalize hQ : MQ below (va_Qi (fun r u => r = r0 ∧ u = u9) (CPost D dA A) A) args s (u9.1 - u.1) (u9.2.1 - u.2.1) A = QQ
  have hent := lg_entry_eq m [.ref x0, .int x1] 2
  rw [← hav] at hent
  rw [hent]
  have hl := lv_entry ([.ref x0, .int x1]) (n := 2) (Nat.le_of_ble_eq_true rfl)
  generalize (lg_sl ([.ref x0, .int x1]) ++ List.replicate (2 - (lg_sl ([.ref x0, .int x1])).length) Slot.unset).toArray = ls at hl ⊢
  have hl : lv_has ls 2 [(0, .ref x0), (1, .int x1)] := hl
  obtain ⟨cc, ecc⟩ : ∃ z : Nat, z = 0 := ⟨0, rfl⟩
  obtain ⟨ss, ess⟩ : ∃ z : Nat, z = 0 := ⟨0, rfl⟩
  have hcc : cc + u.1 = u.1 := by omega
  have hss : ss + u.2.1 = u.2.1 := by omega
  suffices hgo : W p l e (rm_X0_why (u9.1 - u.1) (u9.2.1 - u.2.1)) s m args below meth c s.heap [] cc ss QQ (F0 m 0 ls []) by rw [ecc, ess] at hgo; exact hgo
  have ⟨pu, qu, _, _⟩ := mo_X0_why hm
  have hB86 : ∀ (h : CH) (y0 : Nat) (cc ss : Nat) (H : Heap) (locs : List Loc) (ls : Array Slot), m_X0_why_86 f h y0 = some (r0, u9) → CW D dA A s h H locs → cc + u.1 = h.1 → ss + u.2.1 = h.2.1 → lv_has ls 2 [] → W p l e (rm_X0_why (u9.1 - u.1) (u9.2.1 - u.2.1)) s m args below meth c H locs cc ss QQ (F0 m 86 ls [.ref y0]) := by
    intro h y0 cc ss H locs ls hm hw hcc hss hl
    have hmo := mo_X0_why_86  h y0 _ hm
    have sb_ : h.1 ≤ u9.1 := hmo.1
    have tb_ : h.2.1 ≤ u9.2.1 := hmo.2.1
    rw [m_X0_why_86] at hm
    by_cases c2 : isC h y0 12 = true
    · have hm := ifT hm c2
      obtain ⟨v1, ev1, hm⟩ := bdE hm
      refine cg_getN C hw (by decide) (oI_E ev1) rfl in_X13 (by decide) (hw.2.2.2.2.1 _ (List.mem_of_getElem? (i := 33) rfl)) dX0_why_86 ?_
      obtain ⟨er, eh⟩ := retE hm
      have ec : cc = u9.1 - u.1 := by rw [← eh]; omega
      have es : ss = u9.2.1 - u.2.1 := by rw [← eh]; omega
      rw [ec, es, ← hQ]
      exact W.iret (v := v1) hx hb hr (fun t ht hW => ⟨⟨v1, h, rfl, ⟨er, eh⟩, ⟨by rw [ht]; exact hw.1, by rw [ht]; exact hw.2.1⟩⟩, hw.2.2.1.F ht⟩) hw.2.2.1.2.2 dX0_why_89
    · have hm := ifF hm c2
      by_cases c4 : isC h y0 13 = true
      · have hm := ifT hm c4
        obtain ⟨v3, ev3, hm⟩ := bdE hm
        refine cg_getN C hw (by decide) (oI_E ev3) rfl in_X14 (by decide) (hw.2.2.2.2.1 _ (List.mem_of_getElem? (i := 33) rfl)) dX0_why_86 ?_
        obtain ⟨er, eh⟩ := retE hm
        have ec : cc = u9.1 - u.1 := by rw [← eh]; omega
        have es : ss = u9.2.1 - u.2.1 := by rw [← eh]; omega
        rw [ec, es, ← hQ]
        exact W.iret (v := v3) hx hb hr (fun t ht hW => ⟨⟨v3, h, rfl, ⟨er, eh⟩, ⟨by rw [ht]; exact hw.1, by rw [ht]; exact hw.2.1⟩⟩, hw.2.2.1.F ht⟩) hw.2.2.1.2.2 dX0_why_89
      · have hm := ifF hm c4
        obtain ⟨v5, ev5, hm⟩ := bdE hm
        refine cg_getN C hw (by decide) (oI_E ev5) rfl in_X15 (by decide) (hw.2.2.2.2.1 _ (List.mem_of_getElem? (i := 33) rfl)) dX0_why_86 ?_
        obtain ⟨er, eh⟩ := retE hm
        have ec : cc = u9.1 - u.1 := by rw [← eh]; omega
        have es : ss = u9.2.1 - u.2.1 := by rw [← eh]; omega
        rw [ec, es, ← hQ]
        exact W.iret (v := v5) hx hb hr (fun t ht hW => ⟨⟨v5, h, rfl, ⟨er, eh⟩, ⟨by rw [ht]; exact hw.1, by rw [ht]; exact hw.2.1⟩⟩, hw.2.2.1.F ht⟩) hw.2.2.1.2.2 dX0_why_89
  have hB70 : ∀ (h : CH) (y0 : Int32) (cc ss : Nat) (H : Heap) (locs : List Loc) (ls : Array Slot), m_X0_why_70 f h y0 = some (r0, u9) → CW D dA A s h H locs → cc + u.1 = h.1 → ss + u.2.1 = h.2.1 → lv_has ls 2 [] → W p l e (rm_X0_why (u9.1 - u.1) (u9.2.1 - u.2.1)) s m args below meth c H locs cc ss QQ (F0 m 70 ls [.int y0]) := by
    intro h y0 cc ss H locs ls hm hw hcc hss hl
    have hmo := mo_X0_why_70  h y0 _ hm
    have sb_ : h.1 ≤ u9.1 := hmo.1
    have tb_ : h.2.1 ≤ u9.2.1 := hmo.2.1
    rw [m_X0_why_70] at hm
    obtain ⟨er, eh⟩ := retE hm
    have ec : cc = u9.1 - u.1 := by rw [← eh]; omega
    have es : ss = u9.2.1 - u.2.1 := by rw [← eh]; omega
    rw [ec, es, ← hQ]
    exact W.iret (v := y0) hx hb hr (fun t ht hW => ⟨⟨y0, h, rfl, ⟨er, eh⟩, ⟨by rw [ht]; exact hw.1, by rw [ht]; exact hw.2.1⟩⟩, hw.2.2.1.F ht⟩) hw.2.2.1.2.2 dX0_why_70
  have hB67 : ∀ (h : CH) (y0 : Nat) (cc ss : Nat) (H : Heap) (locs : List Loc) (ls : Array Slot), m_X0_why_67 f h y0 = some (r0, u9) → CW D dA A s h H locs → cc + u.1 = h.1 → ss + u.2.1 = h.2.1 → lv_has ls 2 [] → W p l e (rm_X0_why (u9.1 - u.1) (u9.2.1 - u.2.1)) s m args below meth c H locs cc ss QQ (F0 m 67 ls [.ref y0]) := by
    intro h y0 cc ss H locs ls hm hw hcc hss hl
    have hmo := mo_X0_why_67  h y0 _ hm
    have sb_ : h.1 ≤ u9.1 := hmo.1
    have tb_ : h.2.1 ≤ u9.2.1 := hmo.2.1
    rw [m_X0_why_67] at hm
    by_cases c1 : isC h y0 12 = true
    · have hm := ifT hm c1
      obtain ⟨r3, h2, er3, hm⟩ := bd2E hm
      have lh2 := mo_X13_kind er3
      have ph2 : h.1 ≤ h2.1 := lh2.1
      have qh2 : h.2.1 ≤ h2.2.1 := lh2.2.1
      have hmo := mo_X0_why_70   h2 r3 _ hm
      have sh2 : h2.1 ≤ u9.1 := hmo.1
      have th2 : h2.2.1 ≤ u9.2.1 := hmo.2.1
      refine cg_calli hw lh2 (va_runU (As := []) (rest := []) ⟨hx, hb, hml, hown, hts⟩ (w_X13_kind l er3) (cwA 0 hts q1524 q1526 (hw.2.2.2.2.1 _ (List.mem_of_getElem? (i := 46) rfl)) q1530 q1531 q150 q1532 rfl rfl (by decide +kernel) ⟨Nat.le_of_ble_eq_true rfl, Nat.le_of_ble_eq_true rfl⟩) (cg_preV C hw c1 rfl _) rfl rfl hl.1 rfl (lv_room (Nat.le_of_ble_eq_true rfl)) dX0_why_67 ⟨show cc + (h2.1 - h.1) ≤ u9.1 - u.1 by omega, show ss + (h2.2.1 - h.2.1) ≤ u9.2.1 - u.2.1 by omega⟩) (fun H locs hw => ?_)
      exact hB70 h2 r3 _ _ _ _ _ hm hw (by omega) (by omega) (lv_sub hl [] rfl)
    · have hm := ifF hm c1
      by_cases c4 : isC h y0 13 = true
      · have hm := ifT hm c4
        obtain ⟨r6, h5, er6, hm⟩ := bd2E hm
        have lh5 := mo_X14_kind er6
        have ph5 : h.1 ≤ h5.1 := lh5.1
        have qh5 : h.2.1 ≤ h5.2.1 := lh5.2.1
        have hmo := mo_X0_why_70   h5 r6 _ hm
        have sh5 : h5.1 ≤ u9.1 := hmo.1
        have th5 : h5.2.1 ≤ u9.2.1 := hmo.2.1
        refine cg_calli hw lh5 (va_runU (As := []) (rest := []) ⟨hx, hb, hml, hown, hts⟩ (w_X14_kind l er6) (cwA 0 hts q1524 q1526 (hw.2.2.2.2.1 _ (List.mem_of_getElem? (i := 46) rfl)) q1533 q1534 q151 q1535 rfl rfl (by decide +kernel) ⟨Nat.le_of_ble_eq_true rfl, Nat.le_of_ble_eq_true rfl⟩) (cg_preV C hw c4 rfl _) rfl rfl hl.1 rfl (lv_room (Nat.le_of_ble_eq_true rfl)) dX0_why_67 ⟨show cc + (h5.1 - h.1) ≤ u9.1 - u.1 by omega, show ss + (h5.2.1 - h.2.1) ≤ u9.2.1 - u.2.1 by omega⟩) (fun H locs hw => ?_)
        exact hB70 h5 r6 _ _ _ _ _ hm hw (by omega) (by omega) (lv_sub hl [] rfl)
      · have hm := ifF hm c4
        obtain ⟨g7, hm⟩ := gdE hm
        obtain ⟨r9, h8, er9, hm⟩ := bd2E hm
        have lh8 := mo_X15_kind er9
        have ph8 : h.1 ≤ h8.1 := lh8.1
        have qh8 : h.2.1 ≤ h8.2.1 := lh8.2.1
        have hmo := mo_X0_why_70   h8 r9 _ hm
        have sh8 : h8.1 ≤ u9.1 := hmo.1
        have th8 : h8.2.1 ≤ u9.2.1 := hmo.2.1
        refine cg_calli hw lh8 (va_runU (As := []) (rest := []) ⟨hx, hb, hml, hown, hts⟩ (w_X15_kind l er9) (cwA 0 hts q1524 q1526 (hw.2.2.2.2.1 _ (List.mem_of_getElem? (i := 46) rfl)) q1527 q1528 q152 q1529 rfl rfl (by decide +kernel) ⟨Nat.le_of_ble_eq_true rfl, Nat.le_of_ble_eq_true rfl⟩) (cg_preV C hw g7 rfl _) rfl rfl hl.1 rfl (lv_room (Nat.le_of_ble_eq_true rfl)) dX0_why_67 ⟨show cc + (h8.1 - h.1) ≤ u9.1 - u.1 by omega, show ss + (h8.2.1 - h.2.1) ≤ u9.2.1 - u.2.1 by omega⟩) (fun H locs hw => ?_)
        exact hB70 h8 r9 _ _ _ _ _ hm hw (by omega) (by omega) (lv_sub hl [] rfl)
  rw [m_X0_why] at hm
  refine lv_iload_n hx hb dX0_why_0 rfl (lv_at hl 1 rfl) ?_
  refine lv_i2l hx hb dX0_why_1 rfl ?_
  refine lv_lconst (v := 0) hx hb dX0_why_2 (by decide) ?_
  refine lv_ldc2 hx hb hown (hts _ q1049) dX0_why_3 ?_
  obtain ⟨r1, er1, hm⟩ := bdE hm
  refine sci (va_runS (As := [.long (Int32.toInt64 x1), .long (0 : Int64), .long (3 : Int64)]) (rest := []) ⟨hx, hb, hml, hown, hts⟩ (w_X0_isIn l er1) (cw_X0_isIn hts q297 ⟨Nat.le_of_ble_eq_true rfl, Nat.le_of_ble_eq_true rfl⟩) (pre_s _) rfl rfl hl.1 rfl (lv_room (Nat.le_of_ble_eq_true rfl)) dX0_why_6 ⟨show cc + 0 ≤ u9.1 - u.1 by omega, show ss + 0 ≤ u9.2.1 - u.2.1 by omega⟩) ?_
  refine lv_if_ne (tgt := 15) hx hb dX0_why_9 (by decide) (fun c2 => ?_) (fun c2 => ?_)
  · have hm := ifT hm c2
    refine lv_aload_n hx hb dX0_why_15 rfl (lv_at hl 0 rfl) ?_
    obtain ⟨a3, ea3, hm⟩ := bdE hm
    refine cg_get C hw (oQ_E ea3) rfl in_X0 (by decide) q252 dX0_why_16 ?_
    by_cases c4 : a3 = none
    · have hm := ifT hm c4
      rw [c4]
      refine lv_ifnonnullN hx hb dX0_why_19 ?_
      refine lv_iconst (v := -1) hx hb dX0_why_22 (by decide) ?_
      obtain ⟨er, eh⟩ := retE hm
      have ec : cc = u9.1 - u.1 := by rw [← eh]; omega
      have es : ss = u9.2.1 - u.2.1 := by rw [← eh]; omega
      rw [ec, es, ← hQ]
      exact W.iret (v := (-1 : Int32)) hx hb hr (fun t ht hW => ⟨⟨(-1 : Int32), u, rfl, ⟨er, eh⟩, ⟨by rw [ht]; exact hw.1, by rw [ht]; exact hw.2.1⟩⟩, hw.2.2.1.F ht⟩) hw.2.2.1.2.2 dX0_why_23
    · have hm := ifF hm c4
      obtain ⟨b9, eb9⟩ := Option.ne_none_iff_exists'.mp c4
      rw [eb9]
      refine lv_ifnonnull (tgt := 24) hx hb dX0_why_19 (by decide) ?_
      refine lv_iload_n hx hb dX0_why_24 rfl (lv_at hl 1 rfl) ?_
      by_cases c5 : x1 = (0 : Int32)
      · have hm := ifT hm c5
        rw [c5]
        refine lv_tableIn (tgt := 52) (off := 27) hx hb dX0_why_25 (by decide) (by decide) (by decide) (by decide) ?_
        refine lv_aload_n hx hb dX0_why_52 rfl (lv_at hl 0 rfl) ?_
        obtain ⟨a6, ea6, hm⟩ := bdE hm
        refine cg_get C hw (oR_E ea6) rfl in_X0 (by decide) q252 dX0_why_53 ?_
        obtain ⟨v7, ev7, hm⟩ := bdE hm
        refine cg_getN C hw (by decide) (oI_E ev7) rfl in_X17 (by decide) (hw.2.2.2.2.1 _ (List.mem_of_getElem? (i := 36) rfl)) dX0_why_56 ?_
        obtain ⟨er, eh⟩ := retE hm
        have ec : cc = u9.1 - u.1 := by rw [← eh]; omega
        have es : ss = u9.2.1 - u.2.1 := by rw [← eh]; omega
        rw [ec, es, ← hQ]
        exact W.iret (v := v7) hx hb hr (fun t ht hW => ⟨⟨v7, u, rfl, ⟨er, eh⟩, ⟨by rw [ht]; exact hw.1, by rw [ht]; exact hw.2.1⟩⟩, hw.2.2.1.F ht⟩) hw.2.2.1.2.2 dX0_why_59
      · have hm := ifF hm c5
        by_cases c8 : x1 = (1 : Int32)
        · have hm := ifT hm c8
          rw [c8]
          refine lv_tableIn (tgt := 60) (off := 35) hx hb dX0_why_25 (by decide) (by decide) (by decide) (by decide) ?_
          refine lv_aload_n hx hb dX0_why_60 rfl (lv_at hl 0 rfl) ?_
          obtain ⟨a9, ea9, hm⟩ := bdE hm
          refine cg_get C hw (oR_E ea9) rfl in_X0 (by decide) q252 dX0_why_61 ?_
          obtain ⟨g10, hm⟩ := gdE hm
          obtain ⟨a12, h11, ea12, hm⟩ := bd2E hm
          have lh11 := mo_X17_hindrance ea12
          have ph11 : u.1 ≤ h11.1 := lh11.1
          have qh11 : u.2.1 ≤ h11.2.1 := lh11.2.1
          have hmo := mo_X0_why_67   h11 a12 _ hm
          have sh11 : h11.1 ≤ u9.1 := hmo.1
          have th11 : h11.2.1 ≤ u9.2.1 := hmo.2.1
          refine cg_callr hw lh11 (va_runV (As := []) (rest := []) ⟨hx, hb, hml, hown, hts⟩ (w_X17_hindrance l ea12) (cw_X17_hindrance hts q1513 ⟨Nat.le_of_ble_eq_true rfl, Nat.le_of_ble_eq_true rfl⟩) (cg_preV C hw g10 rfl _) rfl rfl hl.1 rfl (lv_room (Nat.le_of_ble_eq_true rfl)) dX0_why_64 ⟨show cc + (h11.1 - u.1) ≤ u9.1 - u.1 by omega, show ss + (h11.2.1 - u.2.1) ≤ u9.2.1 - u.2.1 by omega⟩) (fun H locs hw => ?_)
          exact hB67 h11 a12 _ _ _ _ _ hm hw (by omega) (by omega) (lv_sub hl [] rfl)
        · have hm := ifF hm c8
          by_cases c13 : x1 = (2 : Int32)
          · have hm := ifT hm c13
            rw [c13]
            refine lv_tableIn (tgt := 71) (off := 46) hx hb dX0_why_25 (by decide) (by decide) (by decide) (by decide) ?_
            refine lv_aload_n hx hb dX0_why_71 rfl (lv_at hl 0 rfl) ?_
            obtain ⟨a14, ea14, hm⟩ := bdE hm
            refine cg_get C hw (oR_E ea14) rfl in_X0 (by decide) q252 dX0_why_72 ?_
            obtain ⟨v15, ev15, hm⟩ := bdE hm
            refine cg_getN C hw (by decide) (oI_E ev15) rfl in_X17 (by decide) (hw.2.2.2.2.1 _ (List.mem_of_getElem? (i := 37) rfl)) dX0_why_75 ?_
            obtain ⟨er, eh⟩ := retE hm
            have ec : cc = u9.1 - u.1 := by rw [← eh]; omega
            have es : ss = u9.2.1 - u.2.1 := by rw [← eh]; omega
            rw [ec, es, ← hQ]
            exact W.iret (v := v15) hx hb hr (fun t ht hW => ⟨⟨v15, u, rfl, ⟨er, eh⟩, ⟨by rw [ht]; exact hw.1, by rw [ht]; exact hw.2.1⟩⟩, hw.2.2.1.F ht⟩) hw.2.2.1.2.2 dX0_why_78
          · have hm := ifF hm c13
            have c16 : Int32.toInt x1 < 0 ∨ 2 < Int32.toInt x1 := by
              rcases Int.lt_or_le (Int32.toInt x1) 0 with h | h
              · exact Or.inl h
              · rcases Int.lt_or_le 2 (Int32.toInt x1) with h2 | h2
                · exact Or.inr h2
                · rcases (show Int32.toInt x1 = 0 ∨ Int32.toInt x1 = 1 ∨ Int32.toInt x1 = 2 by omega) with h3 | h3 | h3
                  · exact absurd (i32_of_toInt _ h3) c5
                  · exact absurd (i32_of_toInt _ h3) c8
                  · exact absurd (i32_of_toInt _ h3) c13
            refine lv_tableOut (tgt := 79) hx hb dX0_why_25 c16 (by decide) ?_
            refine lv_aload_n hx hb dX0_why_79 rfl (lv_at hl 0 rfl) ?_
            obtain ⟨a17, ea17, hm⟩ := bdE hm
            refine cg_get C hw (oR_E ea17) rfl in_X0 (by decide) q252 dX0_why_80 ?_
            obtain ⟨g18, hm⟩ := gdE hm
            obtain ⟨a20, h19, ea20, hm⟩ := bd2E hm
            have lh19 := mo_X17_hindrance ea20
            have ph19 : u.1 ≤ h19.1 := lh19.1
            have qh19 : u.2.1 ≤ h19.2.1 := lh19.2.1
            have hmo := mo_X0_why_86   h19 a20 _ hm
            have sh19 : h19.1 ≤ u9.1 := hmo.1
            have th19 : h19.2.1 ≤ u9.2.1 := hmo.2.1
            refine cg_callr hw lh19 (va_runV (As := []) (rest := []) ⟨hx, hb, hml, hown, hts⟩ (w_X17_hindrance l ea20) (cw_X17_hindrance hts q1513 ⟨Nat.le_of_ble_eq_true rfl, Nat.le_of_ble_eq_true rfl⟩) (cg_preV C hw g18 rfl _) rfl rfl hl.1 rfl (lv_room (Nat.le_of_ble_eq_true rfl)) dX0_why_83 ⟨show cc + (h19.1 - u.1) ≤ u9.1 - u.1 by omega, show ss + (h19.2.1 - u.2.1) ≤ u9.2.1 - u.2.1 by omega⟩) (fun H locs hw => ?_)
            exact hB86 h19 a20 _ _ _ _ _ hm hw (by omega) (by omega) (lv_sub hl [] rfl)
  · have hm := ifT' hm c2
    refine lv_bipush (v := -2) hx hb dX0_why_12 (by decide) ?_
    obtain ⟨er, eh⟩ := retE hm
    have ec : cc = u9.1 - u.1 := by rw [← eh]; omega
    have es : ss = u9.2.1 - u.2.1 := by rw [← eh]; omega
    rw [ec, es, ← hQ]
    exact W.iret (v := (-2 : Int32)) hx hb hr (fun t ht hW => ⟨⟨(-2 : Int32), u, rfl, ⟨er, eh⟩, ⟨by rw [ht]; exact hw.1, by rw [ht]; exact hw.2.1⟩⟩, hw.2.2.1.F ht⟩) hw.2.2.1.2.2 dX0_why_14
def m_J2_fastRemove_34 (f : Nat) (h : CH) (x0 : Nat) (x1 : Nat) (x3 : Int32) : Option CH := bd (pF h 17 2 x0 (.int x3)) fun h1 =>
    bd (uQ h1 3 x1 x3 none) fun h2 =>
    some h2
theorem mo_J2_fastRemove_34 {f : Nat} : ∀ (h : CH) (x0 : Nat) (x1 : Nat) (x3 : Int32) (r : CH), m_J2_fastRemove_34 f h x0 x1 x3 = some r → le2 h r := by
  intro h x0 x1 x3 r hm
  rw [m_J2_fastRemove_34] at hm
  obtain ⟨h1, eh1, hm⟩ := bdE hm
  have lh1 := pF_le eh1
  obtain ⟨h2, eh2, hm⟩ := bdE hm
  have lh2 := uQ_le eh2
  cases hm
  exact (lh1.tr (lh2.tr le2.rf))
def m_J2_fastRemove (f : Nat) (u : CH) (x0 : Nat) (x1 : Nat) (x2 : Int32) : Option CH := bd (oI u 17 0 x0) fun v1 =>
    bd (pF u 17 0 x0 (.int (v1 + (1 : Int32)))) fun h2 =>
    bd (oI h2 17 2 x0) fun v3 =>
    nmv ((v3 - (1 : Int32)) : Int32) fun v4 =>
    if (v3 - (1 : Int32)) ≤ x2 then
    m_J2_fastRemove_34 f h2 x0 x1 v4
    else bd (cpO h2 x1 (x2 + (1 : Int32)) x1 x2 (v4 - x2)) fun h6 =>
    m_J2_fastRemove_34 f h6 x0 x1 v4
theorem mo_J2_fastRemove {f : Nat} {u : CH} {x0 : Nat} {x1 : Nat} {x2 : Int32} {u9 : CH} (hm : m_J2_fastRemove f u x0 x1 x2 = some u9) : le2 u u9 := by
  rw [m_J2_fastRemove] at hm
  obtain ⟨v1, ev1, hm⟩ := bdE hm
  obtain ⟨h2, eh2, hm⟩ := bdE hm
  have lh2 := pF_le eh2
  obtain ⟨v3, ev3, hm⟩ := bdE hm
  obtain ⟨v4, ev4, hm⟩ := nmE hm
  by_cases c5 : (v3 - (1 : Int32)) ≤ x2
  · have hm := ifT hm c5
    exact (lh2.tr (mo_J2_fastRemove_34  h2 x0 x1 v4 _ hm))
  · have hm := ifF hm c5
    obtain ⟨h6, eh6, hm⟩ := bdE hm
    have lh6 := cpO_le eh6
    exact (lh2.tr (lh6.tr (mo_J2_fastRemove_34  h6 x0 x1 v4 _ hm)))
abbrev rm_J2_fastRemove (mc ms : Nat) : Room := { frames := 1, cells := mc, slots := ms, locals := 60 }
theorem cw_J2_fastRemove {R : Room} {s : State} {args : Array Value} {own : String} {idx mc ms : Nat} (hts : ∀ w ∈ lw_all, w.before args s = true) (hl : Cond.methodLink own idx yJ2_fastRemove ∈ lw_all) (hR : 1 + 1 ≤ R.frames ∧ 8 + (4 + 11) + 60 ≤ R.locals) : CallW R s args own RJ2 idx yJ2_fastRemove cJ2_fastRemove 4 (Option.none : Option Jvm.ClassFile.FieldType) (ws_ yJ2_fastRemove cJ2_fastRemove 4 (Option.none : Option Jvm.ClassFile.FieldType)) (rm_J2_fastRemove mc ms) mc ms 2 := cwV 2 hts (lw_V hl q1554 qs53 q122 q1555) rfl rfl rfl (by decide +kernel) hR
set_option maxHeartbeats 4000000 in
set_option maxRecDepth 100000 in
theorem w_J2_fastRemove (l : Launch) {D : va_G} {dA : Nat → ClassId} {A : Nat → Prop} {f : Nat} {u u9 : CH} {x0 : Nat} {x1 : Nat} {x2 : Int32} (hm : m_J2_fastRemove f u x0 x1 x2 = some u9) : Met l yJ2_fastRemove (ws_ yJ2_fastRemove cJ2_fastRemove 4 (Option.none : Option Jvm.ClassFile.FieldType)) (rm_J2_fastRemove (u9.1 - u.1) (u9.2.1 - u.2.1)) (va_Pc [.ref x0, .ref x1, .int x2] (CPre D dA A u)) (va_Qv (fun u => u = u9) (CPost D dA A) A) (u9.1 - u.1) (u9.2.1 - u.2.1) A := by
  refine metOfWF (cc := cJ2_fastRemove) (maxL := 4) (ret := (Option.none : Option Jvm.ClassFile.FieldType)) (by decide +kernel) rfl ?_
  intro p e s m args below meth c s₁ B hml hv
  have hx := B.exec
  have hb := B.bytes
  have hr := B.returns
  have hts := atoms_spec (ws := (ws_ yJ2_fastRemove cJ2_fastRemove 4 (Option.none : Option Jvm.ClassFile.FieldType))) B.pre
  have hts : ∀ w ∈ lw_all, w.before args s = true := fun w h => hts w (List.mem_cons_of_mem _ h)
  have hown : s.vm.findClass RJ2 = some m.cls := findClass_of_methodNamed B.named
  have hlocks := B.notSynchronized
  obtain ⟨hav, hv⟩ := hv
  have C : CX p s m args c cJ2_fastRemove RJ2 D dA := ⟨hx, hb, hown, hts, hv.2⟩
  have hw : CW D dA A s u s.heap [] := hv.1
  generalize hQ : MQ below (va_Qv (fun u => u = u9) (CPost D dA A) A) args s (u9.1 - u.1) (u9.2.1 - u.2.1) A = QQ
  have hent := lg_entry_eq m [.ref x0, .ref x1, .int x2] 4
  rw [← hav] at hent
  rw [hent]
  have hl := lv_entry ([.ref x0, .ref x1, .int x2]) (n := 4) (Nat.le_of_ble_eq_true rfl)
  generalize (lg_sl ([.ref x0, .ref x1, .int x2]) ++ List.replicate (4 - (lg_sl ([.ref x0, .ref x1, .int x2])).length) Slot.unset).toArray = ls at hl ⊢
  have hl : lv_has ls 4 [(0, .ref x0), (1, .ref x1), (2, .int x2)] := hl
  obtain ⟨cc, ecc⟩ : ∃ z : Nat, z = 0 := ⟨0, rfl⟩
  obtain ⟨ss, ess⟩ : ∃ z : Nat, z = 0 := ⟨0, rfl⟩
  have hcc : cc + u.1 = u.1 := by omega
  have hss : ss + u.2.1 = u.2.1 := by omega
  suffices hgo : W p l e (rm_J2_fastRemove (u9.1 - u.1) (u9.2.1 - u.2.1)) s m args below meth c s.heap [] cc ss QQ (F0 m 0 ls []) by rw [ecc, ess] at hgo; exact hgo
  have ⟨pu, qu, _, _⟩ := mo_J2_fastRemove hm
  have hB34 : ∀ (h : CH) (x0 : Nat) (x1 : Nat) (x3 : Int32) (cc ss : Nat) (H : Heap) (locs : List Loc) (ls : Array Slot), m_J2_fastRemove_34 f h x0 x1 x3 = some u9 → CW D dA A s h H locs → cc + u.1 = h.1 → ss + u.2.1 = h.2.1 → lv_has ls 4 [(0, .ref x0), (1, .ref x1), (3, .int x3)] → W p l e (rm_J2_fastRemove (u9.1 - u.1) (u9.2.1 - u.2.1)) s m args below meth c H locs cc ss QQ (F0 m 34 ls []) := by
    intro h x0 x1 x3 cc ss H locs ls hm hw hcc hss hl
    have hmo := mo_J2_fastRemove_34  h x0 x1 x3 _ hm
    have sb_ : h.1 ≤ u9.1 := hmo.1
    have tb_ : h.2.1 ≤ u9.2.1 := hmo.2.1
    rw [m_J2_fastRemove_34] at hm
    refine lv_aload_n hx hb dJ2_fastRemove_34 rfl (lv_at hl 1 rfl) ?_
    refine lv_aload_n hx hb dJ2_fastRemove_35 rfl (lv_at hl 0 rfl) ?_
    refine lv_iload_n hx hb dJ2_fastRemove_36 rfl (lv_at hl 2 rfl) ?_
    refine lv_dup_x1 hx hb dJ2_fastRemove_37 rfl rfl ?_
    obtain ⟨h1, eh1, hm⟩ := bdE hm
    refine cg_put C hw eh1 rfl in_J2 tyJ2 tyJ2_ok nmJ2 (by decide) q180 rfl rfl rfl dJ2_fastRemove_38 (fun H locs hw => ?_)
    have zh1 := pF_sz eh1
    refine lv_null hx hb dJ2_fastRemove_41 ?_
    obtain ⟨h2, eh2, hm⟩ := bdE hm
    refine cg_aastN C hw eh2 dJ2_fastRemove_42 (fun H locs hw => ?_)
    have zh2 := uQ_sz eh2
    have eh := ret1 hm
    have ec : cc = u9.1 - u.1 := by rw [← eh]; omega
    have es : ss = u9.2.1 - u.2.1 := by rw [← eh]; omega
    rw [ec, es, ← hQ]
    exact W.vret hx hb hr (fun t ht hW => ⟨⟨h2, rfl, eh, ⟨by rw [ht]; exact hw.1, by rw [ht]; exact hw.2.1⟩⟩, hw.2.2.1.F ht⟩) hw.2.2.1.2.2 dJ2_fastRemove_43
  rw [m_J2_fastRemove] at hm
  refine lv_aload_n hx hb dJ2_fastRemove_0 rfl (lv_at hl 0 rfl) ?_
  refine lv_dup hx hb dJ2_fastRemove_1 rfl ?_
  obtain ⟨v1, ev1, hm⟩ := bdE hm
  refine cg_getM C hw (oI_E ev1) rfl in_J2 (by decide) q182 q183 dJ2_fastRemove_2 ?_
  refine lv_iconst (v := 1) hx hb dJ2_fastRemove_5 (by decide) ?_
  refine lv_iadd hx hb dJ2_fastRemove_6 ?_
  obtain ⟨h2, eh2, hm⟩ := bdE hm
  refine cg_putM C hw eh2 rfl in_J2 tyJ2 tyJ2_ok nmJ2 (by decide) q182 q183 rfl rfl rfl dJ2_fastRemove_7 (fun H locs hw => ?_)
  have zh2 := pF_sz eh2
  refine lv_aload_n hx hb dJ2_fastRemove_10 rfl (lv_at hl 0 rfl) ?_
  obtain ⟨v3, ev3, hm⟩ := bdE hm
  refine cg_get C hw (oI_E ev3) rfl in_J2 (by decide) q180 dJ2_fastRemove_11 ?_
  refine lv_iconst (v := 1) hx hb dJ2_fastRemove_14 (by decide) ?_
  refine lv_isub hx hb dJ2_fastRemove_15 ?_
  refine lv_dup hx hb dJ2_fastRemove_16 rfl ?_
  refine lv_topi (fun v4 ev4 => ?_)
  have hm := nmK hm ev4
  refine lv_istore_n (lv' := [(3, .int v4), (0, .ref x0), (1, .ref x1), (2, .int x2)]) hx hb dJ2_fastRemove_17 rfl hl (by decide) rfl (fun ls hl => ?_)
  refine lv_iload_n hx hb dJ2_fastRemove_18 rfl (lv_at hl 3 rfl) ?_
  refine lv_icmp_le (tgt := 34) hx hb dJ2_fastRemove_19 (by decide) (fun c5 => ?_) (fun c5 => ?_)
  · have hm := ifT hm c5
    exact hB34 h2 x0 x1 v4 _ _ _ _ _ hm hw (by omega) (by omega) (lv_sub hl [1, 2, 0] rfl)
  · have hm := ifF hm c5
    refine lv_aload_n hx hb dJ2_fastRemove_22 rfl (lv_at hl 2 rfl) ?_
    refine lv_iload_n hx hb dJ2_fastRemove_23 rfl (lv_at hl 3 rfl) ?_
    refine lv_iconst (v := 1) hx hb dJ2_fastRemove_24 (by decide) ?_
    refine lv_iadd hx hb dJ2_fastRemove_25 ?_
    refine lv_aload_n hx hb dJ2_fastRemove_26 rfl (lv_at hl 2 rfl) ?_
    refine lv_iload_n hx hb dJ2_fastRemove_27 rfl (lv_at hl 3 rfl) ?_
    refine lv_iload_n hx hb dJ2_fastRemove_28 rfl (lv_at hl 0 rfl) ?_
    refine lv_iload_n hx hb dJ2_fastRemove_29 rfl (lv_at hl 3 rfl) ?_
    refine lv_isub hx hb dJ2_fastRemove_30 ?_
    obtain ⟨h6, eh6, hm⟩ := bdE hm
    refine cg_copyO C hw (hml.trans hl.1.symm) q871 q436 q435 q136 eh6 (Nat.le_of_ble_eq_true rfl) (Nat.le_of_ble_eq_true rfl) dJ2_fastRemove_31 (fun H locs hw => ?_)
    have zh6 := cpO_sz eh6
    exact hB34 h6 x0 x1 v4 _ _ _ _ _ hm hw (by omega) (by omega) (lv_sub hl [1, 2, 0] rfl)
def m_J2_remove_24 (f : Nat) (h : CH) (x3 : Nat) : Option (Nat × CH) := some (x3, h)
theorem mo_J2_remove_24 {f : Nat} : ∀ (h : CH) (x3 : Nat) (r : (Nat × CH)), m_J2_remove_24 f h x3 = some r → le2 h r.2 := by
  intro h x3 r hm
  rw [m_J2_remove_24] at hm
  cases hm
  exact le2.rf
def m_J2_remove_8 (f : Nat) (h : CH) (x0 : Nat) (x1 : Int32) (y0 : Int32) : Option (Nat × CH) := bd (oR h 17 1 x0) fun a1 =>
    bd (aR h 3 a1 x1) fun a2 =>
    gd (isC h x0 17) <|
    bd (m_J2_fastRemove f h x0 a1 x1) fun h4 =>
    m_J2_remove_24 f h4 a2
theorem mo_J2_remove_8 {f : Nat} : ∀ (h : CH) (x0 : Nat) (x1 : Int32) (y0 : Int32) (r : (Nat × CH)), m_J2_remove_8 f h x0 x1 y0 = some r → le2 h r.2 := by
  intro h x0 x1 y0 r hm
  rw [m_J2_remove_8] at hm
  obtain ⟨a1, ea1, hm⟩ := bdE hm
  obtain ⟨a2, ea2, hm⟩ := bdE hm
  obtain ⟨g3, hm⟩ := gdE hm
  obtain ⟨h4, eh4, hm⟩ := bdE hm
  have lh4 := mo_J2_fastRemove eh4
  exact (lh4.tr (mo_J2_remove_24  h4 a2 _ hm))
def m_J2_remove (f : Nat) (u : CH) (x0 : Nat) (x1 : Int32) : Option (Nat × CH) := bd (oI u 17 2 x0) fun v1 =>
    bd2 (m_J15_checkIndex f u x1 v1) fun r3 h2 =>
    m_J2_remove_8 f h2 x0 x1 r3
theorem mo_J2_remove {f : Nat} {u : CH} {x0 : Nat} {x1 : Int32} {r0 : Nat} {u9 : CH} (hm : m_J2_remove f u x0 x1 = some (r0, u9)) : le2 u u9 := by
  rw [m_J2_remove] at hm
  obtain ⟨v1, ev1, hm⟩ := bdE hm
  obtain ⟨r3, h2, er3, hm⟩ := bd2E hm
  have lh2 := mo_J15_checkIndex er3
  exact (lh2.tr (mo_J2_remove_8  h2 x0 x1 r3 _ hm))
abbrev rm_J2_remove (mc ms : Nat) : Room := { frames := 2, cells := mc, slots := ms, locals := 83 }
theorem cw_J2_remove {R : Room} {s : State} {args : Array Value} {own : String} {idx mc ms : Nat} (hts : ∀ w ∈ lw_all, w.before args s = true) (hl : Cond.methodLink own idx yJ2_remove ∈ lw_all) (hR : 2 + 1 ≤ R.frames ∧ 8 + (4 + 11) + 83 ≤ R.locals) : CallW R s args own RJ2 idx yJ2_remove cJ2_remove 4 (Option.some (Jvm.ClassFile.FieldType.object "java/lang/Object")) (ws_ yJ2_remove cJ2_remove 4 (Option.some (Jvm.ClassFile.FieldType.object "java/lang/Object"))) (rm_J2_remove mc ms) mc ms 1 := cwV 1 hts (lw_V hl q1549 q1550 q122 q1551) rfl rfl rfl (by decide +kernel) hR
set_option maxHeartbeats 4000000 in
set_option maxRecDepth 100000 in
theorem w_J2_remove (l : Launch) {D : va_G} {dA : Nat → ClassId} {A : Nat → Prop} {f : Nat} {u u9 : CH} {r0 : Nat} {x0 : Nat} {x1 : Int32} (hm : m_J2_remove f u x0 x1 = some (r0, u9)) : Met l yJ2_remove (ws_ yJ2_remove cJ2_remove 4 (Option.some (Jvm.ClassFile.FieldType.object "java/lang/Object"))) (rm_J2_remove (u9.1 - u.1) (u9.2.1 - u.2.1)) (va_Pc [.ref x0, .int x1] (CPre D dA A u)) (va_Qr (fun u => u = u9) (fun u r t => r = r0 ∧ CPost D dA A u t) A) (u9.1 - u.1) (u9.2.1 - u.2.1) A := by
  refine metOfWF (cc := cJ2_remove) (maxL := 4) (ret := (Option.some (Jvm.ClassFile.FieldType.object "java/lang/Object"))) (by decide +kernel) rfl ?_
  intro p e s m args below meth c s₁ B hml hv
  have hx := B.exec
  have hb := B.bytes
  have hr := B.returns
  have hts := atoms_spec (ws := (ws_ yJ2_remove cJ2_remove 4 (Option.some (Jvm.ClassFile.FieldType.object "java/lang/Object")))) B.pre
  have hts : ∀ w ∈ lw_all, w.before args s = true := fun w h => hts w (List.mem_cons_of_mem _ h)
  have hown : s.vm.findClass RJ2 = some m.cls := findClass_of_methodNamed B.named
  have hlocks := B.notSynchronized
  obtain ⟨hav, hv⟩ := hv
  have C : CX p s m args c cJ2_remove RJ2 D dA := ⟨hx, hb, hown, hts, hv.2⟩
  have hw : CW D dA A s u s.heap [] := hv.1
  generalize hQ : MQ below (va_Qr (fun u => u = u9) (fun u r t => r = r0 ∧ CPost D dA A u t) A) args s (u9.1 - u.1) (u9.2.1 - u.2.1) A = QQ
  have hent := lg_entry_eq m [.ref x0, .int x1] 4
  rw [← hav] at hent
  rw [hent]
  have hl := lv_entry ([.ref x0, .int x1]) (n := 4) (Nat.le_of_ble_eq_true rfl)
  generalize (lg_sl ([.ref x0, .int x1]) ++ List.replicate (4 - (lg_sl ([.ref x0, .int x1])).length) Slot.unset).toArray = ls at hl ⊢
  have hl : lv_has ls 4 [(0, .ref x0), (1, .int x1)] := hl
  obtain ⟨cc, ecc⟩ : ∃ z : Nat, z = 0 := ⟨0, rfl⟩
  obtain ⟨ss, ess⟩ : ∃ z : Nat, z = 0 := ⟨0, rfl⟩
  have hcc : cc + u.1 = u.1 := by omega
  have hss : ss + u.2.1 = u.2.1 := by omega
  suffices hgo : W p l e (rm_J2_remove (u9.1 - u.1) (u9.2.1 - u.2.1)) s m args below meth c s.heap [] cc ss QQ (F0 m 0 ls []) by rw [ecc, ess] at hgo; exact hgo
  have ⟨pu, qu, _, _⟩ := mo_J2_remove hm
  have hB24 : ∀ (h : CH) (x3 : Nat) (cc ss : Nat) (H : Heap) (locs : List Loc) (ls : Array Slot), m_J2_remove_24 f h x3 = some (r0, u9) → CW D dA A s h H locs → cc + u.1 = h.1 → ss + u.2.1 = h.2.1 → lv_has ls 4 [(3, .ref x3)] → W p l e (rm_J2_remove (u9.1 - u.1) (u9.2.1 - u.2.1)) s m args below meth c H locs cc ss QQ (F0 m 24 ls []) := by
    intro h x3 cc ss H locs ls hm hw hcc hss hl
    have hmo := mo_J2_remove_24  h x3 _ hm
    have sb_ : h.1 ≤ u9.1 := hmo.1
    have tb_ : h.2.1 ≤ u9.2.1 := hmo.2.1
    rw [m_J2_remove_24] at hm
    refine lv_aload_n hx hb dJ2_remove_24 rfl (lv_at hl 0 rfl) ?_
    obtain ⟨er, eh⟩ := retE hm
    have ec : cc = u9.1 - u.1 := by rw [← eh]; omega
    have es : ss = u9.2.1 - u.2.1 := by rw [← eh]; omega
    rw [ec, es, ← hQ]
    exact W.aret (v := .ref x3) hx hb hr (Or.inl ⟨_, rfl⟩) (Or.inr ⟨_, rfl⟩) (fun t ht hW => ⟨⟨h, x3, rfl, eh, er, ⟨by rw [ht]; exact hw.1, by rw [ht]; exact hw.2.1⟩⟩, hw.2.2.1.F ht⟩) hw.2.2.1.2.2 dJ2_remove_25
  have hB8 : ∀ (h : CH) (x0 : Nat) (x1 : Int32) (y0 : Int32) (cc ss : Nat) (H : Heap) (locs : List Loc) (ls : Array Slot), m_J2_remove_8 f h x0 x1 y0 = some (r0, u9) → CW D dA A s h H locs → cc + u.1 = h.1 → ss + u.2.1 = h.2.1 → lv_has ls 4 [(0, .ref x0), (1, .int x1)] → W p l e (rm_J2_remove (u9.1 - u.1) (u9.2.1 - u.2.1)) s m args below meth c H locs cc ss QQ (F0 m 8 ls [.int y0]) := by
    intro h x0 x1 y0 cc ss H locs ls hm hw hcc hss hl
    have hmo := mo_J2_remove_8  h x0 x1 y0 _ hm
    have sb_ : h.1 ≤ u9.1 := hmo.1
    have tb_ : h.2.1 ≤ u9.2.1 := hmo.2.1
    rw [m_J2_remove_8] at hm
    refine lv_pop hx hb dJ2_remove_8 rfl ?_
    refine lv_aload_n hx hb dJ2_remove_9 rfl (lv_at hl 0 rfl) ?_
    obtain ⟨a1, ea1, hm⟩ := bdE hm
    refine cg_get C hw (oR_E ea1) rfl in_J2 (by decide) q179 dJ2_remove_10 ?_
    refine lv_astore_n (lv' := [(2, .ref a1), (0, .ref x0), (1, .int x1)]) hx hb dJ2_remove_13 rfl hl (by decide) rfl (fun ls hl => ?_)
    refine lv_aload_n hx hb dJ2_remove_14 rfl (lv_at hl 0 rfl) ?_
    refine lv_iload_n hx hb dJ2_remove_15 rfl (lv_at hl 2 rfl) ?_
    obtain ⟨a2, ea2, hm⟩ := bdE hm
    refine cg_aald3 C hw (aR_E ea2) dJ2_remove_16 ?_
    refine lv_astore_n (lv' := [(3, .ref a2), (2, .ref a1), (0, .ref x0), (1, .int x1)]) hx hb dJ2_remove_17 rfl hl (by decide) rfl (fun ls hl => ?_)
    refine lv_aload_n hx hb dJ2_remove_18 rfl (lv_at hl 2 rfl) ?_
    refine lv_aload_n hx hb dJ2_remove_19 rfl (lv_at hl 1 rfl) ?_
    refine lv_iload_n hx hb dJ2_remove_20 rfl (lv_at hl 3 rfl) ?_
    obtain ⟨g3, hm⟩ := gdE hm
    obtain ⟨h4, eh4, hm⟩ := bdE hm
    have lh4 := mo_J2_fastRemove eh4
    have ph4 : h.1 ≤ h4.1 := lh4.1
    have qh4 : h.2.1 ≤ h4.2.1 := lh4.2.1
    have hmo := mo_J2_remove_24   h4 a2 _ hm
    have sh4 : h4.1 ≤ u9.1 := hmo.1
    have th4 : h4.2.1 ≤ u9.2.1 := hmo.2.1
    refine cg_callv hw lh4 (va_runV (As := [.ref a1, .int x1]) (rest := []) ⟨hx, hb, hml, hown, hts⟩ (w_J2_fastRemove l eh4) (cw_J2_fastRemove hts q1552 ⟨Nat.le_of_ble_eq_true rfl, Nat.le_of_ble_eq_true rfl⟩) (cg_preV C hw g3 rfl _) rfl rfl hl.1 rfl (lv_room (Nat.le_of_ble_eq_true rfl)) dJ2_remove_21 ⟨show cc + (h4.1 - h.1) ≤ u9.1 - u.1 by omega, show ss + (h4.2.1 - h.2.1) ≤ u9.2.1 - u.2.1 by omega⟩) (fun H locs hw => ?_)
    exact hB24 h4 a2 _ _ _ _ _ hm hw (by omega) (by omega) (lv_sub hl [0] rfl)
  rw [m_J2_remove] at hm
  refine lv_iload_n hx hb dJ2_remove_0 rfl (lv_at hl 1 rfl) ?_
  refine lv_aload_n hx hb dJ2_remove_1 rfl (lv_at hl 0 rfl) ?_
  obtain ⟨v1, ev1, hm⟩ := bdE hm
  refine cg_get C hw (oI_E ev1) rfl in_J2 (by decide) q180 dJ2_remove_2 ?_
  obtain ⟨r3, h2, er3, hm⟩ := bd2E hm
  have lh2 := mo_J15_checkIndex er3
  have ph2 : u.1 ≤ h2.1 := lh2.1
  have qh2 : u.2.1 ≤ h2.2.1 := lh2.2.1
  have hmo := mo_J2_remove_8   h2 x0 x1 r3 _ hm
  have sh2 : h2.1 ≤ u9.1 := hmo.1
  have th2 : h2.2.1 ≤ u9.2.1 := hmo.2.1
  refine cg_calli hw lh2 (va_runS (As := [.int x1, .int v1]) (rest := []) ⟨hx, hb, hml, hown, hts⟩ (w_J15_checkIndex l er3) (cw_J15_checkIndex hts q725 ⟨Nat.le_of_ble_eq_true rfl, Nat.le_of_ble_eq_true rfl⟩) (cg_preS C hw _) rfl rfl hl.1 rfl (lv_room (Nat.le_of_ble_eq_true rfl)) dJ2_remove_5 ⟨show cc + (h2.1 - u.1) ≤ u9.1 - u.1 by omega, show ss + (h2.2.1 - u.2.1) ≤ u9.2.1 - u.2.1 by omega⟩) (fun H locs hw => ?_)
  exact hB8 h2 x0 x1 r3 _ _ _ _ _ hm hw (by omega) (by omega) (lv_sub hl [0, 1] rfl)
def m_X0_takesBack_28 (f : Nat) (h : CH) (x1 : Nat) (y0 : Nat) : Option CH := bd (oR h 15 1 x1) fun a1 =>
    bd (pF h 6 0 y0 (.ref a1)) fun h2 =>
    some h2
theorem mo_X0_takesBack_28 {f : Nat} : ∀ (h : CH) (x1 : Nat) (y0 : Nat) (r : CH), m_X0_takesBack_28 f h x1 y0 = some r → le2 h r := by
  intro h x1 y0 r hm
  rw [m_X0_takesBack_28] at hm
  obtain ⟨a1, ea1, hm⟩ := bdE hm
  obtain ⟨h2, eh2, hm⟩ := bdE hm
  have lh2 := pF_le eh2
  cases hm
  exact (lh2.tr le2.rf)
def m_X0_takesBack_16 (f : Nat) (h : CH) (x0 : Nat) (y0 : Nat) : Option CH := gd (isC h y0 15) <|
    bd (oI h 15 0 y0) fun v2 =>
    gd (isC h x0 1) <|
    bd2 (m_X0_at f h x0 v2) fun a5 h4 =>
    m_X0_takesBack_28 f h4 y0 a5
theorem mo_X0_takesBack_16 {f : Nat} : ∀ (h : CH) (x0 : Nat) (y0 : Nat) (r : CH), m_X0_takesBack_16 f h x0 y0 = some r → le2 h r := by
  intro h x0 y0 r hm
  rw [m_X0_takesBack_16] at hm
  obtain ⟨g1, hm⟩ := gdE hm
  obtain ⟨v2, ev2, hm⟩ := bdE hm
  obtain ⟨g3, hm⟩ := gdE hm
  obtain ⟨a5, h4, ea5, hm⟩ := bd2E hm
  have lh4 := mo_X0_at ea5
  exact (lh4.tr (mo_X0_takesBack_28  h4 y0 a5 _ hm))
def m_X0_takesBack_11 (f : Nat) (h : CH) (x0 : Nat) (y0 : Nat) (y1 : Int32) : Option CH := gd (isC h y0 17) <|
    bd2 (m_J2_remove f h y0 (y1 - (1 : Int32))) fun a3 h2 =>
    m_X0_takesBack_16 f h2 x0 a3
theorem mo_X0_takesBack_11 {f : Nat} : ∀ (h : CH) (x0 : Nat) (y0 : Nat) (y1 : Int32) (r : CH), m_X0_takesBack_11 f h x0 y0 y1 = some r → le2 h r := by
  intro h x0 y0 y1 r hm
  rw [m_X0_takesBack_11] at hm
  obtain ⟨g1, hm⟩ := gdE hm
  obtain ⟨a3, h2, ea3, hm⟩ := bd2E hm
  have lh2 := mo_J2_remove ea3
  exact (lh2.tr (mo_X0_takesBack_16  h2 x0 a3 _ hm))
def m_X0_takesBack (f : Nat) (u : CH) (x0 : Nat) : Option CH := bd (oR u 1 14 x0) fun a1 =>
    bd (oR u 1 14 x0) fun a2 =>
    gd (isC u a2 17) <|
    bd2 (m_J2_size f u a2) fun r5 h4 =>
    m_X0_takesBack_11 f h4 x0 a1 r5
theorem mo_X0_takesBack {f : Nat} {u : CH} {x0 : Nat} {u9 : CH} (hm : m_X0_takesBack f u x0 = some u9) : le2 u u9 := by
  rw [m_X0_takesBack] at hm
  obtain ⟨a1, ea1, hm⟩ := bdE hm
  obtain ⟨a2, ea2, hm⟩ := bdE hm
  obtain ⟨g3, hm⟩ := gdE hm
  obtain ⟨r5, h4, er5, hm⟩ := bd2E hm
  have lh4 := mo_J2_size er5
  exact (lh4.tr (mo_X0_takesBack_11  h4 x0 a1 r5 _ hm))
abbrev rm_X0_takesBack (mc ms : Nat) : Room := { frames := 4, cells := mc, slots := ms, locals := 106 }
theorem cw_X0_takesBack {R : Room} {s : State} {args : Array Value} {own : String} {idx mc ms : Nat} (hts : ∀ w ∈ lw_all, w.before args s = true) (hl : Cond.methodLink own idx yX0_takesBack ∈ lw_all) (hR : 4 + 1 ≤ R.frames ∧ 8 + (2 + 11) + 106 ≤ R.locals) : CallW R s args own RX0 idx yX0_takesBack cX0_takesBack 2 (Option.none : Option Jvm.ClassFile.FieldType) (ws_ yX0_takesBack cX0_takesBack 2 (Option.none : Option Jvm.ClassFile.FieldType)) (rm_X0_takesBack mc ms) mc ms 0 := cwV 0 hts (lw_V hl q1546 qs52 q119 q1547) rfl rfl rfl (by decide +kernel) hR
set_option maxHeartbeats 4000000 in
set_option maxRecDepth 100000 in
theorem w_X0_takesBack (l : Launch) {D : va_G} {dA : Nat → ClassId} {A : Nat → Prop} {f : Nat} {u u9 : CH} {x0 : Nat} (hm : m_X0_takesBack f u x0 = some u9) : Met l yX0_takesBack (ws_ yX0_takesBack cX0_takesBack 2 (Option.none : Option Jvm.ClassFile.FieldType)) (rm_X0_takesBack (u9.1 - u.1) (u9.2.1 - u.2.1)) (va_Pc [.ref x0] (CPre D dA A u)) (va_Qv (fun u => u = u9) (CPost D dA A) A) (u9.1 - u.1) (u9.2.1 - u.2.1) A := by
  refine Met.ofW (cc := cX0_takesBack) (maxL := 2) (ret := (Option.none : Option Jvm.ClassFile.FieldType)) (by decide) rfl ?_
  intro p e s m args below meth c s₁ B hml hv
  have hx := B.exec
  have hb := B.bytes
  have hr := B.returns
  have hts := atoms_spec (ws := (ws_ yX0_takesBack cX0_takesBack 2 (Option.none : Option Jvm.ClassFile.FieldType))) B.pre
  have hts : ∀ w ∈ lw_all, w.before args s = true := fun w h => hts w (List.mem_cons_of_mem _ h)
  have hown : s.vm.findClass RX0 = some m.cls := findClass_of_methodNamed B.named
  have hlocks := B.notSynchronized
  obtain ⟨hav, hv⟩ := hv
  have C : CX p s m args c cX0_takesBack RX0 D dA := ⟨hx, hb, hown, hts, hv.2⟩
  have hw : CW D dA A s u s.heap [] := hv.1
  generalize hQ : MQ below (va_Qv (fun u => u = u9) (CPost D dA A) A) args s (u9.1 - u.1) (u9.2.1 - u.2.1) A = QQ
  have hent := lg_entry_eq m [.ref x0] 2
  rw [← hav] at hent
  rw [hent]
  have hl := lv_entry ([.ref x0]) (n := 2) (Nat.le_of_ble_eq_true rfl)
  generalize (lg_sl ([.ref x0]) ++ List.replicate (2 - (lg_sl ([.ref x0])).length) Slot.unset).toArray = ls at hl ⊢
  have hl : lv_has ls 2 [(0, .ref x0)] := hl
  obtain ⟨cc, ecc⟩ : ∃ z : Nat, z = 0 := ⟨0, rfl⟩
  obtain ⟨ss, ess⟩ : ∃ z : Nat, z = 0 := ⟨0, rfl⟩
  have hcc : cc + u.1 = u.1 := by omega
  have hss : ss + u.2.1 = u.2.1 := by omega
  suffices hgo : W p l e (rm_X0_takesBack (u9.1 - u.1) (u9.2.1 - u.2.1)) s m args below meth c s.heap [] cc ss QQ (F0 m 0 ls []) by rw [ecc, ess] at hgo; exact hgo
  have ⟨pu, qu, _, _⟩ := mo_X0_takesBack hm
  have hB28 : ∀ (h : CH) (x1 : Nat) (y0 : Nat) (cc ss : Nat) (H : Heap) (locs : List Loc) (ls : Array Slot), m_X0_takesBack_28 f h x1 y0 = some u9 → CW D dA A s h H locs → cc + u.1 = h.1 → ss + u.2.1 = h.2.1 → lv_has ls 2 [(1, .ref x1)] → W p l e (rm_X0_takesBack (u9.1 - u.1) (u9.2.1 - u.2.1)) s m args below meth c H locs cc ss QQ (F0 m 28 ls [.ref y0]) := by
    intro h x1 y0 cc ss H locs ls hm hw hcc hss hl
    have hmo := mo_X0_takesBack_28  h x1 y0 _ hm
    have sb_ : h.1 ≤ u9.1 := hmo.1
    have tb_ : h.2.1 ≤ u9.2.1 := hmo.2.1
    rw [m_X0_takesBack_28] at hm
    refine lv_aload_n hx hb dX0_takesBack_28 rfl (lv_at hl 0 rfl) ?_
    obtain ⟨a1, ea1, hm⟩ := bdE hm
    refine cg_getN C hw (by decide) (oR_E ea1) rfl in_X16 (by decide) (hw.2.2.2.2.1 _ (List.mem_of_getElem? (i := 35) rfl)) dX0_takesBack_29 ?_
    obtain ⟨h2, eh2, hm⟩ := bdE hm
    refine cg_putN C hw eh2 rfl in_X6 tyX6 tyX6_ok nmX6 (by decide) (hw.2.2.2.2.1 _ (List.mem_of_getElem? (i := 21) rfl)) rfl rfl rfl dX0_takesBack_32 (fun H locs hw => ?_)
    have zh2 := pF_sz eh2
    have eh := ret1 hm
    have ec : cc = u9.1 - u.1 := by rw [← eh]; omega
    have es : ss = u9.2.1 - u.2.1 := by rw [← eh]; omega
    rw [ec, es, ← hQ]
    exact W.vret hx hb hr (fun t ht hW => ⟨⟨h2, rfl, eh, ⟨by rw [ht]; exact hw.1, by rw [ht]; exact hw.2.1⟩⟩, hw.2.2.1.F ht⟩) hw.2.2.1.2.2 dX0_takesBack_35
  have hB16 : ∀ (h : CH) (x0 : Nat) (y0 : Nat) (cc ss : Nat) (H : Heap) (locs : List Loc) (ls : Array Slot), m_X0_takesBack_16 f h x0 y0 = some u9 → CW D dA A s h H locs → cc + u.1 = h.1 → ss + u.2.1 = h.2.1 → lv_has ls 2 [(0, .ref x0)] → W p l e (rm_X0_takesBack (u9.1 - u.1) (u9.2.1 - u.2.1)) s m args below meth c H locs cc ss QQ (F0 m 16 ls [.ref y0]) := by
    intro h x0 y0 cc ss H locs ls hm hw hcc hss hl
    have hmo := mo_X0_takesBack_16  h x0 y0 _ hm
    have sb_ : h.1 ≤ u9.1 := hmo.1
    have tb_ : h.2.1 ≤ u9.2.1 := hmo.2.1
    rw [m_X0_takesBack_16] at hm
    obtain ⟨g1, hm⟩ := gdE hm
    refine cg_castS C hw g1 rfl q1451 dX0_takesBack_16 ?_
    refine lv_astore_n (lv' := [(1, .ref y0), (0, .ref x0)]) hx hb dX0_takesBack_19 rfl hl (by decide) rfl (fun ls hl => ?_)
    refine lv_aload_n hx hb dX0_takesBack_20 rfl (lv_at hl 1 rfl) ?_
    refine lv_aload_n hx hb dX0_takesBack_21 rfl (lv_at hl 0 rfl) ?_
    obtain ⟨v2, ev2, hm⟩ := bdE hm
    refine cg_getN C hw (by decide) (oI_E ev2) rfl in_X16 (by decide) (hw.2.2.2.2.1 _ (List.mem_of_getElem? (i := 34) rfl)) dX0_takesBack_22 ?_
    obtain ⟨g3, hm⟩ := gdE hm
    obtain ⟨a5, h4, ea5, hm⟩ := bd2E hm
    have lh4 := mo_X0_at ea5
    have ph4 : h.1 ≤ h4.1 := lh4.1
    have qh4 : h.2.1 ≤ h4.2.1 := lh4.2.1
    have hmo := mo_X0_takesBack_28   h4 y0 a5 _ hm
    have sh4 : h4.1 ≤ u9.1 := hmo.1
    have th4 : h4.2.1 ≤ u9.2.1 := hmo.2.1
    refine cg_callr hw lh4 (va_runV (As := [.int v2]) (rest := []) ⟨hx, hb, hml, hown, hts⟩ (w_X0_at l ea5) (cw_X0_at hts q900 ⟨Nat.le_of_ble_eq_true rfl, Nat.le_of_ble_eq_true rfl⟩) (cg_preV C hw g3 rfl _) rfl rfl hl.1 rfl (lv_room (Nat.le_of_ble_eq_true rfl)) dX0_takesBack_25 ⟨show cc + (h4.1 - h.1) ≤ u9.1 - u.1 by omega, show ss + (h4.2.1 - h.2.1) ≤ u9.2.1 - u.2.1 by omega⟩) (fun H locs hw => ?_)
    exact hB28 h4 y0 a5 _ _ _ _ _ hm hw (by omega) (by omega) (lv_sub hl [0] rfl)
  have hB11 : ∀ (h : CH) (x0 : Nat) (y0 : Nat) (y1 : Int32) (cc ss : Nat) (H : Heap) (locs : List Loc) (ls : Array Slot), m_X0_takesBack_11 f h x0 y0 y1 = some u9 → CW D dA A s h H locs → cc + u.1 = h.1 → ss + u.2.1 = h.2.1 → lv_has ls 2 [(0, .ref x0)] → W p l e (rm_X0_takesBack (u9.1 - u.1) (u9.2.1 - u.2.1)) s m args below meth c H locs cc ss QQ (F0 m 11 ls [.int y1, .ref y0]) := by
    intro h x0 y0 y1 cc ss H locs ls hm hw hcc hss hl
    have hmo := mo_X0_takesBack_11  h x0 y0 y1 _ hm
    have sb_ : h.1 ≤ u9.1 := hmo.1
    have tb_ : h.2.1 ≤ u9.2.1 := hmo.2.1
    rw [m_X0_takesBack_11] at hm
    refine lv_iconst (v := 1) hx hb dX0_takesBack_11 (by decide) ?_
    refine lv_isub hx hb dX0_takesBack_12 ?_
    obtain ⟨g1, hm⟩ := gdE hm
    obtain ⟨a3, h2, ea3, hm⟩ := bd2E hm
    have lh2 := mo_J2_remove ea3
    have ph2 : h.1 ≤ h2.1 := lh2.1
    have qh2 : h.2.1 ≤ h2.2.1 := lh2.2.1
    have hmo := mo_X0_takesBack_16   h2 x0 a3 _ hm
    have sh2 : h2.1 ≤ u9.1 := hmo.1
    have th2 : h2.2.1 ≤ u9.2.1 := hmo.2.1
    refine cg_callr hw lh2 (va_runV (As := [.int (y1 - (1 : Int32))]) (rest := []) ⟨hx, hb, hml, hown, hts⟩ (w_J2_remove l ea3) (cw_J2_remove hts q1548 ⟨Nat.le_of_ble_eq_true rfl, Nat.le_of_ble_eq_true rfl⟩) (cg_preV C hw g1 rfl _) rfl rfl hl.1 rfl (lv_room (Nat.le_of_ble_eq_true rfl)) dX0_takesBack_13 ⟨show cc + (h2.1 - h.1) ≤ u9.1 - u.1 by omega, show ss + (h2.2.1 - h.2.1) ≤ u9.2.1 - u.2.1 by omega⟩) (fun H locs hw => ?_)
    exact hB16 h2 x0 a3 _ _ _ _ _ hm hw (by omega) (by omega) (lv_sub hl [0] rfl)
  rw [m_X0_takesBack] at hm
  refine lv_aload_n hx hb dX0_takesBack_0 rfl (lv_at hl 0 rfl) ?_
  obtain ⟨a1, ea1, hm⟩ := bdE hm
  refine cg_get C hw (oR_E ea1) rfl in_X0 (by decide) q253 dX0_takesBack_1 ?_
  refine lv_aload_n hx hb dX0_takesBack_4 rfl (lv_at hl 0 rfl) ?_
  obtain ⟨a2, ea2, hm⟩ := bdE hm
  refine cg_get C hw (oR_E ea2) rfl in_X0 (by decide) q253 dX0_takesBack_5 ?_
  obtain ⟨g3, hm⟩ := gdE hm
  obtain ⟨r5, h4, er5, hm⟩ := bd2E hm
  have lh4 := mo_J2_size er5
  have ph4 : u.1 ≤ h4.1 := lh4.1
  have qh4 : u.2.1 ≤ h4.2.1 := lh4.2.1
  have hmo := mo_X0_takesBack_11   h4 x0 a1 r5 _ hm
  have sh4 : h4.1 ≤ u9.1 := hmo.1
  have th4 : h4.2.1 ≤ u9.2.1 := hmo.2.1
  refine cg_calli hw lh4 (va_runV (As := []) (rest := [.ref a1]) ⟨hx, hb, hml, hown, hts⟩ (w_J2_size l er5) (cw_J2_size hts q880 ⟨Nat.le_of_ble_eq_true rfl, Nat.le_of_ble_eq_true rfl⟩) (cg_preV C hw g3 rfl _) rfl rfl hl.1 rfl (lv_room (Nat.le_of_ble_eq_true rfl)) dX0_takesBack_8 ⟨show cc + (h4.1 - u.1) ≤ u9.1 - u.1 by omega, show ss + (h4.2.1 - u.2.1) ≤ u9.2.1 - u.2.1 by omega⟩) (fun H locs hw => ?_)
  exact hB11 h4 x0 a1 r5 _ _ _ _ _ hm hw (by omega) (by omega) (lv_sub hl [0] rfl)
def m_J2_isEmpty_12 (f : Nat) (h : CH) (y0 : Int32) : Option (Int32 × CH) := gd (zb y0) <|
    some (y0, h)
theorem mo_J2_isEmpty_12 {f : Nat} : ∀ (h : CH) (y0 : Int32) (r : (Int32 × CH)), m_J2_isEmpty_12 f h y0 = some r → le2 h r.2 := by
  intro h y0 r hm
  rw [m_J2_isEmpty_12] at hm
  obtain ⟨g1, hm⟩ := gdE hm
  cases hm
  exact le2.rf
def m_J2_isEmpty (f : Nat) (u : CH) (x0 : Nat) : Option (Int32 × CH) := bd (oI u 17 2 x0) fun v1 =>
    if ¬ v1 = 0 then
    m_J2_isEmpty_12 f u (0 : Int32)
    else m_J2_isEmpty_12 f u (1 : Int32)
theorem mo_J2_isEmpty {f : Nat} {u : CH} {x0 : Nat} {r0 : Int32} {u9 : CH} (hm : m_J2_isEmpty f u x0 = some (r0, u9)) : le2 u u9 := by
  rw [m_J2_isEmpty] at hm
  obtain ⟨v1, ev1, hm⟩ := bdE hm
  by_cases c2 : ¬ v1 = 0
  · have hm := ifT hm c2
    exact (mo_J2_isEmpty_12  u (0 : Int32) _ hm)
  · have hm := ifF hm c2
    exact (mo_J2_isEmpty_12  u (1 : Int32) _ hm)
abbrev rm_J2_isEmpty (mc ms : Nat) : Room := { frames := 0, cells := mc, slots := ms, locals := 0 }
theorem cw_J2_isEmpty {R : Room} {s : State} {args : Array Value} {own : String} {idx mc ms : Nat} (hts : ∀ w ∈ lw_all, w.before args s = true) (hl : Cond.methodLink own idx yJ2_isEmpty ∈ lw_all) (hR : 0 + 1 ≤ R.frames ∧ 8 + (1 + 11) + 0 ≤ R.locals) : CallW R s args own RJ2 idx yJ2_isEmpty cJ2_isEmpty 1 (Option.some Jvm.ClassFile.FieldType.boolean) (ws_ yJ2_isEmpty cJ2_isEmpty 1 (Option.some Jvm.ClassFile.FieldType.boolean)) (rm_J2_isEmpty mc ms) mc ms 0 := cwV 0 hts (lw_V hl q1541 q1542 q122 q1543) rfl rfl rfl (by decide +kernel) hR
set_option maxHeartbeats 4000000 in
set_option maxRecDepth 100000 in
theorem w_J2_isEmpty (l : Launch) {D : va_G} {dA : Nat → ClassId} {A : Nat → Prop} {f : Nat} {u u9 : CH} {r0 : Int32} {x0 : Nat} (hm : m_J2_isEmpty f u x0 = some (r0, u9)) : Met l yJ2_isEmpty (ws_ yJ2_isEmpty cJ2_isEmpty 1 (Option.some Jvm.ClassFile.FieldType.boolean)) (rm_J2_isEmpty (u9.1 - u.1) (u9.2.1 - u.2.1)) (va_Pc [.ref x0] (CPre D dA A u)) (va_Qi (fun r u => r = r0 ∧ u = u9) (CPost D dA A) A) (u9.1 - u.1) (u9.2.1 - u.2.1) A := by
  refine metOfWF (cc := cJ2_isEmpty) (maxL := 1) (ret := (Option.some Jvm.ClassFile.FieldType.boolean)) (by decide +kernel) rfl ?_
  intro p e s m args below meth c s₁ B hml hv
  have hx := B.exec
  have hb := B.bytes
  have hr := B.returns
  have hts := atoms_spec (ws := (ws_ yJ2_isEmpty cJ2_isEmpty 1 (Option.some Jvm.ClassFile.FieldType.boolean))) B.pre
  have hts : ∀ w ∈ lw_all, w.before args s = true := fun w h => hts w (List.mem_cons_of_mem _ h)
  have hown : s.vm.findClass RJ2 = some m.cls := findClass_of_methodNamed B.named
  have hlocks := B.notSynchronized
  obtain ⟨hav, hv⟩ := hv
  have C : CX p s m args c cJ2_isEmpty RJ2 D dA := ⟨hx, hb, hown, hts, hv.2⟩
  have hw : CW D dA A s u s.heap [] := hv.1
  generalize hQ : MQ below (va_Qi (fun r u => r = r0 ∧ u = u9) (CPost D dA A) A) args s (u9.1 - u.1) (u9.2.1 - u.2.1) A = QQ
  have hent := lg_entry_eq m [.ref x0] 1
  rw [← hav] at hent
  rw [hent]
  have hl := lv_entry ([.ref x0]) (n := 1) (Nat.le_of_ble_eq_true rfl)
  generalize (lg_sl ([.ref x0]) ++ List.replicate (1 - (lg_sl ([.ref x0])).length) Slot.unset).toArray = ls at hl ⊢
  have hl : lv_has ls 1 [(0, .ref x0)] := hl
  obtain ⟨cc, ecc⟩ : ∃ z : Nat, z = 0 := ⟨0, rfl⟩
  obtain ⟨ss, ess⟩ : ∃ z : Nat, z = 0 := ⟨0, rfl⟩
  have hcc : cc + u.1 = u.1 := by omega
  have hss : ss + u.2.1 = u.2.1 := by omega
  suffices hgo : W p l e (rm_J2_isEmpty (u9.1 - u.1) (u9.2.1 - u.2.1)) s m args below meth c s.heap [] cc ss QQ (F0 m 0 ls []) by rw [ecc, ess] at hgo; exact hgo
  have ⟨pu, qu, _, _⟩ := mo_J2_isEmpty hm
  have hB12 : ∀ (h : CH) (y0 : Int32) (cc ss : Nat) (H : Heap) (locs : List Loc) (ls : Array Slot), m_J2_isEmpty_12 f h y0 = some (r0, u9) → CW D dA A s h H locs → cc + u.1 = h.1 → ss + u.2.1 = h.2.1 → lv_has ls 1 [] → W p l e (rm_J2_isEmpty (u9.1 - u.1) (u9.2.1 - u.2.1)) s m args below meth c H locs cc ss QQ (F0 m 12 ls [.int y0]) := by
    intro h y0 cc ss H locs ls hm hw hcc hss hl
    have hmo := mo_J2_isEmpty_12  h y0 _ hm
    have sb_ : h.1 ≤ u9.1 := hmo.1
    have tb_ : h.2.1 ≤ u9.2.1 := hmo.2.1
    rw [m_J2_isEmpty_12] at hm
    obtain ⟨g1, hm⟩ := gdE hm
    obtain ⟨er, eh⟩ := retE hm
    have ec : cc = u9.1 - u.1 := by rw [← eh]; omega
    have es : ss = u9.2.1 - u.2.1 := by rw [← eh]; omega
    rw [ec, es, ← hQ]
    exact W.zret (v := y0) hx hb hr (zb_nar g1) (fun t ht hW => ⟨⟨y0, h, rfl, ⟨er, eh⟩, ⟨by rw [ht]; exact hw.1, by rw [ht]; exact hw.2.1⟩⟩, hw.2.2.1.F ht⟩) hw.2.2.1.2.2 dJ2_isEmpty_12
  rw [m_J2_isEmpty] at hm
  refine lv_aload_n hx hb dJ2_isEmpty_0 rfl (lv_at hl 0 rfl) ?_
  obtain ⟨v1, ev1, hm⟩ := bdE hm
  refine cg_get C hw (oI_E ev1) rfl in_J2 (by decide) q180 dJ2_isEmpty_1 ?_
  refine lv_if_ne (tgt := 11) hx hb dJ2_isEmpty_4 (by decide) (fun c2 => ?_) (fun c2 => ?_)
  · have hm := ifT hm c2
    refine lv_iconst (v := 0) hx hb dJ2_isEmpty_11 (by decide) ?_
    exact hB12 u (0 : Int32) _ _ _ _ _ hm hw (by omega) (by omega) (lv_sub hl [] rfl)
  · have hm := ifT' hm c2
    refine lv_iconst (v := 1) hx hb dJ2_isEmpty_7 (by decide) ?_
    refine lv_goto (tgt := 12) hx hb dJ2_isEmpty_8 (by decide) ?_
    exact hB12 u (1 : Int32) _ _ _ _ _ hm hw (by omega) (by omega) (lv_sub hl [] rfl)
def m_X0_undo_37 (f : Nat) (h : CH) (y0 : Int32) : Option (Int32 × CH) := some (y0, h)
theorem mo_X0_undo_37 {f : Nat} : ∀ (h : CH) (y0 : Int32) (r : (Int32 × CH)), m_X0_undo_37 f h y0 = some r → le2 h r.2 := by
  intro h y0 r hm
  rw [m_X0_undo_37] at hm
  cases hm
  exact le2.rf
def m_X0_undo_30 (f : Nat) (h : CH) (x0 : Nat) : Option (Int32 × CH) := bd (oR h 1 14 x0) fun a1 =>
    gd (isC h a1 17) <|
    bd2 (m_J2_size f h a1) fun r4 h3 =>
    m_X0_undo_37 f h3 r4
theorem mo_X0_undo_30 {f : Nat} : ∀ (h : CH) (x0 : Nat) (r : (Int32 × CH)), m_X0_undo_30 f h x0 = some r → le2 h r.2 := by
  intro h x0 r hm
  rw [m_X0_undo_30] at hm
  obtain ⟨a1, ea1, hm⟩ := bdE hm
  obtain ⟨g2, hm⟩ := gdE hm
  obtain ⟨r4, h3, er4, hm⟩ := bd2E hm
  have lh3 := mo_J2_size er4
  exact (lh3.tr (mo_X0_undo_37  h3 r4 _ hm))
def m_X0_undo_20 (f : Nat) (h : CH) (x0 : Nat) (y0 : Int32) : Option (Int32 × CH) := if y0 = 0 then
    gd (isC h x0 1) <|
    bd (m_X0_takesBack f h x0) fun h3 =>
    m_X0_undo_30 f h3 x0
    else some ((-5 : Int32), h)
theorem mo_X0_undo_20 {f : Nat} : ∀ (h : CH) (x0 : Nat) (y0 : Int32) (r : (Int32 × CH)), m_X0_undo_20 f h x0 y0 = some r → le2 h r.2 := by
  intro h x0 y0 r hm
  rw [m_X0_undo_20] at hm
  by_cases c1 : y0 = 0
  · have hm := ifT hm c1
    obtain ⟨g2, hm⟩ := gdE hm
    obtain ⟨h3, eh3, hm⟩ := bdE hm
    have lh3 := mo_X0_takesBack eh3
    exact (lh3.tr (mo_X0_undo_30  h3 x0 _ hm))
  · have hm := ifF hm c1
    cases hm
    exact le2.rf
def m_X0_undo_7 (f : Nat) (h : CH) (x0 : Nat) (y0 : Int32) : Option (Int32 × CH) := if y0 = 0 then
    bd (oR h 1 14 x0) fun a2 =>
    gd (isC h a2 17) <|
    bd2 (m_J2_isEmpty f h a2) fun r5 h4 =>
    m_X0_undo_20 f h4 x0 r5
    else some ((-2 : Int32), h)
theorem mo_X0_undo_7 {f : Nat} : ∀ (h : CH) (x0 : Nat) (y0 : Int32) (r : (Int32 × CH)), m_X0_undo_7 f h x0 y0 = some r → le2 h r.2 := by
  intro h x0 y0 r hm
  rw [m_X0_undo_7] at hm
  by_cases c1 : y0 = 0
  · have hm := ifT hm c1
    obtain ⟨a2, ea2, hm⟩ := bdE hm
    obtain ⟨g3, hm⟩ := gdE hm
    obtain ⟨r5, h4, er5, hm⟩ := bd2E hm
    have lh4 := mo_J2_isEmpty er5
    exact (lh4.tr (mo_X0_undo_20  h4 x0 r5 _ hm))
  · have hm := ifF hm c1
    cases hm
    exact le2.rf
def m_X0_undo (f : Nat) (u : CH) (x0 : Nat) : Option (Int32 × CH) := bd (oR u 1 0 x0) fun a1 =>
    gd (isC u a1 17) <|
    bd2 (m_J2_isEmpty f u a1) fun r4 h3 =>
    m_X0_undo_7 f h3 x0 r4
theorem mo_X0_undo {f : Nat} {u : CH} {x0 : Nat} {r0 : Int32} {u9 : CH} (hm : m_X0_undo f u x0 = some (r0, u9)) : le2 u u9 := by
  rw [m_X0_undo] at hm
  obtain ⟨a1, ea1, hm⟩ := bdE hm
  obtain ⟨g2, hm⟩ := gdE hm
  obtain ⟨r4, h3, er4, hm⟩ := bd2E hm
  have lh3 := mo_J2_isEmpty er4
  exact (lh3.tr (mo_X0_undo_7  h3 x0 r4 _ hm))
abbrev rm_X0_undo (mc ms : Nat) : Room := { frames := 5, cells := mc, slots := ms, locals := 127 }
theorem cw_X0_undo {R : Room} {s : State} {args : Array Value} {own : String} {idx mc ms : Nat} (hts : ∀ w ∈ lw_all, w.before args s = true) (hl : Cond.methodLink own idx yX0_undo ∈ lw_all) (hR : 5 + 1 ≤ R.frames ∧ 8 + (1 + 11) + 127 ≤ R.locals) : CallW R s args own RX0 idx yX0_undo cX0_undo 1 (Option.some Jvm.ClassFile.FieldType.int) (ws_ yX0_undo cX0_undo 1 (Option.some Jvm.ClassFile.FieldType.int)) (rm_X0_undo mc ms) mc ms 0 := cwV 0 hts (lw_V hl q1537 q1538 q119 q1539) rfl rfl rfl (by decide +kernel) hR
set_option maxHeartbeats 4000000 in
set_option maxRecDepth 100000 in
theorem w_X0_undo (l : Launch) {D : va_G} {dA : Nat → ClassId} {A : Nat → Prop} {f : Nat} {u u9 : CH} {r0 : Int32} {x0 : Nat} (hm : m_X0_undo f u x0 = some (r0, u9)) : Met l yX0_undo (ws_ yX0_undo cX0_undo 1 (Option.some Jvm.ClassFile.FieldType.int)) (rm_X0_undo (u9.1 - u.1) (u9.2.1 - u.2.1)) (va_Pc [.ref x0] (CPre D dA A u)) (va_Qi (fun r u => r = r0 ∧ u = u9) (CPost D dA A) A) (u9.1 - u.1) (u9.2.1 - u.2.1) A := by
  refine Met.ofW (cc := cX0_undo) (maxL := 1) (ret := (Option.some Jvm.ClassFile.FieldType.int)) (by decide) rfl ?_
  intro p e s m args below meth c s₁ B hml hv
  have hx := B.exec
  have hb := B.bytes
  have hr := B.returns
  have hts := atoms_spec (ws := (ws_ yX0_undo cX0_undo 1 (Option.some Jvm.ClassFile.FieldType.int))) B.pre
  have hts : ∀ w ∈ lw_all, w.before args s = true := fun w h => hts w (List.mem_cons_of_mem _ h)
  have hown : s.vm.findClass RX0 = some m.cls := findClass_of_methodNamed B.named
  have hlocks := B.notSynchronized
  obtain ⟨hav, hv⟩ := hv
  have C : CX p s m args c cX0_undo RX0 D dA := ⟨hx, hb, hown, hts, hv.2⟩
  have hw : CW D dA A s u s.heap [] := hv.1
  generalize hQ : MQ below (va_Qi (fun r u => r = r0 ∧ u = u9) (CPost D dA A) A) args s (u9.1 - u.1) (u9.2.1 - u.2.1) A = QQ
  have hent := lg_entry_eq m [.ref x0] 1
  rw [← hav] at hent
  rw [hent]
  have hl := lv_entry ([.ref x0]) (n := 1) (Nat.le_of_ble_eq_true rfl)
  generalize (lg_sl ([.ref x0]) ++ List.replicate (1 - (lg_sl ([.ref x0])).length) Slot.unset).toArray = ls at hl ⊢
  have hl : lv_has ls 1 [(0, .ref x0)] := hl
  obtain ⟨cc, ecc⟩ : ∃ z : Nat, z = 0 := ⟨0, rfl⟩
  obtain ⟨ss, ess⟩ : ∃ z : Nat, z = 0 := ⟨0, rfl⟩
  have hcc : cc + u.1 = u.1 := by omega
  have hss : ss + u.2.1 = u.2.1 := by omega
  suffices hgo : W p l e (rm_X0_undo (u9.1 - u.1) (u9.2.1 - u.2.1)) s m args below meth c s.heap [] cc ss QQ (F0 m 0 ls []) by rw [ecc, ess] at hgo; exact hgo
  have ⟨pu, qu, _, _⟩ := mo_X0_undo hm
  have hB37 : ∀ (h : CH) (y0 : Int32) (cc ss : Nat) (H : Heap) (locs : List Loc) (ls : Array Slot), m_X0_undo_37 f h y0 = some (r0, u9) → CW D dA A s h H locs → cc + u.1 = h.1 → ss + u.2.1 = h.2.1 → lv_has ls 1 [] → W p l e (rm_X0_undo (u9.1 - u.1) (u9.2.1 - u.2.1)) s m args below meth c H locs cc ss QQ (F0 m 37 ls [.int y0]) := by
    intro h y0 cc ss H locs ls hm hw hcc hss hl
    have hmo := mo_X0_undo_37  h y0 _ hm
    have sb_ : h.1 ≤ u9.1 := hmo.1
    have tb_ : h.2.1 ≤ u9.2.1 := hmo.2.1
    rw [m_X0_undo_37] at hm
    obtain ⟨er, eh⟩ := retE hm
    have ec : cc = u9.1 - u.1 := by rw [← eh]; omega
    have es : ss = u9.2.1 - u.2.1 := by rw [← eh]; omega
    rw [ec, es, ← hQ]
    exact W.iret (v := y0) hx hb hr (fun t ht hW => ⟨⟨y0, h, rfl, ⟨er, eh⟩, ⟨by rw [ht]; exact hw.1, by rw [ht]; exact hw.2.1⟩⟩, hw.2.2.1.F ht⟩) hw.2.2.1.2.2 dX0_undo_37
  have hB30 : ∀ (h : CH) (x0 : Nat) (cc ss : Nat) (H : Heap) (locs : List Loc) (ls : Array Slot), m_X0_undo_30 f h x0 = some (r0, u9) → CW D dA A s h H locs → cc + u.1 = h.1 → ss + u.2.1 = h.2.1 → lv_has ls 1 [(0, .ref x0)] → W p l e (rm_X0_undo (u9.1 - u.1) (u9.2.1 - u.2.1)) s m args below meth c H locs cc ss QQ (F0 m 30 ls []) := by
    intro h x0 cc ss H locs ls hm hw hcc hss hl
    have hmo := mo_X0_undo_30  h x0 _ hm
    have sb_ : h.1 ≤ u9.1 := hmo.1
    have tb_ : h.2.1 ≤ u9.2.1 := hmo.2.1
    rw [m_X0_undo_30] at hm
    refine lv_aload_n hx hb dX0_undo_30 rfl (lv_at hl 0 rfl) ?_
    obtain ⟨a1, ea1, hm⟩ := bdE hm
    refine cg_get C hw (oR_E ea1) rfl in_X0 (by decide) q253 dX0_undo_31 ?_
    obtain ⟨g2, hm⟩ := gdE hm
    obtain ⟨r4, h3, er4, hm⟩ := bd2E hm
    have lh3 := mo_J2_size er4
    have ph3 : h.1 ≤ h3.1 := lh3.1
    have qh3 : h.2.1 ≤ h3.2.1 := lh3.2.1
    have hmo := mo_X0_undo_37   h3 r4 _ hm
    have sh3 : h3.1 ≤ u9.1 := hmo.1
    have th3 : h3.2.1 ≤ u9.2.1 := hmo.2.1
    refine cg_calli hw lh3 (va_runV (As := []) (rest := []) ⟨hx, hb, hml, hown, hts⟩ (w_J2_size l er4) (cw_J2_size hts q880 ⟨Nat.le_of_ble_eq_true rfl, Nat.le_of_ble_eq_true rfl⟩) (cg_preV C hw g2 rfl _) rfl rfl hl.1 rfl (lv_room (Nat.le_of_ble_eq_true rfl)) dX0_undo_34 ⟨show cc + (h3.1 - h.1) ≤ u9.1 - u.1 by omega, show ss + (h3.2.1 - h.2.1) ≤ u9.2.1 - u.2.1 by omega⟩) (fun H locs hw => ?_)
    exact hB37 h3 r4 _ _ _ _ _ hm hw (by omega) (by omega) (lv_sub hl [] rfl)
  have hB20 : ∀ (h : CH) (x0 : Nat) (y0 : Int32) (cc ss : Nat) (H : Heap) (locs : List Loc) (ls : Array Slot), m_X0_undo_20 f h x0 y0 = some (r0, u9) → CW D dA A s h H locs → cc + u.1 = h.1 → ss + u.2.1 = h.2.1 → lv_has ls 1 [(0, .ref x0)] → W p l e (rm_X0_undo (u9.1 - u.1) (u9.2.1 - u.2.1)) s m args below meth c H locs cc ss QQ (F0 m 20 ls [.int y0]) := by
    intro h x0 y0 cc ss H locs ls hm hw hcc hss hl
    have hmo := mo_X0_undo_20  h x0 y0 _ hm
    have sb_ : h.1 ≤ u9.1 := hmo.1
    have tb_ : h.2.1 ≤ u9.2.1 := hmo.2.1
    rw [m_X0_undo_20] at hm
    refine lv_if_eq (tgt := 26) hx hb dX0_undo_20 (by decide) (fun c1 => ?_) (fun c1 => ?_)
    · have hm := ifT hm c1
      refine lv_aload_n hx hb dX0_undo_26 rfl (lv_at hl 0 rfl) ?_
      obtain ⟨g2, hm⟩ := gdE hm
      obtain ⟨h3, eh3, hm⟩ := bdE hm
      have lh3 := mo_X0_takesBack eh3
      have ph3 : h.1 ≤ h3.1 := lh3.1
      have qh3 : h.2.1 ≤ h3.2.1 := lh3.2.1
      have hmo := mo_X0_undo_30   h3 x0 _ hm
      have sh3 : h3.1 ≤ u9.1 := hmo.1
      have th3 : h3.2.1 ≤ u9.2.1 := hmo.2.1
      refine cg_callv hw lh3 (va_runV (As := []) (rest := []) ⟨hx, hb, hml, hown, hts⟩ (w_X0_takesBack l eh3) (cw_X0_takesBack hts q1544 ⟨Nat.le_of_ble_eq_true rfl, Nat.le_of_ble_eq_true rfl⟩) (cg_preV C hw g2 rfl _) rfl rfl hl.1 rfl (lv_room (Nat.le_of_ble_eq_true rfl)) dX0_undo_27 ⟨show cc + (h3.1 - h.1) ≤ u9.1 - u.1 by omega, show ss + (h3.2.1 - h.2.1) ≤ u9.2.1 - u.2.1 by omega⟩) (fun H locs hw => ?_)
      exact hB30 h3 x0 _ _ _ _ _ hm hw (by omega) (by omega) (lv_sub hl [0] rfl)
    · have hm := ifF hm c1
      refine lv_bipush (v := -5) hx hb dX0_undo_23 (by decide) ?_
      obtain ⟨er, eh⟩ := retE hm
      have ec : cc = u9.1 - u.1 := by rw [← eh]; omega
      have es : ss = u9.2.1 - u.2.1 := by rw [← eh]; omega
      rw [ec, es, ← hQ]
      exact W.iret (v := (-5 : Int32)) hx hb hr (fun t ht hW => ⟨⟨(-5 : Int32), h, rfl, ⟨er, eh⟩, ⟨by rw [ht]; exact hw.1, by rw [ht]; exact hw.2.1⟩⟩, hw.2.2.1.F ht⟩) hw.2.2.1.2.2 dX0_undo_25
  have hB7 : ∀ (h : CH) (x0 : Nat) (y0 : Int32) (cc ss : Nat) (H : Heap) (locs : List Loc) (ls : Array Slot), m_X0_undo_7 f h x0 y0 = some (r0, u9) → CW D dA A s h H locs → cc + u.1 = h.1 → ss + u.2.1 = h.2.1 → lv_has ls 1 [(0, .ref x0)] → W p l e (rm_X0_undo (u9.1 - u.1) (u9.2.1 - u.2.1)) s m args below meth c H locs cc ss QQ (F0 m 7 ls [.int y0]) := by
    intro h x0 y0 cc ss H locs ls hm hw hcc hss hl
    have hmo := mo_X0_undo_7  h x0 y0 _ hm
    have sb_ : h.1 ≤ u9.1 := hmo.1
    have tb_ : h.2.1 ≤ u9.2.1 := hmo.2.1
    rw [m_X0_undo_7] at hm
    refine lv_if_eq (tgt := 13) hx hb dX0_undo_7 (by decide) (fun c1 => ?_) (fun c1 => ?_)
    · have hm := ifT hm c1
      refine lv_aload_n hx hb dX0_undo_13 rfl (lv_at hl 0 rfl) ?_
      obtain ⟨a2, ea2, hm⟩ := bdE hm
      refine cg_get C hw (oR_E ea2) rfl in_X0 (by decide) q253 dX0_undo_14 ?_
      obtain ⟨g3, hm⟩ := gdE hm
      obtain ⟨r5, h4, er5, hm⟩ := bd2E hm
      have lh4 := mo_J2_isEmpty er5
      have ph4 : h.1 ≤ h4.1 := lh4.1
      have qh4 : h.2.1 ≤ h4.2.1 := lh4.2.1
      have hmo := mo_X0_undo_20   h4 x0 r5 _ hm
      have sh4 : h4.1 ≤ u9.1 := hmo.1
      have th4 : h4.2.1 ≤ u9.2.1 := hmo.2.1
      refine cg_calli hw lh4 (va_runV (As := []) (rest := []) ⟨hx, hb, hml, hown, hts⟩ (w_J2_isEmpty l er5) (cw_J2_isEmpty hts q1540 ⟨Nat.le_of_ble_eq_true rfl, Nat.le_of_ble_eq_true rfl⟩) (cg_preV C hw g3 rfl _) rfl rfl hl.1 rfl (lv_room (Nat.le_of_ble_eq_true rfl)) dX0_undo_17 ⟨show cc + (h4.1 - h.1) ≤ u9.1 - u.1 by omega, show ss + (h4.2.1 - h.2.1) ≤ u9.2.1 - u.2.1 by omega⟩) (fun H locs hw => ?_)
      exact hB20 h4 x0 r5 _ _ _ _ _ hm hw (by omega) (by omega) (lv_sub hl [0] rfl)
    · have hm := ifF hm c1
      refine lv_bipush (v := -2) hx hb dX0_undo_10 (by decide) ?_
      obtain ⟨er, eh⟩ := retE hm
      have ec : cc = u9.1 - u.1 := by rw [← eh]; omega
      have es : ss = u9.2.1 - u.2.1 := by rw [← eh]; omega
      rw [ec, es, ← hQ]
      exact W.iret (v := (-2 : Int32)) hx hb hr (fun t ht hW => ⟨⟨(-2 : Int32), h, rfl, ⟨er, eh⟩, ⟨by rw [ht]; exact hw.1, by rw [ht]; exact hw.2.1⟩⟩, hw.2.2.1.F ht⟩) hw.2.2.1.2.2 dX0_undo_12
  rw [m_X0_undo] at hm
  refine lv_aload_n hx hb dX0_undo_0 rfl (lv_at hl 0 rfl) ?_
  obtain ⟨a1, ea1, hm⟩ := bdE hm
  refine cg_get C hw (oR_E ea1) rfl in_X0 (by decide) q237 dX0_undo_1 ?_
  obtain ⟨g2, hm⟩ := gdE hm
  obtain ⟨r4, h3, er4, hm⟩ := bd2E hm
  have lh3 := mo_J2_isEmpty er4
  have ph3 : u.1 ≤ h3.1 := lh3.1
  have qh3 : u.2.1 ≤ h3.2.1 := lh3.2.1
  have hmo := mo_X0_undo_7   h3 x0 r4 _ hm
  have sh3 : h3.1 ≤ u9.1 := hmo.1
  have th3 : h3.2.1 ≤ u9.2.1 := hmo.2.1
  refine cg_calli hw lh3 (va_runV (As := []) (rest := []) ⟨hx, hb, hml, hown, hts⟩ (w_J2_isEmpty l er4) (cw_J2_isEmpty hts q1540 ⟨Nat.le_of_ble_eq_true rfl, Nat.le_of_ble_eq_true rfl⟩) (cg_preV C hw g2 rfl _) rfl rfl hl.1 rfl (lv_room (Nat.le_of_ble_eq_true rfl)) dX0_undo_4 ⟨show cc + (h3.1 - u.1) ≤ u9.1 - u.1 by omega, show ss + (h3.2.1 - u.2.1) ≤ u9.2.1 - u.2.1 by omega⟩) (fun H locs hw => ?_)
  exact hB7 h3 x0 r4 _ _ _ _ _ hm hw (by omega) (by omega) (lv_sub hl [0] rfl)
def m_X0_anew_38 (f : Nat) (h : CH) (x1 : Int32) : Option (Int32 × CH) := some (x1, h)
theorem mo_X0_anew_38 {f : Nat} : ∀ (h : CH) (x1 : Int32) (r : (Int32 × CH)), m_X0_anew_38 f h x1 = some r → le2 h r.2 := by
  intro h x1 r hm
  rw [m_X0_anew_38] at hm
  cases hm
  exact le2.rf
def m_X0_anew_35 (f : Nat) (k21 : CH → Nat → Int32 → Option (Int32 × CH)) (h : CH) (x0 : Nat) (x1 : Int32) : Option (Int32 × CH) := k21 h x0 x1
theorem mo_X0_anew_35 {f : Nat} {k21 : CH → Nat → Int32 → Option (Int32 × CH)} (hk21 : ∀ (h : CH) (x0 : Nat) (x1 : Int32) (r : (Int32 × CH)), k21 h x0 x1 = some r → le2 h r.2) : ∀ (h : CH) (x0 : Nat) (x1 : Int32) (r : (Int32 × CH)), m_X0_anew_35 f k21 h x0 x1 = some r → le2 h r.2 := by
  intro h x0 x1 r hm
  rw [m_X0_anew_35] at hm
  exact (hk21 h x0 x1 _ hm)
def m_X0_anew_28 (f : Nat) (k21 : CH → Nat → Int32 → Option (Int32 × CH)) (h : CH) (x0 : Nat) (x1 : Int32) (y0 : Int32) : Option (Int32 × CH) := if ¬ y0 = 0 then
    m_X0_anew_38 f h x1
    else gd (isC h x0 1) <|
    bd (m_X0_takesBack f h x0) fun h3 =>
    m_X0_anew_35 f k21 h3 x0 x1
theorem mo_X0_anew_28 {f : Nat} {k21 : CH → Nat → Int32 → Option (Int32 × CH)} (hk21 : ∀ (h : CH) (x0 : Nat) (x1 : Int32) (r : (Int32 × CH)), k21 h x0 x1 = some r → le2 h r.2) : ∀ (h : CH) (x0 : Nat) (x1 : Int32) (y0 : Int32) (r : (Int32 × CH)), m_X0_anew_28 f k21 h x0 x1 y0 = some r → le2 h r.2 := by
  intro h x0 x1 y0 r hm
  rw [m_X0_anew_28] at hm
  by_cases c1 : ¬ y0 = 0
  · have hm := ifT hm c1
    exact (mo_X0_anew_38  h x1 _ hm)
  · have hm := ifF hm c1
    obtain ⟨g2, hm⟩ := gdE hm
    obtain ⟨h3, eh3, hm⟩ := bdE hm
    have lh3 := mo_X0_takesBack eh3
    exact (lh3.tr (mo_X0_anew_35 hk21 h3 x0 x1 _ hm))
def m_X0_anew_21 (f : Nat) : Nat → CH → Nat → Int32 → Option (Int32 × CH)
  | 0, _, _, _ => none
  | n21 + 1, h, x0, x1 => bd (oR h 1 14 x0) fun a1 =>
    gd (isC h a1 17) <|
    bd2 (m_J2_isEmpty f h a1) fun r4 h3 =>
    m_X0_anew_28 f (m_X0_anew_21 f n21) h3 x0 x1 r4
theorem mo_X0_anew_21 {f : Nat} : ∀ (n21 : Nat) (h : CH) (x0 : Nat) (x1 : Int32) (r : (Int32 × CH)), m_X0_anew_21 f n21 h x0 x1 = some r → le2 h r.2 := by
  intro n21
  induction n21 with
  | zero => intro h x0 x1 r hm; rw [m_X0_anew_21] at hm; exact noE hm
  | succ n21 ihm =>
    intro h x0 x1 r hm
    rw [m_X0_anew_21] at hm
    obtain ⟨a1, ea1, hm⟩ := bdE hm
    obtain ⟨g2, hm⟩ := gdE hm
    obtain ⟨r4, h3, er4, hm⟩ := bd2E hm
    have lh3 := mo_J2_isEmpty er4
    exact (lh3.tr (mo_X0_anew_28 ihm h3 x0 x1 r4 _ hm))
def m_X0_anew_20 (f : Nat) (h : CH) (x0 : Nat) (y0 : Int32) : Option (Int32 × CH) := m_X0_anew_21 f f h x0 y0
theorem mo_X0_anew_20 {f : Nat} : ∀ (h : CH) (x0 : Nat) (y0 : Int32) (r : (Int32 × CH)), m_X0_anew_20 f h x0 y0 = some r → le2 h r.2 := by
  intro h x0 y0 r hm
  rw [m_X0_anew_20] at hm
  exact (mo_X0_anew_21  f h x0 y0 _ hm)
def m_X0_anew_7 (f : Nat) (h : CH) (x0 : Nat) (y0 : Int32) : Option (Int32 × CH) := if y0 = 0 then
    bd (oR h 1 14 x0) fun a2 =>
    gd (isC h a2 17) <|
    bd2 (m_J2_size f h a2) fun r5 h4 =>
    m_X0_anew_20 f h4 x0 r5
    else some ((-2 : Int32), h)
theorem mo_X0_anew_7 {f : Nat} : ∀ (h : CH) (x0 : Nat) (y0 : Int32) (r : (Int32 × CH)), m_X0_anew_7 f h x0 y0 = some r → le2 h r.2 := by
  intro h x0 y0 r hm
  rw [m_X0_anew_7] at hm
  by_cases c1 : y0 = 0
  · have hm := ifT hm c1
    obtain ⟨a2, ea2, hm⟩ := bdE hm
    obtain ⟨g3, hm⟩ := gdE hm
    obtain ⟨r5, h4, er5, hm⟩ := bd2E hm
    have lh4 := mo_J2_size er5
    exact (lh4.tr (mo_X0_anew_20  h4 x0 r5 _ hm))
  · have hm := ifF hm c1
    cases hm
    exact le2.rf
def m_X0_anew (f : Nat) (u : CH) (x0 : Nat) : Option (Int32 × CH) := bd (oR u 1 0 x0) fun a1 =>
    gd (isC u a1 17) <|
    bd2 (m_J2_isEmpty f u a1) fun r4 h3 =>
    m_X0_anew_7 f h3 x0 r4
theorem mo_X0_anew {f : Nat} {u : CH} {x0 : Nat} {r0 : Int32} {u9 : CH} (hm : m_X0_anew f u x0 = some (r0, u9)) : le2 u u9 := by
  rw [m_X0_anew] at hm
  obtain ⟨a1, ea1, hm⟩ := bdE hm
  obtain ⟨g2, hm⟩ := gdE hm
  obtain ⟨r4, h3, er4, hm⟩ := bd2E hm
  have lh3 := mo_J2_isEmpty er4
  exact (lh3.tr (mo_X0_anew_7  h3 x0 r4 _ hm))
abbrev rm_X0_anew (mc ms : Nat) : Room := { frames := 5, cells := mc, slots := ms, locals := 127 }
theorem cw_X0_anew {R : Room} {s : State} {args : Array Value} {own : String} {idx mc ms : Nat} (hts : ∀ w ∈ lw_all, w.before args s = true) (hl : Cond.methodLink own idx yX0_anew ∈ lw_all) (hR : 5 + 1 ≤ R.frames ∧ 8 + (2 + 11) + 127 ≤ R.locals) : CallW R s args own RX0 idx yX0_anew cX0_anew 2 (Option.some Jvm.ClassFile.FieldType.int) (ws_ yX0_anew cX0_anew 2 (Option.some Jvm.ClassFile.FieldType.int)) (rm_X0_anew mc ms) mc ms 0 := cwV 0 hts (lw_V hl q1557 q1558 q119 q1559) rfl rfl rfl (by decide +kernel) hR
set_option maxHeartbeats 4000000 in
set_option maxRecDepth 100000 in
theorem w_X0_anew (l : Launch) {D : va_G} {dA : Nat → ClassId} {A : Nat → Prop} {f : Nat} {u u9 : CH} {r0 : Int32} {x0 : Nat} (hm : m_X0_anew f u x0 = some (r0, u9)) : Met l yX0_anew (ws_ yX0_anew cX0_anew 2 (Option.some Jvm.ClassFile.FieldType.int)) (rm_X0_anew (u9.1 - u.1) (u9.2.1 - u.2.1)) (va_Pc [.ref x0] (CPre D dA A u)) (va_Qi (fun r u => r = r0 ∧ u = u9) (CPost D dA A) A) (u9.1 - u.1) (u9.2.1 - u.2.1) A := by
  refine Met.ofW (cc := cX0_anew) (maxL := 2) (ret := (Option.some Jvm.ClassFile.FieldType.int)) (by decide) rfl ?_
  intro p e s m args below meth c s₁ B hml hv
  have hx := B.exec
  have hb := B.bytes
  have hr := B.returns
  have hts := atoms_spec (ws := (ws_ yX0_anew cX0_anew 2 (Option.some Jvm.ClassFile.FieldType.int))) B.pre
  have hts : ∀ w ∈ lw_all, w.before args s = true := fun w h => hts w (List.mem_cons_of_mem _ h)
  have hown : s.vm.findClass RX0 = some m.cls := findClass_of_methodNamed B.named
  have hlocks := B.notSynchronized
  obtain ⟨hav, hv⟩ := hv
  have C : CX p s m args c cX0_anew RX0 D dA := ⟨hx, hb, hown, hts, hv.2⟩
  have hw : CW D dA A s u s.heap [] := hv.1
  generalize hQ : MQ below (va_Qi (fun r u => r = r0 ∧ u = u9) (CPost D dA A) A) args s (u9.1 - u.1) (u9.2.1 - u.2.1) A = QQ
  have hent := lg_entry_eq m [.ref x0] 2
  rw [← hav] at hent
  rw [hent]
  have hl := lv_entry ([.ref x0]) (n := 2) (Nat.le_of_ble_eq_true rfl)
  generalize (lg_sl ([.ref x0]) ++ List.replicate (2 - (lg_sl ([.ref x0])).length) Slot.unset).toArray = ls at hl ⊢
  have hl : lv_has ls 2 [(0, .ref x0)] := hl
  obtain ⟨cc, ecc⟩ : ∃ z : Nat, z = 0 := ⟨0, rfl⟩
  obtain ⟨ss, ess⟩ : ∃ z : Nat, z = 0 := ⟨0, rfl⟩
  have hcc : cc + u.1 = u.1 := by omega
  have hss : ss + u.2.1 = u.2.1 := by omega
  suffices hgo : W p l e (rm_X0_anew (u9.1 - u.1) (u9.2.1 - u.2.1)) s m args below meth c s.heap [] cc ss QQ (F0 m 0 ls []) by rw [ecc, ess] at hgo; exact hgo
  have ⟨pu, qu, _, _⟩ := mo_X0_anew hm
  have hB38 : ∀ (h : CH) (x1 : Int32) (cc ss : Nat) (H : Heap) (locs : List Loc) (ls : Array Slot), m_X0_anew_38 f h x1 = some (r0, u9) → CW D dA A s h H locs → cc + u.1 = h.1 → ss + u.2.1 = h.2.1 → lv_has ls 2 [(1, .int x1)] → W p l e (rm_X0_anew (u9.1 - u.1) (u9.2.1 - u.2.1)) s m args below meth c H locs cc ss QQ (F0 m 38 ls []) := by
    intro h x1 cc ss H locs ls hm hw hcc hss hl
    have hmo := mo_X0_anew_38  h x1 _ hm
    have sb_ : h.1 ≤ u9.1 := hmo.1
    have tb_ : h.2.1 ≤ u9.2.1 := hmo.2.1
    rw [m_X0_anew_38] at hm
    refine lv_iload_n hx hb dX0_anew_38 rfl (lv_at hl 0 rfl) ?_
    obtain ⟨er, eh⟩ := retE hm
    have ec : cc = u9.1 - u.1 := by rw [← eh]; omega
    have es : ss = u9.2.1 - u.2.1 := by rw [← eh]; omega
    rw [ec, es, ← hQ]
    exact W.iret (v := x1) hx hb hr (fun t ht hW => ⟨⟨x1, h, rfl, ⟨er, eh⟩, ⟨by rw [ht]; exact hw.1, by rw [ht]; exact hw.2.1⟩⟩, hw.2.2.1.F ht⟩) hw.2.2.1.2.2 dX0_anew_39
  have hB21 : ∀ (n21 : Nat), ∀ (h : CH) (x0 : Nat) (x1 : Int32) (cc ss : Nat) (H : Heap) (locs : List Loc) (ls : Array Slot), m_X0_anew_21 f n21 h x0 x1 = some (r0, u9) → CW D dA A s h H locs → cc + u.1 = h.1 → ss + u.2.1 = h.2.1 → lv_has ls 2 [(0, .ref x0), (1, .int x1)] → W p l e (rm_X0_anew (u9.1 - u.1) (u9.2.1 - u.2.1)) s m args below meth c H locs cc ss QQ (F0 m 21 ls []) := by
    intro n21
    induction n21 with
    | zero => intro h x0 x1 cc ss H locs ls hm hw hcc hss hl; rw [m_X0_anew_21] at hm; exact noE hm
    | succ n21 ih21 =>
      have hB35 : ∀ (h : CH) (x0 : Nat) (x1 : Int32) (cc ss : Nat) (H : Heap) (locs : List Loc) (ls : Array Slot), m_X0_anew_35 f (m_X0_anew_21 f n21) h x0 x1 = some (r0, u9) → CW D dA A s h H locs → cc + u.1 = h.1 → ss + u.2.1 = h.2.1 → lv_has ls 2 [(0, .ref x0), (1, .int x1)] → W p l e (rm_X0_anew (u9.1 - u.1) (u9.2.1 - u.2.1)) s m args below meth c H locs cc ss QQ (F0 m 35 ls []) := by
        intro h x0 x1 cc ss H locs ls hm hw hcc hss hl
        have hmo := mo_X0_anew_35 (mo_X0_anew_21 n21) h x0 x1 _ hm
        have sb_ : h.1 ≤ u9.1 := hmo.1
        have tb_ : h.2.1 ≤ u9.2.1 := hmo.2.1
        rw [m_X0_anew_35] at hm
        refine lv_goto (tgt := 21) hx hb dX0_anew_35 (by decide) ?_
        exact ih21 h x0 x1 _ _ _ _ _ hm hw (by omega) (by omega) (lv_sub hl [0, 1] rfl)
      have hB28 : ∀ (h : CH) (x0 : Nat) (x1 : Int32) (y0 : Int32) (cc ss : Nat) (H : Heap) (locs : List Loc) (ls : Array Slot), m_X0_anew_28 f (m_X0_anew_21 f n21) h x0 x1 y0 = some (r0, u9) → CW D dA A s h H locs → cc + u.1 = h.1 → ss + u.2.1 = h.2.1 → lv_has ls 2 [(0, .ref x0), (1, .int x1)] → W p l e (rm_X0_anew (u9.1 - u.1) (u9.2.1 - u.2.1)) s m args below meth c H locs cc ss QQ (F0 m 28 ls [.int y0]) := by
        intro h x0 x1 y0 cc ss H locs ls hm hw hcc hss hl
        have hmo := mo_X0_anew_28 (mo_X0_anew_21 n21) h x0 x1 y0 _ hm
        have sb_ : h.1 ≤ u9.1 := hmo.1
        have tb_ : h.2.1 ≤ u9.2.1 := hmo.2.1
        rw [m_X0_anew_28] at hm
        refine lv_if_ne (tgt := 38) hx hb dX0_anew_28 (by decide) (fun c1 => ?_) (fun c1 => ?_)
        · have hm := ifT hm c1
          exact hB38 h x1 _ _ _ _ _ hm hw (by omega) (by omega) (lv_sub hl [1] rfl)
        · have hm := ifT' hm c1
          refine lv_aload_n hx hb dX0_anew_31 rfl (lv_at hl 0 rfl) ?_
          obtain ⟨g2, hm⟩ := gdE hm
          obtain ⟨h3, eh3, hm⟩ := bdE hm
          have lh3 := mo_X0_takesBack eh3
          have ph3 : h.1 ≤ h3.1 := lh3.1
          have qh3 : h.2.1 ≤ h3.2.1 := lh3.2.1
          have hmo := mo_X0_anew_35 (mo_X0_anew_21 n21)  h3 x0 x1 _ hm
          have sh3 : h3.1 ≤ u9.1 := hmo.1
          have th3 : h3.2.1 ≤ u9.2.1 := hmo.2.1
          refine cg_callv hw lh3 (va_runV (As := []) (rest := []) ⟨hx, hb, hml, hown, hts⟩ (w_X0_takesBack l eh3) (cw_X0_takesBack hts q1544 ⟨Nat.le_of_ble_eq_true rfl, Nat.le_of_ble_eq_true rfl⟩) (cg_preV C hw g2 rfl _) rfl rfl hl.1 rfl (lv_room (Nat.le_of_ble_eq_true rfl)) dX0_anew_32 ⟨show cc + (h3.1 - h.1) ≤ u9.1 - u.1 by omega, show ss + (h3.2.1 - h.2.1) ≤ u9.2.1 - u.2.1 by omega⟩) (fun H locs hw => ?_)
          exact hB35 h3 x0 x1 _ _ _ _ _ hm hw (by omega) (by omega) (lv_sub hl [0, 1] rfl)
      intro h x0 x1 cc ss H locs ls hm hw hcc hss hl
      have hmo := mo_X0_anew_21  (n21 + 1) h x0 x1 _ hm
      have sb_ : h.1 ≤ u9.1 := hmo.1
      have tb_ : h.2.1 ≤ u9.2.1 := hmo.2.1
      rw [m_X0_anew_21] at hm
      refine lv_aload_n hx hb dX0_anew_21 rfl (lv_at hl 0 rfl) ?_
      obtain ⟨a1, ea1, hm⟩ := bdE hm
      refine cg_get C hw (oR_E ea1) rfl in_X0 (by decide) q253 dX0_anew_22 ?_
      obtain ⟨g2, hm⟩ := gdE hm
      obtain ⟨r4, h3, er4, hm⟩ := bd2E hm
      have lh3 := mo_J2_isEmpty er4
      have ph3 : h.1 ≤ h3.1 := lh3.1
      have qh3 : h.2.1 ≤ h3.2.1 := lh3.2.1
      have hmo := mo_X0_anew_28 (mo_X0_anew_21 n21)  h3 x0 x1 r4 _ hm
      have sh3 : h3.1 ≤ u9.1 := hmo.1
      have th3 : h3.2.1 ≤ u9.2.1 := hmo.2.1
      refine cg_calli hw lh3 (va_runV (As := []) (rest := []) ⟨hx, hb, hml, hown, hts⟩ (w_J2_isEmpty l er4) (cw_J2_isEmpty hts q1540 ⟨Nat.le_of_ble_eq_true rfl, Nat.le_of_ble_eq_true rfl⟩) (cg_preV C hw g2 rfl _) rfl rfl hl.1 rfl (lv_room (Nat.le_of_ble_eq_true rfl)) dX0_anew_25 ⟨show cc + (h3.1 - h.1) ≤ u9.1 - u.1 by omega, show ss + (h3.2.1 - h.2.1) ≤ u9.2.1 - u.2.1 by omega⟩) (fun H locs hw => ?_)
      exact hB28 h3 x0 x1 r4 _ _ _ _ _ hm hw (by omega) (by omega) (lv_sub hl [0, 1] rfl)
  have hB20 : ∀ (h : CH) (x0 : Nat) (y0 : Int32) (cc ss : Nat) (H : Heap) (locs : List Loc) (ls : Array Slot), m_X0_anew_20 f h x0 y0 = some (r0, u9) → CW D dA A s h H locs → cc + u.1 = h.1 → ss + u.2.1 = h.2.1 → lv_has ls 2 [(0, .ref x0)] → W p l e (rm_X0_anew (u9.1 - u.1) (u9.2.1 - u.2.1)) s m args below meth c H locs cc ss QQ (F0 m 20 ls [.int y0]) := by
    intro h x0 y0 cc ss H locs ls hm hw hcc hss hl
    have hmo := mo_X0_anew_20  h x0 y0 _ hm
    have sb_ : h.1 ≤ u9.1 := hmo.1
    have tb_ : h.2.1 ≤ u9.2.1 := hmo.2.1
    rw [m_X0_anew_20] at hm
    refine lv_istore_n (lv' := [(1, .int y0), (0, .ref x0)]) hx hb dX0_anew_20 rfl hl (by decide) rfl (fun ls hl => ?_)
    exact hB21 f h x0 y0 _ _ _ _ _ hm hw (by omega) (by omega) (lv_sub hl [1, 0] rfl)
  have hB7 : ∀ (h : CH) (x0 : Nat) (y0 : Int32) (cc ss : Nat) (H : Heap) (locs : List Loc) (ls : Array Slot), m_X0_anew_7 f h x0 y0 = some (r0, u9) → CW D dA A s h H locs → cc + u.1 = h.1 → ss + u.2.1 = h.2.1 → lv_has ls 2 [(0, .ref x0)] → W p l e (rm_X0_anew (u9.1 - u.1) (u9.2.1 - u.2.1)) s m args below meth c H locs cc ss QQ (F0 m 7 ls [.int y0]) := by
    intro h x0 y0 cc ss H locs ls hm hw hcc hss hl
    have hmo := mo_X0_anew_7  h x0 y0 _ hm
    have sb_ : h.1 ≤ u9.1 := hmo.1
    have tb_ : h.2.1 ≤ u9.2.1 := hmo.2.1
    rw [m_X0_anew_7] at hm
    refine lv_if_eq (tgt := 13) hx hb dX0_anew_7 (by decide) (fun c1 => ?_) (fun c1 => ?_)
    · have hm := ifT hm c1
      refine lv_aload_n hx hb dX0_anew_13 rfl (lv_at hl 0 rfl) ?_
      obtain ⟨a2, ea2, hm⟩ := bdE hm
      refine cg_get C hw (oR_E ea2) rfl in_X0 (by decide) q253 dX0_anew_14 ?_
      obtain ⟨g3, hm⟩ := gdE hm
      obtain ⟨r5, h4, er5, hm⟩ := bd2E hm
      have lh4 := mo_J2_size er5
      have ph4 : h.1 ≤ h4.1 := lh4.1
      have qh4 : h.2.1 ≤ h4.2.1 := lh4.2.1
      have hmo := mo_X0_anew_20   h4 x0 r5 _ hm
      have sh4 : h4.1 ≤ u9.1 := hmo.1
      have th4 : h4.2.1 ≤ u9.2.1 := hmo.2.1
      refine cg_calli hw lh4 (va_runV (As := []) (rest := []) ⟨hx, hb, hml, hown, hts⟩ (w_J2_size l er5) (cw_J2_size hts q880 ⟨Nat.le_of_ble_eq_true rfl, Nat.le_of_ble_eq_true rfl⟩) (cg_preV C hw g3 rfl _) rfl rfl hl.1 rfl (lv_room (Nat.le_of_ble_eq_true rfl)) dX0_anew_17 ⟨show cc + (h4.1 - h.1) ≤ u9.1 - u.1 by omega, show ss + (h4.2.1 - h.2.1) ≤ u9.2.1 - u.2.1 by omega⟩) (fun H locs hw => ?_)
      exact hB20 h4 x0 r5 _ _ _ _ _ hm hw (by omega) (by omega) (lv_sub hl [0] rfl)
    · have hm := ifF hm c1
      refine lv_bipush (v := -2) hx hb dX0_anew_10 (by decide) ?_
      obtain ⟨er, eh⟩ := retE hm
      have ec : cc = u9.1 - u.1 := by rw [← eh]; omega
      have es : ss = u9.2.1 - u.2.1 := by rw [← eh]; omega
      rw [ec, es, ← hQ]
      exact W.iret (v := (-2 : Int32)) hx hb hr (fun t ht hW => ⟨⟨(-2 : Int32), h, rfl, ⟨er, eh⟩, ⟨by rw [ht]; exact hw.1, by rw [ht]; exact hw.2.1⟩⟩, hw.2.2.1.F ht⟩) hw.2.2.1.2.2 dX0_anew_12
  rw [m_X0_anew] at hm
  refine lv_aload_n hx hb dX0_anew_0 rfl (lv_at hl 0 rfl) ?_
  obtain ⟨a1, ea1, hm⟩ := bdE hm
  refine cg_get C hw (oR_E ea1) rfl in_X0 (by decide) q237 dX0_anew_1 ?_
  obtain ⟨g2, hm⟩ := gdE hm
  obtain ⟨r4, h3, er4, hm⟩ := bd2E hm
  have lh3 := mo_J2_isEmpty er4
  have ph3 : u.1 ≤ h3.1 := lh3.1
  have qh3 : u.2.1 ≤ h3.2.1 := lh3.2.1
  have hmo := mo_X0_anew_7   h3 x0 r4 _ hm
  have sh3 : h3.1 ≤ u9.1 := hmo.1
  have th3 : h3.2.1 ≤ u9.2.1 := hmo.2.1
  refine cg_calli hw lh3 (va_runV (As := []) (rest := []) ⟨hx, hb, hml, hown, hts⟩ (w_J2_isEmpty l er4) (cw_J2_isEmpty hts q1540 ⟨Nat.le_of_ble_eq_true rfl, Nat.le_of_ble_eq_true rfl⟩) (cg_preV C hw g2 rfl _) rfl rfl hl.1 rfl (lv_room (Nat.le_of_ble_eq_true rfl)) dX0_anew_4 ⟨show cc + (h3.1 - u.1) ≤ u9.1 - u.1 by omega, show ss + (h3.2.1 - u.2.1) ≤ u9.2.1 - u.2.1 by omega⟩) (fun H locs hw => ?_)
  exact hB7 h3 x0 r4 _ _ _ _ _ hm hw (by omega) (by omega) (lv_sub hl [0] rfl)
