/-! walks of the component (printed by gen/walkc.py) -/
set_option maxRecDepth 100000
def m_J12_checkIndex_N2_9 (f : Nat) (h : CH) (x0 : Int32) (x1 : Int32) : Option (Int32 × CH) := none
theorem mo_J12_checkIndex_N2_9 {f : Nat} : ∀ (h : CH) (x0 : Int32) (x1 : Int32) (r : (Int32 × CH)), m_J12_checkIndex_N2_9 f h x0 x1 = some r → le2 h r.2 := by
  intro h x0 x1 r hm
  rw [m_J12_checkIndex_N2_9] at hm
  exact noE hm
def m_J12_checkIndex_N2 (f : Nat) (u : CH) (x0 : Int32) (x1 : Int32) : Option (Int32 × CH) := if x0 < 0 then
    m_J12_checkIndex_N2_9 f u x0 x1
    else if x0 < x1 then
    some (x0, u)
    else m_J12_checkIndex_N2_9 f u x0 x1
theorem mo_J12_checkIndex_N2 {f : Nat} {u : CH} {x0 : Int32} {x1 : Int32} {r0 : Int32} {u9 : CH} (hm : m_J12_checkIndex_N2 f u x0 x1 = some (r0, u9)) : le2 u u9 := by
  rw [m_J12_checkIndex_N2] at hm
  by_cases c1 : x0 < 0
  · have hm := ifT hm c1
    exact (mo_J12_checkIndex_N2_9  u x0 x1 _ hm)
  · have hm := ifF hm c1
    by_cases c2 : x0 < x1
    · have hm := ifT hm c2
      cases hm
      exact le2.rf
    · have hm := ifF hm c2
      exact (mo_J12_checkIndex_N2_9  u x0 x1 _ hm)
abbrev rm_J12_checkIndex_N2 (mc ms : Nat) : Room := { frames := 0, cells := mc, slots := ms, locals := 0 }
theorem cw_J12_checkIndex_N2 {R : Room} {s : State} {args : Array Value} {own : String} {idx mc ms : Nat} (hts : ∀ w ∈ lw_all, w.before args s = true) (hl : Cond.methodLink own idx yJ12_checkIndex ∈ lw_all) (hR : 0 + 1 ≤ R.frames ∧ 8 + (3 + 11) + 0 ≤ R.locals) : CallB R s args own idx yJ12_checkIndex cJ12_checkIndex 3 (Option.some Jvm.ClassFile.FieldType.int) (ws_ yJ12_checkIndex cJ12_checkIndex 3 (Option.some Jvm.ClassFile.FieldType.int)) (rm_J12_checkIndex_N2 mc ms) mc ms 3 ∧ (Cond.static yJ12_checkIndex).before args s = true := va_cwS 3 hts (lw_S hl q488 q138 q489) rfl rfl rfl (by decide +kernel) hR
set_option maxHeartbeats 4000000 in
set_option maxRecDepth 100000 in
theorem w_J12_checkIndex_N2 (l : Launch) {D : va_G} {dA : Nat → ClassId} {A : Nat → Prop} {f : Nat} {u u9 : CH} {r0 : Int32} {x0 : Int32} {x1 : Int32} (hm : m_J12_checkIndex_N2 f u x0 x1 = some (r0, u9)) : Met l yJ12_checkIndex (ws_ yJ12_checkIndex cJ12_checkIndex 3 (Option.some Jvm.ClassFile.FieldType.int)) (rm_J12_checkIndex_N2 (u9.1 - u.1) (u9.2.1 - u.2.1)) (va_Pc [.int x0, .int x1, .null] (CPre D dA A u)) (va_Qi (fun r u => r = r0 ∧ u = u9) (CPost D dA A) A) (u9.1 - u.1) (u9.2.1 - u.2.1) A := by
  refine metOfWF (cc := cJ12_checkIndex) (maxL := 3) (ret := (Option.some Jvm.ClassFile.FieldType.int)) (by decide +kernel) rfl ?_
  intro p e s m args below meth c s₁ B hml hv
  have hx := B.exec
  have hb := B.bytes
  have hr := B.returns
  have hts := atoms_spec (ws := (ws_ yJ12_checkIndex cJ12_checkIndex 3 (Option.some Jvm.ClassFile.FieldType.int))) B.pre
  have hts : ∀ w ∈ lw_all, w.before args s = true := fun w h => hts w (List.mem_cons_of_mem _ h)
  have hown : s.vm.findClass RJ12 = some m.cls := findClass_of_methodNamed B.named
  have hlocks := B.notSynchronized
  obtain ⟨hav, hv⟩ := hv
  have C : CX p s m args c cJ12_checkIndex RJ12 D dA := ⟨hx, hb, hown, hts, hv.2⟩
  have hw : CW D dA A s u s.heap [] := hv.1
  generalize hQ : MQ below (va_Qi (fun r u => r = r0 ∧ u = u9) (CPost D dA A) A) args s (u9.1 - u.1) (u9.2.1 - u.2.1) A = QQ
  have hent := lg_entry_eq m [.int x0, .int x1, .null] 3
  rw [← hav] at hent
  rw [hent]
  have hl := lv_entry ([.int x0, .int x1, .null]) (n := 3) (Nat.le_of_ble_eq_true rfl)
  generalize (lg_sl ([.int x0, .int x1, .null]) ++ List.replicate (3 - (lg_sl ([.int x0, .int x1, .null])).length) Slot.unset).toArray = ls at hl ⊢
  have hl : lv_has ls 3 [(0, .int x0), (1, .int x1), (2, .null)] := hl
  obtain ⟨cc, ecc⟩ : ∃ z : Nat, z = 0 := ⟨0, rfl⟩
  obtain ⟨ss, ess⟩ : ∃ z : Nat, z = 0 := ⟨0, rfl⟩
  have hcc : cc + u.1 = u.1 := by omega
  have hss : ss + u.2.1 = u.2.1 := by omega
  suffices hgo : W p l e (rm_J12_checkIndex_N2 (u9.1 - u.1) (u9.2.1 - u.2.1)) s m args below meth c s.heap [] cc ss QQ (F0 m 0 ls []) by rw [ecc, ess] at hgo; exact hgo
  have ⟨pu, qu, _, _⟩ := mo_J12_checkIndex_N2 hm
  have hB9 : ∀ (h : CH) (x0 : Int32) (x1 : Int32) (cc ss : Nat) (H : Heap) (locs : List Loc) (ls : Array Slot), m_J12_checkIndex_N2_9 f h x0 x1 = some (r0, u9) → CW D dA A s h H locs → cc + u.1 = h.1 → ss + u.2.1 = h.2.1 → lv_has ls 3 [(0, .int x0), (1, .int x1), (2, .null)] → W p l e (rm_J12_checkIndex_N2 (u9.1 - u.1) (u9.2.1 - u.2.1)) s m args below meth c H locs cc ss QQ (F0 m 9 ls []) := by
    intro h x0 x1 cc ss H locs ls hm hw hcc hss hl
    have hmo := mo_J12_checkIndex_N2_9  h x0 x1 _ hm
    have sb_ : h.1 ≤ u9.1 := hmo.1
    have tb_ : h.2.1 ≤ u9.2.1 := hmo.2.1
    rw [m_J12_checkIndex_N2_9] at hm
    refine lv_aload_nN hx hb dJ12_checkIndex_9 rfl (lv_at hl 2 rfl) ?_
    refine lv_iload_n hx hb dJ12_checkIndex_10 rfl (lv_at hl 0 rfl) ?_
    refine lv_iload_n hx hb dJ12_checkIndex_11 rfl (lv_at hl 1 rfl) ?_
    exact noE hm
  rw [m_J12_checkIndex_N2] at hm
  refine lv_iload_n hx hb dJ12_checkIndex_0 rfl (lv_at hl 0 rfl) ?_
  refine lv_if_lt (tgt := 9) hx hb dJ12_checkIndex_1 (by decide) (fun c1 => ?_) (fun c1 => ?_)
  · have hm := ifT hm c1
    exact hB9 u x0 x1 _ _ _ _ _ hm hw (by omega) (by omega) (lv_sub hl [0, 1, 2] rfl)
  · have hm := ifF hm c1
    refine lv_iload_n hx hb dJ12_checkIndex_4 rfl (lv_at hl 0 rfl) ?_
    refine lv_iload_n hx hb dJ12_checkIndex_5 rfl (lv_at hl 1 rfl) ?_
    refine lv_icmp_lt (tgt := 16) hx hb dJ12_checkIndex_6 (by decide) (fun c2 => ?_) (fun c2 => ?_)
    · have hm := ifT hm c2
      refine lv_iload_n hx hb dJ12_checkIndex_16 rfl (lv_at hl 0 rfl) ?_
      obtain ⟨er, eh⟩ := retE hm
      have ec : cc = u9.1 - u.1 := by rw [← eh]; omega
      have es : ss = u9.2.1 - u.2.1 := by rw [← eh]; omega
      rw [ec, es, ← hQ]
      exact W.iret (v := x0) hx hb hr (fun t ht hW => ⟨⟨x0, u, rfl, ⟨er, eh⟩, ⟨by rw [ht]; exact hw.1, by rw [ht]; exact hw.2.1⟩⟩, hw.2.2.1.F ht⟩) hw.2.2.1.2.2 dJ12_checkIndex_17
    · have hm := ifF hm c2
      exact hB9 u x0 x1 _ _ _ _ _ hm hw (by omega) (by omega) (lv_sub hl [0, 1, 2] rfl)
def m_J15_checkIndex_6 (f : Nat) (h : CH) (y0 : Int32) : Option (Int32 × CH) := some (y0, h)
theorem mo_J15_checkIndex_6 {f : Nat} : ∀ (h : CH) (y0 : Int32) (r : (Int32 × CH)), m_J15_checkIndex_6 f h y0 = some r → le2 h r.2 := by
  intro h y0 r hm
  rw [m_J15_checkIndex_6] at hm
  cases hm
  exact le2.rf
def m_J15_checkIndex (f : Nat) (u : CH) (x0 : Int32) (x1 : Int32) : Option (Int32 × CH) := bd2 (m_J12_checkIndex_N2 f u x0 x1) fun r2 h1 =>
    m_J15_checkIndex_6 f h1 r2
theorem mo_J15_checkIndex {f : Nat} {u : CH} {x0 : Int32} {x1 : Int32} {r0 : Int32} {u9 : CH} (hm : m_J15_checkIndex f u x0 x1 = some (r0, u9)) : le2 u u9 := by
  rw [m_J15_checkIndex] at hm
  obtain ⟨r2, h1, er2, hm⟩ := bd2E hm
  have lh1 := mo_J12_checkIndex_N2 er2
  exact (lh1.tr (mo_J15_checkIndex_6  h1 r2 _ hm))
abbrev rm_J15_checkIndex (mc ms : Nat) : Room := { frames := 1, cells := mc, slots := ms, locals := 22 }
theorem cw_J15_checkIndex {R : Room} {s : State} {args : Array Value} {own : String} {idx mc ms : Nat} (hts : ∀ w ∈ lw_all, w.before args s = true) (hl : Cond.methodLink own idx yJ15_checkIndex ∈ lw_all) (hR : 1 + 1 ≤ R.frames ∧ 8 + (2 + 11) + 22 ≤ R.locals) : CallB R s args own idx yJ15_checkIndex cJ15_checkIndex 2 (Option.some Jvm.ClassFile.FieldType.int) (ws_ yJ15_checkIndex cJ15_checkIndex 2 (Option.some Jvm.ClassFile.FieldType.int)) (rm_J15_checkIndex mc ms) mc ms 2 ∧ (Cond.static yJ15_checkIndex).before args s = true := va_cwS 2 hts (lw_S hl q726 q142 q727) rfl rfl rfl (by decide +kernel) hR
set_option maxHeartbeats 4000000 in
set_option maxRecDepth 100000 in
theorem w_J15_checkIndex (l : Launch) {D : va_G} {dA : Nat → ClassId} {A : Nat → Prop} {f : Nat} {u u9 : CH} {r0 : Int32} {x0 : Int32} {x1 : Int32} (hm : m_J15_checkIndex f u x0 x1 = some (r0, u9)) : Met l yJ15_checkIndex (ws_ yJ15_checkIndex cJ15_checkIndex 2 (Option.some Jvm.ClassFile.FieldType.int)) (rm_J15_checkIndex (u9.1 - u.1) (u9.2.1 - u.2.1)) (va_Pc [.int x0, .int x1] (CPre D dA A u)) (va_Qi (fun r u => r = r0 ∧ u = u9) (CPost D dA A) A) (u9.1 - u.1) (u9.2.1 - u.2.1) A := by
  refine metOfWF (cc := cJ15_checkIndex) (maxL := 2) (ret := (Option.some Jvm.ClassFile.FieldType.int)) (by decide +kernel) rfl ?_
  intro p e s m args below meth c s₁ B hml hv
  have hx := B.exec
  have hb := B.bytes
  have hr := B.returns
  have hts := atoms_spec (ws := (ws_ yJ15_checkIndex cJ15_checkIndex 2 (Option.some Jvm.ClassFile.FieldType.int))) B.pre
  have hts : ∀ w ∈ lw_all, w.before args s = true := fun w h => hts w (List.mem_cons_of_mem _ h)
  have hown : s.vm.findClass RJ15 = some m.cls := findClass_of_methodNamed B.named
  have hlocks := B.notSynchronized
  obtain ⟨hav, hv⟩ := hv
  have C : CX p s m args c cJ15_checkIndex RJ15 D dA := ⟨hx, hb, hown, hts, hv.2⟩
  have hw : CW D dA A s u s.heap [] := hv.1
  generalize hQ : MQ below (va_Qi (fun r u => r = r0 ∧ u = u9) (CPost D dA A) A) args s (u9.1 - u.1) (u9.2.1 - u.2.1) A = QQ
  have hent := lg_entry_eq m [.int x0, .int x1] 2
  rw [← hav] at hent
  rw [hent]
  have hl := lv_entry ([.int x0, .int x1]) (n := 2) (Nat.le_of_ble_eq_true rfl)
  generalize (lg_sl ([.int x0, .int x1]) ++ List.replicate (2 - (lg_sl ([.int x0, .int x1])).length) Slot.unset).toArray = ls at hl ⊢
  have hl : lv_has ls 2 [(0, .int x0), (1, .int x1)] := hl
  obtain ⟨cc, ecc⟩ : ∃ z : Nat, z = 0 := ⟨0, rfl⟩
  obtain ⟨ss, ess⟩ : ∃ z : Nat, z = 0 := ⟨0, rfl⟩
  have hcc : cc + u.1 = u.1 := by omega
  have hss : ss + u.2.1 = u.2.1 := by omega
  suffices hgo : W p l e (rm_J15_checkIndex (u9.1 - u.1) (u9.2.1 - u.2.1)) s m args below meth c s.heap [] cc ss QQ (F0 m 0 ls []) by rw [ecc, ess] at hgo; exact hgo
  have ⟨pu, qu, _, _⟩ := mo_J15_checkIndex hm
  have hB6 : ∀ (h : CH) (y0 : Int32) (cc ss : Nat) (H : Heap) (locs : List Loc) (ls : Array Slot), m_J15_checkIndex_6 f h y0 = some (r0, u9) → CW D dA A s h H locs → cc + u.1 = h.1 → ss + u.2.1 = h.2.1 → lv_has ls 2 [] → W p l e (rm_J15_checkIndex (u9.1 - u.1) (u9.2.1 - u.2.1)) s m args below meth c H locs cc ss QQ (F0 m 6 ls [.int y0]) := by
    intro h y0 cc ss H locs ls hm hw hcc hss hl
    have hmo := mo_J15_checkIndex_6  h y0 _ hm
    have sb_ : h.1 ≤ u9.1 := hmo.1
    have tb_ : h.2.1 ≤ u9.2.1 := hmo.2.1
    rw [m_J15_checkIndex_6] at hm
    obtain ⟨er, eh⟩ := retE hm
    have ec : cc = u9.1 - u.1 := by rw [← eh]; omega
    have es : ss = u9.2.1 - u.2.1 := by rw [← eh]; omega
    rw [ec, es, ← hQ]
    exact W.iret (v := y0) hx hb hr (fun t ht hW => ⟨⟨y0, h, rfl, ⟨er, eh⟩, ⟨by rw [ht]; exact hw.1, by rw [ht]; exact hw.2.1⟩⟩, hw.2.2.1.F ht⟩) hw.2.2.1.2.2 dJ15_checkIndex_6
  rw [m_J15_checkIndex] at hm
  refine lv_iload_n hx hb dJ15_checkIndex_0 rfl (lv_at hl 0 rfl) ?_
  refine lv_iload_n hx hb dJ15_checkIndex_1 rfl (lv_at hl 1 rfl) ?_
  refine lv_null hx hb dJ15_checkIndex_2 ?_
  obtain ⟨r2, h1, er2, hm⟩ := bd2E hm
  have lh1 := mo_J12_checkIndex_N2 er2
  have ph1 : u.1 ≤ h1.1 := lh1.1
  have qh1 : u.2.1 ≤ h1.2.1 := lh1.2.1
  have hmo := mo_J15_checkIndex_6   h1 r2 _ hm
  have sh1 : h1.1 ≤ u9.1 := hmo.1
  have th1 : h1.2.1 ≤ u9.2.1 := hmo.2.1
  refine cg_calli hw lh1 (va_runS (As := [.int x0, .int x1, .null]) (rest := []) ⟨hx, hb, hml, hown, hts⟩ (w_J12_checkIndex_N2 l er2) (cw_J12_checkIndex_N2 hts q728 ⟨Nat.le_of_ble_eq_true rfl, Nat.le_of_ble_eq_true rfl⟩) (cg_preS C hw _) rfl rfl hl.1 rfl (lv_room (Nat.le_of_ble_eq_true rfl)) dJ15_checkIndex_3 ⟨show cc + (h1.1 - u.1) ≤ u9.1 - u.1 by omega, show ss + (h1.2.1 - u.2.1) ≤ u9.2.1 - u.2.1 by omega⟩) (fun H locs hw => ?_)
  exact hB6 h1 r2 _ _ _ _ _ hm hw (by omega) (by omega) (lv_sub hl [] rfl)
def m_J2_get_14 (f : Nat) (h : CH) (y0 : Nat) : Option (Nat × CH) := some (y0, h)
theorem mo_J2_get_14 {f : Nat} : ∀ (h : CH) (y0 : Nat) (r : (Nat × CH)), m_J2_get_14 f h y0 = some r → le2 h r.2 := by
  intro h y0 r hm
  rw [m_J2_get_14] at hm
  cases hm
  exact le2.rf
def m_J2_get_8 (f : Nat) (h : CH) (x0 : Nat) (x1 : Int32) (y0 : Int32) : Option (Nat × CH) := gd (isC h x0 17) <|
    bd2 (m_J2_elementData f h x0 x1) fun a3 h2 =>
    m_J2_get_14 f h2 a3
theorem mo_J2_get_8 {f : Nat} : ∀ (h : CH) (x0 : Nat) (x1 : Int32) (y0 : Int32) (r : (Nat × CH)), m_J2_get_8 f h x0 x1 y0 = some r → le2 h r.2 := by
  intro h x0 x1 y0 r hm
  rw [m_J2_get_8] at hm
  obtain ⟨g1, hm⟩ := gdE hm
  obtain ⟨a3, h2, ea3, hm⟩ := bd2E hm
  have lh2 := mo_J2_elementData ea3
  exact (lh2.tr (mo_J2_get_14  h2 a3 _ hm))
def m_J2_get (f : Nat) (u : CH) (x0 : Nat) (x1 : Int32) : Option (Nat × CH) := bd (oI u 17 2 x0) fun v1 =>
    bd2 (m_J15_checkIndex f u x1 v1) fun r3 h2 =>
    m_J2_get_8 f h2 x0 x1 r3
theorem mo_J2_get {f : Nat} {u : CH} {x0 : Nat} {x1 : Int32} {r0 : Nat} {u9 : CH} (hm : m_J2_get f u x0 x1 = some (r0, u9)) : le2 u u9 := by
  rw [m_J2_get] at hm
  obtain ⟨v1, ev1, hm⟩ := bdE hm
  obtain ⟨r3, h2, er3, hm⟩ := bd2E hm
  have lh2 := mo_J15_checkIndex er3
  exact (lh2.tr (mo_J2_get_8  h2 x0 x1 r3 _ hm))
abbrev rm_J2_get (mc ms : Nat) : Room := { frames := 2, cells := mc, slots := ms, locals := 43 }
theorem cw_J2_get {R : Room} {s : State} {args : Array Value} {own : String} {idx mc ms : Nat} (hts : ∀ w ∈ lw_all, w.before args s = true) (hl : Cond.methodLink own idx yJ2_get ∈ lw_all) (hR : 2 + 1 ≤ R.frames ∧ 8 + (2 + 11) + 43 ≤ R.locals) : CallW R s args own RJ2 idx yJ2_get cJ2_get 2 (Option.some (Jvm.ClassFile.FieldType.object "java/lang/Object")) (ws_ yJ2_get cJ2_get 2 (Option.some (Jvm.ClassFile.FieldType.object "java/lang/Object"))) (rm_J2_get mc ms) mc ms 1 := cwV 1 hts (lw_V hl q722 q723 q122 q724) rfl rfl rfl (by decide +kernel) hR
set_option maxHeartbeats 4000000 in
set_option maxRecDepth 100000 in
theorem w_J2_get (l : Launch) {D : va_G} {dA : Nat → ClassId} {A : Nat → Prop} {f : Nat} {u u9 : CH} {r0 : Nat} {x0 : Nat} {x1 : Int32} (hm : m_J2_get f u x0 x1 = some (r0, u9)) : Met l yJ2_get (ws_ yJ2_get cJ2_get 2 (Option.some (Jvm.ClassFile.FieldType.object "java/lang/Object"))) (rm_J2_get (u9.1 - u.1) (u9.2.1 - u.2.1)) (va_Pc [.ref x0, .int x1] (CPre D dA A u)) (va_Qr (fun u => u = u9) (fun u r t => r = r0 ∧ CPost D dA A u t) A) (u9.1 - u.1) (u9.2.1 - u.2.1) A := by
  refine metOfWF (cc := cJ2_get) (maxL := 2) (ret := (Option.some (Jvm.ClassFile.FieldType.object "java/lang/Object"))) (by decide +kernel) rfl ?_
  intro p e s m args below meth c s₁ B hml hv
  have hx := B.exec
  have hb := B.bytes
  have hr := B.returns
  have hts := atoms_spec (ws := (ws_ yJ2_get cJ2_get 2 (Option.some (Jvm.ClassFile.FieldType.object "java/lang/Object")))) B.pre
  have hts : ∀ w ∈ lw_all, w.before args s = true := fun w h => hts w (List.mem_cons_of_mem _ h)
  have hown : s.vm.findClass RJ2 = some m.cls := findClass_of_methodNamed B.named
  have hlocks := B.notSynchronized
  obtain ⟨hav, hv⟩ := hv
  have C : CX p s m args c cJ2_get RJ2 D dA := ⟨hx, hb, hown, hts, hv.2⟩
  have hw : CW D dA A s u s.heap [] := hv.1
  generalize hQ : MQ below (va_Qr (fun u => u = u9) (fun u r t => r = r0 ∧ CPost D dA A u t) A) args s (u9.1 - u.1) (u9.2.1 - u.2.1) A = QQ
  have hent := lg_entry_eq m [.ref x0, .int x1] 2
  rw [← hav] at hent
  rw [hent]
  have hl := lv_entry ([.ref x0, .int x1]) (n := 2) (Nat.le_of_ble_eq_true rfl)
  generalize (lg_sl ([.ref x0, .int x1]) ++ List.replicate (2 - (lg_sl ([.ref x0, .int x1])).length) Slot.unset).toArray = ls at hl ⊢
  have hl : lv_has ls 2 [(0, .ref x0), (1, .int x1)] := hl
  obtain ⟨cc, ecc⟩ : ∃ z : Nat, z = 0 := ⟨0, rfl⟩
  obtain ⟨ss, ess⟩ : ∃ z : Nat, z = 0 := ⟨0, rfl⟩
  have hcc : cc + u.1 = u.1 := by omega
  have hss : ss + u.2.1 = u.2.1 := by omega
  suffices hgo : W p l e (rm_J2_get (u9.1 - u.1) (u9.2.1 - u.2.1)) s m args below meth c s.heap [] cc ss QQ (F0 m 0 ls []) by rw [ecc, ess] at hgo; exact hgo
  have ⟨pu, qu, _, _⟩ := mo_J2_get hm
  have hB14 : ∀ (h : CH) (y0 : Nat) (cc ss : Nat) (H : Heap) (locs : List Loc) (ls : Array Slot), m_J2_get_14 f h y0 = some (r0, u9) → CW D dA A s h H locs → cc + u.1 = h.1 → ss + u.2.1 = h.2.1 → lv_has ls 2 [] → W p l e (rm_J2_get (u9.1 - u.1) (u9.2.1 - u.2.1)) s m args below meth c H locs cc ss QQ (F0 m 14 ls [.ref y0]) := by
    intro h y0 cc ss H locs ls hm hw hcc hss hl
    have hmo := mo_J2_get_14  h y0 _ hm
    have sb_ : h.1 ≤ u9.1 := hmo.1
    have tb_ : h.2.1 ≤ u9.2.1 := hmo.2.1
    rw [m_J2_get_14] at hm
    obtain ⟨er, eh⟩ := retE hm
    have ec : cc = u9.1 - u.1 := by rw [← eh]; omega
    have es : ss = u9.2.1 - u.2.1 := by rw [← eh]; omega
    rw [ec, es, ← hQ]
    exact W.aret (v := .ref y0) hx hb hr (Or.inl ⟨_, rfl⟩) (Or.inr ⟨_, rfl⟩) (fun t ht hW => ⟨⟨h, y0, rfl, eh, er, ⟨by rw [ht]; exact hw.1, by rw [ht]; exact hw.2.1⟩⟩, hw.2.2.1.F ht⟩) hw.2.2.1.2.2 dJ2_get_14
  have hB8 : ∀ (h : CH) (x0 : Nat) (x1 : Int32) (y0 : Int32) (cc ss : Nat) (H : Heap) (locs : List Loc) (ls : Array Slot), m_J2_get_8 f h x0 x1 y0 = some (r0, u9) → CW D dA A s h H locs → cc + u.1 = h.1 → ss + u.2.1 = h.2.1 → lv_has ls 2 [(0, .ref x0), (1, .int x1)] → W p l e (rm_J2_get (u9.1 - u.1) (u9.2.1 - u.2.1)) s m args below meth c H locs cc ss QQ (F0 m 8 ls [.int y0]) := by
    intro h x0 x1 y0 cc ss H locs ls hm hw hcc hss hl
    have hmo := mo_J2_get_8  h x0 x1 y0 _ hm
    have sb_ : h.1 ≤ u9.1 := hmo.1
    have tb_ : h.2.1 ≤ u9.2.1 := hmo.2.1
    rw [m_J2_get_8] at hm
    refine lv_pop hx hb dJ2_get_8 rfl ?_
    refine lv_aload_n hx hb dJ2_get_9 rfl (lv_at hl 0 rfl) ?_
    refine lv_iload_n hx hb dJ2_get_10 rfl (lv_at hl 1 rfl) ?_
    obtain ⟨g1, hm⟩ := gdE hm
    obtain ⟨a3, h2, ea3, hm⟩ := bd2E hm
    have lh2 := mo_J2_elementData ea3
    have ph2 : h.1 ≤ h2.1 := lh2.1
    have qh2 : h.2.1 ≤ h2.2.1 := lh2.2.1
    have hmo := mo_J2_get_14   h2 a3 _ hm
    have sh2 : h2.1 ≤ u9.1 := hmo.1
    have th2 : h2.2.1 ≤ u9.2.1 := hmo.2.1
    refine cg_callr hw lh2 (va_runV (As := [.int x1]) (rest := []) ⟨hx, hb, hml, hown, hts⟩ (w_J2_elementData l ea3) (cw_J2_elementData hts q729 ⟨Nat.le_of_ble_eq_true rfl, Nat.le_of_ble_eq_true rfl⟩) (cg_preV C hw g1 rfl _) rfl rfl hl.1 rfl (lv_room (Nat.le_of_ble_eq_true rfl)) dJ2_get_11 ⟨show cc + (h2.1 - h.1) ≤ u9.1 - u.1 by omega, show ss + (h2.2.1 - h.2.1) ≤ u9.2.1 - u.2.1 by omega⟩) (fun H locs hw => ?_)
    exact hB14 h2 a3 _ _ _ _ _ hm hw (by omega) (by omega) (lv_sub hl [] rfl)
  rw [m_J2_get] at hm
  refine lv_iload_n hx hb dJ2_get_0 rfl (lv_at hl 1 rfl) ?_
  refine lv_aload_n hx hb dJ2_get_1 rfl (lv_at hl 0 rfl) ?_
  obtain ⟨v1, ev1, hm⟩ := bdE hm
  refine cg_get C hw (oI_E ev1) rfl in_J2 (by decide) q180 dJ2_get_2 ?_
  obtain ⟨r3, h2, er3, hm⟩ := bd2E hm
  have lh2 := mo_J15_checkIndex er3
  have ph2 : u.1 ≤ h2.1 := lh2.1
  have qh2 : u.2.1 ≤ h2.2.1 := lh2.2.1
  have hmo := mo_J2_get_8   h2 x0 x1 r3 _ hm
  have sh2 : h2.1 ≤ u9.1 := hmo.1
  have th2 : h2.2.1 ≤ u9.2.1 := hmo.2.1
  refine cg_calli hw lh2 (va_runS (As := [.int x1, .int v1]) (rest := []) ⟨hx, hb, hml, hown, hts⟩ (w_J15_checkIndex l er3) (cw_J15_checkIndex hts q725 ⟨Nat.le_of_ble_eq_true rfl, Nat.le_of_ble_eq_true rfl⟩) (cg_preS C hw _) rfl rfl hl.1 rfl (lv_room (Nat.le_of_ble_eq_true rfl)) dJ2_get_5 ⟨show cc + (h2.1 - u.1) ≤ u9.1 - u.1 by omega, show ss + (h2.2.1 - u.2.1) ≤ u9.2.1 - u.2.1 by omega⟩) (fun H locs hw => ?_)
  exact hB8 h2 x0 x1 r3 _ _ _ _ _ hm hw (by omega) (by omega) (lv_sub hl [0, 1] rfl)
def m_X7_isTurned (f : Nat) (u : CH) (x0 : Nat) : Option (Int32 × CH) := some ((1 : Int32), u)
theorem mo_X7_isTurned {f : Nat} {u : CH} {x0 : Nat} {r0 : Int32} {u9 : CH} (hm : m_X7_isTurned f u x0 = some (r0, u9)) : le2 u u9 := by
  rw [m_X7_isTurned] at hm
  cases hm
  exact le2.rf
abbrev rm_X7_isTurned (mc ms : Nat) : Room := { frames := 0, cells := mc, slots := ms, locals := 0 }
set_option maxHeartbeats 4000000 in
set_option maxRecDepth 100000 in
theorem w_X7_isTurned (l : Launch) {D : va_G} {dA : Nat → ClassId} {A : Nat → Prop} {f : Nat} {u u9 : CH} {r0 : Int32} {x0 : Nat} (hm : m_X7_isTurned f u x0 = some (r0, u9)) : Met l yX7_isTurned (ws_ yX7_isTurned cX7_isTurned 1 (Option.some Jvm.ClassFile.FieldType.boolean)) (rm_X7_isTurned (u9.1 - u.1) (u9.2.1 - u.2.1)) (va_Pc [.ref x0] (CPre D dA A u)) (va_Qi (fun r u => r = r0 ∧ u = u9) (CPost D dA A) A) (u9.1 - u.1) (u9.2.1 - u.2.1) A := by
  refine Met.ofW (cc := cX7_isTurned) (maxL := 1) (ret := (Option.some Jvm.ClassFile.FieldType.boolean)) (by decide) rfl ?_
  intro p e s m args below meth c s₁ B hml hv
  have hx := B.exec
  have hb := B.bytes
  have hr := B.returns
  have hts := atoms_spec (ws := (ws_ yX7_isTurned cX7_isTurned 1 (Option.some Jvm.ClassFile.FieldType.boolean))) B.pre
  have hts : ∀ w ∈ lw_all, w.before args s = true := fun w h => hts w (List.mem_cons_of_mem _ h)
  have hown : s.vm.findClass RX7 = some m.cls := findClass_of_methodNamed B.named
  have hlocks := B.notSynchronized
  obtain ⟨hav, hv⟩ := hv
  have C : CX p s m args c cX7_isTurned RX7 D dA := ⟨hx, hb, hown, hts, hv.2⟩
  have hw : CW D dA A s u s.heap [] := hv.1
  generalize hQ : MQ below (va_Qi (fun r u => r = r0 ∧ u = u9) (CPost D dA A) A) args s (u9.1 - u.1) (u9.2.1 - u.2.1) A = QQ
  have hent := lg_entry_eq m [.ref x0] 1
  rw [← hav] at hent
  rw [hent]
  have hl := lv_entry ([.ref x0]) (n := 1) (Nat.le_of_ble_eq_true rfl)
  generalize (lg_sl ([.ref x0]) ++ List.replicate (1 - (lg_sl ([.ref x0])).length) Slot.unset).toArray = ls at hl ⊢
  have hl : lv_has ls 1 [(0, .ref x0)] := hl
  obtain ⟨cc, ecc⟩ : ∃ z : Nat, z = 0 := ⟨0, rfl⟩
  obtain ⟨ss, ess⟩ : ∃ z : Nat, z = 0 := ⟨0, rfl⟩
  have hcc : cc + u.1 = u.1 := by omega
  have hss : ss + u.2.1 = u.2.1 := by omega
  suffices hgo : W p l e (rm_X7_isTurned (u9.1 - u.1) (u9.2.1 - u.2.1)) s m args below meth c s.heap [] cc ss QQ (F0 m 0 ls []) by rw [ecc, ess] at hgo; exact hgo
  have ⟨pu, qu, _, _⟩ := mo_X7_isTurned hm
  rw [m_X7_isTurned] at hm
  refine lv_iconst (v := 1) hx hb dX7_isTurned_0 (by decide) ?_
  obtain ⟨er, eh⟩ := retE hm
  have ec : cc = u9.1 - u.1 := by rw [← eh]; omega
  have es : ss = u9.2.1 - u.2.1 := by rw [← eh]; omega
  rw [ec, es, ← hQ]
  exact W.zret (v := (1 : Int32)) hx hb hr rfl (fun t ht hW => ⟨⟨(1 : Int32), u, rfl, ⟨er, eh⟩, ⟨by rw [ht]; exact hw.1, by rw [ht]; exact hw.2.1⟩⟩, hw.2.2.1.F ht⟩) hw.2.2.1.2.2 dX7_isTurned_1
def m_J2_indexOfRange_69 (f : Nat) (h : CH) : Option (Int32 × CH) := some ((-1 : Int32), h)
theorem mo_J2_indexOfRange_69 {f : Nat} : ∀ (h : CH) (r : (Int32 × CH)), m_J2_indexOfRange_69 f h = some r → le2 h r.2 := by
  intro h r hm
  rw [m_J2_indexOfRange_69] at hm
  cases hm
  exact le2.rf
def m_J2_indexOfRange_60 (f : Nat) (h : CH) (x5 : Int32) : Option (Int32 × CH) := some (x5, h)
theorem mo_J2_indexOfRange_60 {f : Nat} : ∀ (h : CH) (x5 : Int32) (r : (Int32 × CH)), m_J2_indexOfRange_60 f h x5 = some r → le2 h r.2 := by
  intro h x5 r hm
  rw [m_J2_indexOfRange_60] at hm
  cases hm
  exact le2.rf
def m_J2_indexOfRange_57 (f : Nat) (k42 : CH → Nat → Int32 → Nat → Int32 → Option (Int32 × CH)) (h : CH) (x1 : Nat) (x3 : Int32) (x4 : Nat) (x5 : Int32) (y0 : Int32) : Option (Int32 × CH) := if y0 = 0 then
    nmv ((x5 + 1) : Int32) fun v2 =>
    k42 h x1 x3 x4 v2
    else m_J2_indexOfRange_60 f h x5
theorem mo_J2_indexOfRange_57 {f : Nat} {k42 : CH → Nat → Int32 → Nat → Int32 → Option (Int32 × CH)} (hk42 : ∀ (h : CH) (x1 : Nat) (x3 : Int32) (x4 : Nat) (x5 : Int32) (r : (Int32 × CH)), k42 h x1 x3 x4 x5 = some r → le2 h r.2) : ∀ (h : CH) (x1 : Nat) (x3 : Int32) (x4 : Nat) (x5 : Int32) (y0 : Int32) (r : (Int32 × CH)), m_J2_indexOfRange_57 f k42 h x1 x3 x4 x5 y0 = some r → le2 h r.2 := by
  intro h x1 x3 x4 x5 y0 r hm
  rw [m_J2_indexOfRange_57] at hm
  by_cases c1 : y0 = 0
  · have hm := ifT hm c1
    obtain ⟨v2, ev2, hm⟩ := nmE hm
    exact (hk42 h x1 x3 x4 v2 _ hm)
  · have hm := ifF hm c1
    exact (mo_J2_indexOfRange_60  h x5 _ hm)
def m_J2_indexOfRange_42 (f : Nat) : Nat → CH → Nat → Int32 → Nat → Int32 → Option (Int32 × CH)
  | 0, _, _, _, _, _ => none
  | n42 + 1, h, x1, x3, x4, x5 => if x3 ≤ x5 then
    m_J2_indexOfRange_69 f h
    else bd (aR h 3 x4 x5) fun a2 =>
    gd (isC h x1 19) <|
    bd2 (m_J6_equals f h x1 a2) fun r5 h4 =>
    m_J2_indexOfRange_57 f (m_J2_indexOfRange_42 f n42) h4 x1 x3 x4 x5 r5
theorem mo_J2_indexOfRange_42 {f : Nat} : ∀ (n42 : Nat) (h : CH) (x1 : Nat) (x3 : Int32) (x4 : Nat) (x5 : Int32) (r : (Int32 × CH)), m_J2_indexOfRange_42 f n42 h x1 x3 x4 x5 = some r → le2 h r.2 := by
  intro n42
  induction n42 with
  | zero => intro h x1 x3 x4 x5 r hm; rw [m_J2_indexOfRange_42] at hm; exact noE hm
  | succ n42 ihm =>
    intro h x1 x3 x4 x5 r hm
    rw [m_J2_indexOfRange_42] at hm
    by_cases c1 : x3 ≤ x5
    · have hm := ifT hm c1
      exact (mo_J2_indexOfRange_69  h _ hm)
    · have hm := ifF hm c1
      obtain ⟨a2, ea2, hm⟩ := bdE hm
      obtain ⟨g3, hm⟩ := gdE hm
      obtain ⟨r5, h4, er5, hm⟩ := bd2E hm
      have lh4 := mo_J6_equals er5
      exact (lh4.tr (mo_J2_indexOfRange_57 ihm h4 x1 x3 x4 x5 r5 _ hm))
def m_J2_indexOfRange_36 (f : Nat) (h : CH) : Option (Int32 × CH) := m_J2_indexOfRange_69 f h
theorem mo_J2_indexOfRange_36 {f : Nat} : ∀ (h : CH) (r : (Int32 × CH)), m_J2_indexOfRange_36 f h = some r → le2 h r.2 := by
  intro h r hm
  rw [m_J2_indexOfRange_36] at hm
  exact (mo_J2_indexOfRange_69  h _ hm)
def m_J2_indexOfRange_27 (f : Nat) (h : CH) (x5 : Int32) : Option (Int32 × CH) := some (x5, h)
theorem mo_J2_indexOfRange_27 {f : Nat} : ∀ (h : CH) (x5 : Int32) (r : (Int32 × CH)), m_J2_indexOfRange_27 f h x5 = some r → le2 h r.2 := by
  intro h x5 r hm
  rw [m_J2_indexOfRange_27] at hm
  cases hm
  exact le2.rf
def m_J2_indexOfRange_13 (f : Nat) : Nat → CH → Int32 → Nat → Int32 → Option (Int32 × CH)
  | 0, _, _, _, _ => none
  | n13 + 1, h, x3, x4, x5 => if x3 ≤ x5 then
    m_J2_indexOfRange_36 f h
    else bd (aR h 3 x4 x5) fun a2 =>
    nmv ((x5 + 1) : Int32) fun v3 =>
    m_J2_indexOfRange_13 f n13 h x3 x4 v3
theorem mo_J2_indexOfRange_13 {f : Nat} : ∀ (n13 : Nat) (h : CH) (x3 : Int32) (x4 : Nat) (x5 : Int32) (r : (Int32 × CH)), m_J2_indexOfRange_13 f n13 h x3 x4 x5 = some r → le2 h r.2 := by
  intro n13
  induction n13 with
  | zero => intro h x3 x4 x5 r hm; rw [m_J2_indexOfRange_13] at hm; exact noE hm
  | succ n13 ihm =>
    intro h x3 x4 x5 r hm
    rw [m_J2_indexOfRange_13] at hm
    by_cases c1 : x3 ≤ x5
    · have hm := ifT hm c1
      exact (mo_J2_indexOfRange_36  h _ hm)
    · have hm := ifF hm c1
      obtain ⟨a2, ea2, hm⟩ := bdE hm
      obtain ⟨v3, ev3, hm⟩ := nmE hm
      exact (ihm h x3 x4 v3 _ hm)
def m_J2_indexOfRange (f : Nat) (u : CH) (x0 : Nat) (x1 : Nat) (x2 : Int32) (x3 : Int32) : Option (Int32 × CH) := bd (oR u 17 1 x0) fun a1 =>
    m_J2_indexOfRange_42 f f u x1 x3 a1 x2
theorem mo_J2_indexOfRange {f : Nat} {u : CH} {x0 : Nat} {x1 : Nat} {x2 : Int32} {x3 : Int32} {r0 : Int32} {u9 : CH} (hm : m_J2_indexOfRange f u x0 x1 x2 x3 = some (r0, u9)) : le2 u u9 := by
  rw [m_J2_indexOfRange] at hm
  obtain ⟨a1, ea1, hm⟩ := bdE hm
  exact (mo_J2_indexOfRange_42  f u x1 x3 a1 x2 _ hm)
abbrev rm_J2_indexOfRange (mc ms : Nat) : Room := { frames := 2, cells := mc, slots := ms, locals := 44 }
theorem cw_J2_indexOfRange {R : Room} {s : State} {args : Array Value} {own : String} {idx mc ms : Nat} (hts : ∀ w ∈ lw_all, w.before args s = true) (hl : Cond.methodLink own idx yJ2_indexOfRange ∈ lw_all) (hR : 2 + 1 ≤ R.frames ∧ 8 + (6 + 11) + 44 ≤ R.locals) : CallW R s args own RJ2 idx yJ2_indexOfRange cJ2_indexOfRange 6 (Option.some Jvm.ClassFile.FieldType.int) (ws_ yJ2_indexOfRange cJ2_indexOfRange 6 (Option.some Jvm.ClassFile.FieldType.int)) (rm_J2_indexOfRange mc ms) mc ms 3 := cwV 3 hts (lw_V hl q682 q683 q122 q684) rfl rfl rfl (by decide +kernel) hR
set_option maxHeartbeats 4000000 in
set_option maxRecDepth 100000 in
theorem w_J2_indexOfRange (l : Launch) {D : va_G} {dA : Nat → ClassId} {A : Nat → Prop} {f : Nat} {u u9 : CH} {r0 : Int32} {x0 : Nat} {x1 : Nat} {x2 : Int32} {x3 : Int32} (hm : m_J2_indexOfRange f u x0 x1 x2 x3 = some (r0, u9)) : Met l yJ2_indexOfRange (ws_ yJ2_indexOfRange cJ2_indexOfRange 6 (Option.some Jvm.ClassFile.FieldType.int)) (rm_J2_indexOfRange (u9.1 - u.1) (u9.2.1 - u.2.1)) (va_Pc [.ref x0, .ref x1, .int x2, .int x3] (CPre D dA A u)) (va_Qi (fun r u => r = r0 ∧ u = u9) (CPost D dA A) A) (u9.1 - u.1) (u9.2.1 - u.2.1) A := by
  refine metOfWF (cc := cJ2_indexOfRange) (maxL := 6) (ret := (Option.some Jvm.ClassFile.FieldType.int)) (by decide +kernel) rfl ?_
  intro p e s m args below meth c s₁ B hml hv
  have hx := B.exec
  have hb := B.bytes
  have hr := B.returns
  have hts := atoms_spec (ws := (ws_ yJ2_indexOfRange cJ2_indexOfRange 6 (Option.some Jvm.ClassFile.FieldType.int))) B.pre
  have hts : ∀ w ∈ lw_all, w.before args s = true := fun w h => hts w (List.mem_cons_of_mem _ h)
  have hown : s.vm.findClass RJ2 = some m.cls := findClass_of_methodNamed B.named
  have hlocks := B.notSynchronized
  obtain ⟨hav, hv⟩ := hv
  have C : CX p s m args c cJ2_indexOfRange RJ2 D dA := ⟨hx, hb, hown, hts, hv.2⟩
  have hw : CW D dA A s u s.heap [] := hv.1
  generalize hQ : MQ below (va_Qi (fun r u => r = r0 ∧ u = u9) (CPost D dA A) A) args s (u9.1 - u.1) (u9.2.1 - u.2.1) A = QQ
  have hent := lg_entry_eq m [.ref x0, .ref x1, .int x2, .int x3] 6
  rw [← hav] at hent
  rw [hent]
  have hl := lv_entry ([.ref x0, .ref x1, .int x2, .int x3]) (n := 6) (Nat.le_of_ble_eq_true rfl)
  generalize (lg_sl ([.ref x0, .ref x1, .int x2, .int x3]) ++ List.replicate (6 - (lg_sl ([.ref x0, .ref x1, .int x2, .int x3])).length) Slot.unset).toArray = ls at hl ⊢
  have hl : lv_has ls 6 [(0, .ref x0), (1, .ref x1), (2, .int x2), (3, .int x3)] := hl
  obtain ⟨cc, ecc⟩ : ∃ z : Nat, z = 0 := ⟨0, rfl⟩
  obtain ⟨ss, ess⟩ : ∃ z : Nat, z = 0 := ⟨0, rfl⟩
  have hcc : cc + u.1 = u.1 := by omega
  have hss : ss + u.2.1 = u.2.1 := by omega
  suffices hgo : W p l e (rm_J2_indexOfRange (u9.1 - u.1) (u9.2.1 - u.2.1)) s m args below meth c s.heap [] cc ss QQ (F0 m 0 ls []) by rw [ecc, ess] at hgo; exact hgo
  have ⟨pu, qu, _, _⟩ := mo_J2_indexOfRange hm
  have hB69 : ∀ (h : CH) (cc ss : Nat) (H : Heap) (locs : List Loc) (ls : Array Slot), m_J2_indexOfRange_69 f h = some (r0, u9) → CW D dA A s h H locs → cc + u.1 = h.1 → ss + u.2.1 = h.2.1 → lv_has ls 6 [] → W p l e (rm_J2_indexOfRange (u9.1 - u.1) (u9.2.1 - u.2.1)) s m args below meth c H locs cc ss QQ (F0 m 69 ls []) := by
    intro h cc ss H locs ls hm hw hcc hss hl
    have hmo := mo_J2_indexOfRange_69  h _ hm
    have sb_ : h.1 ≤ u9.1 := hmo.1
    have tb_ : h.2.1 ≤ u9.2.1 := hmo.2.1
    rw [m_J2_indexOfRange_69] at hm
    refine lv_iconst (v := -1) hx hb dJ2_indexOfRange_69 (by decide) ?_
    obtain ⟨er, eh⟩ := retE hm
    have ec : cc = u9.1 - u.1 := by rw [← eh]; omega
    have es : ss = u9.2.1 - u.2.1 := by rw [← eh]; omega
    rw [ec, es, ← hQ]
    exact W.iret (v := (-1 : Int32)) hx hb hr (fun t ht hW => ⟨⟨(-1 : Int32), h, rfl, ⟨er, eh⟩, ⟨by rw [ht]; exact hw.1, by rw [ht]; exact hw.2.1⟩⟩, hw.2.2.1.F ht⟩) hw.2.2.1.2.2 dJ2_indexOfRange_70
  have hB60 : ∀ (h : CH) (x5 : Int32) (cc ss : Nat) (H : Heap) (locs : List Loc) (ls : Array Slot), m_J2_indexOfRange_60 f h x5 = some (r0, u9) → CW D dA A s h H locs → cc + u.1 = h.1 → ss + u.2.1 = h.2.1 → lv_has ls 6 [(5, .int x5)] → W p l e (rm_J2_indexOfRange (u9.1 - u.1) (u9.2.1 - u.2.1)) s m args below meth c H locs cc ss QQ (F0 m 60 ls []) := by
    intro h x5 cc ss H locs ls hm hw hcc hss hl
    have hmo := mo_J2_indexOfRange_60  h x5 _ hm
    have sb_ : h.1 ≤ u9.1 := hmo.1
    have tb_ : h.2.1 ≤ u9.2.1 := hmo.2.1
    rw [m_J2_indexOfRange_60] at hm
    refine lv_iload hx hb dJ2_indexOfRange_60 (lv_at hl 0 rfl) ?_
    obtain ⟨er, eh⟩ := retE hm
    have ec : cc = u9.1 - u.1 := by rw [← eh]; omega
    have es : ss = u9.2.1 - u.2.1 := by rw [← eh]; omega
    rw [ec, es, ← hQ]
    exact W.iret (v := x5) hx hb hr (fun t ht hW => ⟨⟨x5, h, rfl, ⟨er, eh⟩, ⟨by rw [ht]; exact hw.1, by rw [ht]; exact hw.2.1⟩⟩, hw.2.2.1.F ht⟩) hw.2.2.1.2.2 dJ2_indexOfRange_62
  have hB42 : ∀ (n42 : Nat), ∀ (h : CH) (x1 : Nat) (x3 : Int32) (x4 : Nat) (x5 : Int32) (cc ss : Nat) (H : Heap) (locs : List Loc) (ls : Array Slot), m_J2_indexOfRange_42 f n42 h x1 x3 x4 x5 = some (r0, u9) → CW D dA A s h H locs → cc + u.1 = h.1 → ss + u.2.1 = h.2.1 → lv_has ls 6 [(1, .ref x1), (3, .int x3), (4, .ref x4), (5, .int x5)] → W p l e (rm_J2_indexOfRange (u9.1 - u.1) (u9.2.1 - u.2.1)) s m args below meth c H locs cc ss QQ (F0 m 42 ls []) := by
    intro n42
    induction n42 with
    | zero => intro h x1 x3 x4 x5 cc ss H locs ls hm hw hcc hss hl; rw [m_J2_indexOfRange_42] at hm; exact noE hm
    | succ n42 ih42 =>
      have hB57 : ∀ (h : CH) (x1 : Nat) (x3 : Int32) (x4 : Nat) (x5 : Int32) (y0 : Int32) (cc ss : Nat) (H : Heap) (locs : List Loc) (ls : Array Slot), m_J2_indexOfRange_57 f (m_J2_indexOfRange_42 f n42) h x1 x3 x4 x5 y0 = some (r0, u9) → CW D dA A s h H locs → cc + u.1 = h.1 → ss + u.2.1 = h.2.1 → lv_has ls 6 [(1, .ref x1), (3, .int x3), (4, .ref x4), (5, .int x5)] → W p l e (rm_J2_indexOfRange (u9.1 - u.1) (u9.2.1 - u.2.1)) s m args below meth c H locs cc ss QQ (F0 m 57 ls [.int y0]) := by
        intro h x1 x3 x4 x5 y0 cc ss H locs ls hm hw hcc hss hl
        have hmo := mo_J2_indexOfRange_57 (mo_J2_indexOfRange_42 n42) h x1 x3 x4 x5 y0 _ hm
        have sb_ : h.1 ≤ u9.1 := hmo.1
        have tb_ : h.2.1 ≤ u9.2.1 := hmo.2.1
        rw [m_J2_indexOfRange_57] at hm
        refine lv_if_eq (tgt := 63) hx hb dJ2_indexOfRange_57 (by decide) (fun c1 => ?_) (fun c1 => ?_)
        · have hm := ifT hm c1
          obtain ⟨v2, ev2, hm⟩ := nmE hm
          refine lv_iinc (v := v2) (lv' := [(5, .int v2), (1, .ref x1), (3, .int x3), (4, .ref x4)]) hx hb dJ2_indexOfRange_63 hl (k := 3) rfl (by rw [ev2]; rfl) (by decide) rfl (fun ls hl => ?_)
          refine lv_goto (tgt := 42) hx hb dJ2_indexOfRange_66 (by decide) ?_
          exact ih42 h x1 x3 x4 v2 _ _ _ _ _ hm hw (by omega) (by omega) (lv_sub hl [1, 2, 3, 0] rfl)
        · have hm := ifF hm c1
          exact hB60 h x5 _ _ _ _ _ hm hw (by omega) (by omega) (lv_sub hl [3] rfl)
      intro h x1 x3 x4 x5 cc ss H locs ls hm hw hcc hss hl
      have hmo := mo_J2_indexOfRange_42  (n42 + 1) h x1 x3 x4 x5 _ hm
      have sb_ : h.1 ≤ u9.1 := hmo.1
      have tb_ : h.2.1 ≤ u9.2.1 := hmo.2.1
      rw [m_J2_indexOfRange_42] at hm
      refine lv_iload hx hb dJ2_indexOfRange_42 (lv_at hl 3 rfl) ?_
      refine lv_iload_n hx hb dJ2_indexOfRange_44 rfl (lv_at hl 1 rfl) ?_
      refine lv_icmp_ge (tgt := 69) hx hb dJ2_indexOfRange_45 (by decide) (fun c1 => ?_) (fun c1 => ?_)
      · have hm := ifT hm c1
        exact hB69 h _ _ _ _ _ hm hw (by omega) (by omega) (lv_sub hl [] rfl)
      · have hm := ifF hm c1
        refine lv_aload_n hx hb dJ2_indexOfRange_48 rfl (lv_at hl 0 rfl) ?_
        refine lv_aload hx hb dJ2_indexOfRange_49 (lv_at hl 2 rfl) ?_
        refine lv_iload hx hb dJ2_indexOfRange_51 (lv_at hl 3 rfl) ?_
        obtain ⟨a2, ea2, hm⟩ := bdE hm
        refine cg_aald3 C hw (aR_E ea2) dJ2_indexOfRange_53 ?_
        obtain ⟨g3, hm⟩ := gdE hm
        obtain ⟨r5, h4, er5, hm⟩ := bd2E hm
        have lh4 := mo_J6_equals er5
        have ph4 : h.1 ≤ h4.1 := lh4.1
        have qh4 : h.2.1 ≤ h4.2.1 := lh4.2.1
        have hmo := mo_J2_indexOfRange_57 (mo_J2_indexOfRange_42 n42)  h4 x1 x3 x4 x5 r5 _ hm
        have sh4 : h4.1 ≤ u9.1 := hmo.1
        have th4 : h4.2.1 ≤ u9.2.1 := hmo.2.1
        refine cg_calli hw lh4 (va_runU (As := [.ref a2]) (rest := []) ⟨hx, hb, hml, hown, hts⟩ (w_J6_equals l er5) (va_cwO 1 hts (lwO q686 q688 q687 q709 q574 q131 q576) rfl rfl rfl q711 (by decide +kernel) ⟨Nat.le_of_ble_eq_true rfl, Nat.le_of_ble_eq_true rfl⟩) (cg_preV C hw g3 rfl _) rfl rfl hl.1 rfl (lv_room (Nat.le_of_ble_eq_true rfl)) dJ2_indexOfRange_54 ⟨show cc + (h4.1 - h.1) ≤ u9.1 - u.1 by omega, show ss + (h4.2.1 - h.2.1) ≤ u9.2.1 - u.2.1 by omega⟩) (fun H locs hw => ?_)
        exact hB57 h4 x1 x3 x4 x5 r5 _ _ _ _ _ hm hw (by omega) (by omega) (lv_sub hl [0, 1, 2, 3] rfl)
  have hB36 : ∀ (h : CH) (cc ss : Nat) (H : Heap) (locs : List Loc) (ls : Array Slot), m_J2_indexOfRange_36 f h = some (r0, u9) → CW D dA A s h H locs → cc + u.1 = h.1 → ss + u.2.1 = h.2.1 → lv_has ls 6 [] → W p l e (rm_J2_indexOfRange (u9.1 - u.1) (u9.2.1 - u.2.1)) s m args below meth c H locs cc ss QQ (F0 m 36 ls []) := by
    intro h cc ss H locs ls hm hw hcc hss hl
    have hmo := mo_J2_indexOfRange_36  h _ hm
    have sb_ : h.1 ≤ u9.1 := hmo.1
    have tb_ : h.2.1 ≤ u9.2.1 := hmo.2.1
    rw [m_J2_indexOfRange_36] at hm
    refine lv_goto (tgt := 69) hx hb dJ2_indexOfRange_36 (by decide) ?_
    exact hB69 h _ _ _ _ _ hm hw (by omega) (by omega) (lv_sub hl [] rfl)
  have hB27 : ∀ (h : CH) (x5 : Int32) (cc ss : Nat) (H : Heap) (locs : List Loc) (ls : Array Slot), m_J2_indexOfRange_27 f h x5 = some (r0, u9) → CW D dA A s h H locs → cc + u.1 = h.1 → ss + u.2.1 = h.2.1 → lv_has ls 6 [(5, .int x5)] → W p l e (rm_J2_indexOfRange (u9.1 - u.1) (u9.2.1 - u.2.1)) s m args below meth c H locs cc ss QQ (F0 m 27 ls []) := by
    intro h x5 cc ss H locs ls hm hw hcc hss hl
    have hmo := mo_J2_indexOfRange_27  h x5 _ hm
    have sb_ : h.1 ≤ u9.1 := hmo.1
    have tb_ : h.2.1 ≤ u9.2.1 := hmo.2.1
    rw [m_J2_indexOfRange_27] at hm
    refine lv_iload hx hb dJ2_indexOfRange_27 (lv_at hl 0 rfl) ?_
    obtain ⟨er, eh⟩ := retE hm
    have ec : cc = u9.1 - u.1 := by rw [← eh]; omega
    have es : ss = u9.2.1 - u.2.1 := by rw [← eh]; omega
    rw [ec, es, ← hQ]
    exact W.iret (v := x5) hx hb hr (fun t ht hW => ⟨⟨x5, h, rfl, ⟨er, eh⟩, ⟨by rw [ht]; exact hw.1, by rw [ht]; exact hw.2.1⟩⟩, hw.2.2.1.F ht⟩) hw.2.2.1.2.2 dJ2_indexOfRange_29
  have hB13 : ∀ (n13 : Nat), ∀ (h : CH) (x3 : Int32) (x4 : Nat) (x5 : Int32) (cc ss : Nat) (H : Heap) (locs : List Loc) (ls : Array Slot), m_J2_indexOfRange_13 f n13 h x3 x4 x5 = some (r0, u9) → CW D dA A s h H locs → cc + u.1 = h.1 → ss + u.2.1 = h.2.1 → lv_has ls 6 [(3, .int x3), (4, .ref x4), (5, .int x5)] → W p l e (rm_J2_indexOfRange (u9.1 - u.1) (u9.2.1 - u.2.1)) s m args below meth c H locs cc ss QQ (F0 m 13 ls []) := by
    intro n13
    induction n13 with
    | zero => intro h x3 x4 x5 cc ss H locs ls hm hw hcc hss hl; rw [m_J2_indexOfRange_13] at hm; exact noE hm
    | succ n13 ih13 =>
      intro h x3 x4 x5 cc ss H locs ls hm hw hcc hss hl
      have hmo := mo_J2_indexOfRange_13  (n13 + 1) h x3 x4 x5 _ hm
      have sb_ : h.1 ≤ u9.1 := hmo.1
      have tb_ : h.2.1 ≤ u9.2.1 := hmo.2.1
      rw [m_J2_indexOfRange_13] at hm
      refine lv_iload hx hb dJ2_indexOfRange_13 (lv_at hl 2 rfl) ?_
      refine lv_iload_n hx hb dJ2_indexOfRange_15 rfl (lv_at hl 0 rfl) ?_
      refine lv_icmp_ge (tgt := 36) hx hb dJ2_indexOfRange_16 (by decide) (fun c1 => ?_) (fun c1 => ?_)
      · have hm := ifT hm c1
        exact hB36 h _ _ _ _ _ hm hw (by omega) (by omega) (lv_sub hl [] rfl)
      · have hm := ifF hm c1
        refine lv_aload hx hb dJ2_indexOfRange_19 (lv_at hl 1 rfl) ?_
        refine lv_iload hx hb dJ2_indexOfRange_21 (lv_at hl 2 rfl) ?_
        obtain ⟨a2, ea2, hm⟩ := bdE hm
        refine cg_aald3 C hw (aR_E ea2) dJ2_indexOfRange_23 ?_
        refine lv_ifnonnull (tgt := 30) hx hb dJ2_indexOfRange_24 (by decide) ?_
        obtain ⟨v3, ev3, hm⟩ := nmE hm
        refine lv_iinc (v := v3) (lv' := [(5, .int v3), (3, .int x3), (4, .ref x4)]) hx hb dJ2_indexOfRange_30 hl (k := 2) rfl (by rw [ev3]; rfl) (by decide) rfl (fun ls hl => ?_)
        refine lv_goto (tgt := 13) hx hb dJ2_indexOfRange_33 (by decide) ?_
        exact ih13 h x3 x4 v3 _ _ _ _ _ hm hw (by omega) (by omega) (lv_sub hl [1, 2, 0] rfl)
  rw [m_J2_indexOfRange] at hm
  refine lv_aload_n hx hb dJ2_indexOfRange_0 rfl (lv_at hl 0 rfl) ?_
  obtain ⟨a1, ea1, hm⟩ := bdE hm
  refine cg_get C hw (oR_E ea1) rfl in_J2 (by decide) q179 dJ2_indexOfRange_1 ?_
  refine lv_astore (lv' := [(4, .ref a1), (0, .ref x0), (1, .ref x1), (2, .int x2), (3, .int x3)]) hx hb dJ2_indexOfRange_4 hl (by decide) rfl (fun ls hl => ?_)
  refine lv_aload_n hx hb dJ2_indexOfRange_6 rfl (lv_at hl 2 rfl) ?_
  refine lv_ifnonnull (tgt := 39) hx hb dJ2_indexOfRange_7 (by decide) ?_
  refine lv_iload_n hx hb dJ2_indexOfRange_39 rfl (lv_at hl 3 rfl) ?_
  refine lv_istore (lv' := [(5, .int x2), (4, .ref a1), (0, .ref x0), (1, .ref x1), (2, .int x2), (3, .int x3)]) hx hb dJ2_indexOfRange_40 hl (by decide) rfl (fun ls hl => ?_)
  exact hB42 f u x1 x3 a1 x2 _ _ _ _ _ hm hw (by omega) (by omega) (lv_sub hl [3, 5, 1, 0] rfl)
def m_J2_indexOf_10 (f : Nat) (h : CH) (y0 : Int32) : Option (Int32 × CH) := some (y0, h)
theorem mo_J2_indexOf_10 {f : Nat} : ∀ (h : CH) (y0 : Int32) (r : (Int32 × CH)), m_J2_indexOf_10 f h y0 = some r → le2 h r.2 := by
  intro h y0 r hm
  rw [m_J2_indexOf_10] at hm
  cases hm
  exact le2.rf
def m_J2_indexOf (f : Nat) (u : CH) (x0 : Nat) (x1 : Nat) : Option (Int32 × CH) := bd (oI u 17 2 x0) fun v1 =>
    gd (isC u x0 17) <|
    bd2 (m_J2_indexOfRange f u x0 x1 (0 : Int32) v1) fun r4 h3 =>
    m_J2_indexOf_10 f h3 r4
theorem mo_J2_indexOf {f : Nat} {u : CH} {x0 : Nat} {x1 : Nat} {r0 : Int32} {u9 : CH} (hm : m_J2_indexOf f u x0 x1 = some (r0, u9)) : le2 u u9 := by
  rw [m_J2_indexOf] at hm
  obtain ⟨v1, ev1, hm⟩ := bdE hm
  obtain ⟨g2, hm⟩ := gdE hm
  obtain ⟨r4, h3, er4, hm⟩ := bd2E hm
  have lh3 := mo_J2_indexOfRange er4
  exact (lh3.tr (mo_J2_indexOf_10  h3 r4 _ hm))
abbrev rm_J2_indexOf (mc ms : Nat) : Room := { frames := 3, cells := mc, slots := ms, locals := 69 }
theorem cw_J2_indexOf {R : Room} {s : State} {args : Array Value} {own : String} {idx mc ms : Nat} (hts : ∀ w ∈ lw_all, w.before args s = true) (hl : Cond.methodLink own idx yJ2_indexOf ∈ lw_all) (hR : 3 + 1 ≤ R.frames ∧ 8 + (2 + 11) + 69 ≤ R.locals) : CallW R s args own RJ2 idx yJ2_indexOf cJ2_indexOf 2 (Option.some Jvm.ClassFile.FieldType.int) (ws_ yJ2_indexOf cJ2_indexOf 2 (Option.some Jvm.ClassFile.FieldType.int)) (rm_J2_indexOf mc ms) mc ms 1 := cwV 1 hts (lw_V hl q678 q679 q122 q680) rfl rfl rfl (by decide +kernel) hR
set_option maxHeartbeats 4000000 in
set_option maxRecDepth 100000 in
theorem w_J2_indexOf (l : Launch) {D : va_G} {dA : Nat → ClassId} {A : Nat → Prop} {f : Nat} {u u9 : CH} {r0 : Int32} {x0 : Nat} {x1 : Nat} (hm : m_J2_indexOf f u x0 x1 = some (r0, u9)) : Met l yJ2_indexOf (ws_ yJ2_indexOf cJ2_indexOf 2 (Option.some Jvm.ClassFile.FieldType.int)) (rm_J2_indexOf (u9.1 - u.1) (u9.2.1 - u.2.1)) (va_Pc [.ref x0, .ref x1] (CPre D dA A u)) (va_Qi (fun r u => r = r0 ∧ u = u9) (CPost D dA A) A) (u9.1 - u.1) (u9.2.1 - u.2.1) A := by
  refine metOfWF (cc := cJ2_indexOf) (maxL := 2) (ret := (Option.some Jvm.ClassFile.FieldType.int)) (by decide +kernel) rfl ?_
  intro p e s m args below meth c s₁ B hml hv
  have hx := B.exec
  have hb := B.bytes
  have hr := B.returns
  have hts := atoms_spec (ws := (ws_ yJ2_indexOf cJ2_indexOf 2 (Option.some Jvm.ClassFile.FieldType.int))) B.pre
  have hts : ∀ w ∈ lw_all, w.before args s = true := fun w h => hts w (List.mem_cons_of_mem _ h)
  have hown : s.vm.findClass RJ2 = some m.cls := findClass_of_methodNamed B.named
  have hlocks := B.notSynchronized
  obtain ⟨hav, hv⟩ := hv
  have C : CX p s m args c cJ2_indexOf RJ2 D dA := ⟨hx, hb, hown, hts, hv.2⟩
  have hw : CW D dA A s u s.heap [] := hv.1
  generalize hQ : MQ below (va_Qi (fun r u => r = r0 ∧ u = u9) (CPost D dA A) A) args s (u9.1 - u.1) (u9.2.1 - u.2.1) A = QQ
  have hent := lg_entry_eq m [.ref x0, .ref x1] 2
  rw [← hav] at hent
  rw [hent]
  have hl := lv_entry ([.ref x0, .ref x1]) (n := 2) (Nat.le_of_ble_eq_true rfl)
  generalize (lg_sl ([.ref x0, .ref x1]) ++ List.replicate (2 - (lg_sl ([.ref x0, .ref x1])).length) Slot.unset).toArray = ls at hl ⊢
  have hl : lv_has ls 2 [(0, .ref x0), (1, .ref x1)] := hl
  obtain ⟨cc, ecc⟩ : ∃ z : Nat, z = 0 := ⟨0, rfl⟩
  obtain ⟨ss, ess⟩ : ∃ z : Nat, z = 0 := ⟨0, rfl⟩
  have hcc : cc + u.1 = u.1 := by omega
  have hss : ss + u.2.1 = u.2.1 := by omega
  suffices hgo : W p l e (rm_J2_indexOf (u9.1 - u.1) (u9.2.1 - u.2.1)) s m args below meth c s.heap [] cc ss QQ (F0 m 0 ls []) by rw [ecc, ess] at hgo; exact hgo
  have ⟨pu, qu, _, _⟩ := mo_J2_indexOf hm
  have hB10 : ∀ (h : CH) (y0 : Int32) (cc ss : Nat) (H : Heap) (locs : List Loc) (ls : Array Slot), m_J2_indexOf_10 f h y0 = some (r0, u9) → CW D dA A s h H locs → cc + u.1 = h.1 → ss + u.2.1 = h.2.1 → lv_has ls 2 [] → W p l e (rm_J2_indexOf (u9.1 - u.1) (u9.2.1 - u.2.1)) s m args below meth c H locs cc ss QQ (F0 m 10 ls [.int y0]) := by
    intro h y0 cc ss H locs ls hm hw hcc hss hl
    have hmo := mo_J2_indexOf_10  h y0 _ hm
    have sb_ : h.1 ≤ u9.1 := hmo.1
    have tb_ : h.2.1 ≤ u9.2.1 := hmo.2.1
    rw [m_J2_indexOf_10] at hm
    obtain ⟨er, eh⟩ := retE hm
    have ec : cc = u9.1 - u.1 := by rw [← eh]; omega
    have es : ss = u9.2.1 - u.2.1 := by rw [← eh]; omega
    rw [ec, es, ← hQ]
    exact W.iret (v := y0) hx hb hr (fun t ht hW => ⟨⟨y0, h, rfl, ⟨er, eh⟩, ⟨by rw [ht]; exact hw.1, by rw [ht]; exact hw.2.1⟩⟩, hw.2.2.1.F ht⟩) hw.2.2.1.2.2 dJ2_indexOf_10
  rw [m_J2_indexOf] at hm
  refine lv_aload_n hx hb dJ2_indexOf_0 rfl (lv_at hl 0 rfl) ?_
  refine lv_aload_n hx hb dJ2_indexOf_1 rfl (lv_at hl 1 rfl) ?_
  refine lv_iconst (v := 0) hx hb dJ2_indexOf_2 (by decide) ?_
  refine lv_aload_n hx hb dJ2_indexOf_3 rfl (lv_at hl 0 rfl) ?_
  obtain ⟨v1, ev1, hm⟩ := bdE hm
  refine cg_get C hw (oI_E ev1) rfl in_J2 (by decide) q180 dJ2_indexOf_4 ?_
  obtain ⟨g2, hm⟩ := gdE hm
  obtain ⟨r4, h3, er4, hm⟩ := bd2E hm
  have lh3 := mo_J2_indexOfRange er4
  have ph3 : u.1 ≤ h3.1 := lh3.1
  have qh3 : u.2.1 ≤ h3.2.1 := lh3.2.1
  have hmo := mo_J2_indexOf_10   h3 r4 _ hm
  have sh3 : h3.1 ≤ u9.1 := hmo.1
  have th3 : h3.2.1 ≤ u9.2.1 := hmo.2.1
  refine cg_calli hw lh3 (va_runV (As := [.ref x1, .int (0 : Int32), .int v1]) (rest := []) ⟨hx, hb, hml, hown, hts⟩ (w_J2_indexOfRange l er4) (cw_J2_indexOfRange hts q681 ⟨Nat.le_of_ble_eq_true rfl, Nat.le_of_ble_eq_true rfl⟩) (cg_preV C hw g2 rfl _) rfl rfl hl.1 rfl (lv_room (Nat.le_of_ble_eq_true rfl)) dJ2_indexOf_7 ⟨show cc + (h3.1 - u.1) ≤ u9.1 - u.1 by omega, show ss + (h3.2.1 - u.2.1) ≤ u9.2.1 - u.2.1 by omega⟩) (fun H locs hw => ?_)
  exact hB10 h3 r4 _ _ _ _ _ hm hw (by omega) (by omega) (lv_sub hl [] rfl)
def m_X4_turned_160 (f : Nat) (h : CH) (y0 : Nat) : Option ((Nat ⊕ Nat) × CH) := some (.inl y0, h)
theorem mo_X4_turned_160 {f : Nat} : ∀ (h : CH) (y0 : Nat) (r : ((Nat ⊕ Nat) × CH)), m_X4_turned_160 f h y0 = some r → le2 h r.2 := by
  intro h y0 r hm
  rw [m_X4_turned_160] at hm
  cases hm
  exact le2.rf
def m_X4_turned_153 (f : Nat) (h : CH) (x2 : Nat) (y0 : Nat) (y1 : Nat) (y2 : Nat) : Option ((Nat ⊕ Nat) × CH) := if isC h y2 6 = true then
    bd (m_X7_init f h y1 y2 x2) fun h2 =>
    m_X4_turned_160 f h2 y0
    else gd (isC h y2 7) <|
    bd (m_X7_init f h y1 y2 x2) fun h4 =>
    m_X4_turned_160 f h4 y0
theorem mo_X4_turned_153 {f : Nat} : ∀ (h : CH) (x2 : Nat) (y0 : Nat) (y1 : Nat) (y2 : Nat) (r : ((Nat ⊕ Nat) × CH)), m_X4_turned_153 f h x2 y0 y1 y2 = some r → le2 h r.2 := by
  intro h x2 y0 y1 y2 r hm
  rw [m_X4_turned_153] at hm
  by_cases c1 : isC h y2 6 = true
  · have hm := ifT hm c1
    obtain ⟨h2, eh2, hm⟩ := bdE hm
    have lh2 := mo_X7_init eh2
    exact (lh2.tr (mo_X4_turned_160  h2 y0 _ hm))
  · have hm := ifF hm c1
    obtain ⟨g3, hm⟩ := gdE hm
    obtain ⟨h4, eh4, hm⟩ := bdE hm
    have lh4 := mo_X7_init eh4
    exact (lh4.tr (mo_X4_turned_160  h4 y0 _ hm))
def m_X4_turned_144 (f : Nat) (h : CH) (x0 : Nat) (x1 : Int32) (x2 : Nat) (y0 : Nat) : Option ((Nat ⊕ Nat) × CH) := bd (oR h 4 0 x0) fun a1 =>
    gd (isC h a1 17) <|
    bd2 (m_J2_get f h a1 x1) fun a4 h3 =>
    m_X4_turned_153 f h3 x2 y0 y0 a4
theorem mo_X4_turned_144 {f : Nat} : ∀ (h : CH) (x0 : Nat) (x1 : Int32) (x2 : Nat) (y0 : Nat) (r : ((Nat ⊕ Nat) × CH)), m_X4_turned_144 f h x0 x1 x2 y0 = some r → le2 h r.2 := by
  intro h x0 x1 x2 y0 r hm
  rw [m_X4_turned_144] at hm
  obtain ⟨a1, ea1, hm⟩ := bdE hm
  obtain ⟨g2, hm⟩ := gdE hm
  obtain ⟨a4, h3, ea4, hm⟩ := bd2E hm
  have lh3 := mo_J2_get ea4
  exact (lh3.tr (mo_X4_turned_153  h3 x2 y0 y0 a4 _ hm))
def m_X4_turned_141 (f : Nat) (h : CH) (x0 : Nat) (x1 : Int32) (x2 : Nat) : Option ((Nat ⊕ Nat) × CH) := nmv (cn h 5 (.inl (7, [.null, .null, .null, .long 0, .long 0]))) fun h1 =>
    nmv (h.1 : Nat) fun a2 =>
    m_X4_turned_144 f h1 x0 x1 x2 a2
theorem mo_X4_turned_141 {f : Nat} : ∀ (h : CH) (x0 : Nat) (x1 : Int32) (x2 : Nat) (r : ((Nat ⊕ Nat) × CH)), m_X4_turned_141 f h x0 x1 x2 = some r → le2 h r.2 := by
  intro h x0 x1 x2 r hm
  rw [m_X4_turned_141] at hm
  obtain ⟨h1, eh1, hm⟩ := nmE hm
  have lh1 := cn_le eh1
  obtain ⟨a2, ea2, hm⟩ := nmE hm
  exact (lh1.tr (mo_X4_turned_144  h1 x0 x1 x2 a2 _ hm))
def m_X4_turned_140 (f : Nat) (h : CH) (y0 : Nat) : Option ((Nat ⊕ Nat) × CH) := gd (isC h y0 5) <|
    some (.inr y0, h)
theorem mo_X4_turned_140 {f : Nat} : ∀ (h : CH) (y0 : Nat) (r : ((Nat ⊕ Nat) × CH)), m_X4_turned_140 f h y0 = some r → le2 h r.2 := by
  intro h y0 r hm
  rw [m_X4_turned_140] at hm
  obtain ⟨g1, hm⟩ := gdE hm
  cases hm
  exact le2.rf
def m_X4_turned_131 (f : Nat) (h : CH) (x0 : Nat) (y0 : Nat) : Option ((Nat ⊕ Nat) × CH) := bd (oI h 4 6 x0) fun v1 =>
    bd (m_X5_init f h y0 (2 : Int32) v1) fun h2 =>
    m_X4_turned_140 f h2 y0
theorem mo_X4_turned_131 {f : Nat} : ∀ (h : CH) (x0 : Nat) (y0 : Nat) (r : ((Nat ⊕ Nat) × CH)), m_X4_turned_131 f h x0 y0 = some r → le2 h r.2 := by
  intro h x0 y0 r hm
  rw [m_X4_turned_131] at hm
  obtain ⟨v1, ev1, hm⟩ := bdE hm
  obtain ⟨h2, eh2, hm⟩ := bdE hm
  have lh2 := mo_X5_init eh2
  exact (lh2.tr (mo_X4_turned_140  h2 y0 _ hm))
def m_X4_turned_104 (f : Nat) (h : CH) (x0 : Nat) (x1 : Int32) (x2 : Nat) : Option ((Nat ⊕ Nat) × CH) := bd (aI h 0 x2 (0 : Int32)) fun v1 =>
    if ¬ v1 = 0 then
    m_X4_turned_141 f h x0 x1 x2
    else bd (aI h 0 x2 (1 : Int32)) fun v3 =>
    if ¬ v3 = 0 then
    m_X4_turned_141 f h x0 x1 x2
    else bd (aI h 0 x2 (2 : Int32)) fun v5 =>
    if ¬ v5 = 0 then
    m_X4_turned_141 f h x0 x1 x2
    else bd (aI h 0 x2 (3 : Int32)) fun v7 =>
    if ¬ v7 = 0 then
    m_X4_turned_141 f h x0 x1 x2
    else nmv (cn h 8 (.inl (5, [.null, .null, .null, .null, .null, .int 0, .int 0, .int 0]))) fun h9 =>
    nmv (h.1 : Nat) fun a10 =>
    m_X4_turned_131 f h9 x0 a10
theorem mo_X4_turned_104 {f : Nat} : ∀ (h : CH) (x0 : Nat) (x1 : Int32) (x2 : Nat) (r : ((Nat ⊕ Nat) × CH)), m_X4_turned_104 f h x0 x1 x2 = some r → le2 h r.2 := by
  intro h x0 x1 x2 r hm
  rw [m_X4_turned_104] at hm
  obtain ⟨v1, ev1, hm⟩ := bdE hm
  by_cases c2 : ¬ v1 = 0
  · have hm := ifT hm c2
    exact (mo_X4_turned_141  h x0 x1 x2 _ hm)
  · have hm := ifF hm c2
    obtain ⟨v3, ev3, hm⟩ := bdE hm
    by_cases c4 : ¬ v3 = 0
    · have hm := ifT hm c4
      exact (mo_X4_turned_141  h x0 x1 x2 _ hm)
    · have hm := ifF hm c4
      obtain ⟨v5, ev5, hm⟩ := bdE hm
      by_cases c6 : ¬ v5 = 0
      · have hm := ifT hm c6
        exact (mo_X4_turned_141  h x0 x1 x2 _ hm)
      · have hm := ifF hm c6
        obtain ⟨v7, ev7, hm⟩ := bdE hm
        by_cases c8 : ¬ v7 = 0
        · have hm := ifT hm c8
          exact (mo_X4_turned_141  h x0 x1 x2 _ hm)
        · have hm := ifF hm c8
          obtain ⟨h9, eh9, hm⟩ := nmE hm
          have lh9 := cn_le eh9
          obtain ⟨a10, ea10, hm⟩ := nmE hm
          exact (lh9.tr (mo_X4_turned_131  h9 x0 a10 _ hm))
def m_X4_turned_97 (f : Nat) (k85 : CH → Nat → Int32 → Nat → Int32 → Option ((Nat ⊕ Nat) × CH)) (h : CH) (x0 : Nat) (x1 : Int32) (x2 : Nat) (x3 : Int32) (y0 : Nat) (y1 : Int32) (y2 : Int32) : Option ((Nat ⊕ Nat) × CH) := bd (uI h 0 y0 y1 y2) fun h1 =>
    nmv ((x3 + 1) : Int32) fun v2 =>
    k85 h1 x0 x1 x2 v2
theorem mo_X4_turned_97 {f : Nat} {k85 : CH → Nat → Int32 → Nat → Int32 → Option ((Nat ⊕ Nat) × CH)} (hk85 : ∀ (h : CH) (x0 : Nat) (x1 : Int32) (x2 : Nat) (x3 : Int32) (r : ((Nat ⊕ Nat) × CH)), k85 h x0 x1 x2 x3 = some r → le2 h r.2) : ∀ (h : CH) (x0 : Nat) (x1 : Int32) (x2 : Nat) (x3 : Int32) (y0 : Nat) (y1 : Int32) (y2 : Int32) (r : ((Nat ⊕ Nat) × CH)), m_X4_turned_97 f k85 h x0 x1 x2 x3 y0 y1 y2 = some r → le2 h r.2 := by
  intro h x0 x1 x2 x3 y0 y1 y2 r hm
  rw [m_X4_turned_97] at hm
  obtain ⟨h1, eh1, hm⟩ := bdE hm
  have lh1 := uI_le eh1
  obtain ⟨v2, ev2, hm⟩ := nmE hm
  exact (lh1.tr (hk85 h1 x0 x1 x2 v2 _ hm))
def m_X4_turned_85 (f : Nat) : Nat → CH → Nat → Int32 → Nat → Int32 → Option ((Nat ⊕ Nat) × CH)
  | 0, _, _, _, _, _ => none
  | n85 + 1, h, x0, x1, x2, x3 => if (4 : Int32) ≤ x3 then
    m_X4_turned_104 f h x0 x1 x2
    else gd (isC h x0 4) <|
    bx (m_X4_signed f h x0 (3 : Int32)) (fun r4 h3 =>
    m_X4_turned_97 f (m_X4_turned_85 f n85) h3 x0 x1 x2 x3 x2 x3 r4) (fun q5 h3 =>
    gd (isC h3 q5 5) <|
    some (.inr q5, h3))
theorem mo_X4_turned_85 {f : Nat} : ∀ (n85 : Nat) (h : CH) (x0 : Nat) (x1 : Int32) (x2 : Nat) (x3 : Int32) (r : ((Nat ⊕ Nat) × CH)), m_X4_turned_85 f n85 h x0 x1 x2 x3 = some r → le2 h r.2 := by
  intro n85
  induction n85 with
  | zero => intro h x0 x1 x2 x3 r hm; rw [m_X4_turned_85] at hm; exact noE hm
  | succ n85 ihm =>
    intro h x0 x1 x2 x3 r hm
    rw [m_X4_turned_85] at hm
    by_cases c1 : (4 : Int32) ≤ x3
    · have hm := ifT hm c1
      exact (mo_X4_turned_104  h x0 x1 x2 _ hm)
    · have hm := ifF hm c1
      obtain ⟨g2, hm⟩ := gdE hm
      rcases bxE hm with ⟨r4, h3, eh3, hm⟩ | ⟨q5, h3, eh3, hm⟩
      · have lh3 := mo_X4_signed eh3
        exact (lh3.tr (mo_X4_turned_97 ihm h3 x0 x1 x2 x3 x2 x3 r4 _ hm))
      · have lh3 := mo_X4_signed eh3
        obtain ⟨g6, hm⟩ := gdE hm
        cases hm
        exact (lh3.tr le2.rf)
def m_X4_turned_82 (f : Nat) (h : CH) (x0 : Nat) (x1 : Int32) (y0 : Nat) : Option ((Nat ⊕ Nat) × CH) := m_X4_turned_85 f f h x0 x1 y0 (0 : Int32)
theorem mo_X4_turned_82 {f : Nat} : ∀ (h : CH) (x0 : Nat) (x1 : Int32) (y0 : Nat) (r : ((Nat ⊕ Nat) × CH)), m_X4_turned_82 f h x0 x1 y0 = some r → le2 h r.2 := by
  intro h x0 x1 y0 r hm
  rw [m_X4_turned_82] at hm
  exact (mo_X4_turned_85  f h x0 x1 y0 (0 : Int32) _ hm)
def m_X4_turned_79 (f : Nat) (h : CH) (x0 : Nat) (x1 : Int32) : Option ((Nat ⊕ Nat) × CH) := nmv (cn h 4 (.inr (0, 4, .inl (fun _ => 0)))) fun h1 =>
    nmv (h.1 : Nat) fun a2 =>
    m_X4_turned_82 f h1 x0 x1 a2
theorem mo_X4_turned_79 {f : Nat} : ∀ (h : CH) (x0 : Nat) (x1 : Int32) (r : ((Nat ⊕ Nat) × CH)), m_X4_turned_79 f h x0 x1 = some r → le2 h r.2 := by
  intro h x0 x1 r hm
  rw [m_X4_turned_79] at hm
  obtain ⟨h1, eh1, hm⟩ := nmE hm
  have lh1 := cn_le eh1
  obtain ⟨a2, ea2, hm⟩ := nmE hm
  exact (lh1.tr (mo_X4_turned_82  h1 x0 x1 a2 _ hm))
def m_X4_turned_73 (f : Nat) (h : CH) (x0 : Nat) (x1 : Int32) : Option ((Nat ⊕ Nat) × CH) := bd (sR h (20 + 5)) fun a1 =>
    gd (isC h x0 4) <|
    bx (m_X4_asks f h x0 a1) (fun r4 h3 =>
    m_X4_turned_79 f h3 x0 x1) (fun q5 h3 =>
    gd (isC h3 q5 5) <|
    some (.inr q5, h3))
theorem mo_X4_turned_73 {f : Nat} : ∀ (h : CH) (x0 : Nat) (x1 : Int32) (r : ((Nat ⊕ Nat) × CH)), m_X4_turned_73 f h x0 x1 = some r → le2 h r.2 := by
  intro h x0 x1 r hm
  rw [m_X4_turned_73] at hm
  obtain ⟨a1, ea1, hm⟩ := bdE hm
  obtain ⟨g2, hm⟩ := gdE hm
  rcases bxE hm with ⟨r4, h3, eh3, hm⟩ | ⟨q5, h3, eh3, hm⟩
  · have lh3 := mo_X4_asks eh3
    exact (lh3.tr (mo_X4_turned_79  h3 x0 x1 _ hm))
  · have lh3 := mo_X4_asks eh3
    obtain ⟨g6, hm⟩ := gdE hm
    cases hm
    exact (lh3.tr le2.rf)
def m_X4_turned_69 (f : Nat) (h : CH) (x0 : Nat) (x1 : Int32) : Option ((Nat ⊕ Nat) × CH) := gd (isC h x0 4) <|
    bd (m_X4_advance f h x0) fun h2 =>
    m_X4_turned_73 f h2 x0 x1
theorem mo_X4_turned_69 {f : Nat} : ∀ (h : CH) (x0 : Nat) (x1 : Int32) (r : ((Nat ⊕ Nat) × CH)), m_X4_turned_69 f h x0 x1 = some r → le2 h r.2 := by
  intro h x0 x1 r hm
  rw [m_X4_turned_69] at hm
  obtain ⟨g1, hm⟩ := gdE hm
  obtain ⟨h2, eh2, hm⟩ := bdE hm
  have lh2 := mo_X4_advance eh2
  exact (lh2.tr (mo_X4_turned_73  h2 x0 x1 _ hm))
def m_X4_turned_65 (f : Nat) (h : CH) (x0 : Nat) (x1 : Int32) (y0 : Nat) (y1 : Int32) : Option ((Nat ⊕ Nat) × CH) := gd (isC h y0 4) <|
    bx (m_X4_needs f h y0 y1 (2 : Int32)) (fun r3 h2 =>
    m_X4_turned_69 f h2 x0 x1) (fun q4 h2 =>
    gd (isC h2 q4 5) <|
    some (.inr q4, h2))
theorem mo_X4_turned_65 {f : Nat} : ∀ (h : CH) (x0 : Nat) (x1 : Int32) (y0 : Nat) (y1 : Int32) (r : ((Nat ⊕ Nat) × CH)), m_X4_turned_65 f h x0 x1 y0 y1 = some r → le2 h r.2 := by
  intro h x0 x1 y0 y1 r hm
  rw [m_X4_turned_65] at hm
  obtain ⟨g1, hm⟩ := gdE hm
  rcases bxE hm with ⟨r3, h2, eh2, hm⟩ | ⟨q4, h2, eh2, hm⟩
  · have lh2 := mo_X4_needs eh2
    exact (lh2.tr (mo_X4_turned_69  h2 x0 x1 _ hm))
  · have lh2 := mo_X4_needs eh2
    obtain ⟨g5, hm⟩ := gdE hm
    cases hm
    exact (lh2.tr le2.rf)
def m_X4_turned_64 (f : Nat) (h : CH) (x0 : Nat) (x1 : Int32) (y0 : Nat) : Option ((Nat ⊕ Nat) × CH) := m_X4_turned_65 f h x0 x1 y0 (0 : Int32)
theorem mo_X4_turned_64 {f : Nat} : ∀ (h : CH) (x0 : Nat) (x1 : Int32) (y0 : Nat) (r : ((Nat ⊕ Nat) × CH)), m_X4_turned_64 f h x0 x1 y0 = some r → le2 h r.2 := by
  intro h x0 x1 y0 r hm
  rw [m_X4_turned_64] at hm
  exact (mo_X4_turned_65  h x0 x1 y0 (0 : Int32) _ hm)
def m_X4_turned_57 (f : Nat) (h : CH) (x0 : Nat) (x1 : Int32) (y0 : Nat) (y1 : Int32) : Option ((Nat ⊕ Nat) × CH) := if ¬ y1 = 0 then
    m_X4_turned_64 f h x0 x1 y0
    else m_X4_turned_65 f h x0 x1 y0 (1 : Int32)
theorem mo_X4_turned_57 {f : Nat} : ∀ (h : CH) (x0 : Nat) (x1 : Int32) (y0 : Nat) (y1 : Int32) (r : ((Nat ⊕ Nat) × CH)), m_X4_turned_57 f h x0 x1 y0 y1 = some r → le2 h r.2 := by
  intro h x0 x1 y0 y1 r hm
  rw [m_X4_turned_57] at hm
  by_cases c1 : ¬ y1 = 0
  · have hm := ifT hm c1
    exact (mo_X4_turned_64  h x0 x1 y0 _ hm)
  · have hm := ifF hm c1
    exact (mo_X4_turned_65  h x0 x1 y0 (1 : Int32) _ hm)
def m_X4_turned_51 (f : Nat) (h : CH) (x0 : Nat) (x1 : Int32) (y0 : Nat) (y1 : Nat) : Option ((Nat ⊕ Nat) × CH) := if isC h y1 6 = true then
    gd (isC h y1 6) <|
    bd2 (m_X6_isTurned f h y1) fun r4 h3 =>
    m_X4_turned_57 f h3 x0 x1 y0 r4
    else gd (isC h y1 7) <|
    gd (isC h y1 7) <|
    bd2 (m_X7_isTurned f h y1) fun r8 h7 =>
    m_X4_turned_57 f h7 x0 x1 y0 r8
theorem mo_X4_turned_51 {f : Nat} : ∀ (h : CH) (x0 : Nat) (x1 : Int32) (y0 : Nat) (y1 : Nat) (r : ((Nat ⊕ Nat) × CH)), m_X4_turned_51 f h x0 x1 y0 y1 = some r → le2 h r.2 := by
  intro h x0 x1 y0 y1 r hm
  rw [m_X4_turned_51] at hm
  by_cases c1 : isC h y1 6 = true
  · have hm := ifT hm c1
    obtain ⟨g2, hm⟩ := gdE hm
    obtain ⟨r4, h3, er4, hm⟩ := bd2E hm
    have lh3 := mo_X6_isTurned er4
    exact (lh3.tr (mo_X4_turned_57  h3 x0 x1 y0 r4 _ hm))
  · have hm := ifF hm c1
    obtain ⟨g5, hm⟩ := gdE hm
    obtain ⟨g6, hm⟩ := gdE hm
    obtain ⟨r8, h7, er8, hm⟩ := bd2E hm
    have lh7 := mo_X7_isTurned er8
    exact (lh7.tr (mo_X4_turned_57  h7 x0 x1 y0 r8 _ hm))
def m_X4_turned_37 (f : Nat) (h : CH) (x0 : Nat) (y0 : Int32) : Option ((Nat ⊕ Nat) × CH) := if y0 < 0 then
    m_X4_turned_64 f h x0 y0 x0
    else bd (oR h 4 0 x0) fun a2 =>
    gd (isC h a2 17) <|
    bd2 (m_J2_get f h a2 y0) fun a5 h4 =>
    m_X4_turned_51 f h4 x0 y0 x0 a5
theorem mo_X4_turned_37 {f : Nat} : ∀ (h : CH) (x0 : Nat) (y0 : Int32) (r : ((Nat ⊕ Nat) × CH)), m_X4_turned_37 f h x0 y0 = some r → le2 h r.2 := by
  intro h x0 y0 r hm
  rw [m_X4_turned_37] at hm
  by_cases c1 : y0 < 0
  · have hm := ifT hm c1
    exact (mo_X4_turned_64  h x0 y0 x0 _ hm)
  · have hm := ifF hm c1
    obtain ⟨a2, ea2, hm⟩ := bdE hm
    obtain ⟨g3, hm⟩ := gdE hm
    obtain ⟨a5, h4, ea5, hm⟩ := bd2E hm
    have lh4 := mo_J2_get ea5
    exact (lh4.tr (mo_X4_turned_51  h4 x0 y0 x0 a5 _ hm))
def m_X4_turned_26 (f : Nat) (h : CH) (x0 : Nat) : Option ((Nat ⊕ Nat) × CH) := bd (oR h 4 1 x0) fun a1 =>
    bd (oR h 4 8 x0) fun a2 =>
    gd (isC h a1 17) <|
    bd2 (m_J2_indexOf f h a1 a2) fun r5 h4 =>
    m_X4_turned_37 f h4 x0 r5
theorem mo_X4_turned_26 {f : Nat} : ∀ (h : CH) (x0 : Nat) (r : ((Nat ⊕ Nat) × CH)), m_X4_turned_26 f h x0 = some r → le2 h r.2 := by
  intro h x0 r hm
  rw [m_X4_turned_26] at hm
  obtain ⟨a1, ea1, hm⟩ := bdE hm
  obtain ⟨a2, ea2, hm⟩ := bdE hm
  obtain ⟨g3, hm⟩ := gdE hm
  obtain ⟨r5, h4, er5, hm⟩ := bd2E hm
  have lh4 := mo_J2_indexOf er5
  exact (lh4.tr (mo_X4_turned_37  h4 x0 r5 _ hm))
def m_X4_turned_22 (f : Nat) (h : CH) (x0 : Nat) (y0 : Nat) (y1 : Int32) : Option ((Nat ⊕ Nat) × CH) := gd (isC h y0 4) <|
    bx (m_X4_needs f h y0 y1 (1 : Int32)) (fun r3 h2 =>
    m_X4_turned_26 f h2 x0) (fun q4 h2 =>
    gd (isC h2 q4 5) <|
    some (.inr q4, h2))
theorem mo_X4_turned_22 {f : Nat} : ∀ (h : CH) (x0 : Nat) (y0 : Nat) (y1 : Int32) (r : ((Nat ⊕ Nat) × CH)), m_X4_turned_22 f h x0 y0 y1 = some r → le2 h r.2 := by
  intro h x0 y0 y1 r hm
  rw [m_X4_turned_22] at hm
  obtain ⟨g1, hm⟩ := gdE hm
  rcases bxE hm with ⟨r3, h2, eh2, hm⟩ | ⟨q4, h2, eh2, hm⟩
  · have lh2 := mo_X4_needs eh2
    exact (lh2.tr (mo_X4_turned_26  h2 x0 _ hm))
  · have lh2 := mo_X4_needs eh2
    obtain ⟨g5, hm⟩ := gdE hm
    cases hm
    exact (lh2.tr le2.rf)
def m_X4_turned_6 (f : Nat) (h : CH) (x0 : Nat) : Option ((Nat ⊕ Nat) × CH) := bd (oR h 4 7 x0) fun a1 =>
    bd (sR h 7) fun a2 =>
    if ¬ a1 = a2 then
    m_X4_turned_22 f h x0 x0 (0 : Int32)
    else m_X4_turned_22 f h x0 x0 (1 : Int32)
theorem mo_X4_turned_6 {f : Nat} : ∀ (h : CH) (x0 : Nat) (r : ((Nat ⊕ Nat) × CH)), m_X4_turned_6 f h x0 = some r → le2 h r.2 := by
  intro h x0 r hm
  rw [m_X4_turned_6] at hm
  obtain ⟨a1, ea1, hm⟩ := bdE hm
  obtain ⟨a2, ea2, hm⟩ := bdE hm
  by_cases c3 : ¬ a1 = a2
  · have hm := ifT hm c3
    exact (mo_X4_turned_22  h x0 x0 (0 : Int32) _ hm)
  · have hm := ifF hm c3
    exact (mo_X4_turned_22  h x0 x0 (1 : Int32) _ hm)
def m_X4_turned (f : Nat) (u : CH) (x0 : Nat) : Option ((Nat ⊕ Nat) × CH) := bd (sR u (20 + 4)) fun a1 =>
    gd (isC u x0 4) <|
    bx (m_X4_asks f u x0 a1) (fun r4 h3 =>
    m_X4_turned_6 f h3 x0) (fun q5 h3 =>
    gd (isC h3 q5 5) <|
    some (.inr q5, h3))
theorem mo_X4_turned {f : Nat} {u : CH} {x0 : Nat} {r0 : Nat ⊕ Nat} {u9 : CH} (hm : m_X4_turned f u x0 = some (r0, u9)) : le2 u u9 := by
  rw [m_X4_turned] at hm
  obtain ⟨a1, ea1, hm⟩ := bdE hm
  obtain ⟨g2, hm⟩ := gdE hm
  rcases bxE hm with ⟨r4, h3, eh3, hm⟩ | ⟨q5, h3, eh3, hm⟩
  · have lh3 := mo_X4_asks eh3
    exact (lh3.tr (mo_X4_turned_6  h3 x0 _ hm))
  · have lh3 := mo_X4_asks eh3
    obtain ⟨g6, hm⟩ := gdE hm
    cases hm
    exact (lh3.tr le2.rf)
abbrev rm_X4_turned (mc ms : Nat) : Room := { frames := 8, cells := mc, slots := ms, locals := 216 }
theorem cw_X4_turned {R : Room} {s : State} {args : Array Value} {own : String} {idx mc ms : Nat} (hts : ∀ w ∈ lw_all, w.before args s = true) (hl : Cond.methodLink own idx yX4_turned ∈ lw_all) (hR : 8 + 1 ≤ R.frames ∧ 8 + (4 + 11) + 216 ≤ R.locals) : CallW R s args own RX4 idx yX4_turned cX4_turned 4 (Option.some (Jvm.ClassFile.FieldType.object "CoincideBench$Lattice")) (ws_ yX4_turned cX4_turned 4 (Option.some (Jvm.ClassFile.FieldType.object "CoincideBench$Lattice"))) (rm_X4_turned mc ms) mc ms 0 := cwV 0 hts (lw_V hl q714 qs8 q126 q715) rfl rfl rfl (by decide +kernel) hR
set_option maxHeartbeats 4000000 in
set_option maxRecDepth 100000 in
theorem w_X4_turned (l : Launch) (htl : l.stackTraces = false) {D : va_G} {dA : Nat → ClassId} {A : Nat → Prop} {f : Nat} {u u9 : CH} {r0 : Nat ⊕ Nat} {x0 : Nat} (hm : m_X4_turned f u x0 = some (r0, u9)) : vy_Met l yX4_turned (ws_ yX4_turned cX4_turned 4 (Option.some (Jvm.ClassFile.FieldType.object "CoincideBench$Lattice"))) (rm_X4_turned (u9.1 - u.1) (u9.2.1 - u.2.1)) (va_Pc [.ref x0] (CPre D dA A u)) (cxQr D dA A r0 u9) (cxX D dA A r0 u9) (u9.1 - u.1) (u9.2.1 - u.2.1) A := by
  refine vy_ofW (cc := cX4_turned) (maxL := 4) (ret := (Option.some (Jvm.ClassFile.FieldType.object "CoincideBench$Lattice"))) (by decide) rfl ?_
  intro p e s m args below meth c s₁ B hml htab hv
  have hx := B.exec
  have hb := B.bytes
  have hr := B.returns
  have hts := atoms_spec (ws := (ws_ yX4_turned cX4_turned 4 (Option.some (Jvm.ClassFile.FieldType.object "CoincideBench$Lattice")))) B.pre
  have hts : ∀ w ∈ lw_all, w.before args s = true := fun w h => hts w (List.mem_cons_of_mem _ h)
  have hown : s.vm.findClass RX4 = some m.cls := findClass_of_methodNamed B.named
  have hlocks := B.notSynchronized
  obtain ⟨hav, hv⟩ := hv
  have C : CX p s m args c cX4_turned RX4 D dA := ⟨hx, hb, hown, hts, hv.2⟩
  have hw : CW D dA A s u s.heap [] := hv.1
  generalize hQ : vy_MQ below (cxQr D dA A r0 u9) (cxX D dA A r0 u9) args s (u9.1 - u.1) (u9.2.1 - u.2.1) A = QQ
  have hent := lg_entry_eq m [.ref x0] 4
  rw [← hav] at hent
  rw [hent]
  have hl := lv_entry ([.ref x0]) (n := 4) (Nat.le_of_ble_eq_true rfl)
  generalize (lg_sl ([.ref x0]) ++ List.replicate (4 - (lg_sl ([.ref x0])).length) Slot.unset).toArray = ls at hl ⊢
  have hl : lv_has ls 4 [(0, .ref x0)] := hl
  obtain ⟨cc, ecc⟩ : ∃ z : Nat, z = 0 := ⟨0, rfl⟩
  obtain ⟨ss, ess⟩ : ∃ z : Nat, z = 0 := ⟨0, rfl⟩
  have hcc : cc + u.1 = u.1 := by omega
  have hss : ss + u.2.1 = u.2.1 := by omega
  suffices hgo : W p l e (rm_X4_turned (u9.1 - u.1) (u9.2.1 - u.2.1)) s m args below meth c s.heap [] cc ss QQ (F0 m 0 ls []) by rw [ecc, ess] at hgo; exact hgo
  have ⟨pu, qu, _, _⟩ := mo_X4_turned hm
  have hB160 : ∀ (h : CH) (y0 : Nat) (cc ss : Nat) (H : Heap) (locs : List Loc) (ls : Array Slot), m_X4_turned_160 f h y0 = some (r0, u9) → CW D dA A s h H locs → cc + u.1 = h.1 → ss + u.2.1 = h.2.1 → lv_has ls 4 [] → W p l e (rm_X4_turned (u9.1 - u.1) (u9.2.1 - u.2.1)) s m args below meth c H locs cc ss QQ (F0 m 160 ls [.ref y0]) := by
    intro h y0 cc ss H locs ls hm hw hcc hss hl
    have hmo := mo_X4_turned_160  h y0 _ hm
    have sb_ : h.1 ≤ u9.1 := hmo.1
    have tb_ : h.2.1 ≤ u9.2.1 := hmo.2.1
    rw [m_X4_turned_160] at hm
    obtain ⟨er, eh⟩ := retE hm
    have ec : cc = u9.1 - u.1 := by rw [← eh]; omega
    have es : ss = u9.2.1 - u.2.1 := by rw [← eh]; omega
    rw [ec, es, ← hQ]
    refine vy_ret ?_
    exact W.aret (v := .ref y0) hx hb hr (Or.inl ⟨_, rfl⟩) (Or.inr ⟨_, rfl⟩) (fun t ht hW => ⟨⟨h, y0, rfl, eh, er.symm, ⟨by rw [ht]; exact hw.1, by rw [ht]; exact hw.2.1⟩⟩, hw.2.2.1.F ht⟩) hw.2.2.1.2.2 dX4_turned_160
  have hB153 : ∀ (h : CH) (x2 : Nat) (y0 : Nat) (y1 : Nat) (y2 : Nat) (cc ss : Nat) (H : Heap) (locs : List Loc) (ls : Array Slot), m_X4_turned_153 f h x2 y0 y1 y2 = some (r0, u9) → CW D dA A s h H locs → cc + u.1 = h.1 → ss + u.2.1 = h.2.1 → lv_has ls 4 [(2, .ref x2)] → W p l e (rm_X4_turned (u9.1 - u.1) (u9.2.1 - u.2.1)) s m args below meth c H locs cc ss QQ (F0 m 153 ls [.ref y2, .ref y1, .ref y0]) := by
    intro h x2 y0 y1 y2 cc ss H locs ls hm hw hcc hss hl
    have hmo := mo_X4_turned_153  h x2 y0 y1 y2 _ hm
    have sb_ : h.1 ≤ u9.1 := hmo.1
    have tb_ : h.2.1 ≤ u9.2.1 := hmo.2.1
    rw [m_X4_turned_153] at hm
    by_cases c1 : isC h y2 6 = true
    · have hm := ifT hm c1
      refine cg_castS C hw c1 rfl q733 dX4_turned_153 ?_
      refine lv_aload_n hx hb dX4_turned_156 rfl (lv_at hl 0 rfl) ?_
      obtain ⟨h2, eh2, hm⟩ := bdE hm
      have lh2 := mo_X7_init eh2
      have ph2 : h.1 ≤ h2.1 := lh2.1
      have qh2 : h.2.1 ≤ h2.2.1 := lh2.2.1
      have hmo := mo_X4_turned_160   h2 y0 _ hm
      have sh2 : h2.1 ≤ u9.1 := hmo.1
      have th2 : h2.2.1 ≤ u9.2.1 := hmo.2.1
      refine cg_callv hw lh2 (va_runI (As := [.ref y2, .ref x2]) (rest := [.ref y0]) ⟨hx, hb, hml, hown, hts⟩ (w_X7_init l eh2) (cw_X7_init hts q748 ⟨Nat.le_of_ble_eq_true rfl, Nat.le_of_ble_eq_true rfl⟩) (cg_preS C hw _) rfl rfl hl.1 rfl (lv_room (Nat.le_of_ble_eq_true rfl)) dX4_turned_157 ⟨show cc + (h2.1 - h.1) ≤ u9.1 - u.1 by omega, show ss + (h2.2.1 - h.2.1) ≤ u9.2.1 - u.2.1 by omega⟩) (fun H locs hw => ?_)
      exact hB160 h2 y0 _ _ _ _ _ hm hw (by omega) (by omega) (lv_sub hl [] rfl)
    · have hm := ifF hm c1
      obtain ⟨g3, hm⟩ := gdE hm
      refine cg_castY C hw g3 rfl q733 (hw.2.2.2.2.1 _ (List.mem_of_getElem? (i := 77) rfl)) dX4_turned_153 ?_
      refine lv_aload_n hx hb dX4_turned_156 rfl (lv_at hl 0 rfl) ?_
      obtain ⟨h4, eh4, hm⟩ := bdE hm
      have lh4 := mo_X7_init eh4
      have ph4 : h.1 ≤ h4.1 := lh4.1
      have qh4 : h.2.1 ≤ h4.2.1 := lh4.2.1
      have hmo := mo_X4_turned_160   h4 y0 _ hm
      have sh4 : h4.1 ≤ u9.1 := hmo.1
      have th4 : h4.2.1 ≤ u9.2.1 := hmo.2.1
      refine cg_callv hw lh4 (va_runI (As := [.ref y2, .ref x2]) (rest := [.ref y0]) ⟨hx, hb, hml, hown, hts⟩ (w_X7_init l eh4) (cw_X7_init hts q748 ⟨Nat.le_of_ble_eq_true rfl, Nat.le_of_ble_eq_true rfl⟩) (cg_preS C hw _) rfl rfl hl.1 rfl (lv_room (Nat.le_of_ble_eq_true rfl)) dX4_turned_157 ⟨show cc + (h4.1 - h.1) ≤ u9.1 - u.1 by omega, show ss + (h4.2.1 - h.2.1) ≤ u9.2.1 - u.2.1 by omega⟩) (fun H locs hw => ?_)
      exact hB160 h4 y0 _ _ _ _ _ hm hw (by omega) (by omega) (lv_sub hl [] rfl)
  have hB144 : ∀ (h : CH) (x0 : Nat) (x1 : Int32) (x2 : Nat) (y0 : Nat) (cc ss : Nat) (H : Heap) (locs : List Loc) (ls : Array Slot), m_X4_turned_144 f h x0 x1 x2 y0 = some (r0, u9) → CW D dA A s h H locs → cc + u.1 = h.1 → ss + u.2.1 = h.2.1 → lv_has ls 4 [(0, .ref x0), (1, .int x1), (2, .ref x2)] → W p l e (rm_X4_turned (u9.1 - u.1) (u9.2.1 - u.2.1)) s m args below meth c H locs cc ss QQ (F0 m 144 ls [.ref y0]) := by
    intro h x0 x1 x2 y0 cc ss H locs ls hm hw hcc hss hl
    have hmo := mo_X4_turned_144  h x0 x1 x2 y0 _ hm
    have sb_ : h.1 ≤ u9.1 := hmo.1
    have tb_ : h.2.1 ≤ u9.2.1 := hmo.2.1
    rw [m_X4_turned_144] at hm
    refine lv_dup hx hb dX4_turned_144 rfl ?_
    refine lv_aload_n hx hb dX4_turned_145 rfl (lv_at hl 0 rfl) ?_
    obtain ⟨a1, ea1, hm⟩ := bdE hm
    refine cg_get C hw (oR_E ea1) rfl in_X4 (by decide) q314 dX4_turned_146 ?_
    refine lv_iload_n hx hb dX4_turned_149 rfl (lv_at hl 1 rfl) ?_
    obtain ⟨g2, hm⟩ := gdE hm
    obtain ⟨a4, h3, ea4, hm⟩ := bd2E hm
    have lh3 := mo_J2_get ea4
    have ph3 : h.1 ≤ h3.1 := lh3.1
    have qh3 : h.2.1 ≤ h3.2.1 := lh3.2.1
    have hmo := mo_X4_turned_153   h3 x2 y0 y0 a4 _ hm
    have sh3 : h3.1 ≤ u9.1 := hmo.1
    have th3 : h3.2.1 ≤ u9.2.1 := hmo.2.1
    refine cg_callr hw lh3 (va_runV (As := [.int x1]) (rest := [.ref y0, .ref y0]) ⟨hx, hb, hml, hown, hts⟩ (w_J2_get l ea4) (cw_J2_get hts q721 ⟨Nat.le_of_ble_eq_true rfl, Nat.le_of_ble_eq_true rfl⟩) (cg_preV C hw g2 rfl _) rfl rfl hl.1 rfl (lv_room (Nat.le_of_ble_eq_true rfl)) dX4_turned_150 ⟨show cc + (h3.1 - h.1) ≤ u9.1 - u.1 by omega, show ss + (h3.2.1 - h.2.1) ≤ u9.2.1 - u.2.1 by omega⟩) (fun H locs hw => ?_)
    exact hB153 h3 x2 y0 y0 a4 _ _ _ _ _ hm hw (by omega) (by omega) (lv_sub hl [2] rfl)
  have hB141 : ∀ (h : CH) (x0 : Nat) (x1 : Int32) (x2 : Nat) (cc ss : Nat) (H : Heap) (locs : List Loc) (ls : Array Slot), m_X4_turned_141 f h x0 x1 x2 = some (r0, u9) → CW D dA A s h H locs → cc + u.1 = h.1 → ss + u.2.1 = h.2.1 → lv_has ls 4 [(0, .ref x0), (1, .int x1), (2, .ref x2)] → W p l e (rm_X4_turned (u9.1 - u.1) (u9.2.1 - u.2.1)) s m args below meth c H locs cc ss QQ (F0 m 141 ls []) := by
    intro h x0 x1 x2 cc ss H locs ls hm hw hcc hss hl
    have hmo := mo_X4_turned_141  h x0 x1 x2 _ hm
    have sb_ : h.1 ≤ u9.1 := hmo.1
    have tb_ : h.2.1 ≤ u9.2.1 := hmo.2.1
    rw [m_X4_turned_141] at hm
    obtain ⟨h1, eh1, hm⟩ := nmE hm
    obtain ⟨_, _, hmq⟩ := nmE hm
    have hmo := mo_X4_turned_144   h1 x0 x1 x2 _ _ hmq
    have sh1 : h1.1 ≤ u9.1 := hmo.1
    have th1 : h1.2.1 ≤ u9.2.1 := hmo.2.1
    have zh1 := cn_sz eh1
    refine cg_new (C0 := C) hw (ci := 7) (fs := [.null, .null, .null, .long 0, .long 0]) rfl in_X7 tyX7 tyX7_ok q746 q747 q144 (fun j hj => by rcases (show j = 0 ∨ j = 1 ∨ j = 2 ∨ j = 3 ∨ j = 4 by omega) with rfl | rfl | rfl | rfl | rfl <;> rfl) (show cc + 1 ≤ u9.1 - u.1 by omega) (show ss + 5 ≤ u9.2.1 - u.2.1 by omega) dX4_turned_141 (fun H hw => ?_)
    rw [← eh1] at hw
    refine lv_topr (fun a2 ea2 => ?_)
    have hm := nmK hm ea2
    exact hB144 h1 x0 x1 x2 a2 _ _ _ _ _ hm hw (by omega) (by omega) (lv_sub hl [0, 1, 2] rfl)
  have hB140 : ∀ (h : CH) (y0 : Nat) (cc ss : Nat) (H : Heap) (locs : List Loc) (ls : Array Slot), m_X4_turned_140 f h y0 = some (r0, u9) → CW D dA A s h H locs → cc + u.1 = h.1 → ss + u.2.1 = h.2.1 → lv_has ls 4 [] → W p l e (rm_X4_turned (u9.1 - u.1) (u9.2.1 - u.2.1)) s m args below meth c H locs cc ss QQ (F0 m 140 ls [.ref y0]) := by
    intro h y0 cc ss H locs ls hm hw hcc hss hl
    have hmo := mo_X4_turned_140  h y0 _ hm
    have sb_ : h.1 ≤ u9.1 := hmo.1
    have tb_ : h.2.1 ≤ u9.2.1 := hmo.2.1
    rw [m_X4_turned_140] at hm
    obtain ⟨g1, hm⟩ := gdE hm
    refine vy_athrow hx hb dX4_turned_140 ?_
    obtain ⟨er, eh⟩ := retE hm
    rw [← hQ]
    exact cx_out C hw g1 (by decide) rfl er eh (fun x hx => (htab x hx).elim) hlocks (by rw [← eh]; omega) (by rw [← eh]; omega)
  have hB131 : ∀ (h : CH) (x0 : Nat) (y0 : Nat) (cc ss : Nat) (H : Heap) (locs : List Loc) (ls : Array Slot), m_X4_turned_131 f h x0 y0 = some (r0, u9) → CW D dA A s h H locs → cc + u.1 = h.1 → ss + u.2.1 = h.2.1 → lv_has ls 4 [(0, .ref x0)] → W p l e (rm_X4_turned (u9.1 - u.1) (u9.2.1 - u.2.1)) s m args below meth c H locs cc ss QQ (F0 m 131 ls [.ref y0]) := by
    intro h x0 y0 cc ss H locs ls hm hw hcc hss hl
    have hmo := mo_X4_turned_131  h x0 y0 _ hm
    have sb_ : h.1 ≤ u9.1 := hmo.1
    have tb_ : h.2.1 ≤ u9.2.1 := hmo.2.1
    rw [m_X4_turned_131] at hm
    refine lv_dup hx hb dX4_turned_131 rfl ?_
    refine lv_iconst (v := 2) hx hb dX4_turned_132 (by decide) ?_
    refine lv_aload_n hx hb dX4_turned_133 rfl (lv_at hl 0 rfl) ?_
    obtain ⟨v1, ev1, hm⟩ := bdE hm
    refine cg_get C hw (oI_E ev1) rfl in_X4 (by decide) q322 dX4_turned_134 ?_
    obtain ⟨h2, eh2, hm⟩ := bdE hm
    have lh2 := mo_X5_init eh2
    have ph2 : h.1 ≤ h2.1 := lh2.1
    have qh2 : h.2.1 ≤ h2.2.1 := lh2.2.1
    have hmo := mo_X4_turned_140   h2 y0 _ hm
    have sh2 : h2.1 ≤ u9.1 := hmo.1
    have th2 : h2.2.1 ≤ u9.2.1 := hmo.2.1
    refine cg_callv hw lh2 (va_runI (As := [.int (2 : Int32), .int v1]) (rest := [.ref y0]) ⟨hx, hb, hml, hown, hts⟩ (w_X5_init l htl eh2) (cw_X5_init hts q627 ⟨Nat.le_of_ble_eq_true rfl, Nat.le_of_ble_eq_true rfl⟩) (cg_preS C hw _) rfl rfl hl.1 rfl (lv_room (Nat.le_of_ble_eq_true rfl)) dX4_turned_137 ⟨show cc + (h2.1 - h.1) ≤ u9.1 - u.1 by omega, show ss + (h2.2.1 - h.2.1) ≤ u9.2.1 - u.2.1 by omega⟩) (fun H locs hw => ?_)
    exact hB140 h2 y0 _ _ _ _ _ hm hw (by omega) (by omega) (lv_sub hl [] rfl)
  have hB104 : ∀ (h : CH) (x0 : Nat) (x1 : Int32) (x2 : Nat) (cc ss : Nat) (H : Heap) (locs : List Loc) (ls : Array Slot), m_X4_turned_104 f h x0 x1 x2 = some (r0, u9) → CW D dA A s h H locs → cc + u.1 = h.1 → ss + u.2.1 = h.2.1 → lv_has ls 4 [(0, .ref x0), (1, .int x1), (2, .ref x2)] → W p l e (rm_X4_turned (u9.1 - u.1) (u9.2.1 - u.2.1)) s m args below meth c H locs cc ss QQ (F0 m 104 ls []) := by
    intro h x0 x1 x2 cc ss H locs ls hm hw hcc hss hl
    have hmo := mo_X4_turned_104  h x0 x1 x2 _ hm
    have sb_ : h.1 ≤ u9.1 := hmo.1
    have tb_ : h.2.1 ≤ u9.2.1 := hmo.2.1
    rw [m_X4_turned_104] at hm
    refine lv_aload_n hx hb dX4_turned_104 rfl (lv_at hl 2 rfl) ?_
    refine lv_iconst (v := 0) hx hb dX4_turned_105 (by decide) ?_
    obtain ⟨v1, ev1, hm⟩ := bdE hm
    refine cg_iald C hw ev1 dX4_turned_106 ?_
    refine lv_if_ne (tgt := 141) hx hb dX4_turned_107 (by decide) (fun c2 => ?_) (fun c2 => ?_)
    · have hm := ifT hm c2
      exact hB141 h x0 x1 x2 _ _ _ _ _ hm hw (by omega) (by omega) (lv_sub hl [0, 1, 2] rfl)
    · have hm := ifT' hm c2
      refine lv_aload_n hx hb dX4_turned_110 rfl (lv_at hl 2 rfl) ?_
      refine lv_iconst (v := 1) hx hb dX4_turned_111 (by decide) ?_
      obtain ⟨v3, ev3, hm⟩ := bdE hm
      refine cg_iald C hw ev3 dX4_turned_112 ?_
      refine lv_if_ne (tgt := 141) hx hb dX4_turned_113 (by decide) (fun c4 => ?_) (fun c4 => ?_)
      · have hm := ifT hm c4
        exact hB141 h x0 x1 x2 _ _ _ _ _ hm hw (by omega) (by omega) (lv_sub hl [0, 1, 2] rfl)
      · have hm := ifT' hm c4
        refine lv_aload_n hx hb dX4_turned_116 rfl (lv_at hl 2 rfl) ?_
        refine lv_iconst (v := 2) hx hb dX4_turned_117 (by decide) ?_
        obtain ⟨v5, ev5, hm⟩ := bdE hm
        refine cg_iald C hw ev5 dX4_turned_118 ?_
        refine lv_if_ne (tgt := 141) hx hb dX4_turned_119 (by decide) (fun c6 => ?_) (fun c6 => ?_)
        · have hm := ifT hm c6
          exact hB141 h x0 x1 x2 _ _ _ _ _ hm hw (by omega) (by omega) (lv_sub hl [0, 1, 2] rfl)
        · have hm := ifT' hm c6
          refine lv_aload_n hx hb dX4_turned_122 rfl (lv_at hl 2 rfl) ?_
          refine lv_iconst (v := 3) hx hb dX4_turned_123 (by decide) ?_
          obtain ⟨v7, ev7, hm⟩ := bdE hm
          refine cg_iald C hw ev7 dX4_turned_124 ?_
          refine lv_if_ne (tgt := 141) hx hb dX4_turned_125 (by decide) (fun c8 => ?_) (fun c8 => ?_)
          · have hm := ifT hm c8
            exact hB141 h x0 x1 x2 _ _ _ _ _ hm hw (by omega) (by omega) (lv_sub hl [0, 1, 2] rfl)
          · have hm := ifT' hm c8
            obtain ⟨h9, eh9, hm⟩ := nmE hm
            obtain ⟨_, _, hmq⟩ := nmE hm
            have hmo := mo_X4_turned_131   h9 x0 _ _ hmq
            have sh9 : h9.1 ≤ u9.1 := hmo.1
            have th9 : h9.2.1 ≤ u9.2.1 := hmo.2.1
            have zh9 := cn_sz eh9
            refine cg_new (C0 := C) hw (ci := 5) (fs := [.null, .null, .null, .null, .null, .int 0, .int 0, .int 0]) rfl in_X5 tyX5 tyX5_ok q586 q587 q141 (fun j hj => by rcases (show j = 0 ∨ j = 1 ∨ j = 2 ∨ j = 3 ∨ j = 4 ∨ j = 5 ∨ j = 6 ∨ j = 7 by omega) with rfl | rfl | rfl | rfl | rfl | rfl | rfl | rfl <;> rfl) (show cc + 1 ≤ u9.1 - u.1 by omega) (show ss + 8 ≤ u9.2.1 - u.2.1 by omega) dX4_turned_128 (fun H hw => ?_)
            rw [← eh9] at hw
            refine lv_topr (fun a10 ea10 => ?_)
            have hm := nmK hm ea10
            exact hB131 h9 x0 a10 _ _ _ _ _ hm hw (by omega) (by omega) (lv_sub hl [0] rfl)
  have hB85 : ∀ (n85 : Nat), ∀ (h : CH) (x0 : Nat) (x1 : Int32) (x2 : Nat) (x3 : Int32) (cc ss : Nat) (H : Heap) (locs : List Loc) (ls : Array Slot), m_X4_turned_85 f n85 h x0 x1 x2 x3 = some (r0, u9) → CW D dA A s h H locs → cc + u.1 = h.1 → ss + u.2.1 = h.2.1 → lv_has ls 4 [(0, .ref x0), (1, .int x1), (2, .ref x2), (3, .int x3)] → W p l e (rm_X4_turned (u9.1 - u.1) (u9.2.1 - u.2.1)) s m args below meth c H locs cc ss QQ (F0 m 85 ls []) := by
    intro n85
    induction n85 with
    | zero => intro h x0 x1 x2 x3 cc ss H locs ls hm hw hcc hss hl; rw [m_X4_turned_85] at hm; exact noE hm
    | succ n85 ih85 =>
      have hB97 : ∀ (h : CH) (x0 : Nat) (x1 : Int32) (x2 : Nat) (x3 : Int32) (y0 : Nat) (y1 : Int32) (y2 : Int32) (cc ss : Nat) (H : Heap) (locs : List Loc) (ls : Array Slot), m_X4_turned_97 f (m_X4_turned_85 f n85) h x0 x1 x2 x3 y0 y1 y2 = some (r0, u9) → CW D dA A s h H locs → cc + u.1 = h.1 → ss + u.2.1 = h.2.1 → lv_has ls 4 [(0, .ref x0), (1, .int x1), (2, .ref x2), (3, .int x3)] → W p l e (rm_X4_turned (u9.1 - u.1) (u9.2.1 - u.2.1)) s m args below meth c H locs cc ss QQ (F0 m 97 ls [.int y2, .int y1, .ref y0]) := by
        intro h x0 x1 x2 x3 y0 y1 y2 cc ss H locs ls hm hw hcc hss hl
        have hmo := mo_X4_turned_97 (mo_X4_turned_85 n85) h x0 x1 x2 x3 y0 y1 y2 _ hm
        have sb_ : h.1 ≤ u9.1 := hmo.1
        have tb_ : h.2.1 ≤ u9.2.1 := hmo.2.1
        rw [m_X4_turned_97] at hm
        obtain ⟨h1, eh1, hm⟩ := bdE hm
        refine cg_iast C hw eh1 dX4_turned_97 (fun H locs hw => ?_)
        have zh1 := uI_sz eh1
        obtain ⟨v2, ev2, hm⟩ := nmE hm
        refine lv_iinc (v := v2) (lv' := [(3, .int v2), (0, .ref x0), (1, .int x1), (2, .ref x2)]) hx hb dX4_turned_98 hl (k := 3) rfl (by rw [ev2]; rfl) (by decide) rfl (fun ls hl => ?_)
        refine lv_goto (tgt := 85) hx hb dX4_turned_101 (by decide) ?_
        exact ih85 h1 x0 x1 x2 v2 _ _ _ _ _ hm hw (by omega) (by omega) (lv_sub hl [1, 2, 3, 0] rfl)
      intro h x0 x1 x2 x3 cc ss H locs ls hm hw hcc hss hl
      have hmo := mo_X4_turned_85  (n85 + 1) h x0 x1 x2 x3 _ hm
      have sb_ : h.1 ≤ u9.1 := hmo.1
      have tb_ : h.2.1 ≤ u9.2.1 := hmo.2.1
      rw [m_X4_turned_85] at hm
      refine lv_iload_n hx hb dX4_turned_85 rfl (lv_at hl 3 rfl) ?_
      refine lv_iconst (v := 4) hx hb dX4_turned_86 (by decide) ?_
      refine lv_icmp_ge (tgt := 104) hx hb dX4_turned_87 (by decide) (fun c1 => ?_) (fun c1 => ?_)
      · have hm := ifT hm c1
        exact hB104 h x0 x1 x2 _ _ _ _ _ hm hw (by omega) (by omega) (lv_sub hl [0, 1, 2] rfl)
      · have hm := ifF hm c1
        refine lv_aload_n hx hb dX4_turned_90 rfl (lv_at hl 2 rfl) ?_
        refine lv_iload_n hx hb dX4_turned_91 rfl (lv_at hl 3 rfl) ?_
        refine lv_aload_n hx hb dX4_turned_92 rfl (lv_at hl 0 rfl) ?_
        refine lv_iconst (v := 3) hx hb dX4_turned_93 (by decide) ?_
        obtain ⟨g2, hm⟩ := gdE hm
        rcases bxE hm with ⟨r4, h3, eh3, hm⟩ | ⟨q5, h3, eh3, hm⟩
        · have lh3 := mo_X4_signed eh3
          have ph3 : h.1 ≤ h3.1 := lh3.1
          have qh3 : h.2.1 ≤ h3.2.1 := lh3.2.1
          have hmo := mo_X4_turned_97 (mo_X4_turned_85 n85)  h3 x0 x1 x2 x3 x2 x3 r4 _ hm
          have sh3 : h3.1 ≤ u9.1 := hmo.1
          have th3 : h3.2.1 ≤ u9.2.1 := hmo.2.1
          refine cx_calli hw lh3 (vy_runV (As := [.int (3 : Int32)]) (rest := [.int x3, .ref x2]) ⟨hx, hb, hml, hown, hts⟩ (w_X4_signed l htl eh3) (cw_X4_signed hts q742 ⟨Nat.le_of_ble_eq_true rfl, Nat.le_of_ble_eq_true rfl⟩) (cg_preV C hw g2 rfl _) rfl rfl hl.1 rfl (lv_room (Nat.le_of_ble_eq_true rfl)) dX4_turned_94 ⟨show cc + (h3.1 - h.1) ≤ u9.1 - u.1 by omega, show ss + (h3.2.1 - h.2.1) ≤ u9.2.1 - u.2.1 by omega⟩) (fun H locs hw => ?_)
          exact hB97 h3 x0 x1 x2 x3 x2 x3 r4 _ _ _ _ _ hm hw (by omega) (by omega) (lv_sub hl [0, 1, 2, 3] rfl)
        · have lh3 := mo_X4_signed eh3
          have ph3 : h.1 ≤ h3.1 := lh3.1
          have qh3 : h.2.1 ≤ h3.2.1 := lh3.2.1
          obtain ⟨g6, hm⟩ := gdE hm
          have sh3 : h3.1 ≤ u9.1 := by rw [← (retE hm).2]; exact Nat.le_refl _
          have th3 : h3.2.1 ≤ u9.2.1 := by rw [← (retE hm).2]; exact Nat.le_refl _
          refine cx_callX hw lh3 noQi (vy_runV (As := [.int (3 : Int32)]) (rest := [.int x3, .ref x2]) ⟨hx, hb, hml, hown, hts⟩ (w_X4_signed l htl eh3) (cw_X4_signed hts q742 ⟨Nat.le_of_ble_eq_true rfl, Nat.le_of_ble_eq_true rfl⟩) (cg_preV C hw g2 rfl _) rfl rfl hl.1 rfl (lv_room (Nat.le_of_ble_eq_true rfl)) dX4_turned_94 ⟨show cc + (h3.1 - h.1) ≤ u9.1 - u.1 by omega, show ss + (h3.2.1 - h.2.1) ≤ u9.2.1 - u.2.1 by omega⟩) (fun H locs hw => ?_)
          obtain ⟨er, eh⟩ := retE hm
          rw [← hQ]
          exact cx_out C hw g6 (by decide) rfl er eh (fun x hx => (htab x hx).elim) hlocks (by rw [← eh]; omega) (by rw [← eh]; omega)
  have hB82 : ∀ (h : CH) (x0 : Nat) (x1 : Int32) (y0 : Nat) (cc ss : Nat) (H : Heap) (locs : List Loc) (ls : Array Slot), m_X4_turned_82 f h x0 x1 y0 = some (r0, u9) → CW D dA A s h H locs → cc + u.1 = h.1 → ss + u.2.1 = h.2.1 → lv_has ls 4 [(0, .ref x0), (1, .int x1)] → W p l e (rm_X4_turned (u9.1 - u.1) (u9.2.1 - u.2.1)) s m args below meth c H locs cc ss QQ (F0 m 82 ls [.ref y0]) := by
    intro h x0 x1 y0 cc ss H locs ls hm hw hcc hss hl
    have hmo := mo_X4_turned_82  h x0 x1 y0 _ hm
    have sb_ : h.1 ≤ u9.1 := hmo.1
    have tb_ : h.2.1 ≤ u9.2.1 := hmo.2.1
    rw [m_X4_turned_82] at hm
    refine lv_astore_n (lv' := [(2, .ref y0), (0, .ref x0), (1, .int x1)]) hx hb dX4_turned_82 rfl hl (by decide) rfl (fun ls hl => ?_)
    refine lv_iconst (v := 0) hx hb dX4_turned_83 (by decide) ?_
    refine lv_istore_n (lv' := [(3, .int (0 : Int32)), (2, .ref y0), (0, .ref x0), (1, .int x1)]) hx hb dX4_turned_84 rfl hl (by decide) rfl (fun ls hl => ?_)
    exact hB85 f h x0 x1 y0 (0 : Int32) _ _ _ _ _ hm hw (by omega) (by omega) (lv_sub hl [2, 3, 1, 0] rfl)
  have hB79 : ∀ (h : CH) (x0 : Nat) (x1 : Int32) (cc ss : Nat) (H : Heap) (locs : List Loc) (ls : Array Slot), m_X4_turned_79 f h x0 x1 = some (r0, u9) → CW D dA A s h H locs → cc + u.1 = h.1 → ss + u.2.1 = h.2.1 → lv_has ls 4 [(0, .ref x0), (1, .int x1)] → W p l e (rm_X4_turned (u9.1 - u.1) (u9.2.1 - u.2.1)) s m args below meth c H locs cc ss QQ (F0 m 79 ls []) := by
    intro h x0 x1 cc ss H locs ls hm hw hcc hss hl
    have hmo := mo_X4_turned_79  h x0 x1 _ hm
    have sb_ : h.1 ≤ u9.1 := hmo.1
    have tb_ : h.2.1 ≤ u9.2.1 := hmo.2.1
    rw [m_X4_turned_79] at hm
    refine lv_iconst (v := 4) hx hb dX4_turned_79 (by decide) ?_
    obtain ⟨h1, eh1, hm⟩ := nmE hm
    obtain ⟨_, _, hmq⟩ := nmE hm
    have hmo := mo_X4_turned_82   h1 x0 x1 _ _ hmq
    have sh1 : h1.1 ≤ u9.1 := hmo.1
    have th1 : h1.2.1 ≤ u9.2.1 := hmo.2.1
    have zh1 := cn_sz eh1
    refine cg_newI (C0 := C) hw (N := 4) (by decide) (by decide) (by decide) (show cc + 1 ≤ u9.1 - u.1 by omega) (show ss + 4 ≤ u9.2.1 - u.2.1 by omega) dX4_turned_80 (fun H hw => ?_)
    rw [← eh1] at hw
    refine lv_topr (fun a2 ea2 => ?_)
    have hm := nmK hm ea2
    exact hB82 h1 x0 x1 a2 _ _ _ _ _ hm hw (by omega) (by omega) (lv_sub hl [0, 1] rfl)
  have hB73 : ∀ (h : CH) (x0 : Nat) (x1 : Int32) (cc ss : Nat) (H : Heap) (locs : List Loc) (ls : Array Slot), m_X4_turned_73 f h x0 x1 = some (r0, u9) → CW D dA A s h H locs → cc + u.1 = h.1 → ss + u.2.1 = h.2.1 → lv_has ls 4 [(0, .ref x0), (1, .int x1)] → W p l e (rm_X4_turned (u9.1 - u.1) (u9.2.1 - u.2.1)) s m args below meth c H locs cc ss QQ (F0 m 73 ls []) := by
    intro h x0 x1 cc ss H locs ls hm hw hcc hss hl
    have hmo := mo_X4_turned_73  h x0 x1 _ hm
    have sb_ : h.1 ≤ u9.1 := hmo.1
    have tb_ : h.2.1 ≤ u9.2.1 := hmo.2.1
    rw [m_X4_turned_73] at hm
    refine lv_aload_n hx hb dX4_turned_73 rfl (lv_at hl 0 rfl) ?_
    obtain ⟨a1, ea1, hm⟩ := bdE hm
    refine cg_ldcs C hw (i := 5) ea1 rfl dX4_turned_74 ?_
    obtain ⟨g2, hm⟩ := gdE hm
    rcases bxE hm with ⟨r4, h3, eh3, hm⟩ | ⟨q5, h3, eh3, hm⟩
    · have lh3 := mo_X4_asks eh3
      have ph3 : h.1 ≤ h3.1 := lh3.1
      have qh3 : h.2.1 ≤ h3.2.1 := lh3.2.1
      have hmo := mo_X4_turned_79   h3 x0 x1 _ hm
      have sh3 : h3.1 ≤ u9.1 := hmo.1
      have th3 : h3.2.1 ≤ u9.2.1 := hmo.2.1
      refine cx_callv hw lh3 (vy_runV (As := [.ref a1]) (rest := []) ⟨hx, hb, hml, hown, hts⟩ (w_X4_asks l htl eh3) (cw_X4_asks hts q716 ⟨Nat.le_of_ble_eq_true rfl, Nat.le_of_ble_eq_true rfl⟩) (cg_preV C hw g2 rfl _) rfl rfl hl.1 rfl (lv_room (Nat.le_of_ble_eq_true rfl)) dX4_turned_76 ⟨show cc + (h3.1 - h.1) ≤ u9.1 - u.1 by omega, show ss + (h3.2.1 - h.2.1) ≤ u9.2.1 - u.2.1 by omega⟩) (fun H locs hw => ?_)
      exact hB79 h3 x0 x1 _ _ _ _ _ hm hw (by omega) (by omega) (lv_sub hl [0, 1] rfl)
    · have lh3 := mo_X4_asks eh3
      have ph3 : h.1 ≤ h3.1 := lh3.1
      have qh3 : h.2.1 ≤ h3.2.1 := lh3.2.1
      obtain ⟨g6, hm⟩ := gdE hm
      have sh3 : h3.1 ≤ u9.1 := by rw [← (retE hm).2]; exact Nat.le_refl _
      have th3 : h3.2.1 ≤ u9.2.1 := by rw [← (retE hm).2]; exact Nat.le_refl _
      refine cx_callX hw lh3 noQv (vy_runV (As := [.ref a1]) (rest := []) ⟨hx, hb, hml, hown, hts⟩ (w_X4_asks l htl eh3) (cw_X4_asks hts q716 ⟨Nat.le_of_ble_eq_true rfl, Nat.le_of_ble_eq_true rfl⟩) (cg_preV C hw g2 rfl _) rfl rfl hl.1 rfl (lv_room (Nat.le_of_ble_eq_true rfl)) dX4_turned_76 ⟨show cc + (h3.1 - h.1) ≤ u9.1 - u.1 by omega, show ss + (h3.2.1 - h.2.1) ≤ u9.2.1 - u.2.1 by omega⟩) (fun H locs hw => ?_)
      obtain ⟨er, eh⟩ := retE hm
      rw [← hQ]
      exact cx_out C hw g6 (by decide) rfl er eh (fun x hx => (htab x hx).elim) hlocks (by rw [← eh]; omega) (by rw [← eh]; omega)
  have hB69 : ∀ (h : CH) (x0 : Nat) (x1 : Int32) (cc ss : Nat) (H : Heap) (locs : List Loc) (ls : Array Slot), m_X4_turned_69 f h x0 x1 = some (r0, u9) → CW D dA A s h H locs → cc + u.1 = h.1 → ss + u.2.1 = h.2.1 → lv_has ls 4 [(0, .ref x0), (1, .int x1)] → W p l e (rm_X4_turned (u9.1 - u.1) (u9.2.1 - u.2.1)) s m args below meth c H locs cc ss QQ (F0 m 69 ls []) := by
    intro h x0 x1 cc ss H locs ls hm hw hcc hss hl
    have hmo := mo_X4_turned_69  h x0 x1 _ hm
    have sb_ : h.1 ≤ u9.1 := hmo.1
    have tb_ : h.2.1 ≤ u9.2.1 := hmo.2.1
    rw [m_X4_turned_69] at hm
    refine lv_aload_n hx hb dX4_turned_69 rfl (lv_at hl 0 rfl) ?_
    obtain ⟨g1, hm⟩ := gdE hm
    obtain ⟨h2, eh2, hm⟩ := bdE hm
    have lh2 := mo_X4_advance eh2
    have ph2 : h.1 ≤ h2.1 := lh2.1
    have qh2 : h.2.1 ≤ h2.2.1 := lh2.2.1
    have hmo := mo_X4_turned_73   h2 x0 x1 _ hm
    have sh2 : h2.1 ≤ u9.1 := hmo.1
    have th2 : h2.2.1 ≤ u9.2.1 := hmo.2.1
    refine cg_callv hw lh2 (va_runV (As := []) (rest := []) ⟨hx, hb, hml, hown, hts⟩ (w_X4_advance l eh2) (cw_X4_advance hts q351 ⟨Nat.le_of_ble_eq_true rfl, Nat.le_of_ble_eq_true rfl⟩) (cg_preV C hw g1 rfl _) rfl rfl hl.1 rfl (lv_room (Nat.le_of_ble_eq_true rfl)) dX4_turned_70 ⟨show cc + (h2.1 - h.1) ≤ u9.1 - u.1 by omega, show ss + (h2.2.1 - h.2.1) ≤ u9.2.1 - u.2.1 by omega⟩) (fun H locs hw => ?_)
    exact hB73 h2 x0 x1 _ _ _ _ _ hm hw (by omega) (by omega) (lv_sub hl [0, 1] rfl)
  have hB65 : ∀ (h : CH) (x0 : Nat) (x1 : Int32) (y0 : Nat) (y1 : Int32) (cc ss : Nat) (H : Heap) (locs : List Loc) (ls : Array Slot), m_X4_turned_65 f h x0 x1 y0 y1 = some (r0, u9) → CW D dA A s h H locs → cc + u.1 = h.1 → ss + u.2.1 = h.2.1 → lv_has ls 4 [(0, .ref x0), (1, .int x1)] → W p l e (rm_X4_turned (u9.1 - u.1) (u9.2.1 - u.2.1)) s m args below meth c H locs cc ss QQ (F0 m 65 ls [.int y1, .ref y0]) := by
    intro h x0 x1 y0 y1 cc ss H locs ls hm hw hcc hss hl
    have hmo := mo_X4_turned_65  h x0 x1 y0 y1 _ hm
    have sb_ : h.1 ≤ u9.1 := hmo.1
    have tb_ : h.2.1 ≤ u9.2.1 := hmo.2.1
    rw [m_X4_turned_65] at hm
    refine lv_iconst (v := 2) hx hb dX4_turned_65 (by decide) ?_
    obtain ⟨g1, hm⟩ := gdE hm
    rcases bxE hm with ⟨r3, h2, eh2, hm⟩ | ⟨q4, h2, eh2, hm⟩
    · have lh2 := mo_X4_needs eh2
      have ph2 : h.1 ≤ h2.1 := lh2.1
      have qh2 : h.2.1 ≤ h2.2.1 := lh2.2.1
      have hmo := mo_X4_turned_69   h2 x0 x1 _ hm
      have sh2 : h2.1 ≤ u9.1 := hmo.1
      have th2 : h2.2.1 ≤ u9.2.1 := hmo.2.1
      refine cx_callv hw lh2 (vy_runV (As := [.int y1, .int (2 : Int32)]) (rest := []) ⟨hx, hb, hml, hown, hts⟩ (w_X4_needs l htl eh2) (cw_X4_needs hts q582 ⟨Nat.le_of_ble_eq_true rfl, Nat.le_of_ble_eq_true rfl⟩) (cg_preV C hw g1 rfl _) rfl rfl hl.1 rfl (lv_room (Nat.le_of_ble_eq_true rfl)) dX4_turned_66 ⟨show cc + (h2.1 - h.1) ≤ u9.1 - u.1 by omega, show ss + (h2.2.1 - h.2.1) ≤ u9.2.1 - u.2.1 by omega⟩) (fun H locs hw => ?_)
      exact hB69 h2 x0 x1 _ _ _ _ _ hm hw (by omega) (by omega) (lv_sub hl [0, 1] rfl)
    · have lh2 := mo_X4_needs eh2
      have ph2 : h.1 ≤ h2.1 := lh2.1
      have qh2 : h.2.1 ≤ h2.2.1 := lh2.2.1
      obtain ⟨g5, hm⟩ := gdE hm
      have sh2 : h2.1 ≤ u9.1 := by rw [← (retE hm).2]; exact Nat.le_refl _
      have th2 : h2.2.1 ≤ u9.2.1 := by rw [← (retE hm).2]; exact Nat.le_refl _
      refine cx_callX hw lh2 noQv (vy_runV (As := [.int y1, .int (2 : Int32)]) (rest := []) ⟨hx, hb, hml, hown, hts⟩ (w_X4_needs l htl eh2) (cw_X4_needs hts q582 ⟨Nat.le_of_ble_eq_true rfl, Nat.le_of_ble_eq_true rfl⟩) (cg_preV C hw g1 rfl _) rfl rfl hl.1 rfl (lv_room (Nat.le_of_ble_eq_true rfl)) dX4_turned_66 ⟨show cc + (h2.1 - h.1) ≤ u9.1 - u.1 by omega, show ss + (h2.2.1 - h.2.1) ≤ u9.2.1 - u.2.1 by omega⟩) (fun H locs hw => ?_)
      obtain ⟨er, eh⟩ := retE hm
      rw [← hQ]
      exact cx_out C hw g5 (by decide) rfl er eh (fun x hx => (htab x hx).elim) hlocks (by rw [← eh]; omega) (by rw [← eh]; omega)
  have hB64 : ∀ (h : CH) (x0 : Nat) (x1 : Int32) (y0 : Nat) (cc ss : Nat) (H : Heap) (locs : List Loc) (ls : Array Slot), m_X4_turned_64 f h x0 x1 y0 = some (r0, u9) → CW D dA A s h H locs → cc + u.1 = h.1 → ss + u.2.1 = h.2.1 → lv_has ls 4 [(0, .ref x0), (1, .int x1)] → W p l e (rm_X4_turned (u9.1 - u.1) (u9.2.1 - u.2.1)) s m args below meth c H locs cc ss QQ (F0 m 64 ls [.ref y0]) := by
    intro h x0 x1 y0 cc ss H locs ls hm hw hcc hss hl
    have hmo := mo_X4_turned_64  h x0 x1 y0 _ hm
    have sb_ : h.1 ≤ u9.1 := hmo.1
    have tb_ : h.2.1 ≤ u9.2.1 := hmo.2.1
    rw [m_X4_turned_64] at hm
    refine lv_iconst (v := 0) hx hb dX4_turned_64 (by decide) ?_
    exact hB65 h x0 x1 y0 (0 : Int32) _ _ _ _ _ hm hw (by omega) (by omega) (lv_sub hl [0, 1] rfl)
  have hB57 : ∀ (h : CH) (x0 : Nat) (x1 : Int32) (y0 : Nat) (y1 : Int32) (cc ss : Nat) (H : Heap) (locs : List Loc) (ls : Array Slot), m_X4_turned_57 f h x0 x1 y0 y1 = some (r0, u9) → CW D dA A s h H locs → cc + u.1 = h.1 → ss + u.2.1 = h.2.1 → lv_has ls 4 [(0, .ref x0), (1, .int x1)] → W p l e (rm_X4_turned (u9.1 - u.1) (u9.2.1 - u.2.1)) s m args below meth c H locs cc ss QQ (F0 m 57 ls [.int y1, .ref y0]) := by
    intro h x0 x1 y0 y1 cc ss H locs ls hm hw hcc hss hl
    have hmo := mo_X4_turned_57  h x0 x1 y0 y1 _ hm
    have sb_ : h.1 ≤ u9.1 := hmo.1
    have tb_ : h.2.1 ≤ u9.2.1 := hmo.2.1
    rw [m_X4_turned_57] at hm
    refine lv_if_ne (tgt := 64) hx hb dX4_turned_57 (by decide) (fun c1 => ?_) (fun c1 => ?_)
    · have hm := ifT hm c1
      exact hB64 h x0 x1 y0 _ _ _ _ _ hm hw (by omega) (by omega) (lv_sub hl [0, 1] rfl)
    · have hm := ifT' hm c1
      refine lv_iconst (v := 1) hx hb dX4_turned_60 (by decide) ?_
      refine lv_goto (tgt := 65) hx hb dX4_turned_61 (by decide) ?_
      exact hB65 h x0 x1 y0 (1 : Int32) _ _ _ _ _ hm hw (by omega) (by omega) (lv_sub hl [0, 1] rfl)
  have hB51 : ∀ (h : CH) (x0 : Nat) (x1 : Int32) (y0 : Nat) (y1 : Nat) (cc ss : Nat) (H : Heap) (locs : List Loc) (ls : Array Slot), m_X4_turned_51 f h x0 x1 y0 y1 = some (r0, u9) → CW D dA A s h H locs → cc + u.1 = h.1 → ss + u.2.1 = h.2.1 → lv_has ls 4 [(0, .ref x0), (1, .int x1)] → W p l e (rm_X4_turned (u9.1 - u.1) (u9.2.1 - u.2.1)) s m args below meth c H locs cc ss QQ (F0 m 51 ls [.ref y1, .ref y0]) := by
    intro h x0 x1 y0 y1 cc ss H locs ls hm hw hcc hss hl
    have hmo := mo_X4_turned_51  h x0 x1 y0 y1 _ hm
    have sb_ : h.1 ≤ u9.1 := hmo.1
    have tb_ : h.2.1 ≤ u9.2.1 := hmo.2.1
    rw [m_X4_turned_51] at hm
    by_cases c1 : isC h y1 6 = true
    · have hm := ifT hm c1
      refine cg_castS C hw c1 rfl q733 dX4_turned_51 ?_
      obtain ⟨g2, hm⟩ := gdE hm
      obtain ⟨r4, h3, er4, hm⟩ := bd2E hm
      have lh3 := mo_X6_isTurned er4
      have ph3 : h.1 ≤ h3.1 := lh3.1
      have qh3 : h.2.1 ≤ h3.2.1 := lh3.2.1
      have hmo := mo_X4_turned_57   h3 x0 x1 y0 r4 _ hm
      have sh3 : h3.1 ≤ u9.1 := hmo.1
      have th3 : h3.2.1 ≤ u9.2.1 := hmo.2.1
      refine cg_calli hw lh3 (va_runV (As := []) (rest := [.ref y0]) ⟨hx, hb, hml, hown, hts⟩ (w_X6_isTurned l er4) (cw_X6_isTurned hts q734 ⟨Nat.le_of_ble_eq_true rfl, Nat.le_of_ble_eq_true rfl⟩) (cg_preV C hw g2 rfl _) rfl rfl hl.1 rfl (lv_room (Nat.le_of_ble_eq_true rfl)) dX4_turned_54 ⟨show cc + (h3.1 - h.1) ≤ u9.1 - u.1 by omega, show ss + (h3.2.1 - h.2.1) ≤ u9.2.1 - u.2.1 by omega⟩) (fun H locs hw => ?_)
      exact hB57 h3 x0 x1 y0 r4 _ _ _ _ _ hm hw (by omega) (by omega) (lv_sub hl [0, 1] rfl)
    · have hm := ifF hm c1
      obtain ⟨g5, hm⟩ := gdE hm
      refine cg_castY C hw g5 rfl q733 (hw.2.2.2.2.1 _ (List.mem_of_getElem? (i := 77) rfl)) dX4_turned_51 ?_
      obtain ⟨g6, hm⟩ := gdE hm
      obtain ⟨r8, h7, er8, hm⟩ := bd2E hm
      have lh7 := mo_X7_isTurned er8
      have ph7 : h.1 ≤ h7.1 := lh7.1
      have qh7 : h.2.1 ≤ h7.2.1 := lh7.2.1
      have hmo := mo_X4_turned_57   h7 x0 x1 y0 r8 _ hm
      have sh7 : h7.1 ≤ u9.1 := hmo.1
      have th7 : h7.2.1 ≤ u9.2.1 := hmo.2.1
      refine cg_calli hw lh7 (va_runU (As := []) (rest := [.ref y0]) ⟨hx, hb, hml, hown, hts⟩ (w_X7_isTurned l er8) (va_cwO 0 hts (lwO q734 q737 q735 q738 q739 q144 q740) rfl rfl rfl q741 (by decide +kernel) ⟨Nat.le_of_ble_eq_true rfl, Nat.le_of_ble_eq_true rfl⟩) (cg_preV C hw g6 rfl _) rfl rfl hl.1 rfl (lv_room (Nat.le_of_ble_eq_true rfl)) dX4_turned_54 ⟨show cc + (h7.1 - h.1) ≤ u9.1 - u.1 by omega, show ss + (h7.2.1 - h.2.1) ≤ u9.2.1 - u.2.1 by omega⟩) (fun H locs hw => ?_)
      exact hB57 h7 x0 x1 y0 r8 _ _ _ _ _ hm hw (by omega) (by omega) (lv_sub hl [0, 1] rfl)
  have hB37 : ∀ (h : CH) (x0 : Nat) (y0 : Int32) (cc ss : Nat) (H : Heap) (locs : List Loc) (ls : Array Slot), m_X4_turned_37 f h x0 y0 = some (r0, u9) → CW D dA A s h H locs → cc + u.1 = h.1 → ss + u.2.1 = h.2.1 → lv_has ls 4 [(0, .ref x0)] → W p l e (rm_X4_turned (u9.1 - u.1) (u9.2.1 - u.2.1)) s m args below meth c H locs cc ss QQ (F0 m 37 ls [.int y0]) := by
    intro h x0 y0 cc ss H locs ls hm hw hcc hss hl
    have hmo := mo_X4_turned_37  h x0 y0 _ hm
    have sb_ : h.1 ≤ u9.1 := hmo.1
    have tb_ : h.2.1 ≤ u9.2.1 := hmo.2.1
    rw [m_X4_turned_37] at hm
    refine lv_istore_n (lv' := [(1, .int y0), (0, .ref x0)]) hx hb dX4_turned_37 rfl hl (by decide) rfl (fun ls hl => ?_)
    refine lv_aload_n hx hb dX4_turned_38 rfl (lv_at hl 1 rfl) ?_
    refine lv_iload_n hx hb dX4_turned_39 rfl (lv_at hl 0 rfl) ?_
    refine lv_if_lt (tgt := 64) hx hb dX4_turned_40 (by decide) (fun c1 => ?_) (fun c1 => ?_)
    · have hm := ifT hm c1
      exact hB64 h x0 y0 x0 _ _ _ _ _ hm hw (by omega) (by omega) (lv_sub hl [1, 0] rfl)
    · have hm := ifF hm c1
      refine lv_aload_n hx hb dX4_turned_43 rfl (lv_at hl 1 rfl) ?_
      obtain ⟨a2, ea2, hm⟩ := bdE hm
      refine cg_get C hw (oR_E ea2) rfl in_X4 (by decide) q314 dX4_turned_44 ?_
      refine lv_iload_n hx hb dX4_turned_47 rfl (lv_at hl 0 rfl) ?_
      obtain ⟨g3, hm⟩ := gdE hm
      obtain ⟨a5, h4, ea5, hm⟩ := bd2E hm
      have lh4 := mo_J2_get ea5
      have ph4 : h.1 ≤ h4.1 := lh4.1
      have qh4 : h.2.1 ≤ h4.2.1 := lh4.2.1
      have hmo := mo_X4_turned_51   h4 x0 y0 x0 a5 _ hm
      have sh4 : h4.1 ≤ u9.1 := hmo.1
      have th4 : h4.2.1 ≤ u9.2.1 := hmo.2.1
      refine cg_callr hw lh4 (va_runV (As := [.int y0]) (rest := [.ref x0]) ⟨hx, hb, hml, hown, hts⟩ (w_J2_get l ea5) (cw_J2_get hts q721 ⟨Nat.le_of_ble_eq_true rfl, Nat.le_of_ble_eq_true rfl⟩) (cg_preV C hw g3 rfl _) rfl rfl hl.1 rfl (lv_room (Nat.le_of_ble_eq_true rfl)) dX4_turned_48 ⟨show cc + (h4.1 - h.1) ≤ u9.1 - u.1 by omega, show ss + (h4.2.1 - h.2.1) ≤ u9.2.1 - u.2.1 by omega⟩) (fun H locs hw => ?_)
      exact hB51 h4 x0 y0 x0 a5 _ _ _ _ _ hm hw (by omega) (by omega) (lv_sub hl [1, 0] rfl)
  have hB26 : ∀ (h : CH) (x0 : Nat) (cc ss : Nat) (H : Heap) (locs : List Loc) (ls : Array Slot), m_X4_turned_26 f h x0 = some (r0, u9) → CW D dA A s h H locs → cc + u.1 = h.1 → ss + u.2.1 = h.2.1 → lv_has ls 4 [(0, .ref x0)] → W p l e (rm_X4_turned (u9.1 - u.1) (u9.2.1 - u.2.1)) s m args below meth c H locs cc ss QQ (F0 m 26 ls []) := by
    intro h x0 cc ss H locs ls hm hw hcc hss hl
    have hmo := mo_X4_turned_26  h x0 _ hm
    have sb_ : h.1 ≤ u9.1 := hmo.1
    have tb_ : h.2.1 ≤ u9.2.1 := hmo.2.1
    rw [m_X4_turned_26] at hm
    refine lv_aload_n hx hb dX4_turned_26 rfl (lv_at hl 0 rfl) ?_
    obtain ⟨a1, ea1, hm⟩ := bdE hm
    refine cg_get C hw (oR_E ea1) rfl in_X4 (by decide) q316 dX4_turned_27 ?_
    refine lv_aload_n hx hb dX4_turned_30 rfl (lv_at hl 0 rfl) ?_
    obtain ⟨a2, ea2, hm⟩ := bdE hm
    refine cg_get C hw (oR_E ea2) rfl in_X4 (by decide) q324 dX4_turned_31 ?_
    obtain ⟨g3, hm⟩ := gdE hm
    obtain ⟨r5, h4, er5, hm⟩ := bd2E hm
    have lh4 := mo_J2_indexOf er5
    have ph4 : h.1 ≤ h4.1 := lh4.1
    have qh4 : h.2.1 ≤ h4.2.1 := lh4.2.1
    have hmo := mo_X4_turned_37   h4 x0 r5 _ hm
    have sh4 : h4.1 ≤ u9.1 := hmo.1
    have th4 : h4.2.1 ≤ u9.2.1 := hmo.2.1
    refine cg_calli hw lh4 (va_runV (As := [.ref a2]) (rest := []) ⟨hx, hb, hml, hown, hts⟩ (w_J2_indexOf l er5) (cw_J2_indexOf hts q720 ⟨Nat.le_of_ble_eq_true rfl, Nat.le_of_ble_eq_true rfl⟩) (cg_preV C hw g3 rfl _) rfl rfl hl.1 rfl (lv_room (Nat.le_of_ble_eq_true rfl)) dX4_turned_34 ⟨show cc + (h4.1 - h.1) ≤ u9.1 - u.1 by omega, show ss + (h4.2.1 - h.2.1) ≤ u9.2.1 - u.2.1 by omega⟩) (fun H locs hw => ?_)
    exact hB37 h4 x0 r5 _ _ _ _ _ hm hw (by omega) (by omega) (lv_sub hl [0] rfl)
  have hB22 : ∀ (h : CH) (x0 : Nat) (y0 : Nat) (y1 : Int32) (cc ss : Nat) (H : Heap) (locs : List Loc) (ls : Array Slot), m_X4_turned_22 f h x0 y0 y1 = some (r0, u9) → CW D dA A s h H locs → cc + u.1 = h.1 → ss + u.2.1 = h.2.1 → lv_has ls 4 [(0, .ref x0)] → W p l e (rm_X4_turned (u9.1 - u.1) (u9.2.1 - u.2.1)) s m args below meth c H locs cc ss QQ (F0 m 22 ls [.int y1, .ref y0]) := by
    intro h x0 y0 y1 cc ss H locs ls hm hw hcc hss hl
    have hmo := mo_X4_turned_22  h x0 y0 y1 _ hm
    have sb_ : h.1 ≤ u9.1 := hmo.1
    have tb_ : h.2.1 ≤ u9.2.1 := hmo.2.1
    rw [m_X4_turned_22] at hm
    refine lv_iconst (v := 1) hx hb dX4_turned_22 (by decide) ?_
    obtain ⟨g1, hm⟩ := gdE hm
    rcases bxE hm with ⟨r3, h2, eh2, hm⟩ | ⟨q4, h2, eh2, hm⟩
    · have lh2 := mo_X4_needs eh2
      have ph2 : h.1 ≤ h2.1 := lh2.1
      have qh2 : h.2.1 ≤ h2.2.1 := lh2.2.1
      have hmo := mo_X4_turned_26   h2 x0 _ hm
      have sh2 : h2.1 ≤ u9.1 := hmo.1
      have th2 : h2.2.1 ≤ u9.2.1 := hmo.2.1
      refine cx_callv hw lh2 (vy_runV (As := [.int y1, .int (1 : Int32)]) (rest := []) ⟨hx, hb, hml, hown, hts⟩ (w_X4_needs l htl eh2) (cw_X4_needs hts q582 ⟨Nat.le_of_ble_eq_true rfl, Nat.le_of_ble_eq_true rfl⟩) (cg_preV C hw g1 rfl _) rfl rfl hl.1 rfl (lv_room (Nat.le_of_ble_eq_true rfl)) dX4_turned_23 ⟨show cc + (h2.1 - h.1) ≤ u9.1 - u.1 by omega, show ss + (h2.2.1 - h.2.1) ≤ u9.2.1 - u.2.1 by omega⟩) (fun H locs hw => ?_)
      exact hB26 h2 x0 _ _ _ _ _ hm hw (by omega) (by omega) (lv_sub hl [0] rfl)
    · have lh2 := mo_X4_needs eh2
      have ph2 : h.1 ≤ h2.1 := lh2.1
      have qh2 : h.2.1 ≤ h2.2.1 := lh2.2.1
      obtain ⟨g5, hm⟩ := gdE hm
      have sh2 : h2.1 ≤ u9.1 := by rw [← (retE hm).2]; exact Nat.le_refl _
      have th2 : h2.2.1 ≤ u9.2.1 := by rw [← (retE hm).2]; exact Nat.le_refl _
      refine cx_callX hw lh2 noQv (vy_runV (As := [.int y1, .int (1 : Int32)]) (rest := []) ⟨hx, hb, hml, hown, hts⟩ (w_X4_needs l htl eh2) (cw_X4_needs hts q582 ⟨Nat.le_of_ble_eq_true rfl, Nat.le_of_ble_eq_true rfl⟩) (cg_preV C hw g1 rfl _) rfl rfl hl.1 rfl (lv_room (Nat.le_of_ble_eq_true rfl)) dX4_turned_23 ⟨show cc + (h2.1 - h.1) ≤ u9.1 - u.1 by omega, show ss + (h2.2.1 - h.2.1) ≤ u9.2.1 - u.2.1 by omega⟩) (fun H locs hw => ?_)
      obtain ⟨er, eh⟩ := retE hm
      rw [← hQ]
      exact cx_out C hw g5 (by decide) rfl er eh (fun x hx => (htab x hx).elim) hlocks (by rw [← eh]; omega) (by rw [← eh]; omega)
  have hB6 : ∀ (h : CH) (x0 : Nat) (cc ss : Nat) (H : Heap) (locs : List Loc) (ls : Array Slot), m_X4_turned_6 f h x0 = some (r0, u9) → CW D dA A s h H locs → cc + u.1 = h.1 → ss + u.2.1 = h.2.1 → lv_has ls 4 [(0, .ref x0)] → W p l e (rm_X4_turned (u9.1 - u.1) (u9.2.1 - u.2.1)) s m args below meth c H locs cc ss QQ (F0 m 6 ls []) := by
    intro h x0 cc ss H locs ls hm hw hcc hss hl
    have hmo := mo_X4_turned_6  h x0 _ hm
    have sb_ : h.1 ≤ u9.1 := hmo.1
    have tb_ : h.2.1 ≤ u9.2.1 := hmo.2.1
    rw [m_X4_turned_6] at hm
    refine lv_aload_n hx hb dX4_turned_6 rfl (lv_at hl 0 rfl) ?_
    refine lv_aload_n hx hb dX4_turned_7 rfl (lv_at hl 0 rfl) ?_
    obtain ⟨a1, ea1, hm⟩ := bdE hm
    refine cg_get C hw (oR_E ea1) rfl in_X4 (by decide) q323 dX4_turned_8 ?_
    obtain ⟨a2, ea2, hm⟩ := bdE hm
    refine cg_gets C hw (i := 7) ea2 rfl q551 dX4_turned_11 ?_
    refine cg_acmp_ne (tgt := 21) hx hb dX4_turned_14 (by decide) (fun c3 => ?_) (fun c3 => ?_)
    · have hm := ifT hm c3
      refine lv_iconst (v := 0) hx hb dX4_turned_21 (by decide) ?_
      exact hB22 h x0 x0 (0 : Int32) _ _ _ _ _ hm hw (by omega) (by omega) (lv_sub hl [0] rfl)
    · have hm := ifT' hm c3
      refine lv_iconst (v := 1) hx hb dX4_turned_17 (by decide) ?_
      refine lv_goto (tgt := 22) hx hb dX4_turned_18 (by decide) ?_
      exact hB22 h x0 x0 (1 : Int32) _ _ _ _ _ hm hw (by omega) (by omega) (lv_sub hl [0] rfl)
  rw [m_X4_turned] at hm
  refine lv_aload_n hx hb dX4_turned_0 rfl (lv_at hl 0 rfl) ?_
  obtain ⟨a1, ea1, hm⟩ := bdE hm
  refine cg_ldcs C hw (i := 4) ea1 rfl dX4_turned_1 ?_
  obtain ⟨g2, hm⟩ := gdE hm
  rcases bxE hm with ⟨r4, h3, eh3, hm⟩ | ⟨q5, h3, eh3, hm⟩
  · have lh3 := mo_X4_asks eh3
    have ph3 : u.1 ≤ h3.1 := lh3.1
    have qh3 : u.2.1 ≤ h3.2.1 := lh3.2.1
    have hmo := mo_X4_turned_6   h3 x0 _ hm
    have sh3 : h3.1 ≤ u9.1 := hmo.1
    have th3 : h3.2.1 ≤ u9.2.1 := hmo.2.1
    refine cx_callv hw lh3 (vy_runV (As := [.ref a1]) (rest := []) ⟨hx, hb, hml, hown, hts⟩ (w_X4_asks l htl eh3) (cw_X4_asks hts q716 ⟨Nat.le_of_ble_eq_true rfl, Nat.le_of_ble_eq_true rfl⟩) (cg_preV C hw g2 rfl _) rfl rfl hl.1 rfl (lv_room (Nat.le_of_ble_eq_true rfl)) dX4_turned_3 ⟨show cc + (h3.1 - u.1) ≤ u9.1 - u.1 by omega, show ss + (h3.2.1 - u.2.1) ≤ u9.2.1 - u.2.1 by omega⟩) (fun H locs hw => ?_)
    exact hB6 h3 x0 _ _ _ _ _ hm hw (by omega) (by omega) (lv_sub hl [0] rfl)
  · have lh3 := mo_X4_asks eh3
    have ph3 : u.1 ≤ h3.1 := lh3.1
    have qh3 : u.2.1 ≤ h3.2.1 := lh3.2.1
    obtain ⟨g6, hm⟩ := gdE hm
    have sh3 : h3.1 ≤ u9.1 := by rw [← (retE hm).2]; exact Nat.le_refl _
    have th3 : h3.2.1 ≤ u9.2.1 := by rw [← (retE hm).2]; exact Nat.le_refl _
    refine cx_callX hw lh3 noQv (vy_runV (As := [.ref a1]) (rest := []) ⟨hx, hb, hml, hown, hts⟩ (w_X4_asks l htl eh3) (cw_X4_asks hts q716 ⟨Nat.le_of_ble_eq_true rfl, Nat.le_of_ble_eq_true rfl⟩) (cg_preV C hw g2 rfl _) rfl rfl hl.1 rfl (lv_room (Nat.le_of_ble_eq_true rfl)) dX4_turned_3 ⟨show cc + (h3.1 - u.1) ≤ u9.1 - u.1 by omega, show ss + (h3.2.1 - u.2.1) ≤ u9.2.1 - u.2.1 by omega⟩) (fun H locs hw => ?_)
    obtain ⟨er, eh⟩ := retE hm
    rw [← hQ]
    exact cx_out C hw g6 (by decide) rfl er eh (fun x hx => (htab x hx).elim) hlocks (by rw [← eh]; omega) (by rw [← eh]; omega)
def m_X2_minor (f : Nat) (u : CH) (x0 : Nat) (x1 : Int32) (x2 : Int32) : Option (Int64 × CH) := nmv ((rmI (x1 + (1 : Int32)) (3 : Int32)) : Int32) fun v1 =>
    nmv ((rmI (x1 + (2 : Int32)) (3 : Int32)) : Int32) fun v2 =>
    nmv ((rmI (x2 + (1 : Int32)) (3 : Int32)) : Int32) fun v3 =>
    nmv ((rmI (x2 + (2 : Int32)) (3 : Int32)) : Int32) fun v4 =>
    bd (oR u 3 0 x0) fun a5 =>
    bd (aR u 4 a5 v1) fun a6 =>
    bd (aL u 1 a6 v3) fun v7 =>
    bd (oR u 3 0 x0) fun a8 =>
    bd (aR u 4 a8 v2) fun a9 =>
    bd (aL u 1 a9 v4) fun v10 =>
    bd (oR u 3 0 x0) fun a11 =>
    bd (aR u 4 a11 v1) fun a12 =>
    bd (aL u 1 a12 v4) fun v13 =>
    bd (oR u 3 0 x0) fun a14 =>
    bd (aR u 4 a14 v2) fun a15 =>
    bd (aL u 1 a15 v3) fun v16 =>
    some (((v7 * v10) - (v13 * v16)), u)
theorem mo_X2_minor {f : Nat} {u : CH} {x0 : Nat} {x1 : Int32} {x2 : Int32} {r0 : Int64} {u9 : CH} (hm : m_X2_minor f u x0 x1 x2 = some (r0, u9)) : le2 u u9 := by
  rw [m_X2_minor] at hm
  obtain ⟨v1, ev1, hm⟩ := nmE hm
  obtain ⟨v2, ev2, hm⟩ := nmE hm
  obtain ⟨v3, ev3, hm⟩ := nmE hm
  obtain ⟨v4, ev4, hm⟩ := nmE hm
  obtain ⟨a5, ea5, hm⟩ := bdE hm
  obtain ⟨a6, ea6, hm⟩ := bdE hm
  obtain ⟨v7, ev7, hm⟩ := bdE hm
  obtain ⟨a8, ea8, hm⟩ := bdE hm
  obtain ⟨a9, ea9, hm⟩ := bdE hm
  obtain ⟨v10, ev10, hm⟩ := bdE hm
  obtain ⟨a11, ea11, hm⟩ := bdE hm
  obtain ⟨a12, ea12, hm⟩ := bdE hm
  obtain ⟨v13, ev13, hm⟩ := bdE hm
  obtain ⟨a14, ea14, hm⟩ := bdE hm
  obtain ⟨a15, ea15, hm⟩ := bdE hm
  obtain ⟨v16, ev16, hm⟩ := bdE hm
  cases hm
  exact le2.rf
abbrev rm_X2_minor (mc ms : Nat) : Room := { frames := 0, cells := mc, slots := ms, locals := 0 }
theorem cw_X2_minor {R : Room} {s : State} {args : Array Value} {own : String} {idx mc ms : Nat} (hts : ∀ w ∈ lw_all, w.before args s = true) (hl : Cond.methodLink own idx yX2_minor ∈ lw_all) (hR : 0 + 1 ≤ R.frames ∧ 8 + (7 + 11) + 0 ≤ R.locals) : CallW R s args own RX2 idx yX2_minor cX2_minor 7 (Option.some Jvm.ClassFile.FieldType.long) (ws_ yX2_minor cX2_minor 7 (Option.some Jvm.ClassFile.FieldType.long)) (rm_X2_minor mc ms) mc ms 2 := cwV 2 hts (lw_V hl q793 q794 q124 q795) rfl rfl rfl (by decide +kernel) hR
set_option maxHeartbeats 4000000 in
set_option maxRecDepth 100000 in
theorem w_X2_minor (l : Launch) {D : va_G} {dA : Nat → ClassId} {A : Nat → Prop} {f : Nat} {u u9 : CH} {r0 : Int64} {x0 : Nat} {x1 : Int32} {x2 : Int32} (hm : m_X2_minor f u x0 x1 x2 = some (r0, u9)) : Met l yX2_minor (ws_ yX2_minor cX2_minor 7 (Option.some Jvm.ClassFile.FieldType.long)) (rm_X2_minor (u9.1 - u.1) (u9.2.1 - u.2.1)) (va_Pc [.ref x0, .int x1, .int x2] (CPre D dA A u)) (va_Ql (fun r u => r = r0 ∧ u = u9) (CPost D dA A) A) (u9.1 - u.1) (u9.2.1 - u.2.1) A := by
  refine Met.ofW (cc := cX2_minor) (maxL := 7) (ret := (Option.some Jvm.ClassFile.FieldType.long)) (by decide) rfl ?_
  intro p e s m args below meth c s₁ B hml hv
  have hx := B.exec
  have hb := B.bytes
  have hr := B.returns
  have hts := atoms_spec (ws := (ws_ yX2_minor cX2_minor 7 (Option.some Jvm.ClassFile.FieldType.long))) B.pre
  have hts : ∀ w ∈ lw_all, w.before args s = true := fun w h => hts w (List.mem_cons_of_mem _ h)
  have hown : s.vm.findClass RX2 = some m.cls := findClass_of_methodNamed B.named
  have hlocks := B.notSynchronized
  obtain ⟨hav, hv⟩ := hv
  have C : CX p s m args c cX2_minor RX2 D dA := ⟨hx, hb, hown, hts, hv.2⟩
  have hw : CW D dA A s u s.heap [] := hv.1
  generalize hQ : MQ below (va_Ql (fun r u => r = r0 ∧ u = u9) (CPost D dA A) A) args s (u9.1 - u.1) (u9.2.1 - u.2.1) A = QQ
  have hent := lg_entry_eq m [.ref x0, .int x1, .int x2] 7
  rw [← hav] at hent
  rw [hent]
  have hl := lv_entry ([.ref x0, .int x1, .int x2]) (n := 7) (Nat.le_of_ble_eq_true rfl)
  generalize (lg_sl ([.ref x0, .int x1, .int x2]) ++ List.replicate (7 - (lg_sl ([.ref x0, .int x1, .int x2])).length) Slot.unset).toArray = ls at hl ⊢
  have hl : lv_has ls 7 [(0, .ref x0), (1, .int x1), (2, .int x2)] := hl
  obtain ⟨cc, ecc⟩ : ∃ z : Nat, z = 0 := ⟨0, rfl⟩
  obtain ⟨ss, ess⟩ : ∃ z : Nat, z = 0 := ⟨0, rfl⟩
  have hcc : cc + u.1 = u.1 := by omega
  have hss : ss + u.2.1 = u.2.1 := by omega
  suffices hgo : W p l e (rm_X2_minor (u9.1 - u.1) (u9.2.1 - u.2.1)) s m args below meth c s.heap [] cc ss QQ (F0 m 0 ls []) by rw [ecc, ess] at hgo; exact hgo
  have ⟨pu, qu, _, _⟩ := mo_X2_minor hm
  rw [m_X2_minor] at hm
  refine lv_iload_n hx hb dX2_minor_0 rfl (lv_at hl 1 rfl) ?_
  refine lv_iconst (v := 1) hx hb dX2_minor_1 (by decide) ?_
  refine lv_iadd hx hb dX2_minor_2 ?_
  refine lv_iconst (v := 3) hx hb dX2_minor_3 (by decide) ?_
  refine w_irem hx hb dX2_minor_4 (by decide) ?_
  refine lv_topi (fun v1 ev1 => ?_)
  have hm := nmK hm ev1
  refine lv_istore_n (lv' := [(3, .int v1), (0, .ref x0), (1, .int x1), (2, .int x2)]) hx hb dX2_minor_5 rfl hl (by decide) rfl (fun ls hl => ?_)
  refine lv_iload_n hx hb dX2_minor_6 rfl (lv_at hl 2 rfl) ?_
  refine lv_iconst (v := 2) hx hb dX2_minor_7 (by decide) ?_
  refine lv_iadd hx hb dX2_minor_8 ?_
  refine lv_iconst (v := 3) hx hb dX2_minor_9 (by decide) ?_
  refine w_irem hx hb dX2_minor_10 (by decide) ?_
  refine lv_topi (fun v2 ev2 => ?_)
  have hm := nmK hm ev2
  refine lv_istore (lv' := [(4, .int v2), (3, .int v1), (0, .ref x0), (1, .int x1), (2, .int x2)]) hx hb dX2_minor_11 hl (by decide) rfl (fun ls hl => ?_)
  refine lv_iload_n hx hb dX2_minor_13 rfl (lv_at hl 4 rfl) ?_
  refine lv_iconst (v := 1) hx hb dX2_minor_14 (by decide) ?_
  refine lv_iadd hx hb dX2_minor_15 ?_
  refine lv_iconst (v := 3) hx hb dX2_minor_16 (by decide) ?_
  refine w_irem hx hb dX2_minor_17 (by decide) ?_
  refine lv_topi (fun v3 ev3 => ?_)
  have hm := nmK hm ev3
  refine lv_istore (lv' := [(5, .int v3), (4, .int v2), (3, .int v1), (0, .ref x0), (1, .int x1), (2, .int x2)]) hx hb dX2_minor_18 hl (by decide) rfl (fun ls hl => ?_)
  refine lv_iload_n hx hb dX2_minor_20 rfl (lv_at hl 5 rfl) ?_
  refine lv_iconst (v := 2) hx hb dX2_minor_21 (by decide) ?_
  refine lv_iadd hx hb dX2_minor_22 ?_
  refine lv_iconst (v := 3) hx hb dX2_minor_23 (by decide) ?_
  refine w_irem hx hb dX2_minor_24 (by decide) ?_
  refine lv_topi (fun v4 ev4 => ?_)
  have hm := nmK hm ev4
  refine lv_istore (lv' := [(6, .int v4), (5, .int v3), (4, .int v2), (3, .int v1), (0, .ref x0), (1, .int x1), (2, .int x2)]) hx hb dX2_minor_25 hl (by decide) rfl (fun ls hl => ?_)
  refine lv_aload_n hx hb dX2_minor_27 rfl (lv_at hl 4 rfl) ?_
  obtain ⟨a5, ea5, hm⟩ := bdE hm
  refine cg_get C hw (oR_E ea5) rfl in_X2 (by decide) q205 dX2_minor_28 ?_
  refine lv_iload_n hx hb dX2_minor_31 rfl (lv_at hl 3 rfl) ?_
  obtain ⟨a6, ea6, hm⟩ := bdE hm
  refine cg_aaldA C hw (ty := .array .long) rfl rfl (aR_E ea6) dX2_minor_32 ?_
  refine lv_iload hx hb dX2_minor_33 (lv_at hl 1 rfl) ?_
  obtain ⟨v7, ev7, hm⟩ := bdE hm
  refine cg_lald C hw ev7 dX2_minor_35 ?_
  refine lv_aload_n hx hb dX2_minor_36 rfl (lv_at hl 4 rfl) ?_
  obtain ⟨a8, ea8, hm⟩ := bdE hm
  refine cg_get C hw (oR_E ea8) rfl in_X2 (by decide) q205 dX2_minor_37 ?_
  refine lv_iload hx hb dX2_minor_40 (lv_at hl 2 rfl) ?_
  obtain ⟨a9, ea9, hm⟩ := bdE hm
  refine cg_aaldA C hw (ty := .array .long) rfl rfl (aR_E ea9) dX2_minor_42 ?_
  refine lv_iload hx hb dX2_minor_43 (lv_at hl 0 rfl) ?_
  obtain ⟨v10, ev10, hm⟩ := bdE hm
  refine cg_lald C hw ev10 dX2_minor_45 ?_
  refine lv_lmul hx hb dX2_minor_46 ?_
  refine lv_aload_n hx hb dX2_minor_47 rfl (lv_at hl 4 rfl) ?_
  obtain ⟨a11, ea11, hm⟩ := bdE hm
  refine cg_get C hw (oR_E ea11) rfl in_X2 (by decide) q205 dX2_minor_48 ?_
  refine lv_iload_n hx hb dX2_minor_51 rfl (lv_at hl 3 rfl) ?_
  obtain ⟨a12, ea12, hm⟩ := bdE hm
  refine cg_aaldA C hw (ty := .array .long) rfl rfl (aR_E ea12) dX2_minor_52 ?_
  refine lv_iload hx hb dX2_minor_53 (lv_at hl 0 rfl) ?_
  obtain ⟨v13, ev13, hm⟩ := bdE hm
  refine cg_lald C hw ev13 dX2_minor_55 ?_
  refine lv_aload_n hx hb dX2_minor_56 rfl (lv_at hl 4 rfl) ?_
  obtain ⟨a14, ea14, hm⟩ := bdE hm
  refine cg_get C hw (oR_E ea14) rfl in_X2 (by decide) q205 dX2_minor_57 ?_
  refine lv_iload hx hb dX2_minor_60 (lv_at hl 2 rfl) ?_
  obtain ⟨a15, ea15, hm⟩ := bdE hm
  refine cg_aaldA C hw (ty := .array .long) rfl rfl (aR_E ea15) dX2_minor_62 ?_
  refine lv_iload hx hb dX2_minor_63 (lv_at hl 1 rfl) ?_
  obtain ⟨v16, ev16, hm⟩ := bdE hm
  refine cg_lald C hw ev16 dX2_minor_65 ?_
  refine lv_lmul hx hb dX2_minor_66 ?_
  refine lv_lsub hx hb dX2_minor_67 ?_
  obtain ⟨er, eh⟩ := retE hm
  have ec : cc = u9.1 - u.1 := by rw [← eh]; omega
  have es : ss = u9.2.1 - u.2.1 := by rw [← eh]; omega
  rw [ec, es, ← hQ]
  exact W.lret (v := ((v7 * v10) - (v13 * v16))) hx hb hr (fun t ht hW => ⟨⟨((v7 * v10) - (v13 * v16)), u, rfl, ⟨er, eh⟩, ⟨by rw [ht]; exact hw.1, by rw [ht]; exact hw.2.1⟩⟩, hw.2.2.1.F ht⟩) hw.2.2.1.2.2 dX2_minor_68
def m_X2_determinant_45 (f : Nat) (h : CH) (y0 : Int64) (y1 : Int64) (y2 : Int64) : Option (Int64 × CH) := some ((y0 + (y1 * y2)), h)
theorem mo_X2_determinant_45 {f : Nat} : ∀ (h : CH) (y0 : Int64) (y1 : Int64) (y2 : Int64) (r : (Int64 × CH)), m_X2_determinant_45 f h y0 y1 y2 = some r → le2 h r.2 := by
  intro h y0 y1 y2 r hm
  rw [m_X2_determinant_45] at hm
  cases hm
  exact le2.rf
def m_X2_determinant_29 (f : Nat) (h : CH) (x0 : Nat) (y0 : Int64) (y1 : Int64) (y2 : Int64) : Option (Int64 × CH) := bd (oR h 3 0 x0) fun a1 =>
    bd (aR h 4 a1 (0 : Int32)) fun a2 =>
    bd (aL h 1 a2 (2 : Int32)) fun v3 =>
    gd (isC h x0 3) <|
    bd2 (m_X2_minor f h x0 (0 : Int32) (2 : Int32)) fun r6 h5 =>
    m_X2_determinant_45 f h5 (y0 + (y1 * y2)) v3 r6
theorem mo_X2_determinant_29 {f : Nat} : ∀ (h : CH) (x0 : Nat) (y0 : Int64) (y1 : Int64) (y2 : Int64) (r : (Int64 × CH)), m_X2_determinant_29 f h x0 y0 y1 y2 = some r → le2 h r.2 := by
  intro h x0 y0 y1 y2 r hm
  rw [m_X2_determinant_29] at hm
  obtain ⟨a1, ea1, hm⟩ := bdE hm
  obtain ⟨a2, ea2, hm⟩ := bdE hm
  obtain ⟨v3, ev3, hm⟩ := bdE hm
  obtain ⟨g4, hm⟩ := gdE hm
  obtain ⟨r6, h5, er6, hm⟩ := bd2E hm
  have lh5 := mo_X2_minor er6
  exact (lh5.tr (mo_X2_determinant_45  h5 (y0 + (y1 * y2)) v3 r6 _ hm))
def m_X2_determinant_14 (f : Nat) (h : CH) (x0 : Nat) (y0 : Int64) (y1 : Int64) : Option (Int64 × CH) := bd (oR h 3 0 x0) fun a1 =>
    bd (aR h 4 a1 (0 : Int32)) fun a2 =>
    bd (aL h 1 a2 (1 : Int32)) fun v3 =>
    gd (isC h x0 3) <|
    bd2 (m_X2_minor f h x0 (0 : Int32) (1 : Int32)) fun r6 h5 =>
    m_X2_determinant_29 f h5 x0 (y0 * y1) v3 r6
theorem mo_X2_determinant_14 {f : Nat} : ∀ (h : CH) (x0 : Nat) (y0 : Int64) (y1 : Int64) (r : (Int64 × CH)), m_X2_determinant_14 f h x0 y0 y1 = some r → le2 h r.2 := by
  intro h x0 y0 y1 r hm
  rw [m_X2_determinant_14] at hm
  obtain ⟨a1, ea1, hm⟩ := bdE hm
  obtain ⟨a2, ea2, hm⟩ := bdE hm
  obtain ⟨v3, ev3, hm⟩ := bdE hm
  obtain ⟨g4, hm⟩ := gdE hm
  obtain ⟨r6, h5, er6, hm⟩ := bd2E hm
  have lh5 := mo_X2_minor er6
  exact (lh5.tr (mo_X2_determinant_29  h5 x0 (y0 * y1) v3 r6 _ hm))
def m_X2_determinant (f : Nat) (u : CH) (x0 : Nat) : Option (Int64 × CH) := bd (oR u 3 0 x0) fun a1 =>
    bd (aR u 4 a1 (0 : Int32)) fun a2 =>
    bd (aL u 1 a2 (0 : Int32)) fun v3 =>
    gd (isC u x0 3) <|
    bd2 (m_X2_minor f u x0 (0 : Int32) (0 : Int32)) fun r6 h5 =>
    m_X2_determinant_14 f h5 x0 v3 r6
theorem mo_X2_determinant {f : Nat} {u : CH} {x0 : Nat} {r0 : Int64} {u9 : CH} (hm : m_X2_determinant f u x0 = some (r0, u9)) : le2 u u9 := by
  rw [m_X2_determinant] at hm
  obtain ⟨a1, ea1, hm⟩ := bdE hm
  obtain ⟨a2, ea2, hm⟩ := bdE hm
  obtain ⟨v3, ev3, hm⟩ := bdE hm
  obtain ⟨g4, hm⟩ := gdE hm
  obtain ⟨r6, h5, er6, hm⟩ := bd2E hm
  have lh5 := mo_X2_minor er6
  exact (lh5.tr (mo_X2_determinant_14  h5 x0 v3 r6 _ hm))
abbrev rm_X2_determinant (mc ms : Nat) : Room := { frames := 1, cells := mc, slots := ms, locals := 26 }
theorem cw_X2_determinant {R : Room} {s : State} {args : Array Value} {own : String} {idx mc ms : Nat} (hts : ∀ w ∈ lw_all, w.before args s = true) (hl : Cond.methodLink own idx yX2_determinant ∈ lw_all) (hR : 1 + 1 ≤ R.frames ∧ 8 + (1 + 11) + 26 ≤ R.locals) : CallW R s args own RX2 idx yX2_determinant cX2_determinant 1 (Option.some Jvm.ClassFile.FieldType.long) (ws_ yX2_determinant cX2_determinant 1 (Option.some Jvm.ClassFile.FieldType.long)) (rm_X2_determinant mc ms) mc ms 0 := cwV 0 hts (lw_V hl q789 q790 q124 q791) rfl rfl rfl (by decide +kernel) hR
set_option maxHeartbeats 4000000 in
set_option maxRecDepth 100000 in
theorem w_X2_determinant (l : Launch) {D : va_G} {dA : Nat → ClassId} {A : Nat → Prop} {f : Nat} {u u9 : CH} {r0 : Int64} {x0 : Nat} (hm : m_X2_determinant f u x0 = some (r0, u9)) : Met l yX2_determinant (ws_ yX2_determinant cX2_determinant 1 (Option.some Jvm.ClassFile.FieldType.long)) (rm_X2_determinant (u9.1 - u.1) (u9.2.1 - u.2.1)) (va_Pc [.ref x0] (CPre D dA A u)) (va_Ql (fun r u => r = r0 ∧ u = u9) (CPost D dA A) A) (u9.1 - u.1) (u9.2.1 - u.2.1) A := by
  refine Met.ofW (cc := cX2_determinant) (maxL := 1) (ret := (Option.some Jvm.ClassFile.FieldType.long)) (by decide) rfl ?_
  intro p e s m args below meth c s₁ B hml hv
  have hx := B.exec
  have hb := B.bytes
  have hr := B.returns
  have hts := atoms_spec (ws := (ws_ yX2_determinant cX2_determinant 1 (Option.some Jvm.ClassFile.FieldType.long))) B.pre
  have hts : ∀ w ∈ lw_all, w.before args s = true := fun w h => hts w (List.mem_cons_of_mem _ h)
  have hown : s.vm.findClass RX2 = some m.cls := findClass_of_methodNamed B.named
  have hlocks := B.notSynchronized
  obtain ⟨hav, hv⟩ := hv
  have C : CX p s m args c cX2_determinant RX2 D dA := ⟨hx, hb, hown, hts, hv.2⟩
  have hw : CW D dA A s u s.heap [] := hv.1
  generalize hQ : MQ below (va_Ql (fun r u => r = r0 ∧ u = u9) (CPost D dA A) A) args s (u9.1 - u.1) (u9.2.1 - u.2.1) A = QQ
  have hent := lg_entry_eq m [.ref x0] 1
  rw [← hav] at hent
  rw [hent]
  have hl := lv_entry ([.ref x0]) (n := 1) (Nat.le_of_ble_eq_true rfl)
  generalize (lg_sl ([.ref x0]) ++ List.replicate (1 - (lg_sl ([.ref x0])).length) Slot.unset).toArray = ls at hl ⊢
  have hl : lv_has ls 1 [(0, .ref x0)] := hl
  obtain ⟨cc, ecc⟩ : ∃ z : Nat, z = 0 := ⟨0, rfl⟩
  obtain ⟨ss, ess⟩ : ∃ z : Nat, z = 0 := ⟨0, rfl⟩
  have hcc : cc + u.1 = u.1 := by omega
  have hss : ss + u.2.1 = u.2.1 := by omega
  suffices hgo : W p l e (rm_X2_determinant (u9.1 - u.1) (u9.2.1 - u.2.1)) s m args below meth c s.heap [] cc ss QQ (F0 m 0 ls []) by rw [ecc, ess] at hgo; exact hgo
  have ⟨pu, qu, _, _⟩ := mo_X2_determinant hm
  have hB45 : ∀ (h : CH) (y0 : Int64) (y1 : Int64) (y2 : Int64) (cc ss : Nat) (H : Heap) (locs : List Loc) (ls : Array Slot), m_X2_determinant_45 f h y0 y1 y2 = some (r0, u9) → CW D dA A s h H locs → cc + u.1 = h.1 → ss + u.2.1 = h.2.1 → lv_has ls 1 [] → W p l e (rm_X2_determinant (u9.1 - u.1) (u9.2.1 - u.2.1)) s m args below meth c H locs cc ss QQ (F0 m 45 ls [.long y2, .long y1, .long y0]) := by
    intro h y0 y1 y2 cc ss H locs ls hm hw hcc hss hl
    have hmo := mo_X2_determinant_45  h y0 y1 y2 _ hm
    have sb_ : h.1 ≤ u9.1 := hmo.1
    have tb_ : h.2.1 ≤ u9.2.1 := hmo.2.1
    rw [m_X2_determinant_45] at hm
    refine lv_lmul hx hb dX2_determinant_45 ?_
    refine lv_ladd hx hb dX2_determinant_46 ?_
    obtain ⟨er, eh⟩ := retE hm
    have ec : cc = u9.1 - u.1 := by rw [← eh]; omega
    have es : ss = u9.2.1 - u.2.1 := by rw [← eh]; omega
    rw [ec, es, ← hQ]
    exact W.lret (v := (y0 + (y1 * y2))) hx hb hr (fun t ht hW => ⟨⟨(y0 + (y1 * y2)), h, rfl, ⟨er, eh⟩, ⟨by rw [ht]; exact hw.1, by rw [ht]; exact hw.2.1⟩⟩, hw.2.2.1.F ht⟩) hw.2.2.1.2.2 dX2_determinant_47
  have hB29 : ∀ (h : CH) (x0 : Nat) (y0 : Int64) (y1 : Int64) (y2 : Int64) (cc ss : Nat) (H : Heap) (locs : List Loc) (ls : Array Slot), m_X2_determinant_29 f h x0 y0 y1 y2 = some (r0, u9) → CW D dA A s h H locs → cc + u.1 = h.1 → ss + u.2.1 = h.2.1 → lv_has ls 1 [(0, .ref x0)] → W p l e (rm_X2_determinant (u9.1 - u.1) (u9.2.1 - u.2.1)) s m args below meth c H locs cc ss QQ (F0 m 29 ls [.long y2, .long y1, .long y0]) := by
    intro h x0 y0 y1 y2 cc ss H locs ls hm hw hcc hss hl
    have hmo := mo_X2_determinant_29  h x0 y0 y1 y2 _ hm
    have sb_ : h.1 ≤ u9.1 := hmo.1
    have tb_ : h.2.1 ≤ u9.2.1 := hmo.2.1
    rw [m_X2_determinant_29] at hm
    refine lv_lmul hx hb dX2_determinant_29 ?_
    refine lv_ladd hx hb dX2_determinant_30 ?_
    refine lv_aload_n hx hb dX2_determinant_31 rfl (lv_at hl 0 rfl) ?_
    obtain ⟨a1, ea1, hm⟩ := bdE hm
    refine cg_get C hw (oR_E ea1) rfl in_X2 (by decide) q205 dX2_determinant_32 ?_
    refine lv_iconst (v := 0) hx hb dX2_determinant_35 (by decide) ?_
    obtain ⟨a2, ea2, hm⟩ := bdE hm
    refine cg_aaldA C hw (ty := .array .long) rfl rfl (aR_E ea2) dX2_determinant_36 ?_
    refine lv_iconst (v := 2) hx hb dX2_determinant_37 (by decide) ?_
    obtain ⟨v3, ev3, hm⟩ := bdE hm
    refine cg_lald C hw ev3 dX2_determinant_38 ?_
    refine lv_aload_n hx hb dX2_determinant_39 rfl (lv_at hl 0 rfl) ?_
    refine lv_iconst (v := 0) hx hb dX2_determinant_40 (by decide) ?_
    refine lv_iconst (v := 2) hx hb dX2_determinant_41 (by decide) ?_
    obtain ⟨g4, hm⟩ := gdE hm
    obtain ⟨r6, h5, er6, hm⟩ := bd2E hm
    have lh5 := mo_X2_minor er6
    have ph5 : h.1 ≤ h5.1 := lh5.1
    have qh5 : h.2.1 ≤ h5.2.1 := lh5.2.1
    have hmo := mo_X2_determinant_45   h5 (y0 + (y1 * y2)) v3 r6 _ hm
    have sh5 : h5.1 ≤ u9.1 := hmo.1
    have th5 : h5.2.1 ≤ u9.2.1 := hmo.2.1
    refine cg_calll hw lh5 (va_runV (As := [.int (0 : Int32), .int (2 : Int32)]) (rest := [.long v3, .long (y0 + (y1 * y2))]) ⟨hx, hb, hml, hown, hts⟩ (w_X2_minor l er6) (cw_X2_minor hts q792 ⟨Nat.le_of_ble_eq_true rfl, Nat.le_of_ble_eq_true rfl⟩) (cg_preV C hw g4 rfl _) rfl rfl hl.1 rfl (lv_room (Nat.le_of_ble_eq_true rfl)) dX2_determinant_42 ⟨show cc + (h5.1 - h.1) ≤ u9.1 - u.1 by omega, show ss + (h5.2.1 - h.2.1) ≤ u9.2.1 - u.2.1 by omega⟩) (fun H locs hw => ?_)
    exact hB45 h5 (y0 + (y1 * y2)) v3 r6 _ _ _ _ _ hm hw (by omega) (by omega) (lv_sub hl [] rfl)
  have hB14 : ∀ (h : CH) (x0 : Nat) (y0 : Int64) (y1 : Int64) (cc ss : Nat) (H : Heap) (locs : List Loc) (ls : Array Slot), m_X2_determinant_14 f h x0 y0 y1 = some (r0, u9) → CW D dA A s h H locs → cc + u.1 = h.1 → ss + u.2.1 = h.2.1 → lv_has ls 1 [(0, .ref x0)] → W p l e (rm_X2_determinant (u9.1 - u.1) (u9.2.1 - u.2.1)) s m args below meth c H locs cc ss QQ (F0 m 14 ls [.long y1, .long y0]) := by
    intro h x0 y0 y1 cc ss H locs ls hm hw hcc hss hl
    have hmo := mo_X2_determinant_14  h x0 y0 y1 _ hm
    have sb_ : h.1 ≤ u9.1 := hmo.1
    have tb_ : h.2.1 ≤ u9.2.1 := hmo.2.1
    rw [m_X2_determinant_14] at hm
    refine lv_lmul hx hb dX2_determinant_14 ?_
    refine lv_aload_n hx hb dX2_determinant_15 rfl (lv_at hl 0 rfl) ?_
    obtain ⟨a1, ea1, hm⟩ := bdE hm
    refine cg_get C hw (oR_E ea1) rfl in_X2 (by decide) q205 dX2_determinant_16 ?_
    refine lv_iconst (v := 0) hx hb dX2_determinant_19 (by decide) ?_
    obtain ⟨a2, ea2, hm⟩ := bdE hm
    refine cg_aaldA C hw (ty := .array .long) rfl rfl (aR_E ea2) dX2_determinant_20 ?_
    refine lv_iconst (v := 1) hx hb dX2_determinant_21 (by decide) ?_
    obtain ⟨v3, ev3, hm⟩ := bdE hm
    refine cg_lald C hw ev3 dX2_determinant_22 ?_
    refine lv_aload_n hx hb dX2_determinant_23 rfl (lv_at hl 0 rfl) ?_
    refine lv_iconst (v := 0) hx hb dX2_determinant_24 (by decide) ?_
    refine lv_iconst (v := 1) hx hb dX2_determinant_25 (by decide) ?_
    obtain ⟨g4, hm⟩ := gdE hm
    obtain ⟨r6, h5, er6, hm⟩ := bd2E hm
    have lh5 := mo_X2_minor er6
    have ph5 : h.1 ≤ h5.1 := lh5.1
    have qh5 : h.2.1 ≤ h5.2.1 := lh5.2.1
    have hmo := mo_X2_determinant_29   h5 x0 (y0 * y1) v3 r6 _ hm
    have sh5 : h5.1 ≤ u9.1 := hmo.1
    have th5 : h5.2.1 ≤ u9.2.1 := hmo.2.1
    refine cg_calll hw lh5 (va_runV (As := [.int (0 : Int32), .int (1 : Int32)]) (rest := [.long v3, .long (y0 * y1)]) ⟨hx, hb, hml, hown, hts⟩ (w_X2_minor l er6) (cw_X2_minor hts q792 ⟨Nat.le_of_ble_eq_true rfl, Nat.le_of_ble_eq_true rfl⟩) (cg_preV C hw g4 rfl _) rfl rfl hl.1 rfl (lv_room (Nat.le_of_ble_eq_true rfl)) dX2_determinant_26 ⟨show cc + (h5.1 - h.1) ≤ u9.1 - u.1 by omega, show ss + (h5.2.1 - h.2.1) ≤ u9.2.1 - u.2.1 by omega⟩) (fun H locs hw => ?_)
    exact hB29 h5 x0 (y0 * y1) v3 r6 _ _ _ _ _ hm hw (by omega) (by omega) (lv_sub hl [0] rfl)
  rw [m_X2_determinant] at hm
  refine lv_aload_n hx hb dX2_determinant_0 rfl (lv_at hl 0 rfl) ?_
  obtain ⟨a1, ea1, hm⟩ := bdE hm
  refine cg_get C hw (oR_E ea1) rfl in_X2 (by decide) q205 dX2_determinant_1 ?_
  refine lv_iconst (v := 0) hx hb dX2_determinant_4 (by decide) ?_
  obtain ⟨a2, ea2, hm⟩ := bdE hm
  refine cg_aaldA C hw (ty := .array .long) rfl rfl (aR_E ea2) dX2_determinant_5 ?_
  refine lv_iconst (v := 0) hx hb dX2_determinant_6 (by decide) ?_
  obtain ⟨v3, ev3, hm⟩ := bdE hm
  refine cg_lald C hw ev3 dX2_determinant_7 ?_
  refine lv_aload_n hx hb dX2_determinant_8 rfl (lv_at hl 0 rfl) ?_
  refine lv_iconst (v := 0) hx hb dX2_determinant_9 (by decide) ?_
  refine lv_iconst (v := 0) hx hb dX2_determinant_10 (by decide) ?_
  obtain ⟨g4, hm⟩ := gdE hm
  obtain ⟨r6, h5, er6, hm⟩ := bd2E hm
  have lh5 := mo_X2_minor er6
  have ph5 : u.1 ≤ h5.1 := lh5.1
  have qh5 : u.2.1 ≤ h5.2.1 := lh5.2.1
  have hmo := mo_X2_determinant_14   h5 x0 v3 r6 _ hm
  have sh5 : h5.1 ≤ u9.1 := hmo.1
  have th5 : h5.2.1 ≤ u9.2.1 := hmo.2.1
  refine cg_calll hw lh5 (va_runV (As := [.int (0 : Int32), .int (0 : Int32)]) (rest := [.long v3]) ⟨hx, hb, hml, hown, hts⟩ (w_X2_minor l er6) (cw_X2_minor hts q792 ⟨Nat.le_of_ble_eq_true rfl, Nat.le_of_ble_eq_true rfl⟩) (cg_preV C hw g4 rfl _) rfl rfl hl.1 rfl (lv_room (Nat.le_of_ble_eq_true rfl)) dX2_determinant_11 ⟨show cc + (h5.1 - u.1) ≤ u9.1 - u.1 by omega, show ss + (h5.2.1 - u.2.1) ≤ u9.2.1 - u.2.1 by omega⟩) (fun H locs hw => ?_)
  exact hB14 h5 x0 v3 r6 _ _ _ _ _ hm hw (by omega) (by omega) (lv_sub hl [0] rfl)
def m_X4_lattice_76 (f : Nat) (h : CH) (y0 : Nat) : Option ((Nat ⊕ Nat) × CH) := gd (isC h y0 5) <|
    some (.inr y0, h)
theorem mo_X4_lattice_76 {f : Nat} : ∀ (h : CH) (y0 : Nat) (r : ((Nat ⊕ Nat) × CH)), m_X4_lattice_76 f h y0 = some r → le2 h r.2 := by
  intro h y0 r hm
  rw [m_X4_lattice_76] at hm
  obtain ⟨g1, hm⟩ := gdE hm
  cases hm
  exact le2.rf
def m_X4_lattice_67 (f : Nat) (h : CH) (x0 : Nat) (y0 : Nat) : Option ((Nat ⊕ Nat) × CH) := bd (oI h 4 6 x0) fun v1 =>
    bd (m_X5_init f h y0 (2 : Int32) v1) fun h2 =>
    m_X4_lattice_76 f h2 y0
theorem mo_X4_lattice_67 {f : Nat} : ∀ (h : CH) (x0 : Nat) (y0 : Nat) (r : ((Nat ⊕ Nat) × CH)), m_X4_lattice_67 f h x0 y0 = some r → le2 h r.2 := by
  intro h x0 y0 r hm
  rw [m_X4_lattice_67] at hm
  obtain ⟨v1, ev1, hm⟩ := bdE hm
  obtain ⟨h2, eh2, hm⟩ := bdE hm
  have lh2 := mo_X5_init eh2
  exact (lh2.tr (mo_X4_lattice_76  h2 y0 _ hm))
def m_X4_lattice_51 (f : Nat) (h : CH) (x0 : Nat) (x1 : Nat) (y0 : Int64) : Option ((Nat ⊕ Nat) × CH) := bd (m_J9_abs f y0) fun r1 =>
    bd (m_X0_isIn f r1 (1 : Int64) (60 : Int64)) fun r2 =>
    if ¬ r2 = 0 then
    some (.inl x1, h)
    else nmv (cn h 8 (.inl (5, [.null, .null, .null, .null, .null, .int 0, .int 0, .int 0]))) fun h4 =>
    nmv (h.1 : Nat) fun a5 =>
    m_X4_lattice_67 f h4 x0 a5
theorem mo_X4_lattice_51 {f : Nat} : ∀ (h : CH) (x0 : Nat) (x1 : Nat) (y0 : Int64) (r : ((Nat ⊕ Nat) × CH)), m_X4_lattice_51 f h x0 x1 y0 = some r → le2 h r.2 := by
  intro h x0 x1 y0 r hm
  rw [m_X4_lattice_51] at hm
  obtain ⟨r1, er1, hm⟩ := bdE hm
  obtain ⟨r2, er2, hm⟩ := bdE hm
  by_cases c3 : ¬ r2 = 0
  · have hm := ifT hm c3
    cases hm
    exact le2.rf
  · have hm := ifF hm c3
    obtain ⟨h4, eh4, hm⟩ := nmE hm
    have lh4 := cn_le eh4
    obtain ⟨a5, ea5, hm⟩ := nmE hm
    exact (lh4.tr (mo_X4_lattice_67  h4 x0 a5 _ hm))
def m_X4_lattice_44 (f : Nat) (h : CH) (x0 : Nat) (x1 : Nat) : Option ((Nat ⊕ Nat) × CH) := bd (oR h 6 0 x1) fun a1 =>
    gd (isC h a1 3) <|
    bd2 (m_X2_determinant f h a1) fun r4 h3 =>
    m_X4_lattice_51 f h3 x0 x1 r4
theorem mo_X4_lattice_44 {f : Nat} : ∀ (h : CH) (x0 : Nat) (x1 : Nat) (r : ((Nat ⊕ Nat) × CH)), m_X4_lattice_44 f h x0 x1 = some r → le2 h r.2 := by
  intro h x0 x1 r hm
  rw [m_X4_lattice_44] at hm
  obtain ⟨a1, ea1, hm⟩ := bdE hm
  obtain ⟨g2, hm⟩ := gdE hm
  obtain ⟨r4, h3, er4, hm⟩ := bd2E hm
  have lh3 := mo_X2_determinant er4
  exact (lh3.tr (mo_X4_lattice_51  h3 x0 x1 r4 _ hm))
def m_X4_lattice_36 (f : Nat) (k10 : CH → Nat → Nat → Int32 → Option ((Nat ⊕ Nat) × CH)) (h : CH) (x0 : Nat) (x1 : Nat) (x2 : Int32) (y0 : Nat) (y1 : Int32) (y2 : Int32) : Option ((Nat ⊕ Nat) × CH) := bd (uL h 1 y0 y1 (Int32.toInt64 y2)) fun h1 =>
    nmv ((x2 + 1) : Int32) fun v2 =>
    k10 h1 x0 x1 v2
theorem mo_X4_lattice_36 {f : Nat} {k10 : CH → Nat → Nat → Int32 → Option ((Nat ⊕ Nat) × CH)} (hk10 : ∀ (h : CH) (x0 : Nat) (x1 : Nat) (x2 : Int32) (r : ((Nat ⊕ Nat) × CH)), k10 h x0 x1 x2 = some r → le2 h r.2) : ∀ (h : CH) (x0 : Nat) (x1 : Nat) (x2 : Int32) (y0 : Nat) (y1 : Int32) (y2 : Int32) (r : ((Nat ⊕ Nat) × CH)), m_X4_lattice_36 f k10 h x0 x1 x2 y0 y1 y2 = some r → le2 h r.2 := by
  intro h x0 x1 x2 y0 y1 y2 r hm
  rw [m_X4_lattice_36] at hm
  obtain ⟨h1, eh1, hm⟩ := bdE hm
  have lh1 := uL_le eh1
  obtain ⟨v2, ev2, hm⟩ := nmE hm
  exact (lh1.tr (hk10 h1 x0 x1 v2 _ hm))
def m_X4_lattice_10 (f : Nat) : Nat → CH → Nat → Nat → Int32 → Option ((Nat ⊕ Nat) × CH)
  | 0, _, _, _, _ => none
  | n10 + 1, h, x0, x1, x2 => if (9 : Int32) ≤ x2 then
    m_X4_lattice_44 f h x0 x1
    else bd (oR h 6 0 x1) fun a2 =>
    bd (oR h 3 0 a2) fun a3 =>
    bd (aR h 4 a3 (x2 / (3 : Int32))) fun a4 =>
    gd (isC h x0 4) <|
    bx (m_X4_signed f h x0 (6 : Int32)) (fun r7 h6 =>
    m_X4_lattice_36 f (m_X4_lattice_10 f n10) h6 x0 x1 x2 a4 (rmI x2 (3 : Int32)) r7) (fun q8 h6 =>
    gd (isC h6 q8 5) <|
    some (.inr q8, h6))
theorem mo_X4_lattice_10 {f : Nat} : ∀ (n10 : Nat) (h : CH) (x0 : Nat) (x1 : Nat) (x2 : Int32) (r : ((Nat ⊕ Nat) × CH)), m_X4_lattice_10 f n10 h x0 x1 x2 = some r → le2 h r.2 := by
  intro n10
  induction n10 with
  | zero => intro h x0 x1 x2 r hm; rw [m_X4_lattice_10] at hm; exact noE hm
  | succ n10 ihm =>
    intro h x0 x1 x2 r hm
    rw [m_X4_lattice_10] at hm
    by_cases c1 : (9 : Int32) ≤ x2
    · have hm := ifT hm c1
      exact (mo_X4_lattice_44  h x0 x1 _ hm)
    · have hm := ifF hm c1
      obtain ⟨a2, ea2, hm⟩ := bdE hm
      obtain ⟨a3, ea3, hm⟩ := bdE hm
      obtain ⟨a4, ea4, hm⟩ := bdE hm
      obtain ⟨g5, hm⟩ := gdE hm
      rcases bxE hm with ⟨r7, h6, eh6, hm⟩ | ⟨q8, h6, eh6, hm⟩
      · have lh6 := mo_X4_signed eh6
        exact (lh6.tr (mo_X4_lattice_36 ihm h6 x0 x1 x2 a4 (rmI x2 (3 : Int32)) r7 _ hm))
      · have lh6 := mo_X4_signed eh6
        obtain ⟨g9, hm⟩ := gdE hm
        cases hm
        exact (lh6.tr le2.rf)
def m_X4_lattice_7 (f : Nat) (h : CH) (x0 : Nat) (y0 : Nat) : Option ((Nat ⊕ Nat) × CH) := m_X4_lattice_10 f f h x0 y0 (0 : Int32)
theorem mo_X4_lattice_7 {f : Nat} : ∀ (h : CH) (x0 : Nat) (y0 : Nat) (r : ((Nat ⊕ Nat) × CH)), m_X4_lattice_7 f h x0 y0 = some r → le2 h r.2 := by
  intro h x0 y0 r hm
  rw [m_X4_lattice_7] at hm
  exact (mo_X4_lattice_10  f h x0 y0 (0 : Int32) _ hm)
def m_X4_lattice_3 (f : Nat) (h : CH) (x0 : Nat) (y0 : Nat) : Option ((Nat ⊕ Nat) × CH) := bd (m_X6_init f h y0) fun h1 =>
    m_X4_lattice_7 f h1 x0 y0
theorem mo_X4_lattice_3 {f : Nat} : ∀ (h : CH) (x0 : Nat) (y0 : Nat) (r : ((Nat ⊕ Nat) × CH)), m_X4_lattice_3 f h x0 y0 = some r → le2 h r.2 := by
  intro h x0 y0 r hm
  rw [m_X4_lattice_3] at hm
  obtain ⟨h1, eh1, hm⟩ := bdE hm
  have lh1 := mo_X6_init eh1
  exact (lh1.tr (mo_X4_lattice_7  h1 x0 y0 _ hm))
def m_X4_lattice (f : Nat) (u : CH) (x0 : Nat) : Option ((Nat ⊕ Nat) × CH) := nmv (cn u 1 (.inl (6, [.null]))) fun h1 =>
    nmv (u.1 : Nat) fun a2 =>
    m_X4_lattice_3 f h1 x0 a2
theorem mo_X4_lattice {f : Nat} {u : CH} {x0 : Nat} {r0 : Nat ⊕ Nat} {u9 : CH} (hm : m_X4_lattice f u x0 = some (r0, u9)) : le2 u u9 := by
  rw [m_X4_lattice] at hm
  obtain ⟨h1, eh1, hm⟩ := nmE hm
  have lh1 := cn_le eh1
  obtain ⟨a2, ea2, hm⟩ := nmE hm
  exact (lh1.tr (mo_X4_lattice_3  h1 x0 a2 _ hm))
abbrev rm_X4_lattice (mc ms : Nat) : Room := { frames := 8, cells := mc, slots := ms, locals := 216 }
theorem cw_X4_lattice {R : Room} {s : State} {args : Array Value} {own : String} {idx mc ms : Nat} (hts : ∀ w ∈ lw_all, w.before args s = true) (hl : Cond.methodLink own idx yX4_lattice ∈ lw_all) (hR : 8 + 1 ≤ R.frames ∧ 8 + (3 + 11) + 216 ≤ R.locals) : CallW R s args own RX4 idx yX4_lattice cX4_lattice 3 (Option.some (Jvm.ClassFile.FieldType.object "CoincideBench$Lattice")) (ws_ yX4_lattice cX4_lattice 3 (Option.some (Jvm.ClassFile.FieldType.object "CoincideBench$Lattice"))) (rm_X4_lattice mc ms) mc ms 0 := cwV 0 hts (lw_V hl q782 qs11 q126 q783) rfl rfl rfl (by decide +kernel) hR
set_option maxHeartbeats 4000000 in
set_option maxRecDepth 100000 in
theorem w_X4_lattice (l : Launch) (htl : l.stackTraces = false) {D : va_G} {dA : Nat → ClassId} {A : Nat → Prop} {f : Nat} {u u9 : CH} {r0 : Nat ⊕ Nat} {x0 : Nat} (hm : m_X4_lattice f u x0 = some (r0, u9)) : vy_Met l yX4_lattice (ws_ yX4_lattice cX4_lattice 3 (Option.some (Jvm.ClassFile.FieldType.object "CoincideBench$Lattice"))) (rm_X4_lattice (u9.1 - u.1) (u9.2.1 - u.2.1)) (va_Pc [.ref x0] (CPre D dA A u)) (cxQr D dA A r0 u9) (cxX D dA A r0 u9) (u9.1 - u.1) (u9.2.1 - u.2.1) A := by
  refine vy_ofW (cc := cX4_lattice) (maxL := 3) (ret := (Option.some (Jvm.ClassFile.FieldType.object "CoincideBench$Lattice"))) (by decide) rfl ?_
  intro p e s m args below meth c s₁ B hml htab hv
  have hx := B.exec
  have hb := B.bytes
  have hr := B.returns
  have hts := atoms_spec (ws := (ws_ yX4_lattice cX4_lattice 3 (Option.some (Jvm.ClassFile.FieldType.object "CoincideBench$Lattice")))) B.pre
  have hts : ∀ w ∈ lw_all, w.before args s = true := fun w h => hts w (List.mem_cons_of_mem _ h)
  have hown : s.vm.findClass RX4 = some m.cls := findClass_of_methodNamed B.named
  have hlocks := B.notSynchronized
  obtain ⟨hav, hv⟩ := hv
  have C : CX p s m args c cX4_lattice RX4 D dA := ⟨hx, hb, hown, hts, hv.2⟩
  have hw : CW D dA A s u s.heap [] := hv.1
  generalize hQ : vy_MQ below (cxQr D dA A r0 u9) (cxX D dA A r0 u9) args s (u9.1 - u.1) (u9.2.1 - u.2.1) A = QQ
  have hent := lg_entry_eq m [.ref x0] 3
  rw [← hav] at hent
  rw [hent]
  have hl := lv_entry ([.ref x0]) (n := 3) (Nat.le_of_ble_eq_true rfl)
  generalize (lg_sl ([.ref x0]) ++ List.replicate (3 - (lg_sl ([.ref x0])).length) Slot.unset).toArray = ls at hl ⊢
  have hl : lv_has ls 3 [(0, .ref x0)] := hl
  obtain ⟨cc, ecc⟩ : ∃ z : Nat, z = 0 := ⟨0, rfl⟩
  obtain ⟨ss, ess⟩ : ∃ z : Nat, z = 0 := ⟨0, rfl⟩
  have hcc : cc + u.1 = u.1 := by omega
  have hss : ss + u.2.1 = u.2.1 := by omega
  suffices hgo : W p l e (rm_X4_lattice (u9.1 - u.1) (u9.2.1 - u.2.1)) s m args below meth c s.heap [] cc ss QQ (F0 m 0 ls []) by rw [ecc, ess] at hgo; exact hgo
  have ⟨pu, qu, _, _⟩ := mo_X4_lattice hm
  have hB76 : ∀ (h : CH) (y0 : Nat) (cc ss : Nat) (H : Heap) (locs : List Loc) (ls : Array Slot), m_X4_lattice_76 f h y0 = some (r0, u9) → CW D dA A s h H locs → cc + u.1 = h.1 → ss + u.2.1 = h.2.1 → lv_has ls 3 [] → W p l e (rm_X4_lattice (u9.1 - u.1) (u9.2.1 - u.2.1)) s m args below meth c H locs cc ss QQ (F0 m 76 ls [.ref y0]) := by
    intro h y0 cc ss H locs ls hm hw hcc hss hl
    have hmo := mo_X4_lattice_76  h y0 _ hm
    have sb_ : h.1 ≤ u9.1 := hmo.1
    have tb_ : h.2.1 ≤ u9.2.1 := hmo.2.1
    rw [m_X4_lattice_76] at hm
    obtain ⟨g1, hm⟩ := gdE hm
    refine vy_athrow hx hb dX4_lattice_76 ?_
    obtain ⟨er, eh⟩ := retE hm
    rw [← hQ]
    exact cx_out C hw g1 (by decide) rfl er eh (fun x hx => (htab x hx).elim) hlocks (by rw [← eh]; omega) (by rw [← eh]; omega)
  have hB67 : ∀ (h : CH) (x0 : Nat) (y0 : Nat) (cc ss : Nat) (H : Heap) (locs : List Loc) (ls : Array Slot), m_X4_lattice_67 f h x0 y0 = some (r0, u9) → CW D dA A s h H locs → cc + u.1 = h.1 → ss + u.2.1 = h.2.1 → lv_has ls 3 [(0, .ref x0)] → W p l e (rm_X4_lattice (u9.1 - u.1) (u9.2.1 - u.2.1)) s m args below meth c H locs cc ss QQ (F0 m 67 ls [.ref y0]) := by
    intro h x0 y0 cc ss H locs ls hm hw hcc hss hl
    have hmo := mo_X4_lattice_67  h x0 y0 _ hm
    have sb_ : h.1 ≤ u9.1 := hmo.1
    have tb_ : h.2.1 ≤ u9.2.1 := hmo.2.1
    rw [m_X4_lattice_67] at hm
    refine lv_dup hx hb dX4_lattice_67 rfl ?_
    refine lv_iconst (v := 2) hx hb dX4_lattice_68 (by decide) ?_
    refine lv_aload_n hx hb dX4_lattice_69 rfl (lv_at hl 0 rfl) ?_
    obtain ⟨v1, ev1, hm⟩ := bdE hm
    refine cg_get C hw (oI_E ev1) rfl in_X4 (by decide) q322 dX4_lattice_70 ?_
    obtain ⟨h2, eh2, hm⟩ := bdE hm
    have lh2 := mo_X5_init eh2
    have ph2 : h.1 ≤ h2.1 := lh2.1
    have qh2 : h.2.1 ≤ h2.2.1 := lh2.2.1
    have hmo := mo_X4_lattice_76   h2 y0 _ hm
    have sh2 : h2.1 ≤ u9.1 := hmo.1
    have th2 : h2.2.1 ≤ u9.2.1 := hmo.2.1
    refine cg_callv hw lh2 (va_runI (As := [.int (2 : Int32), .int v1]) (rest := [.ref y0]) ⟨hx, hb, hml, hown, hts⟩ (w_X5_init l htl eh2) (cw_X5_init hts q627 ⟨Nat.le_of_ble_eq_true rfl, Nat.le_of_ble_eq_true rfl⟩) (cg_preS C hw _) rfl rfl hl.1 rfl (lv_room (Nat.le_of_ble_eq_true rfl)) dX4_lattice_73 ⟨show cc + (h2.1 - h.1) ≤ u9.1 - u.1 by omega, show ss + (h2.2.1 - h.2.1) ≤ u9.2.1 - u.2.1 by omega⟩) (fun H locs hw => ?_)
    exact hB76 h2 y0 _ _ _ _ _ hm hw (by omega) (by omega) (lv_sub hl [] rfl)
  have hB51 : ∀ (h : CH) (x0 : Nat) (x1 : Nat) (y0 : Int64) (cc ss : Nat) (H : Heap) (locs : List Loc) (ls : Array Slot), m_X4_lattice_51 f h x0 x1 y0 = some (r0, u9) → CW D dA A s h H locs → cc + u.1 = h.1 → ss + u.2.1 = h.2.1 → lv_has ls 3 [(0, .ref x0), (1, .ref x1)] → W p l e (rm_X4_lattice (u9.1 - u.1) (u9.2.1 - u.2.1)) s m args below meth c H locs cc ss QQ (F0 m 51 ls [.long y0]) := by
    intro h x0 x1 y0 cc ss H locs ls hm hw hcc hss hl
    have hmo := mo_X4_lattice_51  h x0 x1 y0 _ hm
    have sb_ : h.1 ≤ u9.1 := hmo.1
    have tb_ : h.2.1 ≤ u9.2.1 := hmo.2.1
    rw [m_X4_lattice_51] at hm
    obtain ⟨r1, er1, hm⟩ := bdE hm
    refine scl (va_runS (As := [.long y0]) (rest := []) ⟨hx, hb, hml, hown, hts⟩ (w_J9_abs l er1) (cw_J9_abs hts q796 ⟨Nat.le_of_ble_eq_true rfl, Nat.le_of_ble_eq_true rfl⟩) (pre_s _) rfl rfl hl.1 rfl (lv_room (Nat.le_of_ble_eq_true rfl)) dX4_lattice_51 ⟨show cc + 0 ≤ u9.1 - u.1 by omega, show ss + 0 ≤ u9.2.1 - u.2.1 by omega⟩) ?_
    refine lv_lconst (v := 1) hx hb dX4_lattice_54 (by decide) ?_
    refine lv_ldc2 hx hb hown (hts _ q799) dX4_lattice_55 ?_
    obtain ⟨r2, er2, hm⟩ := bdE hm
    refine sci (va_runSN (As := [.long r1, .long (1 : Int64), .long (60 : Int64)]) (rest := []) ⟨hx, hb, hml, hown, hts⟩ (w_X0_isIn l er2) ⟨va_cnB 3 hts (lw_meth q299) rfl rfl rfl (hw.2.2.2.2.1 _ (List.mem_of_getElem? (i := 65) rfl)) (hts _ q119) (by decide +kernel) ⟨Nat.le_of_ble_eq_true rfl, Nat.le_of_ble_eq_true rfl⟩, hts _ q298, trivial⟩ (pre_s _) rfl rfl hl.1 rfl (lv_room (Nat.le_of_ble_eq_true rfl)) dX4_lattice_58 ⟨show cc + 0 ≤ u9.1 - u.1 by omega, show ss + 0 ≤ u9.2.1 - u.2.1 by omega⟩) ?_
    refine lv_if_ne (tgt := 77) hx hb dX4_lattice_61 (by decide) (fun c3 => ?_) (fun c3 => ?_)
    · have hm := ifT hm c3
      refine lv_aload_n hx hb dX4_lattice_77 rfl (lv_at hl 1 rfl) ?_
      obtain ⟨er, eh⟩ := retE hm
      have ec : cc = u9.1 - u.1 := by rw [← eh]; omega
      have es : ss = u9.2.1 - u.2.1 := by rw [← eh]; omega
      rw [ec, es, ← hQ]
      refine vy_ret ?_
      exact W.aret (v := .ref x1) hx hb hr (Or.inl ⟨_, rfl⟩) (Or.inr ⟨_, rfl⟩) (fun t ht hW => ⟨⟨h, x1, rfl, eh, er.symm, ⟨by rw [ht]; exact hw.1, by rw [ht]; exact hw.2.1⟩⟩, hw.2.2.1.F ht⟩) hw.2.2.1.2.2 dX4_lattice_78
    · have hm := ifT' hm c3
      obtain ⟨h4, eh4, hm⟩ := nmE hm
      obtain ⟨_, _, hmq⟩ := nmE hm
      have hmo := mo_X4_lattice_67   h4 x0 _ _ hmq
      have sh4 : h4.1 ≤ u9.1 := hmo.1
      have th4 : h4.2.1 ≤ u9.2.1 := hmo.2.1
      have zh4 := cn_sz eh4
      refine cg_new (C0 := C) hw (ci := 5) (fs := [.null, .null, .null, .null, .null, .int 0, .int 0, .int 0]) rfl in_X5 tyX5 tyX5_ok q586 q587 q141 (fun j hj => by rcases (show j = 0 ∨ j = 1 ∨ j = 2 ∨ j = 3 ∨ j = 4 ∨ j = 5 ∨ j = 6 ∨ j = 7 by omega) with rfl | rfl | rfl | rfl | rfl | rfl | rfl | rfl <;> rfl) (show cc + 1 ≤ u9.1 - u.1 by omega) (show ss + 8 ≤ u9.2.1 - u.2.1 by omega) dX4_lattice_64 (fun H hw => ?_)
      rw [← eh4] at hw
      refine lv_topr (fun a5 ea5 => ?_)
      have hm := nmK hm ea5
      exact hB67 h4 x0 a5 _ _ _ _ _ hm hw (by omega) (by omega) (lv_sub hl [0] rfl)
  have hB44 : ∀ (h : CH) (x0 : Nat) (x1 : Nat) (cc ss : Nat) (H : Heap) (locs : List Loc) (ls : Array Slot), m_X4_lattice_44 f h x0 x1 = some (r0, u9) → CW D dA A s h H locs → cc + u.1 = h.1 → ss + u.2.1 = h.2.1 → lv_has ls 3 [(0, .ref x0), (1, .ref x1)] → W p l e (rm_X4_lattice (u9.1 - u.1) (u9.2.1 - u.2.1)) s m args below meth c H locs cc ss QQ (F0 m 44 ls []) := by
    intro h x0 x1 cc ss H locs ls hm hw hcc hss hl
    have hmo := mo_X4_lattice_44  h x0 x1 _ hm
    have sb_ : h.1 ≤ u9.1 := hmo.1
    have tb_ : h.2.1 ≤ u9.2.1 := hmo.2.1
    rw [m_X4_lattice_44] at hm
    refine lv_aload_n hx hb dX4_lattice_44 rfl (lv_at hl 1 rfl) ?_
    obtain ⟨a1, ea1, hm⟩ := bdE hm
    refine cg_getN C hw (by decide) (oR_E ea1) rfl in_X6 (by decide) (hw.2.2.2.2.1 _ (List.mem_of_getElem? (i := 66) rfl)) dX4_lattice_45 ?_
    obtain ⟨g2, hm⟩ := gdE hm
    obtain ⟨r4, h3, er4, hm⟩ := bd2E hm
    have lh3 := mo_X2_determinant er4
    have ph3 : h.1 ≤ h3.1 := lh3.1
    have qh3 : h.2.1 ≤ h3.2.1 := lh3.2.1
    have hmo := mo_X4_lattice_51   h3 x0 x1 r4 _ hm
    have sh3 : h3.1 ≤ u9.1 := hmo.1
    have th3 : h3.2.1 ≤ u9.2.1 := hmo.2.1
    refine cg_calll hw lh3 (va_runV (As := []) (rest := []) ⟨hx, hb, hml, hown, hts⟩ (w_X2_determinant l er4) (cw_X2_determinant hts q788 ⟨Nat.le_of_ble_eq_true rfl, Nat.le_of_ble_eq_true rfl⟩) (cg_preV C hw g2 rfl _) rfl rfl hl.1 rfl (lv_room (Nat.le_of_ble_eq_true rfl)) dX4_lattice_48 ⟨show cc + (h3.1 - h.1) ≤ u9.1 - u.1 by omega, show ss + (h3.2.1 - h.2.1) ≤ u9.2.1 - u.2.1 by omega⟩) (fun H locs hw => ?_)
    exact hB51 h3 x0 x1 r4 _ _ _ _ _ hm hw (by omega) (by omega) (lv_sub hl [0, 1] rfl)
  have hB10 : ∀ (n10 : Nat), ∀ (h : CH) (x0 : Nat) (x1 : Nat) (x2 : Int32) (cc ss : Nat) (H : Heap) (locs : List Loc) (ls : Array Slot), m_X4_lattice_10 f n10 h x0 x1 x2 = some (r0, u9) → CW D dA A s h H locs → cc + u.1 = h.1 → ss + u.2.1 = h.2.1 → lv_has ls 3 [(0, .ref x0), (1, .ref x1), (2, .int x2)] → W p l e (rm_X4_lattice (u9.1 - u.1) (u9.2.1 - u.2.1)) s m args below meth c H locs cc ss QQ (F0 m 10 ls []) := by
    intro n10
    induction n10 with
    | zero => intro h x0 x1 x2 cc ss H locs ls hm hw hcc hss hl; rw [m_X4_lattice_10] at hm; exact noE hm
    | succ n10 ih10 =>
      have hB36 : ∀ (h : CH) (x0 : Nat) (x1 : Nat) (x2 : Int32) (y0 : Nat) (y1 : Int32) (y2 : Int32) (cc ss : Nat) (H : Heap) (locs : List Loc) (ls : Array Slot), m_X4_lattice_36 f (m_X4_lattice_10 f n10) h x0 x1 x2 y0 y1 y2 = some (r0, u9) → CW D dA A s h H locs → cc + u.1 = h.1 → ss + u.2.1 = h.2.1 → lv_has ls 3 [(0, .ref x0), (1, .ref x1), (2, .int x2)] → W p l e (rm_X4_lattice (u9.1 - u.1) (u9.2.1 - u.2.1)) s m args below meth c H locs cc ss QQ (F0 m 36 ls [.int y2, .int y1, .ref y0]) := by
        intro h x0 x1 x2 y0 y1 y2 cc ss H locs ls hm hw hcc hss hl
        have hmo := mo_X4_lattice_36 (mo_X4_lattice_10 n10) h x0 x1 x2 y0 y1 y2 _ hm
        have sb_ : h.1 ≤ u9.1 := hmo.1
        have tb_ : h.2.1 ≤ u9.2.1 := hmo.2.1
        rw [m_X4_lattice_36] at hm
        refine lv_i2l hx hb dX4_lattice_36 rfl ?_
        obtain ⟨h1, eh1, hm⟩ := bdE hm
        refine cg_last C hw eh1 dX4_lattice_37 (fun H locs hw => ?_)
        have zh1 := uL_sz eh1
        obtain ⟨v2, ev2, hm⟩ := nmE hm
        refine lv_iinc (v := v2) (lv' := [(2, .int v2), (0, .ref x0), (1, .ref x1)]) hx hb dX4_lattice_38 hl (k := 2) rfl (by rw [ev2]; rfl) (by decide) rfl (fun ls hl => ?_)
        refine lv_goto (tgt := 10) hx hb dX4_lattice_41 (by decide) ?_
        exact ih10 h1 x0 x1 v2 _ _ _ _ _ hm hw (by omega) (by omega) (lv_sub hl [1, 2, 0] rfl)
      intro h x0 x1 x2 cc ss H locs ls hm hw hcc hss hl
      have hmo := mo_X4_lattice_10  (n10 + 1) h x0 x1 x2 _ hm
      have sb_ : h.1 ≤ u9.1 := hmo.1
      have tb_ : h.2.1 ≤ u9.2.1 := hmo.2.1
      rw [m_X4_lattice_10] at hm
      refine lv_iload_n hx hb dX4_lattice_10 rfl (lv_at hl 2 rfl) ?_
      refine lv_bipush (v := 9) hx hb dX4_lattice_11 (by decide) ?_
      refine lv_icmp_ge (tgt := 44) hx hb dX4_lattice_13 (by decide) (fun c1 => ?_) (fun c1 => ?_)
      · have hm := ifT hm c1
        exact hB44 h x0 x1 _ _ _ _ _ hm hw (by omega) (by omega) (lv_sub hl [0, 1] rfl)
      · have hm := ifF hm c1
        refine lv_aload_n hx hb dX4_lattice_16 rfl (lv_at hl 1 rfl) ?_
        obtain ⟨a2, ea2, hm⟩ := bdE hm
        refine cg_getN C hw (by decide) (oR_E ea2) rfl in_X6 (by decide) (hw.2.2.2.2.1 _ (List.mem_of_getElem? (i := 66) rfl)) dX4_lattice_17 ?_
        obtain ⟨a3, ea3, hm⟩ := bdE hm
        refine cg_getN C hw (by decide) (oR_E ea3) rfl in_X2 (by decide) (hw.2.2.2.2.1 _ (List.mem_of_getElem? (i := 62) rfl)) dX4_lattice_20 ?_
        refine lv_iload_n hx hb dX4_lattice_23 rfl (lv_at hl 2 rfl) ?_
        refine lv_iconst (v := 3) hx hb dX4_lattice_24 (by decide) ?_
        refine lv_idiv hx hb dX4_lattice_25 (by decide) ?_
        obtain ⟨a4, ea4, hm⟩ := bdE hm
        refine cg_aaldA C hw (ty := .array .long) rfl rfl (aR_E ea4) dX4_lattice_26 ?_
        refine lv_iload_n hx hb dX4_lattice_27 rfl (lv_at hl 2 rfl) ?_
        refine lv_iconst (v := 3) hx hb dX4_lattice_28 (by decide) ?_
        refine w_irem hx hb dX4_lattice_29 (by decide) ?_
        refine lv_aload_n hx hb dX4_lattice_30 rfl (lv_at hl 0 rfl) ?_
        refine lv_bipush (v := 6) hx hb dX4_lattice_31 (by decide) ?_
        obtain ⟨g5, hm⟩ := gdE hm
        rcases bxE hm with ⟨r7, h6, eh6, hm⟩ | ⟨q8, h6, eh6, hm⟩
        · have lh6 := mo_X4_signed eh6
          have ph6 : h.1 ≤ h6.1 := lh6.1
          have qh6 : h.2.1 ≤ h6.2.1 := lh6.2.1
          have hmo := mo_X4_lattice_36 (mo_X4_lattice_10 n10)  h6 x0 x1 x2 a4 (rmI x2 (3 : Int32)) r7 _ hm
          have sh6 : h6.1 ≤ u9.1 := hmo.1
          have th6 : h6.2.1 ≤ u9.2.1 := hmo.2.1
          refine cx_calli hw lh6 (vy_runV (As := [.int (6 : Int32)]) (rest := [.int (rmI x2 (3 : Int32)), .ref a4]) ⟨hx, hb, hml, hown, hts⟩ (w_X4_signed l htl eh6) (cw_X4_signed hts q742 ⟨Nat.le_of_ble_eq_true rfl, Nat.le_of_ble_eq_true rfl⟩) (cg_preV C hw g5 rfl _) rfl rfl hl.1 rfl (lv_room (Nat.le_of_ble_eq_true rfl)) dX4_lattice_33 ⟨show cc + (h6.1 - h.1) ≤ u9.1 - u.1 by omega, show ss + (h6.2.1 - h.2.1) ≤ u9.2.1 - u.2.1 by omega⟩) (fun H locs hw => ?_)
          exact hB36 h6 x0 x1 x2 a4 (rmI x2 (3 : Int32)) r7 _ _ _ _ _ hm hw (by omega) (by omega) (lv_sub hl [0, 1, 2] rfl)
        · have lh6 := mo_X4_signed eh6
          have ph6 : h.1 ≤ h6.1 := lh6.1
          have qh6 : h.2.1 ≤ h6.2.1 := lh6.2.1
          obtain ⟨g9, hm⟩ := gdE hm
          have sh6 : h6.1 ≤ u9.1 := by rw [← (retE hm).2]; exact Nat.le_refl _
          have th6 : h6.2.1 ≤ u9.2.1 := by rw [← (retE hm).2]; exact Nat.le_refl _
          refine cx_callX hw lh6 noQi (vy_runV (As := [.int (6 : Int32)]) (rest := [.int (rmI x2 (3 : Int32)), .ref a4]) ⟨hx, hb, hml, hown, hts⟩ (w_X4_signed l htl eh6) (cw_X4_signed hts q742 ⟨Nat.le_of_ble_eq_true rfl, Nat.le_of_ble_eq_true rfl⟩) (cg_preV C hw g5 rfl _) rfl rfl hl.1 rfl (lv_room (Nat.le_of_ble_eq_true rfl)) dX4_lattice_33 ⟨show cc + (h6.1 - h.1) ≤ u9.1 - u.1 by omega, show ss + (h6.2.1 - h.2.1) ≤ u9.2.1 - u.2.1 by omega⟩) (fun H locs hw => ?_)
          obtain ⟨er, eh⟩ := retE hm
          rw [← hQ]
          exact cx_out C hw g9 (by decide) rfl er eh (fun x hx => (htab x hx).elim) hlocks (by rw [← eh]; omega) (by rw [← eh]; omega)
  have hB7 : ∀ (h : CH) (x0 : Nat) (y0 : Nat) (cc ss : Nat) (H : Heap) (locs : List Loc) (ls : Array Slot), m_X4_lattice_7 f h x0 y0 = some (r0, u9) → CW D dA A s h H locs → cc + u.1 = h.1 → ss + u.2.1 = h.2.1 → lv_has ls 3 [(0, .ref x0)] → W p l e (rm_X4_lattice (u9.1 - u.1) (u9.2.1 - u.2.1)) s m args below meth c H locs cc ss QQ (F0 m 7 ls [.ref y0]) := by
    intro h x0 y0 cc ss H locs ls hm hw hcc hss hl
    have hmo := mo_X4_lattice_7  h x0 y0 _ hm
    have sb_ : h.1 ≤ u9.1 := hmo.1
    have tb_ : h.2.1 ≤ u9.2.1 := hmo.2.1
    rw [m_X4_lattice_7] at hm
    refine lv_astore_n (lv' := [(1, .ref y0), (0, .ref x0)]) hx hb dX4_lattice_7 rfl hl (by decide) rfl (fun ls hl => ?_)
    refine lv_iconst (v := 0) hx hb dX4_lattice_8 (by decide) ?_
    refine lv_istore_n (lv' := [(2, .int (0 : Int32)), (1, .ref y0), (0, .ref x0)]) hx hb dX4_lattice_9 rfl hl (by decide) rfl (fun ls hl => ?_)
    exact hB10 f h x0 y0 (0 : Int32) _ _ _ _ _ hm hw (by omega) (by omega) (lv_sub hl [2, 1, 0] rfl)
  have hB3 : ∀ (h : CH) (x0 : Nat) (y0 : Nat) (cc ss : Nat) (H : Heap) (locs : List Loc) (ls : Array Slot), m_X4_lattice_3 f h x0 y0 = some (r0, u9) → CW D dA A s h H locs → cc + u.1 = h.1 → ss + u.2.1 = h.2.1 → lv_has ls 3 [(0, .ref x0)] → W p l e (rm_X4_lattice (u9.1 - u.1) (u9.2.1 - u.2.1)) s m args below meth c H locs cc ss QQ (F0 m 3 ls [.ref y0]) := by
    intro h x0 y0 cc ss H locs ls hm hw hcc hss hl
    have hmo := mo_X4_lattice_3  h x0 y0 _ hm
    have sb_ : h.1 ≤ u9.1 := hmo.1
    have tb_ : h.2.1 ≤ u9.2.1 := hmo.2.1
    rw [m_X4_lattice_3] at hm
    refine lv_dup hx hb dX4_lattice_3 rfl ?_
    obtain ⟨h1, eh1, hm⟩ := bdE hm
    have lh1 := mo_X6_init eh1
    have ph1 : h.1 ≤ h1.1 := lh1.1
    have qh1 : h.2.1 ≤ h1.2.1 := lh1.2.1
    have hmo := mo_X4_lattice_7   h1 x0 y0 _ hm
    have sh1 : h1.1 ≤ u9.1 := hmo.1
    have th1 : h1.2.1 ≤ u9.2.1 := hmo.2.1
    refine cg_callv hw lh1 (va_runIN (As := []) (rest := [.ref y0]) ⟨hx, hb, hml, hown, hts⟩ (w_X6_init l eh1) ⟨va_cnB 0 hts (lw_meth q753) rfl rfl rfl (hw.2.2.2.2.1 _ (List.mem_of_getElem? (i := 67) rfl)) (hts _ q143) (by decide +kernel) ⟨Nat.le_of_ble_eq_true rfl, Nat.le_of_ble_eq_true rfl⟩, rfl, hts _ q752⟩ (cg_preS C hw _) rfl rfl hl.1 rfl (lv_room (Nat.le_of_ble_eq_true rfl)) dX4_lattice_4 ⟨show cc + (h1.1 - h.1) ≤ u9.1 - u.1 by omega, show ss + (h1.2.1 - h.2.1) ≤ u9.2.1 - u.2.1 by omega⟩) (fun H locs hw => ?_)
    exact hB7 h1 x0 y0 _ _ _ _ _ hm hw (by omega) (by omega) (lv_sub hl [0] rfl)
  rw [m_X4_lattice] at hm
  obtain ⟨h1, eh1, hm⟩ := nmE hm
  obtain ⟨_, _, hmq⟩ := nmE hm
  have hmo := mo_X4_lattice_3   h1 x0 _ _ hmq
  have sh1 : h1.1 ≤ u9.1 := hmo.1
  have th1 : h1.2.1 ≤ u9.2.1 := hmo.2.1
  have zh1 := cn_sz eh1
  refine cg_new (C0 := C) hw (ci := 6) (fs := [.null]) rfl in_X6 tyX6 tyX6_ok q733 q784 q143 (fun j hj => by rcases (show j = 0 by omega) with rfl <;> rfl) (show cc + 1 ≤ u9.1 - u.1 by omega) (show ss + 1 ≤ u9.2.1 - u.2.1 by omega) dX4_lattice_0 (fun H hw => ?_)
  rw [← eh1] at hw
  refine lv_topr (fun a2 ea2 => ?_)
  have hm := nmK hm ea2
  exact hB3 h1 x0 a2 _ _ _ _ _ hm hw (by omega) (by omega) (lv_sub hl [0] rfl)
def m_J10_copyOf_3_10 (f : Nat) (h : CH) (x0 : Nat) (x1 : Int32) (y0 : Nat) : Option (Nat × CH) := bd (aN h 3 x0) fun n1 =>
    bd (m_J9_min f (Int32.ofNat n1) x1) fun r2 =>
    bd (cpO h x0 (0 : Int32) y0 (0 : Int32) r2) fun h3 =>
    some (y0, h3)
theorem mo_J10_copyOf_3_10 {f : Nat} : ∀ (h : CH) (x0 : Nat) (x1 : Int32) (y0 : Nat) (r : (Nat × CH)), m_J10_copyOf_3_10 f h x0 x1 y0 = some r → le2 h r.2 := by
  intro h x0 x1 y0 r hm
  rw [m_J10_copyOf_3_10] at hm
  obtain ⟨n1, en1, hm⟩ := bdE hm
  obtain ⟨r2, er2, hm⟩ := bdE hm
  obtain ⟨h3, eh3, hm⟩ := bdE hm
  have lh3 := cpO_le eh3
  cases hm
  exact (lh3.tr le2.rf)
def m_J10_copyOf_3 (f : Nat) (u : CH) (x0 : Nat) (x1 : Int32) (x2 : Nat) : Option (Nat × CH) := bd (sR u 40) fun a1 =>
    if ¬ x2 = a1 then
    none
    else gd (cntok x1) <|
    nmv (cn u (Int32.toNatClampNeg x1) (.inr (3, (Int32.toNatClampNeg x1), .inr (.inr (fun _ => none))))) fun h3 =>
    nmv (u.1 : Nat) fun a5 =>
    m_J10_copyOf_3_10 f h3 x0 x1 a5
theorem mo_J10_copyOf_3 {f : Nat} {u : CH} {x0 : Nat} {x1 : Int32} {x2 : Nat} {r0 : Nat} {u9 : CH} (hm : m_J10_copyOf_3 f u x0 x1 x2 = some (r0, u9)) : le2 u u9 := by
  rw [m_J10_copyOf_3] at hm
  obtain ⟨a1, ea1, hm⟩ := bdE hm
  by_cases c2 : ¬ x2 = a1
  · have hm := ifT hm c2
    exact noE hm
  · have hm := ifF hm c2
    obtain ⟨g4, hm⟩ := gdE hm
    obtain ⟨h3, eh3, hm⟩ := nmE hm
    have lh3 := cn_le eh3
    obtain ⟨a5, ea5, hm⟩ := nmE hm
    exact (lh3.tr (mo_J10_copyOf_3_10  h3 x0 x1 a5 _ hm))
abbrev rm_J10_copyOf_3 (mc ms : Nat) : Room := { frames := 1, cells := mc, slots := ms, locals := 60 }
theorem cw_J10_copyOf_3 {R : Room} {s : State} {args : Array Value} {own : String} {idx mc ms : Nat} (hts : ∀ w ∈ lw_all, w.before args s = true) (hl : Cond.methodLink own idx yJ10_copyOf_3 ∈ lw_all) (hR : 1 + 1 ≤ R.frames ∧ 8 + (4 + 11) + 60 ≤ R.locals) : CallB R s args own idx yJ10_copyOf_3 cJ10_copyOf_3 4 (Option.some (Jvm.ClassFile.FieldType.array (Jvm.ClassFile.FieldType.object "java/lang/Object"))) (ws_ yJ10_copyOf_3 cJ10_copyOf_3 4 (Option.some (Jvm.ClassFile.FieldType.array (Jvm.ClassFile.FieldType.object "java/lang/Object")))) (rm_J10_copyOf_3 mc ms) mc ms 3 ∧ (Cond.static yJ10_copyOf_3).before args s = true := va_cwS 3 hts (lw_S hl q848 q135 q849) rfl rfl rfl (by decide +kernel) hR
set_option maxHeartbeats 4000000 in
set_option maxRecDepth 100000 in
theorem w_J10_copyOf_3 (l : Launch) {D : va_G} {dA : Nat → ClassId} {A : Nat → Prop} {f : Nat} {u u9 : CH} {r0 : Nat} {x0 : Nat} {x1 : Int32} {x2 : Nat} (hm : m_J10_copyOf_3 f u x0 x1 x2 = some (r0, u9)) : Met l yJ10_copyOf_3 (ws_ yJ10_copyOf_3 cJ10_copyOf_3 4 (Option.some (Jvm.ClassFile.FieldType.array (Jvm.ClassFile.FieldType.object "java/lang/Object")))) (rm_J10_copyOf_3 (u9.1 - u.1) (u9.2.1 - u.2.1)) (va_Pc [.ref x0, .int x1, .ref x2] (CPre D dA A u)) (va_Qr (fun u => u = u9) (fun u r t => r = r0 ∧ CPost D dA A u t) A) (u9.1 - u.1) (u9.2.1 - u.2.1) A := by
  refine metOfWF (cc := cJ10_copyOf_3) (maxL := 4) (ret := (Option.some (Jvm.ClassFile.FieldType.array (Jvm.ClassFile.FieldType.object "java/lang/Object")))) (by decide +kernel) rfl ?_
  intro p e s m args below meth c s₁ B hml hv
  have hx := B.exec
  have hb := B.bytes
  have hr := B.returns
  have hts := atoms_spec (ws := (ws_ yJ10_copyOf_3 cJ10_copyOf_3 4 (Option.some (Jvm.ClassFile.FieldType.array (Jvm.ClassFile.FieldType.object "java/lang/Object"))))) B.pre
  have hts : ∀ w ∈ lw_all, w.before args s = true := fun w h => hts w (List.mem_cons_of_mem _ h)
  have hown : s.vm.findClass RJ10 = some m.cls := findClass_of_methodNamed B.named
  have hlocks := B.notSynchronized
  obtain ⟨hav, hv⟩ := hv
  have C : CX p s m args c cJ10_copyOf_3 RJ10 D dA := ⟨hx, hb, hown, hts, hv.2⟩
  have hw : CW D dA A s u s.heap [] := hv.1
  generalize hQ : MQ below (va_Qr (fun u => u = u9) (fun u r t => r = r0 ∧ CPost D dA A u t) A) args s (u9.1 - u.1) (u9.2.1 - u.2.1) A = QQ
  have hent := lg_entry_eq m [.ref x0, .int x1, .ref x2] 4
  rw [← hav] at hent
  rw [hent]
  have hl := lv_entry ([.ref x0, .int x1, .ref x2]) (n := 4) (Nat.le_of_ble_eq_true rfl)
  generalize (lg_sl ([.ref x0, .int x1, .ref x2]) ++ List.replicate (4 - (lg_sl ([.ref x0, .int x1, .ref x2])).length) Slot.unset).toArray = ls at hl ⊢
  have hl : lv_has ls 4 [(0, .ref x0), (1, .int x1), (2, .ref x2)] := hl
  obtain ⟨cc, ecc⟩ : ∃ z : Nat, z = 0 := ⟨0, rfl⟩
  obtain ⟨ss, ess⟩ : ∃ z : Nat, z = 0 := ⟨0, rfl⟩
  have hcc : cc + u.1 = u.1 := by omega
  have hss : ss + u.2.1 = u.2.1 := by omega
  suffices hgo : W p l e (rm_J10_copyOf_3 (u9.1 - u.1) (u9.2.1 - u.2.1)) s m args below meth c s.heap [] cc ss QQ (F0 m 0 ls []) by rw [ecc, ess] at hgo; exact hgo
  have ⟨pu, qu, _, _⟩ := mo_J10_copyOf_3 hm
  have hB10 : ∀ (h : CH) (x0 : Nat) (x1 : Int32) (y0 : Nat) (cc ss : Nat) (H : Heap) (locs : List Loc) (ls : Array Slot), m_J10_copyOf_3_10 f h x0 x1 y0 = some (r0, u9) → CW D dA A s h H locs → cc + u.1 = h.1 → ss + u.2.1 = h.2.1 → lv_has ls 4 [(0, .ref x0), (1, .int x1)] → W p l e (rm_J10_copyOf_3 (u9.1 - u.1) (u9.2.1 - u.2.1)) s m args below meth c H locs cc ss QQ (F0 m 10 ls [.ref y0]) := by
    intro h x0 x1 y0 cc ss H locs ls hm hw hcc hss hl
    have hmo := mo_J10_copyOf_3_10  h x0 x1 y0 _ hm
    have sb_ : h.1 ≤ u9.1 := hmo.1
    have tb_ : h.2.1 ≤ u9.2.1 := hmo.2.1
    rw [m_J10_copyOf_3_10] at hm
    refine lv_goto (tgt := 24) hx hb dJ10_copyOf_3_10 (by decide) ?_
    refine lv_astore_n (lv' := [(3, .ref y0), (0, .ref x0), (1, .int x1)]) hx hb dJ10_copyOf_3_24 rfl hl (by decide) rfl (fun ls hl => ?_)
    refine lv_aload_n hx hb dJ10_copyOf_3_25 rfl (lv_at hl 1 rfl) ?_
    refine lv_iconst (v := 0) hx hb dJ10_copyOf_3_26 (by decide) ?_
    refine lv_aload_n hx hb dJ10_copyOf_3_27 rfl (lv_at hl 0 rfl) ?_
    refine lv_iconst (v := 0) hx hb dJ10_copyOf_3_28 (by decide) ?_
    refine lv_aload_n hx hb dJ10_copyOf_3_29 rfl (lv_at hl 1 rfl) ?_
    obtain ⟨n1, en1, hm⟩ := bdE hm
    refine cg_alen C hw (ty := .object "java/lang/Object") rfl en1 dJ10_copyOf_3_30 ?_
    refine lv_iload_n hx hb dJ10_copyOf_3_31 rfl (lv_at hl 2 rfl) ?_
    obtain ⟨r2, er2, hm⟩ := bdE hm
    refine sci (va_runS (As := [.int (Int32.ofNat n1), .int x1]) (rest := [.int (0 : Int32), .ref y0, .int (0 : Int32), .ref x0]) ⟨hx, hb, hml, hown, hts⟩ (w_J9_min l er2) (cw_J9_min hts q431 ⟨Nat.le_of_ble_eq_true rfl, Nat.le_of_ble_eq_true rfl⟩) (pre_s _) rfl rfl hl.1 rfl (lv_room (Nat.le_of_ble_eq_true rfl)) dJ10_copyOf_3_32 ⟨show cc + 0 ≤ u9.1 - u.1 by omega, show ss + 0 ≤ u9.2.1 - u.2.1 by omega⟩) ?_
    obtain ⟨h3, eh3, hm⟩ := bdE hm
    refine cg_copyO C hw (hml.trans hl.1.symm) q434 q436 q435 q136 eh3 (Nat.le_of_ble_eq_true rfl) (Nat.le_of_ble_eq_true rfl) dJ10_copyOf_3_35 (fun H locs hw => ?_)
    have zh3 := cpO_sz eh3
    refine lv_aload_n hx hb dJ10_copyOf_3_38 rfl (lv_at hl 0 rfl) ?_
    obtain ⟨er, eh⟩ := retE hm
    have ec : cc = u9.1 - u.1 := by rw [← eh]; omega
    have es : ss = u9.2.1 - u.2.1 := by rw [← eh]; omega
    rw [ec, es, ← hQ]
    exact W.aret (v := .ref y0) hx hb hr (Or.inr ⟨_, rfl⟩) (Or.inr ⟨_, rfl⟩) (fun t ht hW => ⟨⟨h3, y0, rfl, eh, er, ⟨by rw [ht]; exact hw.1, by rw [ht]; exact hw.2.1⟩⟩, hw.2.2.1.F ht⟩) hw.2.2.1.2.2 dJ10_copyOf_3_39
  rw [m_J10_copyOf_3] at hm
  refine lv_aload_n hx hb dJ10_copyOf_3_0 rfl (lv_at hl 2 rfl) ?_
  obtain ⟨a1, ea1, hm⟩ := bdE hm
  refine cg_ldcM C hw ea1 q850 dJ10_copyOf_3_1 ?_
  refine cg_acmp_ne (tgt := 13) hx hb dJ10_copyOf_3_3 (by decide) (fun c2 => ?_) (fun c2 => ?_)
  · have hm := ifT hm c2
    refine lv_aload_n hx hb dJ10_copyOf_3_13 rfl (lv_at hl 2 rfl) ?_
    exact noE hm
  · have hm := ifT' hm c2
    refine lv_iload_n hx hb dJ10_copyOf_3_6 rfl (lv_at hl 1 rfl) ?_
    obtain ⟨g4, hm⟩ := gdE hm
    obtain ⟨h3, eh3, hm⟩ := nmE hm
    obtain ⟨_, _, hmq⟩ := nmE hm
    have hmo := mo_J10_copyOf_3_10   h3 x0 x1 _ _ hmq
    have sh3 : h3.1 ≤ u9.1 := hmo.1
    have th3 : h3.2.1 ≤ u9.2.1 := hmo.2.1
    have zh3 := cn_sz eh3
    refine cg_anewO (C0 := C) hw (N := (Int32.toNatClampNeg x1)) q851 (hw.2.2.2.2.1 _ (List.mem_of_getElem? (i := 91) rfl)) (cntok_nn g4) rfl (cntok_le g4) (show cc + 1 ≤ u9.1 - u.1 by omega) (show ss + (Int32.toNatClampNeg x1) ≤ u9.2.1 - u.2.1 by omega) dJ10_copyOf_3_7 (fun H hw => ?_)
    rw [← eh3] at hw
    refine lv_topr (fun a5 ea5 => ?_)
    have hm := nmK hm ea5
    exact hB10 h3 x0 x1 a5 _ _ _ _ _ hm hw (by omega) (by omega) (lv_sub hl [0, 1] rfl)
def m_J10_copyOf_2_9 (f : Nat) (h : CH) (y0 : Nat) : Option (Nat × CH) := some (y0, h)
theorem mo_J10_copyOf_2_9 {f : Nat} : ∀ (h : CH) (y0 : Nat) (r : (Nat × CH)), m_J10_copyOf_2_9 f h y0 = some r → le2 h r.2 := by
  intro h y0 r hm
  rw [m_J10_copyOf_2_9] at hm
  cases hm
  exact le2.rf
def m_J10_copyOf_2 (f : Nat) (u : CH) (x0 : Nat) (x1 : Int32) : Option (Nat × CH) := gd (isA3 u x0) <|
    bd (sR u 40) fun a2 =>
    bd2 (m_J10_copyOf_3 f u x0 x1 a2) fun a4 h3 =>
    m_J10_copyOf_2_9 f h3 a4
theorem mo_J10_copyOf_2 {f : Nat} {u : CH} {x0 : Nat} {x1 : Int32} {r0 : Nat} {u9 : CH} (hm : m_J10_copyOf_2 f u x0 x1 = some (r0, u9)) : le2 u u9 := by
  rw [m_J10_copyOf_2] at hm
  obtain ⟨g1, hm⟩ := gdE hm
  obtain ⟨a2, ea2, hm⟩ := bdE hm
  obtain ⟨a4, h3, ea4, hm⟩ := bd2E hm
  have lh3 := mo_J10_copyOf_3 ea4
  exact (lh3.tr (mo_J10_copyOf_2_9  h3 a4 _ hm))
abbrev rm_J10_copyOf_2 (mc ms : Nat) : Room := { frames := 2, cells := mc, slots := ms, locals := 83 }
theorem cw_J10_copyOf_2 {R : Room} {s : State} {args : Array Value} {own : String} {idx mc ms : Nat} (hts : ∀ w ∈ lw_all, w.before args s = true) (hl : Cond.methodLink own idx yJ10_copyOf_2 ∈ lw_all) (hR : 2 + 1 ≤ R.frames ∧ 8 + (2 + 11) + 83 ≤ R.locals) : CallB R s args own idx yJ10_copyOf_2 cJ10_copyOf_2 2 (Option.some (Jvm.ClassFile.FieldType.array (Jvm.ClassFile.FieldType.object "java/lang/Object"))) (ws_ yJ10_copyOf_2 cJ10_copyOf_2 2 (Option.some (Jvm.ClassFile.FieldType.array (Jvm.ClassFile.FieldType.object "java/lang/Object")))) (rm_J10_copyOf_2 mc ms) mc ms 2 ∧ (Cond.static yJ10_copyOf_2).before args s = true := va_cwS 2 hts (lw_S hl q820 q135 q821) rfl rfl rfl (by decide +kernel) hR
set_option maxHeartbeats 4000000 in
set_option maxRecDepth 100000 in
theorem w_J10_copyOf_2 (l : Launch) {D : va_G} {dA : Nat → ClassId} {A : Nat → Prop} {f : Nat} {u u9 : CH} {r0 : Nat} {x0 : Nat} {x1 : Int32} (hm : m_J10_copyOf_2 f u x0 x1 = some (r0, u9)) : Met l yJ10_copyOf_2 (ws_ yJ10_copyOf_2 cJ10_copyOf_2 2 (Option.some (Jvm.ClassFile.FieldType.array (Jvm.ClassFile.FieldType.object "java/lang/Object")))) (rm_J10_copyOf_2 (u9.1 - u.1) (u9.2.1 - u.2.1)) (va_Pc [.ref x0, .int x1] (CPre D dA A u)) (va_Qr (fun u => u = u9) (fun u r t => r = r0 ∧ CPost D dA A u t) A) (u9.1 - u.1) (u9.2.1 - u.2.1) A := by
  refine metOfWF (cc := cJ10_copyOf_2) (maxL := 2) (ret := (Option.some (Jvm.ClassFile.FieldType.array (Jvm.ClassFile.FieldType.object "java/lang/Object")))) (by decide +kernel) rfl ?_
  intro p e s m args below meth c s₁ B hml hv
  have hx := B.exec
  have hb := B.bytes
  have hr := B.returns
  have hts := atoms_spec (ws := (ws_ yJ10_copyOf_2 cJ10_copyOf_2 2 (Option.some (Jvm.ClassFile.FieldType.array (Jvm.ClassFile.FieldType.object "java/lang/Object"))))) B.pre
  have hts : ∀ w ∈ lw_all, w.before args s = true := fun w h => hts w (List.mem_cons_of_mem _ h)
  have hown : s.vm.findClass RJ10 = some m.cls := findClass_of_methodNamed B.named
  have hlocks := B.notSynchronized
  obtain ⟨hav, hv⟩ := hv
  have C : CX p s m args c cJ10_copyOf_2 RJ10 D dA := ⟨hx, hb, hown, hts, hv.2⟩
  have hw : CW D dA A s u s.heap [] := hv.1
  generalize hQ : MQ below (va_Qr (fun u => u = u9) (fun u r t => r = r0 ∧ CPost D dA A u t) A) args s (u9.1 - u.1) (u9.2.1 - u.2.1) A = QQ
  have hent := lg_entry_eq m [.ref x0, .int x1] 2
  rw [← hav] at hent
  rw [hent]
  have hl := lv_entry ([.ref x0, .int x1]) (n := 2) (Nat.le_of_ble_eq_true rfl)
  generalize (lg_sl ([.ref x0, .int x1]) ++ List.replicate (2 - (lg_sl ([.ref x0, .int x1])).length) Slot.unset).toArray = ls at hl ⊢
  have hl : lv_has ls 2 [(0, .ref x0), (1, .int x1)] := hl
  obtain ⟨cc, ecc⟩ : ∃ z : Nat, z = 0 := ⟨0, rfl⟩
  obtain ⟨ss, ess⟩ : ∃ z : Nat, z = 0 := ⟨0, rfl⟩
  have hcc : cc + u.1 = u.1 := by omega
  have hss : ss + u.2.1 = u.2.1 := by omega
  suffices hgo : W p l e (rm_J10_copyOf_2 (u9.1 - u.1) (u9.2.1 - u.2.1)) s m args below meth c s.heap [] cc ss QQ (F0 m 0 ls []) by rw [ecc, ess] at hgo; exact hgo
  have ⟨pu, qu, _, _⟩ := mo_J10_copyOf_2 hm
  have hB9 : ∀ (h : CH) (y0 : Nat) (cc ss : Nat) (H : Heap) (locs : List Loc) (ls : Array Slot), m_J10_copyOf_2_9 f h y0 = some (r0, u9) → CW D dA A s h H locs → cc + u.1 = h.1 → ss + u.2.1 = h.2.1 → lv_has ls 2 [] → W p l e (rm_J10_copyOf_2 (u9.1 - u.1) (u9.2.1 - u.2.1)) s m args below meth c H locs cc ss QQ (F0 m 9 ls [.ref y0]) := by
    intro h y0 cc ss H locs ls hm hw hcc hss hl
    have hmo := mo_J10_copyOf_2_9  h y0 _ hm
    have sb_ : h.1 ≤ u9.1 := hmo.1
    have tb_ : h.2.1 ≤ u9.2.1 := hmo.2.1
    rw [m_J10_copyOf_2_9] at hm
    obtain ⟨er, eh⟩ := retE hm
    have ec : cc = u9.1 - u.1 := by rw [← eh]; omega
    have es : ss = u9.2.1 - u.2.1 := by rw [← eh]; omega
    rw [ec, es, ← hQ]
    exact W.aret (v := .ref y0) hx hb hr (Or.inr ⟨_, rfl⟩) (Or.inr ⟨_, rfl⟩) (fun t ht hW => ⟨⟨h, y0, rfl, eh, er, ⟨by rw [ht]; exact hw.1, by rw [ht]; exact hw.2.1⟩⟩, hw.2.2.1.F ht⟩) hw.2.2.1.2.2 dJ10_copyOf_2_9
  rw [m_J10_copyOf_2] at hm
  refine lv_aload_n hx hb dJ10_copyOf_2_0 rfl (lv_at hl 0 rfl) ?_
  refine lv_iload_n hx hb dJ10_copyOf_2_1 rfl (lv_at hl 1 rfl) ?_
  refine lv_aload_n hx hb dJ10_copyOf_2_2 rfl (lv_at hl 0 rfl) ?_
  obtain ⟨g1, hm⟩ := gdE hm
  obtain ⟨a2, ea2, hm⟩ := bdE hm
  refine cg_getC C hw (hml.trans hl.1.symm) g1 ea2 q822 (hw.2.2.2.2.1 _ (List.mem_of_getElem? (i := 7) rfl)) q2218 q823 q846 (Nat.le_of_ble_eq_true rfl) (Nat.le_of_ble_eq_true rfl) dJ10_copyOf_2_3 ?_
  obtain ⟨a4, h3, ea4, hm⟩ := bd2E hm
  have lh3 := mo_J10_copyOf_3 ea4
  have ph3 : u.1 ≤ h3.1 := lh3.1
  have qh3 : u.2.1 ≤ h3.2.1 := lh3.2.1
  have hmo := mo_J10_copyOf_2_9   h3 a4 _ hm
  have sh3 : h3.1 ≤ u9.1 := hmo.1
  have th3 : h3.2.1 ≤ u9.2.1 := hmo.2.1
  refine cg_callr hw lh3 (va_runS (As := [.ref x0, .int x1, .ref a2]) (rest := []) ⟨hx, hb, hml, hown, hts⟩ (w_J10_copyOf_3 l ea4) (cw_J10_copyOf_3 hts q847 ⟨Nat.le_of_ble_eq_true rfl, Nat.le_of_ble_eq_true rfl⟩) (cg_preS C hw _) rfl rfl hl.1 rfl (lv_room (Nat.le_of_ble_eq_true rfl)) dJ10_copyOf_2_6 ⟨show cc + (h3.1 - u.1) ≤ u9.1 - u.1 by omega, show ss + (h3.2.1 - u.2.1) ≤ u9.2.1 - u.2.1 by omega⟩) (fun H locs hw => ?_)
  exact hB9 h3 a4 _ _ _ _ _ hm hw (by omega) (by omega) (lv_sub hl [] rfl)
def m_J2_grow_2_40 (f : Nat) (h : CH) (y0 : Nat) (y1 : Nat) : Option (Nat × CH) := bd (pF h 17 1 y0 (.ref y1)) fun h1 =>
    some (y1, h1)
theorem mo_J2_grow_2_40 {f : Nat} : ∀ (h : CH) (y0 : Nat) (y1 : Nat) (r : (Nat × CH)), m_J2_grow_2_40 f h y0 y1 = some r → le2 h r.2 := by
  intro h y0 y1 r hm
  rw [m_J2_grow_2_40] at hm
  obtain ⟨h1, eh1, hm⟩ := bdE hm
  have lh1 := pF_le eh1
  cases hm
  exact (lh1.tr le2.rf)
def m_J2_grow_2_30 (f : Nat) (h : CH) (x0 : Nat) (y0 : Int32) : Option (Nat × CH) := bd (oR h 17 1 x0) fun a1 =>
    bd2 (m_J10_copyOf_2 f h a1 y0) fun a3 h2 =>
    m_J2_grow_2_40 f h2 x0 a3
theorem mo_J2_grow_2_30 {f : Nat} : ∀ (h : CH) (x0 : Nat) (y0 : Int32) (r : (Nat × CH)), m_J2_grow_2_30 f h x0 y0 = some r → le2 h r.2 := by
  intro h x0 y0 r hm
  rw [m_J2_grow_2_30] at hm
  obtain ⟨a1, ea1, hm⟩ := bdE hm
  obtain ⟨a3, h2, ea3, hm⟩ := bd2E hm
  have lh2 := mo_J10_copyOf_2 ea3
  exact (lh2.tr (mo_J2_grow_2_40  h2 x0 a3 _ hm))
def m_J2_grow_2_20 (f : Nat) (h : CH) (x0 : Nat) (x1 : Int32) (x2 : Int32) : Option (Nat × CH) := bd2 (m_J8_newLength f h x2 (x1 - x2) (x2 >>> ((1 : Int32) &&& 31))) fun r2 h1 =>
    m_J2_grow_2_30 f h1 x0 r2
theorem mo_J2_grow_2_20 {f : Nat} : ∀ (h : CH) (x0 : Nat) (x1 : Int32) (x2 : Int32) (r : (Nat × CH)), m_J2_grow_2_20 f h x0 x1 x2 = some r → le2 h r.2 := by
  intro h x0 x1 x2 r hm
  rw [m_J2_grow_2_20] at hm
  obtain ⟨r2, h1, er2, hm⟩ := bd2E hm
  have lh1 := mo_J8_newLength er2
  exact (lh1.tr (mo_J2_grow_2_30  h1 x0 r2 _ hm))
def m_J2_grow_2_55 (f : Nat) (h : CH) (y0 : Nat) (y1 : Nat) : Option (Nat × CH) := bd (pF h 17 1 y0 (.ref y1)) fun h1 =>
    some (y1, h1)
theorem mo_J2_grow_2_55 {f : Nat} : ∀ (h : CH) (y0 : Nat) (y1 : Nat) (r : (Nat × CH)), m_J2_grow_2_55 f h y0 y1 = some r → le2 h r.2 := by
  intro h y0 y1 r hm
  rw [m_J2_grow_2_55] at hm
  obtain ⟨h1, eh1, hm⟩ := bdE hm
  have lh1 := pF_le eh1
  cases hm
  exact (lh1.tr le2.rf)
def m_J2_grow_2_52 (f : Nat) (h : CH) (y0 : Nat) (y1 : Int32) : Option (Nat × CH) := gd (cntok y1) <|
    nmv (cn h (Int32.toNatClampNeg y1) (.inr (3, (Int32.toNatClampNeg y1), .inr (.inr (fun _ => none))))) fun h1 =>
    nmv (h.1 : Nat) fun a3 =>
    m_J2_grow_2_55 f h1 y0 a3
theorem mo_J2_grow_2_52 {f : Nat} : ∀ (h : CH) (y0 : Nat) (y1 : Int32) (r : (Nat × CH)), m_J2_grow_2_52 f h y0 y1 = some r → le2 h r.2 := by
  intro h y0 y1 r hm
  rw [m_J2_grow_2_52] at hm
  obtain ⟨g2, hm⟩ := gdE hm
  obtain ⟨h1, eh1, hm⟩ := nmE hm
  have lh1 := cn_le eh1
  obtain ⟨a3, ea3, hm⟩ := nmE hm
  exact (lh1.tr (mo_J2_grow_2_55  h1 y0 a3 _ hm))
def m_J2_grow_2 (f : Nat) (u : CH) (x0 : Nat) (x1 : Int32) : Option (Nat × CH) := bd (oR u 17 1 x0) fun a1 =>
    bd (aN u 3 a1) fun n2 =>
    nmv ((Int32.ofNat n2) : Int32) fun v3 =>
    if 0 < v3 then
    m_J2_grow_2_20 f u x0 x1 v3
    else bd (oR u 17 1 x0) fun a5 =>
    bd (sR u 0) fun a6 =>
    if a5 = a6 then
    bd2 (m_J9_max f u (10 : Int32) x1) fun r9 h8 =>
    m_J2_grow_2_52 f h8 x0 r9
    else m_J2_grow_2_20 f u x0 x1 v3
theorem mo_J2_grow_2 {f : Nat} {u : CH} {x0 : Nat} {x1 : Int32} {r0 : Nat} {u9 : CH} (hm : m_J2_grow_2 f u x0 x1 = some (r0, u9)) : le2 u u9 := by
  rw [m_J2_grow_2] at hm
  obtain ⟨a1, ea1, hm⟩ := bdE hm
  obtain ⟨n2, en2, hm⟩ := bdE hm
  obtain ⟨v3, ev3, hm⟩ := nmE hm
  by_cases c4 : 0 < v3
  · have hm := ifT hm c4
    exact (mo_J2_grow_2_20  u x0 x1 v3 _ hm)
  · have hm := ifF hm c4
    obtain ⟨a5, ea5, hm⟩ := bdE hm
    obtain ⟨a6, ea6, hm⟩ := bdE hm
    by_cases c7 : a5 = a6
    · have hm := ifT hm c7
      obtain ⟨r9, h8, er9, hm⟩ := bd2E hm
      have lh8 := mo_J9_max er9
      exact (lh8.tr (mo_J2_grow_2_52  h8 x0 r9 _ hm))
    · have hm := ifF hm c7
      exact (mo_J2_grow_2_20  u x0 x1 v3 _ hm)
abbrev rm_J2_grow_2 (mc ms : Nat) : Room := { frames := 3, cells := mc, slots := ms, locals := 104 }
theorem cw_J2_grow_2 {R : Room} {s : State} {args : Array Value} {own : String} {idx mc ms : Nat} (hts : ∀ w ∈ lw_all, w.before args s = true) (hl : Cond.methodLink own idx yJ2_grow_2 ∈ lw_all) (hR : 3 + 1 ≤ R.frames ∧ 8 + (4 + 11) + 104 ≤ R.locals) : CallW R s args own RJ2 idx yJ2_grow_2 cJ2_grow_2 4 (Option.some (Jvm.ClassFile.FieldType.array (Jvm.ClassFile.FieldType.object "java/lang/Object"))) (ws_ yJ2_grow_2 cJ2_grow_2 4 (Option.some (Jvm.ClassFile.FieldType.array (Jvm.ClassFile.FieldType.object "java/lang/Object")))) (rm_J2_grow_2 mc ms) mc ms 1 := cwV 1 hts (lw_V hl q814 qs14 q122 q815) rfl rfl rfl (by decide +kernel) hR
set_option maxHeartbeats 4000000 in
set_option maxRecDepth 100000 in
theorem w_J2_grow_2 (l : Launch) {D : va_G} {dA : Nat → ClassId} {A : Nat → Prop} {f : Nat} {u u9 : CH} {r0 : Nat} {x0 : Nat} {x1 : Int32} (hm : m_J2_grow_2 f u x0 x1 = some (r0, u9)) : Met l yJ2_grow_2 (ws_ yJ2_grow_2 cJ2_grow_2 4 (Option.some (Jvm.ClassFile.FieldType.array (Jvm.ClassFile.FieldType.object "java/lang/Object")))) (rm_J2_grow_2 (u9.1 - u.1) (u9.2.1 - u.2.1)) (va_Pc [.ref x0, .int x1] (CPre D dA A u)) (va_Qr (fun u => u = u9) (fun u r t => r = r0 ∧ CPost D dA A u t) A) (u9.1 - u.1) (u9.2.1 - u.2.1) A := by
  refine metOfWF (cc := cJ2_grow_2) (maxL := 4) (ret := (Option.some (Jvm.ClassFile.FieldType.array (Jvm.ClassFile.FieldType.object "java/lang/Object")))) (by decide +kernel) rfl ?_
  intro p e s m args below meth c s₁ B hml hv
  have hx := B.exec
  have hb := B.bytes
  have hr := B.returns
  have hts := atoms_spec (ws := (ws_ yJ2_grow_2 cJ2_grow_2 4 (Option.some (Jvm.ClassFile.FieldType.array (Jvm.ClassFile.FieldType.object "java/lang/Object"))))) B.pre
  have hts : ∀ w ∈ lw_all, w.before args s = true := fun w h => hts w (List.mem_cons_of_mem _ h)
  have hown : s.vm.findClass RJ2 = some m.cls := findClass_of_methodNamed B.named
  have hlocks := B.notSynchronized
  obtain ⟨hav, hv⟩ := hv
  have C : CX p s m args c cJ2_grow_2 RJ2 D dA := ⟨hx, hb, hown, hts, hv.2⟩
  have hw : CW D dA A s u s.heap [] := hv.1
  generalize hQ : MQ below (va_Qr (fun u => u = u9) (fun u r t => r = r0 ∧ CPost D dA A u t) A) args s (u9.1 - u.1) (u9.2.1 - u.2.1) A = QQ
  have hent := lg_entry_eq m [.ref x0, .int x1] 4
  rw [← hav] at hent
  rw [hent]
  have hl := lv_entry ([.ref x0, .int x1]) (n := 4) (Nat.le_of_ble_eq_true rfl)
  generalize (lg_sl ([.ref x0, .int x1]) ++ List.replicate (4 - (lg_sl ([.ref x0, .int x1])).length) Slot.unset).toArray = ls at hl ⊢
  have hl : lv_has ls 4 [(0, .ref x0), (1, .int x1)] := hl
  obtain ⟨cc, ecc⟩ : ∃ z : Nat, z = 0 := ⟨0, rfl⟩
  obtain ⟨ss, ess⟩ : ∃ z : Nat, z = 0 := ⟨0, rfl⟩
  have hcc : cc + u.1 = u.1 := by omega
  have hss : ss + u.2.1 = u.2.1 := by omega
  suffices hgo : W p l e (rm_J2_grow_2 (u9.1 - u.1) (u9.2.1 - u.2.1)) s m args below meth c s.heap [] cc ss QQ (F0 m 0 ls []) by rw [ecc, ess] at hgo; exact hgo
  have ⟨pu, qu, _, _⟩ := mo_J2_grow_2 hm
  have hB40 : ∀ (h : CH) (y0 : Nat) (y1 : Nat) (cc ss : Nat) (H : Heap) (locs : List Loc) (ls : Array Slot), m_J2_grow_2_40 f h y0 y1 = some (r0, u9) → CW D dA A s h H locs → cc + u.1 = h.1 → ss + u.2.1 = h.2.1 → lv_has ls 4 [] → W p l e (rm_J2_grow_2 (u9.1 - u.1) (u9.2.1 - u.2.1)) s m args below meth c H locs cc ss QQ (F0 m 40 ls [.ref y1, .ref y0]) := by
    intro h y0 y1 cc ss H locs ls hm hw hcc hss hl
    have hmo := mo_J2_grow_2_40  h y0 y1 _ hm
    have sb_ : h.1 ≤ u9.1 := hmo.1
    have tb_ : h.2.1 ≤ u9.2.1 := hmo.2.1
    rw [m_J2_grow_2_40] at hm
    refine lv_dup_x1 hx hb dJ2_grow_2_40 rfl rfl ?_
    obtain ⟨h1, eh1, hm⟩ := bdE hm
    refine cg_put C hw eh1 rfl in_J2 tyJ2 tyJ2_ok nmJ2 (by decide) q179 rfl rfl rfl dJ2_grow_2_41 (fun H locs hw => ?_)
    have zh1 := pF_sz eh1
    obtain ⟨er, eh⟩ := retE hm
    have ec : cc = u9.1 - u.1 := by rw [← eh]; omega
    have es : ss = u9.2.1 - u.2.1 := by rw [← eh]; omega
    rw [ec, es, ← hQ]
    exact W.aret (v := .ref y1) hx hb hr (Or.inr ⟨_, rfl⟩) (Or.inr ⟨_, rfl⟩) (fun t ht hW => ⟨⟨h1, y1, rfl, eh, er, ⟨by rw [ht]; exact hw.1, by rw [ht]; exact hw.2.1⟩⟩, hw.2.2.1.F ht⟩) hw.2.2.1.2.2 dJ2_grow_2_44
  have hB30 : ∀ (h : CH) (x0 : Nat) (y0 : Int32) (cc ss : Nat) (H : Heap) (locs : List Loc) (ls : Array Slot), m_J2_grow_2_30 f h x0 y0 = some (r0, u9) → CW D dA A s h H locs → cc + u.1 = h.1 → ss + u.2.1 = h.2.1 → lv_has ls 4 [(0, .ref x0)] → W p l e (rm_J2_grow_2 (u9.1 - u.1) (u9.2.1 - u.2.1)) s m args below meth c H locs cc ss QQ (F0 m 30 ls [.int y0]) := by
    intro h x0 y0 cc ss H locs ls hm hw hcc hss hl
    have hmo := mo_J2_grow_2_30  h x0 y0 _ hm
    have sb_ : h.1 ≤ u9.1 := hmo.1
    have tb_ : h.2.1 ≤ u9.2.1 := hmo.2.1
    rw [m_J2_grow_2_30] at hm
    refine lv_istore_n (lv' := [(3, .int y0), (0, .ref x0)]) hx hb dJ2_grow_2_30 rfl hl (by decide) rfl (fun ls hl => ?_)
    refine lv_aload_n hx hb dJ2_grow_2_31 rfl (lv_at hl 1 rfl) ?_
    refine lv_aload_n hx hb dJ2_grow_2_32 rfl (lv_at hl 1 rfl) ?_
    obtain ⟨a1, ea1, hm⟩ := bdE hm
    refine cg_get C hw (oR_E ea1) rfl in_J2 (by decide) q179 dJ2_grow_2_33 ?_
    refine lv_iload_n hx hb dJ2_grow_2_36 rfl (lv_at hl 0 rfl) ?_
    obtain ⟨a3, h2, ea3, hm⟩ := bd2E hm
    have lh2 := mo_J10_copyOf_2 ea3
    have ph2 : h.1 ≤ h2.1 := lh2.1
    have qh2 : h.2.1 ≤ h2.2.1 := lh2.2.1
    have hmo := mo_J2_grow_2_40   h2 x0 a3 _ hm
    have sh2 : h2.1 ≤ u9.1 := hmo.1
    have th2 : h2.2.1 ≤ u9.2.1 := hmo.2.1
    refine cg_callr hw lh2 (va_runS (As := [.ref a1, .int y0]) (rest := [.ref x0]) ⟨hx, hb, hml, hown, hts⟩ (w_J10_copyOf_2 l ea3) (cw_J10_copyOf_2 hts q819 ⟨Nat.le_of_ble_eq_true rfl, Nat.le_of_ble_eq_true rfl⟩) (cg_preS C hw _) rfl rfl hl.1 rfl (lv_room (Nat.le_of_ble_eq_true rfl)) dJ2_grow_2_37 ⟨show cc + (h2.1 - h.1) ≤ u9.1 - u.1 by omega, show ss + (h2.2.1 - h.2.1) ≤ u9.2.1 - u.2.1 by omega⟩) (fun H locs hw => ?_)
    exact hB40 h2 x0 a3 _ _ _ _ _ hm hw (by omega) (by omega) (lv_sub hl [] rfl)
  have hB20 : ∀ (h : CH) (x0 : Nat) (x1 : Int32) (x2 : Int32) (cc ss : Nat) (H : Heap) (locs : List Loc) (ls : Array Slot), m_J2_grow_2_20 f h x0 x1 x2 = some (r0, u9) → CW D dA A s h H locs → cc + u.1 = h.1 → ss + u.2.1 = h.2.1 → lv_has ls 4 [(0, .ref x0), (1, .int x1), (2, .int x2)] → W p l e (rm_J2_grow_2 (u9.1 - u.1) (u9.2.1 - u.2.1)) s m args below meth c H locs cc ss QQ (F0 m 20 ls []) := by
    intro h x0 x1 x2 cc ss H locs ls hm hw hcc hss hl
    have hmo := mo_J2_grow_2_20  h x0 x1 x2 _ hm
    have sb_ : h.1 ≤ u9.1 := hmo.1
    have tb_ : h.2.1 ≤ u9.2.1 := hmo.2.1
    rw [m_J2_grow_2_20] at hm
    refine lv_iload_n hx hb dJ2_grow_2_20 rfl (lv_at hl 2 rfl) ?_
    refine lv_iload_n hx hb dJ2_grow_2_21 rfl (lv_at hl 1 rfl) ?_
    refine lv_iload_n hx hb dJ2_grow_2_22 rfl (lv_at hl 2 rfl) ?_
    refine lv_isub hx hb dJ2_grow_2_23 ?_
    refine lv_iload_n hx hb dJ2_grow_2_24 rfl (lv_at hl 2 rfl) ?_
    refine lv_iconst (v := 1) hx hb dJ2_grow_2_25 (by decide) ?_
    refine lv_ishr hx hb dJ2_grow_2_26 ?_
    obtain ⟨r2, h1, er2, hm⟩ := bd2E hm
    have lh1 := mo_J8_newLength er2
    have ph1 : h.1 ≤ h1.1 := lh1.1
    have qh1 : h.2.1 ≤ h1.2.1 := lh1.2.1
    have hmo := mo_J2_grow_2_30   h1 x0 r2 _ hm
    have sh1 : h1.1 ≤ u9.1 := hmo.1
    have th1 : h1.2.1 ≤ u9.2.1 := hmo.2.1
    refine cg_calli hw lh1 (va_runS (As := [.int x2, .int (x1 - x2), .int (x2 >>> ((1 : Int32) &&& 31))]) (rest := []) ⟨hx, hb, hml, hown, hts⟩ (w_J8_newLength l er2) (cw_J8_newLength hts q818 ⟨Nat.le_of_ble_eq_true rfl, Nat.le_of_ble_eq_true rfl⟩) (cg_preS C hw _) rfl rfl hl.1 rfl (lv_room (Nat.le_of_ble_eq_true rfl)) dJ2_grow_2_27 ⟨show cc + (h1.1 - h.1) ≤ u9.1 - u.1 by omega, show ss + (h1.2.1 - h.2.1) ≤ u9.2.1 - u.2.1 by omega⟩) (fun H locs hw => ?_)
    exact hB30 h1 x0 r2 _ _ _ _ _ hm hw (by omega) (by omega) (lv_sub hl [0] rfl)
  have hB55 : ∀ (h : CH) (y0 : Nat) (y1 : Nat) (cc ss : Nat) (H : Heap) (locs : List Loc) (ls : Array Slot), m_J2_grow_2_55 f h y0 y1 = some (r0, u9) → CW D dA A s h H locs → cc + u.1 = h.1 → ss + u.2.1 = h.2.1 → lv_has ls 4 [] → W p l e (rm_J2_grow_2 (u9.1 - u.1) (u9.2.1 - u.2.1)) s m args below meth c H locs cc ss QQ (F0 m 55 ls [.ref y1, .ref y0]) := by
    intro h y0 y1 cc ss H locs ls hm hw hcc hss hl
    have hmo := mo_J2_grow_2_55  h y0 y1 _ hm
    have sb_ : h.1 ≤ u9.1 := hmo.1
    have tb_ : h.2.1 ≤ u9.2.1 := hmo.2.1
    rw [m_J2_grow_2_55] at hm
    refine lv_dup_x1 hx hb dJ2_grow_2_55 rfl rfl ?_
    obtain ⟨h1, eh1, hm⟩ := bdE hm
    refine cg_put C hw eh1 rfl in_J2 tyJ2 tyJ2_ok nmJ2 (by decide) q179 rfl rfl rfl dJ2_grow_2_56 (fun H locs hw => ?_)
    have zh1 := pF_sz eh1
    obtain ⟨er, eh⟩ := retE hm
    have ec : cc = u9.1 - u.1 := by rw [← eh]; omega
    have es : ss = u9.2.1 - u.2.1 := by rw [← eh]; omega
    rw [ec, es, ← hQ]
    exact W.aret (v := .ref y1) hx hb hr (Or.inr ⟨_, rfl⟩) (Or.inr ⟨_, rfl⟩) (fun t ht hW => ⟨⟨h1, y1, rfl, eh, er, ⟨by rw [ht]; exact hw.1, by rw [ht]; exact hw.2.1⟩⟩, hw.2.2.1.F ht⟩) hw.2.2.1.2.2 dJ2_grow_2_59
  have hB52 : ∀ (h : CH) (y0 : Nat) (y1 : Int32) (cc ss : Nat) (H : Heap) (locs : List Loc) (ls : Array Slot), m_J2_grow_2_52 f h y0 y1 = some (r0, u9) → CW D dA A s h H locs → cc + u.1 = h.1 → ss + u.2.1 = h.2.1 → lv_has ls 4 [] → W p l e (rm_J2_grow_2 (u9.1 - u.1) (u9.2.1 - u.2.1)) s m args below meth c H locs cc ss QQ (F0 m 52 ls [.int y1, .ref y0]) := by
    intro h y0 y1 cc ss H locs ls hm hw hcc hss hl
    have hmo := mo_J2_grow_2_52  h y0 y1 _ hm
    have sb_ : h.1 ≤ u9.1 := hmo.1
    have tb_ : h.2.1 ≤ u9.2.1 := hmo.2.1
    rw [m_J2_grow_2_52] at hm
    obtain ⟨g2, hm⟩ := gdE hm
    obtain ⟨h1, eh1, hm⟩ := nmE hm
    obtain ⟨_, _, hmq⟩ := nmE hm
    have hmo := mo_J2_grow_2_55   h1 y0 _ _ hmq
    have sh1 : h1.1 ≤ u9.1 := hmo.1
    have th1 : h1.2.1 ≤ u9.2.1 := hmo.2.1
    have zh1 := cn_sz eh1
    refine cg_anewO (C0 := C) hw (N := (Int32.toNatClampNeg y1)) q175 (hw.2.2.2.2.1 _ (List.mem_of_getElem? (i := 91) rfl)) (cntok_nn g2) rfl (cntok_le g2) (show cc + 1 ≤ u9.1 - u.1 by omega) (show ss + (Int32.toNatClampNeg y1) ≤ u9.2.1 - u.2.1 by omega) dJ2_grow_2_52 (fun H hw => ?_)
    rw [← eh1] at hw
    refine lv_topr (fun a3 ea3 => ?_)
    have hm := nmK hm ea3
    exact hB55 h1 y0 a3 _ _ _ _ _ hm hw (by omega) (by omega) (lv_sub hl [] rfl)
  rw [m_J2_grow_2] at hm
  refine lv_aload_n hx hb dJ2_grow_2_0 rfl (lv_at hl 0 rfl) ?_
  obtain ⟨a1, ea1, hm⟩ := bdE hm
  refine cg_get C hw (oR_E ea1) rfl in_J2 (by decide) q179 dJ2_grow_2_1 ?_
  obtain ⟨n2, en2, hm⟩ := bdE hm
  refine cg_alen C hw (ty := .object "java/lang/Object") rfl en2 dJ2_grow_2_4 ?_
  refine lv_topi (fun v3 ev3 => ?_)
  have hm := nmK hm ev3
  refine lv_istore_n (lv' := [(2, .int v3), (0, .ref x0), (1, .int x1)]) hx hb dJ2_grow_2_5 rfl hl (by decide) rfl (fun ls hl => ?_)
  refine lv_iload_n hx hb dJ2_grow_2_6 rfl (lv_at hl 0 rfl) ?_
  refine lv_if_gt (tgt := 20) hx hb dJ2_grow_2_7 (by decide) (fun c4 => ?_) (fun c4 => ?_)
  · have hm := ifT hm c4
    exact hB20 u x0 x1 v3 _ _ _ _ _ hm hw (by omega) (by omega) (lv_sub hl [1, 2, 0] rfl)
  · have hm := ifF hm c4
    refine lv_aload_n hx hb dJ2_grow_2_10 rfl (lv_at hl 1 rfl) ?_
    obtain ⟨a5, ea5, hm⟩ := bdE hm
    refine cg_get C hw (oR_E ea5) rfl in_J2 (by decide) q179 dJ2_grow_2_11 ?_
    obtain ⟨a6, ea6, hm⟩ := bdE hm
    refine cg_gets C hw (i := 0) ea6 rfl q816 dJ2_grow_2_14 ?_
    refine cg_acmp_eq (tgt := 45) hx hb dJ2_grow_2_17 (by decide) (fun c7 => ?_) (fun c7 => ?_)
    · have hm := ifT hm c7
      refine lv_aload_n hx hb dJ2_grow_2_45 rfl (lv_at hl 1 rfl) ?_
      refine lv_bipush (v := 10) hx hb dJ2_grow_2_46 (by decide) ?_
      refine lv_iload_n hx hb dJ2_grow_2_48 rfl (lv_at hl 2 rfl) ?_
      obtain ⟨r9, h8, er9, hm⟩ := bd2E hm
      have lh8 := mo_J9_max er9
      have ph8 : u.1 ≤ h8.1 := lh8.1
      have qh8 : u.2.1 ≤ h8.2.1 := lh8.2.1
      have hmo := mo_J2_grow_2_52   h8 x0 r9 _ hm
      have sh8 : h8.1 ≤ u9.1 := hmo.1
      have th8 : h8.2.1 ≤ u9.2.1 := hmo.2.1
      refine cg_calli hw lh8 (va_runS (As := [.int (10 : Int32), .int x1]) (rest := [.ref x0]) ⟨hx, hb, hml, hown, hts⟩ (w_J9_max l er9) (cw_J9_max hts q852 ⟨Nat.le_of_ble_eq_true rfl, Nat.le_of_ble_eq_true rfl⟩) (cg_preS C hw _) rfl rfl hl.1 rfl (lv_room (Nat.le_of_ble_eq_true rfl)) dJ2_grow_2_49 ⟨show cc + (h8.1 - u.1) ≤ u9.1 - u.1 by omega, show ss + (h8.2.1 - u.2.1) ≤ u9.2.1 - u.2.1 by omega⟩) (fun H locs hw => ?_)
      exact hB52 h8 x0 r9 _ _ _ _ _ hm hw (by omega) (by omega) (lv_sub hl [] rfl)
    · have hm := ifF hm c7
      exact hB20 u x0 x1 v3 _ _ _ _ _ hm hw (by omega) (by omega) (lv_sub hl [1, 2, 0] rfl)
def m_J2_grow_10 (f : Nat) (h : CH) (y0 : Nat) : Option (Nat × CH) := some (y0, h)
theorem mo_J2_grow_10 {f : Nat} : ∀ (h : CH) (y0 : Nat) (r : (Nat × CH)), m_J2_grow_10 f h y0 = some r → le2 h r.2 := by
  intro h y0 r hm
  rw [m_J2_grow_10] at hm
  cases hm
  exact le2.rf
def m_J2_grow (f : Nat) (u : CH) (x0 : Nat) : Option (Nat × CH) := bd (oI u 17 2 x0) fun v1 =>
    gd (isC u x0 17) <|
    bd2 (m_J2_grow_2 f u x0 (v1 + (1 : Int32))) fun a4 h3 =>
    m_J2_grow_10 f h3 a4
theorem mo_J2_grow {f : Nat} {u : CH} {x0 : Nat} {r0 : Nat} {u9 : CH} (hm : m_J2_grow f u x0 = some (r0, u9)) : le2 u u9 := by
  rw [m_J2_grow] at hm
  obtain ⟨v1, ev1, hm⟩ := bdE hm
  obtain ⟨g2, hm⟩ := gdE hm
  obtain ⟨a4, h3, ea4, hm⟩ := bd2E hm
  have lh3 := mo_J2_grow_2 ea4
  exact (lh3.tr (mo_J2_grow_10  h3 a4 _ hm))
abbrev rm_J2_grow (mc ms : Nat) : Room := { frames := 4, cells := mc, slots := ms, locals := 127 }
theorem cw_J2_grow {R : Room} {s : State} {args : Array Value} {own : String} {idx mc ms : Nat} (hts : ∀ w ∈ lw_all, w.before args s = true) (hl : Cond.methodLink own idx yJ2_grow ∈ lw_all) (hR : 4 + 1 ≤ R.frames ∧ 8 + (1 + 11) + 127 ≤ R.locals) : CallW R s args own RJ2 idx yJ2_grow cJ2_grow 1 (Option.some (Jvm.ClassFile.FieldType.array (Jvm.ClassFile.FieldType.object "java/lang/Object"))) (ws_ yJ2_grow cJ2_grow 1 (Option.some (Jvm.ClassFile.FieldType.array (Jvm.ClassFile.FieldType.object "java/lang/Object")))) (rm_J2_grow mc ms) mc ms 0 := cwV 0 hts (lw_V hl q810 qs13 q122 q811) rfl rfl rfl (by decide +kernel) hR
set_option maxHeartbeats 4000000 in
set_option maxRecDepth 100000 in
theorem w_J2_grow (l : Launch) {D : va_G} {dA : Nat → ClassId} {A : Nat → Prop} {f : Nat} {u u9 : CH} {r0 : Nat} {x0 : Nat} (hm : m_J2_grow f u x0 = some (r0, u9)) : Met l yJ2_grow (ws_ yJ2_grow cJ2_grow 1 (Option.some (Jvm.ClassFile.FieldType.array (Jvm.ClassFile.FieldType.object "java/lang/Object")))) (rm_J2_grow (u9.1 - u.1) (u9.2.1 - u.2.1)) (va_Pc [.ref x0] (CPre D dA A u)) (va_Qr (fun u => u = u9) (fun u r t => r = r0 ∧ CPost D dA A u t) A) (u9.1 - u.1) (u9.2.1 - u.2.1) A := by
  refine metOfWF (cc := cJ2_grow) (maxL := 1) (ret := (Option.some (Jvm.ClassFile.FieldType.array (Jvm.ClassFile.FieldType.object "java/lang/Object")))) (by decide +kernel) rfl ?_
  intro p e s m args below meth c s₁ B hml hv
  have hx := B.exec
  have hb := B.bytes
  have hr := B.returns
  have hts := atoms_spec (ws := (ws_ yJ2_grow cJ2_grow 1 (Option.some (Jvm.ClassFile.FieldType.array (Jvm.ClassFile.FieldType.object "java/lang/Object"))))) B.pre
  have hts : ∀ w ∈ lw_all, w.before args s = true := fun w h => hts w (List.mem_cons_of_mem _ h)
  have hown : s.vm.findClass RJ2 = some m.cls := findClass_of_methodNamed B.named
  have hlocks := B.notSynchronized
  obtain ⟨hav, hv⟩ := hv
  have C : CX p s m args c cJ2_grow RJ2 D dA := ⟨hx, hb, hown, hts, hv.2⟩
  have hw : CW D dA A s u s.heap [] := hv.1
  generalize hQ : MQ below (va_Qr (fun u => u = u9) (fun u r t => r = r0 ∧ CPost D dA A u t) A) args s (u9.1 - u.1) (u9.2.1 - u.2.1) A = QQ
  have hent := lg_entry_eq m [.ref x0] 1
  rw [← hav] at hent
  rw [hent]
  have hl := lv_entry ([.ref x0]) (n := 1) (Nat.le_of_ble_eq_true rfl)
  generalize (lg_sl ([.ref x0]) ++ List.replicate (1 - (lg_sl ([.ref x0])).length) Slot.unset).toArray = ls at hl ⊢
  have hl : lv_has ls 1 [(0, .ref x0)] := hl
  obtain ⟨cc, ecc⟩ : ∃ z : Nat, z = 0 := ⟨0, rfl⟩
  obtain ⟨ss, ess⟩ : ∃ z : Nat, z = 0 := ⟨0, rfl⟩
  have hcc : cc + u.1 = u.1 := by omega
  have hss : ss + u.2.1 = u.2.1 := by omega
  suffices hgo : W p l e (rm_J2_grow (u9.1 - u.1) (u9.2.1 - u.2.1)) s m args below meth c s.heap [] cc ss QQ (F0 m 0 ls []) by rw [ecc, ess] at hgo; exact hgo
  have ⟨pu, qu, _, _⟩ := mo_J2_grow hm
  have hB10 : ∀ (h : CH) (y0 : Nat) (cc ss : Nat) (H : Heap) (locs : List Loc) (ls : Array Slot), m_J2_grow_10 f h y0 = some (r0, u9) → CW D dA A s h H locs → cc + u.1 = h.1 → ss + u.2.1 = h.2.1 → lv_has ls 1 [] → W p l e (rm_J2_grow (u9.1 - u.1) (u9.2.1 - u.2.1)) s m args below meth c H locs cc ss QQ (F0 m 10 ls [.ref y0]) := by
    intro h y0 cc ss H locs ls hm hw hcc hss hl
    have hmo := mo_J2_grow_10  h y0 _ hm
    have sb_ : h.1 ≤ u9.1 := hmo.1
    have tb_ : h.2.1 ≤ u9.2.1 := hmo.2.1
    rw [m_J2_grow_10] at hm
    obtain ⟨er, eh⟩ := retE hm
    have ec : cc = u9.1 - u.1 := by rw [← eh]; omega
    have es : ss = u9.2.1 - u.2.1 := by rw [← eh]; omega
    rw [ec, es, ← hQ]
    exact W.aret (v := .ref y0) hx hb hr (Or.inr ⟨_, rfl⟩) (Or.inr ⟨_, rfl⟩) (fun t ht hW => ⟨⟨h, y0, rfl, eh, er, ⟨by rw [ht]; exact hw.1, by rw [ht]; exact hw.2.1⟩⟩, hw.2.2.1.F ht⟩) hw.2.2.1.2.2 dJ2_grow_10
  rw [m_J2_grow] at hm
  refine lv_aload_n hx hb dJ2_grow_0 rfl (lv_at hl 0 rfl) ?_
  refine lv_aload_n hx hb dJ2_grow_1 rfl (lv_at hl 0 rfl) ?_
  obtain ⟨v1, ev1, hm⟩ := bdE hm
  refine cg_get C hw (oI_E ev1) rfl in_J2 (by decide) q180 dJ2_grow_2 ?_
  refine lv_iconst (v := 1) hx hb dJ2_grow_5 (by decide) ?_
  refine lv_iadd hx hb dJ2_grow_6 ?_
  obtain ⟨g2, hm⟩ := gdE hm
  obtain ⟨a4, h3, ea4, hm⟩ := bd2E hm
  have lh3 := mo_J2_grow_2 ea4
  have ph3 : u.1 ≤ h3.1 := lh3.1
  have qh3 : u.2.1 ≤ h3.2.1 := lh3.2.1
  have hmo := mo_J2_grow_10   h3 a4 _ hm
  have sh3 : h3.1 ≤ u9.1 := hmo.1
  have th3 : h3.2.1 ≤ u9.2.1 := hmo.2.1
  refine cg_callr hw lh3 (va_runV (As := [.int (v1 + (1 : Int32))]) (rest := []) ⟨hx, hb, hml, hown, hts⟩ (w_J2_grow_2 l ea4) (cw_J2_grow_2 hts q812 ⟨Nat.le_of_ble_eq_true rfl, Nat.le_of_ble_eq_true rfl⟩) (cg_preV C hw g2 rfl _) rfl rfl hl.1 rfl (lv_room (Nat.le_of_ble_eq_true rfl)) dJ2_grow_7 ⟨show cc + (h3.1 - u.1) ≤ u9.1 - u.1 by omega, show ss + (h3.2.1 - u.2.1) ≤ u9.2.1 - u.2.1 by omega⟩) (fun H locs hw => ?_)
  exact hB10 h3 a4 _ _ _ _ _ hm hw (by omega) (by omega) (lv_sub hl [] rfl)
def m_J2_add_2_11 (f : Nat) (h : CH) (x0 : Nat) (x1 : Nat) (x2 : Nat) (x3 : Int32) : Option CH := gd (isO h x1) <|
    bd (uQ h 3 x2 x3 (some x1)) fun h2 =>
    bd (pF h2 17 2 x0 (.int (x3 + (1 : Int32)))) fun h3 =>
    some h3
theorem mo_J2_add_2_11 {f : Nat} : ∀ (h : CH) (x0 : Nat) (x1 : Nat) (x2 : Nat) (x3 : Int32) (r : CH), m_J2_add_2_11 f h x0 x1 x2 x3 = some r → le2 h r := by
  intro h x0 x1 x2 x3 r hm
  rw [m_J2_add_2_11] at hm
  obtain ⟨g1, hm⟩ := gdE hm
  obtain ⟨h2, eh2, hm⟩ := bdE hm
  have lh2 := uQ_le eh2
  obtain ⟨h3, eh3, hm⟩ := bdE hm
  have lh3 := pF_le eh3
  cases hm
  exact (lh2.tr (lh3.tr le2.rf))
def m_J2_add_2_10 (f : Nat) (h : CH) (x0 : Nat) (x1 : Nat) (x3 : Int32) (y0 : Nat) : Option CH := m_J2_add_2_11 f h x0 x1 y0 x3
theorem mo_J2_add_2_10 {f : Nat} : ∀ (h : CH) (x0 : Nat) (x1 : Nat) (x3 : Int32) (y0 : Nat) (r : CH), m_J2_add_2_10 f h x0 x1 x3 y0 = some r → le2 h r := by
  intro h x0 x1 x3 y0 r hm
  rw [m_J2_add_2_10] at hm
  exact (mo_J2_add_2_11  h x0 x1 y0 x3 _ hm)
def m_J2_add_2 (f : Nat) (u : CH) (x0 : Nat) (x1 : Nat) (x2 : Nat) (x3 : Int32) : Option CH := bd (aN u 3 x2) fun n1 =>
    if ¬ x3 = (Int32.ofNat n1) then
    m_J2_add_2_11 f u x0 x1 x2 x3
    else gd (isC u x0 17) <|
    bd2 (m_J2_grow f u x0) fun a5 h4 =>
    m_J2_add_2_10 f h4 x0 x1 x3 a5
theorem mo_J2_add_2 {f : Nat} {u : CH} {x0 : Nat} {x1 : Nat} {x2 : Nat} {x3 : Int32} {u9 : CH} (hm : m_J2_add_2 f u x0 x1 x2 x3 = some u9) : le2 u u9 := by
  rw [m_J2_add_2] at hm
  obtain ⟨n1, en1, hm⟩ := bdE hm
  by_cases c2 : ¬ x3 = (Int32.ofNat n1)
  · have hm := ifT hm c2
    exact (mo_J2_add_2_11  u x0 x1 x2 x3 _ hm)
  · have hm := ifF hm c2
    obtain ⟨g3, hm⟩ := gdE hm
    obtain ⟨a5, h4, ea5, hm⟩ := bd2E hm
    have lh4 := mo_J2_grow ea5
    exact (lh4.tr (mo_J2_add_2_10  h4 x0 x1 x3 a5 _ hm))
abbrev rm_J2_add_2 (mc ms : Nat) : Room := { frames := 5, cells := mc, slots := ms, locals := 147 }
theorem cw_J2_add_2 {R : Room} {s : State} {args : Array Value} {own : String} {idx mc ms : Nat} (hts : ∀ w ∈ lw_all, w.before args s = true) (hl : Cond.methodLink own idx yJ2_add_2 ∈ lw_all) (hR : 5 + 1 ≤ R.frames ∧ 8 + (4 + 11) + 147 ≤ R.locals) : CallW R s args own RJ2 idx yJ2_add_2 cJ2_add_2 4 (Option.none : Option Jvm.ClassFile.FieldType) (ws_ yJ2_add_2 cJ2_add_2 4 (Option.none : Option Jvm.ClassFile.FieldType)) (rm_J2_add_2 mc ms) mc ms 3 := cwV 3 hts (lw_V hl q806 qs12 q122 q807) rfl rfl rfl (by decide +kernel) hR
set_option maxHeartbeats 4000000 in
set_option maxRecDepth 100000 in
theorem w_J2_add_2 (l : Launch) {D : va_G} {dA : Nat → ClassId} {A : Nat → Prop} {f : Nat} {u u9 : CH} {x0 : Nat} {x1 : Nat} {x2 : Nat} {x3 : Int32} (hm : m_J2_add_2 f u x0 x1 x2 x3 = some u9) : Met l yJ2_add_2 (ws_ yJ2_add_2 cJ2_add_2 4 (Option.none : Option Jvm.ClassFile.FieldType)) (rm_J2_add_2 (u9.1 - u.1) (u9.2.1 - u.2.1)) (va_Pc [.ref x0, .ref x1, .ref x2, .int x3] (CPre D dA A u)) (va_Qv (fun u => u = u9) (CPost D dA A) A) (u9.1 - u.1) (u9.2.1 - u.2.1) A := by
  refine metOfWF (cc := cJ2_add_2) (maxL := 4) (ret := (Option.none : Option Jvm.ClassFile.FieldType)) (by decide +kernel) rfl ?_
  intro p e s m args below meth c s₁ B hml hv
  have hx := B.exec
  have hb := B.bytes
  have hr := B.returns
  have hts := atoms_spec (ws := (ws_ yJ2_add_2 cJ2_add_2 4 (Option.none : Option Jvm.ClassFile.FieldType))) B.pre
  have hts : ∀ w ∈ lw_all, w.before args s = true := fun w h => hts w (List.mem_cons_of_mem _ h)
  have hown : s.vm.findClass RJ2 = some m.cls := findClass_of_methodNamed B.named
  have hlocks := B.notSynchronized
  obtain ⟨hav, hv⟩ := hv
  have C : CX p s m args c cJ2_add_2 RJ2 D dA := ⟨hx, hb, hown, hts, hv.2⟩
  have hw : CW D dA A s u s.heap [] := hv.1
  generalize hQ : MQ below (va_Qv (fun u => u = u9) (CPost D dA A) A) args s (u9.1 - u.1) (u9.2.1 - u.2.1) A = QQ
  have hent := lg_entry_eq m [.ref x0, .ref x1, .ref x2, .int x3] 4
  rw [← hav] at hent
  rw [hent]
  have hl := lv_entry ([.ref x0, .ref x1, .ref x2, .int x3]) (n := 4) (Nat.le_of_ble_eq_true rfl)
  generalize (lg_sl ([.ref x0, .ref x1, .ref x2, .int x3]) ++ List.replicate (4 - (lg_sl ([.ref x0, .ref x1, .ref x2, .int x3])).length) Slot.unset).toArray = ls at hl ⊢
  have hl : lv_has ls 4 [(0, .ref x0), (1, .ref x1), (2, .ref x2), (3, .int x3)] := hl
  obtain ⟨cc, ecc⟩ : ∃ z : Nat, z = 0 := ⟨0, rfl⟩
  obtain ⟨ss, ess⟩ : ∃ z : Nat, z = 0 := ⟨0, rfl⟩
  have hcc : cc + u.1 = u.1 := by omega
  have hss : ss + u.2.1 = u.2.1 := by omega
  suffices hgo : W p l e (rm_J2_add_2 (u9.1 - u.1) (u9.2.1 - u.2.1)) s m args below meth c s.heap [] cc ss QQ (F0 m 0 ls []) by rw [ecc, ess] at hgo; exact hgo
  have ⟨pu, qu, _, _⟩ := mo_J2_add_2 hm
  have hB11 : ∀ (h : CH) (x0 : Nat) (x1 : Nat) (x2 : Nat) (x3 : Int32) (cc ss : Nat) (H : Heap) (locs : List Loc) (ls : Array Slot), m_J2_add_2_11 f h x0 x1 x2 x3 = some u9 → CW D dA A s h H locs → cc + u.1 = h.1 → ss + u.2.1 = h.2.1 → lv_has ls 4 [(0, .ref x0), (1, .ref x1), (2, .ref x2), (3, .int x3)] → W p l e (rm_J2_add_2 (u9.1 - u.1) (u9.2.1 - u.2.1)) s m args below meth c H locs cc ss QQ (F0 m 11 ls []) := by
    intro h x0 x1 x2 x3 cc ss H locs ls hm hw hcc hss hl
    have hmo := mo_J2_add_2_11  h x0 x1 x2 x3 _ hm
    have sb_ : h.1 ≤ u9.1 := hmo.1
    have tb_ : h.2.1 ≤ u9.2.1 := hmo.2.1
    rw [m_J2_add_2_11] at hm
    refine lv_aload_n hx hb dJ2_add_2_11 rfl (lv_at hl 2 rfl) ?_
    refine lv_iload_n hx hb dJ2_add_2_12 rfl (lv_at hl 3 rfl) ?_
    refine lv_aload_n hx hb dJ2_add_2_13 rfl (lv_at hl 1 rfl) ?_
    obtain ⟨g1, hm⟩ := gdE hm
    obtain ⟨h2, eh2, hm⟩ := bdE hm
    refine cg_aastO C hw g1 eh2 dJ2_add_2_14 (fun H locs hw => ?_)
    have zh2 := uQ_sz eh2
    refine lv_aload_n hx hb dJ2_add_2_15 rfl (lv_at hl 0 rfl) ?_
    refine lv_iload_n hx hb dJ2_add_2_16 rfl (lv_at hl 3 rfl) ?_
    refine lv_iconst (v := 1) hx hb dJ2_add_2_17 (by decide) ?_
    refine lv_iadd hx hb dJ2_add_2_18 ?_
    obtain ⟨h3, eh3, hm⟩ := bdE hm
    refine cg_put C hw eh3 rfl in_J2 tyJ2 tyJ2_ok nmJ2 (by decide) q180 rfl rfl rfl dJ2_add_2_19 (fun H locs hw => ?_)
    have zh3 := pF_sz eh3
    have eh := ret1 hm
    have ec : cc = u9.1 - u.1 := by rw [← eh]; omega
    have es : ss = u9.2.1 - u.2.1 := by rw [← eh]; omega
    rw [ec, es, ← hQ]
    exact W.vret hx hb hr (fun t ht hW => ⟨⟨h3, rfl, eh, ⟨by rw [ht]; exact hw.1, by rw [ht]; exact hw.2.1⟩⟩, hw.2.2.1.F ht⟩) hw.2.2.1.2.2 dJ2_add_2_22
  have hB10 : ∀ (h : CH) (x0 : Nat) (x1 : Nat) (x3 : Int32) (y0 : Nat) (cc ss : Nat) (H : Heap) (locs : List Loc) (ls : Array Slot), m_J2_add_2_10 f h x0 x1 x3 y0 = some u9 → CW D dA A s h H locs → cc + u.1 = h.1 → ss + u.2.1 = h.2.1 → lv_has ls 4 [(0, .ref x0), (1, .ref x1), (3, .int x3)] → W p l e (rm_J2_add_2 (u9.1 - u.1) (u9.2.1 - u.2.1)) s m args below meth c H locs cc ss QQ (F0 m 10 ls [.ref y0]) := by
    intro h x0 x1 x3 y0 cc ss H locs ls hm hw hcc hss hl
    have hmo := mo_J2_add_2_10  h x0 x1 x3 y0 _ hm
    have sb_ : h.1 ≤ u9.1 := hmo.1
    have tb_ : h.2.1 ≤ u9.2.1 := hmo.2.1
    rw [m_J2_add_2_10] at hm
    refine lv_astore_n (lv' := [(2, .ref y0), (0, .ref x0), (1, .ref x1), (3, .int x3)]) hx hb dJ2_add_2_10 rfl hl (by decide) rfl (fun ls hl => ?_)
    exact hB11 h x0 x1 y0 x3 _ _ _ _ _ hm hw (by omega) (by omega) (lv_sub hl [1, 2, 0, 3] rfl)
  rw [m_J2_add_2] at hm
  refine lv_iload_n hx hb dJ2_add_2_0 rfl (lv_at hl 3 rfl) ?_
  refine lv_aload_n hx hb dJ2_add_2_1 rfl (lv_at hl 2 rfl) ?_
  obtain ⟨n1, en1, hm⟩ := bdE hm
  refine cg_alen C hw (ty := .object "java/lang/Object") rfl en1 dJ2_add_2_2 ?_
  refine lv_icmp_ne (tgt := 11) hx hb dJ2_add_2_3 (by decide) (fun c2 => ?_) (fun c2 => ?_)
  · have hm := ifT hm c2
    exact hB11 u x0 x1 x2 x3 _ _ _ _ _ hm hw (by omega) (by omega) (lv_sub hl [0, 1, 2, 3] rfl)
  · have hm := ifT' hm c2
    refine lv_aload_n hx hb dJ2_add_2_6 rfl (lv_at hl 0 rfl) ?_
    obtain ⟨g3, hm⟩ := gdE hm
    obtain ⟨a5, h4, ea5, hm⟩ := bd2E hm
    have lh4 := mo_J2_grow ea5
    have ph4 : u.1 ≤ h4.1 := lh4.1
    have qh4 : u.2.1 ≤ h4.2.1 := lh4.2.1
    have hmo := mo_J2_add_2_10   h4 x0 x1 x3 a5 _ hm
    have sh4 : h4.1 ≤ u9.1 := hmo.1
    have th4 : h4.2.1 ≤ u9.2.1 := hmo.2.1
    refine cg_callr hw lh4 (va_runV (As := []) (rest := []) ⟨hx, hb, hml, hown, hts⟩ (w_J2_grow l ea5) (cw_J2_grow hts q808 ⟨Nat.le_of_ble_eq_true rfl, Nat.le_of_ble_eq_true rfl⟩) (cg_preV C hw g3 rfl _) rfl rfl hl.1 rfl (lv_room (Nat.le_of_ble_eq_true rfl)) dJ2_add_2_7 ⟨show cc + (h4.1 - u.1) ≤ u9.1 - u.1 by omega, show ss + (h4.2.1 - u.2.1) ≤ u9.2.1 - u.2.1 by omega⟩) (fun H locs hw => ?_)
    exact hB10 h4 x0 x1 x3 a5 _ _ _ _ _ hm hw (by omega) (by omega) (lv_sub hl [0, 1, 3] rfl)
def m_J2_add_23 (f : Nat) (h : CH) : Option (Int32 × CH) := some ((1 : Int32), h)
theorem mo_J2_add_23 {f : Nat} : ∀ (h : CH) (r : (Int32 × CH)), m_J2_add_23 f h = some r → le2 h r.2 := by
  intro h r hm
  rw [m_J2_add_23] at hm
  cases hm
  exact le2.rf
def m_J2_add (f : Nat) (u : CH) (x0 : Nat) (x1 : Nat) : Option (Int32 × CH) := bd (oI u 17 0 x0) fun v1 =>
    bd (pF u 17 0 x0 (.int (v1 + (1 : Int32)))) fun h2 =>
    bd (oR h2 17 1 x0) fun a3 =>
    bd (oI h2 17 2 x0) fun v4 =>
    gd (isC h2 x0 17) <|
    bd (m_J2_add_2 f h2 x0 x1 a3 v4) fun h6 =>
    m_J2_add_23 f h6
theorem mo_J2_add {f : Nat} {u : CH} {x0 : Nat} {x1 : Nat} {r0 : Int32} {u9 : CH} (hm : m_J2_add f u x0 x1 = some (r0, u9)) : le2 u u9 := by
  rw [m_J2_add] at hm
  obtain ⟨v1, ev1, hm⟩ := bdE hm
  obtain ⟨h2, eh2, hm⟩ := bdE hm
  have lh2 := pF_le eh2
  obtain ⟨a3, ea3, hm⟩ := bdE hm
  obtain ⟨v4, ev4, hm⟩ := bdE hm
  obtain ⟨g5, hm⟩ := gdE hm
  obtain ⟨h6, eh6, hm⟩ := bdE hm
  have lh6 := mo_J2_add_2 eh6
  exact (lh2.tr (lh6.tr (mo_J2_add_23  h6 _ hm)))
abbrev rm_J2_add (mc ms : Nat) : Room := { frames := 6, cells := mc, slots := ms, locals := 170 }
theorem cw_J2_add {R : Room} {s : State} {args : Array Value} {own : String} {idx mc ms : Nat} (hts : ∀ w ∈ lw_all, w.before args s = true) (hl : Cond.methodLink own idx yJ2_add ∈ lw_all) (hR : 6 + 1 ≤ R.frames ∧ 8 + (2 + 11) + 170 ≤ R.locals) : CallW R s args own RJ2 idx yJ2_add cJ2_add 2 (Option.some Jvm.ClassFile.FieldType.boolean) (ws_ yJ2_add cJ2_add 2 (Option.some Jvm.ClassFile.FieldType.boolean)) (rm_J2_add mc ms) mc ms 1 := cwV 1 hts (lw_V hl q801 q802 q122 q803) rfl rfl rfl (by decide +kernel) hR
set_option maxHeartbeats 4000000 in
set_option maxRecDepth 100000 in
theorem w_J2_add (l : Launch) {D : va_G} {dA : Nat → ClassId} {A : Nat → Prop} {f : Nat} {u u9 : CH} {r0 : Int32} {x0 : Nat} {x1 : Nat} (hm : m_J2_add f u x0 x1 = some (r0, u9)) : Met l yJ2_add (ws_ yJ2_add cJ2_add 2 (Option.some Jvm.ClassFile.FieldType.boolean)) (rm_J2_add (u9.1 - u.1) (u9.2.1 - u.2.1)) (va_Pc [.ref x0, .ref x1] (CPre D dA A u)) (va_Qi (fun r u => r = r0 ∧ u = u9) (CPost D dA A) A) (u9.1 - u.1) (u9.2.1 - u.2.1) A := by
  refine metOfWF (cc := cJ2_add) (maxL := 2) (ret := (Option.some Jvm.ClassFile.FieldType.boolean)) (by decide +kernel) rfl ?_
  intro p e s m args below meth c s₁ B hml hv
  have hx := B.exec
  have hb := B.bytes
  have hr := B.returns
  have hts := atoms_spec (ws := (ws_ yJ2_add cJ2_add 2 (Option.some Jvm.ClassFile.FieldType.boolean))) B.pre
  have hts : ∀ w ∈ lw_all, w.before args s = true := fun w h => hts w (List.mem_cons_of_mem _ h)
  have hown : s.vm.findClass RJ2 = some m.cls := findClass_of_methodNamed B.named
  have hlocks := B.notSynchronized
  obtain ⟨hav, hv⟩ := hv
  have C : CX p s m args c cJ2_add RJ2 D dA := ⟨hx, hb, hown, hts, hv.2⟩
  have hw : CW D dA A s u s.heap [] := hv.1
  generalize hQ : MQ below (va_Qi (fun r u => r = r0 ∧ u = u9) (CPost D dA A) A) args s (u9.1 - u.1) (u9.2.1 - u.2.1) A = QQ
  have hent := lg_entry_eq m [.ref x0, .ref x1] 2
  rw [← hav] at hent
  rw [hent]
  have hl := lv_entry ([.ref x0, .ref x1]) (n := 2) (Nat.le_of_ble_eq_true rfl)
  generalize (lg_sl ([.ref x0, .ref x1]) ++ List.replicate (2 - (lg_sl ([.ref x0, .ref x1])).length) Slot.unset).toArray = ls at hl ⊢
  have hl : lv_has ls 2 [(0, .ref x0), (1, .ref x1)] := hl
  obtain ⟨cc, ecc⟩ : ∃ z : Nat, z = 0 := ⟨0, rfl⟩
  obtain ⟨ss, ess⟩ : ∃ z : Nat, z = 0 := ⟨0, rfl⟩
  have hcc : cc + u.1 = u.1 := by omega
  have hss : ss + u.2.1 = u.2.1 := by omega
  suffices hgo : W p l e (rm_J2_add (u9.1 - u.1) (u9.2.1 - u.2.1)) s m args below meth c s.heap [] cc ss QQ (F0 m 0 ls []) by rw [ecc, ess] at hgo; exact hgo
  have ⟨pu, qu, _, _⟩ := mo_J2_add hm
  have hB23 : ∀ (h : CH) (cc ss : Nat) (H : Heap) (locs : List Loc) (ls : Array Slot), m_J2_add_23 f h = some (r0, u9) → CW D dA A s h H locs → cc + u.1 = h.1 → ss + u.2.1 = h.2.1 → lv_has ls 2 [] → W p l e (rm_J2_add (u9.1 - u.1) (u9.2.1 - u.2.1)) s m args below meth c H locs cc ss QQ (F0 m 23 ls []) := by
    intro h cc ss H locs ls hm hw hcc hss hl
    have hmo := mo_J2_add_23  h _ hm
    have sb_ : h.1 ≤ u9.1 := hmo.1
    have tb_ : h.2.1 ≤ u9.2.1 := hmo.2.1
    rw [m_J2_add_23] at hm
    refine lv_iconst (v := 1) hx hb dJ2_add_23 (by decide) ?_
    obtain ⟨er, eh⟩ := retE hm
    have ec : cc = u9.1 - u.1 := by rw [← eh]; omega
    have es : ss = u9.2.1 - u.2.1 := by rw [← eh]; omega
    rw [ec, es, ← hQ]
    exact W.zret (v := (1 : Int32)) hx hb hr rfl (fun t ht hW => ⟨⟨(1 : Int32), h, rfl, ⟨er, eh⟩, ⟨by rw [ht]; exact hw.1, by rw [ht]; exact hw.2.1⟩⟩, hw.2.2.1.F ht⟩) hw.2.2.1.2.2 dJ2_add_24
  rw [m_J2_add] at hm
  refine lv_aload_n hx hb dJ2_add_0 rfl (lv_at hl 0 rfl) ?_
  refine lv_dup hx hb dJ2_add_1 rfl ?_
  obtain ⟨v1, ev1, hm⟩ := bdE hm
  refine cg_getM C hw (oI_E ev1) rfl in_J2 (by decide) q182 q183 dJ2_add_2 ?_
  refine lv_iconst (v := 1) hx hb dJ2_add_5 (by decide) ?_
  refine lv_iadd hx hb dJ2_add_6 ?_
  obtain ⟨h2, eh2, hm⟩ := bdE hm
  refine cg_putM C hw eh2 rfl in_J2 tyJ2 tyJ2_ok nmJ2 (by decide) q182 q183 rfl rfl rfl dJ2_add_7 (fun H locs hw => ?_)
  have zh2 := pF_sz eh2
  refine lv_aload_n hx hb dJ2_add_10 rfl (lv_at hl 0 rfl) ?_
  refine lv_aload_n hx hb dJ2_add_11 rfl (lv_at hl 1 rfl) ?_
  refine lv_aload_n hx hb dJ2_add_12 rfl (lv_at hl 0 rfl) ?_
  obtain ⟨a3, ea3, hm⟩ := bdE hm
  refine cg_get C hw (oR_E ea3) rfl in_J2 (by decide) q179 dJ2_add_13 ?_
  refine lv_aload_n hx hb dJ2_add_16 rfl (lv_at hl 0 rfl) ?_
  obtain ⟨v4, ev4, hm⟩ := bdE hm
  refine cg_get C hw (oI_E ev4) rfl in_J2 (by decide) q180 dJ2_add_17 ?_
  obtain ⟨g5, hm⟩ := gdE hm
  obtain ⟨h6, eh6, hm⟩ := bdE hm
  have lh6 := mo_J2_add_2 eh6
  have ph6 : h2.1 ≤ h6.1 := lh6.1
  have qh6 : h2.2.1 ≤ h6.2.1 := lh6.2.1
  have hmo := mo_J2_add_23   h6 _ hm
  have sh6 : h6.1 ≤ u9.1 := hmo.1
  have th6 : h6.2.1 ≤ u9.2.1 := hmo.2.1
  refine cg_callv hw lh6 (va_runV (As := [.ref x1, .ref a3, .int v4]) (rest := []) ⟨hx, hb, hml, hown, hts⟩ (w_J2_add_2 l eh6) (cw_J2_add_2 hts q804 ⟨Nat.le_of_ble_eq_true rfl, Nat.le_of_ble_eq_true rfl⟩) (cg_preV C hw g5 rfl _) rfl rfl hl.1 rfl (lv_room (Nat.le_of_ble_eq_true rfl)) dJ2_add_20 ⟨show cc + (h6.1 - h2.1) ≤ u9.1 - u.1 by omega, show ss + (h6.2.1 - h2.2.1) ≤ u9.2.1 - u.2.1 by omega⟩) (fun H locs hw => ?_)
  exact hB23 h6 _ _ _ _ _ hm hw (by omega) (by omega) (lv_sub hl [] rfl)
def m_J2_contains_13 (f : Nat) (h : CH) (y0 : Int32) : Option (Int32 × CH) := gd (zb y0) <|
    some (y0, h)
theorem mo_J2_contains_13 {f : Nat} : ∀ (h : CH) (y0 : Int32) (r : (Int32 × CH)), m_J2_contains_13 f h y0 = some r → le2 h r.2 := by
  intro h y0 r hm
  rw [m_J2_contains_13] at hm
  obtain ⟨g1, hm⟩ := gdE hm
  cases hm
  exact le2.rf
def m_J2_contains_5 (f : Nat) (h : CH) (y0 : Int32) : Option (Int32 × CH) := if y0 < 0 then
    m_J2_contains_13 f h (0 : Int32)
    else m_J2_contains_13 f h (1 : Int32)
theorem mo_J2_contains_5 {f : Nat} : ∀ (h : CH) (y0 : Int32) (r : (Int32 × CH)), m_J2_contains_5 f h y0 = some r → le2 h r.2 := by
  intro h y0 r hm
  rw [m_J2_contains_5] at hm
  by_cases c1 : y0 < 0
  · have hm := ifT hm c1
    exact (mo_J2_contains_13  h (0 : Int32) _ hm)
  · have hm := ifF hm c1
    exact (mo_J2_contains_13  h (1 : Int32) _ hm)
def m_J2_contains (f : Nat) (u : CH) (x0 : Nat) (x1 : Nat) : Option (Int32 × CH) := gd (isC u x0 17) <|
    bd2 (m_J2_indexOf f u x0 x1) fun r3 h2 =>
    m_J2_contains_5 f h2 r3
theorem mo_J2_contains {f : Nat} {u : CH} {x0 : Nat} {x1 : Nat} {r0 : Int32} {u9 : CH} (hm : m_J2_contains f u x0 x1 = some (r0, u9)) : le2 u u9 := by
  rw [m_J2_contains] at hm
  obtain ⟨g1, hm⟩ := gdE hm
  obtain ⟨r3, h2, er3, hm⟩ := bd2E hm
  have lh2 := mo_J2_indexOf er3
  exact (lh2.tr (mo_J2_contains_5  h2 r3 _ hm))
abbrev rm_J2_contains (mc ms : Nat) : Room := { frames := 4, cells := mc, slots := ms, locals := 90 }
theorem cw_J2_contains {R : Room} {s : State} {args : Array Value} {own : String} {idx mc ms : Nat} (hts : ∀ w ∈ lw_all, w.before args s = true) (hl : Cond.methodLink own idx yJ2_contains ∈ lw_all) (hR : 4 + 1 ≤ R.frames ∧ 8 + (2 + 11) + 90 ≤ R.locals) : CallW R s args own RJ2 idx yJ2_contains cJ2_contains 2 (Option.some Jvm.ClassFile.FieldType.boolean) (ws_ yJ2_contains cJ2_contains 2 (Option.some Jvm.ClassFile.FieldType.boolean)) (rm_J2_contains mc ms) mc ms 1 := cwV 1 hts (lw_V hl q674 q675 q122 q676) rfl rfl rfl (by decide +kernel) hR
set_option maxHeartbeats 4000000 in
set_option maxRecDepth 100000 in
theorem w_J2_contains (l : Launch) {D : va_G} {dA : Nat → ClassId} {A : Nat → Prop} {f : Nat} {u u9 : CH} {r0 : Int32} {x0 : Nat} {x1 : Nat} (hm : m_J2_contains f u x0 x1 = some (r0, u9)) : Met l yJ2_contains (ws_ yJ2_contains cJ2_contains 2 (Option.some Jvm.ClassFile.FieldType.boolean)) (rm_J2_contains (u9.1 - u.1) (u9.2.1 - u.2.1)) (va_Pc [.ref x0, .ref x1] (CPre D dA A u)) (va_Qi (fun r u => r = r0 ∧ u = u9) (CPost D dA A) A) (u9.1 - u.1) (u9.2.1 - u.2.1) A := by
  refine metOfWF (cc := cJ2_contains) (maxL := 2) (ret := (Option.some Jvm.ClassFile.FieldType.boolean)) (by decide +kernel) rfl ?_
  intro p e s m args below meth c s₁ B hml hv
  have hx := B.exec
  have hb := B.bytes
  have hr := B.returns
  have hts := atoms_spec (ws := (ws_ yJ2_contains cJ2_contains 2 (Option.some Jvm.ClassFile.FieldType.boolean))) B.pre
  have hts : ∀ w ∈ lw_all, w.before args s = true := fun w h => hts w (List.mem_cons_of_mem _ h)
  have hown : s.vm.findClass RJ2 = some m.cls := findClass_of_methodNamed B.named
  have hlocks := B.notSynchronized
  obtain ⟨hav, hv⟩ := hv
  have C : CX p s m args c cJ2_contains RJ2 D dA := ⟨hx, hb, hown, hts, hv.2⟩
  have hw : CW D dA A s u s.heap [] := hv.1
  generalize hQ : MQ below (va_Qi (fun r u => r = r0 ∧ u = u9) (CPost D dA A) A) args s (u9.1 - u.1) (u9.2.1 - u.2.1) A = QQ
  have hent := lg_entry_eq m [.ref x0, .ref x1] 2
  rw [← hav] at hent
  rw [hent]
  have hl := lv_entry ([.ref x0, .ref x1]) (n := 2) (Nat.le_of_ble_eq_true rfl)
  generalize (lg_sl ([.ref x0, .ref x1]) ++ List.replicate (2 - (lg_sl ([.ref x0, .ref x1])).length) Slot.unset).toArray = ls at hl ⊢
  have hl : lv_has ls 2 [(0, .ref x0), (1, .ref x1)] := hl
  obtain ⟨cc, ecc⟩ : ∃ z : Nat, z = 0 := ⟨0, rfl⟩
  obtain ⟨ss, ess⟩ : ∃ z : Nat, z = 0 := ⟨0, rfl⟩
  have hcc : cc + u.1 = u.1 := by omega
  have hss : ss + u.2.1 = u.2.1 := by omega
  suffices hgo : W p l e (rm_J2_contains (u9.1 - u.1) (u9.2.1 - u.2.1)) s m args below meth c s.heap [] cc ss QQ (F0 m 0 ls []) by rw [ecc, ess] at hgo; exact hgo
  have ⟨pu, qu, _, _⟩ := mo_J2_contains hm
  have hB13 : ∀ (h : CH) (y0 : Int32) (cc ss : Nat) (H : Heap) (locs : List Loc) (ls : Array Slot), m_J2_contains_13 f h y0 = some (r0, u9) → CW D dA A s h H locs → cc + u.1 = h.1 → ss + u.2.1 = h.2.1 → lv_has ls 2 [] → W p l e (rm_J2_contains (u9.1 - u.1) (u9.2.1 - u.2.1)) s m args below meth c H locs cc ss QQ (F0 m 13 ls [.int y0]) := by
    intro h y0 cc ss H locs ls hm hw hcc hss hl
    have hmo := mo_J2_contains_13  h y0 _ hm
    have sb_ : h.1 ≤ u9.1 := hmo.1
    have tb_ : h.2.1 ≤ u9.2.1 := hmo.2.1
    rw [m_J2_contains_13] at hm
    obtain ⟨g1, hm⟩ := gdE hm
    obtain ⟨er, eh⟩ := retE hm
    have ec : cc = u9.1 - u.1 := by rw [← eh]; omega
    have es : ss = u9.2.1 - u.2.1 := by rw [← eh]; omega
    rw [ec, es, ← hQ]
    exact W.zret (v := y0) hx hb hr (zb_nar g1) (fun t ht hW => ⟨⟨y0, h, rfl, ⟨er, eh⟩, ⟨by rw [ht]; exact hw.1, by rw [ht]; exact hw.2.1⟩⟩, hw.2.2.1.F ht⟩) hw.2.2.1.2.2 dJ2_contains_13
  have hB5 : ∀ (h : CH) (y0 : Int32) (cc ss : Nat) (H : Heap) (locs : List Loc) (ls : Array Slot), m_J2_contains_5 f h y0 = some (r0, u9) → CW D dA A s h H locs → cc + u.1 = h.1 → ss + u.2.1 = h.2.1 → lv_has ls 2 [] → W p l e (rm_J2_contains (u9.1 - u.1) (u9.2.1 - u.2.1)) s m args below meth c H locs cc ss QQ (F0 m 5 ls [.int y0]) := by
    intro h y0 cc ss H locs ls hm hw hcc hss hl
    have hmo := mo_J2_contains_5  h y0 _ hm
    have sb_ : h.1 ≤ u9.1 := hmo.1
    have tb_ : h.2.1 ≤ u9.2.1 := hmo.2.1
    rw [m_J2_contains_5] at hm
    refine lv_if_lt (tgt := 12) hx hb dJ2_contains_5 (by decide) (fun c1 => ?_) (fun c1 => ?_)
    · have hm := ifT hm c1
      refine lv_iconst (v := 0) hx hb dJ2_contains_12 (by decide) ?_
      exact hB13 h (0 : Int32) _ _ _ _ _ hm hw (by omega) (by omega) (lv_sub hl [] rfl)
    · have hm := ifF hm c1
      refine lv_iconst (v := 1) hx hb dJ2_contains_8 (by decide) ?_
      refine lv_goto (tgt := 13) hx hb dJ2_contains_9 (by decide) ?_
      exact hB13 h (1 : Int32) _ _ _ _ _ hm hw (by omega) (by omega) (lv_sub hl [] rfl)
  rw [m_J2_contains] at hm
  refine lv_aload_n hx hb dJ2_contains_0 rfl (lv_at hl 0 rfl) ?_
  refine lv_aload_n hx hb dJ2_contains_1 rfl (lv_at hl 1 rfl) ?_
  obtain ⟨g1, hm⟩ := gdE hm
  obtain ⟨r3, h2, er3, hm⟩ := bd2E hm
  have lh2 := mo_J2_indexOf er3
  have ph2 : u.1 ≤ h2.1 := lh2.1
  have qh2 : u.2.1 ≤ h2.2.1 := lh2.2.1
  have hmo := mo_J2_contains_5   h2 r3 _ hm
  have sh2 : h2.1 ≤ u9.1 := hmo.1
  have th2 : h2.2.1 ≤ u9.2.1 := hmo.2.1
  refine cg_calli hw lh2 (va_runV (As := [.ref x1]) (rest := []) ⟨hx, hb, hml, hown, hts⟩ (w_J2_indexOf l er3) (cw_J2_indexOf hts q677 ⟨Nat.le_of_ble_eq_true rfl, Nat.le_of_ble_eq_true rfl⟩) (cg_preV C hw g1 rfl _) rfl rfl hl.1 rfl (lv_room (Nat.le_of_ble_eq_true rfl)) dJ2_contains_2 ⟨show cc + (h2.1 - u.1) ≤ u9.1 - u.1 by omega, show ss + (h2.2.1 - u.2.1) ≤ u9.2.1 - u.2.1 by omega⟩) (fun H locs hw => ?_)
  exact hB5 h2 r3 _ _ _ _ _ hm hw (by omega) (by omega) (lv_sub hl [] rfl)
def m_J6_coder_14 (f : Nat) (h : CH) (y0 : Int32) : Option (Int32 × CH) := gd (bb y0) <|
    some (y0, h)
theorem mo_J6_coder_14 {f : Nat} : ∀ (h : CH) (y0 : Int32) (r : (Int32 × CH)), m_J6_coder_14 f h y0 = some r → le2 h r.2 := by
  intro h y0 r hm
  rw [m_J6_coder_14] at hm
  obtain ⟨g1, hm⟩ := gdE hm
  cases hm
  exact le2.rf
def m_J6_coder (f : Nat) (u : CH) (x0 : Nat) : Option (Int32 × CH) := if (1 : Int32) = 0 then
    m_J6_coder_14 f u (1 : Int32)
    else bd (oI u 19 1 x0) fun v2 =>
    m_J6_coder_14 f u v2
theorem mo_J6_coder {f : Nat} {u : CH} {x0 : Nat} {r0 : Int32} {u9 : CH} (hm : m_J6_coder f u x0 = some (r0, u9)) : le2 u u9 := by
  rw [m_J6_coder] at hm
  by_cases c1 : (1 : Int32) = 0
  · have hm := ifT hm c1
    exact (mo_J6_coder_14  u (1 : Int32) _ hm)
  · have hm := ifF hm c1
    obtain ⟨v2, ev2, hm⟩ := bdE hm
    exact (mo_J6_coder_14  u v2 _ hm)
abbrev rm_J6_coder (mc ms : Nat) : Room := { frames := 0, cells := mc, slots := ms, locals := 0 }
theorem cw_J6_coder {R : Room} {s : State} {args : Array Value} {own : String} {idx mc ms : Nat} (hts : ∀ w ∈ lw_all, w.before args s = true) (hl : Cond.methodLink own idx yJ6_coder ∈ lw_all) (hR : 0 + 1 ≤ R.frames ∧ 8 + (1 + 11) + 0 ≤ R.locals) : CallW R s args own RJ6 idx yJ6_coder cJ6_coder 1 (Option.some Jvm.ClassFile.FieldType.byte) (ws_ yJ6_coder cJ6_coder 1 (Option.some Jvm.ClassFile.FieldType.byte)) (rm_J6_coder mc ms) mc ms 0 := cwV 0 hts (lw_V hl q664 q665 q131 q666) rfl rfl rfl (by decide +kernel) hR
set_option maxHeartbeats 4000000 in
set_option maxRecDepth 100000 in
theorem w_J6_coder (l : Launch) {D : va_G} {dA : Nat → ClassId} {A : Nat → Prop} {f : Nat} {u u9 : CH} {r0 : Int32} {x0 : Nat} (hm : m_J6_coder f u x0 = some (r0, u9)) : Met l yJ6_coder (ws_ yJ6_coder cJ6_coder 1 (Option.some Jvm.ClassFile.FieldType.byte)) (rm_J6_coder (u9.1 - u.1) (u9.2.1 - u.2.1)) (va_Pc [.ref x0] (CPre D dA A u)) (va_Qi (fun r u => r = r0 ∧ u = u9) (CPost D dA A) A) (u9.1 - u.1) (u9.2.1 - u.2.1) A := by
  refine metOfWF (cc := cJ6_coder) (maxL := 1) (ret := (Option.some Jvm.ClassFile.FieldType.byte)) (by decide +kernel) rfl ?_
  intro p e s m args below meth c s₁ B hml hv
  have hx := B.exec
  have hb := B.bytes
  have hr := B.returns
  have hts := atoms_spec (ws := (ws_ yJ6_coder cJ6_coder 1 (Option.some Jvm.ClassFile.FieldType.byte))) B.pre
  have hts : ∀ w ∈ lw_all, w.before args s = true := fun w h => hts w (List.mem_cons_of_mem _ h)
  have hown : s.vm.findClass RJ6 = some m.cls := findClass_of_methodNamed B.named
  have hlocks := B.notSynchronized
  obtain ⟨hav, hv⟩ := hv
  have C : CX p s m args c cJ6_coder RJ6 D dA := ⟨hx, hb, hown, hts, hv.2⟩
  have hw : CW D dA A s u s.heap [] := hv.1
  generalize hQ : MQ below (va_Qi (fun r u => r = r0 ∧ u = u9) (CPost D dA A) A) args s (u9.1 - u.1) (u9.2.1 - u.2.1) A = QQ
  have hent := lg_entry_eq m [.ref x0] 1
  rw [← hav] at hent
  rw [hent]
  have hl := lv_entry ([.ref x0]) (n := 1) (Nat.le_of_ble_eq_true rfl)
  generalize (lg_sl ([.ref x0]) ++ List.replicate (1 - (lg_sl ([.ref x0])).length) Slot.unset).toArray = ls at hl ⊢
  have hl : lv_has ls 1 [(0, .ref x0)] := hl
  obtain ⟨cc, ecc⟩ : ∃ z : Nat, z = 0 := ⟨0, rfl⟩
  obtain ⟨ss, ess⟩ : ∃ z : Nat, z = 0 := ⟨0, rfl⟩
  have hcc : cc + u.1 = u.1 := by omega
  have hss : ss + u.2.1 = u.2.1 := by omega
  suffices hgo : W p l e (rm_J6_coder (u9.1 - u.1) (u9.2.1 - u.2.1)) s m args below meth c s.heap [] cc ss QQ (F0 m 0 ls []) by rw [ecc, ess] at hgo; exact hgo
  have ⟨pu, qu, _, _⟩ := mo_J6_coder hm
  have hB14 : ∀ (h : CH) (y0 : Int32) (cc ss : Nat) (H : Heap) (locs : List Loc) (ls : Array Slot), m_J6_coder_14 f h y0 = some (r0, u9) → CW D dA A s h H locs → cc + u.1 = h.1 → ss + u.2.1 = h.2.1 → lv_has ls 1 [] → W p l e (rm_J6_coder (u9.1 - u.1) (u9.2.1 - u.2.1)) s m args below meth c H locs cc ss QQ (F0 m 14 ls [.int y0]) := by
    intro h y0 cc ss H locs ls hm hw hcc hss hl
    have hmo := mo_J6_coder_14  h y0 _ hm
    have sb_ : h.1 ≤ u9.1 := hmo.1
    have tb_ : h.2.1 ≤ u9.2.1 := hmo.2.1
    rw [m_J6_coder_14] at hm
    obtain ⟨g1, hm⟩ := gdE hm
    obtain ⟨er, eh⟩ := retE hm
    have ec : cc = u9.1 - u.1 := by rw [← eh]; omega
    have es : ss = u9.2.1 - u.2.1 := by rw [← eh]; omega
    rw [ec, es, ← hQ]
    exact W.zret (v := y0) hx hb hr (bb_nar g1) (fun t ht hW => ⟨⟨y0, h, rfl, ⟨er, eh⟩, ⟨by rw [ht]; exact hw.1, by rw [ht]; exact hw.2.1⟩⟩, hw.2.2.1.F ht⟩) hw.2.2.1.2.2 dJ6_coder_14
  rw [m_J6_coder] at hm
  refine cg_getsI C hw (i := 0) rfl q526 dJ6_coder_0 ?_
  refine lv_if_eq (tgt := 13) hx hb dJ6_coder_3 (by decide) (fun c1 => ?_) (fun c1 => ?_)
  · have hm := ifT hm c1
    refine lv_iconst (v := 1) hx hb dJ6_coder_13 (by decide) ?_
    exact hB14 u (1 : Int32) _ _ _ _ _ hm hw (by omega) (by omega) (lv_sub hl [] rfl)
  · have hm := ifF hm c1
    refine lv_aload_n hx hb dJ6_coder_6 rfl (lv_at hl 0 rfl) ?_
    obtain ⟨v2, ev2, hm⟩ := bdE hm
    refine cg_get C hw (oI_E ev2) rfl in_J6 (by decide) q541 dJ6_coder_7 ?_
    refine lv_goto (tgt := 14) hx hb dJ6_coder_10 (by decide) ?_
    exact hB14 u v2 _ _ _ _ _ hm hw (by omega) (by omega) (lv_sub hl [] rfl)
def m_J6_length_9 (f : Nat) (h : CH) (y0 : Int32) (y1 : Int32) : Option (Int32 × CH) := some ((y0 >>> (y1 &&& 31)), h)
theorem mo_J6_length_9 {f : Nat} : ∀ (h : CH) (y0 : Int32) (y1 : Int32) (r : (Int32 × CH)), m_J6_length_9 f h y0 y1 = some r → le2 h r.2 := by
  intro h y0 y1 r hm
  rw [m_J6_length_9] at hm
  cases hm
  exact le2.rf
def m_J6_length (f : Nat) (u : CH) (x0 : Nat) : Option (Int32 × CH) := bd (oR u 19 0 x0) fun a1 =>
    bd (aN u 2 a1) fun n2 =>
    gd (isC u x0 19) <|
    bd2 (m_J6_coder f u x0) fun r5 h4 =>
    m_J6_length_9 f h4 (Int32.ofNat n2) r5
theorem mo_J6_length {f : Nat} {u : CH} {x0 : Nat} {r0 : Int32} {u9 : CH} (hm : m_J6_length f u x0 = some (r0, u9)) : le2 u u9 := by
  rw [m_J6_length] at hm
  obtain ⟨a1, ea1, hm⟩ := bdE hm
  obtain ⟨n2, en2, hm⟩ := bdE hm
  obtain ⟨g3, hm⟩ := gdE hm
  obtain ⟨r5, h4, er5, hm⟩ := bd2E hm
  have lh4 := mo_J6_coder er5
  exact (lh4.tr (mo_J6_length_9  h4 (Int32.ofNat n2) r5 _ hm))
abbrev rm_J6_length (mc ms : Nat) : Room := { frames := 1, cells := mc, slots := ms, locals := 20 }
theorem cw_J6_length {R : Room} {s : State} {args : Array Value} {own : String} {idx mc ms : Nat} (hts : ∀ w ∈ lw_all, w.before args s = true) (hl : Cond.methodLink own idx yJ6_length ∈ lw_all) (hR : 1 + 1 ≤ R.frames ∧ 8 + (1 + 11) + 20 ≤ R.locals) : CallW R s args own RJ6 idx yJ6_length cJ6_length 1 (Option.some Jvm.ClassFile.FieldType.int) (ws_ yJ6_length cJ6_length 1 (Option.some Jvm.ClassFile.FieldType.int)) (rm_J6_length mc ms) mc ms 0 := cwV 0 hts (lw_V hl q660 q661 q131 q662) rfl rfl rfl (by decide +kernel) hR
set_option maxHeartbeats 4000000 in
set_option maxRecDepth 100000 in
theorem w_J6_length (l : Launch) {D : va_G} {dA : Nat → ClassId} {A : Nat → Prop} {f : Nat} {u u9 : CH} {r0 : Int32} {x0 : Nat} (hm : m_J6_length f u x0 = some (r0, u9)) : Met l yJ6_length (ws_ yJ6_length cJ6_length 1 (Option.some Jvm.ClassFile.FieldType.int)) (rm_J6_length (u9.1 - u.1) (u9.2.1 - u.2.1)) (va_Pc [.ref x0] (CPre D dA A u)) (va_Qi (fun r u => r = r0 ∧ u = u9) (CPost D dA A) A) (u9.1 - u.1) (u9.2.1 - u.2.1) A := by
  refine metOfWF (cc := cJ6_length) (maxL := 1) (ret := (Option.some Jvm.ClassFile.FieldType.int)) (by decide +kernel) rfl ?_
  intro p e s m args below meth c s₁ B hml hv
  have hx := B.exec
  have hb := B.bytes
  have hr := B.returns
  have hts := atoms_spec (ws := (ws_ yJ6_length cJ6_length 1 (Option.some Jvm.ClassFile.FieldType.int))) B.pre
  have hts : ∀ w ∈ lw_all, w.before args s = true := fun w h => hts w (List.mem_cons_of_mem _ h)
  have hown : s.vm.findClass RJ6 = some m.cls := findClass_of_methodNamed B.named
  have hlocks := B.notSynchronized
  obtain ⟨hav, hv⟩ := hv
  have C : CX p s m args c cJ6_length RJ6 D dA := ⟨hx, hb, hown, hts, hv.2⟩
  have hw : CW D dA A s u s.heap [] := hv.1
  generalize hQ : MQ below (va_Qi (fun r u => r = r0 ∧ u = u9) (CPost D dA A) A) args s (u9.1 - u.1) (u9.2.1 - u.2.1) A = QQ
  have hent := lg_entry_eq m [.ref x0] 1
  rw [← hav] at hent
  rw [hent]
  have hl := lv_entry ([.ref x0]) (n := 1) (Nat.le_of_ble_eq_true rfl)
  generalize (lg_sl ([.ref x0]) ++ List.replicate (1 - (lg_sl ([.ref x0])).length) Slot.unset).toArray = ls at hl ⊢
  have hl : lv_has ls 1 [(0, .ref x0)] := hl
  obtain ⟨cc, ecc⟩ : ∃ z : Nat, z = 0 := ⟨0, rfl⟩
  obtain ⟨ss, ess⟩ : ∃ z : Nat, z = 0 := ⟨0, rfl⟩
  have hcc : cc + u.1 = u.1 := by omega
  have hss : ss + u.2.1 = u.2.1 := by omega
  suffices hgo : W p l e (rm_J6_length (u9.1 - u.1) (u9.2.1 - u.2.1)) s m args below meth c s.heap [] cc ss QQ (F0 m 0 ls []) by rw [ecc, ess] at hgo; exact hgo
  have ⟨pu, qu, _, _⟩ := mo_J6_length hm
  have hB9 : ∀ (h : CH) (y0 : Int32) (y1 : Int32) (cc ss : Nat) (H : Heap) (locs : List Loc) (ls : Array Slot), m_J6_length_9 f h y0 y1 = some (r0, u9) → CW D dA A s h H locs → cc + u.1 = h.1 → ss + u.2.1 = h.2.1 → lv_has ls 1 [] → W p l e (rm_J6_length (u9.1 - u.1) (u9.2.1 - u.2.1)) s m args below meth c H locs cc ss QQ (F0 m 9 ls [.int y1, .int y0]) := by
    intro h y0 y1 cc ss H locs ls hm hw hcc hss hl
    have hmo := mo_J6_length_9  h y0 y1 _ hm
    have sb_ : h.1 ≤ u9.1 := hmo.1
    have tb_ : h.2.1 ≤ u9.2.1 := hmo.2.1
    rw [m_J6_length_9] at hm
    refine lv_ishr hx hb dJ6_length_9 ?_
    obtain ⟨er, eh⟩ := retE hm
    have ec : cc = u9.1 - u.1 := by rw [← eh]; omega
    have es : ss = u9.2.1 - u.2.1 := by rw [← eh]; omega
    rw [ec, es, ← hQ]
    exact W.iret (v := (y0 >>> (y1 &&& 31))) hx hb hr (fun t ht hW => ⟨⟨(y0 >>> (y1 &&& 31)), h, rfl, ⟨er, eh⟩, ⟨by rw [ht]; exact hw.1, by rw [ht]; exact hw.2.1⟩⟩, hw.2.2.1.F ht⟩) hw.2.2.1.2.2 dJ6_length_10
  rw [m_J6_length] at hm
  refine lv_aload_n hx hb dJ6_length_0 rfl (lv_at hl 0 rfl) ?_
  obtain ⟨a1, ea1, hm⟩ := bdE hm
  refine cg_get C hw (oR_E ea1) rfl in_J6 (by decide) q540 dJ6_length_1 ?_
  obtain ⟨n2, en2, hm⟩ := bdE hm
  refine cg_alen C hw (ty := .byte) rfl en2 dJ6_length_4 ?_
  refine lv_aload_n hx hb dJ6_length_5 rfl (lv_at hl 0 rfl) ?_
  obtain ⟨g3, hm⟩ := gdE hm
  obtain ⟨r5, h4, er5, hm⟩ := bd2E hm
  have lh4 := mo_J6_coder er5
  have ph4 : u.1 ≤ h4.1 := lh4.1
  have qh4 : u.2.1 ≤ h4.2.1 := lh4.2.1
  have hmo := mo_J6_length_9   h4 (Int32.ofNat n2) r5 _ hm
  have sh4 : h4.1 ≤ u9.1 := hmo.1
  have th4 : h4.2.1 ≤ u9.2.1 := hmo.2.1
  refine cg_calli hw lh4 (va_runV (As := []) (rest := [.int (Int32.ofNat n2)]) ⟨hx, hb, hml, hown, hts⟩ (w_J6_coder l er5) (cw_J6_coder hts q663 ⟨Nat.le_of_ble_eq_true rfl, Nat.le_of_ble_eq_true rfl⟩) (cg_preV C hw g3 rfl _) rfl rfl hl.1 rfl (lv_room (Nat.le_of_ble_eq_true rfl)) dJ6_length_6 ⟨show cc + (h4.1 - u.1) ≤ u9.1 - u.1 by omega, show ss + (h4.2.1 - u.2.1) ≤ u9.2.1 - u.2.1 by omega⟩) (fun H locs hw => ?_)
  exact hB9 h4 (Int32.ofNat n2) r5 _ _ _ _ _ hm hw (by omega) (by omega) (lv_sub hl [] rfl)
def m_J2_size (f : Nat) (u : CH) (x0 : Nat) : Option (Int32 × CH) := bd (oI u 17 2 x0) fun v1 =>
    some (v1, u)
theorem mo_J2_size {f : Nat} {u : CH} {x0 : Nat} {r0 : Int32} {u9 : CH} (hm : m_J2_size f u x0 = some (r0, u9)) : le2 u u9 := by
  rw [m_J2_size] at hm
  obtain ⟨v1, ev1, hm⟩ := bdE hm
  cases hm
  exact le2.rf
abbrev rm_J2_size (mc ms : Nat) : Room := { frames := 0, cells := mc, slots := ms, locals := 0 }
theorem cw_J2_size {R : Room} {s : State} {args : Array Value} {own : String} {idx mc ms : Nat} (hts : ∀ w ∈ lw_all, w.before args s = true) (hl : Cond.methodLink own idx yJ2_size ∈ lw_all) (hR : 0 + 1 ≤ R.frames ∧ 8 + (1 + 11) + 0 ≤ R.locals) : CallW R s args own RJ2 idx yJ2_size cJ2_size 1 (Option.some Jvm.ClassFile.FieldType.int) (ws_ yJ2_size cJ2_size 1 (Option.some Jvm.ClassFile.FieldType.int)) (rm_J2_size mc ms) mc ms 0 := cwV 0 hts (lw_V hl q656 q657 q122 q658) rfl rfl rfl (by decide +kernel) hR
set_option maxHeartbeats 4000000 in
set_option maxRecDepth 100000 in
theorem w_J2_size (l : Launch) {D : va_G} {dA : Nat → ClassId} {A : Nat → Prop} {f : Nat} {u u9 : CH} {r0 : Int32} {x0 : Nat} (hm : m_J2_size f u x0 = some (r0, u9)) : Met l yJ2_size (ws_ yJ2_size cJ2_size 1 (Option.some Jvm.ClassFile.FieldType.int)) (rm_J2_size (u9.1 - u.1) (u9.2.1 - u.2.1)) (va_Pc [.ref x0] (CPre D dA A u)) (va_Qi (fun r u => r = r0 ∧ u = u9) (CPost D dA A) A) (u9.1 - u.1) (u9.2.1 - u.2.1) A := by
  refine metOfWF (cc := cJ2_size) (maxL := 1) (ret := (Option.some Jvm.ClassFile.FieldType.int)) (by decide +kernel) rfl ?_
  intro p e s m args below meth c s₁ B hml hv
  have hx := B.exec
  have hb := B.bytes
  have hr := B.returns
  have hts := atoms_spec (ws := (ws_ yJ2_size cJ2_size 1 (Option.some Jvm.ClassFile.FieldType.int))) B.pre
  have hts : ∀ w ∈ lw_all, w.before args s = true := fun w h => hts w (List.mem_cons_of_mem _ h)
  have hown : s.vm.findClass RJ2 = some m.cls := findClass_of_methodNamed B.named
  have hlocks := B.notSynchronized
  obtain ⟨hav, hv⟩ := hv
  have C : CX p s m args c cJ2_size RJ2 D dA := ⟨hx, hb, hown, hts, hv.2⟩
  have hw : CW D dA A s u s.heap [] := hv.1
  generalize hQ : MQ below (va_Qi (fun r u => r = r0 ∧ u = u9) (CPost D dA A) A) args s (u9.1 - u.1) (u9.2.1 - u.2.1) A = QQ
  have hent := lg_entry_eq m [.ref x0] 1
  rw [← hav] at hent
  rw [hent]
  have hl := lv_entry ([.ref x0]) (n := 1) (Nat.le_of_ble_eq_true rfl)
  generalize (lg_sl ([.ref x0]) ++ List.replicate (1 - (lg_sl ([.ref x0])).length) Slot.unset).toArray = ls at hl ⊢
  have hl : lv_has ls 1 [(0, .ref x0)] := hl
  obtain ⟨cc, ecc⟩ : ∃ z : Nat, z = 0 := ⟨0, rfl⟩
  obtain ⟨ss, ess⟩ : ∃ z : Nat, z = 0 := ⟨0, rfl⟩
  have hcc : cc + u.1 = u.1 := by omega
  have hss : ss + u.2.1 = u.2.1 := by omega
  suffices hgo : W p l e (rm_J2_size (u9.1 - u.1) (u9.2.1 - u.2.1)) s m args below meth c s.heap [] cc ss QQ (F0 m 0 ls []) by rw [ecc, ess] at hgo; exact hgo
  have ⟨pu, qu, _, _⟩ := mo_J2_size hm
  rw [m_J2_size] at hm
  refine lv_aload_n hx hb dJ2_size_0 rfl (lv_at hl 0 rfl) ?_
  obtain ⟨v1, ev1, hm⟩ := bdE hm
  refine cg_get C hw (oI_E ev1) rfl in_J2 (by decide) q180 dJ2_size_1 ?_
  obtain ⟨er, eh⟩ := retE hm
  have ec : cc = u9.1 - u.1 := by rw [← eh]; omega
  have es : ss = u9.2.1 - u.2.1 := by rw [← eh]; omega
  rw [ec, es, ← hQ]
  exact W.iret (v := v1) hx hb hr (fun t ht hW => ⟨⟨v1, u, rfl, ⟨er, eh⟩, ⟨by rw [ht]; exact hw.1, by rw [ht]; exact hw.2.1⟩⟩, hw.2.2.1.F ht⟩) hw.2.2.1.2.2 dJ2_size_4
def m_X4_line_184 (f : Nat) (h : CH) (x0 : Nat) (y0 : Int32) : Option ((Unit ⊕ Nat) × CH) := bd (oI h 4 5 x0) fun v1 =>
    bd (pF h 4 5 x0 (.int (v1 + (1 : Int32)))) fun h2 =>
    some (.inl (), h2)
theorem mo_X4_line_184 {f : Nat} : ∀ (h : CH) (x0 : Nat) (y0 : Int32) (r : ((Unit ⊕ Nat) × CH)), m_X4_line_184 f h x0 y0 = some r → le2 h r.2 := by
  intro h x0 y0 r hm
  rw [m_X4_line_184] at hm
  obtain ⟨v1, ev1, hm⟩ := bdE hm
  obtain ⟨h2, eh2, hm⟩ := bdE hm
  have lh2 := pF_le eh2
  cases hm
  exact (lh2.tr le2.rf)
def m_X4_line_175 (f : Nat) (h : CH) (x0 : Nat) (x3 : Nat) (y0 : Int32) : Option ((Unit ⊕ Nat) × CH) := bd (oR h 4 0 x0) fun a1 =>
    gd (isC h a1 17) <|
    bd2 (m_J2_add f h a1 x3) fun r4 h3 =>
    m_X4_line_184 f h3 x0 r4
theorem mo_X4_line_175 {f : Nat} : ∀ (h : CH) (x0 : Nat) (x3 : Nat) (y0 : Int32) (r : ((Unit ⊕ Nat) × CH)), m_X4_line_175 f h x0 x3 y0 = some r → le2 h r.2 := by
  intro h x0 x3 y0 r hm
  rw [m_X4_line_175] at hm
  obtain ⟨a1, ea1, hm⟩ := bdE hm
  obtain ⟨g2, hm⟩ := gdE hm
  obtain ⟨r4, h3, er4, hm⟩ := bd2E hm
  have lh3 := mo_J2_add er4
  exact (lh3.tr (mo_X4_line_184  h3 x0 r4 _ hm))
def m_X4_line_167 (f : Nat) (h : CH) (x0 : Nat) (x2 : Nat) (x3 : Nat) : Option ((Unit ⊕ Nat) × CH) := bd (oR h 4 1 x0) fun a1 =>
    gd (isC h a1 17) <|
    bd2 (m_J2_add f h a1 x2) fun r4 h3 =>
    m_X4_line_175 f h3 x0 x3 r4
theorem mo_X4_line_167 {f : Nat} : ∀ (h : CH) (x0 : Nat) (x2 : Nat) (x3 : Nat) (r : ((Unit ⊕ Nat) × CH)), m_X4_line_167 f h x0 x2 x3 = some r → le2 h r.2 := by
  intro h x0 x2 x3 r hm
  rw [m_X4_line_167] at hm
  obtain ⟨a1, ea1, hm⟩ := bdE hm
  obtain ⟨g2, hm⟩ := gdE hm
  obtain ⟨r4, h3, er4, hm⟩ := bd2E hm
  have lh3 := mo_J2_add er4
  exact (lh3.tr (mo_X4_line_175  h3 x0 x3 r4 _ hm))
def m_X4_line_163 (f : Nat) (h : CH) (x0 : Nat) (x2 : Nat) (x3 : Nat) : Option ((Unit ⊕ Nat) × CH) := gd (isC h x0 4) <|
    bd (m_X4_advance f h x0) fun h2 =>
    m_X4_line_167 f h2 x0 x2 x3
theorem mo_X4_line_163 {f : Nat} : ∀ (h : CH) (x0 : Nat) (x2 : Nat) (x3 : Nat) (r : ((Unit ⊕ Nat) × CH)), m_X4_line_163 f h x0 x2 x3 = some r → le2 h r.2 := by
  intro h x0 x2 x3 r hm
  rw [m_X4_line_163] at hm
  obtain ⟨g1, hm⟩ := gdE hm
  obtain ⟨h2, eh2, hm⟩ := bdE hm
  have lh2 := mo_X4_advance eh2
  exact (lh2.tr (mo_X4_line_167  h2 x0 x2 x3 _ hm))
def m_X4_line_159 (f : Nat) (h : CH) (x0 : Nat) (x2 : Nat) (x3 : Nat) (y0 : Nat) (y1 : Int32) : Option ((Unit ⊕ Nat) × CH) := gd (isC h y0 4) <|
    bx (m_X4_needs f h y0 y1 (1 : Int32)) (fun r3 h2 =>
    m_X4_line_163 f h2 x0 x2 x3) (fun q4 h2 =>
    gd (isC h2 q4 5) <|
    some (.inr q4, h2))
theorem mo_X4_line_159 {f : Nat} : ∀ (h : CH) (x0 : Nat) (x2 : Nat) (x3 : Nat) (y0 : Nat) (y1 : Int32) (r : ((Unit ⊕ Nat) × CH)), m_X4_line_159 f h x0 x2 x3 y0 y1 = some r → le2 h r.2 := by
  intro h x0 x2 x3 y0 y1 r hm
  rw [m_X4_line_159] at hm
  obtain ⟨g1, hm⟩ := gdE hm
  rcases bxE hm with ⟨r3, h2, eh2, hm⟩ | ⟨q4, h2, eh2, hm⟩
  · have lh2 := mo_X4_needs eh2
    exact (lh2.tr (mo_X4_line_163  h2 x0 x2 x3 _ hm))
  · have lh2 := mo_X4_needs eh2
    obtain ⟨g5, hm⟩ := gdE hm
    cases hm
    exact (lh2.tr le2.rf)
def m_X4_line_142 (f : Nat) (h : CH) (x0 : Nat) (x2 : Nat) (y0 : Nat) : Option ((Unit ⊕ Nat) × CH) := bd (oR h 4 7 x0) fun a1 =>
    bd (sR h 6) fun a2 =>
    if ¬ a1 = a2 then
    m_X4_line_159 f h x0 x2 y0 x0 (0 : Int32)
    else m_X4_line_159 f h x0 x2 y0 x0 (1 : Int32)
theorem mo_X4_line_142 {f : Nat} : ∀ (h : CH) (x0 : Nat) (x2 : Nat) (y0 : Nat) (r : ((Unit ⊕ Nat) × CH)), m_X4_line_142 f h x0 x2 y0 = some r → le2 h r.2 := by
  intro h x0 x2 y0 r hm
  rw [m_X4_line_142] at hm
  obtain ⟨a1, ea1, hm⟩ := bdE hm
  obtain ⟨a2, ea2, hm⟩ := bdE hm
  by_cases c3 : ¬ a1 = a2
  · have hm := ifT hm c3
    exact (mo_X4_line_159  h x0 x2 y0 x0 (0 : Int32) _ hm)
  · have hm := ifF hm c3
    exact (mo_X4_line_159  h x0 x2 y0 x0 (1 : Int32) _ hm)
def m_X4_line_135 (f : Nat) (h : CH) (x0 : Nat) (x2 : Nat) (y0 : Nat) : Option ((Unit ⊕ Nat) × CH) := m_X4_line_142 f h x0 x2 y0
theorem mo_X4_line_135 {f : Nat} : ∀ (h : CH) (x0 : Nat) (x2 : Nat) (y0 : Nat) (r : ((Unit ⊕ Nat) × CH)), m_X4_line_135 f h x0 x2 y0 = some r → le2 h r.2 := by
  intro h x0 x2 y0 r hm
  rw [m_X4_line_135] at hm
  exact (mo_X4_line_142  h x0 x2 y0 _ hm)
def m_X4_line_127 (f : Nat) (h : CH) (x0 : Nat) (x1 : Int32) (x2 : Nat) : Option ((Unit ⊕ Nat) × CH) := if x1 = 0 then
    gd (isC h x0 4) <|
    bx (m_X4_lattice f h x0) (fun a4 h3 =>
    m_X4_line_142 f h3 x0 x2 a4) (fun q5 h3 =>
    gd (isC h3 q5 5) <|
    some (.inr q5, h3))
    else gd (isC h x0 4) <|
    bx (m_X4_turned f h x0) (fun a9 h8 =>
    m_X4_line_135 f h8 x0 x2 a9) (fun q10 h8 =>
    gd (isC h8 q10 5) <|
    some (.inr q10, h8))
theorem mo_X4_line_127 {f : Nat} : ∀ (h : CH) (x0 : Nat) (x1 : Int32) (x2 : Nat) (r : ((Unit ⊕ Nat) × CH)), m_X4_line_127 f h x0 x1 x2 = some r → le2 h r.2 := by
  intro h x0 x1 x2 r hm
  rw [m_X4_line_127] at hm
  by_cases c1 : x1 = 0
  · have hm := ifT hm c1
    obtain ⟨g2, hm⟩ := gdE hm
    rcases bxE hm with ⟨a4, h3, eh3, hm⟩ | ⟨q5, h3, eh3, hm⟩
    · have lh3 := mo_X4_lattice eh3
      exact (lh3.tr (mo_X4_line_142  h3 x0 x2 a4 _ hm))
    · have lh3 := mo_X4_lattice eh3
      obtain ⟨g6, hm⟩ := gdE hm
      cases hm
      exact (lh3.tr le2.rf)
  · have hm := ifF hm c1
    obtain ⟨g7, hm⟩ := gdE hm
    rcases bxE hm with ⟨a9, h8, eh8, hm⟩ | ⟨q10, h8, eh8, hm⟩
    · have lh8 := mo_X4_turned eh8
      exact (lh8.tr (mo_X4_line_135  h8 x0 x2 a9 _ hm))
    · have lh8 := mo_X4_turned eh8
      obtain ⟨g11, hm⟩ := gdE hm
      cases hm
      exact (lh8.tr le2.rf)
def m_X4_line_118 (f : Nat) (h : CH) (x0 : Nat) (x1 : Int32) : Option ((Unit ⊕ Nat) × CH) := bd (oR h 4 8 x0) fun a1 =>
    gd (isC h x0 4) <|
    bd (m_X4_advance f h x0) fun h3 =>
    m_X4_line_127 f h3 x0 x1 a1
theorem mo_X4_line_118 {f : Nat} : ∀ (h : CH) (x0 : Nat) (x1 : Int32) (r : ((Unit ⊕ Nat) × CH)), m_X4_line_118 f h x0 x1 = some r → le2 h r.2 := by
  intro h x0 x1 r hm
  rw [m_X4_line_118] at hm
  obtain ⟨a1, ea1, hm⟩ := bdE hm
  obtain ⟨g2, hm⟩ := gdE hm
  obtain ⟨h3, eh3, hm⟩ := bdE hm
  have lh3 := mo_X4_advance eh3
  exact (lh3.tr (mo_X4_line_127  h3 x0 x1 a1 _ hm))
def m_X4_line_114 (f : Nat) (h : CH) (x0 : Nat) (x1 : Int32) (y0 : Nat) (y1 : Int32) : Option ((Unit ⊕ Nat) × CH) := gd (isC h y0 4) <|
    bx (m_X4_needs f h y0 y1 (2 : Int32)) (fun r3 h2 =>
    m_X4_line_118 f h2 x0 x1) (fun q4 h2 =>
    gd (isC h2 q4 5) <|
    some (.inr q4, h2))
theorem mo_X4_line_114 {f : Nat} : ∀ (h : CH) (x0 : Nat) (x1 : Int32) (y0 : Nat) (y1 : Int32) (r : ((Unit ⊕ Nat) × CH)), m_X4_line_114 f h x0 x1 y0 y1 = some r → le2 h r.2 := by
  intro h x0 x1 y0 y1 r hm
  rw [m_X4_line_114] at hm
  obtain ⟨g1, hm⟩ := gdE hm
  rcases bxE hm with ⟨r3, h2, eh2, hm⟩ | ⟨q4, h2, eh2, hm⟩
  · have lh2 := mo_X4_needs eh2
    exact (lh2.tr (mo_X4_line_118  h2 x0 x1 _ hm))
  · have lh2 := mo_X4_needs eh2
    obtain ⟨g5, hm⟩ := gdE hm
    cases hm
    exact (lh2.tr le2.rf)
def m_X4_line_113 (f : Nat) (h : CH) (x0 : Nat) (x1 : Int32) (y0 : Nat) : Option ((Unit ⊕ Nat) × CH) := m_X4_line_114 f h x0 x1 y0 (0 : Int32)
theorem mo_X4_line_113 {f : Nat} : ∀ (h : CH) (x0 : Nat) (x1 : Int32) (y0 : Nat) (r : ((Unit ⊕ Nat) × CH)), m_X4_line_113 f h x0 x1 y0 = some r → le2 h r.2 := by
  intro h x0 x1 y0 r hm
  rw [m_X4_line_113] at hm
  exact (mo_X4_line_114  h x0 x1 y0 (0 : Int32) _ hm)
def m_X4_line_106 (f : Nat) (h : CH) (x0 : Nat) (x1 : Int32) (y0 : Nat) (y1 : Int32) : Option ((Unit ⊕ Nat) × CH) := if ¬ y1 = 0 then
    m_X4_line_113 f h x0 x1 y0
    else m_X4_line_114 f h x0 x1 y0 (1 : Int32)
theorem mo_X4_line_106 {f : Nat} : ∀ (h : CH) (x0 : Nat) (x1 : Int32) (y0 : Nat) (y1 : Int32) (r : ((Unit ⊕ Nat) × CH)), m_X4_line_106 f h x0 x1 y0 y1 = some r → le2 h r.2 := by
  intro h x0 x1 y0 y1 r hm
  rw [m_X4_line_106] at hm
  by_cases c1 : ¬ y1 = 0
  · have hm := ifT hm c1
    exact (mo_X4_line_113  h x0 x1 y0 _ hm)
  · have hm := ifF hm c1
    exact (mo_X4_line_114  h x0 x1 y0 (1 : Int32) _ hm)
def m_X4_line_92 (f : Nat) (h : CH) (x0 : Nat) (x1 : Int32) (y0 : Nat) (y1 : Int32) : Option ((Unit ⊕ Nat) × CH) := if ¬ y1 = 0 then
    m_X4_line_113 f h x0 x1 y0
    else bd (oR h 4 1 x0) fun a2 =>
    bd (oR h 4 8 x0) fun a3 =>
    gd (isC h a2 17) <|
    bd2 (m_J2_contains f h a2 a3) fun r6 h5 =>
    m_X4_line_106 f h5 x0 x1 y0 r6
theorem mo_X4_line_92 {f : Nat} : ∀ (h : CH) (x0 : Nat) (x1 : Int32) (y0 : Nat) (y1 : Int32) (r : ((Unit ⊕ Nat) × CH)), m_X4_line_92 f h x0 x1 y0 y1 = some r → le2 h r.2 := by
  intro h x0 x1 y0 y1 r hm
  rw [m_X4_line_92] at hm
  by_cases c1 : ¬ y1 = 0
  · have hm := ifT hm c1
    exact (mo_X4_line_113  h x0 x1 y0 _ hm)
  · have hm := ifF hm c1
    obtain ⟨a2, ea2, hm⟩ := bdE hm
    obtain ⟨a3, ea3, hm⟩ := bdE hm
    obtain ⟨g4, hm⟩ := gdE hm
    obtain ⟨r6, h5, er6, hm⟩ := bd2E hm
    have lh5 := mo_J2_contains er6
    exact (lh5.tr (mo_X4_line_106  h5 x0 x1 y0 r6 _ hm))
def m_X4_line_83 (f : Nat) (h : CH) (x0 : Nat) (x1 : Int32) (y0 : Nat) (y1 : Int32) : Option ((Unit ⊕ Nat) × CH) := if (6 : Int32) < y1 then
    m_X4_line_113 f h x0 x1 y0
    else gd (isC h x0 4) <|
    bd2 (m_X4_isOwn f h x0) fun r4 h3 =>
    m_X4_line_92 f h3 x0 x1 y0 r4
theorem mo_X4_line_83 {f : Nat} : ∀ (h : CH) (x0 : Nat) (x1 : Int32) (y0 : Nat) (y1 : Int32) (r : ((Unit ⊕ Nat) × CH)), m_X4_line_83 f h x0 x1 y0 y1 = some r → le2 h r.2 := by
  intro h x0 x1 y0 y1 r hm
  rw [m_X4_line_83] at hm
  by_cases c1 : (6 : Int32) < y1
  · have hm := ifT hm c1
    exact (mo_X4_line_113  h x0 x1 y0 _ hm)
  · have hm := ifF hm c1
    obtain ⟨g2, hm⟩ := gdE hm
    obtain ⟨r4, h3, er4, hm⟩ := bd2E hm
    have lh3 := mo_X4_isOwn er4
    exact (lh3.tr (mo_X4_line_92  h3 x0 x1 y0 r4 _ hm))
def m_X4_line_75 (f : Nat) (h : CH) (x0 : Nat) (x1 : Int32) : Option ((Unit ⊕ Nat) × CH) := bd (oR h 4 8 x0) fun a1 =>
    gd (isC h a1 19) <|
    bd2 (m_J6_length f h a1) fun r4 h3 =>
    m_X4_line_83 f h3 x0 x1 x0 r4
theorem mo_X4_line_75 {f : Nat} : ∀ (h : CH) (x0 : Nat) (x1 : Int32) (r : ((Unit ⊕ Nat) × CH)), m_X4_line_75 f h x0 x1 = some r → le2 h r.2 := by
  intro h x0 x1 r hm
  rw [m_X4_line_75] at hm
  obtain ⟨a1, ea1, hm⟩ := bdE hm
  obtain ⟨g2, hm⟩ := gdE hm
  obtain ⟨r4, h3, er4, hm⟩ := bd2E hm
  have lh3 := mo_J6_length er4
  exact (lh3.tr (mo_X4_line_83  h3 x0 x1 x0 r4 _ hm))
def m_X4_line_71 (f : Nat) (h : CH) (x0 : Nat) (x1 : Int32) (y0 : Nat) (y1 : Int32) : Option ((Unit ⊕ Nat) × CH) := gd (isC h y0 4) <|
    bx (m_X4_needs f h y0 y1 (1 : Int32)) (fun r3 h2 =>
    m_X4_line_75 f h2 x0 x1) (fun q4 h2 =>
    gd (isC h2 q4 5) <|
    some (.inr q4, h2))
theorem mo_X4_line_71 {f : Nat} : ∀ (h : CH) (x0 : Nat) (x1 : Int32) (y0 : Nat) (y1 : Int32) (r : ((Unit ⊕ Nat) × CH)), m_X4_line_71 f h x0 x1 y0 y1 = some r → le2 h r.2 := by
  intro h x0 x1 y0 y1 r hm
  rw [m_X4_line_71] at hm
  obtain ⟨g1, hm⟩ := gdE hm
  rcases bxE hm with ⟨r3, h2, eh2, hm⟩ | ⟨q4, h2, eh2, hm⟩
  · have lh2 := mo_X4_needs eh2
    exact (lh2.tr (mo_X4_line_75  h2 x0 x1 _ hm))
  · have lh2 := mo_X4_needs eh2
    obtain ⟨g5, hm⟩ := gdE hm
    cases hm
    exact (lh2.tr le2.rf)
def m_X4_line_55 (f : Nat) (h : CH) (x0 : Nat) (x1 : Int32) : Option ((Unit ⊕ Nat) × CH) := bd (oR h 4 7 x0) fun a1 =>
    bd (sR h 7) fun a2 =>
    if ¬ a1 = a2 then
    m_X4_line_71 f h x0 x1 x0 (0 : Int32)
    else m_X4_line_71 f h x0 x1 x0 (1 : Int32)
theorem mo_X4_line_55 {f : Nat} : ∀ (h : CH) (x0 : Nat) (x1 : Int32) (r : ((Unit ⊕ Nat) × CH)), m_X4_line_55 f h x0 x1 = some r → le2 h r.2 := by
  intro h x0 x1 r hm
  rw [m_X4_line_55] at hm
  obtain ⟨a1, ea1, hm⟩ := bdE hm
  obtain ⟨a2, ea2, hm⟩ := bdE hm
  by_cases c3 : ¬ a1 = a2
  · have hm := ifT hm c3
    exact (mo_X4_line_71  h x0 x1 x0 (0 : Int32) _ hm)
  · have hm := ifF hm c3
    exact (mo_X4_line_71  h x0 x1 x0 (1 : Int32) _ hm)
def m_X4_line_51 (f : Nat) (h : CH) (x0 : Nat) (x1 : Int32) : Option ((Unit ⊕ Nat) × CH) := gd (isC h x0 4) <|
    bd (m_X4_advance f h x0) fun h2 =>
    m_X4_line_55 f h2 x0 x1
theorem mo_X4_line_51 {f : Nat} : ∀ (h : CH) (x0 : Nat) (x1 : Int32) (r : ((Unit ⊕ Nat) × CH)), m_X4_line_51 f h x0 x1 = some r → le2 h r.2 := by
  intro h x0 x1 r hm
  rw [m_X4_line_51] at hm
  obtain ⟨g1, hm⟩ := gdE hm
  obtain ⟨h2, eh2, hm⟩ := bdE hm
  have lh2 := mo_X4_advance eh2
  exact (lh2.tr (mo_X4_line_55  h2 x0 x1 _ hm))
def m_X4_line_47 (f : Nat) (h : CH) (x0 : Nat) (x1 : Int32) (y0 : Nat) (y1 : Int32) : Option ((Unit ⊕ Nat) × CH) := gd (isC h y0 4) <|
    bx (m_X4_needs f h y0 y1 (3 : Int32)) (fun r3 h2 =>
    m_X4_line_51 f h2 x0 x1) (fun q4 h2 =>
    gd (isC h2 q4 5) <|
    some (.inr q4, h2))
theorem mo_X4_line_47 {f : Nat} : ∀ (h : CH) (x0 : Nat) (x1 : Int32) (y0 : Nat) (y1 : Int32) (r : ((Unit ⊕ Nat) × CH)), m_X4_line_47 f h x0 x1 y0 y1 = some r → le2 h r.2 := by
  intro h x0 x1 y0 y1 r hm
  rw [m_X4_line_47] at hm
  obtain ⟨g1, hm⟩ := gdE hm
  rcases bxE hm with ⟨r3, h2, eh2, hm⟩ | ⟨q4, h2, eh2, hm⟩
  · have lh2 := mo_X4_needs eh2
    exact (lh2.tr (mo_X4_line_51  h2 x0 x1 _ hm))
  · have lh2 := mo_X4_needs eh2
    obtain ⟨g5, hm⟩ := gdE hm
    cases hm
    exact (lh2.tr le2.rf)
def m_X4_line_38 (f : Nat) (h : CH) (x0 : Nat) (x1 : Int32) (y0 : Nat) (y1 : Int32) : Option ((Unit ⊕ Nat) × CH) := if (5 : Int32) ≤ y1 then
    m_X4_line_47 f h x0 x1 y0 (0 : Int32)
    else m_X4_line_47 f h x0 x1 y0 (1 : Int32)
theorem mo_X4_line_38 {f : Nat} : ∀ (h : CH) (x0 : Nat) (x1 : Int32) (y0 : Nat) (y1 : Int32) (r : ((Unit ⊕ Nat) × CH)), m_X4_line_38 f h x0 x1 y0 y1 = some r → le2 h r.2 := by
  intro h x0 x1 y0 y1 r hm
  rw [m_X4_line_38] at hm
  by_cases c1 : (5 : Int32) ≤ y1
  · have hm := ifT hm c1
    exact (mo_X4_line_47  h x0 x1 y0 (0 : Int32) _ hm)
  · have hm := ifF hm c1
    exact (mo_X4_line_47  h x0 x1 y0 (1 : Int32) _ hm)
def m_X4_line_30 (f : Nat) (h : CH) (x0 : Nat) (x1 : Int32) : Option ((Unit ⊕ Nat) × CH) := bd (oR h 4 0 x0) fun a1 =>
    gd (isC h a1 17) <|
    bd2 (m_J2_size f h a1) fun r4 h3 =>
    m_X4_line_38 f h3 x0 x1 x0 r4
theorem mo_X4_line_30 {f : Nat} : ∀ (h : CH) (x0 : Nat) (x1 : Int32) (r : ((Unit ⊕ Nat) × CH)), m_X4_line_30 f h x0 x1 = some r → le2 h r.2 := by
  intro h x0 x1 r hm
  rw [m_X4_line_30] at hm
  obtain ⟨a1, ea1, hm⟩ := bdE hm
  obtain ⟨g2, hm⟩ := gdE hm
  obtain ⟨r4, h3, er4, hm⟩ := bd2E hm
  have lh3 := mo_J2_size er4
  exact (lh3.tr (mo_X4_line_38  h3 x0 x1 x0 r4 _ hm))
def m_X4_line_26 (f : Nat) (h : CH) (x0 : Nat) (x1 : Int32) (y0 : Nat) (y1 : Int32) : Option ((Unit ⊕ Nat) × CH) := gd (isC h y0 4) <|
    bx (m_X4_needs f h y0 y1 (1 : Int32)) (fun r3 h2 =>
    m_X4_line_30 f h2 x0 x1) (fun q4 h2 =>
    gd (isC h2 q4 5) <|
    some (.inr q4, h2))
theorem mo_X4_line_26 {f : Nat} : ∀ (h : CH) (x0 : Nat) (x1 : Int32) (y0 : Nat) (y1 : Int32) (r : ((Unit ⊕ Nat) × CH)), m_X4_line_26 f h x0 x1 y0 y1 = some r → le2 h r.2 := by
  intro h x0 x1 y0 y1 r hm
  rw [m_X4_line_26] at hm
  obtain ⟨g1, hm⟩ := gdE hm
  rcases bxE hm with ⟨r3, h2, eh2, hm⟩ | ⟨q4, h2, eh2, hm⟩
  · have lh2 := mo_X4_needs eh2
    exact (lh2.tr (mo_X4_line_30  h2 x0 x1 _ hm))
  · have lh2 := mo_X4_needs eh2
    obtain ⟨g5, hm⟩ := gdE hm
    cases hm
    exact (lh2.tr le2.rf)
def m_X4_line_21 (f : Nat) (h : CH) (x0 : Nat) (x1 : Int32) (y0 : Nat) : Option ((Unit ⊕ Nat) × CH) := m_X4_line_26 f h x0 x1 y0 (1 : Int32)
theorem mo_X4_line_21 {f : Nat} : ∀ (h : CH) (x0 : Nat) (x1 : Int32) (y0 : Nat) (r : ((Unit ⊕ Nat) × CH)), m_X4_line_21 f h x0 x1 y0 = some r → le2 h r.2 := by
  intro h x0 x1 y0 r hm
  rw [m_X4_line_21] at hm
  exact (mo_X4_line_26  h x0 x1 y0 (1 : Int32) _ hm)
def m_X4_line_18 (f : Nat) (h : CH) (x0 : Nat) (x1 : Int32) (y0 : Nat) (y1 : Int32) : Option ((Unit ⊕ Nat) × CH) := if y1 = 0 then
    m_X4_line_26 f h x0 x1 y0 (0 : Int32)
    else m_X4_line_21 f h x0 x1 y0
theorem mo_X4_line_18 {f : Nat} : ∀ (h : CH) (x0 : Nat) (x1 : Int32) (y0 : Nat) (y1 : Int32) (r : ((Unit ⊕ Nat) × CH)), m_X4_line_18 f h x0 x1 y0 y1 = some r → le2 h r.2 := by
  intro h x0 x1 y0 y1 r hm
  rw [m_X4_line_18] at hm
  by_cases c1 : y1 = 0
  · have hm := ifT hm c1
    exact (mo_X4_line_26  h x0 x1 y0 (0 : Int32) _ hm)
  · have hm := ifF hm c1
    exact (mo_X4_line_21  h x0 x1 y0 _ hm)
def m_X4_line_6 (f : Nat) (h : CH) (x0 : Nat) (y0 : Int32) : Option ((Unit ⊕ Nat) × CH) := if ¬ y0 = 0 then
    m_X4_line_21 f h x0 y0 x0
    else bd (sR h (20 + 3)) fun a2 =>
    gd (isC h x0 4) <|
    bd2 (m_X4_isWord f h x0 a2) fun r5 h4 =>
    m_X4_line_18 f h4 x0 y0 x0 r5
theorem mo_X4_line_6 {f : Nat} : ∀ (h : CH) (x0 : Nat) (y0 : Int32) (r : ((Unit ⊕ Nat) × CH)), m_X4_line_6 f h x0 y0 = some r → le2 h r.2 := by
  intro h x0 y0 r hm
  rw [m_X4_line_6] at hm
  by_cases c1 : ¬ y0 = 0
  · have hm := ifT hm c1
    exact (mo_X4_line_21  h x0 y0 x0 _ hm)
  · have hm := ifF hm c1
    obtain ⟨a2, ea2, hm⟩ := bdE hm
    obtain ⟨g3, hm⟩ := gdE hm
    obtain ⟨r5, h4, er5, hm⟩ := bd2E hm
    have lh4 := mo_X4_isWord er5
    exact (lh4.tr (mo_X4_line_18  h4 x0 y0 x0 r5 _ hm))
def m_X4_line (f : Nat) (u : CH) (x0 : Nat) : Option ((Unit ⊕ Nat) × CH) := bd (sR u (20 + 2)) fun a1 =>
    gd (isC u x0 4) <|
    bd2 (m_X4_isWord f u x0 a1) fun r4 h3 =>
    m_X4_line_6 f h3 x0 r4
theorem mo_X4_line {f : Nat} {u : CH} {x0 : Nat} {r0 : Unit ⊕ Nat} {u9 : CH} (hm : m_X4_line f u x0 = some (r0, u9)) : le2 u u9 := by
  rw [m_X4_line] at hm
  obtain ⟨a1, ea1, hm⟩ := bdE hm
  obtain ⟨g2, hm⟩ := gdE hm
  obtain ⟨r4, h3, er4, hm⟩ := bd2E hm
  have lh3 := mo_X4_isWord er4
  exact (lh3.tr (mo_X4_line_6  h3 x0 r4 _ hm))
abbrev rm_X4_line (mc ms : Nat) : Room := { frames := 9, cells := mc, slots := ms, locals := 239 }
theorem cw_X4_line {R : Room} {s : State} {args : Array Value} {own : String} {idx mc ms : Nat} (hts : ∀ w ∈ lw_all, w.before args s = true) (hl : Cond.methodLink own idx yX4_line ∈ lw_all) (hR : 9 + 1 ≤ R.frames ∧ 8 + (4 + 11) + 239 ≤ R.locals) : CallW R s args own RX4 idx yX4_line cX4_line 4 (Option.none : Option Jvm.ClassFile.FieldType) (ws_ yX4_line cX4_line 4 (Option.none : Option Jvm.ClassFile.FieldType)) (rm_X4_line mc ms) mc ms 0 := cwV 0 hts (lw_V hl q566 qs3 q126 q567) rfl rfl rfl (by decide +kernel) hR
set_option maxHeartbeats 4000000 in
set_option maxRecDepth 100000 in
theorem w_X4_line (l : Launch) (htl : l.stackTraces = false) {D : va_G} {dA : Nat → ClassId} {A : Nat → Prop} {f : Nat} {u u9 : CH} {r0 : Unit ⊕ Nat} {x0 : Nat} (hm : m_X4_line f u x0 = some (r0, u9)) : vy_Met l yX4_line (ws_ yX4_line cX4_line 4 (Option.none : Option Jvm.ClassFile.FieldType)) (rm_X4_line (u9.1 - u.1) (u9.2.1 - u.2.1)) (va_Pc [.ref x0] (CPre D dA A u)) (cxQv D dA A r0 u9) (cxX D dA A r0 u9) (u9.1 - u.1) (u9.2.1 - u.2.1) A := by
  refine vy_ofW (cc := cX4_line) (maxL := 4) (ret := (Option.none : Option Jvm.ClassFile.FieldType)) (by decide) rfl ?_
  intro p e s m args below meth c s₁ B hml htab hv
  have hx := B.exec
  have hb := B.bytes
  have hr := B.returns
  have hts := atoms_spec (ws := (ws_ yX4_line cX4_line 4 (Option.none : Option Jvm.ClassFile.FieldType))) B.pre
  have hts : ∀ w ∈ lw_all, w.before args s = true := fun w h => hts w (List.mem_cons_of_mem _ h)
  have hown : s.vm.findClass RX4 = some m.cls := findClass_of_methodNamed B.named
  have hlocks := B.notSynchronized
  obtain ⟨hav, hv⟩ := hv
  have C : CX p s m args c cX4_line RX4 D dA := ⟨hx, hb, hown, hts, hv.2⟩
  have hw : CW D dA A s u s.heap [] := hv.1
  generalize hQ : vy_MQ below (cxQv D dA A r0 u9) (cxX D dA A r0 u9) args s (u9.1 - u.1) (u9.2.1 - u.2.1) A = QQ
  have hent := lg_entry_eq m [.ref x0] 4
  rw [← hav] at hent
  rw [hent]
  have hl := lv_entry ([.ref x0]) (n := 4) (Nat.le_of_ble_eq_true rfl)
  generalize (lg_sl ([.ref x0]) ++ List.replicate (4 - (lg_sl ([.ref x0])).length) Slot.unset).toArray = ls at hl ⊢
  have hl : lv_has ls 4 [(0, .ref x0)] := hl
  obtain ⟨cc, ecc⟩ : ∃ z : Nat, z = 0 := ⟨0, rfl⟩
  obtain ⟨ss, ess⟩ : ∃ z : Nat, z = 0 := ⟨0, rfl⟩
  have hcc : cc + u.1 = u.1 := by omega
  have hss : ss + u.2.1 = u.2.1 := by omega
  suffices hgo : W p l e (rm_X4_line (u9.1 - u.1) (u9.2.1 - u.2.1)) s m args below meth c s.heap [] cc ss QQ (F0 m 0 ls []) by rw [ecc, ess] at hgo; exact hgo
  have ⟨pu, qu, _, _⟩ := mo_X4_line hm
  have hB184 : ∀ (h : CH) (x0 : Nat) (y0 : Int32) (cc ss : Nat) (H : Heap) (locs : List Loc) (ls : Array Slot), m_X4_line_184 f h x0 y0 = some (r0, u9) → CW D dA A s h H locs → cc + u.1 = h.1 → ss + u.2.1 = h.2.1 → lv_has ls 4 [(0, .ref x0)] → W p l e (rm_X4_line (u9.1 - u.1) (u9.2.1 - u.2.1)) s m args below meth c H locs cc ss QQ (F0 m 184 ls [.int y0]) := by
    intro h x0 y0 cc ss H locs ls hm hw hcc hss hl
    have hmo := mo_X4_line_184  h x0 y0 _ hm
    have sb_ : h.1 ≤ u9.1 := hmo.1
    have tb_ : h.2.1 ≤ u9.2.1 := hmo.2.1
    rw [m_X4_line_184] at hm
    refine lv_pop hx hb dX4_line_184 rfl ?_
    refine lv_aload_n hx hb dX4_line_185 rfl (lv_at hl 0 rfl) ?_
    refine lv_dup hx hb dX4_line_186 rfl ?_
    obtain ⟨v1, ev1, hm⟩ := bdE hm
    refine cg_get C hw (oI_E ev1) rfl in_X4 (by decide) q321 dX4_line_187 ?_
    refine lv_iconst (v := 1) hx hb dX4_line_190 (by decide) ?_
    refine lv_iadd hx hb dX4_line_191 ?_
    obtain ⟨h2, eh2, hm⟩ := bdE hm
    refine cg_put C hw eh2 rfl in_X4 tyX4 tyX4_ok nmX4 (by decide) q321 rfl rfl rfl dX4_line_192 (fun H locs hw => ?_)
    have zh2 := pF_sz eh2
    obtain ⟨er, eh⟩ := retE hm
    have ec : cc = u9.1 - u.1 := by rw [← eh]; omega
    have es : ss = u9.2.1 - u.2.1 := by rw [← eh]; omega
    rw [ec, es, ← hQ]
    refine vy_ret ?_
    exact W.vret hx hb hr (fun t ht hW => ⟨⟨h2, rfl, ⟨er.symm, eh⟩, ⟨by rw [ht]; exact hw.1, by rw [ht]; exact hw.2.1⟩⟩, hw.2.2.1.F ht⟩) hw.2.2.1.2.2 dX4_line_195
  have hB175 : ∀ (h : CH) (x0 : Nat) (x3 : Nat) (y0 : Int32) (cc ss : Nat) (H : Heap) (locs : List Loc) (ls : Array Slot), m_X4_line_175 f h x0 x3 y0 = some (r0, u9) → CW D dA A s h H locs → cc + u.1 = h.1 → ss + u.2.1 = h.2.1 → lv_has ls 4 [(0, .ref x0), (3, .ref x3)] → W p l e (rm_X4_line (u9.1 - u.1) (u9.2.1 - u.2.1)) s m args below meth c H locs cc ss QQ (F0 m 175 ls [.int y0]) := by
    intro h x0 x3 y0 cc ss H locs ls hm hw hcc hss hl
    have hmo := mo_X4_line_175  h x0 x3 y0 _ hm
    have sb_ : h.1 ≤ u9.1 := hmo.1
    have tb_ : h.2.1 ≤ u9.2.1 := hmo.2.1
    rw [m_X4_line_175] at hm
    refine lv_pop hx hb dX4_line_175 rfl ?_
    refine lv_aload_n hx hb dX4_line_176 rfl (lv_at hl 0 rfl) ?_
    obtain ⟨a1, ea1, hm⟩ := bdE hm
    refine cg_get C hw (oR_E ea1) rfl in_X4 (by decide) q314 dX4_line_177 ?_
    refine lv_aload_n hx hb dX4_line_180 rfl (lv_at hl 1 rfl) ?_
    obtain ⟨g2, hm⟩ := gdE hm
    obtain ⟨r4, h3, er4, hm⟩ := bd2E hm
    have lh3 := mo_J2_add er4
    have ph3 : h.1 ≤ h3.1 := lh3.1
    have qh3 : h.2.1 ≤ h3.2.1 := lh3.2.1
    have hmo := mo_X4_line_184   h3 x0 r4 _ hm
    have sh3 : h3.1 ≤ u9.1 := hmo.1
    have th3 : h3.2.1 ≤ u9.2.1 := hmo.2.1
    refine cg_calli hw lh3 (va_runV (As := [.ref x3]) (rest := []) ⟨hx, hb, hml, hown, hts⟩ (w_J2_add l er4) (cw_J2_add hts q800 ⟨Nat.le_of_ble_eq_true rfl, Nat.le_of_ble_eq_true rfl⟩) (cg_preV C hw g2 rfl _) rfl rfl hl.1 rfl (lv_room (Nat.le_of_ble_eq_true rfl)) dX4_line_181 ⟨show cc + (h3.1 - h.1) ≤ u9.1 - u.1 by omega, show ss + (h3.2.1 - h.2.1) ≤ u9.2.1 - u.2.1 by omega⟩) (fun H locs hw => ?_)
    exact hB184 h3 x0 r4 _ _ _ _ _ hm hw (by omega) (by omega) (lv_sub hl [0] rfl)
  have hB167 : ∀ (h : CH) (x0 : Nat) (x2 : Nat) (x3 : Nat) (cc ss : Nat) (H : Heap) (locs : List Loc) (ls : Array Slot), m_X4_line_167 f h x0 x2 x3 = some (r0, u9) → CW D dA A s h H locs → cc + u.1 = h.1 → ss + u.2.1 = h.2.1 → lv_has ls 4 [(0, .ref x0), (2, .ref x2), (3, .ref x3)] → W p l e (rm_X4_line (u9.1 - u.1) (u9.2.1 - u.2.1)) s m args below meth c H locs cc ss QQ (F0 m 167 ls []) := by
    intro h x0 x2 x3 cc ss H locs ls hm hw hcc hss hl
    have hmo := mo_X4_line_167  h x0 x2 x3 _ hm
    have sb_ : h.1 ≤ u9.1 := hmo.1
    have tb_ : h.2.1 ≤ u9.2.1 := hmo.2.1
    rw [m_X4_line_167] at hm
    refine lv_aload_n hx hb dX4_line_167 rfl (lv_at hl 0 rfl) ?_
    obtain ⟨a1, ea1, hm⟩ := bdE hm
    refine cg_get C hw (oR_E ea1) rfl in_X4 (by decide) q316 dX4_line_168 ?_
    refine lv_aload_n hx hb dX4_line_171 rfl (lv_at hl 1 rfl) ?_
    obtain ⟨g2, hm⟩ := gdE hm
    obtain ⟨r4, h3, er4, hm⟩ := bd2E hm
    have lh3 := mo_J2_add er4
    have ph3 : h.1 ≤ h3.1 := lh3.1
    have qh3 : h.2.1 ≤ h3.2.1 := lh3.2.1
    have hmo := mo_X4_line_175   h3 x0 x3 r4 _ hm
    have sh3 : h3.1 ≤ u9.1 := hmo.1
    have th3 : h3.2.1 ≤ u9.2.1 := hmo.2.1
    refine cg_calli hw lh3 (va_runV (As := [.ref x2]) (rest := []) ⟨hx, hb, hml, hown, hts⟩ (w_J2_add l er4) (cw_J2_add hts q800 ⟨Nat.le_of_ble_eq_true rfl, Nat.le_of_ble_eq_true rfl⟩) (cg_preV C hw g2 rfl _) rfl rfl hl.1 rfl (lv_room (Nat.le_of_ble_eq_true rfl)) dX4_line_172 ⟨show cc + (h3.1 - h.1) ≤ u9.1 - u.1 by omega, show ss + (h3.2.1 - h.2.1) ≤ u9.2.1 - u.2.1 by omega⟩) (fun H locs hw => ?_)
    exact hB175 h3 x0 x3 r4 _ _ _ _ _ hm hw (by omega) (by omega) (lv_sub hl [0, 2] rfl)
  have hB163 : ∀ (h : CH) (x0 : Nat) (x2 : Nat) (x3 : Nat) (cc ss : Nat) (H : Heap) (locs : List Loc) (ls : Array Slot), m_X4_line_163 f h x0 x2 x3 = some (r0, u9) → CW D dA A s h H locs → cc + u.1 = h.1 → ss + u.2.1 = h.2.1 → lv_has ls 4 [(0, .ref x0), (2, .ref x2), (3, .ref x3)] → W p l e (rm_X4_line (u9.1 - u.1) (u9.2.1 - u.2.1)) s m args below meth c H locs cc ss QQ (F0 m 163 ls []) := by
    intro h x0 x2 x3 cc ss H locs ls hm hw hcc hss hl
    have hmo := mo_X4_line_163  h x0 x2 x3 _ hm
    have sb_ : h.1 ≤ u9.1 := hmo.1
    have tb_ : h.2.1 ≤ u9.2.1 := hmo.2.1
    rw [m_X4_line_163] at hm
    refine lv_aload_n hx hb dX4_line_163 rfl (lv_at hl 0 rfl) ?_
    obtain ⟨g1, hm⟩ := gdE hm
    obtain ⟨h2, eh2, hm⟩ := bdE hm
    have lh2 := mo_X4_advance eh2
    have ph2 : h.1 ≤ h2.1 := lh2.1
    have qh2 : h.2.1 ≤ h2.2.1 := lh2.2.1
    have hmo := mo_X4_line_167   h2 x0 x2 x3 _ hm
    have sh2 : h2.1 ≤ u9.1 := hmo.1
    have th2 : h2.2.1 ≤ u9.2.1 := hmo.2.1
    refine cg_callv hw lh2 (va_runV (As := []) (rest := []) ⟨hx, hb, hml, hown, hts⟩ (w_X4_advance l eh2) (cw_X4_advance hts q351 ⟨Nat.le_of_ble_eq_true rfl, Nat.le_of_ble_eq_true rfl⟩) (cg_preV C hw g1 rfl _) rfl rfl hl.1 rfl (lv_room (Nat.le_of_ble_eq_true rfl)) dX4_line_164 ⟨show cc + (h2.1 - h.1) ≤ u9.1 - u.1 by omega, show ss + (h2.2.1 - h.2.1) ≤ u9.2.1 - u.2.1 by omega⟩) (fun H locs hw => ?_)
    exact hB167 h2 x0 x2 x3 _ _ _ _ _ hm hw (by omega) (by omega) (lv_sub hl [0, 1, 2] rfl)
  have hB159 : ∀ (h : CH) (x0 : Nat) (x2 : Nat) (x3 : Nat) (y0 : Nat) (y1 : Int32) (cc ss : Nat) (H : Heap) (locs : List Loc) (ls : Array Slot), m_X4_line_159 f h x0 x2 x3 y0 y1 = some (r0, u9) → CW D dA A s h H locs → cc + u.1 = h.1 → ss + u.2.1 = h.2.1 → lv_has ls 4 [(0, .ref x0), (2, .ref x2), (3, .ref x3)] → W p l e (rm_X4_line (u9.1 - u.1) (u9.2.1 - u.2.1)) s m args below meth c H locs cc ss QQ (F0 m 159 ls [.int y1, .ref y0]) := by
    intro h x0 x2 x3 y0 y1 cc ss H locs ls hm hw hcc hss hl
    have hmo := mo_X4_line_159  h x0 x2 x3 y0 y1 _ hm
    have sb_ : h.1 ≤ u9.1 := hmo.1
    have tb_ : h.2.1 ≤ u9.2.1 := hmo.2.1
    rw [m_X4_line_159] at hm
    refine lv_iconst (v := 1) hx hb dX4_line_159 (by decide) ?_
    obtain ⟨g1, hm⟩ := gdE hm
    rcases bxE hm with ⟨r3, h2, eh2, hm⟩ | ⟨q4, h2, eh2, hm⟩
    · have lh2 := mo_X4_needs eh2
      have ph2 : h.1 ≤ h2.1 := lh2.1
      have qh2 : h.2.1 ≤ h2.2.1 := lh2.2.1
      have hmo := mo_X4_line_163   h2 x0 x2 x3 _ hm
      have sh2 : h2.1 ≤ u9.1 := hmo.1
      have th2 : h2.2.1 ≤ u9.2.1 := hmo.2.1
      refine cx_callv hw lh2 (vy_runV (As := [.int y1, .int (1 : Int32)]) (rest := []) ⟨hx, hb, hml, hown, hts⟩ (w_X4_needs l htl eh2) (cw_X4_needs hts q582 ⟨Nat.le_of_ble_eq_true rfl, Nat.le_of_ble_eq_true rfl⟩) (cg_preV C hw g1 rfl _) rfl rfl hl.1 rfl (lv_room (Nat.le_of_ble_eq_true rfl)) dX4_line_160 ⟨show cc + (h2.1 - h.1) ≤ u9.1 - u.1 by omega, show ss + (h2.2.1 - h.2.1) ≤ u9.2.1 - u.2.1 by omega⟩) (fun H locs hw => ?_)
      exact hB163 h2 x0 x2 x3 _ _ _ _ _ hm hw (by omega) (by omega) (lv_sub hl [0, 1, 2] rfl)
    · have lh2 := mo_X4_needs eh2
      have ph2 : h.1 ≤ h2.1 := lh2.1
      have qh2 : h.2.1 ≤ h2.2.1 := lh2.2.1
      obtain ⟨g5, hm⟩ := gdE hm
      have sh2 : h2.1 ≤ u9.1 := by rw [← (retE hm).2]; exact Nat.le_refl _
      have th2 : h2.2.1 ≤ u9.2.1 := by rw [← (retE hm).2]; exact Nat.le_refl _
      refine cx_callX hw lh2 noQv (vy_runV (As := [.int y1, .int (1 : Int32)]) (rest := []) ⟨hx, hb, hml, hown, hts⟩ (w_X4_needs l htl eh2) (cw_X4_needs hts q582 ⟨Nat.le_of_ble_eq_true rfl, Nat.le_of_ble_eq_true rfl⟩) (cg_preV C hw g1 rfl _) rfl rfl hl.1 rfl (lv_room (Nat.le_of_ble_eq_true rfl)) dX4_line_160 ⟨show cc + (h2.1 - h.1) ≤ u9.1 - u.1 by omega, show ss + (h2.2.1 - h.2.1) ≤ u9.2.1 - u.2.1 by omega⟩) (fun H locs hw => ?_)
      obtain ⟨er, eh⟩ := retE hm
      rw [← hQ]
      exact cx_out C hw g5 (by decide) rfl er eh (fun x hx => (htab x hx).elim) hlocks (by rw [← eh]; omega) (by rw [← eh]; omega)
  have hB142 : ∀ (h : CH) (x0 : Nat) (x2 : Nat) (y0 : Nat) (cc ss : Nat) (H : Heap) (locs : List Loc) (ls : Array Slot), m_X4_line_142 f h x0 x2 y0 = some (r0, u9) → CW D dA A s h H locs → cc + u.1 = h.1 → ss + u.2.1 = h.2.1 → lv_has ls 4 [(0, .ref x0), (2, .ref x2)] → W p l e (rm_X4_line (u9.1 - u.1) (u9.2.1 - u.2.1)) s m args below meth c H locs cc ss QQ (F0 m 142 ls [.ref y0]) := by
    intro h x0 x2 y0 cc ss H locs ls hm hw hcc hss hl
    have hmo := mo_X4_line_142  h x0 x2 y0 _ hm
    have sb_ : h.1 ≤ u9.1 := hmo.1
    have tb_ : h.2.1 ≤ u9.2.1 := hmo.2.1
    rw [m_X4_line_142] at hm
    refine lv_astore_n (lv' := [(3, .ref y0), (0, .ref x0), (2, .ref x2)]) hx hb dX4_line_142 rfl hl (by decide) rfl (fun ls hl => ?_)
    refine lv_aload_n hx hb dX4_line_143 rfl (lv_at hl 1 rfl) ?_
    refine lv_aload_n hx hb dX4_line_144 rfl (lv_at hl 1 rfl) ?_
    obtain ⟨a1, ea1, hm⟩ := bdE hm
    refine cg_get C hw (oR_E ea1) rfl in_X4 (by decide) q323 dX4_line_145 ?_
    obtain ⟨a2, ea2, hm⟩ := bdE hm
    refine cg_gets C hw (i := 6) ea2 rfl q558 dX4_line_148 ?_
    refine cg_acmp_ne (tgt := 158) hx hb dX4_line_151 (by decide) (fun c3 => ?_) (fun c3 => ?_)
    · have hm := ifT hm c3
      refine lv_iconst (v := 0) hx hb dX4_line_158 (by decide) ?_
      exact hB159 h x0 x2 y0 x0 (0 : Int32) _ _ _ _ _ hm hw (by omega) (by omega) (lv_sub hl [1, 2, 0] rfl)
    · have hm := ifT' hm c3
      refine lv_iconst (v := 1) hx hb dX4_line_154 (by decide) ?_
      refine lv_goto (tgt := 159) hx hb dX4_line_155 (by decide) ?_
      exact hB159 h x0 x2 y0 x0 (1 : Int32) _ _ _ _ _ hm hw (by omega) (by omega) (lv_sub hl [1, 2, 0] rfl)
  have hB135 : ∀ (h : CH) (x0 : Nat) (x2 : Nat) (y0 : Nat) (cc ss : Nat) (H : Heap) (locs : List Loc) (ls : Array Slot), m_X4_line_135 f h x0 x2 y0 = some (r0, u9) → CW D dA A s h H locs → cc + u.1 = h.1 → ss + u.2.1 = h.2.1 → lv_has ls 4 [(0, .ref x0), (2, .ref x2)] → W p l e (rm_X4_line (u9.1 - u.1) (u9.2.1 - u.2.1)) s m args below meth c H locs cc ss QQ (F0 m 135 ls [.ref y0]) := by
    intro h x0 x2 y0 cc ss H locs ls hm hw hcc hss hl
    have hmo := mo_X4_line_135  h x0 x2 y0 _ hm
    have sb_ : h.1 ≤ u9.1 := hmo.1
    have tb_ : h.2.1 ≤ u9.2.1 := hmo.2.1
    rw [m_X4_line_135] at hm
    refine lv_goto (tgt := 142) hx hb dX4_line_135 (by decide) ?_
    exact hB142 h x0 x2 y0 _ _ _ _ _ hm hw (by omega) (by omega) (lv_sub hl [0, 1] rfl)
  have hB127 : ∀ (h : CH) (x0 : Nat) (x1 : Int32) (x2 : Nat) (cc ss : Nat) (H : Heap) (locs : List Loc) (ls : Array Slot), m_X4_line_127 f h x0 x1 x2 = some (r0, u9) → CW D dA A s h H locs → cc + u.1 = h.1 → ss + u.2.1 = h.2.1 → lv_has ls 4 [(0, .ref x0), (1, .int x1), (2, .ref x2)] → W p l e (rm_X4_line (u9.1 - u.1) (u9.2.1 - u.2.1)) s m args below meth c H locs cc ss QQ (F0 m 127 ls []) := by
    intro h x0 x1 x2 cc ss H locs ls hm hw hcc hss hl
    have hmo := mo_X4_line_127  h x0 x1 x2 _ hm
    have sb_ : h.1 ≤ u9.1 := hmo.1
    have tb_ : h.2.1 ≤ u9.2.1 := hmo.2.1
    rw [m_X4_line_127] at hm
    refine lv_iload_n hx hb dX4_line_127 rfl (lv_at hl 1 rfl) ?_
    refine lv_if_eq (tgt := 138) hx hb dX4_line_128 (by decide) (fun c1 => ?_) (fun c1 => ?_)
    · have hm := ifT hm c1
      refine lv_aload_n hx hb dX4_line_138 rfl (lv_at hl 0 rfl) ?_
      obtain ⟨g2, hm⟩ := gdE hm
      rcases bxE hm with ⟨a4, h3, eh3, hm⟩ | ⟨q5, h3, eh3, hm⟩
      · have lh3 := mo_X4_lattice eh3
        have ph3 : h.1 ≤ h3.1 := lh3.1
        have qh3 : h.2.1 ≤ h3.2.1 := lh3.2.1
        have hmo := mo_X4_line_142   h3 x0 x2 a4 _ hm
        have sh3 : h3.1 ≤ u9.1 := hmo.1
        have th3 : h3.2.1 ≤ u9.2.1 := hmo.2.1
        refine cx_callr hw lh3 (vy_runV (As := []) (rest := []) ⟨hx, hb, hml, hown, hts⟩ (w_X4_lattice l htl eh3) (cw_X4_lattice hts q780 ⟨Nat.le_of_ble_eq_true rfl, Nat.le_of_ble_eq_true rfl⟩) (cg_preV C hw g2 rfl _) rfl rfl hl.1 rfl (lv_room (Nat.le_of_ble_eq_true rfl)) dX4_line_139 ⟨show cc + (h3.1 - h.1) ≤ u9.1 - u.1 by omega, show ss + (h3.2.1 - h.2.1) ≤ u9.2.1 - u.2.1 by omega⟩) (fun H locs hw => ?_)
        exact hB142 h3 x0 x2 a4 _ _ _ _ _ hm hw (by omega) (by omega) (lv_sub hl [0, 2] rfl)
      · have lh3 := mo_X4_lattice eh3
        have ph3 : h.1 ≤ h3.1 := lh3.1
        have qh3 : h.2.1 ≤ h3.2.1 := lh3.2.1
        obtain ⟨g6, hm⟩ := gdE hm
        have sh3 : h3.1 ≤ u9.1 := by rw [← (retE hm).2]; exact Nat.le_refl _
        have th3 : h3.2.1 ≤ u9.2.1 := by rw [← (retE hm).2]; exact Nat.le_refl _
        refine cx_callX hw lh3 noQr (vy_runV (As := []) (rest := []) ⟨hx, hb, hml, hown, hts⟩ (w_X4_lattice l htl eh3) (cw_X4_lattice hts q780 ⟨Nat.le_of_ble_eq_true rfl, Nat.le_of_ble_eq_true rfl⟩) (cg_preV C hw g2 rfl _) rfl rfl hl.1 rfl (lv_room (Nat.le_of_ble_eq_true rfl)) dX4_line_139 ⟨show cc + (h3.1 - h.1) ≤ u9.1 - u.1 by omega, show ss + (h3.2.1 - h.2.1) ≤ u9.2.1 - u.2.1 by omega⟩) (fun H locs hw => ?_)
        obtain ⟨er, eh⟩ := retE hm
        rw [← hQ]
        exact cx_out C hw g6 (by decide) rfl er eh (fun x hx => (htab x hx).elim) hlocks (by rw [← eh]; omega) (by rw [← eh]; omega)
    · have hm := ifF hm c1
      refine lv_aload_n hx hb dX4_line_131 rfl (lv_at hl 0 rfl) ?_
      obtain ⟨g7, hm⟩ := gdE hm
      rcases bxE hm with ⟨a9, h8, eh8, hm⟩ | ⟨q10, h8, eh8, hm⟩
      · have lh8 := mo_X4_turned eh8
        have ph8 : h.1 ≤ h8.1 := lh8.1
        have qh8 : h.2.1 ≤ h8.2.1 := lh8.2.1
        have hmo := mo_X4_line_135   h8 x0 x2 a9 _ hm
        have sh8 : h8.1 ≤ u9.1 := hmo.1
        have th8 : h8.2.1 ≤ u9.2.1 := hmo.2.1
        refine cx_callr hw lh8 (vy_runV (As := []) (rest := []) ⟨hx, hb, hml, hown, hts⟩ (w_X4_turned l htl eh8) (cw_X4_turned hts q712 ⟨Nat.le_of_ble_eq_true rfl, Nat.le_of_ble_eq_true rfl⟩) (cg_preV C hw g7 rfl _) rfl rfl hl.1 rfl (lv_room (Nat.le_of_ble_eq_true rfl)) dX4_line_132 ⟨show cc + (h8.1 - h.1) ≤ u9.1 - u.1 by omega, show ss + (h8.2.1 - h.2.1) ≤ u9.2.1 - u.2.1 by omega⟩) (fun H locs hw => ?_)
        exact hB135 h8 x0 x2 a9 _ _ _ _ _ hm hw (by omega) (by omega) (lv_sub hl [0, 2] rfl)
      · have lh8 := mo_X4_turned eh8
        have ph8 : h.1 ≤ h8.1 := lh8.1
        have qh8 : h.2.1 ≤ h8.2.1 := lh8.2.1
        obtain ⟨g11, hm⟩ := gdE hm
        have sh8 : h8.1 ≤ u9.1 := by rw [← (retE hm).2]; exact Nat.le_refl _
        have th8 : h8.2.1 ≤ u9.2.1 := by rw [← (retE hm).2]; exact Nat.le_refl _
        refine cx_callX hw lh8 noQr (vy_runV (As := []) (rest := []) ⟨hx, hb, hml, hown, hts⟩ (w_X4_turned l htl eh8) (cw_X4_turned hts q712 ⟨Nat.le_of_ble_eq_true rfl, Nat.le_of_ble_eq_true rfl⟩) (cg_preV C hw g7 rfl _) rfl rfl hl.1 rfl (lv_room (Nat.le_of_ble_eq_true rfl)) dX4_line_132 ⟨show cc + (h8.1 - h.1) ≤ u9.1 - u.1 by omega, show ss + (h8.2.1 - h.2.1) ≤ u9.2.1 - u.2.1 by omega⟩) (fun H locs hw => ?_)
        obtain ⟨er, eh⟩ := retE hm
        rw [← hQ]
        exact cx_out C hw g11 (by decide) rfl er eh (fun x hx => (htab x hx).elim) hlocks (by rw [← eh]; omega) (by rw [← eh]; omega)
  have hB118 : ∀ (h : CH) (x0 : Nat) (x1 : Int32) (cc ss : Nat) (H : Heap) (locs : List Loc) (ls : Array Slot), m_X4_line_118 f h x0 x1 = some (r0, u9) → CW D dA A s h H locs → cc + u.1 = h.1 → ss + u.2.1 = h.2.1 → lv_has ls 4 [(0, .ref x0), (1, .int x1)] → W p l e (rm_X4_line (u9.1 - u.1) (u9.2.1 - u.2.1)) s m args below meth c H locs cc ss QQ (F0 m 118 ls []) := by
    intro h x0 x1 cc ss H locs ls hm hw hcc hss hl
    have hmo := mo_X4_line_118  h x0 x1 _ hm
    have sb_ : h.1 ≤ u9.1 := hmo.1
    have tb_ : h.2.1 ≤ u9.2.1 := hmo.2.1
    rw [m_X4_line_118] at hm
    refine lv_aload_n hx hb dX4_line_118 rfl (lv_at hl 0 rfl) ?_
    obtain ⟨a1, ea1, hm⟩ := bdE hm
    refine cg_get C hw (oR_E ea1) rfl in_X4 (by decide) q324 dX4_line_119 ?_
    refine lv_astore_n (lv' := [(2, .ref a1), (0, .ref x0), (1, .int x1)]) hx hb dX4_line_122 rfl hl (by decide) rfl (fun ls hl => ?_)
    refine lv_aload_n hx hb dX4_line_123 rfl (lv_at hl 1 rfl) ?_
    obtain ⟨g2, hm⟩ := gdE hm
    obtain ⟨h3, eh3, hm⟩ := bdE hm
    have lh3 := mo_X4_advance eh3
    have ph3 : h.1 ≤ h3.1 := lh3.1
    have qh3 : h.2.1 ≤ h3.2.1 := lh3.2.1
    have hmo := mo_X4_line_127   h3 x0 x1 a1 _ hm
    have sh3 : h3.1 ≤ u9.1 := hmo.1
    have th3 : h3.2.1 ≤ u9.2.1 := hmo.2.1
    refine cg_callv hw lh3 (va_runV (As := []) (rest := []) ⟨hx, hb, hml, hown, hts⟩ (w_X4_advance l eh3) (cw_X4_advance hts q351 ⟨Nat.le_of_ble_eq_true rfl, Nat.le_of_ble_eq_true rfl⟩) (cg_preV C hw g2 rfl _) rfl rfl hl.1 rfl (lv_room (Nat.le_of_ble_eq_true rfl)) dX4_line_124 ⟨show cc + (h3.1 - h.1) ≤ u9.1 - u.1 by omega, show ss + (h3.2.1 - h.2.1) ≤ u9.2.1 - u.2.1 by omega⟩) (fun H locs hw => ?_)
    exact hB127 h3 x0 x1 a1 _ _ _ _ _ hm hw (by omega) (by omega) (lv_sub hl [1, 2, 0] rfl)
  have hB114 : ∀ (h : CH) (x0 : Nat) (x1 : Int32) (y0 : Nat) (y1 : Int32) (cc ss : Nat) (H : Heap) (locs : List Loc) (ls : Array Slot), m_X4_line_114 f h x0 x1 y0 y1 = some (r0, u9) → CW D dA A s h H locs → cc + u.1 = h.1 → ss + u.2.1 = h.2.1 → lv_has ls 4 [(0, .ref x0), (1, .int x1)] → W p l e (rm_X4_line (u9.1 - u.1) (u9.2.1 - u.2.1)) s m args below meth c H locs cc ss QQ (F0 m 114 ls [.int y1, .ref y0]) := by
    intro h x0 x1 y0 y1 cc ss H locs ls hm hw hcc hss hl
    have hmo := mo_X4_line_114  h x0 x1 y0 y1 _ hm
    have sb_ : h.1 ≤ u9.1 := hmo.1
    have tb_ : h.2.1 ≤ u9.2.1 := hmo.2.1
    rw [m_X4_line_114] at hm
    refine lv_iconst (v := 2) hx hb dX4_line_114 (by decide) ?_
    obtain ⟨g1, hm⟩ := gdE hm
    rcases bxE hm with ⟨r3, h2, eh2, hm⟩ | ⟨q4, h2, eh2, hm⟩
    · have lh2 := mo_X4_needs eh2
      have ph2 : h.1 ≤ h2.1 := lh2.1
      have qh2 : h.2.1 ≤ h2.2.1 := lh2.2.1
      have hmo := mo_X4_line_118   h2 x0 x1 _ hm
      have sh2 : h2.1 ≤ u9.1 := hmo.1
      have th2 : h2.2.1 ≤ u9.2.1 := hmo.2.1
      refine cx_callv hw lh2 (vy_runV (As := [.int y1, .int (2 : Int32)]) (rest := []) ⟨hx, hb, hml, hown, hts⟩ (w_X4_needs l htl eh2) (cw_X4_needs hts q582 ⟨Nat.le_of_ble_eq_true rfl, Nat.le_of_ble_eq_true rfl⟩) (cg_preV C hw g1 rfl _) rfl rfl hl.1 rfl (lv_room (Nat.le_of_ble_eq_true rfl)) dX4_line_115 ⟨show cc + (h2.1 - h.1) ≤ u9.1 - u.1 by omega, show ss + (h2.2.1 - h.2.1) ≤ u9.2.1 - u.2.1 by omega⟩) (fun H locs hw => ?_)
      exact hB118 h2 x0 x1 _ _ _ _ _ hm hw (by omega) (by omega) (lv_sub hl [0, 1] rfl)
    · have lh2 := mo_X4_needs eh2
      have ph2 : h.1 ≤ h2.1 := lh2.1
      have qh2 : h.2.1 ≤ h2.2.1 := lh2.2.1
      obtain ⟨g5, hm⟩ := gdE hm
      have sh2 : h2.1 ≤ u9.1 := by rw [← (retE hm).2]; exact Nat.le_refl _
      have th2 : h2.2.1 ≤ u9.2.1 := by rw [← (retE hm).2]; exact Nat.le_refl _
      refine cx_callX hw lh2 noQv (vy_runV (As := [.int y1, .int (2 : Int32)]) (rest := []) ⟨hx, hb, hml, hown, hts⟩ (w_X4_needs l htl eh2) (cw_X4_needs hts q582 ⟨Nat.le_of_ble_eq_true rfl, Nat.le_of_ble_eq_true rfl⟩) (cg_preV C hw g1 rfl _) rfl rfl hl.1 rfl (lv_room (Nat.le_of_ble_eq_true rfl)) dX4_line_115 ⟨show cc + (h2.1 - h.1) ≤ u9.1 - u.1 by omega, show ss + (h2.2.1 - h.2.1) ≤ u9.2.1 - u.2.1 by omega⟩) (fun H locs hw => ?_)
      obtain ⟨er, eh⟩ := retE hm
      rw [← hQ]
      exact cx_out C hw g5 (by decide) rfl er eh (fun x hx => (htab x hx).elim) hlocks (by rw [← eh]; omega) (by rw [← eh]; omega)
  have hB113 : ∀ (h : CH) (x0 : Nat) (x1 : Int32) (y0 : Nat) (cc ss : Nat) (H : Heap) (locs : List Loc) (ls : Array Slot), m_X4_line_113 f h x0 x1 y0 = some (r0, u9) → CW D dA A s h H locs → cc + u.1 = h.1 → ss + u.2.1 = h.2.1 → lv_has ls 4 [(0, .ref x0), (1, .int x1)] → W p l e (rm_X4_line (u9.1 - u.1) (u9.2.1 - u.2.1)) s m args below meth c H locs cc ss QQ (F0 m 113 ls [.ref y0]) := by
    intro h x0 x1 y0 cc ss H locs ls hm hw hcc hss hl
    have hmo := mo_X4_line_113  h x0 x1 y0 _ hm
    have sb_ : h.1 ≤ u9.1 := hmo.1
    have tb_ : h.2.1 ≤ u9.2.1 := hmo.2.1
    rw [m_X4_line_113] at hm
    refine lv_iconst (v := 0) hx hb dX4_line_113 (by decide) ?_
    exact hB114 h x0 x1 y0 (0 : Int32) _ _ _ _ _ hm hw (by omega) (by omega) (lv_sub hl [0, 1] rfl)
  have hB106 : ∀ (h : CH) (x0 : Nat) (x1 : Int32) (y0 : Nat) (y1 : Int32) (cc ss : Nat) (H : Heap) (locs : List Loc) (ls : Array Slot), m_X4_line_106 f h x0 x1 y0 y1 = some (r0, u9) → CW D dA A s h H locs → cc + u.1 = h.1 → ss + u.2.1 = h.2.1 → lv_has ls 4 [(0, .ref x0), (1, .int x1)] → W p l e (rm_X4_line (u9.1 - u.1) (u9.2.1 - u.2.1)) s m args below meth c H locs cc ss QQ (F0 m 106 ls [.int y1, .ref y0]) := by
    intro h x0 x1 y0 y1 cc ss H locs ls hm hw hcc hss hl
    have hmo := mo_X4_line_106  h x0 x1 y0 y1 _ hm
    have sb_ : h.1 ≤ u9.1 := hmo.1
    have tb_ : h.2.1 ≤ u9.2.1 := hmo.2.1
    rw [m_X4_line_106] at hm
    refine lv_if_ne (tgt := 113) hx hb dX4_line_106 (by decide) (fun c1 => ?_) (fun c1 => ?_)
    · have hm := ifT hm c1
      exact hB113 h x0 x1 y0 _ _ _ _ _ hm hw (by omega) (by omega) (lv_sub hl [0, 1] rfl)
    · have hm := ifT' hm c1
      refine lv_iconst (v := 1) hx hb dX4_line_109 (by decide) ?_
      refine lv_goto (tgt := 114) hx hb dX4_line_110 (by decide) ?_
      exact hB114 h x0 x1 y0 (1 : Int32) _ _ _ _ _ hm hw (by omega) (by omega) (lv_sub hl [0, 1] rfl)
  have hB92 : ∀ (h : CH) (x0 : Nat) (x1 : Int32) (y0 : Nat) (y1 : Int32) (cc ss : Nat) (H : Heap) (locs : List Loc) (ls : Array Slot), m_X4_line_92 f h x0 x1 y0 y1 = some (r0, u9) → CW D dA A s h H locs → cc + u.1 = h.1 → ss + u.2.1 = h.2.1 → lv_has ls 4 [(0, .ref x0), (1, .int x1)] → W p l e (rm_X4_line (u9.1 - u.1) (u9.2.1 - u.2.1)) s m args below meth c H locs cc ss QQ (F0 m 92 ls [.int y1, .ref y0]) := by
    intro h x0 x1 y0 y1 cc ss H locs ls hm hw hcc hss hl
    have hmo := mo_X4_line_92  h x0 x1 y0 y1 _ hm
    have sb_ : h.1 ≤ u9.1 := hmo.1
    have tb_ : h.2.1 ≤ u9.2.1 := hmo.2.1
    rw [m_X4_line_92] at hm
    refine lv_if_ne (tgt := 113) hx hb dX4_line_92 (by decide) (fun c1 => ?_) (fun c1 => ?_)
    · have hm := ifT hm c1
      exact hB113 h x0 x1 y0 _ _ _ _ _ hm hw (by omega) (by omega) (lv_sub hl [0, 1] rfl)
    · have hm := ifT' hm c1
      refine lv_aload_n hx hb dX4_line_95 rfl (lv_at hl 0 rfl) ?_
      obtain ⟨a2, ea2, hm⟩ := bdE hm
      refine cg_get C hw (oR_E ea2) rfl in_X4 (by decide) q316 dX4_line_96 ?_
      refine lv_aload_n hx hb dX4_line_99 rfl (lv_at hl 0 rfl) ?_
      obtain ⟨a3, ea3, hm⟩ := bdE hm
      refine cg_get C hw (oR_E ea3) rfl in_X4 (by decide) q324 dX4_line_100 ?_
      obtain ⟨g4, hm⟩ := gdE hm
      obtain ⟨r6, h5, er6, hm⟩ := bd2E hm
      have lh5 := mo_J2_contains er6
      have ph5 : h.1 ≤ h5.1 := lh5.1
      have qh5 : h.2.1 ≤ h5.2.1 := lh5.2.1
      have hmo := mo_X4_line_106   h5 x0 x1 y0 r6 _ hm
      have sh5 : h5.1 ≤ u9.1 := hmo.1
      have th5 : h5.2.1 ≤ u9.2.1 := hmo.2.1
      refine cg_calli hw lh5 (va_runV (As := [.ref a3]) (rest := [.ref y0]) ⟨hx, hb, hml, hown, hts⟩ (w_J2_contains l er6) (cw_J2_contains hts q673 ⟨Nat.le_of_ble_eq_true rfl, Nat.le_of_ble_eq_true rfl⟩) (cg_preV C hw g4 rfl _) rfl rfl hl.1 rfl (lv_room (Nat.le_of_ble_eq_true rfl)) dX4_line_103 ⟨show cc + (h5.1 - h.1) ≤ u9.1 - u.1 by omega, show ss + (h5.2.1 - h.2.1) ≤ u9.2.1 - u.2.1 by omega⟩) (fun H locs hw => ?_)
      exact hB106 h5 x0 x1 y0 r6 _ _ _ _ _ hm hw (by omega) (by omega) (lv_sub hl [0, 1] rfl)
  have hB83 : ∀ (h : CH) (x0 : Nat) (x1 : Int32) (y0 : Nat) (y1 : Int32) (cc ss : Nat) (H : Heap) (locs : List Loc) (ls : Array Slot), m_X4_line_83 f h x0 x1 y0 y1 = some (r0, u9) → CW D dA A s h H locs → cc + u.1 = h.1 → ss + u.2.1 = h.2.1 → lv_has ls 4 [(0, .ref x0), (1, .int x1)] → W p l e (rm_X4_line (u9.1 - u.1) (u9.2.1 - u.2.1)) s m args below meth c H locs cc ss QQ (F0 m 83 ls [.int y1, .ref y0]) := by
    intro h x0 x1 y0 y1 cc ss H locs ls hm hw hcc hss hl
    have hmo := mo_X4_line_83  h x0 x1 y0 y1 _ hm
    have sb_ : h.1 ≤ u9.1 := hmo.1
    have tb_ : h.2.1 ≤ u9.2.1 := hmo.2.1
    rw [m_X4_line_83] at hm
    refine lv_bipush (v := 6) hx hb dX4_line_83 (by decide) ?_
    refine lv_icmp_gt (tgt := 113) hx hb dX4_line_85 (by decide) (fun c1 => ?_) (fun c1 => ?_)
    · have hm := ifT hm c1
      exact hB113 h x0 x1 y0 _ _ _ _ _ hm hw (by omega) (by omega) (lv_sub hl [0, 1] rfl)
    · have hm := ifF hm c1
      refine lv_aload_n hx hb dX4_line_88 rfl (lv_at hl 0 rfl) ?_
      obtain ⟨g2, hm⟩ := gdE hm
      obtain ⟨r4, h3, er4, hm⟩ := bd2E hm
      have lh3 := mo_X4_isOwn er4
      have ph3 : h.1 ≤ h3.1 := lh3.1
      have qh3 : h.2.1 ≤ h3.2.1 := lh3.2.1
      have hmo := mo_X4_line_92   h3 x0 x1 y0 r4 _ hm
      have sh3 : h3.1 ≤ u9.1 := hmo.1
      have th3 : h3.2.1 ≤ u9.2.1 := hmo.2.1
      refine cg_calli hw lh3 (va_runV (As := []) (rest := [.ref y0]) ⟨hx, hb, hml, hown, hts⟩ (w_X4_isOwn l er4) (cw_X4_isOwn hts q667 ⟨Nat.le_of_ble_eq_true rfl, Nat.le_of_ble_eq_true rfl⟩) (cg_preV C hw g2 rfl _) rfl rfl hl.1 rfl (lv_room (Nat.le_of_ble_eq_true rfl)) dX4_line_89 ⟨show cc + (h3.1 - h.1) ≤ u9.1 - u.1 by omega, show ss + (h3.2.1 - h.2.1) ≤ u9.2.1 - u.2.1 by omega⟩) (fun H locs hw => ?_)
      exact hB92 h3 x0 x1 y0 r4 _ _ _ _ _ hm hw (by omega) (by omega) (lv_sub hl [0, 1] rfl)
  have hB75 : ∀ (h : CH) (x0 : Nat) (x1 : Int32) (cc ss : Nat) (H : Heap) (locs : List Loc) (ls : Array Slot), m_X4_line_75 f h x0 x1 = some (r0, u9) → CW D dA A s h H locs → cc + u.1 = h.1 → ss + u.2.1 = h.2.1 → lv_has ls 4 [(0, .ref x0), (1, .int x1)] → W p l e (rm_X4_line (u9.1 - u.1) (u9.2.1 - u.2.1)) s m args below meth c H locs cc ss QQ (F0 m 75 ls []) := by
    intro h x0 x1 cc ss H locs ls hm hw hcc hss hl
    have hmo := mo_X4_line_75  h x0 x1 _ hm
    have sb_ : h.1 ≤ u9.1 := hmo.1
    have tb_ : h.2.1 ≤ u9.2.1 := hmo.2.1
    rw [m_X4_line_75] at hm
    refine lv_aload_n hx hb dX4_line_75 rfl (lv_at hl 0 rfl) ?_
    refine lv_aload_n hx hb dX4_line_76 rfl (lv_at hl 0 rfl) ?_
    obtain ⟨a1, ea1, hm⟩ := bdE hm
    refine cg_get C hw (oR_E ea1) rfl in_X4 (by decide) q324 dX4_line_77 ?_
    obtain ⟨g2, hm⟩ := gdE hm
    obtain ⟨r4, h3, er4, hm⟩ := bd2E hm
    have lh3 := mo_J6_length er4
    have ph3 : h.1 ≤ h3.1 := lh3.1
    have qh3 : h.2.1 ≤ h3.2.1 := lh3.2.1
    have hmo := mo_X4_line_83   h3 x0 x1 x0 r4 _ hm
    have sh3 : h3.1 ≤ u9.1 := hmo.1
    have th3 : h3.2.1 ≤ u9.2.1 := hmo.2.1
    refine cg_calli hw lh3 (va_runV (As := []) (rest := [.ref x0]) ⟨hx, hb, hml, hown, hts⟩ (w_J6_length l er4) (cw_J6_length hts q659 ⟨Nat.le_of_ble_eq_true rfl, Nat.le_of_ble_eq_true rfl⟩) (cg_preV C hw g2 rfl _) rfl rfl hl.1 rfl (lv_room (Nat.le_of_ble_eq_true rfl)) dX4_line_80 ⟨show cc + (h3.1 - h.1) ≤ u9.1 - u.1 by omega, show ss + (h3.2.1 - h.2.1) ≤ u9.2.1 - u.2.1 by omega⟩) (fun H locs hw => ?_)
    exact hB83 h3 x0 x1 x0 r4 _ _ _ _ _ hm hw (by omega) (by omega) (lv_sub hl [0, 1] rfl)
  have hB71 : ∀ (h : CH) (x0 : Nat) (x1 : Int32) (y0 : Nat) (y1 : Int32) (cc ss : Nat) (H : Heap) (locs : List Loc) (ls : Array Slot), m_X4_line_71 f h x0 x1 y0 y1 = some (r0, u9) → CW D dA A s h H locs → cc + u.1 = h.1 → ss + u.2.1 = h.2.1 → lv_has ls 4 [(0, .ref x0), (1, .int x1)] → W p l e (rm_X4_line (u9.1 - u.1) (u9.2.1 - u.2.1)) s m args below meth c H locs cc ss QQ (F0 m 71 ls [.int y1, .ref y0]) := by
    intro h x0 x1 y0 y1 cc ss H locs ls hm hw hcc hss hl
    have hmo := mo_X4_line_71  h x0 x1 y0 y1 _ hm
    have sb_ : h.1 ≤ u9.1 := hmo.1
    have tb_ : h.2.1 ≤ u9.2.1 := hmo.2.1
    rw [m_X4_line_71] at hm
    refine lv_iconst (v := 1) hx hb dX4_line_71 (by decide) ?_
    obtain ⟨g1, hm⟩ := gdE hm
    rcases bxE hm with ⟨r3, h2, eh2, hm⟩ | ⟨q4, h2, eh2, hm⟩
    · have lh2 := mo_X4_needs eh2
      have ph2 : h.1 ≤ h2.1 := lh2.1
      have qh2 : h.2.1 ≤ h2.2.1 := lh2.2.1
      have hmo := mo_X4_line_75   h2 x0 x1 _ hm
      have sh2 : h2.1 ≤ u9.1 := hmo.1
      have th2 : h2.2.1 ≤ u9.2.1 := hmo.2.1
      refine cx_callv hw lh2 (vy_runV (As := [.int y1, .int (1 : Int32)]) (rest := []) ⟨hx, hb, hml, hown, hts⟩ (w_X4_needs l htl eh2) (cw_X4_needs hts q582 ⟨Nat.le_of_ble_eq_true rfl, Nat.le_of_ble_eq_true rfl⟩) (cg_preV C hw g1 rfl _) rfl rfl hl.1 rfl (lv_room (Nat.le_of_ble_eq_true rfl)) dX4_line_72 ⟨show cc + (h2.1 - h.1) ≤ u9.1 - u.1 by omega, show ss + (h2.2.1 - h.2.1) ≤ u9.2.1 - u.2.1 by omega⟩) (fun H locs hw => ?_)
      exact hB75 h2 x0 x1 _ _ _ _ _ hm hw (by omega) (by omega) (lv_sub hl [0, 1] rfl)
    · have lh2 := mo_X4_needs eh2
      have ph2 : h.1 ≤ h2.1 := lh2.1
      have qh2 : h.2.1 ≤ h2.2.1 := lh2.2.1
      obtain ⟨g5, hm⟩ := gdE hm
      have sh2 : h2.1 ≤ u9.1 := by rw [← (retE hm).2]; exact Nat.le_refl _
      have th2 : h2.2.1 ≤ u9.2.1 := by rw [← (retE hm).2]; exact Nat.le_refl _
      refine cx_callX hw lh2 noQv (vy_runV (As := [.int y1, .int (1 : Int32)]) (rest := []) ⟨hx, hb, hml, hown, hts⟩ (w_X4_needs l htl eh2) (cw_X4_needs hts q582 ⟨Nat.le_of_ble_eq_true rfl, Nat.le_of_ble_eq_true rfl⟩) (cg_preV C hw g1 rfl _) rfl rfl hl.1 rfl (lv_room (Nat.le_of_ble_eq_true rfl)) dX4_line_72 ⟨show cc + (h2.1 - h.1) ≤ u9.1 - u.1 by omega, show ss + (h2.2.1 - h.2.1) ≤ u9.2.1 - u.2.1 by omega⟩) (fun H locs hw => ?_)
      obtain ⟨er, eh⟩ := retE hm
      rw [← hQ]
      exact cx_out C hw g5 (by decide) rfl er eh (fun x hx => (htab x hx).elim) hlocks (by rw [← eh]; omega) (by rw [← eh]; omega)
  have hB55 : ∀ (h : CH) (x0 : Nat) (x1 : Int32) (cc ss : Nat) (H : Heap) (locs : List Loc) (ls : Array Slot), m_X4_line_55 f h x0 x1 = some (r0, u9) → CW D dA A s h H locs → cc + u.1 = h.1 → ss + u.2.1 = h.2.1 → lv_has ls 4 [(0, .ref x0), (1, .int x1)] → W p l e (rm_X4_line (u9.1 - u.1) (u9.2.1 - u.2.1)) s m args below meth c H locs cc ss QQ (F0 m 55 ls []) := by
    intro h x0 x1 cc ss H locs ls hm hw hcc hss hl
    have hmo := mo_X4_line_55  h x0 x1 _ hm
    have sb_ : h.1 ≤ u9.1 := hmo.1
    have tb_ : h.2.1 ≤ u9.2.1 := hmo.2.1
    rw [m_X4_line_55] at hm
    refine lv_aload_n hx hb dX4_line_55 rfl (lv_at hl 0 rfl) ?_
    refine lv_aload_n hx hb dX4_line_56 rfl (lv_at hl 0 rfl) ?_
    obtain ⟨a1, ea1, hm⟩ := bdE hm
    refine cg_get C hw (oR_E ea1) rfl in_X4 (by decide) q323 dX4_line_57 ?_
    obtain ⟨a2, ea2, hm⟩ := bdE hm
    refine cg_gets C hw (i := 7) ea2 rfl q551 dX4_line_60 ?_
    refine cg_acmp_ne (tgt := 70) hx hb dX4_line_63 (by decide) (fun c3 => ?_) (fun c3 => ?_)
    · have hm := ifT hm c3
      refine lv_iconst (v := 0) hx hb dX4_line_70 (by decide) ?_
      exact hB71 h x0 x1 x0 (0 : Int32) _ _ _ _ _ hm hw (by omega) (by omega) (lv_sub hl [0, 1] rfl)
    · have hm := ifT' hm c3
      refine lv_iconst (v := 1) hx hb dX4_line_66 (by decide) ?_
      refine lv_goto (tgt := 71) hx hb dX4_line_67 (by decide) ?_
      exact hB71 h x0 x1 x0 (1 : Int32) _ _ _ _ _ hm hw (by omega) (by omega) (lv_sub hl [0, 1] rfl)
  have hB51 : ∀ (h : CH) (x0 : Nat) (x1 : Int32) (cc ss : Nat) (H : Heap) (locs : List Loc) (ls : Array Slot), m_X4_line_51 f h x0 x1 = some (r0, u9) → CW D dA A s h H locs → cc + u.1 = h.1 → ss + u.2.1 = h.2.1 → lv_has ls 4 [(0, .ref x0), (1, .int x1)] → W p l e (rm_X4_line (u9.1 - u.1) (u9.2.1 - u.2.1)) s m args below meth c H locs cc ss QQ (F0 m 51 ls []) := by
    intro h x0 x1 cc ss H locs ls hm hw hcc hss hl
    have hmo := mo_X4_line_51  h x0 x1 _ hm
    have sb_ : h.1 ≤ u9.1 := hmo.1
    have tb_ : h.2.1 ≤ u9.2.1 := hmo.2.1
    rw [m_X4_line_51] at hm
    refine lv_aload_n hx hb dX4_line_51 rfl (lv_at hl 0 rfl) ?_
    obtain ⟨g1, hm⟩ := gdE hm
    obtain ⟨h2, eh2, hm⟩ := bdE hm
    have lh2 := mo_X4_advance eh2
    have ph2 : h.1 ≤ h2.1 := lh2.1
    have qh2 : h.2.1 ≤ h2.2.1 := lh2.2.1
    have hmo := mo_X4_line_55   h2 x0 x1 _ hm
    have sh2 : h2.1 ≤ u9.1 := hmo.1
    have th2 : h2.2.1 ≤ u9.2.1 := hmo.2.1
    refine cg_callv hw lh2 (va_runV (As := []) (rest := []) ⟨hx, hb, hml, hown, hts⟩ (w_X4_advance l eh2) (cw_X4_advance hts q351 ⟨Nat.le_of_ble_eq_true rfl, Nat.le_of_ble_eq_true rfl⟩) (cg_preV C hw g1 rfl _) rfl rfl hl.1 rfl (lv_room (Nat.le_of_ble_eq_true rfl)) dX4_line_52 ⟨show cc + (h2.1 - h.1) ≤ u9.1 - u.1 by omega, show ss + (h2.2.1 - h.2.1) ≤ u9.2.1 - u.2.1 by omega⟩) (fun H locs hw => ?_)
    exact hB55 h2 x0 x1 _ _ _ _ _ hm hw (by omega) (by omega) (lv_sub hl [0, 1] rfl)
  have hB47 : ∀ (h : CH) (x0 : Nat) (x1 : Int32) (y0 : Nat) (y1 : Int32) (cc ss : Nat) (H : Heap) (locs : List Loc) (ls : Array Slot), m_X4_line_47 f h x0 x1 y0 y1 = some (r0, u9) → CW D dA A s h H locs → cc + u.1 = h.1 → ss + u.2.1 = h.2.1 → lv_has ls 4 [(0, .ref x0), (1, .int x1)] → W p l e (rm_X4_line (u9.1 - u.1) (u9.2.1 - u.2.1)) s m args below meth c H locs cc ss QQ (F0 m 47 ls [.int y1, .ref y0]) := by
    intro h x0 x1 y0 y1 cc ss H locs ls hm hw hcc hss hl
    have hmo := mo_X4_line_47  h x0 x1 y0 y1 _ hm
    have sb_ : h.1 ≤ u9.1 := hmo.1
    have tb_ : h.2.1 ≤ u9.2.1 := hmo.2.1
    rw [m_X4_line_47] at hm
    refine lv_iconst (v := 3) hx hb dX4_line_47 (by decide) ?_
    obtain ⟨g1, hm⟩ := gdE hm
    rcases bxE hm with ⟨r3, h2, eh2, hm⟩ | ⟨q4, h2, eh2, hm⟩
    · have lh2 := mo_X4_needs eh2
      have ph2 : h.1 ≤ h2.1 := lh2.1
      have qh2 : h.2.1 ≤ h2.2.1 := lh2.2.1
      have hmo := mo_X4_line_51   h2 x0 x1 _ hm
      have sh2 : h2.1 ≤ u9.1 := hmo.1
      have th2 : h2.2.1 ≤ u9.2.1 := hmo.2.1
      refine cx_callv hw lh2 (vy_runV (As := [.int y1, .int (3 : Int32)]) (rest := []) ⟨hx, hb, hml, hown, hts⟩ (w_X4_needs l htl eh2) (cw_X4_needs hts q582 ⟨Nat.le_of_ble_eq_true rfl, Nat.le_of_ble_eq_true rfl⟩) (cg_preV C hw g1 rfl _) rfl rfl hl.1 rfl (lv_room (Nat.le_of_ble_eq_true rfl)) dX4_line_48 ⟨show cc + (h2.1 - h.1) ≤ u9.1 - u.1 by omega, show ss + (h2.2.1 - h.2.1) ≤ u9.2.1 - u.2.1 by omega⟩) (fun H locs hw => ?_)
      exact hB51 h2 x0 x1 _ _ _ _ _ hm hw (by omega) (by omega) (lv_sub hl [0, 1] rfl)
    · have lh2 := mo_X4_needs eh2
      have ph2 : h.1 ≤ h2.1 := lh2.1
      have qh2 : h.2.1 ≤ h2.2.1 := lh2.2.1
      obtain ⟨g5, hm⟩ := gdE hm
      have sh2 : h2.1 ≤ u9.1 := by rw [← (retE hm).2]; exact Nat.le_refl _
      have th2 : h2.2.1 ≤ u9.2.1 := by rw [← (retE hm).2]; exact Nat.le_refl _
      refine cx_callX hw lh2 noQv (vy_runV (As := [.int y1, .int (3 : Int32)]) (rest := []) ⟨hx, hb, hml, hown, hts⟩ (w_X4_needs l htl eh2) (cw_X4_needs hts q582 ⟨Nat.le_of_ble_eq_true rfl, Nat.le_of_ble_eq_true rfl⟩) (cg_preV C hw g1 rfl _) rfl rfl hl.1 rfl (lv_room (Nat.le_of_ble_eq_true rfl)) dX4_line_48 ⟨show cc + (h2.1 - h.1) ≤ u9.1 - u.1 by omega, show ss + (h2.2.1 - h.2.1) ≤ u9.2.1 - u.2.1 by omega⟩) (fun H locs hw => ?_)
      obtain ⟨er, eh⟩ := retE hm
      rw [← hQ]
      exact cx_out C hw g5 (by decide) rfl er eh (fun x hx => (htab x hx).elim) hlocks (by rw [← eh]; omega) (by rw [← eh]; omega)
  have hB38 : ∀ (h : CH) (x0 : Nat) (x1 : Int32) (y0 : Nat) (y1 : Int32) (cc ss : Nat) (H : Heap) (locs : List Loc) (ls : Array Slot), m_X4_line_38 f h x0 x1 y0 y1 = some (r0, u9) → CW D dA A s h H locs → cc + u.1 = h.1 → ss + u.2.1 = h.2.1 → lv_has ls 4 [(0, .ref x0), (1, .int x1)] → W p l e (rm_X4_line (u9.1 - u.1) (u9.2.1 - u.2.1)) s m args below meth c H locs cc ss QQ (F0 m 38 ls [.int y1, .ref y0]) := by
    intro h x0 x1 y0 y1 cc ss H locs ls hm hw hcc hss hl
    have hmo := mo_X4_line_38  h x0 x1 y0 y1 _ hm
    have sb_ : h.1 ≤ u9.1 := hmo.1
    have tb_ : h.2.1 ≤ u9.2.1 := hmo.2.1
    rw [m_X4_line_38] at hm
    refine lv_iconst (v := 5) hx hb dX4_line_38 (by decide) ?_
    refine lv_icmp_ge (tgt := 46) hx hb dX4_line_39 (by decide) (fun c1 => ?_) (fun c1 => ?_)
    · have hm := ifT hm c1
      refine lv_iconst (v := 0) hx hb dX4_line_46 (by decide) ?_
      exact hB47 h x0 x1 y0 (0 : Int32) _ _ _ _ _ hm hw (by omega) (by omega) (lv_sub hl [0, 1] rfl)
    · have hm := ifF hm c1
      refine lv_iconst (v := 1) hx hb dX4_line_42 (by decide) ?_
      refine lv_goto (tgt := 47) hx hb dX4_line_43 (by decide) ?_
      exact hB47 h x0 x1 y0 (1 : Int32) _ _ _ _ _ hm hw (by omega) (by omega) (lv_sub hl [0, 1] rfl)
  have hB30 : ∀ (h : CH) (x0 : Nat) (x1 : Int32) (cc ss : Nat) (H : Heap) (locs : List Loc) (ls : Array Slot), m_X4_line_30 f h x0 x1 = some (r0, u9) → CW D dA A s h H locs → cc + u.1 = h.1 → ss + u.2.1 = h.2.1 → lv_has ls 4 [(0, .ref x0), (1, .int x1)] → W p l e (rm_X4_line (u9.1 - u.1) (u9.2.1 - u.2.1)) s m args below meth c H locs cc ss QQ (F0 m 30 ls []) := by
    intro h x0 x1 cc ss H locs ls hm hw hcc hss hl
    have hmo := mo_X4_line_30  h x0 x1 _ hm
    have sb_ : h.1 ≤ u9.1 := hmo.1
    have tb_ : h.2.1 ≤ u9.2.1 := hmo.2.1
    rw [m_X4_line_30] at hm
    refine lv_aload_n hx hb dX4_line_30 rfl (lv_at hl 0 rfl) ?_
    refine lv_aload_n hx hb dX4_line_31 rfl (lv_at hl 0 rfl) ?_
    obtain ⟨a1, ea1, hm⟩ := bdE hm
    refine cg_get C hw (oR_E ea1) rfl in_X4 (by decide) q314 dX4_line_32 ?_
    obtain ⟨g2, hm⟩ := gdE hm
    obtain ⟨r4, h3, er4, hm⟩ := bd2E hm
    have lh3 := mo_J2_size er4
    have ph3 : h.1 ≤ h3.1 := lh3.1
    have qh3 : h.2.1 ≤ h3.2.1 := lh3.2.1
    have hmo := mo_X4_line_38   h3 x0 x1 x0 r4 _ hm
    have sh3 : h3.1 ≤ u9.1 := hmo.1
    have th3 : h3.2.1 ≤ u9.2.1 := hmo.2.1
    refine cg_calli hw lh3 (va_runV (As := []) (rest := [.ref x0]) ⟨hx, hb, hml, hown, hts⟩ (w_J2_size l er4) (cw_J2_size hts q655 ⟨Nat.le_of_ble_eq_true rfl, Nat.le_of_ble_eq_true rfl⟩) (cg_preV C hw g2 rfl _) rfl rfl hl.1 rfl (lv_room (Nat.le_of_ble_eq_true rfl)) dX4_line_35 ⟨show cc + (h3.1 - h.1) ≤ u9.1 - u.1 by omega, show ss + (h3.2.1 - h.2.1) ≤ u9.2.1 - u.2.1 by omega⟩) (fun H locs hw => ?_)
    exact hB38 h3 x0 x1 x0 r4 _ _ _ _ _ hm hw (by omega) (by omega) (lv_sub hl [0, 1] rfl)
  have hB26 : ∀ (h : CH) (x0 : Nat) (x1 : Int32) (y0 : Nat) (y1 : Int32) (cc ss : Nat) (H : Heap) (locs : List Loc) (ls : Array Slot), m_X4_line_26 f h x0 x1 y0 y1 = some (r0, u9) → CW D dA A s h H locs → cc + u.1 = h.1 → ss + u.2.1 = h.2.1 → lv_has ls 4 [(0, .ref x0), (1, .int x1)] → W p l e (rm_X4_line (u9.1 - u.1) (u9.2.1 - u.2.1)) s m args below meth c H locs cc ss QQ (F0 m 26 ls [.int y1, .ref y0]) := by
    intro h x0 x1 y0 y1 cc ss H locs ls hm hw hcc hss hl
    have hmo := mo_X4_line_26  h x0 x1 y0 y1 _ hm
    have sb_ : h.1 ≤ u9.1 := hmo.1
    have tb_ : h.2.1 ≤ u9.2.1 := hmo.2.1
    rw [m_X4_line_26] at hm
    refine lv_iconst (v := 1) hx hb dX4_line_26 (by decide) ?_
    obtain ⟨g1, hm⟩ := gdE hm
    rcases bxE hm with ⟨r3, h2, eh2, hm⟩ | ⟨q4, h2, eh2, hm⟩
    · have lh2 := mo_X4_needs eh2
      have ph2 : h.1 ≤ h2.1 := lh2.1
      have qh2 : h.2.1 ≤ h2.2.1 := lh2.2.1
      have hmo := mo_X4_line_30   h2 x0 x1 _ hm
      have sh2 : h2.1 ≤ u9.1 := hmo.1
      have th2 : h2.2.1 ≤ u9.2.1 := hmo.2.1
      refine cx_callv hw lh2 (vy_runV (As := [.int y1, .int (1 : Int32)]) (rest := []) ⟨hx, hb, hml, hown, hts⟩ (w_X4_needs l htl eh2) (cw_X4_needs hts q582 ⟨Nat.le_of_ble_eq_true rfl, Nat.le_of_ble_eq_true rfl⟩) (cg_preV C hw g1 rfl _) rfl rfl hl.1 rfl (lv_room (Nat.le_of_ble_eq_true rfl)) dX4_line_27 ⟨show cc + (h2.1 - h.1) ≤ u9.1 - u.1 by omega, show ss + (h2.2.1 - h.2.1) ≤ u9.2.1 - u.2.1 by omega⟩) (fun H locs hw => ?_)
      exact hB30 h2 x0 x1 _ _ _ _ _ hm hw (by omega) (by omega) (lv_sub hl [0, 1] rfl)
    · have lh2 := mo_X4_needs eh2
      have ph2 : h.1 ≤ h2.1 := lh2.1
      have qh2 : h.2.1 ≤ h2.2.1 := lh2.2.1
      obtain ⟨g5, hm⟩ := gdE hm
      have sh2 : h2.1 ≤ u9.1 := by rw [← (retE hm).2]; exact Nat.le_refl _
      have th2 : h2.2.1 ≤ u9.2.1 := by rw [← (retE hm).2]; exact Nat.le_refl _
      refine cx_callX hw lh2 noQv (vy_runV (As := [.int y1, .int (1 : Int32)]) (rest := []) ⟨hx, hb, hml, hown, hts⟩ (w_X4_needs l htl eh2) (cw_X4_needs hts q582 ⟨Nat.le_of_ble_eq_true rfl, Nat.le_of_ble_eq_true rfl⟩) (cg_preV C hw g1 rfl _) rfl rfl hl.1 rfl (lv_room (Nat.le_of_ble_eq_true rfl)) dX4_line_27 ⟨show cc + (h2.1 - h.1) ≤ u9.1 - u.1 by omega, show ss + (h2.2.1 - h.2.1) ≤ u9.2.1 - u.2.1 by omega⟩) (fun H locs hw => ?_)
      obtain ⟨er, eh⟩ := retE hm
      rw [← hQ]
      exact cx_out C hw g5 (by decide) rfl er eh (fun x hx => (htab x hx).elim) hlocks (by rw [← eh]; omega) (by rw [← eh]; omega)
  have hB21 : ∀ (h : CH) (x0 : Nat) (x1 : Int32) (y0 : Nat) (cc ss : Nat) (H : Heap) (locs : List Loc) (ls : Array Slot), m_X4_line_21 f h x0 x1 y0 = some (r0, u9) → CW D dA A s h H locs → cc + u.1 = h.1 → ss + u.2.1 = h.2.1 → lv_has ls 4 [(0, .ref x0), (1, .int x1)] → W p l e (rm_X4_line (u9.1 - u.1) (u9.2.1 - u.2.1)) s m args below meth c H locs cc ss QQ (F0 m 21 ls [.ref y0]) := by
    intro h x0 x1 y0 cc ss H locs ls hm hw hcc hss hl
    have hmo := mo_X4_line_21  h x0 x1 y0 _ hm
    have sb_ : h.1 ≤ u9.1 := hmo.1
    have tb_ : h.2.1 ≤ u9.2.1 := hmo.2.1
    rw [m_X4_line_21] at hm
    refine lv_iconst (v := 1) hx hb dX4_line_21 (by decide) ?_
    refine lv_goto (tgt := 26) hx hb dX4_line_22 (by decide) ?_
    exact hB26 h x0 x1 y0 (1 : Int32) _ _ _ _ _ hm hw (by omega) (by omega) (lv_sub hl [0, 1] rfl)
  have hB18 : ∀ (h : CH) (x0 : Nat) (x1 : Int32) (y0 : Nat) (y1 : Int32) (cc ss : Nat) (H : Heap) (locs : List Loc) (ls : Array Slot), m_X4_line_18 f h x0 x1 y0 y1 = some (r0, u9) → CW D dA A s h H locs → cc + u.1 = h.1 → ss + u.2.1 = h.2.1 → lv_has ls 4 [(0, .ref x0), (1, .int x1)] → W p l e (rm_X4_line (u9.1 - u.1) (u9.2.1 - u.2.1)) s m args below meth c H locs cc ss QQ (F0 m 18 ls [.int y1, .ref y0]) := by
    intro h x0 x1 y0 y1 cc ss H locs ls hm hw hcc hss hl
    have hmo := mo_X4_line_18  h x0 x1 y0 y1 _ hm
    have sb_ : h.1 ≤ u9.1 := hmo.1
    have tb_ : h.2.1 ≤ u9.2.1 := hmo.2.1
    rw [m_X4_line_18] at hm
    refine lv_if_eq (tgt := 25) hx hb dX4_line_18 (by decide) (fun c1 => ?_) (fun c1 => ?_)
    · have hm := ifT hm c1
      refine lv_iconst (v := 0) hx hb dX4_line_25 (by decide) ?_
      exact hB26 h x0 x1 y0 (0 : Int32) _ _ _ _ _ hm hw (by omega) (by omega) (lv_sub hl [0, 1] rfl)
    · have hm := ifF hm c1
      exact hB21 h x0 x1 y0 _ _ _ _ _ hm hw (by omega) (by omega) (lv_sub hl [0, 1] rfl)
  have hB6 : ∀ (h : CH) (x0 : Nat) (y0 : Int32) (cc ss : Nat) (H : Heap) (locs : List Loc) (ls : Array Slot), m_X4_line_6 f h x0 y0 = some (r0, u9) → CW D dA A s h H locs → cc + u.1 = h.1 → ss + u.2.1 = h.2.1 → lv_has ls 4 [(0, .ref x0)] → W p l e (rm_X4_line (u9.1 - u.1) (u9.2.1 - u.2.1)) s m args below meth c H locs cc ss QQ (F0 m 6 ls [.int y0]) := by
    intro h x0 y0 cc ss H locs ls hm hw hcc hss hl
    have hmo := mo_X4_line_6  h x0 y0 _ hm
    have sb_ : h.1 ≤ u9.1 := hmo.1
    have tb_ : h.2.1 ≤ u9.2.1 := hmo.2.1
    rw [m_X4_line_6] at hm
    refine lv_istore_n (lv' := [(1, .int y0), (0, .ref x0)]) hx hb dX4_line_6 rfl hl (by decide) rfl (fun ls hl => ?_)
    refine lv_aload_n hx hb dX4_line_7 rfl (lv_at hl 1 rfl) ?_
    refine lv_iload_n hx hb dX4_line_8 rfl (lv_at hl 0 rfl) ?_
    refine lv_if_ne (tgt := 21) hx hb dX4_line_9 (by decide) (fun c1 => ?_) (fun c1 => ?_)
    · have hm := ifT hm c1
      exact hB21 h x0 y0 x0 _ _ _ _ _ hm hw (by omega) (by omega) (lv_sub hl [1, 0] rfl)
    · have hm := ifT' hm c1
      refine lv_aload_n hx hb dX4_line_12 rfl (lv_at hl 1 rfl) ?_
      obtain ⟨a2, ea2, hm⟩ := bdE hm
      refine cg_ldcs C hw (i := 3) ea2 rfl dX4_line_13 ?_
      obtain ⟨g3, hm⟩ := gdE hm
      obtain ⟨r5, h4, er5, hm⟩ := bd2E hm
      have lh4 := mo_X4_isWord er5
      have ph4 : h.1 ≤ h4.1 := lh4.1
      have qh4 : h.2.1 ≤ h4.2.1 := lh4.2.1
      have hmo := mo_X4_line_18   h4 x0 y0 x0 r5 _ hm
      have sh4 : h4.1 ≤ u9.1 := hmo.1
      have th4 : h4.2.1 ≤ u9.2.1 := hmo.2.1
      refine cg_calli hw lh4 (va_runV (As := [.ref a2]) (rest := [.ref x0]) ⟨hx, hb, hml, hown, hts⟩ (w_X4_isWord l er5) (cw_X4_isWord hts q569 ⟨Nat.le_of_ble_eq_true rfl, Nat.le_of_ble_eq_true rfl⟩) (cg_preV C hw g3 rfl _) rfl rfl hl.1 rfl (lv_room (Nat.le_of_ble_eq_true rfl)) dX4_line_15 ⟨show cc + (h4.1 - h.1) ≤ u9.1 - u.1 by omega, show ss + (h4.2.1 - h.2.1) ≤ u9.2.1 - u.2.1 by omega⟩) (fun H locs hw => ?_)
      exact hB18 h4 x0 y0 x0 r5 _ _ _ _ _ hm hw (by omega) (by omega) (lv_sub hl [1, 0] rfl)
  rw [m_X4_line] at hm
  refine lv_aload_n hx hb dX4_line_0 rfl (lv_at hl 0 rfl) ?_
  obtain ⟨a1, ea1, hm⟩ := bdE hm
  refine cg_ldcs C hw (i := 2) ea1 rfl dX4_line_1 ?_
  obtain ⟨g2, hm⟩ := gdE hm
  obtain ⟨r4, h3, er4, hm⟩ := bd2E hm
  have lh3 := mo_X4_isWord er4
  have ph3 : u.1 ≤ h3.1 := lh3.1
  have qh3 : u.2.1 ≤ h3.2.1 := lh3.2.1
  have hmo := mo_X4_line_6   h3 x0 r4 _ hm
  have sh3 : h3.1 ≤ u9.1 := hmo.1
  have th3 : h3.2.1 ≤ u9.2.1 := hmo.2.1
  refine cg_calli hw lh3 (va_runV (As := [.ref a1]) (rest := []) ⟨hx, hb, hml, hown, hts⟩ (w_X4_isWord l er4) (cw_X4_isWord hts q569 ⟨Nat.le_of_ble_eq_true rfl, Nat.le_of_ble_eq_true rfl⟩) (cg_preV C hw g2 rfl _) rfl rfl hl.1 rfl (lv_room (Nat.le_of_ble_eq_true rfl)) dX4_line_3 ⟨show cc + (h3.1 - u.1) ≤ u9.1 - u.1 by omega, show ss + (h3.2.1 - u.2.1) ≤ u9.2.1 - u.2.1 by omega⟩) (fun H locs hw => ?_)
  exact hB6 h3 x0 r4 _ _ _ _ _ hm hw (by omega) (by omega) (lv_sub hl [0] rfl)
