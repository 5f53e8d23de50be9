/-! walks of the component (printed by gen/walkc.py) -/
set_option maxRecDepth 100000
def m_X0_met_47 (f : Nat) (h : CH) (y0 : Int32) : Option (Int32 × CH) := some (y0, h)
theorem mo_X0_met_47 {f : Nat} : ∀ (h : CH) (y0 : Int32) (r : (Int32 × CH)), m_X0_met_47 f h y0 = some r → le2 h r.2 := by
  intro h y0 r hm
  rw [m_X0_met_47] at hm
  cases hm
  exact le2.rf
def m_X0_met_38 (f : Nat) (h : CH) (y0 : Int32) : Option (Int32 × CH) := if ¬ y0 = (1 : Int32) then
    m_X0_met_47 f h (0 : Int32)
    else m_X0_met_47 f h (1 : Int32)
theorem mo_X0_met_38 {f : Nat} : ∀ (h : CH) (y0 : Int32) (r : (Int32 × CH)), m_X0_met_38 f h y0 = some r → le2 h r.2 := by
  intro h y0 r hm
  rw [m_X0_met_38] at hm
  by_cases c1 : ¬ y0 = (1 : Int32)
  · have hm := ifT hm c1
    exact (mo_X0_met_47  h (0 : Int32) _ hm)
  · have hm := ifF hm c1
    exact (mo_X0_met_47  h (1 : Int32) _ hm)
def m_X0_met_13 (f : Nat) (h : CH) (x0 : Nat) (x1 : Int32) (x2 : Int32) (x3 : Int32) (x4 : Int32) (x5 : Int32) (x6 : Int32) (y0 : Int32) : Option (Int32 × CH) := if 0 ≤ y0 then
    gd (isC h x0 1) <|
    bd2 (m_X0_orderOf f h x0 x1 x2 x3 x4 x5 x6) fun r4 h3 =>
    m_X0_met_38 f h3 r4
    else m_X0_met_47 f h y0
theorem mo_X0_met_13 {f : Nat} : ∀ (h : CH) (x0 : Nat) (x1 : Int32) (x2 : Int32) (x3 : Int32) (x4 : Int32) (x5 : Int32) (x6 : Int32) (y0 : Int32) (r : (Int32 × CH)), m_X0_met_13 f h x0 x1 x2 x3 x4 x5 x6 y0 = some r → le2 h r.2 := by
  intro h x0 x1 x2 x3 x4 x5 x6 y0 r hm
  rw [m_X0_met_13] at hm
  by_cases c1 : 0 ≤ y0
  · have hm := ifT hm c1
    obtain ⟨g2, hm⟩ := gdE hm
    obtain ⟨r4, h3, er4, hm⟩ := bd2E hm
    have lh3 := mo_X0_orderOf er4
    exact (lh3.tr (mo_X0_met_38  h3 r4 _ hm))
  · have hm := ifF hm c1
    exact (mo_X0_met_47  h y0 _ hm)
def m_X0_met (f : Nat) (u : CH) (x0 : Nat) (x1 : Int32) (x2 : Int32) (x3 : Int32) (x4 : Int32) (x5 : Int32) (x6 : Int32) : Option (Int32 × CH) := gd (isC u x0 1) <|
    bd2 (m_X0_asksPoint f u x0 x1 x2 x3 x4 x5 x6) fun r3 h2 =>
    m_X0_met_13 f h2 x0 x1 x2 x3 x4 x5 x6 r3
theorem mo_X0_met {f : Nat} {u : CH} {x0 : Nat} {x1 : Int32} {x2 : Int32} {x3 : Int32} {x4 : Int32} {x5 : Int32} {x6 : Int32} {r0 : Int32} {u9 : CH} (hm : m_X0_met f u x0 x1 x2 x3 x4 x5 x6 = some (r0, u9)) : le2 u u9 := by
  rw [m_X0_met] at hm
  obtain ⟨g1, hm⟩ := gdE hm
  obtain ⟨r3, h2, er3, hm⟩ := bd2E hm
  have lh2 := mo_X0_asksPoint er3
  exact (lh2.tr (mo_X0_met_13  h2 x0 x1 x2 x3 x4 x5 x6 r3 _ hm))
abbrev rm_X0_met (mc ms : Nat) : Room := { frames := 109, cells := mc, slots := ms, locals := 4249 }
theorem cw_X0_met {R : Room} {s : State} {args : Array Value} {own : String} {idx mc ms : Nat} (hts : ∀ w ∈ lw_all, w.before args s = true) (hl : Cond.methodLink own idx yX0_met ∈ lw_all) (hR : 109 + 1 ≤ R.frames ∧ 8 + (8 + 11) + 4249 ≤ R.locals) : CallW R s args own RX0 idx yX0_met cX0_met 8 (Option.some Jvm.ClassFile.FieldType.int) (ws_ yX0_met cX0_met 8 (Option.some Jvm.ClassFile.FieldType.int)) (rm_X0_met mc ms) mc ms 6 := cwV 6 hts (lw_V hl q1197 q1198 q119 q1199) rfl rfl rfl (by decide +kernel) hR
set_option maxHeartbeats 4000000 in
set_option maxRecDepth 100000 in
theorem w_X0_met (l : Launch) {D : va_G} {dA : Nat → ClassId} {A : Nat → Prop} {f : Nat} {u u9 : CH} {r0 : Int32} {x0 : Nat} {x1 : Int32} {x2 : Int32} {x3 : Int32} {x4 : Int32} {x5 : Int32} {x6 : Int32} (hm : m_X0_met f u x0 x1 x2 x3 x4 x5 x6 = some (r0, u9)) : Met l yX0_met (ws_ yX0_met cX0_met 8 (Option.some Jvm.ClassFile.FieldType.int)) (rm_X0_met (u9.1 - u.1) (u9.2.1 - u.2.1)) (va_Pc [.ref x0, .int x1, .int x2, .int x3, .int x4, .int x5, .int x6] (CPre D dA A u)) (va_Qi (fun r u => r = r0 ∧ u = u9) (CPost D dA A) A) (u9.1 - u.1) (u9.2.1 - u.2.1) A := by
  refine Met.ofW (cc := cX0_met) (maxL := 8) (ret := (Option.some Jvm.ClassFile.FieldType.int)) (by decide) rfl ?_
  intro p e s m args below meth c s₁ B hml hv
  have hx := B.exec
  have hb := B.bytes
  have hr := B.returns
  have hts := atoms_spec (ws := (ws_ yX0_met cX0_met 8 (Option.some Jvm.ClassFile.FieldType.int))) B.pre
  have hts : ∀ w ∈ lw_all, w.before args s = true := fun w h => hts w (List.mem_cons_of_mem _ h)
  have hown : s.vm.findClass RX0 = some m.cls := findClass_of_methodNamed B.named
  have hlocks := B.notSynchronized
  obtain ⟨hav, hv⟩ := hv
  have C : CX p s m args c cX0_met RX0 D dA := ⟨hx, hb, hown, hts, hv.2⟩
  have hw : CW D dA A s u s.heap [] := hv.1
  generalize hQ : MQ below (va_Qi (fun r u => r = r0 ∧ u = u9) (CPost D dA A) A) args s (u9.1 - u.1) (u9.2.1 - u.2.1) A = QQ
  have hent := lg_entry_eq m [.ref x0, .int x1, .int x2, .int x3, .int x4, .int x5, .int x6] 8
  rw [← hav] at hent
  rw [hent]
  have hl := lv_entry ([.ref x0, .int x1, .int x2, .int x3, .int x4, .int x5, .int x6]) (n := 8) (Nat.le_of_ble_eq_true rfl)
  generalize (lg_sl ([.ref x0, .int x1, .int x2, .int x3, .int x4, .int x5, .int x6]) ++ List.replicate (8 - (lg_sl ([.ref x0, .int x1, .int x2, .int x3, .int x4, .int x5, .int x6])).length) Slot.unset).toArray = ls at hl ⊢
  have hl : lv_has ls 8 [(0, .ref x0), (1, .int x1), (2, .int x2), (3, .int x3), (4, .int x4), (5, .int x5), (6, .int x6)] := hl
  obtain ⟨cc, ecc⟩ : ∃ z : Nat, z = 0 := ⟨0, rfl⟩
  obtain ⟨ss, ess⟩ : ∃ z : Nat, z = 0 := ⟨0, rfl⟩
  have hcc : cc + u.1 = u.1 := by omega
  have hss : ss + u.2.1 = u.2.1 := by omega
  suffices hgo : W p l e (rm_X0_met (u9.1 - u.1) (u9.2.1 - u.2.1)) s m args below meth c s.heap [] cc ss QQ (F0 m 0 ls []) by rw [ecc, ess] at hgo; exact hgo
  have ⟨pu, qu, _, _⟩ := mo_X0_met hm
  have hB47 : ∀ (h : CH) (y0 : Int32) (cc ss : Nat) (H : Heap) (locs : List Loc) (ls : Array Slot), m_X0_met_47 f h y0 = some (r0, u9) → CW D dA A s h H locs → cc + u.1 = h.1 → ss + u.2.1 = h.2.1 → lv_has ls 8 [] → W p l e (rm_X0_met (u9.1 - u.1) (u9.2.1 - u.2.1)) s m args below meth c H locs cc ss QQ (F0 m 47 ls [.int y0]) := by
    intro h y0 cc ss H locs ls hm hw hcc hss hl
    have hmo := mo_X0_met_47  h y0 _ hm
    have sb_ : h.1 ≤ u9.1 := hmo.1
    have tb_ : h.2.1 ≤ u9.2.1 := hmo.2.1
    rw [m_X0_met_47] at hm
    obtain ⟨er, eh⟩ := retE hm
    have ec : cc = u9.1 - u.1 := by rw [← eh]; omega
    have es : ss = u9.2.1 - u.2.1 := by rw [← eh]; omega
    rw [ec, es, ← hQ]
    exact W.iret (v := y0) hx hb hr (fun t ht hW => ⟨⟨y0, h, rfl, ⟨er, eh⟩, ⟨by rw [ht]; exact hw.1, by rw [ht]; exact hw.2.1⟩⟩, hw.2.2.1.F ht⟩) hw.2.2.1.2.2 dX0_met_47
  have hB38 : ∀ (h : CH) (y0 : Int32) (cc ss : Nat) (H : Heap) (locs : List Loc) (ls : Array Slot), m_X0_met_38 f h y0 = some (r0, u9) → CW D dA A s h H locs → cc + u.1 = h.1 → ss + u.2.1 = h.2.1 → lv_has ls 8 [] → W p l e (rm_X0_met (u9.1 - u.1) (u9.2.1 - u.2.1)) s m args below meth c H locs cc ss QQ (F0 m 38 ls [.int y0]) := by
    intro h y0 cc ss H locs ls hm hw hcc hss hl
    have hmo := mo_X0_met_38  h y0 _ hm
    have sb_ : h.1 ≤ u9.1 := hmo.1
    have tb_ : h.2.1 ≤ u9.2.1 := hmo.2.1
    rw [m_X0_met_38] at hm
    refine lv_iconst (v := 1) hx hb dX0_met_38 (by decide) ?_
    refine lv_icmp_ne (tgt := 46) hx hb dX0_met_39 (by decide) (fun c1 => ?_) (fun c1 => ?_)
    · have hm := ifT hm c1
      refine lv_iconst (v := 0) hx hb dX0_met_46 (by decide) ?_
      exact hB47 h (0 : Int32) _ _ _ _ _ hm hw (by omega) (by omega) (lv_sub hl [] rfl)
    · have hm := ifT' hm c1
      refine lv_iconst (v := 1) hx hb dX0_met_42 (by decide) ?_
      refine lv_goto (tgt := 47) hx hb dX0_met_43 (by decide) ?_
      exact hB47 h (1 : Int32) _ _ _ _ _ hm hw (by omega) (by omega) (lv_sub hl [] rfl)
  have hB13 : ∀ (h : CH) (x0 : Nat) (x1 : Int32) (x2 : Int32) (x3 : Int32) (x4 : Int32) (x5 : Int32) (x6 : Int32) (y0 : Int32) (cc ss : Nat) (H : Heap) (locs : List Loc) (ls : Array Slot), m_X0_met_13 f h x0 x1 x2 x3 x4 x5 x6 y0 = some (r0, u9) → CW D dA A s h H locs → cc + u.1 = h.1 → ss + u.2.1 = h.2.1 → lv_has ls 8 [(0, .ref x0), (1, .int x1), (2, .int x2), (3, .int x3), (4, .int x4), (5, .int x5), (6, .int x6)] → W p l e (rm_X0_met (u9.1 - u.1) (u9.2.1 - u.2.1)) s m args below meth c H locs cc ss QQ (F0 m 13 ls [.int y0]) := by
    intro h x0 x1 x2 x3 x4 x5 x6 y0 cc ss H locs ls hm hw hcc hss hl
    have hmo := mo_X0_met_13  h x0 x1 x2 x3 x4 x5 x6 y0 _ hm
    have sb_ : h.1 ≤ u9.1 := hmo.1
    have tb_ : h.2.1 ≤ u9.2.1 := hmo.2.1
    rw [m_X0_met_13] at hm
    refine lv_istore (lv' := [(7, .int y0), (0, .ref x0), (1, .int x1), (2, .int x2), (3, .int x3), (4, .int x4), (5, .int x5), (6, .int x6)]) hx hb dX0_met_13 hl (by decide) rfl (fun ls hl => ?_)
    refine lv_iload hx hb dX0_met_15 (lv_at hl 0 rfl) ?_
    refine lv_if_ge (tgt := 25) hx hb dX0_met_17 (by decide) (fun c1 => ?_) (fun c1 => ?_)
    · have hm := ifT hm c1
      refine lv_aload_n hx hb dX0_met_25 rfl (lv_at hl 1 rfl) ?_
      refine lv_iload_n hx hb dX0_met_26 rfl (lv_at hl 2 rfl) ?_
      refine lv_iload_n hx hb dX0_met_27 rfl (lv_at hl 3 rfl) ?_
      refine lv_iload_n hx hb dX0_met_28 rfl (lv_at hl 4 rfl) ?_
      refine lv_iload hx hb dX0_met_29 (lv_at hl 5 rfl) ?_
      refine lv_iload hx hb dX0_met_31 (lv_at hl 6 rfl) ?_
      refine lv_iload hx hb dX0_met_33 (lv_at hl 7 rfl) ?_
      obtain ⟨g2, hm⟩ := gdE hm
      obtain ⟨r4, h3, er4, hm⟩ := bd2E hm
      have lh3 := mo_X0_orderOf er4
      have ph3 : h.1 ≤ h3.1 := lh3.1
      have qh3 : h.2.1 ≤ h3.2.1 := lh3.2.1
      have hmo := mo_X0_met_38   h3 r4 _ hm
      have sh3 : h3.1 ≤ u9.1 := hmo.1
      have th3 : h3.2.1 ≤ u9.2.1 := hmo.2.1
      refine cg_calli hw lh3 (va_runV (As := [.int x1, .int x2, .int x3, .int x4, .int x5, .int x6]) (rest := []) ⟨hx, hb, hml, hown, hts⟩ (w_X0_orderOf l er4) (cw_X0_orderOf hts q1205 ⟨Nat.le_of_ble_eq_true rfl, Nat.le_of_ble_eq_true rfl⟩) (cg_preV C hw g2 rfl _) rfl rfl hl.1 rfl (lv_room (Nat.le_of_ble_eq_true rfl)) dX0_met_35 ⟨show cc + (h3.1 - h.1) ≤ u9.1 - u.1 by omega, show ss + (h3.2.1 - h.2.1) ≤ u9.2.1 - u.2.1 by omega⟩) (fun H locs hw => ?_)
      exact hB38 h3 r4 _ _ _ _ _ hm hw (by omega) (by omega) (lv_sub hl [] rfl)
    · have hm := ifF hm c1
      refine lv_iload hx hb dX0_met_20 (lv_at hl 0 rfl) ?_
      refine lv_goto (tgt := 47) hx hb dX0_met_22 (by decide) ?_
      exact hB47 h y0 _ _ _ _ _ hm hw (by omega) (by omega) (lv_sub hl [] rfl)
  rw [m_X0_met] at hm
  refine lv_aload_n hx hb dX0_met_0 rfl (lv_at hl 0 rfl) ?_
  refine lv_iload_n hx hb dX0_met_1 rfl (lv_at hl 1 rfl) ?_
  refine lv_iload_n hx hb dX0_met_2 rfl (lv_at hl 2 rfl) ?_
  refine lv_iload_n hx hb dX0_met_3 rfl (lv_at hl 3 rfl) ?_
  refine lv_iload hx hb dX0_met_4 (lv_at hl 4 rfl) ?_
  refine lv_iload hx hb dX0_met_6 (lv_at hl 5 rfl) ?_
  refine lv_iload hx hb dX0_met_8 (lv_at hl 6 rfl) ?_
  obtain ⟨g1, hm⟩ := gdE hm
  obtain ⟨r3, h2, er3, hm⟩ := bd2E hm
  have lh2 := mo_X0_asksPoint er3
  have ph2 : u.1 ≤ h2.1 := lh2.1
  have qh2 : u.2.1 ≤ h2.2.1 := lh2.2.1
  have hmo := mo_X0_met_13   h2 x0 x1 x2 x3 x4 x5 x6 r3 _ hm
  have sh2 : h2.1 ≤ u9.1 := hmo.1
  have th2 : h2.2.1 ≤ u9.2.1 := hmo.2.1
  refine cg_calli hw lh2 (va_runV (As := [.int x1, .int x2, .int x3, .int x4, .int x5, .int x6]) (rest := []) ⟨hx, hb, hml, hown, hts⟩ (w_X0_asksPoint l er3) (cw_X0_asksPoint hts q1200 ⟨Nat.le_of_ble_eq_true rfl, Nat.le_of_ble_eq_true rfl⟩) (cg_preV C hw g1 rfl _) rfl rfl hl.1 rfl (lv_room (Nat.le_of_ble_eq_true rfl)) dX0_met_10 ⟨show cc + (h2.1 - u.1) ≤ u9.1 - u.1 by omega, show ss + (h2.2.1 - u.2.1) ≤ u9.2.1 - u.2.1 by omega⟩) (fun H locs hw => ?_)
  exact hB13 h2 x0 x1 x2 x3 x4 x5 x6 r3 _ _ _ _ _ hm hw (by omega) (by omega) (lv_sub hl [0, 1, 2, 3, 4, 5, 6] rfl)
def m_X0_order_38 (f : Nat) (h : CH) (y0 : Int32) : Option (Int32 × CH) := some (y0, h)
theorem mo_X0_order_38 {f : Nat} : ∀ (h : CH) (y0 : Int32) (r : (Int32 × CH)), m_X0_order_38 f h y0 = some r → le2 h r.2 := by
  intro h y0 r hm
  rw [m_X0_order_38] at hm
  cases hm
  exact le2.rf
def m_X0_order_13 (f : Nat) (h : CH) (x0 : Nat) (x1 : Int32) (x2 : Int32) (x3 : Int32) (x4 : Int32) (x5 : Int32) (x6 : Int32) (y0 : Int32) : Option (Int32 × CH) := if 0 ≤ y0 then
    gd (isC h x0 1) <|
    bd2 (m_X0_orderOf f h x0 x1 x2 x3 x4 x5 x6) fun r4 h3 =>
    m_X0_order_38 f h3 r4
    else m_X0_order_38 f h y0
theorem mo_X0_order_13 {f : Nat} : ∀ (h : CH) (x0 : Nat) (x1 : Int32) (x2 : Int32) (x3 : Int32) (x4 : Int32) (x5 : Int32) (x6 : Int32) (y0 : Int32) (r : (Int32 × CH)), m_X0_order_13 f h x0 x1 x2 x3 x4 x5 x6 y0 = some r → le2 h r.2 := by
  intro h x0 x1 x2 x3 x4 x5 x6 y0 r hm
  rw [m_X0_order_13] at hm
  by_cases c1 : 0 ≤ y0
  · have hm := ifT hm c1
    obtain ⟨g2, hm⟩ := gdE hm
    obtain ⟨r4, h3, er4, hm⟩ := bd2E hm
    have lh3 := mo_X0_orderOf er4
    exact (lh3.tr (mo_X0_order_38  h3 r4 _ hm))
  · have hm := ifF hm c1
    exact (mo_X0_order_38  h y0 _ hm)
def m_X0_order (f : Nat) (u : CH) (x0 : Nat) (x1 : Int32) (x2 : Int32) (x3 : Int32) (x4 : Int32) (x5 : Int32) (x6 : Int32) : Option (Int32 × CH) := gd (isC u x0 1) <|
    bd2 (m_X0_asksPoint f u x0 x1 x2 x3 x4 x5 x6) fun r3 h2 =>
    m_X0_order_13 f h2 x0 x1 x2 x3 x4 x5 x6 r3
theorem mo_X0_order {f : Nat} {u : CH} {x0 : Nat} {x1 : Int32} {x2 : Int32} {x3 : Int32} {x4 : Int32} {x5 : Int32} {x6 : Int32} {r0 : Int32} {u9 : CH} (hm : m_X0_order f u x0 x1 x2 x3 x4 x5 x6 = some (r0, u9)) : le2 u u9 := by
  rw [m_X0_order] at hm
  obtain ⟨g1, hm⟩ := gdE hm
  obtain ⟨r3, h2, er3, hm⟩ := bd2E hm
  have lh2 := mo_X0_asksPoint er3
  exact (lh2.tr (mo_X0_order_13  h2 x0 x1 x2 x3 x4 x5 x6 r3 _ hm))
abbrev rm_X0_order (mc ms : Nat) : Room := { frames := 109, cells := mc, slots := ms, locals := 4249 }
theorem cw_X0_order {R : Room} {s : State} {args : Array Value} {own : String} {idx mc ms : Nat} (hts : ∀ w ∈ lw_all, w.before args s = true) (hl : Cond.methodLink own idx yX0_order ∈ lw_all) (hR : 109 + 1 ≤ R.frames ∧ 8 + (8 + 11) + 4249 ≤ R.locals) : CallW R s args own RX0 idx yX0_order cX0_order 8 (Option.some Jvm.ClassFile.FieldType.int) (ws_ yX0_order cX0_order 8 (Option.some Jvm.ClassFile.FieldType.int)) (rm_X0_order mc ms) mc ms 6 := cwV 6 hts (lw_V hl q1210 q1211 q119 q1212) rfl rfl rfl (by decide +kernel) hR
set_option maxHeartbeats 4000000 in
set_option maxRecDepth 100000 in
theorem w_X0_order (l : Launch) {D : va_G} {dA : Nat → ClassId} {A : Nat → Prop} {f : Nat} {u u9 : CH} {r0 : Int32} {x0 : Nat} {x1 : Int32} {x2 : Int32} {x3 : Int32} {x4 : Int32} {x5 : Int32} {x6 : Int32} (hm : m_X0_order f u x0 x1 x2 x3 x4 x5 x6 = some (r0, u9)) : Met l yX0_order (ws_ yX0_order cX0_order 8 (Option.some Jvm.ClassFile.FieldType.int)) (rm_X0_order (u9.1 - u.1) (u9.2.1 - u.2.1)) (va_Pc [.ref x0, .int x1, .int x2, .int x3, .int x4, .int x5, .int x6] (CPre D dA A u)) (va_Qi (fun r u => r = r0 ∧ u = u9) (CPost D dA A) A) (u9.1 - u.1) (u9.2.1 - u.2.1) A := by
  refine Met.ofW (cc := cX0_order) (maxL := 8) (ret := (Option.some Jvm.ClassFile.FieldType.int)) (by decide) rfl ?_
  intro p e s m args below meth c s₁ B hml hv
  have hx := B.exec
  have hb := B.bytes
  have hr := B.returns
  have hts := atoms_spec (ws := (ws_ yX0_order cX0_order 8 (Option.some Jvm.ClassFile.FieldType.int))) B.pre
  have hts : ∀ w ∈ lw_all, w.before args s = true := fun w h => hts w (List.mem_cons_of_mem _ h)
  have hown : s.vm.findClass RX0 = some m.cls := findClass_of_methodNamed B.named
  have hlocks := B.notSynchronized
  obtain ⟨hav, hv⟩ := hv
  have C : CX p s m args c cX0_order RX0 D dA := ⟨hx, hb, hown, hts, hv.2⟩
  have hw : CW D dA A s u s.heap [] := hv.1
  generalize hQ : MQ below (va_Qi (fun r u => r = r0 ∧ u = u9) (CPost D dA A) A) args s (u9.1 - u.1) (u9.2.1 - u.2.1) A = QQ
  have hent := lg_entry_eq m [.ref x0, .int x1, .int x2, .int x3, .int x4, .int x5, .int x6] 8
  rw [← hav] at hent
  rw [hent]
  have hl := lv_entry ([.ref x0, .int x1, .int x2, .int x3, .int x4, .int x5, .int x6]) (n := 8) (Nat.le_of_ble_eq_true rfl)
  generalize (lg_sl ([.ref x0, .int x1, .int x2, .int x3, .int x4, .int x5, .int x6]) ++ List.replicate (8 - (lg_sl ([.ref x0, .int x1, .int x2, .int x3, .int x4, .int x5, .int x6])).length) Slot.unset).toArray = ls at hl ⊢
  have hl : lv_has ls 8 [(0, .ref x0), (1, .int x1), (2, .int x2), (3, .int x3), (4, .int x4), (5, .int x5), (6, .int x6)] := hl
  obtain ⟨cc, ecc⟩ : ∃ z : Nat, z = 0 := ⟨0, rfl⟩
  obtain ⟨ss, ess⟩ : ∃ z : Nat, z = 0 := ⟨0, rfl⟩
  have hcc : cc + u.1 = u.1 := by omega
  have hss : ss + u.2.1 = u.2.1 := by omega
  suffices hgo : W p l e (rm_X0_order (u9.1 - u.1) (u9.2.1 - u.2.1)) s m args below meth c s.heap [] cc ss QQ (F0 m 0 ls []) by rw [ecc, ess] at hgo; exact hgo
  have ⟨pu, qu, _, _⟩ := mo_X0_order hm
  have hB38 : ∀ (h : CH) (y0 : Int32) (cc ss : Nat) (H : Heap) (locs : List Loc) (ls : Array Slot), m_X0_order_38 f h y0 = some (r0, u9) → CW D dA A s h H locs → cc + u.1 = h.1 → ss + u.2.1 = h.2.1 → lv_has ls 8 [] → W p l e (rm_X0_order (u9.1 - u.1) (u9.2.1 - u.2.1)) s m args below meth c H locs cc ss QQ (F0 m 38 ls [.int y0]) := by
    intro h y0 cc ss H locs ls hm hw hcc hss hl
    have hmo := mo_X0_order_38  h y0 _ hm
    have sb_ : h.1 ≤ u9.1 := hmo.1
    have tb_ : h.2.1 ≤ u9.2.1 := hmo.2.1
    rw [m_X0_order_38] at hm
    obtain ⟨er, eh⟩ := retE hm
    have ec : cc = u9.1 - u.1 := by rw [← eh]; omega
    have es : ss = u9.2.1 - u.2.1 := by rw [← eh]; omega
    rw [ec, es, ← hQ]
    exact W.iret (v := y0) hx hb hr (fun t ht hW => ⟨⟨y0, h, rfl, ⟨er, eh⟩, ⟨by rw [ht]; exact hw.1, by rw [ht]; exact hw.2.1⟩⟩, hw.2.2.1.F ht⟩) hw.2.2.1.2.2 dX0_order_38
  have hB13 : ∀ (h : CH) (x0 : Nat) (x1 : Int32) (x2 : Int32) (x3 : Int32) (x4 : Int32) (x5 : Int32) (x6 : Int32) (y0 : Int32) (cc ss : Nat) (H : Heap) (locs : List Loc) (ls : Array Slot), m_X0_order_13 f h x0 x1 x2 x3 x4 x5 x6 y0 = some (r0, u9) → CW D dA A s h H locs → cc + u.1 = h.1 → ss + u.2.1 = h.2.1 → lv_has ls 8 [(0, .ref x0), (1, .int x1), (2, .int x2), (3, .int x3), (4, .int x4), (5, .int x5), (6, .int x6)] → W p l e (rm_X0_order (u9.1 - u.1) (u9.2.1 - u.2.1)) s m args below meth c H locs cc ss QQ (F0 m 13 ls [.int y0]) := by
    intro h x0 x1 x2 x3 x4 x5 x6 y0 cc ss H locs ls hm hw hcc hss hl
    have hmo := mo_X0_order_13  h x0 x1 x2 x3 x4 x5 x6 y0 _ hm
    have sb_ : h.1 ≤ u9.1 := hmo.1
    have tb_ : h.2.1 ≤ u9.2.1 := hmo.2.1
    rw [m_X0_order_13] at hm
    refine lv_istore (lv' := [(7, .int y0), (0, .ref x0), (1, .int x1), (2, .int x2), (3, .int x3), (4, .int x4), (5, .int x5), (6, .int x6)]) hx hb dX0_order_13 hl (by decide) rfl (fun ls hl => ?_)
    refine lv_iload hx hb dX0_order_15 (lv_at hl 0 rfl) ?_
    refine lv_if_ge (tgt := 25) hx hb dX0_order_17 (by decide) (fun c1 => ?_) (fun c1 => ?_)
    · have hm := ifT hm c1
      refine lv_aload_n hx hb dX0_order_25 rfl (lv_at hl 1 rfl) ?_
      refine lv_iload_n hx hb dX0_order_26 rfl (lv_at hl 2 rfl) ?_
      refine lv_iload_n hx hb dX0_order_27 rfl (lv_at hl 3 rfl) ?_
      refine lv_iload_n hx hb dX0_order_28 rfl (lv_at hl 4 rfl) ?_
      refine lv_iload hx hb dX0_order_29 (lv_at hl 5 rfl) ?_
      refine lv_iload hx hb dX0_order_31 (lv_at hl 6 rfl) ?_
      refine lv_iload hx hb dX0_order_33 (lv_at hl 7 rfl) ?_
      obtain ⟨g2, hm⟩ := gdE hm
      obtain ⟨r4, h3, er4, hm⟩ := bd2E hm
      have lh3 := mo_X0_orderOf er4
      have ph3 : h.1 ≤ h3.1 := lh3.1
      have qh3 : h.2.1 ≤ h3.2.1 := lh3.2.1
      have hmo := mo_X0_order_38   h3 r4 _ hm
      have sh3 : h3.1 ≤ u9.1 := hmo.1
      have th3 : h3.2.1 ≤ u9.2.1 := hmo.2.1
      refine cg_calli hw lh3 (va_runV (As := [.int x1, .int x2, .int x3, .int x4, .int x5, .int x6]) (rest := []) ⟨hx, hb, hml, hown, hts⟩ (w_X0_orderOf l er4) (cw_X0_orderOf hts q1205 ⟨Nat.le_of_ble_eq_true rfl, Nat.le_of_ble_eq_true rfl⟩) (cg_preV C hw g2 rfl _) rfl rfl hl.1 rfl (lv_room (Nat.le_of_ble_eq_true rfl)) dX0_order_35 ⟨show cc + (h3.1 - h.1) ≤ u9.1 - u.1 by omega, show ss + (h3.2.1 - h.2.1) ≤ u9.2.1 - u.2.1 by omega⟩) (fun H locs hw => ?_)
      exact hB38 h3 r4 _ _ _ _ _ hm hw (by omega) (by omega) (lv_sub hl [] rfl)
    · have hm := ifF hm c1
      refine lv_iload hx hb dX0_order_20 (lv_at hl 0 rfl) ?_
      refine lv_goto (tgt := 38) hx hb dX0_order_22 (by decide) ?_
      exact hB38 h y0 _ _ _ _ _ hm hw (by omega) (by omega) (lv_sub hl [] rfl)
  rw [m_X0_order] at hm
  refine lv_aload_n hx hb dX0_order_0 rfl (lv_at hl 0 rfl) ?_
  refine lv_iload_n hx hb dX0_order_1 rfl (lv_at hl 1 rfl) ?_
  refine lv_iload_n hx hb dX0_order_2 rfl (lv_at hl 2 rfl) ?_
  refine lv_iload_n hx hb dX0_order_3 rfl (lv_at hl 3 rfl) ?_
  refine lv_iload hx hb dX0_order_4 (lv_at hl 4 rfl) ?_
  refine lv_iload hx hb dX0_order_6 (lv_at hl 5 rfl) ?_
  refine lv_iload hx hb dX0_order_8 (lv_at hl 6 rfl) ?_
  obtain ⟨g1, hm⟩ := gdE hm
  obtain ⟨r3, h2, er3, hm⟩ := bd2E hm
  have lh2 := mo_X0_asksPoint er3
  have ph2 : u.1 ≤ h2.1 := lh2.1
  have qh2 : u.2.1 ≤ h2.2.1 := lh2.2.1
  have hmo := mo_X0_order_13   h2 x0 x1 x2 x3 x4 x5 x6 r3 _ hm
  have sh2 : h2.1 ≤ u9.1 := hmo.1
  have th2 : h2.2.1 ≤ u9.2.1 := hmo.2.1
  refine cg_calli hw lh2 (va_runV (As := [.int x1, .int x2, .int x3, .int x4, .int x5, .int x6]) (rest := []) ⟨hx, hb, hml, hown, hts⟩ (w_X0_asksPoint l er3) (cw_X0_asksPoint hts q1200 ⟨Nat.le_of_ble_eq_true rfl, Nat.le_of_ble_eq_true rfl⟩) (cg_preV C hw g1 rfl _) rfl rfl hl.1 rfl (lv_room (Nat.le_of_ble_eq_true rfl)) dX0_order_10 ⟨show cc + (h2.1 - u.1) ≤ u9.1 - u.1 by omega, show ss + (h2.2.1 - u.2.1) ≤ u9.2.1 - u.2.1 by omega⟩) (fun H locs hw => ?_)
  exact hB13 h2 x0 x1 x2 x3 x4 x5 x6 r3 _ _ _ _ _ hm hw (by omega) (by omega) (lv_sub hl [0, 1, 2, 3, 4, 5, 6] rfl)
def m_X2_square (f : Nat) (u : CH) (x0 : Nat) (x1 : Int32) : Option (Int64 × CH) := bd (oR u 3 0 x0) fun a1 =>
    bd (aR u 4 a1 x1) fun a2 =>
    bd (aL u 1 a2 (0 : Int32)) fun v3 =>
    bd (oR u 3 0 x0) fun a4 =>
    bd (aR u 4 a4 x1) fun a5 =>
    bd (aL u 1 a5 (0 : Int32)) fun v6 =>
    bd (oR u 3 0 x0) fun a7 =>
    bd (aR u 4 a7 x1) fun a8 =>
    bd (aL u 1 a8 (1 : Int32)) fun v9 =>
    bd (oR u 3 0 x0) fun a10 =>
    bd (aR u 4 a10 x1) fun a11 =>
    bd (aL u 1 a11 (1 : Int32)) fun v12 =>
    bd (oR u 3 0 x0) fun a13 =>
    bd (aR u 4 a13 x1) fun a14 =>
    bd (aL u 1 a14 (2 : Int32)) fun v15 =>
    bd (oR u 3 0 x0) fun a16 =>
    bd (aR u 4 a16 x1) fun a17 =>
    bd (aL u 1 a17 (2 : Int32)) fun v18 =>
    some ((((v3 * v6) + (v9 * v12)) + (v15 * v18)), u)
theorem mo_X2_square {f : Nat} {u : CH} {x0 : Nat} {x1 : Int32} {r0 : Int64} {u9 : CH} (hm : m_X2_square f u x0 x1 = some (r0, u9)) : le2 u u9 := by
  rw [m_X2_square] at hm
  obtain ⟨a1, ea1, hm⟩ := bdE hm
  obtain ⟨a2, ea2, hm⟩ := bdE hm
  obtain ⟨v3, ev3, hm⟩ := bdE hm
  obtain ⟨a4, ea4, hm⟩ := bdE hm
  obtain ⟨a5, ea5, hm⟩ := bdE hm
  obtain ⟨v6, ev6, hm⟩ := bdE hm
  obtain ⟨a7, ea7, hm⟩ := bdE hm
  obtain ⟨a8, ea8, hm⟩ := bdE hm
  obtain ⟨v9, ev9, hm⟩ := bdE hm
  obtain ⟨a10, ea10, hm⟩ := bdE hm
  obtain ⟨a11, ea11, hm⟩ := bdE hm
  obtain ⟨v12, ev12, hm⟩ := bdE hm
  obtain ⟨a13, ea13, hm⟩ := bdE hm
  obtain ⟨a14, ea14, hm⟩ := bdE hm
  obtain ⟨v15, ev15, hm⟩ := bdE hm
  obtain ⟨a16, ea16, hm⟩ := bdE hm
  obtain ⟨a17, ea17, hm⟩ := bdE hm
  obtain ⟨v18, ev18, hm⟩ := bdE hm
  cases hm
  exact le2.rf
abbrev rm_X2_square (mc ms : Nat) : Room := { frames := 0, cells := mc, slots := ms, locals := 0 }
theorem cw_X2_square {R : Room} {s : State} {args : Array Value} {own : String} {idx mc ms : Nat} (hts : ∀ w ∈ lw_all, w.before args s = true) (hl : Cond.methodLink own idx yX2_square ∈ lw_all) (hR : 0 + 1 ≤ R.frames ∧ 8 + (2 + 11) + 0 ≤ R.locals) : CallW R s args own RX2 idx yX2_square cX2_square 2 (Option.some Jvm.ClassFile.FieldType.long) (ws_ yX2_square cX2_square 2 (Option.some Jvm.ClassFile.FieldType.long)) (rm_X2_square mc ms) mc ms 1 := cwV 1 hts (lw_V hl q1237 q1238 q124 q1239) rfl rfl rfl (by decide +kernel) hR
set_option maxHeartbeats 4000000 in
set_option maxRecDepth 100000 in
theorem w_X2_square (l : Launch) {D : va_G} {dA : Nat → ClassId} {A : Nat → Prop} {f : Nat} {u u9 : CH} {r0 : Int64} {x0 : Nat} {x1 : Int32} (hm : m_X2_square f u x0 x1 = some (r0, u9)) : Met l yX2_square (ws_ yX2_square cX2_square 2 (Option.some Jvm.ClassFile.FieldType.long)) (rm_X2_square (u9.1 - u.1) (u9.2.1 - u.2.1)) (va_Pc [.ref x0, .int x1] (CPre D dA A u)) (va_Ql (fun r u => r = r0 ∧ u = u9) (CPost D dA A) A) (u9.1 - u.1) (u9.2.1 - u.2.1) A := by
  refine Met.ofW (cc := cX2_square) (maxL := 2) (ret := (Option.some Jvm.ClassFile.FieldType.long)) (by decide) rfl ?_
  intro p e s m args below meth c s₁ B hml hv
  have hx := B.exec
  have hb := B.bytes
  have hr := B.returns
  have hts := atoms_spec (ws := (ws_ yX2_square cX2_square 2 (Option.some Jvm.ClassFile.FieldType.long))) B.pre
  have hts : ∀ w ∈ lw_all, w.before args s = true := fun w h => hts w (List.mem_cons_of_mem _ h)
  have hown : s.vm.findClass RX2 = some m.cls := findClass_of_methodNamed B.named
  have hlocks := B.notSynchronized
  obtain ⟨hav, hv⟩ := hv
  have C : CX p s m args c cX2_square RX2 D dA := ⟨hx, hb, hown, hts, hv.2⟩
  have hw : CW D dA A s u s.heap [] := hv.1
  generalize hQ : MQ below (va_Ql (fun r u => r = r0 ∧ u = u9) (CPost D dA A) A) args s (u9.1 - u.1) (u9.2.1 - u.2.1) A = QQ
  have hent := lg_entry_eq m [.ref x0, .int x1] 2
  rw [← hav] at hent
  rw [hent]
  have hl := lv_entry ([.ref x0, .int x1]) (n := 2) (Nat.le_of_ble_eq_true rfl)
  generalize (lg_sl ([.ref x0, .int x1]) ++ List.replicate (2 - (lg_sl ([.ref x0, .int x1])).length) Slot.unset).toArray = ls at hl ⊢
  have hl : lv_has ls 2 [(0, .ref x0), (1, .int x1)] := hl
  obtain ⟨cc, ecc⟩ : ∃ z : Nat, z = 0 := ⟨0, rfl⟩
  obtain ⟨ss, ess⟩ : ∃ z : Nat, z = 0 := ⟨0, rfl⟩
  have hcc : cc + u.1 = u.1 := by omega
  have hss : ss + u.2.1 = u.2.1 := by omega
  suffices hgo : W p l e (rm_X2_square (u9.1 - u.1) (u9.2.1 - u.2.1)) s m args below meth c s.heap [] cc ss QQ (F0 m 0 ls []) by rw [ecc, ess] at hgo; exact hgo
  have ⟨pu, qu, _, _⟩ := mo_X2_square hm
  rw [m_X2_square] at hm
  refine lv_aload_n hx hb dX2_square_0 rfl (lv_at hl 0 rfl) ?_
  obtain ⟨a1, ea1, hm⟩ := bdE hm
  refine cg_get C hw (oR_E ea1) rfl in_X2 (by decide) q205 dX2_square_1 ?_
  refine lv_iload_n hx hb dX2_square_4 rfl (lv_at hl 1 rfl) ?_
  obtain ⟨a2, ea2, hm⟩ := bdE hm
  refine cg_aaldA C hw (ty := .array .long) rfl rfl (aR_E ea2) dX2_square_5 ?_
  refine lv_iconst (v := 0) hx hb dX2_square_6 (by decide) ?_
  obtain ⟨v3, ev3, hm⟩ := bdE hm
  refine cg_lald C hw ev3 dX2_square_7 ?_
  refine lv_aload_n hx hb dX2_square_8 rfl (lv_at hl 0 rfl) ?_
  obtain ⟨a4, ea4, hm⟩ := bdE hm
  refine cg_get C hw (oR_E ea4) rfl in_X2 (by decide) q205 dX2_square_9 ?_
  refine lv_iload_n hx hb dX2_square_12 rfl (lv_at hl 1 rfl) ?_
  obtain ⟨a5, ea5, hm⟩ := bdE hm
  refine cg_aaldA C hw (ty := .array .long) rfl rfl (aR_E ea5) dX2_square_13 ?_
  refine lv_iconst (v := 0) hx hb dX2_square_14 (by decide) ?_
  obtain ⟨v6, ev6, hm⟩ := bdE hm
  refine cg_lald C hw ev6 dX2_square_15 ?_
  refine lv_lmul hx hb dX2_square_16 ?_
  refine lv_aload_n hx hb dX2_square_17 rfl (lv_at hl 0 rfl) ?_
  obtain ⟨a7, ea7, hm⟩ := bdE hm
  refine cg_get C hw (oR_E ea7) rfl in_X2 (by decide) q205 dX2_square_18 ?_
  refine lv_iload_n hx hb dX2_square_21 rfl (lv_at hl 1 rfl) ?_
  obtain ⟨a8, ea8, hm⟩ := bdE hm
  refine cg_aaldA C hw (ty := .array .long) rfl rfl (aR_E ea8) dX2_square_22 ?_
  refine lv_iconst (v := 1) hx hb dX2_square_23 (by decide) ?_
  obtain ⟨v9, ev9, hm⟩ := bdE hm
  refine cg_lald C hw ev9 dX2_square_24 ?_
  refine lv_aload_n hx hb dX2_square_25 rfl (lv_at hl 0 rfl) ?_
  obtain ⟨a10, ea10, hm⟩ := bdE hm
  refine cg_get C hw (oR_E ea10) rfl in_X2 (by decide) q205 dX2_square_26 ?_
  refine lv_iload_n hx hb dX2_square_29 rfl (lv_at hl 1 rfl) ?_
  obtain ⟨a11, ea11, hm⟩ := bdE hm
  refine cg_aaldA C hw (ty := .array .long) rfl rfl (aR_E ea11) dX2_square_30 ?_
  refine lv_iconst (v := 1) hx hb dX2_square_31 (by decide) ?_
  obtain ⟨v12, ev12, hm⟩ := bdE hm
  refine cg_lald C hw ev12 dX2_square_32 ?_
  refine lv_lmul hx hb dX2_square_33 ?_
  refine lv_ladd hx hb dX2_square_34 ?_
  refine lv_aload_n hx hb dX2_square_35 rfl (lv_at hl 0 rfl) ?_
  obtain ⟨a13, ea13, hm⟩ := bdE hm
  refine cg_get C hw (oR_E ea13) rfl in_X2 (by decide) q205 dX2_square_36 ?_
  refine lv_iload_n hx hb dX2_square_39 rfl (lv_at hl 1 rfl) ?_
  obtain ⟨a14, ea14, hm⟩ := bdE hm
  refine cg_aaldA C hw (ty := .array .long) rfl rfl (aR_E ea14) dX2_square_40 ?_
  refine lv_iconst (v := 2) hx hb dX2_square_41 (by decide) ?_
  obtain ⟨v15, ev15, hm⟩ := bdE hm
  refine cg_lald C hw ev15 dX2_square_42 ?_
  refine lv_aload_n hx hb dX2_square_43 rfl (lv_at hl 0 rfl) ?_
  obtain ⟨a16, ea16, hm⟩ := bdE hm
  refine cg_get C hw (oR_E ea16) rfl in_X2 (by decide) q205 dX2_square_44 ?_
  refine lv_iload_n hx hb dX2_square_47 rfl (lv_at hl 1 rfl) ?_
  obtain ⟨a17, ea17, hm⟩ := bdE hm
  refine cg_aaldA C hw (ty := .array .long) rfl rfl (aR_E ea17) dX2_square_48 ?_
  refine lv_iconst (v := 2) hx hb dX2_square_49 (by decide) ?_
  obtain ⟨v18, ev18, hm⟩ := bdE hm
  refine cg_lald C hw ev18 dX2_square_50 ?_
  refine lv_lmul hx hb dX2_square_51 ?_
  refine lv_ladd hx hb dX2_square_52 ?_
  obtain ⟨er, eh⟩ := retE hm
  have ec : cc = u9.1 - u.1 := by rw [← eh]; omega
  have es : ss = u9.2.1 - u.2.1 := by rw [← eh]; omega
  rw [ec, es, ← hQ]
  exact W.lret (v := (((v3 * v6) + (v9 * v12)) + (v15 * v18))) hx hb hr (fun t ht hW => ⟨⟨(((v3 * v6) + (v9 * v12)) + (v15 * v18)), u, rfl, ⟨er, eh⟩, ⟨by rw [ht]; exact hw.1, by rw [ht]; exact hw.2.1⟩⟩, hw.2.2.1.F ht⟩) hw.2.2.1.2.2 dX2_square_53
def m_X11_isAhead_116 (f : Nat) (h : CH) : Option (Int32 × CH) := some ((0 : Int32), h)
theorem mo_X11_isAhead_116 {f : Nat} : ∀ (h : CH) (r : (Int32 × CH)), m_X11_isAhead_116 f h = some r → le2 h r.2 := by
  intro h r hm
  rw [m_X11_isAhead_116] at hm
  cases hm
  exact le2.rf
def m_X11_isAhead_109 (f : Nat) (h : CH) (y0 : Int32) : Option (Int32 × CH) := gd (zb y0) <|
    some (y0, h)
theorem mo_X11_isAhead_109 {f : Nat} : ∀ (h : CH) (y0 : Int32) (r : (Int32 × CH)), m_X11_isAhead_109 f h y0 = some r → le2 h r.2 := by
  intro h y0 r hm
  rw [m_X11_isAhead_109] at hm
  obtain ⟨g1, hm⟩ := gdE hm
  cases hm
  exact le2.rf
def m_X11_isAhead_76 (f : Nat) (h : CH) (x0 : Nat) (x1 : Int32) (x2 : Int32) (x7 : Int32) : Option (Int32 × CH) := bd (oR h 11 0 x0) fun a1 =>
    bd (oR h 3 0 a1) fun a2 =>
    bd (aR h 4 a2 x1) fun a3 =>
    bd (aL h 1 a3 x7) fun v4 =>
    bd (oR h 11 0 x0) fun a5 =>
    bd (oR h 3 0 a5) fun a6 =>
    bd (aR h 4 a6 x2) fun a7 =>
    bd (aL h 1 a7 x7) fun v8 =>
    if v8 ≤ v4 then
    m_X11_isAhead_109 f h (0 : Int32)
    else m_X11_isAhead_109 f h (1 : Int32)
theorem mo_X11_isAhead_76 {f : Nat} : ∀ (h : CH) (x0 : Nat) (x1 : Int32) (x2 : Int32) (x7 : Int32) (r : (Int32 × CH)), m_X11_isAhead_76 f h x0 x1 x2 x7 = some r → le2 h r.2 := by
  intro h x0 x1 x2 x7 r hm
  rw [m_X11_isAhead_76] at hm
  obtain ⟨a1, ea1, hm⟩ := bdE hm
  obtain ⟨a2, ea2, hm⟩ := bdE hm
  obtain ⟨a3, ea3, hm⟩ := bdE hm
  obtain ⟨v4, ev4, hm⟩ := bdE hm
  obtain ⟨a5, ea5, hm⟩ := bdE hm
  obtain ⟨a6, ea6, hm⟩ := bdE hm
  obtain ⟨a7, ea7, hm⟩ := bdE hm
  obtain ⟨v8, ev8, hm⟩ := bdE hm
  by_cases c9 : v8 ≤ v4
  · have hm := ifT hm c9
    exact (mo_X11_isAhead_109  h (0 : Int32) _ hm)
  · have hm := ifF hm c9
    exact (mo_X11_isAhead_109  h (1 : Int32) _ hm)
def m_X11_isAhead_42 (f : Nat) : Nat → CH → Nat → Int32 → Int32 → Int32 → Option (Int32 × CH)
  | 0, _, _, _, _, _ => none
  | n42 + 1, h, x0, x1, x2, x7 => if (3 : Int32) ≤ x7 then
    m_X11_isAhead_116 f h
    else bd (oR h 11 0 x0) fun a2 =>
    bd (oR h 3 0 a2) fun a3 =>
    bd (aR h 4 a3 x1) fun a4 =>
    bd (aL h 1 a4 x7) fun v5 =>
    bd (oR h 11 0 x0) fun a6 =>
    bd (oR h 3 0 a6) fun a7 =>
    bd (aR h 4 a7 x2) fun a8 =>
    bd (aL h 1 a8 x7) fun v9 =>
    if v5 = v9 then
    nmv ((x7 + 1) : Int32) fun v11 =>
    m_X11_isAhead_42 f n42 h x0 x1 x2 v11
    else m_X11_isAhead_76 f h x0 x1 x2 x7
theorem mo_X11_isAhead_42 {f : Nat} : ∀ (n42 : Nat) (h : CH) (x0 : Nat) (x1 : Int32) (x2 : Int32) (x7 : Int32) (r : (Int32 × CH)), m_X11_isAhead_42 f n42 h x0 x1 x2 x7 = some r → le2 h r.2 := by
  intro n42
  induction n42 with
  | zero => intro h x0 x1 x2 x7 r hm; rw [m_X11_isAhead_42] at hm; exact noE hm
  | succ n42 ihm =>
    intro h x0 x1 x2 x7 r hm
    rw [m_X11_isAhead_42] at hm
    by_cases c1 : (3 : Int32) ≤ x7
    · have hm := ifT hm c1
      exact (mo_X11_isAhead_116  h _ hm)
    · have hm := ifF hm c1
      obtain ⟨a2, ea2, hm⟩ := bdE hm
      obtain ⟨a3, ea3, hm⟩ := bdE hm
      obtain ⟨a4, ea4, hm⟩ := bdE hm
      obtain ⟨v5, ev5, hm⟩ := bdE hm
      obtain ⟨a6, ea6, hm⟩ := bdE hm
      obtain ⟨a7, ea7, hm⟩ := bdE hm
      obtain ⟨a8, ea8, hm⟩ := bdE hm
      obtain ⟨v9, ev9, hm⟩ := bdE hm
      by_cases c10 : v5 = v9
      · have hm := ifT hm c10
        obtain ⟨v11, ev11, hm⟩ := nmE hm
        exact (ihm h x0 x1 x2 v11 _ hm)
      · have hm := ifF hm c10
        exact (mo_X11_isAhead_76  h x0 x1 x2 x7 _ hm)
def m_X11_isAhead_38 (f : Nat) (h : CH) (y0 : Int32) : Option (Int32 × CH) := gd (zb y0) <|
    some (y0, h)
theorem mo_X11_isAhead_38 {f : Nat} : ∀ (h : CH) (y0 : Int32) (r : (Int32 × CH)), m_X11_isAhead_38 f h y0 = some r → le2 h r.2 := by
  intro h y0 r hm
  rw [m_X11_isAhead_38] at hm
  obtain ⟨g1, hm⟩ := gdE hm
  cases hm
  exact le2.rf
def m_X11_isAhead_17 (f : Nat) (h : CH) (x0 : Nat) (x1 : Int32) (x2 : Int32) (x3 : Int64) (y0 : Int64) : Option (Int32 × CH) := if x3 = y0 then
    m_X11_isAhead_42 f f h x0 x1 x2 (0 : Int32)
    else if y0 ≤ x3 then
    m_X11_isAhead_38 f h (0 : Int32)
    else m_X11_isAhead_38 f h (1 : Int32)
theorem mo_X11_isAhead_17 {f : Nat} : ∀ (h : CH) (x0 : Nat) (x1 : Int32) (x2 : Int32) (x3 : Int64) (y0 : Int64) (r : (Int32 × CH)), m_X11_isAhead_17 f h x0 x1 x2 x3 y0 = some r → le2 h r.2 := by
  intro h x0 x1 x2 x3 y0 r hm
  rw [m_X11_isAhead_17] at hm
  by_cases c1 : x3 = y0
  · have hm := ifT hm c1
    exact (mo_X11_isAhead_42  f h x0 x1 x2 (0 : Int32) _ hm)
  · have hm := ifF hm c1
    by_cases c2 : y0 ≤ x3
    · have hm := ifT hm c2
      exact (mo_X11_isAhead_38  h (0 : Int32) _ hm)
    · have hm := ifF hm c2
      exact (mo_X11_isAhead_38  h (1 : Int32) _ hm)
def m_X11_isAhead_8 (f : Nat) (h : CH) (x0 : Nat) (x1 : Int32) (x2 : Int32) (y0 : Int64) : Option (Int32 × CH) := bd (oR h 11 0 x0) fun a1 =>
    gd (isC h a1 3) <|
    bd2 (m_X2_square f h a1 x2) fun r4 h3 =>
    m_X11_isAhead_17 f h3 x0 x1 x2 y0 r4
theorem mo_X11_isAhead_8 {f : Nat} : ∀ (h : CH) (x0 : Nat) (x1 : Int32) (x2 : Int32) (y0 : Int64) (r : (Int32 × CH)), m_X11_isAhead_8 f h x0 x1 x2 y0 = some r → le2 h r.2 := by
  intro h x0 x1 x2 y0 r hm
  rw [m_X11_isAhead_8] at hm
  obtain ⟨a1, ea1, hm⟩ := bdE hm
  obtain ⟨g2, hm⟩ := gdE hm
  obtain ⟨r4, h3, er4, hm⟩ := bd2E hm
  have lh3 := mo_X2_square er4
  exact (lh3.tr (mo_X11_isAhead_17  h3 x0 x1 x2 y0 r4 _ hm))
def m_X11_isAhead (f : Nat) (u : CH) (x0 : Nat) (x1 : Int32) (x2 : Int32) : Option (Int32 × CH) := bd (oR u 11 0 x0) fun a1 =>
    gd (isC u a1 3) <|
    bd2 (m_X2_square f u a1 x1) fun r4 h3 =>
    m_X11_isAhead_8 f h3 x0 x1 x2 r4
theorem mo_X11_isAhead {f : Nat} {u : CH} {x0 : Nat} {x1 : Int32} {x2 : Int32} {r0 : Int32} {u9 : CH} (hm : m_X11_isAhead f u x0 x1 x2 = some (r0, u9)) : le2 u u9 := by
  rw [m_X11_isAhead] at hm
  obtain ⟨a1, ea1, hm⟩ := bdE hm
  obtain ⟨g2, hm⟩ := gdE hm
  obtain ⟨r4, h3, er4, hm⟩ := bd2E hm
  have lh3 := mo_X2_square er4
  exact (lh3.tr (mo_X11_isAhead_8  h3 x0 x1 x2 r4 _ hm))
abbrev rm_X11_isAhead (mc ms : Nat) : Room := { frames := 1, cells := mc, slots := ms, locals := 21 }
theorem cw_X11_isAhead {R : Room} {s : State} {args : Array Value} {own : String} {idx mc ms : Nat} (hts : ∀ w ∈ lw_all, w.before args s = true) (hl : Cond.methodLink own idx yX11_isAhead ∈ lw_all) (hR : 1 + 1 ≤ R.frames ∧ 8 + (8 + 11) + 21 ≤ R.locals) : CallW R s args own RX11 idx yX11_isAhead cX11_isAhead 8 (Option.some Jvm.ClassFile.FieldType.boolean) (ws_ yX11_isAhead cX11_isAhead 8 (Option.some Jvm.ClassFile.FieldType.boolean)) (rm_X11_isAhead mc ms) mc ms 2 := cwV 2 hts (lw_V hl q1234 qs36 q148 q1235) rfl rfl rfl (by decide +kernel) hR
set_option maxHeartbeats 4000000 in
set_option maxRecDepth 100000 in
theorem w_X11_isAhead (l : Launch) {D : va_G} {dA : Nat → ClassId} {A : Nat → Prop} {f : Nat} {u u9 : CH} {r0 : Int32} {x0 : Nat} {x1 : Int32} {x2 : Int32} (hm : m_X11_isAhead f u x0 x1 x2 = some (r0, u9)) : Met l yX11_isAhead (ws_ yX11_isAhead cX11_isAhead 8 (Option.some Jvm.ClassFile.FieldType.boolean)) (rm_X11_isAhead (u9.1 - u.1) (u9.2.1 - u.2.1)) (va_Pc [.ref x0, .int x1, .int x2] (CPre D dA A u)) (va_Qi (fun r u => r = r0 ∧ u = u9) (CPost D dA A) A) (u9.1 - u.1) (u9.2.1 - u.2.1) A := by
  refine Met.ofW (cc := cX11_isAhead) (maxL := 8) (ret := (Option.some Jvm.ClassFile.FieldType.boolean)) (by decide) rfl ?_
  intro p e s m args below meth c s₁ B hml hv
  have hx := B.exec
  have hb := B.bytes
  have hr := B.returns
  have hts := atoms_spec (ws := (ws_ yX11_isAhead cX11_isAhead 8 (Option.some Jvm.ClassFile.FieldType.boolean))) B.pre
  have hts : ∀ w ∈ lw_all, w.before args s = true := fun w h => hts w (List.mem_cons_of_mem _ h)
  have hown : s.vm.findClass RX11 = some m.cls := findClass_of_methodNamed B.named
  have hlocks := B.notSynchronized
  obtain ⟨hav, hv⟩ := hv
  have C : CX p s m args c cX11_isAhead RX11 D dA := ⟨hx, hb, hown, hts, hv.2⟩
  have hw : CW D dA A s u s.heap [] := hv.1
  generalize hQ : MQ below (va_Qi (fun r u => r = r0 ∧ u = u9) (CPost D dA A) A) args s (u9.1 - u.1) (u9.2.1 - u.2.1) A = QQ
  have hent := lg_entry_eq m [.ref x0, .int x1, .int x2] 8
  rw [← hav] at hent
  rw [hent]
  have hl := lv_entry ([.ref x0, .int x1, .int x2]) (n := 8) (Nat.le_of_ble_eq_true rfl)
  generalize (lg_sl ([.ref x0, .int x1, .int x2]) ++ List.replicate (8 - (lg_sl ([.ref x0, .int x1, .int x2])).length) Slot.unset).toArray = ls at hl ⊢
  have hl : lv_has ls 8 [(0, .ref x0), (1, .int x1), (2, .int x2)] := hl
  obtain ⟨cc, ecc⟩ : ∃ z : Nat, z = 0 := ⟨0, rfl⟩
  obtain ⟨ss, ess⟩ : ∃ z : Nat, z = 0 := ⟨0, rfl⟩
  have hcc : cc + u.1 = u.1 := by omega
  have hss : ss + u.2.1 = u.2.1 := by omega
  suffices hgo : W p l e (rm_X11_isAhead (u9.1 - u.1) (u9.2.1 - u.2.1)) s m args below meth c s.heap [] cc ss QQ (F0 m 0 ls []) by rw [ecc, ess] at hgo; exact hgo
  have ⟨pu, qu, _, _⟩ := mo_X11_isAhead hm
  have hB116 : ∀ (h : CH) (cc ss : Nat) (H : Heap) (locs : List Loc) (ls : Array Slot), m_X11_isAhead_116 f h = some (r0, u9) → CW D dA A s h H locs → cc + u.1 = h.1 → ss + u.2.1 = h.2.1 → lv_has ls 8 [] → W p l e (rm_X11_isAhead (u9.1 - u.1) (u9.2.1 - u.2.1)) s m args below meth c H locs cc ss QQ (F0 m 116 ls []) := by
    intro h cc ss H locs ls hm hw hcc hss hl
    have hmo := mo_X11_isAhead_116  h _ hm
    have sb_ : h.1 ≤ u9.1 := hmo.1
    have tb_ : h.2.1 ≤ u9.2.1 := hmo.2.1
    rw [m_X11_isAhead_116] at hm
    refine lv_iconst (v := 0) hx hb dX11_isAhead_116 (by decide) ?_
    obtain ⟨er, eh⟩ := retE hm
    have ec : cc = u9.1 - u.1 := by rw [← eh]; omega
    have es : ss = u9.2.1 - u.2.1 := by rw [← eh]; omega
    rw [ec, es, ← hQ]
    exact W.zret (v := (0 : Int32)) hx hb hr rfl (fun t ht hW => ⟨⟨(0 : Int32), h, rfl, ⟨er, eh⟩, ⟨by rw [ht]; exact hw.1, by rw [ht]; exact hw.2.1⟩⟩, hw.2.2.1.F ht⟩) hw.2.2.1.2.2 dX11_isAhead_117
  have hB109 : ∀ (h : CH) (y0 : Int32) (cc ss : Nat) (H : Heap) (locs : List Loc) (ls : Array Slot), m_X11_isAhead_109 f h y0 = some (r0, u9) → CW D dA A s h H locs → cc + u.1 = h.1 → ss + u.2.1 = h.2.1 → lv_has ls 8 [] → W p l e (rm_X11_isAhead (u9.1 - u.1) (u9.2.1 - u.2.1)) s m args below meth c H locs cc ss QQ (F0 m 109 ls [.int y0]) := by
    intro h y0 cc ss H locs ls hm hw hcc hss hl
    have hmo := mo_X11_isAhead_109  h y0 _ hm
    have sb_ : h.1 ≤ u9.1 := hmo.1
    have tb_ : h.2.1 ≤ u9.2.1 := hmo.2.1
    rw [m_X11_isAhead_109] at hm
    obtain ⟨g1, hm⟩ := gdE hm
    obtain ⟨er, eh⟩ := retE hm
    have ec : cc = u9.1 - u.1 := by rw [← eh]; omega
    have es : ss = u9.2.1 - u.2.1 := by rw [← eh]; omega
    rw [ec, es, ← hQ]
    exact W.zret (v := y0) hx hb hr (zb_nar g1) (fun t ht hW => ⟨⟨y0, h, rfl, ⟨er, eh⟩, ⟨by rw [ht]; exact hw.1, by rw [ht]; exact hw.2.1⟩⟩, hw.2.2.1.F ht⟩) hw.2.2.1.2.2 dX11_isAhead_109
  have hB76 : ∀ (h : CH) (x0 : Nat) (x1 : Int32) (x2 : Int32) (x7 : Int32) (cc ss : Nat) (H : Heap) (locs : List Loc) (ls : Array Slot), m_X11_isAhead_76 f h x0 x1 x2 x7 = some (r0, u9) → CW D dA A s h H locs → cc + u.1 = h.1 → ss + u.2.1 = h.2.1 → lv_has ls 8 [(0, .ref x0), (1, .int x1), (2, .int x2), (7, .int x7)] → W p l e (rm_X11_isAhead (u9.1 - u.1) (u9.2.1 - u.2.1)) s m args below meth c H locs cc ss QQ (F0 m 76 ls []) := by
    intro h x0 x1 x2 x7 cc ss H locs ls hm hw hcc hss hl
    have hmo := mo_X11_isAhead_76  h x0 x1 x2 x7 _ hm
    have sb_ : h.1 ≤ u9.1 := hmo.1
    have tb_ : h.2.1 ≤ u9.2.1 := hmo.2.1
    rw [m_X11_isAhead_76] at hm
    refine lv_aload_n hx hb dX11_isAhead_76 rfl (lv_at hl 0 rfl) ?_
    obtain ⟨a1, ea1, hm⟩ := bdE hm
    refine cg_get C hw (oR_E ea1) rfl in_X11 (by decide) q1255 dX11_isAhead_77 ?_
    obtain ⟨a2, ea2, hm⟩ := bdE hm
    refine cg_getN C hw (by decide) (oR_E ea2) rfl in_X2 (by decide) (hw.2.2.2.2.1 _ (List.mem_of_getElem? (i := 44) rfl)) dX11_isAhead_80 ?_
    refine lv_iload_n hx hb dX11_isAhead_83 rfl (lv_at hl 1 rfl) ?_
    obtain ⟨a3, ea3, hm⟩ := bdE hm
    refine cg_aaldA C hw (ty := .array .long) rfl rfl (aR_E ea3) dX11_isAhead_84 ?_
    refine lv_iload hx hb dX11_isAhead_85 (lv_at hl 3 rfl) ?_
    obtain ⟨v4, ev4, hm⟩ := bdE hm
    refine cg_lald C hw ev4 dX11_isAhead_87 ?_
    refine lv_aload_n hx hb dX11_isAhead_88 rfl (lv_at hl 0 rfl) ?_
    obtain ⟨a5, ea5, hm⟩ := bdE hm
    refine cg_get C hw (oR_E ea5) rfl in_X11 (by decide) q1255 dX11_isAhead_89 ?_
    obtain ⟨a6, ea6, hm⟩ := bdE hm
    refine cg_getN C hw (by decide) (oR_E ea6) rfl in_X2 (by decide) (hw.2.2.2.2.1 _ (List.mem_of_getElem? (i := 44) rfl)) dX11_isAhead_92 ?_
    refine lv_iload_n hx hb dX11_isAhead_95 rfl (lv_at hl 2 rfl) ?_
    obtain ⟨a7, ea7, hm⟩ := bdE hm
    refine cg_aaldA C hw (ty := .array .long) rfl rfl (aR_E ea7) dX11_isAhead_96 ?_
    refine lv_iload hx hb dX11_isAhead_97 (lv_at hl 3 rfl) ?_
    obtain ⟨v8, ev8, hm⟩ := bdE hm
    refine cg_lald C hw ev8 dX11_isAhead_99 ?_
    refine lc_ge (tgt := 108) hx hb dX11_isAhead_100 dX11_isAhead_101 (by decide) (fun c9 => ?_) (fun c9 => ?_)
    · have hm := ifT hm c9
      refine lv_iconst (v := 0) hx hb dX11_isAhead_108 (by decide) ?_
      exact hB109 h (0 : Int32) _ _ _ _ _ hm hw (by omega) (by omega) (lv_sub hl [] rfl)
    · have hm := ifF hm c9
      refine lv_iconst (v := 1) hx hb dX11_isAhead_104 (by decide) ?_
      refine lv_goto (tgt := 109) hx hb dX11_isAhead_105 (by decide) ?_
      exact hB109 h (1 : Int32) _ _ _ _ _ hm hw (by omega) (by omega) (lv_sub hl [] rfl)
  have hB42 : ∀ (n42 : Nat), ∀ (h : CH) (x0 : Nat) (x1 : Int32) (x2 : Int32) (x7 : Int32) (cc ss : Nat) (H : Heap) (locs : List Loc) (ls : Array Slot), m_X11_isAhead_42 f n42 h x0 x1 x2 x7 = some (r0, u9) → CW D dA A s h H locs → cc + u.1 = h.1 → ss + u.2.1 = h.2.1 → lv_has ls 8 [(0, .ref x0), (1, .int x1), (2, .int x2), (7, .int x7)] → W p l e (rm_X11_isAhead (u9.1 - u.1) (u9.2.1 - u.2.1)) s m args below meth c H locs cc ss QQ (F0 m 42 ls []) := by
    intro n42
    induction n42 with
    | zero => intro h x0 x1 x2 x7 cc ss H locs ls hm hw hcc hss hl; rw [m_X11_isAhead_42] at hm; exact noE hm
    | succ n42 ih42 =>
      intro h x0 x1 x2 x7 cc ss H locs ls hm hw hcc hss hl
      have hmo := mo_X11_isAhead_42  (n42 + 1) h x0 x1 x2 x7 _ hm
      have sb_ : h.1 ≤ u9.1 := hmo.1
      have tb_ : h.2.1 ≤ u9.2.1 := hmo.2.1
      rw [m_X11_isAhead_42] at hm
      refine lv_iload hx hb dX11_isAhead_42 (lv_at hl 3 rfl) ?_
      refine lv_iconst (v := 3) hx hb dX11_isAhead_44 (by decide) ?_
      refine lv_icmp_ge (tgt := 116) hx hb dX11_isAhead_45 (by decide) (fun c1 => ?_) (fun c1 => ?_)
      · have hm := ifT hm c1
        exact hB116 h _ _ _ _ _ hm hw (by omega) (by omega) (lv_sub hl [] rfl)
      · have hm := ifF hm c1
        refine lv_aload_n hx hb dX11_isAhead_48 rfl (lv_at hl 0 rfl) ?_
        obtain ⟨a2, ea2, hm⟩ := bdE hm
        refine cg_get C hw (oR_E ea2) rfl in_X11 (by decide) q1255 dX11_isAhead_49 ?_
        obtain ⟨a3, ea3, hm⟩ := bdE hm
        refine cg_getN C hw (by decide) (oR_E ea3) rfl in_X2 (by decide) (hw.2.2.2.2.1 _ (List.mem_of_getElem? (i := 44) rfl)) dX11_isAhead_52 ?_
        refine lv_iload_n hx hb dX11_isAhead_55 rfl (lv_at hl 1 rfl) ?_
        obtain ⟨a4, ea4, hm⟩ := bdE hm
        refine cg_aaldA C hw (ty := .array .long) rfl rfl (aR_E ea4) dX11_isAhead_56 ?_
        refine lv_iload hx hb dX11_isAhead_57 (lv_at hl 3 rfl) ?_
        obtain ⟨v5, ev5, hm⟩ := bdE hm
        refine cg_lald C hw ev5 dX11_isAhead_59 ?_
        refine lv_aload_n hx hb dX11_isAhead_60 rfl (lv_at hl 0 rfl) ?_
        obtain ⟨a6, ea6, hm⟩ := bdE hm
        refine cg_get C hw (oR_E ea6) rfl in_X11 (by decide) q1255 dX11_isAhead_61 ?_
        obtain ⟨a7, ea7, hm⟩ := bdE hm
        refine cg_getN C hw (by decide) (oR_E ea7) rfl in_X2 (by decide) (hw.2.2.2.2.1 _ (List.mem_of_getElem? (i := 44) rfl)) dX11_isAhead_64 ?_
        refine lv_iload_n hx hb dX11_isAhead_67 rfl (lv_at hl 2 rfl) ?_
        obtain ⟨a8, ea8, hm⟩ := bdE hm
        refine cg_aaldA C hw (ty := .array .long) rfl rfl (aR_E ea8) dX11_isAhead_68 ?_
        refine lv_iload hx hb dX11_isAhead_69 (lv_at hl 3 rfl) ?_
        obtain ⟨v9, ev9, hm⟩ := bdE hm
        refine cg_lald C hw ev9 dX11_isAhead_71 ?_
        refine lc_eq (tgt := 110) hx hb dX11_isAhead_72 dX11_isAhead_73 (by decide) (fun c10 => ?_) (fun c10 => ?_)
        · have hm := ifT hm c10
          obtain ⟨v11, ev11, hm⟩ := nmE hm
          refine lv_iinc (v := v11) (lv' := [(7, .int v11), (0, .ref x0), (1, .int x1), (2, .int x2)]) hx hb dX11_isAhead_110 hl (k := 3) rfl (by rw [ev11]; rfl) (by decide) rfl (fun ls hl => ?_)
          refine lv_goto (tgt := 42) hx hb dX11_isAhead_113 (by decide) ?_
          exact ih42 h x0 x1 x2 v11 _ _ _ _ _ hm hw (by omega) (by omega) (lv_sub hl [1, 2, 3, 0] rfl)
        · have hm := ifF hm c10
          exact hB76 h x0 x1 x2 x7 _ _ _ _ _ hm hw (by omega) (by omega) (lv_sub hl [0, 1, 2, 3] rfl)
  have hB38 : ∀ (h : CH) (y0 : Int32) (cc ss : Nat) (H : Heap) (locs : List Loc) (ls : Array Slot), m_X11_isAhead_38 f h y0 = some (r0, u9) → CW D dA A s h H locs → cc + u.1 = h.1 → ss + u.2.1 = h.2.1 → lv_has ls 8 [] → W p l e (rm_X11_isAhead (u9.1 - u.1) (u9.2.1 - u.2.1)) s m args below meth c H locs cc ss QQ (F0 m 38 ls [.int y0]) := by
    intro h y0 cc ss H locs ls hm hw hcc hss hl
    have hmo := mo_X11_isAhead_38  h y0 _ hm
    have sb_ : h.1 ≤ u9.1 := hmo.1
    have tb_ : h.2.1 ≤ u9.2.1 := hmo.2.1
    rw [m_X11_isAhead_38] at hm
    obtain ⟨g1, hm⟩ := gdE hm
    obtain ⟨er, eh⟩ := retE hm
    have ec : cc = u9.1 - u.1 := by rw [← eh]; omega
    have es : ss = u9.2.1 - u.2.1 := by rw [← eh]; omega
    rw [ec, es, ← hQ]
    exact W.zret (v := y0) hx hb hr (zb_nar g1) (fun t ht hW => ⟨⟨y0, h, rfl, ⟨er, eh⟩, ⟨by rw [ht]; exact hw.1, by rw [ht]; exact hw.2.1⟩⟩, hw.2.2.1.F ht⟩) hw.2.2.1.2.2 dX11_isAhead_38
  have hB17 : ∀ (h : CH) (x0 : Nat) (x1 : Int32) (x2 : Int32) (x3 : Int64) (y0 : Int64) (cc ss : Nat) (H : Heap) (locs : List Loc) (ls : Array Slot), m_X11_isAhead_17 f h x0 x1 x2 x3 y0 = some (r0, u9) → CW D dA A s h H locs → cc + u.1 = h.1 → ss + u.2.1 = h.2.1 → lv_has ls 8 [(0, .ref x0), (1, .int x1), (2, .int x2), (3, .long x3)] → W p l e (rm_X11_isAhead (u9.1 - u.1) (u9.2.1 - u.2.1)) s m args below meth c H locs cc ss QQ (F0 m 17 ls [.long y0]) := by
    intro h x0 x1 x2 x3 y0 cc ss H locs ls hm hw hcc hss hl
    have hmo := mo_X11_isAhead_17  h x0 x1 x2 x3 y0 _ hm
    have sb_ : h.1 ≤ u9.1 := hmo.1
    have tb_ : h.2.1 ≤ u9.2.1 := hmo.2.1
    rw [m_X11_isAhead_17] at hm
    refine lv_lstore (lv' := [(5, .long y0), (0, .ref x0), (1, .int x1), (2, .int x2), (3, .long x3)]) hx hb dX11_isAhead_17 hl (by decide) rfl (fun ls hl => ?_)
    refine lv_lload_n hx hb dX11_isAhead_19 rfl (lv_at hl 4 rfl) ?_
    refine lv_lload hx hb dX11_isAhead_20 (lv_at hl 0 rfl) ?_
    refine lc_eq (tgt := 39) hx hb dX11_isAhead_22 dX11_isAhead_23 (by decide) (fun c1 => ?_) (fun c1 => ?_)
    · have hm := ifT hm c1
      refine lv_iconst (v := 0) hx hb dX11_isAhead_39 (by decide) ?_
      refine lv_istore (lv' := [(7, .int (0 : Int32)), (5, .long y0), (0, .ref x0), (1, .int x1), (2, .int x2), (3, .long x3)]) hx hb dX11_isAhead_40 hl (by decide) rfl (fun ls hl => ?_)
      exact hB42 f h x0 x1 x2 (0 : Int32) _ _ _ _ _ hm hw (by omega) (by omega) (lv_sub hl [2, 3, 4, 0] rfl)
    · have hm := ifF hm c1
      refine lv_lload_n hx hb dX11_isAhead_26 rfl (lv_at hl 4 rfl) ?_
      refine lv_lload hx hb dX11_isAhead_27 (lv_at hl 0 rfl) ?_
      refine lc_ge (tgt := 37) hx hb dX11_isAhead_29 dX11_isAhead_30 (by decide) (fun c2 => ?_) (fun c2 => ?_)
      · have hm := ifT hm c2
        refine lv_iconst (v := 0) hx hb dX11_isAhead_37 (by decide) ?_
        exact hB38 h (0 : Int32) _ _ _ _ _ hm hw (by omega) (by omega) (lv_sub hl [] rfl)
      · have hm := ifF hm c2
        refine lv_iconst (v := 1) hx hb dX11_isAhead_33 (by decide) ?_
        refine lv_goto (tgt := 38) hx hb dX11_isAhead_34 (by decide) ?_
        exact hB38 h (1 : Int32) _ _ _ _ _ hm hw (by omega) (by omega) (lv_sub hl [] rfl)
  have hB8 : ∀ (h : CH) (x0 : Nat) (x1 : Int32) (x2 : Int32) (y0 : Int64) (cc ss : Nat) (H : Heap) (locs : List Loc) (ls : Array Slot), m_X11_isAhead_8 f h x0 x1 x2 y0 = some (r0, u9) → CW D dA A s h H locs → cc + u.1 = h.1 → ss + u.2.1 = h.2.1 → lv_has ls 8 [(0, .ref x0), (1, .int x1), (2, .int x2)] → W p l e (rm_X11_isAhead (u9.1 - u.1) (u9.2.1 - u.2.1)) s m args below meth c H locs cc ss QQ (F0 m 8 ls [.long y0]) := by
    intro h x0 x1 x2 y0 cc ss H locs ls hm hw hcc hss hl
    have hmo := mo_X11_isAhead_8  h x0 x1 x2 y0 _ hm
    have sb_ : h.1 ≤ u9.1 := hmo.1
    have tb_ : h.2.1 ≤ u9.2.1 := hmo.2.1
    rw [m_X11_isAhead_8] at hm
    refine lv_lstore_n (lv' := [(3, .long y0), (0, .ref x0), (1, .int x1), (2, .int x2)]) hx hb dX11_isAhead_8 rfl hl (by decide) rfl (fun ls hl => ?_)
    refine lv_aload_n hx hb dX11_isAhead_9 rfl (lv_at hl 1 rfl) ?_
    obtain ⟨a1, ea1, hm⟩ := bdE hm
    refine cg_get C hw (oR_E ea1) rfl in_X11 (by decide) q1255 dX11_isAhead_10 ?_
    refine lv_iload_n hx hb dX11_isAhead_13 rfl (lv_at hl 3 rfl) ?_
    obtain ⟨g2, hm⟩ := gdE hm
    obtain ⟨r4, h3, er4, hm⟩ := bd2E hm
    have lh3 := mo_X2_square er4
    have ph3 : h.1 ≤ h3.1 := lh3.1
    have qh3 : h.2.1 ≤ h3.2.1 := lh3.2.1
    have hmo := mo_X11_isAhead_17   h3 x0 x1 x2 y0 r4 _ hm
    have sh3 : h3.1 ≤ u9.1 := hmo.1
    have th3 : h3.2.1 ≤ u9.2.1 := hmo.2.1
    refine cg_calll hw lh3 (va_runV (As := [.int x2]) (rest := []) ⟨hx, hb, hml, hown, hts⟩ (w_X2_square l er4) (cw_X2_square hts q1236 ⟨Nat.le_of_ble_eq_true rfl, Nat.le_of_ble_eq_true rfl⟩) (cg_preV C hw g2 rfl _) rfl rfl hl.1 rfl (lv_room (Nat.le_of_ble_eq_true rfl)) dX11_isAhead_14 ⟨show cc + (h3.1 - h.1) ≤ u9.1 - u.1 by omega, show ss + (h3.2.1 - h.2.1) ≤ u9.2.1 - u.2.1 by omega⟩) (fun H locs hw => ?_)
    exact hB17 h3 x0 x1 x2 y0 r4 _ _ _ _ _ hm hw (by omega) (by omega) (lv_sub hl [1, 2, 3, 0] rfl)
  rw [m_X11_isAhead] at hm
  refine lv_aload_n hx hb dX11_isAhead_0 rfl (lv_at hl 0 rfl) ?_
  obtain ⟨a1, ea1, hm⟩ := bdE hm
  refine cg_get C hw (oR_E ea1) rfl in_X11 (by decide) q1255 dX11_isAhead_1 ?_
  refine lv_iload_n hx hb dX11_isAhead_4 rfl (lv_at hl 1 rfl) ?_
  obtain ⟨g2, hm⟩ := gdE hm
  obtain ⟨r4, h3, er4, hm⟩ := bd2E hm
  have lh3 := mo_X2_square er4
  have ph3 : u.1 ≤ h3.1 := lh3.1
  have qh3 : u.2.1 ≤ h3.2.1 := lh3.2.1
  have hmo := mo_X11_isAhead_8   h3 x0 x1 x2 r4 _ hm
  have sh3 : h3.1 ≤ u9.1 := hmo.1
  have th3 : h3.2.1 ≤ u9.2.1 := hmo.2.1
  refine cg_calll hw lh3 (va_runV (As := [.int x1]) (rest := []) ⟨hx, hb, hml, hown, hts⟩ (w_X2_square l er4) (cw_X2_square hts q1236 ⟨Nat.le_of_ble_eq_true rfl, Nat.le_of_ble_eq_true rfl⟩) (cg_preV C hw g2 rfl _) rfl rfl hl.1 rfl (lv_room (Nat.le_of_ble_eq_true rfl)) dX11_isAhead_5 ⟨show cc + (h3.1 - u.1) ≤ u9.1 - u.1 by omega, show ss + (h3.2.1 - u.2.1) ≤ u9.2.1 - u.2.1 by omega⟩) (fun H locs hw => ?_)
  exact hB8 h3 x0 x1 x2 r4 _ _ _ _ _ hm hw (by omega) (by omega) (lv_sub hl [0, 1, 2] rfl)
def m_X11_orders_47 (f : Nat) (h : CH) : Option CH := some h
theorem mo_X11_orders_47 {f : Nat} : ∀ (h : CH) (r : CH), m_X11_orders_47 f h = some r → le2 h r := by
  intro h r hm
  rw [m_X11_orders_47] at hm
  cases hm
  exact le2.rf
def m_X11_orders_41 (f : Nat) (k2 : CH → Nat → Int32 → Option CH) (h : CH) (x0 : Nat) (x1 : Int32) : Option CH := nmv ((x1 + 1) : Int32) fun v1 =>
    k2 h x0 v1
theorem mo_X11_orders_41 {f : Nat} {k2 : CH → Nat → Int32 → Option CH} (hk2 : ∀ (h : CH) (x0 : Nat) (x1 : Int32) (r : CH), k2 h x0 x1 = some r → le2 h r) : ∀ (h : CH) (x0 : Nat) (x1 : Int32) (r : CH), m_X11_orders_41 f k2 h x0 x1 = some r → le2 h r := by
  intro h x0 x1 r hm
  rw [m_X11_orders_41] at hm
  obtain ⟨v1, ev1, hm⟩ := nmE hm
  exact (hk2 h x0 v1 _ hm)
def m_X11_orders_35 (f : Nat) (k2 : CH → Nat → Int32 → Option CH) (k9 : CH → Nat → Int32 → Int32 → Option CH) (h : CH) (x0 : Nat) (x1 : Int32) (x2 : Int32) : Option CH := nmv ((x2 + (-1)) : Int32) fun v1 =>
    k9 h x0 x1 v1
theorem mo_X11_orders_35 {f : Nat} {k2 : CH → Nat → Int32 → Option CH} (hk2 : ∀ (h : CH) (x0 : Nat) (x1 : Int32) (r : CH), k2 h x0 x1 = some r → le2 h r) {k9 : CH → Nat → Int32 → Int32 → Option CH} (hk9 : ∀ (h : CH) (x0 : Nat) (x1 : Int32) (x2 : Int32) (r : CH), k9 h x0 x1 x2 = some r → le2 h r) : ∀ (h : CH) (x0 : Nat) (x1 : Int32) (x2 : Int32) (r : CH), m_X11_orders_35 f k2 k9 h x0 x1 x2 = some r → le2 h r := by
  intro h x0 x1 x2 r hm
  rw [m_X11_orders_35] at hm
  obtain ⟨v1, ev1, hm⟩ := nmE hm
  exact (hk9 h x0 x1 v1 _ hm)
def m_X11_orders_21 (f : Nat) (k2 : CH → Nat → Int32 → Option CH) (k9 : CH → Nat → Int32 → Int32 → Option CH) (h : CH) (x0 : Nat) (x1 : Int32) (x2 : Int32) (y0 : Int32) : Option CH := if y0 = 0 then
    m_X11_orders_41 f k2 h x0 x1
    else bd (oR h 11 0 x0) fun a2 =>
    gd (isC h a2 3) <|
    bd (m_X2_exchanges f h a2 x2 (x2 - (1 : Int32))) fun h4 =>
    m_X11_orders_35 f k2 k9 h4 x0 x1 x2
theorem mo_X11_orders_21 {f : Nat} {k2 : CH → Nat → Int32 → Option CH} (hk2 : ∀ (h : CH) (x0 : Nat) (x1 : Int32) (r : CH), k2 h x0 x1 = some r → le2 h r) {k9 : CH → Nat → Int32 → Int32 → Option CH} (hk9 : ∀ (h : CH) (x0 : Nat) (x1 : Int32) (x2 : Int32) (r : CH), k9 h x0 x1 x2 = some r → le2 h r) : ∀ (h : CH) (x0 : Nat) (x1 : Int32) (x2 : Int32) (y0 : Int32) (r : CH), m_X11_orders_21 f k2 k9 h x0 x1 x2 y0 = some r → le2 h r := by
  intro h x0 x1 x2 y0 r hm
  rw [m_X11_orders_21] at hm
  by_cases c1 : y0 = 0
  · have hm := ifT hm c1
    exact (mo_X11_orders_41 hk2 h x0 x1 _ hm)
  · have hm := ifF hm c1
    obtain ⟨a2, ea2, hm⟩ := bdE hm
    obtain ⟨g3, hm⟩ := gdE hm
    obtain ⟨h4, eh4, hm⟩ := bdE hm
    have lh4 := mo_X2_exchanges eh4
    exact (lh4.tr (mo_X11_orders_35 hk2 hk9 h4 x0 x1 x2 _ hm))
def m_X11_orders_9 (f : Nat) (k2 : CH → Nat → Int32 → Option CH) : Nat → CH → Nat → Int32 → Int32 → Option CH
  | 0, _, _, _, _ => none
  | n9 + 1, h, x0, x1, x2 => if x2 ≤ 0 then
    m_X11_orders_41 f k2 h x0 x1
    else gd (isC h x0 11) <|
    bd2 (m_X11_isAhead f h x0 x2 (x2 - (1 : Int32))) fun r4 h3 =>
    m_X11_orders_21 f k2 (m_X11_orders_9 f k2 n9) h3 x0 x1 x2 r4
theorem mo_X11_orders_9 {f : Nat} {k2 : CH → Nat → Int32 → Option CH} (hk2 : ∀ (h : CH) (x0 : Nat) (x1 : Int32) (r : CH), k2 h x0 x1 = some r → le2 h r) : ∀ (n9 : Nat) (h : CH) (x0 : Nat) (x1 : Int32) (x2 : Int32) (r : CH), m_X11_orders_9 f k2 n9 h x0 x1 x2 = some r → le2 h r := by
  intro n9
  induction n9 with
  | zero => intro h x0 x1 x2 r hm; rw [m_X11_orders_9] at hm; exact noE hm
  | succ n9 ihm =>
    intro h x0 x1 x2 r hm
    rw [m_X11_orders_9] at hm
    by_cases c1 : x2 ≤ 0
    · have hm := ifT hm c1
      exact (mo_X11_orders_41 hk2 h x0 x1 _ hm)
    · have hm := ifF hm c1
      obtain ⟨g2, hm⟩ := gdE hm
      obtain ⟨r4, h3, er4, hm⟩ := bd2E hm
      have lh3 := mo_X11_isAhead er4
      exact (lh3.tr (mo_X11_orders_21 hk2 ihm h3 x0 x1 x2 r4 _ hm))
def m_X11_orders_2 (f : Nat) : Nat → CH → Nat → Int32 → Option CH
  | 0, _, _, _ => none
  | n2 + 1, h, x0, x1 => if (3 : Int32) ≤ x1 then
    m_X11_orders_47 f h
    else m_X11_orders_9 f (m_X11_orders_2 f n2) f h x0 x1 x1
theorem mo_X11_orders_2 {f : Nat} : ∀ (n2 : Nat) (h : CH) (x0 : Nat) (x1 : Int32) (r : CH), m_X11_orders_2 f n2 h x0 x1 = some r → le2 h r := by
  intro n2
  induction n2 with
  | zero => intro h x0 x1 r hm; rw [m_X11_orders_2] at hm; exact noE hm
  | succ n2 ihm =>
    intro h x0 x1 r hm
    rw [m_X11_orders_2] at hm
    by_cases c1 : (3 : Int32) ≤ x1
    · have hm := ifT hm c1
      exact (mo_X11_orders_47  h _ hm)
    · have hm := ifF hm c1
      exact (mo_X11_orders_9 ihm f h x0 x1 x1 _ hm)
def m_X11_orders (f : Nat) (u : CH) (x0 : Nat) : Option CH := m_X11_orders_2 f f u x0 (1 : Int32)
theorem mo_X11_orders {f : Nat} {u : CH} {x0 : Nat} {u9 : CH} (hm : m_X11_orders f u x0 = some u9) : le2 u u9 := by
  rw [m_X11_orders] at hm
  exact (mo_X11_orders_2  f u x0 (1 : Int32) _ hm)
abbrev rm_X11_orders (mc ms : Nat) : Room := { frames := 2, cells := mc, slots := ms, locals := 48 }
theorem cw_X11_orders {R : Room} {s : State} {args : Array Value} {own : String} {idx mc ms : Nat} (hts : ∀ w ∈ lw_all, w.before args s = true) (hl : Cond.methodLink own idx yX11_orders ∈ lw_all) (hR : 2 + 1 ≤ R.frames ∧ 8 + (3 + 11) + 48 ≤ R.locals) : CallW R s args own RX11 idx yX11_orders cX11_orders 3 (Option.none : Option Jvm.ClassFile.FieldType) (ws_ yX11_orders cX11_orders 3 (Option.none : Option Jvm.ClassFile.FieldType)) (rm_X11_orders mc ms) mc ms 0 := cwV 0 hts (lw_V hl q1230 qs35 q148 q1231) rfl rfl rfl (by decide +kernel) hR
set_option maxHeartbeats 4000000 in
set_option maxRecDepth 100000 in
theorem w_X11_orders (l : Launch) {D : va_G} {dA : Nat → ClassId} {A : Nat → Prop} {f : Nat} {u u9 : CH} {x0 : Nat} (hm : m_X11_orders f u x0 = some u9) : Met l yX11_orders (ws_ yX11_orders cX11_orders 3 (Option.none : Option Jvm.ClassFile.FieldType)) (rm_X11_orders (u9.1 - u.1) (u9.2.1 - u.2.1)) (va_Pc [.ref x0] (CPre D dA A u)) (va_Qv (fun u => u = u9) (CPost D dA A) A) (u9.1 - u.1) (u9.2.1 - u.2.1) A := by
  refine Met.ofW (cc := cX11_orders) (maxL := 3) (ret := (Option.none : Option Jvm.ClassFile.FieldType)) (by decide) rfl ?_
  intro p e s m args below meth c s₁ B hml hv
  have hx := B.exec
  have hb := B.bytes
  have hr := B.returns
  have hts := atoms_spec (ws := (ws_ yX11_orders cX11_orders 3 (Option.none : Option Jvm.ClassFile.FieldType))) B.pre
  have hts : ∀ w ∈ lw_all, w.before args s = true := fun w h => hts w (List.mem_cons_of_mem _ h)
  have hown : s.vm.findClass RX11 = some m.cls := findClass_of_methodNamed B.named
  have hlocks := B.notSynchronized
  obtain ⟨hav, hv⟩ := hv
  have C : CX p s m args c cX11_orders RX11 D dA := ⟨hx, hb, hown, hts, hv.2⟩
  have hw : CW D dA A s u s.heap [] := hv.1
  generalize hQ : MQ below (va_Qv (fun u => u = u9) (CPost D dA A) A) args s (u9.1 - u.1) (u9.2.1 - u.2.1) A = QQ
  have hent := lg_entry_eq m [.ref x0] 3
  rw [← hav] at hent
  rw [hent]
  have hl := lv_entry ([.ref x0]) (n := 3) (Nat.le_of_ble_eq_true rfl)
  generalize (lg_sl ([.ref x0]) ++ List.replicate (3 - (lg_sl ([.ref x0])).length) Slot.unset).toArray = ls at hl ⊢
  have hl : lv_has ls 3 [(0, .ref x0)] := hl
  obtain ⟨cc, ecc⟩ : ∃ z : Nat, z = 0 := ⟨0, rfl⟩
  obtain ⟨ss, ess⟩ : ∃ z : Nat, z = 0 := ⟨0, rfl⟩
  have hcc : cc + u.1 = u.1 := by omega
  have hss : ss + u.2.1 = u.2.1 := by omega
  suffices hgo : W p l e (rm_X11_orders (u9.1 - u.1) (u9.2.1 - u.2.1)) s m args below meth c s.heap [] cc ss QQ (F0 m 0 ls []) by rw [ecc, ess] at hgo; exact hgo
  have ⟨pu, qu, _, _⟩ := mo_X11_orders hm
  have hB47 : ∀ (h : CH) (cc ss : Nat) (H : Heap) (locs : List Loc) (ls : Array Slot), m_X11_orders_47 f h = some u9 → CW D dA A s h H locs → cc + u.1 = h.1 → ss + u.2.1 = h.2.1 → lv_has ls 3 [] → W p l e (rm_X11_orders (u9.1 - u.1) (u9.2.1 - u.2.1)) s m args below meth c H locs cc ss QQ (F0 m 47 ls []) := by
    intro h cc ss H locs ls hm hw hcc hss hl
    have hmo := mo_X11_orders_47  h _ hm
    have sb_ : h.1 ≤ u9.1 := hmo.1
    have tb_ : h.2.1 ≤ u9.2.1 := hmo.2.1
    rw [m_X11_orders_47] at hm
    have eh := ret1 hm
    have ec : cc = u9.1 - u.1 := by rw [← eh]; omega
    have es : ss = u9.2.1 - u.2.1 := by rw [← eh]; omega
    rw [ec, es, ← hQ]
    exact W.vret hx hb hr (fun t ht hW => ⟨⟨h, rfl, eh, ⟨by rw [ht]; exact hw.1, by rw [ht]; exact hw.2.1⟩⟩, hw.2.2.1.F ht⟩) hw.2.2.1.2.2 dX11_orders_47
  have hB2 : ∀ (n2 : Nat), ∀ (h : CH) (x0 : Nat) (x1 : Int32) (cc ss : Nat) (H : Heap) (locs : List Loc) (ls : Array Slot), m_X11_orders_2 f n2 h x0 x1 = some u9 → CW D dA A s h H locs → cc + u.1 = h.1 → ss + u.2.1 = h.2.1 → lv_has ls 3 [(0, .ref x0), (1, .int x1)] → W p l e (rm_X11_orders (u9.1 - u.1) (u9.2.1 - u.2.1)) s m args below meth c H locs cc ss QQ (F0 m 2 ls []) := by
    intro n2
    induction n2 with
    | zero => intro h x0 x1 cc ss H locs ls hm hw hcc hss hl; rw [m_X11_orders_2] at hm; exact noE hm
    | succ n2 ih2 =>
      have hB41 : ∀ (h : CH) (x0 : Nat) (x1 : Int32) (cc ss : Nat) (H : Heap) (locs : List Loc) (ls : Array Slot), m_X11_orders_41 f (m_X11_orders_2 f n2) h x0 x1 = some u9 → CW D dA A s h H locs → cc + u.1 = h.1 → ss + u.2.1 = h.2.1 → lv_has ls 3 [(0, .ref x0), (1, .int x1)] → W p l e (rm_X11_orders (u9.1 - u.1) (u9.2.1 - u.2.1)) s m args below meth c H locs cc ss QQ (F0 m 41 ls []) := by
        intro h x0 x1 cc ss H locs ls hm hw hcc hss hl
        have hmo := mo_X11_orders_41 (mo_X11_orders_2 n2) h x0 x1 _ hm
        have sb_ : h.1 ≤ u9.1 := hmo.1
        have tb_ : h.2.1 ≤ u9.2.1 := hmo.2.1
        rw [m_X11_orders_41] at hm
        obtain ⟨v1, ev1, hm⟩ := nmE hm
        refine lv_iinc (v := v1) (lv' := [(1, .int v1), (0, .ref x0)]) hx hb dX11_orders_41 hl (k := 1) rfl (by rw [ev1]; rfl) (by decide) rfl (fun ls hl => ?_)
        refine lv_goto (tgt := 2) hx hb dX11_orders_44 (by decide) ?_
        exact ih2 h x0 v1 _ _ _ _ _ hm hw (by omega) (by omega) (lv_sub hl [1, 0] rfl)
      have hB9 : ∀ (n9 : Nat), ∀ (h : CH) (x0 : Nat) (x1 : Int32) (x2 : Int32) (cc ss : Nat) (H : Heap) (locs : List Loc) (ls : Array Slot), m_X11_orders_9 f (m_X11_orders_2 f n2) n9 h x0 x1 x2 = some u9 → CW D dA A s h H locs → cc + u.1 = h.1 → ss + u.2.1 = h.2.1 → lv_has ls 3 [(0, .ref x0), (1, .int x1), (2, .int x2)] → W p l e (rm_X11_orders (u9.1 - u.1) (u9.2.1 - u.2.1)) s m args below meth c H locs cc ss QQ (F0 m 9 ls []) := by
        intro n9
        induction n9 with
        | zero => intro h x0 x1 x2 cc ss H locs ls hm hw hcc hss hl; rw [m_X11_orders_9] at hm; exact noE hm
        | succ n9 ih9 =>
          have hB35 : ∀ (h : CH) (x0 : Nat) (x1 : Int32) (x2 : Int32) (cc ss : Nat) (H : Heap) (locs : List Loc) (ls : Array Slot), m_X11_orders_35 f (m_X11_orders_2 f n2) (m_X11_orders_9 f (m_X11_orders_2 f n2) n9) h x0 x1 x2 = some u9 → CW D dA A s h H locs → cc + u.1 = h.1 → ss + u.2.1 = h.2.1 → lv_has ls 3 [(0, .ref x0), (1, .int x1), (2, .int x2)] → W p l e (rm_X11_orders (u9.1 - u.1) (u9.2.1 - u.2.1)) s m args below meth c H locs cc ss QQ (F0 m 35 ls []) := by
            intro h x0 x1 x2 cc ss H locs ls hm hw hcc hss hl
            have hmo := mo_X11_orders_35 (mo_X11_orders_2 n2) (mo_X11_orders_9 (mo_X11_orders_2 n2) n9) h x0 x1 x2 _ hm
            have sb_ : h.1 ≤ u9.1 := hmo.1
            have tb_ : h.2.1 ≤ u9.2.1 := hmo.2.1
            rw [m_X11_orders_35] at hm
            obtain ⟨v1, ev1, hm⟩ := nmE hm
            refine lv_iinc (v := v1) (lv' := [(2, .int v1), (0, .ref x0), (1, .int x1)]) hx hb dX11_orders_35 hl (k := 2) rfl (by rw [ev1]; rfl) (by decide) rfl (fun ls hl => ?_)
            refine lv_goto (tgt := 9) hx hb dX11_orders_38 (by decide) ?_
            exact ih9 h x0 x1 v1 _ _ _ _ _ hm hw (by omega) (by omega) (lv_sub hl [1, 2, 0] rfl)
          have hB21 : ∀ (h : CH) (x0 : Nat) (x1 : Int32) (x2 : Int32) (y0 : Int32) (cc ss : Nat) (H : Heap) (locs : List Loc) (ls : Array Slot), m_X11_orders_21 f (m_X11_orders_2 f n2) (m_X11_orders_9 f (m_X11_orders_2 f n2) n9) h x0 x1 x2 y0 = some u9 → CW D dA A s h H locs → cc + u.1 = h.1 → ss + u.2.1 = h.2.1 → lv_has ls 3 [(0, .ref x0), (1, .int x1), (2, .int x2)] → W p l e (rm_X11_orders (u9.1 - u.1) (u9.2.1 - u.2.1)) s m args below meth c H locs cc ss QQ (F0 m 21 ls [.int y0]) := by
            intro h x0 x1 x2 y0 cc ss H locs ls hm hw hcc hss hl
            have hmo := mo_X11_orders_21 (mo_X11_orders_2 n2) (mo_X11_orders_9 (mo_X11_orders_2 n2) n9) h x0 x1 x2 y0 _ hm
            have sb_ : h.1 ≤ u9.1 := hmo.1
            have tb_ : h.2.1 ≤ u9.2.1 := hmo.2.1
            rw [m_X11_orders_21] at hm
            refine lv_if_eq (tgt := 41) hx hb dX11_orders_21 (by decide) (fun c1 => ?_) (fun c1 => ?_)
            · have hm := ifT hm c1
              exact hB41 h x0 x1 _ _ _ _ _ hm hw (by omega) (by omega) (lv_sub hl [0, 1] rfl)
            · have hm := ifF hm c1
              refine lv_aload_n hx hb dX11_orders_24 rfl (lv_at hl 0 rfl) ?_
              obtain ⟨a2, ea2, hm⟩ := bdE hm
              refine cg_get C hw (oR_E ea2) rfl in_X11 (by decide) q1255 dX11_orders_25 ?_
              refine lv_iload_n hx hb dX11_orders_28 rfl (lv_at hl 2 rfl) ?_
              refine lv_iload_n hx hb dX11_orders_29 rfl (lv_at hl 2 rfl) ?_
              refine lv_iconst (v := 1) hx hb dX11_orders_30 (by decide) ?_
              refine lv_isub hx hb dX11_orders_31 ?_
              obtain ⟨g3, hm⟩ := gdE hm
              obtain ⟨h4, eh4, hm⟩ := bdE hm
              have lh4 := mo_X2_exchanges eh4
              have ph4 : h.1 ≤ h4.1 := lh4.1
              have qh4 : h.2.1 ≤ h4.2.1 := lh4.2.1
              have hmo := mo_X11_orders_35 (mo_X11_orders_2 n2) (mo_X11_orders_9 (mo_X11_orders_2 n2) n9)  h4 x0 x1 x2 _ hm
              have sh4 : h4.1 ≤ u9.1 := hmo.1
              have th4 : h4.2.1 ≤ u9.2.1 := hmo.2.1
              refine cg_callv hw lh4 (va_runV (As := [.int x2, .int (x2 - (1 : Int32))]) (rest := []) ⟨hx, hb, hml, hown, hts⟩ (w_X2_exchanges l eh4) (cw_X2_exchanges hts q1240 ⟨Nat.le_of_ble_eq_true rfl, Nat.le_of_ble_eq_true rfl⟩) (cg_preV C hw g3 rfl _) rfl rfl hl.1 rfl (lv_room (Nat.le_of_ble_eq_true rfl)) dX11_orders_32 ⟨show cc + (h4.1 - h.1) ≤ u9.1 - u.1 by omega, show ss + (h4.2.1 - h.2.1) ≤ u9.2.1 - u.2.1 by omega⟩) (fun H locs hw => ?_)
              exact hB35 h4 x0 x1 x2 _ _ _ _ _ hm hw (by omega) (by omega) (lv_sub hl [0, 1, 2] rfl)
          intro h x0 x1 x2 cc ss H locs ls hm hw hcc hss hl
          have hmo := mo_X11_orders_9 (mo_X11_orders_2 n2) (n9 + 1) h x0 x1 x2 _ hm
          have sb_ : h.1 ≤ u9.1 := hmo.1
          have tb_ : h.2.1 ≤ u9.2.1 := hmo.2.1
          rw [m_X11_orders_9] at hm
          refine lv_iload_n hx hb dX11_orders_9 rfl (lv_at hl 2 rfl) ?_
          refine lv_if_le (tgt := 41) hx hb dX11_orders_10 (by decide) (fun c1 => ?_) (fun c1 => ?_)
          · have hm := ifT hm c1
            exact hB41 h x0 x1 _ _ _ _ _ hm hw (by omega) (by omega) (lv_sub hl [0, 1] rfl)
          · have hm := ifF hm c1
            refine lv_aload_n hx hb dX11_orders_13 rfl (lv_at hl 0 rfl) ?_
            refine lv_iload_n hx hb dX11_orders_14 rfl (lv_at hl 2 rfl) ?_
            refine lv_iload_n hx hb dX11_orders_15 rfl (lv_at hl 2 rfl) ?_
            refine lv_iconst (v := 1) hx hb dX11_orders_16 (by decide) ?_
            refine lv_isub hx hb dX11_orders_17 ?_
            obtain ⟨g2, hm⟩ := gdE hm
            obtain ⟨r4, h3, er4, hm⟩ := bd2E hm
            have lh3 := mo_X11_isAhead er4
            have ph3 : h.1 ≤ h3.1 := lh3.1
            have qh3 : h.2.1 ≤ h3.2.1 := lh3.2.1
            have hmo := mo_X11_orders_21 (mo_X11_orders_2 n2) (mo_X11_orders_9 (mo_X11_orders_2 n2) n9)  h3 x0 x1 x2 r4 _ hm
            have sh3 : h3.1 ≤ u9.1 := hmo.1
            have th3 : h3.2.1 ≤ u9.2.1 := hmo.2.1
            refine cg_calli hw lh3 (va_runV (As := [.int x2, .int (x2 - (1 : Int32))]) (rest := []) ⟨hx, hb, hml, hown, hts⟩ (w_X11_isAhead l er4) (cw_X11_isAhead hts q1232 ⟨Nat.le_of_ble_eq_true rfl, Nat.le_of_ble_eq_true rfl⟩) (cg_preV C hw g2 rfl _) rfl rfl hl.1 rfl (lv_room (Nat.le_of_ble_eq_true rfl)) dX11_orders_18 ⟨show cc + (h3.1 - h.1) ≤ u9.1 - u.1 by omega, show ss + (h3.2.1 - h.2.1) ≤ u9.2.1 - u.2.1 by omega⟩) (fun H locs hw => ?_)
            exact hB21 h3 x0 x1 x2 r4 _ _ _ _ _ hm hw (by omega) (by omega) (lv_sub hl [0, 1, 2] rfl)
      intro h x0 x1 cc ss H locs ls hm hw hcc hss hl
      have hmo := mo_X11_orders_2  (n2 + 1) h x0 x1 _ hm
      have sb_ : h.1 ≤ u9.1 := hmo.1
      have tb_ : h.2.1 ≤ u9.2.1 := hmo.2.1
      rw [m_X11_orders_2] at hm
      refine lv_iload_n hx hb dX11_orders_2 rfl (lv_at hl 1 rfl) ?_
      refine lv_iconst (v := 3) hx hb dX11_orders_3 (by decide) ?_
      refine lv_icmp_ge (tgt := 47) hx hb dX11_orders_4 (by decide) (fun c1 => ?_) (fun c1 => ?_)
      · have hm := ifT hm c1
        exact hB47 h _ _ _ _ _ hm hw (by omega) (by omega) (lv_sub hl [] rfl)
      · have hm := ifF hm c1
        refine lv_iload_n hx hb dX11_orders_7 rfl (lv_at hl 1 rfl) ?_
        refine lv_istore_n (lv' := [(2, .int x1), (0, .ref x0), (1, .int x1)]) hx hb dX11_orders_8 rfl hl (by decide) rfl (fun ls hl => ?_)
        exact hB9 f h x0 x1 x1 _ _ _ _ _ hm hw (by omega) (by omega) (lv_sub hl [1, 2, 0] rfl)
  rw [m_X11_orders] at hm
  refine lv_iconst (v := 1) hx hb dX11_orders_0 (by decide) ?_
  refine lv_istore_n (lv' := [(1, .int (1 : Int32)), (0, .ref x0)]) hx hb dX11_orders_1 rfl hl (by decide) rfl (fun ls hl => ?_)
  exact hB2 f u x0 (1 : Int32) _ _ _ _ _ hm hw (by omega) (by omega) (lv_sub hl [1, 0] rfl)
def m_X11_squareWith_74 (f : Nat) (h : CH) (x4 : Int64) : Option (Int64 × CH) := some (x4, h)
theorem mo_X11_squareWith_74 {f : Nat} : ∀ (h : CH) (x4 : Int64) (r : (Int64 × CH)), m_X11_squareWith_74 f h x4 = some r → le2 h r.2 := by
  intro h x4 r hm
  rw [m_X11_squareWith_74] at hm
  cases hm
  exact le2.rf
def m_X11_squareWith_6 (f : Nat) : Nat → CH → Nat → Int32 → Int32 → Int32 → Int64 → Int32 → Option (Int64 × CH)
  | 0, _, _, _, _, _, _, _ => none
  | n6 + 1, h, x0, x1, x2, x3, x4, x6 => if (3 : Int32) ≤ x6 then
    m_X11_squareWith_74 f h x4
    else bd (oR h 11 0 x0) fun a2 =>
    bd (oR h 3 0 a2) fun a3 =>
    bd (aR h 4 a3 x1) fun a4 =>
    bd (aL h 1 a4 x6) fun v5 =>
    bd (oR h 11 0 x0) fun a6 =>
    bd (oR h 3 0 a6) fun a7 =>
    bd (aR h 4 a7 (0 : Int32)) fun a8 =>
    bd (aL h 1 a8 x6) fun v9 =>
    bd (oR h 11 0 x0) fun a10 =>
    bd (oR h 3 0 a10) fun a11 =>
    bd (aR h 4 a11 (1 : Int32)) fun a12 =>
    bd (aL h 1 a12 x6) fun v13 =>
    nmv (((v5 + ((Int32.toInt64 x2) * v9)) + ((Int32.toInt64 x3) * v13)) : Int64) fun v14 =>
    nmv ((x4 + (v14 * v14)) : Int64) fun v15 =>
    nmv ((x6 + 1) : Int32) fun v16 =>
    m_X11_squareWith_6 f n6 h x0 x1 x2 x3 v15 v16
theorem mo_X11_squareWith_6 {f : Nat} : ∀ (n6 : Nat) (h : CH) (x0 : Nat) (x1 : Int32) (x2 : Int32) (x3 : Int32) (x4 : Int64) (x6 : Int32) (r : (Int64 × CH)), m_X11_squareWith_6 f n6 h x0 x1 x2 x3 x4 x6 = some r → le2 h r.2 := by
  intro n6
  induction n6 with
  | zero => intro h x0 x1 x2 x3 x4 x6 r hm; rw [m_X11_squareWith_6] at hm; exact noE hm
  | succ n6 ihm =>
    intro h x0 x1 x2 x3 x4 x6 r hm
    rw [m_X11_squareWith_6] at hm
    by_cases c1 : (3 : Int32) ≤ x6
    · have hm := ifT hm c1
      exact (mo_X11_squareWith_74  h x4 _ hm)
    · have hm := ifF hm c1
      obtain ⟨a2, ea2, hm⟩ := bdE hm
      obtain ⟨a3, ea3, hm⟩ := bdE hm
      obtain ⟨a4, ea4, hm⟩ := bdE hm
      obtain ⟨v5, ev5, hm⟩ := bdE hm
      obtain ⟨a6, ea6, hm⟩ := bdE hm
      obtain ⟨a7, ea7, hm⟩ := bdE hm
      obtain ⟨a8, ea8, hm⟩ := bdE hm
      obtain ⟨v9, ev9, hm⟩ := bdE hm
      obtain ⟨a10, ea10, hm⟩ := bdE hm
      obtain ⟨a11, ea11, hm⟩ := bdE hm
      obtain ⟨a12, ea12, hm⟩ := bdE hm
      obtain ⟨v13, ev13, hm⟩ := bdE hm
      obtain ⟨v14, ev14, hm⟩ := nmE hm
      obtain ⟨v15, ev15, hm⟩ := nmE hm
      obtain ⟨v16, ev16, hm⟩ := nmE hm
      exact (ihm h x0 x1 x2 x3 v15 v16 _ hm)
def m_X11_squareWith (f : Nat) (u : CH) (x0 : Nat) (x1 : Int32) (x2 : Int32) (x3 : Int32) : Option (Int64 × CH) := m_X11_squareWith_6 f f u x0 x1 x2 x3 (0 : Int64) (0 : Int32)
theorem mo_X11_squareWith {f : Nat} {u : CH} {x0 : Nat} {x1 : Int32} {x2 : Int32} {x3 : Int32} {r0 : Int64} {u9 : CH} (hm : m_X11_squareWith f u x0 x1 x2 x3 = some (r0, u9)) : le2 u u9 := by
  rw [m_X11_squareWith] at hm
  exact (mo_X11_squareWith_6  f u x0 x1 x2 x3 (0 : Int64) (0 : Int32) _ hm)
abbrev rm_X11_squareWith (mc ms : Nat) : Room := { frames := 0, cells := mc, slots := ms, locals := 0 }
theorem cw_X11_squareWith {R : Room} {s : State} {args : Array Value} {own : String} {idx mc ms : Nat} (hts : ∀ w ∈ lw_all, w.before args s = true) (hl : Cond.methodLink own idx yX11_squareWith ∈ lw_all) (hR : 0 + 1 ≤ R.frames ∧ 8 + (9 + 11) + 0 ≤ R.locals) : CallW R s args own RX11 idx yX11_squareWith cX11_squareWith 9 (Option.some Jvm.ClassFile.FieldType.long) (ws_ yX11_squareWith cX11_squareWith 9 (Option.some Jvm.ClassFile.FieldType.long)) (rm_X11_squareWith mc ms) mc ms 3 := cwV 3 hts (lw_V hl q1247 qs38 q148 q1248) rfl rfl rfl (by decide +kernel) hR
set_option maxHeartbeats 4000000 in
set_option maxRecDepth 100000 in
theorem w_X11_squareWith (l : Launch) {D : va_G} {dA : Nat → ClassId} {A : Nat → Prop} {f : Nat} {u u9 : CH} {r0 : Int64} {x0 : Nat} {x1 : Int32} {x2 : Int32} {x3 : Int32} (hm : m_X11_squareWith f u x0 x1 x2 x3 = some (r0, u9)) : Met l yX11_squareWith (ws_ yX11_squareWith cX11_squareWith 9 (Option.some Jvm.ClassFile.FieldType.long)) (rm_X11_squareWith (u9.1 - u.1) (u9.2.1 - u.2.1)) (va_Pc [.ref x0, .int x1, .int x2, .int x3] (CPre D dA A u)) (va_Ql (fun r u => r = r0 ∧ u = u9) (CPost D dA A) A) (u9.1 - u.1) (u9.2.1 - u.2.1) A := by
  refine Met.ofW (cc := cX11_squareWith) (maxL := 9) (ret := (Option.some Jvm.ClassFile.FieldType.long)) (by decide) rfl ?_
  intro p e s m args below meth c s₁ B hml hv
  have hx := B.exec
  have hb := B.bytes
  have hr := B.returns
  have hts := atoms_spec (ws := (ws_ yX11_squareWith cX11_squareWith 9 (Option.some Jvm.ClassFile.FieldType.long))) B.pre
  have hts : ∀ w ∈ lw_all, w.before args s = true := fun w h => hts w (List.mem_cons_of_mem _ h)
  have hown : s.vm.findClass RX11 = some m.cls := findClass_of_methodNamed B.named
  have hlocks := B.notSynchronized
  obtain ⟨hav, hv⟩ := hv
  have C : CX p s m args c cX11_squareWith RX11 D dA := ⟨hx, hb, hown, hts, hv.2⟩
  have hw : CW D dA A s u s.heap [] := hv.1
  generalize hQ : MQ below (va_Ql (fun r u => r = r0 ∧ u = u9) (CPost D dA A) A) args s (u9.1 - u.1) (u9.2.1 - u.2.1) A = QQ
  have hent := lg_entry_eq m [.ref x0, .int x1, .int x2, .int x3] 9
  rw [← hav] at hent
  rw [hent]
  have hl := lv_entry ([.ref x0, .int x1, .int x2, .int x3]) (n := 9) (Nat.le_of_ble_eq_true rfl)
  generalize (lg_sl ([.ref x0, .int x1, .int x2, .int x3]) ++ List.replicate (9 - (lg_sl ([.ref x0, .int x1, .int x2, .int x3])).length) Slot.unset).toArray = ls at hl ⊢
  have hl : lv_has ls 9 [(0, .ref x0), (1, .int x1), (2, .int x2), (3, .int x3)] := hl
  obtain ⟨cc, ecc⟩ : ∃ z : Nat, z = 0 := ⟨0, rfl⟩
  obtain ⟨ss, ess⟩ : ∃ z : Nat, z = 0 := ⟨0, rfl⟩
  have hcc : cc + u.1 = u.1 := by omega
  have hss : ss + u.2.1 = u.2.1 := by omega
  suffices hgo : W p l e (rm_X11_squareWith (u9.1 - u.1) (u9.2.1 - u.2.1)) s m args below meth c s.heap [] cc ss QQ (F0 m 0 ls []) by rw [ecc, ess] at hgo; exact hgo
  have ⟨pu, qu, _, _⟩ := mo_X11_squareWith hm
  have hB74 : ∀ (h : CH) (x4 : Int64) (cc ss : Nat) (H : Heap) (locs : List Loc) (ls : Array Slot), m_X11_squareWith_74 f h x4 = some (r0, u9) → CW D dA A s h H locs → cc + u.1 = h.1 → ss + u.2.1 = h.2.1 → lv_has ls 9 [(4, .long x4)] → W p l e (rm_X11_squareWith (u9.1 - u.1) (u9.2.1 - u.2.1)) s m args below meth c H locs cc ss QQ (F0 m 74 ls []) := by
    intro h x4 cc ss H locs ls hm hw hcc hss hl
    have hmo := mo_X11_squareWith_74  h x4 _ hm
    have sb_ : h.1 ≤ u9.1 := hmo.1
    have tb_ : h.2.1 ≤ u9.2.1 := hmo.2.1
    rw [m_X11_squareWith_74] at hm
    refine lv_lload hx hb dX11_squareWith_74 (lv_at hl 0 rfl) ?_
    obtain ⟨er, eh⟩ := retE hm
    have ec : cc = u9.1 - u.1 := by rw [← eh]; omega
    have es : ss = u9.2.1 - u.2.1 := by rw [← eh]; omega
    rw [ec, es, ← hQ]
    exact W.lret (v := x4) hx hb hr (fun t ht hW => ⟨⟨x4, h, rfl, ⟨er, eh⟩, ⟨by rw [ht]; exact hw.1, by rw [ht]; exact hw.2.1⟩⟩, hw.2.2.1.F ht⟩) hw.2.2.1.2.2 dX11_squareWith_76
  have hB6 : ∀ (n6 : Nat), ∀ (h : CH) (x0 : Nat) (x1 : Int32) (x2 : Int32) (x3 : Int32) (x4 : Int64) (x6 : Int32) (cc ss : Nat) (H : Heap) (locs : List Loc) (ls : Array Slot), m_X11_squareWith_6 f n6 h x0 x1 x2 x3 x4 x6 = some (r0, u9) → CW D dA A s h H locs → cc + u.1 = h.1 → ss + u.2.1 = h.2.1 → lv_has ls 9 [(0, .ref x0), (1, .int x1), (2, .int x2), (3, .int x3), (4, .long x4), (6, .int x6)] → W p l e (rm_X11_squareWith (u9.1 - u.1) (u9.2.1 - u.2.1)) s m args below meth c H locs cc ss QQ (F0 m 6 ls []) := by
    intro n6
    induction n6 with
    | zero => intro h x0 x1 x2 x3 x4 x6 cc ss H locs ls hm hw hcc hss hl; rw [m_X11_squareWith_6] at hm; exact noE hm
    | succ n6 ih6 =>
      intro h x0 x1 x2 x3 x4 x6 cc ss H locs ls hm hw hcc hss hl
      have hmo := mo_X11_squareWith_6  (n6 + 1) h x0 x1 x2 x3 x4 x6 _ hm
      have sb_ : h.1 ≤ u9.1 := hmo.1
      have tb_ : h.2.1 ≤ u9.2.1 := hmo.2.1
      rw [m_X11_squareWith_6] at hm
      refine lv_iload hx hb dX11_squareWith_6 (lv_at hl 5 rfl) ?_
      refine lv_iconst (v := 3) hx hb dX11_squareWith_8 (by decide) ?_
      refine lv_icmp_ge (tgt := 74) hx hb dX11_squareWith_9 (by decide) (fun c1 => ?_) (fun c1 => ?_)
      · have hm := ifT hm c1
        exact hB74 h x4 _ _ _ _ _ hm hw (by omega) (by omega) (lv_sub hl [4] rfl)
      · have hm := ifF hm c1
        refine lv_aload_n hx hb dX11_squareWith_12 rfl (lv_at hl 0 rfl) ?_
        obtain ⟨a2, ea2, hm⟩ := bdE hm
        refine cg_get C hw (oR_E ea2) rfl in_X11 (by decide) q1255 dX11_squareWith_13 ?_
        obtain ⟨a3, ea3, hm⟩ := bdE hm
        refine cg_getN C hw (by decide) (oR_E ea3) rfl in_X2 (by decide) (hw.2.2.2.2.1 _ (List.mem_of_getElem? (i := 44) rfl)) dX11_squareWith_16 ?_
        refine lv_iload_n hx hb dX11_squareWith_19 rfl (lv_at hl 1 rfl) ?_
        obtain ⟨a4, ea4, hm⟩ := bdE hm
        refine cg_aaldA C hw (ty := .array .long) rfl rfl (aR_E ea4) dX11_squareWith_20 ?_
        refine lv_iload hx hb dX11_squareWith_21 (lv_at hl 5 rfl) ?_
        obtain ⟨v5, ev5, hm⟩ := bdE hm
        refine cg_lald C hw ev5 dX11_squareWith_23 ?_
        refine lv_iload_n hx hb dX11_squareWith_24 rfl (lv_at hl 2 rfl) ?_
        refine lv_i2l hx hb dX11_squareWith_25 rfl ?_
        refine lv_aload_n hx hb dX11_squareWith_26 rfl (lv_at hl 0 rfl) ?_
        obtain ⟨a6, ea6, hm⟩ := bdE hm
        refine cg_get C hw (oR_E ea6) rfl in_X11 (by decide) q1255 dX11_squareWith_27 ?_
        obtain ⟨a7, ea7, hm⟩ := bdE hm
        refine cg_getN C hw (by decide) (oR_E ea7) rfl in_X2 (by decide) (hw.2.2.2.2.1 _ (List.mem_of_getElem? (i := 44) rfl)) dX11_squareWith_30 ?_
        refine lv_iconst (v := 0) hx hb dX11_squareWith_33 (by decide) ?_
        obtain ⟨a8, ea8, hm⟩ := bdE hm
        refine cg_aaldA C hw (ty := .array .long) rfl rfl (aR_E ea8) dX11_squareWith_34 ?_
        refine lv_iload hx hb dX11_squareWith_35 (lv_at hl 5 rfl) ?_
        obtain ⟨v9, ev9, hm⟩ := bdE hm
        refine cg_lald C hw ev9 dX11_squareWith_37 ?_
        refine lv_lmul hx hb dX11_squareWith_38 ?_
        refine lv_ladd hx hb dX11_squareWith_39 ?_
        refine lv_iload_n hx hb dX11_squareWith_40 rfl (lv_at hl 3 rfl) ?_
        refine lv_i2l hx hb dX11_squareWith_41 rfl ?_
        refine lv_aload_n hx hb dX11_squareWith_42 rfl (lv_at hl 0 rfl) ?_
        obtain ⟨a10, ea10, hm⟩ := bdE hm
        refine cg_get C hw (oR_E ea10) rfl in_X11 (by decide) q1255 dX11_squareWith_43 ?_
        obtain ⟨a11, ea11, hm⟩ := bdE hm
        refine cg_getN C hw (by decide) (oR_E ea11) rfl in_X2 (by decide) (hw.2.2.2.2.1 _ (List.mem_of_getElem? (i := 44) rfl)) dX11_squareWith_46 ?_
        refine lv_iconst (v := 1) hx hb dX11_squareWith_49 (by decide) ?_
        obtain ⟨a12, ea12, hm⟩ := bdE hm
        refine cg_aaldA C hw (ty := .array .long) rfl rfl (aR_E ea12) dX11_squareWith_50 ?_
        refine lv_iload hx hb dX11_squareWith_51 (lv_at hl 5 rfl) ?_
        obtain ⟨v13, ev13, hm⟩ := bdE hm
        refine cg_lald C hw ev13 dX11_squareWith_53 ?_
        refine lv_lmul hx hb dX11_squareWith_54 ?_
        refine lv_ladd hx hb dX11_squareWith_55 ?_
        refine lv_topl (fun v14 ev14 => ?_)
        have hm := nmK hm ev14
        refine lv_lstore (lv' := [(7, .long v14), (0, .ref x0), (1, .int x1), (2, .int x2), (3, .int x3), (4, .long x4), (6, .int x6)]) hx hb dX11_squareWith_56 hl (by decide) rfl (fun ls hl => ?_)
        refine lv_lload hx hb dX11_squareWith_58 (lv_at hl 5 rfl) ?_
        refine lv_lload hx hb dX11_squareWith_60 (lv_at hl 0 rfl) ?_
        refine lv_lload hx hb dX11_squareWith_62 (lv_at hl 0 rfl) ?_
        refine lv_lmul hx hb dX11_squareWith_64 ?_
        refine lv_ladd hx hb dX11_squareWith_65 ?_
        refine lv_topl (fun v15 ev15 => ?_)
        have hm := nmK hm ev15
        refine lv_lstore (lv' := [(4, .long v15), (7, .long v14), (0, .ref x0), (1, .int x1), (2, .int x2), (3, .int x3), (6, .int x6)]) hx hb dX11_squareWith_66 hl (by decide) rfl (fun ls hl => ?_)
        obtain ⟨v16, ev16, hm⟩ := nmE hm
        refine lv_iinc (v := v16) (lv' := [(6, .int v16), (4, .long v15), (7, .long v14), (0, .ref x0), (1, .int x1), (2, .int x2), (3, .int x3)]) hx hb dX11_squareWith_68 hl (k := 6) rfl (by rw [ev16]; rfl) (by decide) rfl (fun ls hl => ?_)
        refine lv_goto (tgt := 6) hx hb dX11_squareWith_71 (by decide) ?_
        exact ih6 h x0 x1 x2 x3 v15 v16 _ _ _ _ _ hm hw (by omega) (by omega) (lv_sub hl [3, 4, 5, 6, 1, 0] rfl)
  rw [m_X11_squareWith] at hm
  refine lv_lconst (v := 0) hx hb dX11_squareWith_0 (by decide) ?_
  refine lv_lstore (lv' := [(4, .long (0 : Int64)), (0, .ref x0), (1, .int x1), (2, .int x2), (3, .int x3)]) hx hb dX11_squareWith_1 hl (by decide) rfl (fun ls hl => ?_)
  refine lv_iconst (v := 0) hx hb dX11_squareWith_3 (by decide) ?_
  refine lv_istore (lv' := [(6, .int (0 : Int32)), (4, .long (0 : Int64)), (0, .ref x0), (1, .int x1), (2, .int x2), (3, .int x3)]) hx hb dX11_squareWith_4 hl (by decide) rfl (fun ls hl => ?_)
  exact hB6 f u x0 x1 x2 x3 (0 : Int64) (0 : Int32) _ _ _ _ _ hm hw (by omega) (by omega) (lv_sub hl [2, 3, 4, 5, 1, 0] rfl)
def m_X11_betters_119 (f : Nat) (h : CH) (x0 : Nat) : Option (Int32 × CH) := bd (oI h 11 1 x0) fun v1 =>
    bd (pF h 11 1 x0 (.int (v1 + (1 : Int32)))) fun h2 =>
    some ((1 : Int32), h2)
theorem mo_X11_betters_119 {f : Nat} : ∀ (h : CH) (x0 : Nat) (r : (Int32 × CH)), m_X11_betters_119 f h x0 = some r → le2 h r.2 := by
  intro h x0 r hm
  rw [m_X11_betters_119] at hm
  obtain ⟨v1, ev1, hm⟩ := bdE hm
  obtain ⟨h2, eh2, hm⟩ := bdE hm
  have lh2 := pF_le eh2
  cases hm
  exact (lh2.tr le2.rf)
def m_X11_betters_102 (f : Nat) (h : CH) (x0 : Nat) (x1 : Int32) (x6 : Int32) : Option (Int32 × CH) := if x6 = 0 then
    m_X11_betters_119 f h x0
    else bd (oR h 11 0 x0) fun a2 =>
    gd (isC h a2 3) <|
    bd (m_X2_adds f h a2 x1 (1 : Int32) (Int32.toInt64 x6)) fun h4 =>
    m_X11_betters_119 f h4 x0
theorem mo_X11_betters_102 {f : Nat} : ∀ (h : CH) (x0 : Nat) (x1 : Int32) (x6 : Int32) (r : (Int32 × CH)), m_X11_betters_102 f h x0 x1 x6 = some r → le2 h r.2 := by
  intro h x0 x1 x6 r hm
  rw [m_X11_betters_102] at hm
  by_cases c1 : x6 = 0
  · have hm := ifT hm c1
    exact (mo_X11_betters_119  h x0 _ hm)
  · have hm := ifF hm c1
    obtain ⟨a2, ea2, hm⟩ := bdE hm
    obtain ⟨g3, hm⟩ := gdE hm
    obtain ⟨h4, eh4, hm⟩ := bdE hm
    have lh4 := mo_X2_adds eh4
    exact (lh4.tr (mo_X11_betters_119  h4 x0 _ hm))
def m_X11_betters_90 (f : Nat) (h : CH) (x0 : Nat) (x1 : Int32) (x5 : Int32) (x6 : Int32) : Option (Int32 × CH) := bd (oR h 11 0 x0) fun a1 =>
    gd (isC h a1 3) <|
    bd (m_X2_adds f h a1 x1 (0 : Int32) (Int32.toInt64 x5)) fun h3 =>
    m_X11_betters_102 f h3 x0 x1 x6
theorem mo_X11_betters_90 {f : Nat} : ∀ (h : CH) (x0 : Nat) (x1 : Int32) (x5 : Int32) (x6 : Int32) (r : (Int32 × CH)), m_X11_betters_90 f h x0 x1 x5 x6 = some r → le2 h r.2 := by
  intro h x0 x1 x5 x6 r hm
  rw [m_X11_betters_90] at hm
  obtain ⟨a1, ea1, hm⟩ := bdE hm
  obtain ⟨g2, hm⟩ := gdE hm
  obtain ⟨h3, eh3, hm⟩ := bdE hm
  have lh3 := mo_X2_adds eh3
  exact (lh3.tr (mo_X11_betters_102  h3 x0 x1 x6 _ hm))
def m_X11_betters_78 (f : Nat) (h : CH) (x0 : Nat) (x1 : Int32) (x5 : Int32) (x6 : Int32) : Option (Int32 × CH) := if ¬ x5 = 0 then
    m_X11_betters_90 f h x0 x1 x5 x6
    else if ¬ x6 = 0 then
    m_X11_betters_90 f h x0 x1 x5 x6
    else some ((0 : Int32), h)
theorem mo_X11_betters_78 {f : Nat} : ∀ (h : CH) (x0 : Nat) (x1 : Int32) (x5 : Int32) (x6 : Int32) (r : (Int32 × CH)), m_X11_betters_78 f h x0 x1 x5 x6 = some r → le2 h r.2 := by
  intro h x0 x1 x5 x6 r hm
  rw [m_X11_betters_78] at hm
  by_cases c1 : ¬ x5 = 0
  · have hm := ifT hm c1
    exact (mo_X11_betters_90  h x0 x1 x5 x6 _ hm)
  · have hm := ifF hm c1
    by_cases c2 : ¬ x6 = 0
    · have hm := ifT hm c2
      exact (mo_X11_betters_90  h x0 x1 x5 x6 _ hm)
    · have hm := ifF hm c2
      cases hm
      exact le2.rf
def m_X11_betters_72 (f : Nat) (k18 : CH → Nat → Int32 → Int32 → Int64 → Int32 → Int32 → Int32 → Option (Int32 × CH)) (h : CH) (x0 : Nat) (x1 : Int32) (x2 : Int32) (x3 : Int64) (x5 : Int32) (x6 : Int32) (x7 : Int32) : Option (Int32 × CH) := nmv ((x7 + 1) : Int32) fun v1 =>
    k18 h x0 x1 x2 x3 x5 x6 v1
theorem mo_X11_betters_72 {f : Nat} {k18 : CH → Nat → Int32 → Int32 → Int64 → Int32 → Int32 → Int32 → Option (Int32 × CH)} (hk18 : ∀ (h : CH) (x0 : Nat) (x1 : Int32) (x2 : Int32) (x3 : Int64) (x5 : Int32) (x6 : Int32) (x7 : Int32) (r : (Int32 × CH)), k18 h x0 x1 x2 x3 x5 x6 x7 = some r → le2 h r.2) : ∀ (h : CH) (x0 : Nat) (x1 : Int32) (x2 : Int32) (x3 : Int64) (x5 : Int32) (x6 : Int32) (x7 : Int32) (r : (Int32 × CH)), m_X11_betters_72 f k18 h x0 x1 x2 x3 x5 x6 x7 = some r → le2 h r.2 := by
  intro h x0 x1 x2 x3 x5 x6 x7 r hm
  rw [m_X11_betters_72] at hm
  obtain ⟨v1, ev1, hm⟩ := nmE hm
  exact (hk18 h x0 x1 x2 x3 x5 x6 v1 _ hm)
def m_X11_betters_66 (f : Nat) (k18 : CH → Nat → Int32 → Int32 → Int64 → Int32 → Int32 → Int32 → Option (Int32 × CH)) (k28 : CH → Nat → Int32 → Int32 → Int64 → Int32 → Int32 → Int32 → Int32 → Option (Int32 × CH)) (h : CH) (x0 : Nat) (x1 : Int32) (x2 : Int32) (x3 : Int64) (x5 : Int32) (x6 : Int32) (x7 : Int32) (x8 : Int32) : Option (Int32 × CH) := nmv ((x8 + 1) : Int32) fun v1 =>
    k28 h x0 x1 x2 x3 x5 x6 x7 v1
theorem mo_X11_betters_66 {f : Nat} {k18 : CH → Nat → Int32 → Int32 → Int64 → Int32 → Int32 → Int32 → Option (Int32 × CH)} (hk18 : ∀ (h : CH) (x0 : Nat) (x1 : Int32) (x2 : Int32) (x3 : Int64) (x5 : Int32) (x6 : Int32) (x7 : Int32) (r : (Int32 × CH)), k18 h x0 x1 x2 x3 x5 x6 x7 = some r → le2 h r.2) {k28 : CH → Nat → Int32 → Int32 → Int64 → Int32 → Int32 → Int32 → Int32 → Option (Int32 × CH)} (hk28 : ∀ (h : CH) (x0 : Nat) (x1 : Int32) (x2 : Int32) (x3 : Int64) (x5 : Int32) (x6 : Int32) (x7 : Int32) (x8 : Int32) (r : (Int32 × CH)), k28 h x0 x1 x2 x3 x5 x6 x7 x8 = some r → le2 h r.2) : ∀ (h : CH) (x0 : Nat) (x1 : Int32) (x2 : Int32) (x3 : Int64) (x5 : Int32) (x6 : Int32) (x7 : Int32) (x8 : Int32) (r : (Int32 × CH)), m_X11_betters_66 f k18 k28 h x0 x1 x2 x3 x5 x6 x7 x8 = some r → le2 h r.2 := by
  intro h x0 x1 x2 x3 x5 x6 x7 x8 r hm
  rw [m_X11_betters_66] at hm
  obtain ⟨v1, ev1, hm⟩ := nmE hm
  exact (hk28 h x0 x1 x2 x3 x5 x6 x7 v1 _ hm)
def m_X11_betters_43 (f : Nat) (k18 : CH → Nat → Int32 → Int32 → Int64 → Int32 → Int32 → Int32 → Option (Int32 × CH)) (k28 : CH → Nat → Int32 → Int32 → Int64 → Int32 → Int32 → Int32 → Int32 → Option (Int32 × CH)) (h : CH) (x0 : Nat) (x1 : Int32) (x2 : Int32) (x3 : Int64) (x5 : Int32) (x6 : Int32) (x7 : Int32) (x8 : Int32) (y0 : Int64) : Option (Int32 × CH) := if y0 < x3 then
    m_X11_betters_66 f k18 k28 h x0 x1 x2 y0 x7 x8 x7 x8
    else m_X11_betters_66 f k18 k28 h x0 x1 x2 x3 x5 x6 x7 x8
theorem mo_X11_betters_43 {f : Nat} {k18 : CH → Nat → Int32 → Int32 → Int64 → Int32 → Int32 → Int32 → Option (Int32 × CH)} (hk18 : ∀ (h : CH) (x0 : Nat) (x1 : Int32) (x2 : Int32) (x3 : Int64) (x5 : Int32) (x6 : Int32) (x7 : Int32) (r : (Int32 × CH)), k18 h x0 x1 x2 x3 x5 x6 x7 = some r → le2 h r.2) {k28 : CH → Nat → Int32 → Int32 → Int64 → Int32 → Int32 → Int32 → Int32 → Option (Int32 × CH)} (hk28 : ∀ (h : CH) (x0 : Nat) (x1 : Int32) (x2 : Int32) (x3 : Int64) (x5 : Int32) (x6 : Int32) (x7 : Int32) (x8 : Int32) (r : (Int32 × CH)), k28 h x0 x1 x2 x3 x5 x6 x7 x8 = some r → le2 h r.2) : ∀ (h : CH) (x0 : Nat) (x1 : Int32) (x2 : Int32) (x3 : Int64) (x5 : Int32) (x6 : Int32) (x7 : Int32) (x8 : Int32) (y0 : Int64) (r : (Int32 × CH)), m_X11_betters_43 f k18 k28 h x0 x1 x2 x3 x5 x6 x7 x8 y0 = some r → le2 h r.2 := by
  intro h x0 x1 x2 x3 x5 x6 x7 x8 y0 r hm
  rw [m_X11_betters_43] at hm
  by_cases c1 : y0 < x3
  · have hm := ifT hm c1
    exact (mo_X11_betters_66 hk18 hk28 h x0 x1 x2 y0 x7 x8 x7 x8 _ hm)
  · have hm := ifF hm c1
    exact (mo_X11_betters_66 hk18 hk28 h x0 x1 x2 x3 x5 x6 x7 x8 _ hm)
def m_X11_betters_28 (f : Nat) (k18 : CH → Nat → Int32 → Int32 → Int64 → Int32 → Int32 → Int32 → Option (Int32 × CH)) : Nat → CH → Nat → Int32 → Int32 → Int64 → Int32 → Int32 → Int32 → Int32 → Option (Int32 × CH)
  | 0, _, _, _, _, _, _, _, _, _ => none
  | n28 + 1, h, x0, x1, x2, x3, x5, x6, x7, x8 => if x2 < x8 then
    m_X11_betters_72 f k18 h x0 x1 x2 x3 x5 x6 x7
    else gd (isC h x0 11) <|
    bd2 (m_X11_squareWith f h x0 x1 x7 x8) fun r4 h3 =>
    m_X11_betters_43 f k18 (m_X11_betters_28 f k18 n28) h3 x0 x1 x2 x3 x5 x6 x7 x8 r4
theorem mo_X11_betters_28 {f : Nat} {k18 : CH → Nat → Int32 → Int32 → Int64 → Int32 → Int32 → Int32 → Option (Int32 × CH)} (hk18 : ∀ (h : CH) (x0 : Nat) (x1 : Int32) (x2 : Int32) (x3 : Int64) (x5 : Int32) (x6 : Int32) (x7 : Int32) (r : (Int32 × CH)), k18 h x0 x1 x2 x3 x5 x6 x7 = some r → le2 h r.2) : ∀ (n28 : Nat) (h : CH) (x0 : Nat) (x1 : Int32) (x2 : Int32) (x3 : Int64) (x5 : Int32) (x6 : Int32) (x7 : Int32) (x8 : Int32) (r : (Int32 × CH)), m_X11_betters_28 f k18 n28 h x0 x1 x2 x3 x5 x6 x7 x8 = some r → le2 h r.2 := by
  intro n28
  induction n28 with
  | zero => intro h x0 x1 x2 x3 x5 x6 x7 x8 r hm; rw [m_X11_betters_28] at hm; exact noE hm
  | succ n28 ihm =>
    intro h x0 x1 x2 x3 x5 x6 x7 x8 r hm
    rw [m_X11_betters_28] at hm
    by_cases c1 : x2 < x8
    · have hm := ifT hm c1
      exact (mo_X11_betters_72 hk18 h x0 x1 x2 x3 x5 x6 x7 _ hm)
    · have hm := ifF hm c1
      obtain ⟨g2, hm⟩ := gdE hm
      obtain ⟨r4, h3, er4, hm⟩ := bd2E hm
      have lh3 := mo_X11_squareWith er4
      exact (lh3.tr (mo_X11_betters_43 hk18 ihm h3 x0 x1 x2 x3 x5 x6 x7 x8 r4 _ hm))
def m_X11_betters_18 (f : Nat) : Nat → CH → Nat → Int32 → Int32 → Int64 → Int32 → Int32 → Int32 → Option (Int32 × CH)
  | 0, _, _, _, _, _, _, _, _ => none
  | n18 + 1, h, x0, x1, x2, x3, x5, x6, x7 => if (1 : Int32) < x7 then
    m_X11_betters_78 f h x0 x1 x5 x6
    else nmv ((-x2) : Int32) fun v2 =>
    m_X11_betters_28 f (m_X11_betters_18 f n18) f h x0 x1 x2 x3 x5 x6 x7 v2
theorem mo_X11_betters_18 {f : Nat} : ∀ (n18 : Nat) (h : CH) (x0 : Nat) (x1 : Int32) (x2 : Int32) (x3 : Int64) (x5 : Int32) (x6 : Int32) (x7 : Int32) (r : (Int32 × CH)), m_X11_betters_18 f n18 h x0 x1 x2 x3 x5 x6 x7 = some r → le2 h r.2 := by
  intro n18
  induction n18 with
  | zero => intro h x0 x1 x2 x3 x5 x6 x7 r hm; rw [m_X11_betters_18] at hm; exact noE hm
  | succ n18 ihm =>
    intro h x0 x1 x2 x3 x5 x6 x7 r hm
    rw [m_X11_betters_18] at hm
    by_cases c1 : (1 : Int32) < x7
    · have hm := ifT hm c1
      exact (mo_X11_betters_78  h x0 x1 x5 x6 _ hm)
    · have hm := ifF hm c1
      obtain ⟨v2, ev2, hm⟩ := nmE hm
      exact (mo_X11_betters_28 ihm f h x0 x1 x2 x3 x5 x6 x7 v2 _ hm)
def m_X11_betters_8 (f : Nat) (h : CH) (x0 : Nat) (x1 : Int32) (x2 : Int32) (y0 : Int64) : Option (Int32 × CH) := m_X11_betters_18 f f h x0 x1 x2 y0 (0 : Int32) (0 : Int32) (-1 : Int32)
theorem mo_X11_betters_8 {f : Nat} : ∀ (h : CH) (x0 : Nat) (x1 : Int32) (x2 : Int32) (y0 : Int64) (r : (Int32 × CH)), m_X11_betters_8 f h x0 x1 x2 y0 = some r → le2 h r.2 := by
  intro h x0 x1 x2 y0 r hm
  rw [m_X11_betters_8] at hm
  exact (mo_X11_betters_18  f h x0 x1 x2 y0 (0 : Int32) (0 : Int32) (-1 : Int32) _ hm)
def m_X11_betters (f : Nat) (u : CH) (x0 : Nat) (x1 : Int32) (x2 : Int32) : Option (Int32 × CH) := bd (oR u 11 0 x0) fun a1 =>
    gd (isC u a1 3) <|
    bd2 (m_X2_square f u a1 x1) fun r4 h3 =>
    m_X11_betters_8 f h3 x0 x1 x2 r4
theorem mo_X11_betters {f : Nat} {u : CH} {x0 : Nat} {x1 : Int32} {x2 : Int32} {r0 : Int32} {u9 : CH} (hm : m_X11_betters f u x0 x1 x2 = some (r0, u9)) : le2 u u9 := by
  rw [m_X11_betters] at hm
  obtain ⟨a1, ea1, hm⟩ := bdE hm
  obtain ⟨g2, hm⟩ := gdE hm
  obtain ⟨r4, h3, er4, hm⟩ := bd2E hm
  have lh3 := mo_X2_square er4
  exact (lh3.tr (mo_X11_betters_8  h3 x0 x1 x2 r4 _ hm))
abbrev rm_X11_betters (mc ms : Nat) : Room := { frames := 1, cells := mc, slots := ms, locals := 28 }
theorem cw_X11_betters {R : Room} {s : State} {args : Array Value} {own : String} {idx mc ms : Nat} (hts : ∀ w ∈ lw_all, w.before args s = true) (hl : Cond.methodLink own idx yX11_betters ∈ lw_all) (hR : 1 + 1 ≤ R.frames ∧ 8 + (11 + 11) + 28 ≤ R.locals) : CallW R s args own RX11 idx yX11_betters cX11_betters 11 (Option.some Jvm.ClassFile.FieldType.boolean) (ws_ yX11_betters cX11_betters 11 (Option.some Jvm.ClassFile.FieldType.boolean)) (rm_X11_betters mc ms) mc ms 2 := cwV 2 hts (lw_V hl q1243 qs37 q148 q1244) rfl rfl rfl (by decide +kernel) hR
set_option maxHeartbeats 4000000 in
set_option maxRecDepth 100000 in
theorem w_X11_betters (l : Launch) {D : va_G} {dA : Nat → ClassId} {A : Nat → Prop} {f : Nat} {u u9 : CH} {r0 : Int32} {x0 : Nat} {x1 : Int32} {x2 : Int32} (hm : m_X11_betters f u x0 x1 x2 = some (r0, u9)) : Met l yX11_betters (ws_ yX11_betters cX11_betters 11 (Option.some Jvm.ClassFile.FieldType.boolean)) (rm_X11_betters (u9.1 - u.1) (u9.2.1 - u.2.1)) (va_Pc [.ref x0, .int x1, .int x2] (CPre D dA A u)) (va_Qi (fun r u => r = r0 ∧ u = u9) (CPost D dA A) A) (u9.1 - u.1) (u9.2.1 - u.2.1) A := by
  refine Met.ofW (cc := cX11_betters) (maxL := 11) (ret := (Option.some Jvm.ClassFile.FieldType.boolean)) (by decide) rfl ?_
  intro p e s m args below meth c s₁ B hml hv
  have hx := B.exec
  have hb := B.bytes
  have hr := B.returns
  have hts := atoms_spec (ws := (ws_ yX11_betters cX11_betters 11 (Option.some Jvm.ClassFile.FieldType.boolean))) B.pre
  have hts : ∀ w ∈ lw_all, w.before args s = true := fun w h => hts w (List.mem_cons_of_mem _ h)
  have hown : s.vm.findClass RX11 = some m.cls := findClass_of_methodNamed B.named
  have hlocks := B.notSynchronized
  obtain ⟨hav, hv⟩ := hv
  have C : CX p s m args c cX11_betters RX11 D dA := ⟨hx, hb, hown, hts, hv.2⟩
  have hw : CW D dA A s u s.heap [] := hv.1
  generalize hQ : MQ below (va_Qi (fun r u => r = r0 ∧ u = u9) (CPost D dA A) A) args s (u9.1 - u.1) (u9.2.1 - u.2.1) A = QQ
  have hent := lg_entry_eq m [.ref x0, .int x1, .int x2] 11
  rw [← hav] at hent
  rw [hent]
  have hl := lv_entry ([.ref x0, .int x1, .int x2]) (n := 11) (Nat.le_of_ble_eq_true rfl)
  generalize (lg_sl ([.ref x0, .int x1, .int x2]) ++ List.replicate (11 - (lg_sl ([.ref x0, .int x1, .int x2])).length) Slot.unset).toArray = ls at hl ⊢
  have hl : lv_has ls 11 [(0, .ref x0), (1, .int x1), (2, .int x2)] := hl
  obtain ⟨cc, ecc⟩ : ∃ z : Nat, z = 0 := ⟨0, rfl⟩
  obtain ⟨ss, ess⟩ : ∃ z : Nat, z = 0 := ⟨0, rfl⟩
  have hcc : cc + u.1 = u.1 := by omega
  have hss : ss + u.2.1 = u.2.1 := by omega
  suffices hgo : W p l e (rm_X11_betters (u9.1 - u.1) (u9.2.1 - u.2.1)) s m args below meth c s.heap [] cc ss QQ (F0 m 0 ls []) by rw [ecc, ess] at hgo; exact hgo
  have ⟨pu, qu, _, _⟩ := mo_X11_betters hm
  have hB119 : ∀ (h : CH) (x0 : Nat) (cc ss : Nat) (H : Heap) (locs : List Loc) (ls : Array Slot), m_X11_betters_119 f h x0 = some (r0, u9) → CW D dA A s h H locs → cc + u.1 = h.1 → ss + u.2.1 = h.2.1 → lv_has ls 11 [(0, .ref x0)] → W p l e (rm_X11_betters (u9.1 - u.1) (u9.2.1 - u.2.1)) s m args below meth c H locs cc ss QQ (F0 m 119 ls []) := by
    intro h x0 cc ss H locs ls hm hw hcc hss hl
    have hmo := mo_X11_betters_119  h x0 _ hm
    have sb_ : h.1 ≤ u9.1 := hmo.1
    have tb_ : h.2.1 ≤ u9.2.1 := hmo.2.1
    rw [m_X11_betters_119] at hm
    refine lv_aload_n hx hb dX11_betters_119 rfl (lv_at hl 0 rfl) ?_
    refine lv_dup hx hb dX11_betters_120 rfl ?_
    obtain ⟨v1, ev1, hm⟩ := bdE hm
    refine cg_get C hw (oI_E ev1) rfl in_X11 (by decide) q1257 dX11_betters_121 ?_
    refine lv_iconst (v := 1) hx hb dX11_betters_124 (by decide) ?_
    refine lv_iadd hx hb dX11_betters_125 ?_
    obtain ⟨h2, eh2, hm⟩ := bdE hm
    refine cg_put C hw eh2 rfl in_X11 tyX11 tyX11_ok nmX11 (by decide) q1257 rfl rfl rfl dX11_betters_126 (fun H locs hw => ?_)
    have zh2 := pF_sz eh2
    refine lv_iconst (v := 1) hx hb dX11_betters_129 (by decide) ?_
    obtain ⟨er, eh⟩ := retE hm
    have ec : cc = u9.1 - u.1 := by rw [← eh]; omega
    have es : ss = u9.2.1 - u.2.1 := by rw [← eh]; omega
    rw [ec, es, ← hQ]
    exact W.zret (v := (1 : Int32)) hx hb hr rfl (fun t ht hW => ⟨⟨(1 : Int32), h2, rfl, ⟨er, eh⟩, ⟨by rw [ht]; exact hw.1, by rw [ht]; exact hw.2.1⟩⟩, hw.2.2.1.F ht⟩) hw.2.2.1.2.2 dX11_betters_130
  have hB102 : ∀ (h : CH) (x0 : Nat) (x1 : Int32) (x6 : Int32) (cc ss : Nat) (H : Heap) (locs : List Loc) (ls : Array Slot), m_X11_betters_102 f h x0 x1 x6 = some (r0, u9) → CW D dA A s h H locs → cc + u.1 = h.1 → ss + u.2.1 = h.2.1 → lv_has ls 11 [(0, .ref x0), (1, .int x1), (6, .int x6)] → W p l e (rm_X11_betters (u9.1 - u.1) (u9.2.1 - u.2.1)) s m args below meth c H locs cc ss QQ (F0 m 102 ls []) := by
    intro h x0 x1 x6 cc ss H locs ls hm hw hcc hss hl
    have hmo := mo_X11_betters_102  h x0 x1 x6 _ hm
    have sb_ : h.1 ≤ u9.1 := hmo.1
    have tb_ : h.2.1 ≤ u9.2.1 := hmo.2.1
    rw [m_X11_betters_102] at hm
    refine lv_iload hx hb dX11_betters_102 (lv_at hl 2 rfl) ?_
    refine lv_if_eq (tgt := 119) hx hb dX11_betters_104 (by decide) (fun c1 => ?_) (fun c1 => ?_)
    · have hm := ifT hm c1
      exact hB119 h x0 _ _ _ _ _ hm hw (by omega) (by omega) (lv_sub hl [0] rfl)
    · have hm := ifF hm c1
      refine lv_aload_n hx hb dX11_betters_107 rfl (lv_at hl 0 rfl) ?_
      obtain ⟨a2, ea2, hm⟩ := bdE hm
      refine cg_get C hw (oR_E ea2) rfl in_X11 (by decide) q1255 dX11_betters_108 ?_
      refine lv_iload_n hx hb dX11_betters_111 rfl (lv_at hl 1 rfl) ?_
      refine lv_iconst (v := 1) hx hb dX11_betters_112 (by decide) ?_
      refine lv_iload hx hb dX11_betters_113 (lv_at hl 2 rfl) ?_
      refine lv_i2l hx hb dX11_betters_115 rfl ?_
      obtain ⟨g3, hm⟩ := gdE hm
      obtain ⟨h4, eh4, hm⟩ := bdE hm
      have lh4 := mo_X2_adds eh4
      have ph4 : h.1 ≤ h4.1 := lh4.1
      have qh4 : h.2.1 ≤ h4.2.1 := lh4.2.1
      have hmo := mo_X11_betters_119   h4 x0 _ hm
      have sh4 : h4.1 ≤ u9.1 := hmo.1
      have th4 : h4.2.1 ≤ u9.2.1 := hmo.2.1
      refine cg_callv hw lh4 (va_runV (As := [.int x1, .int (1 : Int32), .long (Int32.toInt64 x6)]) (rest := []) ⟨hx, hb, hml, hown, hts⟩ (w_X2_adds l eh4) (cw_X2_adds hts q1249 ⟨Nat.le_of_ble_eq_true rfl, Nat.le_of_ble_eq_true rfl⟩) (cg_preV C hw g3 rfl _) rfl rfl hl.1 rfl (lv_room (Nat.le_of_ble_eq_true rfl)) dX11_betters_116 ⟨show cc + (h4.1 - h.1) ≤ u9.1 - u.1 by omega, show ss + (h4.2.1 - h.2.1) ≤ u9.2.1 - u.2.1 by omega⟩) (fun H locs hw => ?_)
      exact hB119 h4 x0 _ _ _ _ _ hm hw (by omega) (by omega) (lv_sub hl [0] rfl)
  have hB90 : ∀ (h : CH) (x0 : Nat) (x1 : Int32) (x5 : Int32) (x6 : Int32) (cc ss : Nat) (H : Heap) (locs : List Loc) (ls : Array Slot), m_X11_betters_90 f h x0 x1 x5 x6 = some (r0, u9) → CW D dA A s h H locs → cc + u.1 = h.1 → ss + u.2.1 = h.2.1 → lv_has ls 11 [(0, .ref x0), (1, .int x1), (5, .int x5), (6, .int x6)] → W p l e (rm_X11_betters (u9.1 - u.1) (u9.2.1 - u.2.1)) s m args below meth c H locs cc ss QQ (F0 m 90 ls []) := by
    intro h x0 x1 x5 x6 cc ss H locs ls hm hw hcc hss hl
    have hmo := mo_X11_betters_90  h x0 x1 x5 x6 _ hm
    have sb_ : h.1 ≤ u9.1 := hmo.1
    have tb_ : h.2.1 ≤ u9.2.1 := hmo.2.1
    rw [m_X11_betters_90] at hm
    refine lv_aload_n hx hb dX11_betters_90 rfl (lv_at hl 0 rfl) ?_
    obtain ⟨a1, ea1, hm⟩ := bdE hm
    refine cg_get C hw (oR_E ea1) rfl in_X11 (by decide) q1255 dX11_betters_91 ?_
    refine lv_iload_n hx hb dX11_betters_94 rfl (lv_at hl 1 rfl) ?_
    refine lv_iconst (v := 0) hx hb dX11_betters_95 (by decide) ?_
    refine lv_iload hx hb dX11_betters_96 (lv_at hl 2 rfl) ?_
    refine lv_i2l hx hb dX11_betters_98 rfl ?_
    obtain ⟨g2, hm⟩ := gdE hm
    obtain ⟨h3, eh3, hm⟩ := bdE hm
    have lh3 := mo_X2_adds eh3
    have ph3 : h.1 ≤ h3.1 := lh3.1
    have qh3 : h.2.1 ≤ h3.2.1 := lh3.2.1
    have hmo := mo_X11_betters_102   h3 x0 x1 x6 _ hm
    have sh3 : h3.1 ≤ u9.1 := hmo.1
    have th3 : h3.2.1 ≤ u9.2.1 := hmo.2.1
    refine cg_callv hw lh3 (va_runV (As := [.int x1, .int (0 : Int32), .long (Int32.toInt64 x5)]) (rest := []) ⟨hx, hb, hml, hown, hts⟩ (w_X2_adds l eh3) (cw_X2_adds hts q1249 ⟨Nat.le_of_ble_eq_true rfl, Nat.le_of_ble_eq_true rfl⟩) (cg_preV C hw g2 rfl _) rfl rfl hl.1 rfl (lv_room (Nat.le_of_ble_eq_true rfl)) dX11_betters_99 ⟨show cc + (h3.1 - h.1) ≤ u9.1 - u.1 by omega, show ss + (h3.2.1 - h.2.1) ≤ u9.2.1 - u.2.1 by omega⟩) (fun H locs hw => ?_)
    exact hB102 h3 x0 x1 x6 _ _ _ _ _ hm hw (by omega) (by omega) (lv_sub hl [0, 1, 3] rfl)
  have hB78 : ∀ (h : CH) (x0 : Nat) (x1 : Int32) (x5 : Int32) (x6 : Int32) (cc ss : Nat) (H : Heap) (locs : List Loc) (ls : Array Slot), m_X11_betters_78 f h x0 x1 x5 x6 = some (r0, u9) → CW D dA A s h H locs → cc + u.1 = h.1 → ss + u.2.1 = h.2.1 → lv_has ls 11 [(0, .ref x0), (1, .int x1), (5, .int x5), (6, .int x6)] → W p l e (rm_X11_betters (u9.1 - u.1) (u9.2.1 - u.2.1)) s m args below meth c H locs cc ss QQ (F0 m 78 ls []) := by
    intro h x0 x1 x5 x6 cc ss H locs ls hm hw hcc hss hl
    have hmo := mo_X11_betters_78  h x0 x1 x5 x6 _ hm
    have sb_ : h.1 ≤ u9.1 := hmo.1
    have tb_ : h.2.1 ≤ u9.2.1 := hmo.2.1
    rw [m_X11_betters_78] at hm
    refine lv_iload hx hb dX11_betters_78 (lv_at hl 2 rfl) ?_
    refine lv_if_ne (tgt := 90) hx hb dX11_betters_80 (by decide) (fun c1 => ?_) (fun c1 => ?_)
    · have hm := ifT hm c1
      exact hB90 h x0 x1 x5 x6 _ _ _ _ _ hm hw (by omega) (by omega) (lv_sub hl [0, 1, 2, 3] rfl)
    · have hm := ifT' hm c1
      refine lv_iload hx hb dX11_betters_83 (lv_at hl 3 rfl) ?_
      refine lv_if_ne (tgt := 90) hx hb dX11_betters_85 (by decide) (fun c2 => ?_) (fun c2 => ?_)
      · have hm := ifT hm c2
        exact hB90 h x0 x1 x5 x6 _ _ _ _ _ hm hw (by omega) (by omega) (lv_sub hl [0, 1, 2, 3] rfl)
      · have hm := ifT' hm c2
        refine lv_iconst (v := 0) hx hb dX11_betters_88 (by decide) ?_
        obtain ⟨er, eh⟩ := retE hm
        have ec : cc = u9.1 - u.1 := by rw [← eh]; omega
        have es : ss = u9.2.1 - u.2.1 := by rw [← eh]; omega
        rw [ec, es, ← hQ]
        exact W.zret (v := (0 : Int32)) hx hb hr rfl (fun t ht hW => ⟨⟨(0 : Int32), h, rfl, ⟨er, eh⟩, ⟨by rw [ht]; exact hw.1, by rw [ht]; exact hw.2.1⟩⟩, hw.2.2.1.F ht⟩) hw.2.2.1.2.2 dX11_betters_89
  have hB18 : ∀ (n18 : Nat), ∀ (h : CH) (x0 : Nat) (x1 : Int32) (x2 : Int32) (x3 : Int64) (x5 : Int32) (x6 : Int32) (x7 : Int32) (cc ss : Nat) (H : Heap) (locs : List Loc) (ls : Array Slot), m_X11_betters_18 f n18 h x0 x1 x2 x3 x5 x6 x7 = some (r0, u9) → CW D dA A s h H locs → cc + u.1 = h.1 → ss + u.2.1 = h.2.1 → lv_has ls 11 [(0, .ref x0), (1, .int x1), (2, .int x2), (3, .long x3), (5, .int x5), (6, .int x6), (7, .int x7)] → W p l e (rm_X11_betters (u9.1 - u.1) (u9.2.1 - u.2.1)) s m args below meth c H locs cc ss QQ (F0 m 18 ls []) := by
    intro n18
    induction n18 with
    | zero => intro h x0 x1 x2 x3 x5 x6 x7 cc ss H locs ls hm hw hcc hss hl; rw [m_X11_betters_18] at hm; exact noE hm
    | succ n18 ih18 =>
      have hB72 : ∀ (h : CH) (x0 : Nat) (x1 : Int32) (x2 : Int32) (x3 : Int64) (x5 : Int32) (x6 : Int32) (x7 : Int32) (cc ss : Nat) (H : Heap) (locs : List Loc) (ls : Array Slot), m_X11_betters_72 f (m_X11_betters_18 f n18) h x0 x1 x2 x3 x5 x6 x7 = some (r0, u9) → CW D dA A s h H locs → cc + u.1 = h.1 → ss + u.2.1 = h.2.1 → lv_has ls 11 [(0, .ref x0), (1, .int x1), (2, .int x2), (3, .long x3), (5, .int x5), (6, .int x6), (7, .int x7)] → W p l e (rm_X11_betters (u9.1 - u.1) (u9.2.1 - u.2.1)) s m args below meth c H locs cc ss QQ (F0 m 72 ls []) := by
        intro h x0 x1 x2 x3 x5 x6 x7 cc ss H locs ls hm hw hcc hss hl
        have hmo := mo_X11_betters_72 (mo_X11_betters_18 n18) h x0 x1 x2 x3 x5 x6 x7 _ hm
        have sb_ : h.1 ≤ u9.1 := hmo.1
        have tb_ : h.2.1 ≤ u9.2.1 := hmo.2.1
        rw [m_X11_betters_72] at hm
        obtain ⟨v1, ev1, hm⟩ := nmE hm
        refine lv_iinc (v := v1) (lv' := [(7, .int v1), (0, .ref x0), (1, .int x1), (2, .int x2), (3, .long x3), (5, .int x5), (6, .int x6)]) hx hb dX11_betters_72 hl (k := 6) rfl (by rw [ev1]; rfl) (by decide) rfl (fun ls hl => ?_)
        refine lv_goto (tgt := 18) hx hb dX11_betters_75 (by decide) ?_
        exact ih18 h x0 x1 x2 x3 x5 x6 v1 _ _ _ _ _ hm hw (by omega) (by omega) (lv_sub hl [1, 2, 3, 4, 5, 6, 0] rfl)
      have hB28 : ∀ (n28 : Nat), ∀ (h : CH) (x0 : Nat) (x1 : Int32) (x2 : Int32) (x3 : Int64) (x5 : Int32) (x6 : Int32) (x7 : Int32) (x8 : Int32) (cc ss : Nat) (H : Heap) (locs : List Loc) (ls : Array Slot), m_X11_betters_28 f (m_X11_betters_18 f n18) n28 h x0 x1 x2 x3 x5 x6 x7 x8 = some (r0, u9) → CW D dA A s h H locs → cc + u.1 = h.1 → ss + u.2.1 = h.2.1 → lv_has ls 11 [(0, .ref x0), (1, .int x1), (2, .int x2), (3, .long x3), (5, .int x5), (6, .int x6), (7, .int x7), (8, .int x8)] → W p l e (rm_X11_betters (u9.1 - u.1) (u9.2.1 - u.2.1)) s m args below meth c H locs cc ss QQ (F0 m 28 ls []) := by
        intro n28
        induction n28 with
        | zero => intro h x0 x1 x2 x3 x5 x6 x7 x8 cc ss H locs ls hm hw hcc hss hl; rw [m_X11_betters_28] at hm; exact noE hm
        | succ n28 ih28 =>
          have hB66 : ∀ (h : CH) (x0 : Nat) (x1 : Int32) (x2 : Int32) (x3 : Int64) (x5 : Int32) (x6 : Int32) (x7 : Int32) (x8 : Int32) (cc ss : Nat) (H : Heap) (locs : List Loc) (ls : Array Slot), m_X11_betters_66 f (m_X11_betters_18 f n18) (m_X11_betters_28 f (m_X11_betters_18 f n18) n28) h x0 x1 x2 x3 x5 x6 x7 x8 = some (r0, u9) → CW D dA A s h H locs → cc + u.1 = h.1 → ss + u.2.1 = h.2.1 → lv_has ls 11 [(0, .ref x0), (1, .int x1), (2, .int x2), (3, .long x3), (5, .int x5), (6, .int x6), (7, .int x7), (8, .int x8)] → W p l e (rm_X11_betters (u9.1 - u.1) (u9.2.1 - u.2.1)) s m args below meth c H locs cc ss QQ (F0 m 66 ls []) := by
            intro h x0 x1 x2 x3 x5 x6 x7 x8 cc ss H locs ls hm hw hcc hss hl
            have hmo := mo_X11_betters_66 (mo_X11_betters_18 n18) (mo_X11_betters_28 (mo_X11_betters_18 n18) n28) h x0 x1 x2 x3 x5 x6 x7 x8 _ hm
            have sb_ : h.1 ≤ u9.1 := hmo.1
            have tb_ : h.2.1 ≤ u9.2.1 := hmo.2.1
            rw [m_X11_betters_66] at hm
            obtain ⟨v1, ev1, hm⟩ := nmE hm
            refine lv_iinc (v := v1) (lv' := [(8, .int v1), (0, .ref x0), (1, .int x1), (2, .int x2), (3, .long x3), (5, .int x5), (6, .int x6), (7, .int x7)]) hx hb dX11_betters_66 hl (k := 7) rfl (by rw [ev1]; rfl) (by decide) rfl (fun ls hl => ?_)
            refine lv_goto (tgt := 28) hx hb dX11_betters_69 (by decide) ?_
            exact ih28 h x0 x1 x2 x3 x5 x6 x7 v1 _ _ _ _ _ hm hw (by omega) (by omega) (lv_sub hl [1, 2, 3, 4, 5, 6, 7, 0] rfl)
          have hB43 : ∀ (h : CH) (x0 : Nat) (x1 : Int32) (x2 : Int32) (x3 : Int64) (x5 : Int32) (x6 : Int32) (x7 : Int32) (x8 : Int32) (y0 : Int64) (cc ss : Nat) (H : Heap) (locs : List Loc) (ls : Array Slot), m_X11_betters_43 f (m_X11_betters_18 f n18) (m_X11_betters_28 f (m_X11_betters_18 f n18) n28) h x0 x1 x2 x3 x5 x6 x7 x8 y0 = some (r0, u9) → CW D dA A s h H locs → cc + u.1 = h.1 → ss + u.2.1 = h.2.1 → lv_has ls 11 [(0, .ref x0), (1, .int x1), (2, .int x2), (3, .long x3), (5, .int x5), (6, .int x6), (7, .int x7), (8, .int x8)] → W p l e (rm_X11_betters (u9.1 - u.1) (u9.2.1 - u.2.1)) s m args below meth c H locs cc ss QQ (F0 m 43 ls [.long y0]) := by
            intro h x0 x1 x2 x3 x5 x6 x7 x8 y0 cc ss H locs ls hm hw hcc hss hl
            have hmo := mo_X11_betters_43 (mo_X11_betters_18 n18) (mo_X11_betters_28 (mo_X11_betters_18 n18) n28) h x0 x1 x2 x3 x5 x6 x7 x8 y0 _ hm
            have sb_ : h.1 ≤ u9.1 := hmo.1
            have tb_ : h.2.1 ≤ u9.2.1 := hmo.2.1
            rw [m_X11_betters_43] at hm
            refine lv_lstore (lv' := [(9, .long y0), (0, .ref x0), (1, .int x1), (2, .int x2), (3, .long x3), (5, .int x5), (6, .int x6), (7, .int x7), (8, .int x8)]) hx hb dX11_betters_43 hl (by decide) rfl (fun ls hl => ?_)
            refine lv_lload hx hb dX11_betters_45 (lv_at hl 0 rfl) ?_
            refine lv_lload_n hx hb dX11_betters_47 rfl (lv_at hl 4 rfl) ?_
            refine lc_lt (tgt := 55) hx hb dX11_betters_48 dX11_betters_49 (by decide) (fun c1 => ?_) (fun c1 => ?_)
            · have hm := ifT hm c1
              refine lv_lload hx hb dX11_betters_55 (lv_at hl 0 rfl) ?_
              refine lv_lstore_n (lv' := [(3, .long y0), (9, .long y0), (0, .ref x0), (1, .int x1), (2, .int x2), (5, .int x5), (6, .int x6), (7, .int x7), (8, .int x8)]) hx hb dX11_betters_57 rfl hl (by decide) rfl (fun ls hl => ?_)
              refine lv_iload hx hb dX11_betters_58 (lv_at hl 7 rfl) ?_
              refine lv_istore (lv' := [(5, .int x7), (3, .long y0), (9, .long y0), (0, .ref x0), (1, .int x1), (2, .int x2), (6, .int x6), (7, .int x7), (8, .int x8)]) hx hb dX11_betters_60 hl (by decide) rfl (fun ls hl => ?_)
              refine lv_iload hx hb dX11_betters_62 (lv_at hl 8 rfl) ?_
              refine lv_istore (lv' := [(6, .int x8), (5, .int x7), (3, .long y0), (9, .long y0), (0, .ref x0), (1, .int x1), (2, .int x2), (7, .int x7), (8, .int x8)]) hx hb dX11_betters_64 hl (by decide) rfl (fun ls hl => ?_)
              exact hB66 h x0 x1 x2 y0 x7 x8 x7 x8 _ _ _ _ _ hm hw (by omega) (by omega) (lv_sub hl [4, 5, 6, 2, 1, 0, 7, 8] rfl)
            · have hm := ifF hm c1
              refine lv_goto (tgt := 66) hx hb dX11_betters_52 (by decide) ?_
              exact hB66 h x0 x1 x2 x3 x5 x6 x7 x8 _ _ _ _ _ hm hw (by omega) (by omega) (lv_sub hl [1, 2, 3, 4, 5, 6, 7, 8] rfl)
          intro h x0 x1 x2 x3 x5 x6 x7 x8 cc ss H locs ls hm hw hcc hss hl
          have hmo := mo_X11_betters_28 (mo_X11_betters_18 n18) (n28 + 1) h x0 x1 x2 x3 x5 x6 x7 x8 _ hm
          have sb_ : h.1 ≤ u9.1 := hmo.1
          have tb_ : h.2.1 ≤ u9.2.1 := hmo.2.1
          rw [m_X11_betters_28] at hm
          refine lv_iload hx hb dX11_betters_28 (lv_at hl 7 rfl) ?_
          refine lv_iload_n hx hb dX11_betters_30 rfl (lv_at hl 2 rfl) ?_
          refine lv_icmp_gt (tgt := 72) hx hb dX11_betters_31 (by decide) (fun c1 => ?_) (fun c1 => ?_)
          · have hm := ifT hm c1
            exact hB72 h x0 x1 x2 x3 x5 x6 x7 _ _ _ _ _ hm hw (by omega) (by omega) (lv_sub hl [0, 1, 2, 3, 4, 5, 6] rfl)
          · have hm := ifF hm c1
            refine lv_aload_n hx hb dX11_betters_34 rfl (lv_at hl 0 rfl) ?_
            refine lv_iload_n hx hb dX11_betters_35 rfl (lv_at hl 1 rfl) ?_
            refine lv_iload hx hb dX11_betters_36 (lv_at hl 6 rfl) ?_
            refine lv_iload hx hb dX11_betters_38 (lv_at hl 7 rfl) ?_
            obtain ⟨g2, hm⟩ := gdE hm
            obtain ⟨r4, h3, er4, hm⟩ := bd2E hm
            have lh3 := mo_X11_squareWith er4
            have ph3 : h.1 ≤ h3.1 := lh3.1
            have qh3 : h.2.1 ≤ h3.2.1 := lh3.2.1
            have hmo := mo_X11_betters_43 (mo_X11_betters_18 n18) (mo_X11_betters_28 (mo_X11_betters_18 n18) n28)  h3 x0 x1 x2 x3 x5 x6 x7 x8 r4 _ hm
            have sh3 : h3.1 ≤ u9.1 := hmo.1
            have th3 : h3.2.1 ≤ u9.2.1 := hmo.2.1
            refine cg_calll hw lh3 (va_runV (As := [.int x1, .int x7, .int x8]) (rest := []) ⟨hx, hb, hml, hown, hts⟩ (w_X11_squareWith l er4) (cw_X11_squareWith hts q1245 ⟨Nat.le_of_ble_eq_true rfl, Nat.le_of_ble_eq_true rfl⟩) (cg_preV C hw g2 rfl _) rfl rfl hl.1 rfl (lv_room (Nat.le_of_ble_eq_true rfl)) dX11_betters_40 ⟨show cc + (h3.1 - h.1) ≤ u9.1 - u.1 by omega, show ss + (h3.2.1 - h.2.1) ≤ u9.2.1 - u.2.1 by omega⟩) (fun H locs hw => ?_)
            exact hB43 h3 x0 x1 x2 x3 x5 x6 x7 x8 r4 _ _ _ _ _ hm hw (by omega) (by omega) (lv_sub hl [0, 1, 2, 3, 4, 5, 6, 7] rfl)
      intro h x0 x1 x2 x3 x5 x6 x7 cc ss H locs ls hm hw hcc hss hl
      have hmo := mo_X11_betters_18  (n18 + 1) h x0 x1 x2 x3 x5 x6 x7 _ hm
      have sb_ : h.1 ≤ u9.1 := hmo.1
      have tb_ : h.2.1 ≤ u9.2.1 := hmo.2.1
      rw [m_X11_betters_18] at hm
      refine lv_iload hx hb dX11_betters_18 (lv_at hl 6 rfl) ?_
      refine lv_iconst (v := 1) hx hb dX11_betters_20 (by decide) ?_
      refine lv_icmp_gt (tgt := 78) hx hb dX11_betters_21 (by decide) (fun c1 => ?_) (fun c1 => ?_)
      · have hm := ifT hm c1
        exact hB78 h x0 x1 x5 x6 _ _ _ _ _ hm hw (by omega) (by omega) (lv_sub hl [0, 1, 4, 5] rfl)
      · have hm := ifF hm c1
        refine lv_iload_n hx hb dX11_betters_24 rfl (lv_at hl 2 rfl) ?_
        refine lv_ineg hx hb dX11_betters_25 ?_
        refine lv_topi (fun v2 ev2 => ?_)
        have hm := nmK hm ev2
        refine lv_istore (lv' := [(8, .int v2), (0, .ref x0), (1, .int x1), (2, .int x2), (3, .long x3), (5, .int x5), (6, .int x6), (7, .int x7)]) hx hb dX11_betters_26 hl (by decide) rfl (fun ls hl => ?_)
        exact hB28 f h x0 x1 x2 x3 x5 x6 x7 v2 _ _ _ _ _ hm hw (by omega) (by omega) (lv_sub hl [1, 2, 3, 4, 5, 6, 7, 0] rfl)
  have hB8 : ∀ (h : CH) (x0 : Nat) (x1 : Int32) (x2 : Int32) (y0 : Int64) (cc ss : Nat) (H : Heap) (locs : List Loc) (ls : Array Slot), m_X11_betters_8 f h x0 x1 x2 y0 = some (r0, u9) → CW D dA A s h H locs → cc + u.1 = h.1 → ss + u.2.1 = h.2.1 → lv_has ls 11 [(0, .ref x0), (1, .int x1), (2, .int x2)] → W p l e (rm_X11_betters (u9.1 - u.1) (u9.2.1 - u.2.1)) s m args below meth c H locs cc ss QQ (F0 m 8 ls [.long y0]) := by
    intro h x0 x1 x2 y0 cc ss H locs ls hm hw hcc hss hl
    have hmo := mo_X11_betters_8  h x0 x1 x2 y0 _ hm
    have sb_ : h.1 ≤ u9.1 := hmo.1
    have tb_ : h.2.1 ≤ u9.2.1 := hmo.2.1
    rw [m_X11_betters_8] at hm
    refine lv_lstore_n (lv' := [(3, .long y0), (0, .ref x0), (1, .int x1), (2, .int x2)]) hx hb dX11_betters_8 rfl hl (by decide) rfl (fun ls hl => ?_)
    refine lv_iconst (v := 0) hx hb dX11_betters_9 (by decide) ?_
    refine lv_istore (lv' := [(5, .int (0 : Int32)), (3, .long y0), (0, .ref x0), (1, .int x1), (2, .int x2)]) hx hb dX11_betters_10 hl (by decide) rfl (fun ls hl => ?_)
    refine lv_iconst (v := 0) hx hb dX11_betters_12 (by decide) ?_
    refine lv_istore (lv' := [(6, .int (0 : Int32)), (5, .int (0 : Int32)), (3, .long y0), (0, .ref x0), (1, .int x1), (2, .int x2)]) hx hb dX11_betters_13 hl (by decide) rfl (fun ls hl => ?_)
    refine lv_iconst (v := -1) hx hb dX11_betters_15 (by decide) ?_
    refine lv_istore (lv' := [(7, .int (-1 : Int32)), (6, .int (0 : Int32)), (5, .int (0 : Int32)), (3, .long y0), (0, .ref x0), (1, .int x1), (2, .int x2)]) hx hb dX11_betters_16 hl (by decide) rfl (fun ls hl => ?_)
    exact hB18 f h x0 x1 x2 y0 (0 : Int32) (0 : Int32) (-1 : Int32) _ _ _ _ _ hm hw (by omega) (by omega) (lv_sub hl [4, 5, 6, 3, 2, 1, 0] rfl)
  rw [m_X11_betters] at hm
  refine lv_aload_n hx hb dX11_betters_0 rfl (lv_at hl 0 rfl) ?_
  obtain ⟨a1, ea1, hm⟩ := bdE hm
  refine cg_get C hw (oR_E ea1) rfl in_X11 (by decide) q1255 dX11_betters_1 ?_
  refine lv_iload_n hx hb dX11_betters_4 rfl (lv_at hl 1 rfl) ?_
  obtain ⟨g2, hm⟩ := gdE hm
  obtain ⟨r4, h3, er4, hm⟩ := bd2E hm
  have lh3 := mo_X2_square er4
  have ph3 : u.1 ≤ h3.1 := lh3.1
  have qh3 : u.2.1 ≤ h3.2.1 := lh3.2.1
  have hmo := mo_X11_betters_8   h3 x0 x1 x2 r4 _ hm
  have sh3 : h3.1 ≤ u9.1 := hmo.1
  have th3 : h3.2.1 ≤ u9.2.1 := hmo.2.1
  refine cg_calll hw lh3 (va_runV (As := [.int x1]) (rest := []) ⟨hx, hb, hml, hown, hts⟩ (w_X2_square l er4) (cw_X2_square hts q1236 ⟨Nat.le_of_ble_eq_true rfl, Nat.le_of_ble_eq_true rfl⟩) (cg_preV C hw g2 rfl _) rfl rfl hl.1 rfl (lv_room (Nat.le_of_ble_eq_true rfl)) dX11_betters_5 ⟨show cc + (h3.1 - u.1) ≤ u9.1 - u.1 by omega, show ss + (h3.2.1 - u.2.1) ≤ u9.2.1 - u.2.1 by omega⟩) (fun H locs hw => ?_)
  exact hB8 h3 x0 x1 x2 r4 _ _ _ _ _ hm hw (by omega) (by omega) (lv_sub hl [0, 1, 2] rfl)
def m_X11_turnsOver_57 (f : Nat) (h : CH) : Option CH := some h
theorem mo_X11_turnsOver_57 {f : Nat} : ∀ (h : CH) (r : CH), m_X11_turnsOver_57 f h = some r → le2 h r := by
  intro h r hm
  rw [m_X11_turnsOver_57] at hm
  cases hm
  exact le2.rf
def m_X11_turnsOver_50 (f : Nat) (h : CH) : Option CH := some h
theorem mo_X11_turnsOver_50 {f : Nat} : ∀ (h : CH) (r : CH), m_X11_turnsOver_50 f h = some r → le2 h r := by
  intro h r hm
  rw [m_X11_turnsOver_50] at hm
  cases hm
  exact le2.rf
def m_X11_turnsOver_26 (f : Nat) (h : CH) (x0 : Nat) (x1 : Int32) (x2 : Int32) : Option CH := bd (oR h 11 0 x0) fun a1 =>
    bd (oR h 3 0 a1) fun a2 =>
    bd (aR h 4 a2 x1) fun a3 =>
    bd (aL h 1 a3 x2) fun v4 =>
    if (0 : Int64) ≤ v4 then
    m_X11_turnsOver_50 f h
    else bd (oR h 11 0 x0) fun a6 =>
    gd (isC h a6 3) <|
    bd (m_X2_turnsOver f h a6 x1) fun h8 =>
    m_X11_turnsOver_50 f h8
theorem mo_X11_turnsOver_26 {f : Nat} : ∀ (h : CH) (x0 : Nat) (x1 : Int32) (x2 : Int32) (r : CH), m_X11_turnsOver_26 f h x0 x1 x2 = some r → le2 h r := by
  intro h x0 x1 x2 r hm
  rw [m_X11_turnsOver_26] at hm
  obtain ⟨a1, ea1, hm⟩ := bdE hm
  obtain ⟨a2, ea2, hm⟩ := bdE hm
  obtain ⟨a3, ea3, hm⟩ := bdE hm
  obtain ⟨v4, ev4, hm⟩ := bdE hm
  by_cases c5 : (0 : Int64) ≤ v4
  · have hm := ifT hm c5
    exact (mo_X11_turnsOver_50  h _ hm)
  · have hm := ifF hm c5
    obtain ⟨a6, ea6, hm⟩ := bdE hm
    obtain ⟨g7, hm⟩ := gdE hm
    obtain ⟨h8, eh8, hm⟩ := bdE hm
    have lh8 := mo_X2_turnsOver eh8
    exact (lh8.tr (mo_X11_turnsOver_50  h8 _ hm))
def m_X11_turnsOver_2 (f : Nat) : Nat → CH → Nat → Int32 → Int32 → Option CH
  | 0, _, _, _, _ => none
  | n2 + 1, h, x0, x1, x2 => if (3 : Int32) ≤ x2 then
    m_X11_turnsOver_57 f h
    else bd (oR h 11 0 x0) fun a2 =>
    bd (oR h 3 0 a2) fun a3 =>
    bd (aR h 4 a3 x1) fun a4 =>
    bd (aL h 1 a4 x2) fun v5 =>
    if ¬ v5 = (0 : Int64) then
    m_X11_turnsOver_26 f h x0 x1 x2
    else nmv ((x2 + 1) : Int32) fun v7 =>
    m_X11_turnsOver_2 f n2 h x0 x1 v7
theorem mo_X11_turnsOver_2 {f : Nat} : ∀ (n2 : Nat) (h : CH) (x0 : Nat) (x1 : Int32) (x2 : Int32) (r : CH), m_X11_turnsOver_2 f n2 h x0 x1 x2 = some r → le2 h r := by
  intro n2
  induction n2 with
  | zero => intro h x0 x1 x2 r hm; rw [m_X11_turnsOver_2] at hm; exact noE hm
  | succ n2 ihm =>
    intro h x0 x1 x2 r hm
    rw [m_X11_turnsOver_2] at hm
    by_cases c1 : (3 : Int32) ≤ x2
    · have hm := ifT hm c1
      exact (mo_X11_turnsOver_57  h _ hm)
    · have hm := ifF hm c1
      obtain ⟨a2, ea2, hm⟩ := bdE hm
      obtain ⟨a3, ea3, hm⟩ := bdE hm
      obtain ⟨a4, ea4, hm⟩ := bdE hm
      obtain ⟨v5, ev5, hm⟩ := bdE hm
      by_cases c6 : ¬ v5 = (0 : Int64)
      · have hm := ifT hm c6
        exact (mo_X11_turnsOver_26  h x0 x1 x2 _ hm)
      · have hm := ifF hm c6
        obtain ⟨v7, ev7, hm⟩ := nmE hm
        exact (ihm h x0 x1 v7 _ hm)
def m_X11_turnsOver (f : Nat) (u : CH) (x0 : Nat) (x1 : Int32) : Option CH := m_X11_turnsOver_2 f f u x0 x1 (0 : Int32)
theorem mo_X11_turnsOver {f : Nat} {u : CH} {x0 : Nat} {x1 : Int32} {u9 : CH} (hm : m_X11_turnsOver f u x0 x1 = some u9) : le2 u u9 := by
  rw [m_X11_turnsOver] at hm
  exact (mo_X11_turnsOver_2  f u x0 x1 (0 : Int32) _ hm)
abbrev rm_X11_turnsOver (mc ms : Nat) : Room := { frames := 1, cells := mc, slots := ms, locals := 22 }
theorem cw_X11_turnsOver {R : Room} {s : State} {args : Array Value} {own : String} {idx mc ms : Nat} (hts : ∀ w ∈ lw_all, w.before args s = true) (hl : Cond.methodLink own idx yX11_turnsOver ∈ lw_all) (hR : 1 + 1 ≤ R.frames ∧ 8 + (3 + 11) + 22 ≤ R.locals) : CallW R s args own RX11 idx yX11_turnsOver cX11_turnsOver 3 (Option.none : Option Jvm.ClassFile.FieldType) (ws_ yX11_turnsOver cX11_turnsOver 3 (Option.none : Option Jvm.ClassFile.FieldType)) (rm_X11_turnsOver mc ms) mc ms 1 := cwV 1 hts (lw_V hl q1252 qs39 q148 q1253) rfl rfl rfl (by decide +kernel) hR
set_option maxHeartbeats 4000000 in
set_option maxRecDepth 100000 in
theorem w_X11_turnsOver (l : Launch) {D : va_G} {dA : Nat → ClassId} {A : Nat → Prop} {f : Nat} {u u9 : CH} {x0 : Nat} {x1 : Int32} (hm : m_X11_turnsOver f u x0 x1 = some u9) : Met l yX11_turnsOver (ws_ yX11_turnsOver cX11_turnsOver 3 (Option.none : Option Jvm.ClassFile.FieldType)) (rm_X11_turnsOver (u9.1 - u.1) (u9.2.1 - u.2.1)) (va_Pc [.ref x0, .int x1] (CPre D dA A u)) (va_Qv (fun u => u = u9) (CPost D dA A) A) (u9.1 - u.1) (u9.2.1 - u.2.1) A := by
  refine Met.ofW (cc := cX11_turnsOver) (maxL := 3) (ret := (Option.none : Option Jvm.ClassFile.FieldType)) (by decide) rfl ?_
  intro p e s m args below meth c s₁ B hml hv
  have hx := B.exec
  have hb := B.bytes
  have hr := B.returns
  have hts := atoms_spec (ws := (ws_ yX11_turnsOver cX11_turnsOver 3 (Option.none : Option Jvm.ClassFile.FieldType))) B.pre
  have hts : ∀ w ∈ lw_all, w.before args s = true := fun w h => hts w (List.mem_cons_of_mem _ h)
  have hown : s.vm.findClass RX11 = some m.cls := findClass_of_methodNamed B.named
  have hlocks := B.notSynchronized
  obtain ⟨hav, hv⟩ := hv
  have C : CX p s m args c cX11_turnsOver RX11 D dA := ⟨hx, hb, hown, hts, hv.2⟩
  have hw : CW D dA A s u s.heap [] := hv.1
  generalize hQ : MQ below (va_Qv (fun u => u = u9) (CPost D dA A) A) args s (u9.1 - u.1) (u9.2.1 - u.2.1) A = QQ
  have hent := lg_entry_eq m [.ref x0, .int x1] 3
  rw [← hav] at hent
  rw [hent]
  have hl := lv_entry ([.ref x0, .int x1]) (n := 3) (Nat.le_of_ble_eq_true rfl)
  generalize (lg_sl ([.ref x0, .int x1]) ++ List.replicate (3 - (lg_sl ([.ref x0, .int x1])).length) Slot.unset).toArray = ls at hl ⊢
  have hl : lv_has ls 3 [(0, .ref x0), (1, .int x1)] := hl
  obtain ⟨cc, ecc⟩ : ∃ z : Nat, z = 0 := ⟨0, rfl⟩
  obtain ⟨ss, ess⟩ : ∃ z : Nat, z = 0 := ⟨0, rfl⟩
  have hcc : cc + u.1 = u.1 := by omega
  have hss : ss + u.2.1 = u.2.1 := by omega
  suffices hgo : W p l e (rm_X11_turnsOver (u9.1 - u.1) (u9.2.1 - u.2.1)) s m args below meth c s.heap [] cc ss QQ (F0 m 0 ls []) by rw [ecc, ess] at hgo; exact hgo
  have ⟨pu, qu, _, _⟩ := mo_X11_turnsOver hm
  have hB57 : ∀ (h : CH) (cc ss : Nat) (H : Heap) (locs : List Loc) (ls : Array Slot), m_X11_turnsOver_57 f h = some u9 → CW D dA A s h H locs → cc + u.1 = h.1 → ss + u.2.1 = h.2.1 → lv_has ls 3 [] → W p l e (rm_X11_turnsOver (u9.1 - u.1) (u9.2.1 - u.2.1)) s m args below meth c H locs cc ss QQ (F0 m 57 ls []) := by
    intro h cc ss H locs ls hm hw hcc hss hl
    have hmo := mo_X11_turnsOver_57  h _ hm
    have sb_ : h.1 ≤ u9.1 := hmo.1
    have tb_ : h.2.1 ≤ u9.2.1 := hmo.2.1
    rw [m_X11_turnsOver_57] at hm
    have eh := ret1 hm
    have ec : cc = u9.1 - u.1 := by rw [← eh]; omega
    have es : ss = u9.2.1 - u.2.1 := by rw [← eh]; omega
    rw [ec, es, ← hQ]
    exact W.vret hx hb hr (fun t ht hW => ⟨⟨h, rfl, eh, ⟨by rw [ht]; exact hw.1, by rw [ht]; exact hw.2.1⟩⟩, hw.2.2.1.F ht⟩) hw.2.2.1.2.2 dX11_turnsOver_57
  have hB50 : ∀ (h : CH) (cc ss : Nat) (H : Heap) (locs : List Loc) (ls : Array Slot), m_X11_turnsOver_50 f h = some u9 → CW D dA A s h H locs → cc + u.1 = h.1 → ss + u.2.1 = h.2.1 → lv_has ls 3 [] → W p l e (rm_X11_turnsOver (u9.1 - u.1) (u9.2.1 - u.2.1)) s m args below meth c H locs cc ss QQ (F0 m 50 ls []) := by
    intro h cc ss H locs ls hm hw hcc hss hl
    have hmo := mo_X11_turnsOver_50  h _ hm
    have sb_ : h.1 ≤ u9.1 := hmo.1
    have tb_ : h.2.1 ≤ u9.2.1 := hmo.2.1
    rw [m_X11_turnsOver_50] at hm
    have eh := ret1 hm
    have ec : cc = u9.1 - u.1 := by rw [← eh]; omega
    have es : ss = u9.2.1 - u.2.1 := by rw [← eh]; omega
    rw [ec, es, ← hQ]
    exact W.vret hx hb hr (fun t ht hW => ⟨⟨h, rfl, eh, ⟨by rw [ht]; exact hw.1, by rw [ht]; exact hw.2.1⟩⟩, hw.2.2.1.F ht⟩) hw.2.2.1.2.2 dX11_turnsOver_50
  have hB26 : ∀ (h : CH) (x0 : Nat) (x1 : Int32) (x2 : Int32) (cc ss : Nat) (H : Heap) (locs : List Loc) (ls : Array Slot), m_X11_turnsOver_26 f h x0 x1 x2 = some u9 → CW D dA A s h H locs → cc + u.1 = h.1 → ss + u.2.1 = h.2.1 → lv_has ls 3 [(0, .ref x0), (1, .int x1), (2, .int x2)] → W p l e (rm_X11_turnsOver (u9.1 - u.1) (u9.2.1 - u.2.1)) s m args below meth c H locs cc ss QQ (F0 m 26 ls []) := by
    intro h x0 x1 x2 cc ss H locs ls hm hw hcc hss hl
    have hmo := mo_X11_turnsOver_26  h x0 x1 x2 _ hm
    have sb_ : h.1 ≤ u9.1 := hmo.1
    have tb_ : h.2.1 ≤ u9.2.1 := hmo.2.1
    rw [m_X11_turnsOver_26] at hm
    refine lv_aload_n hx hb dX11_turnsOver_26 rfl (lv_at hl 0 rfl) ?_
    obtain ⟨a1, ea1, hm⟩ := bdE hm
    refine cg_get C hw (oR_E ea1) rfl in_X11 (by decide) q1255 dX11_turnsOver_27 ?_
    obtain ⟨a2, ea2, hm⟩ := bdE hm
    refine cg_getN C hw (by decide) (oR_E ea2) rfl in_X2 (by decide) (hw.2.2.2.2.1 _ (List.mem_of_getElem? (i := 44) rfl)) dX11_turnsOver_30 ?_
    refine lv_iload_n hx hb dX11_turnsOver_33 rfl (lv_at hl 1 rfl) ?_
    obtain ⟨a3, ea3, hm⟩ := bdE hm
    refine cg_aaldA C hw (ty := .array .long) rfl rfl (aR_E ea3) dX11_turnsOver_34 ?_
    refine lv_iload_n hx hb dX11_turnsOver_35 rfl (lv_at hl 2 rfl) ?_
    obtain ⟨v4, ev4, hm⟩ := bdE hm
    refine cg_lald C hw ev4 dX11_turnsOver_36 ?_
    refine lv_lconst (v := 0) hx hb dX11_turnsOver_37 (by decide) ?_
    refine lc_ge (tgt := 50) hx hb dX11_turnsOver_38 dX11_turnsOver_39 (by decide) (fun c5 => ?_) (fun c5 => ?_)
    · have hm := ifT hm c5
      exact hB50 h _ _ _ _ _ hm hw (by omega) (by omega) (lv_sub hl [] rfl)
    · have hm := ifF hm c5
      refine lv_aload_n hx hb dX11_turnsOver_42 rfl (lv_at hl 0 rfl) ?_
      obtain ⟨a6, ea6, hm⟩ := bdE hm
      refine cg_get C hw (oR_E ea6) rfl in_X11 (by decide) q1255 dX11_turnsOver_43 ?_
      refine lv_iload_n hx hb dX11_turnsOver_46 rfl (lv_at hl 1 rfl) ?_
      obtain ⟨g7, hm⟩ := gdE hm
      obtain ⟨h8, eh8, hm⟩ := bdE hm
      have lh8 := mo_X2_turnsOver eh8
      have ph8 : h.1 ≤ h8.1 := lh8.1
      have qh8 : h.2.1 ≤ h8.2.1 := lh8.2.1
      have hmo := mo_X11_turnsOver_50   h8 _ hm
      have sh8 : h8.1 ≤ u9.1 := hmo.1
      have th8 : h8.2.1 ≤ u9.2.1 := hmo.2.1
      refine cg_callv hw lh8 (va_runV (As := [.int x1]) (rest := []) ⟨hx, hb, hml, hown, hts⟩ (w_X2_turnsOver l eh8) (cw_X2_turnsOver hts q1254 ⟨Nat.le_of_ble_eq_true rfl, Nat.le_of_ble_eq_true rfl⟩) (cg_preV C hw g7 rfl _) rfl rfl hl.1 rfl (lv_room (Nat.le_of_ble_eq_true rfl)) dX11_turnsOver_47 ⟨show cc + (h8.1 - h.1) ≤ u9.1 - u.1 by omega, show ss + (h8.2.1 - h.2.1) ≤ u9.2.1 - u.2.1 by omega⟩) (fun H locs hw => ?_)
      exact hB50 h8 _ _ _ _ _ hm hw (by omega) (by omega) (lv_sub hl [] rfl)
  have hB2 : ∀ (n2 : Nat), ∀ (h : CH) (x0 : Nat) (x1 : Int32) (x2 : Int32) (cc ss : Nat) (H : Heap) (locs : List Loc) (ls : Array Slot), m_X11_turnsOver_2 f n2 h x0 x1 x2 = some u9 → CW D dA A s h H locs → cc + u.1 = h.1 → ss + u.2.1 = h.2.1 → lv_has ls 3 [(0, .ref x0), (1, .int x1), (2, .int x2)] → W p l e (rm_X11_turnsOver (u9.1 - u.1) (u9.2.1 - u.2.1)) s m args below meth c H locs cc ss QQ (F0 m 2 ls []) := by
    intro n2
    induction n2 with
    | zero => intro h x0 x1 x2 cc ss H locs ls hm hw hcc hss hl; rw [m_X11_turnsOver_2] at hm; exact noE hm
    | succ n2 ih2 =>
      intro h x0 x1 x2 cc ss H locs ls hm hw hcc hss hl
      have hmo := mo_X11_turnsOver_2  (n2 + 1) h x0 x1 x2 _ hm
      have sb_ : h.1 ≤ u9.1 := hmo.1
      have tb_ : h.2.1 ≤ u9.2.1 := hmo.2.1
      rw [m_X11_turnsOver_2] at hm
      refine lv_iload_n hx hb dX11_turnsOver_2 rfl (lv_at hl 2 rfl) ?_
      refine lv_iconst (v := 3) hx hb dX11_turnsOver_3 (by decide) ?_
      refine lv_icmp_ge (tgt := 57) hx hb dX11_turnsOver_4 (by decide) (fun c1 => ?_) (fun c1 => ?_)
      · have hm := ifT hm c1
        exact hB57 h _ _ _ _ _ hm hw (by omega) (by omega) (lv_sub hl [] rfl)
      · have hm := ifF hm c1
        refine lv_aload_n hx hb dX11_turnsOver_7 rfl (lv_at hl 0 rfl) ?_
        obtain ⟨a2, ea2, hm⟩ := bdE hm
        refine cg_get C hw (oR_E ea2) rfl in_X11 (by decide) q1255 dX11_turnsOver_8 ?_
        obtain ⟨a3, ea3, hm⟩ := bdE hm
        refine cg_getN C hw (by decide) (oR_E ea3) rfl in_X2 (by decide) (hw.2.2.2.2.1 _ (List.mem_of_getElem? (i := 44) rfl)) dX11_turnsOver_11 ?_
        refine lv_iload_n hx hb dX11_turnsOver_14 rfl (lv_at hl 1 rfl) ?_
        obtain ⟨a4, ea4, hm⟩ := bdE hm
        refine cg_aaldA C hw (ty := .array .long) rfl rfl (aR_E ea4) dX11_turnsOver_15 ?_
        refine lv_iload_n hx hb dX11_turnsOver_16 rfl (lv_at hl 2 rfl) ?_
        obtain ⟨v5, ev5, hm⟩ := bdE hm
        refine cg_lald C hw ev5 dX11_turnsOver_17 ?_
        refine lv_lconst (v := 0) hx hb dX11_turnsOver_18 (by decide) ?_
        refine lc_ne (tgt := 26) hx hb dX11_turnsOver_19 dX11_turnsOver_20 (by decide) (fun c6 => ?_) (fun c6 => ?_)
        · have hm := ifT hm c6
          exact hB26 h x0 x1 x2 _ _ _ _ _ hm hw (by omega) (by omega) (lv_sub hl [0, 1, 2] rfl)
        · have hm := ifT' hm c6
          refine lv_goto (tgt := 51) hx hb dX11_turnsOver_23 (by decide) ?_
          obtain ⟨v7, ev7, hm⟩ := nmE hm
          refine lv_iinc (v := v7) (lv' := [(2, .int v7), (0, .ref x0), (1, .int x1)]) hx hb dX11_turnsOver_51 hl (k := 2) rfl (by rw [ev7]; rfl) (by decide) rfl (fun ls hl => ?_)
          refine lv_goto (tgt := 2) hx hb dX11_turnsOver_54 (by decide) ?_
          exact ih2 h x0 x1 v7 _ _ _ _ _ hm hw (by omega) (by omega) (lv_sub hl [1, 2, 0] rfl)
  rw [m_X11_turnsOver] at hm
  refine lv_iconst (v := 0) hx hb dX11_turnsOver_0 (by decide) ?_
  refine lv_istore_n (lv' := [(2, .int (0 : Int32)), (0, .ref x0), (1, .int x1)]) hx hb dX11_turnsOver_1 rfl hl (by decide) rfl (fun ls hl => ?_)
  exact hB2 f u x0 x1 (0 : Int32) _ _ _ _ _ hm hw (by omega) (by omega) (lv_sub hl [1, 2, 0] rfl)
def m_X11_init_52 (f : Nat) (h : CH) : Option CH := some h
theorem mo_X11_init_52 {f : Nat} : ∀ (h : CH) (r : CH), m_X11_init_52 f h = some r → le2 h r := by
  intro h r hm
  rw [m_X11_init_52] at hm
  cases hm
  exact le2.rf
def m_X11_init_46 (f : Nat) (k36 : CH → Nat → Int32 → Option CH) (h : CH) (x0 : Nat) (x2 : Int32) : Option CH := nmv ((x2 + 1) : Int32) fun v1 =>
    k36 h x0 v1
theorem mo_X11_init_46 {f : Nat} {k36 : CH → Nat → Int32 → Option CH} (hk36 : ∀ (h : CH) (x0 : Nat) (x2 : Int32) (r : CH), k36 h x0 x2 = some r → le2 h r) : ∀ (h : CH) (x0 : Nat) (x2 : Int32) (r : CH), m_X11_init_46 f k36 h x0 x2 = some r → le2 h r := by
  intro h x0 x2 r hm
  rw [m_X11_init_46] at hm
  obtain ⟨v1, ev1, hm⟩ := nmE hm
  exact (hk36 h x0 v1 _ hm)
def m_X11_init_36 (f : Nat) : Nat → CH → Nat → Int32 → Option CH
  | 0, _, _, _ => none
  | n36 + 1, h, x0, x2 => if (3 : Int32) ≤ x2 then
    m_X11_init_52 f h
    else gd (isC h x0 11) <|
    bd (m_X11_turnsOver f h x0 x2) fun h3 =>
    m_X11_init_46 f (m_X11_init_36 f n36) h3 x0 x2
theorem mo_X11_init_36 {f : Nat} : ∀ (n36 : Nat) (h : CH) (x0 : Nat) (x2 : Int32) (r : CH), m_X11_init_36 f n36 h x0 x2 = some r → le2 h r := by
  intro n36
  induction n36 with
  | zero => intro h x0 x2 r hm; rw [m_X11_init_36] at hm; exact noE hm
  | succ n36 ihm =>
    intro h x0 x2 r hm
    rw [m_X11_init_36] at hm
    by_cases c1 : (3 : Int32) ≤ x2
    · have hm := ifT hm c1
      exact (mo_X11_init_52  h _ hm)
    · have hm := ifF hm c1
      obtain ⟨g2, hm⟩ := gdE hm
      obtain ⟨h3, eh3, hm⟩ := bdE hm
      have lh3 := mo_X11_turnsOver eh3
      exact (lh3.tr (mo_X11_init_46 ihm h3 x0 x2 _ hm))
def m_X11_init_34 (f : Nat) (h : CH) (x0 : Nat) : Option CH := m_X11_init_36 f f h x0 (0 : Int32)
theorem mo_X11_init_34 {f : Nat} : ∀ (h : CH) (x0 : Nat) (r : CH), m_X11_init_34 f h x0 = some r → le2 h r := by
  intro h x0 r hm
  rw [m_X11_init_34] at hm
  exact (mo_X11_init_36  f h x0 (0 : Int32) _ hm)
def m_X11_init_31 (f : Nat) (k12 : CH → Nat → Option CH) (h : CH) (x0 : Nat) (y0 : Int32) : Option CH := if ¬ y0 = 0 then
    k12 h x0
    else m_X11_init_34 f h x0
theorem mo_X11_init_31 {f : Nat} {k12 : CH → Nat → Option CH} (hk12 : ∀ (h : CH) (x0 : Nat) (r : CH), k12 h x0 = some r → le2 h r) : ∀ (h : CH) (x0 : Nat) (y0 : Int32) (r : CH), m_X11_init_31 f k12 h x0 y0 = some r → le2 h r := by
  intro h x0 y0 r hm
  rw [m_X11_init_31] at hm
  by_cases c1 : ¬ y0 = 0
  · have hm := ifT hm c1
    exact (hk12 h x0 _ hm)
  · have hm := ifF hm c1
    exact (mo_X11_init_34  h x0 _ hm)
def m_X11_init_22 (f : Nat) (k12 : CH → Nat → Option CH) (h : CH) (x0 : Nat) (y0 : Int32) : Option CH := if ¬ y0 = 0 then
    k12 h x0
    else gd (isC h x0 11) <|
    bd2 (m_X11_betters f h x0 (1 : Int32) (0 : Int32)) fun r4 h3 =>
    m_X11_init_31 f k12 h3 x0 r4
theorem mo_X11_init_22 {f : Nat} {k12 : CH → Nat → Option CH} (hk12 : ∀ (h : CH) (x0 : Nat) (r : CH), k12 h x0 = some r → le2 h r) : ∀ (h : CH) (x0 : Nat) (y0 : Int32) (r : CH), m_X11_init_22 f k12 h x0 y0 = some r → le2 h r := by
  intro h x0 y0 r hm
  rw [m_X11_init_22] at hm
  by_cases c1 : ¬ y0 = 0
  · have hm := ifT hm c1
    exact (hk12 h x0 _ hm)
  · have hm := ifF hm c1
    obtain ⟨g2, hm⟩ := gdE hm
    obtain ⟨r4, h3, er4, hm⟩ := bd2E hm
    have lh3 := mo_X11_betters er4
    exact (lh3.tr (mo_X11_init_31 hk12 h3 x0 r4 _ hm))
def m_X11_init_16 (f : Nat) (k12 : CH → Nat → Option CH) (h : CH) (x0 : Nat) : Option CH := gd (isC h x0 11) <|
    bd2 (m_X11_betters f h x0 (2 : Int32) (1 : Int32)) fun r3 h2 =>
    m_X11_init_22 f k12 h2 x0 r3
theorem mo_X11_init_16 {f : Nat} {k12 : CH → Nat → Option CH} (hk12 : ∀ (h : CH) (x0 : Nat) (r : CH), k12 h x0 = some r → le2 h r) : ∀ (h : CH) (x0 : Nat) (r : CH), m_X11_init_16 f k12 h x0 = some r → le2 h r := by
  intro h x0 r hm
  rw [m_X11_init_16] at hm
  obtain ⟨g1, hm⟩ := gdE hm
  obtain ⟨r3, h2, er3, hm⟩ := bd2E hm
  have lh2 := mo_X11_betters er3
  exact (lh2.tr (mo_X11_init_22 hk12 h2 x0 r3 _ hm))
def m_X11_init_12 (f : Nat) : Nat → CH → Nat → Option CH
  | 0, _, _ => none
  | n12 + 1, h, x0 => gd (isC h x0 11) <|
    bd (m_X11_orders f h x0) fun h2 =>
    m_X11_init_16 f (m_X11_init_12 f n12) h2 x0
theorem mo_X11_init_12 {f : Nat} : ∀ (n12 : Nat) (h : CH) (x0 : Nat) (r : CH), m_X11_init_12 f n12 h x0 = some r → le2 h r := by
  intro n12
  induction n12 with
  | zero => intro h x0 r hm; rw [m_X11_init_12] at hm; exact noE hm
  | succ n12 ihm =>
    intro h x0 r hm
    rw [m_X11_init_12] at hm
    obtain ⟨g1, hm⟩ := gdE hm
    obtain ⟨h2, eh2, hm⟩ := bdE hm
    have lh2 := mo_X11_orders eh2
    exact (lh2.tr (mo_X11_init_16 ihm h2 x0 _ hm))
def m_X11_init_9 (f : Nat) (h : CH) (x0 : Nat) (y0 : Nat) (y1 : Nat) : Option CH := bd (pF h 11 0 y0 (.ref y1)) fun h1 =>
    m_X11_init_12 f f h1 x0
theorem mo_X11_init_9 {f : Nat} : ∀ (h : CH) (x0 : Nat) (y0 : Nat) (y1 : Nat) (r : CH), m_X11_init_9 f h x0 y0 y1 = some r → le2 h r := by
  intro h x0 y0 y1 r hm
  rw [m_X11_init_9] at hm
  obtain ⟨h1, eh1, hm⟩ := bdE hm
  have lh1 := pF_le eh1
  exact (lh1.tr (mo_X11_init_12  f h1 x0 _ hm))
def m_X11_init (f : Nat) (u : CH) (x0 : Nat) (x1 : Nat) : Option CH := gd (isC u x1 3) <|
    bd2 (m_X2_copy f u x1) fun a3 h2 =>
    m_X11_init_9 f h2 x0 x0 a3
theorem mo_X11_init {f : Nat} {u : CH} {x0 : Nat} {x1 : Nat} {u9 : CH} (hm : m_X11_init f u x0 x1 = some u9) : le2 u u9 := by
  rw [m_X11_init] at hm
  obtain ⟨g1, hm⟩ := gdE hm
  obtain ⟨a3, h2, ea3, hm⟩ := bd2E hm
  have lh2 := mo_X2_copy ea3
  exact (lh2.tr (mo_X11_init_9  h2 x0 x0 a3 _ hm))
abbrev rm_X11_init (mc ms : Nat) : Room := { frames := 3, cells := mc, slots := ms, locals := 70 }
theorem cw_X11_init {R : Room} {s : State} {args : Array Value} {own : String} {idx mc ms : Nat} (hts : ∀ w ∈ lw_all, w.before args s = true) (hl : Cond.methodLink own idx yX11_init ∈ lw_all) (hR : 3 + 1 ≤ R.frames ∧ 8 + (3 + 11) + 70 ≤ R.locals) : CallB R s args own idx yX11_init cX11_init 3 none (ws_ yX11_init cX11_init 3 (Option.none : Option Jvm.ClassFile.FieldType)) (rm_X11_init mc ms) mc ms 1 ∧ yX11_init.name = "<init>" ∧ (Cond.instanceMethod yX11_init).before args s = true := cwI 1 hts (lw_meth q1225) rfl rfl rfl (hts _ q148) (hts _ hl) (hts _ q1224) rfl (by decide +kernel) hR
set_option maxHeartbeats 4000000 in
set_option maxRecDepth 100000 in
theorem w_X11_init (l : Launch) {D : va_G} {dA : Nat → ClassId} {A : Nat → Prop} {f : Nat} {u u9 : CH} {x0 : Nat} {x1 : Nat} (hm : m_X11_init f u x0 x1 = some u9) : Met l yX11_init (ws_ yX11_init cX11_init 3 (Option.none : Option Jvm.ClassFile.FieldType)) (rm_X11_init (u9.1 - u.1) (u9.2.1 - u.2.1)) (va_Pc [.ref x0, .ref x1] (CPre D dA A u)) (va_Qv (fun u => u = u9) (CPost D dA A) A) (u9.1 - u.1) (u9.2.1 - u.2.1) A := by
  refine Met.ofW (cc := cX11_init) (maxL := 3) (ret := (Option.none : Option Jvm.ClassFile.FieldType)) (by decide) rfl ?_
  intro p e s m args below meth c s₁ B hml hv
  have hx := B.exec
  have hb := B.bytes
  have hr := B.returns
  have hts := atoms_spec (ws := (ws_ yX11_init cX11_init 3 (Option.none : Option Jvm.ClassFile.FieldType))) B.pre
  have hts : ∀ w ∈ lw_all, w.before args s = true := fun w h => hts w (List.mem_cons_of_mem _ h)
  have hown : s.vm.findClass RX11 = some m.cls := findClass_of_methodNamed B.named
  have hlocks := B.notSynchronized
  have hin : meth.name = "<init>" := (name_of_methodNamed B.named B.method).1
  obtain ⟨hav, hv⟩ := hv
  have C : CX p s m args c cX11_init RX11 D dA := ⟨hx, hb, hown, hts, hv.2⟩
  have hw : CW D dA A s u s.heap [] := hv.1
  generalize hQ : MQ below (va_Qv (fun u => u = u9) (CPost D dA A) A) args s (u9.1 - u.1) (u9.2.1 - u.2.1) A = QQ
  have hent := lg_entry_eq m [.ref x0, .ref x1] 3
  rw [← hav] at hent
  rw [hent]
  have hl := lv_entry ([.ref x0, .ref x1]) (n := 3) (Nat.le_of_ble_eq_true rfl)
  generalize (lg_sl ([.ref x0, .ref x1]) ++ List.replicate (3 - (lg_sl ([.ref x0, .ref x1])).length) Slot.unset).toArray = ls at hl ⊢
  have hl : lv_has ls 3 [(0, .ref x0), (1, .ref x1)] := hl
  obtain ⟨cc, ecc⟩ : ∃ z : Nat, z = 0 := ⟨0, rfl⟩
  obtain ⟨ss, ess⟩ : ∃ z : Nat, z = 0 := ⟨0, rfl⟩
  have hcc : cc + u.1 = u.1 := by omega
  have hss : ss + u.2.1 = u.2.1 := by omega
  suffices hgo : W p l e (rm_X11_init (u9.1 - u.1) (u9.2.1 - u.2.1)) s m args below meth c s.heap [] cc ss QQ (F0 m 0 ls []) by rw [ecc, ess] at hgo; exact hgo
  have ⟨pu, qu, _, _⟩ := mo_X11_init hm
  have hB52 : ∀ (h : CH) (cc ss : Nat) (H : Heap) (locs : List Loc) (ls : Array Slot), m_X11_init_52 f h = some u9 → CW D dA A s h H locs → cc + u.1 = h.1 → ss + u.2.1 = h.2.1 → lv_has ls 3 [] → W p l e (rm_X11_init (u9.1 - u.1) (u9.2.1 - u.2.1)) s m args below meth c H locs cc ss QQ (F0 m 52 ls []) := by
    intro h cc ss H locs ls hm hw hcc hss hl
    have hmo := mo_X11_init_52  h _ hm
    have sb_ : h.1 ≤ u9.1 := hmo.1
    have tb_ : h.2.1 ≤ u9.2.1 := hmo.2.1
    rw [m_X11_init_52] at hm
    have eh := ret1 hm
    have ec : cc = u9.1 - u.1 := by rw [← eh]; omega
    have es : ss = u9.2.1 - u.2.1 := by rw [← eh]; omega
    rw [ec, es, ← hQ]
    exact W.vret hx hb hr (fun t ht hW => ⟨⟨h, rfl, eh, ⟨by rw [ht]; exact hw.1, by rw [ht]; exact hw.2.1⟩⟩, hw.2.2.1.F ht⟩) hw.2.2.1.2.2 dX11_init_52
  have hB36 : ∀ (n36 : Nat), ∀ (h : CH) (x0 : Nat) (x2 : Int32) (cc ss : Nat) (H : Heap) (locs : List Loc) (ls : Array Slot), m_X11_init_36 f n36 h x0 x2 = some u9 → CW D dA A s h H locs → cc + u.1 = h.1 → ss + u.2.1 = h.2.1 → lv_has ls 3 [(0, .ref x0), (2, .int x2)] → W p l e (rm_X11_init (u9.1 - u.1) (u9.2.1 - u.2.1)) s m args below meth c H locs cc ss QQ (F0 m 36 ls []) := by
    intro n36
    induction n36 with
    | zero => intro h x0 x2 cc ss H locs ls hm hw hcc hss hl; rw [m_X11_init_36] at hm; exact noE hm
    | succ n36 ih36 =>
      have hB46 : ∀ (h : CH) (x0 : Nat) (x2 : Int32) (cc ss : Nat) (H : Heap) (locs : List Loc) (ls : Array Slot), m_X11_init_46 f (m_X11_init_36 f n36) h x0 x2 = some u9 → CW D dA A s h H locs → cc + u.1 = h.1 → ss + u.2.1 = h.2.1 → lv_has ls 3 [(0, .ref x0), (2, .int x2)] → W p l e (rm_X11_init (u9.1 - u.1) (u9.2.1 - u.2.1)) s m args below meth c H locs cc ss QQ (F0 m 46 ls []) := by
        intro h x0 x2 cc ss H locs ls hm hw hcc hss hl
        have hmo := mo_X11_init_46 (mo_X11_init_36 n36) h x0 x2 _ hm
        have sb_ : h.1 ≤ u9.1 := hmo.1
        have tb_ : h.2.1 ≤ u9.2.1 := hmo.2.1
        rw [m_X11_init_46] at hm
        obtain ⟨v1, ev1, hm⟩ := nmE hm
        refine lv_iinc (v := v1) (lv' := [(2, .int v1), (0, .ref x0)]) hx hb dX11_init_46 hl (k := 1) rfl (by rw [ev1]; rfl) (by decide) rfl (fun ls hl => ?_)
        refine lv_goto (tgt := 36) hx hb dX11_init_49 (by decide) ?_
        exact ih36 h x0 v1 _ _ _ _ _ hm hw (by omega) (by omega) (lv_sub hl [1, 0] rfl)
      intro h x0 x2 cc ss H locs ls hm hw hcc hss hl
      have hmo := mo_X11_init_36  (n36 + 1) h x0 x2 _ hm
      have sb_ : h.1 ≤ u9.1 := hmo.1
      have tb_ : h.2.1 ≤ u9.2.1 := hmo.2.1
      rw [m_X11_init_36] at hm
      refine lv_iload_n hx hb dX11_init_36 rfl (lv_at hl 1 rfl) ?_
      refine lv_iconst (v := 3) hx hb dX11_init_37 (by decide) ?_
      refine lv_icmp_ge (tgt := 52) hx hb dX11_init_38 (by decide) (fun c1 => ?_) (fun c1 => ?_)
      · have hm := ifT hm c1
        exact hB52 h _ _ _ _ _ hm hw (by omega) (by omega) (lv_sub hl [] rfl)
      · have hm := ifF hm c1
        refine lv_aload_n hx hb dX11_init_41 rfl (lv_at hl 0 rfl) ?_
        refine lv_iload_n hx hb dX11_init_42 rfl (lv_at hl 1 rfl) ?_
        obtain ⟨g2, hm⟩ := gdE hm
        obtain ⟨h3, eh3, hm⟩ := bdE hm
        have lh3 := mo_X11_turnsOver eh3
        have ph3 : h.1 ≤ h3.1 := lh3.1
        have qh3 : h.2.1 ≤ h3.2.1 := lh3.2.1
        have hmo := mo_X11_init_46 (mo_X11_init_36 n36)  h3 x0 x2 _ hm
        have sh3 : h3.1 ≤ u9.1 := hmo.1
        have th3 : h3.2.1 ≤ u9.2.1 := hmo.2.1
        refine cg_callv hw lh3 (va_runV (As := [.int x2]) (rest := []) ⟨hx, hb, hml, hown, hts⟩ (w_X11_turnsOver l eh3) (cw_X11_turnsOver hts q1250 ⟨Nat.le_of_ble_eq_true rfl, Nat.le_of_ble_eq_true rfl⟩) (cg_preV C hw g2 rfl _) rfl rfl hl.1 rfl (lv_room (Nat.le_of_ble_eq_true rfl)) dX11_init_43 ⟨show cc + (h3.1 - h.1) ≤ u9.1 - u.1 by omega, show ss + (h3.2.1 - h.2.1) ≤ u9.2.1 - u.2.1 by omega⟩) (fun H locs hw => ?_)
        exact hB46 h3 x0 x2 _ _ _ _ _ hm hw (by omega) (by omega) (lv_sub hl [0, 1] rfl)
  have hB34 : ∀ (h : CH) (x0 : Nat) (cc ss : Nat) (H : Heap) (locs : List Loc) (ls : Array Slot), m_X11_init_34 f h x0 = some u9 → CW D dA A s h H locs → cc + u.1 = h.1 → ss + u.2.1 = h.2.1 → lv_has ls 3 [(0, .ref x0)] → W p l e (rm_X11_init (u9.1 - u.1) (u9.2.1 - u.2.1)) s m args below meth c H locs cc ss QQ (F0 m 34 ls []) := by
    intro h x0 cc ss H locs ls hm hw hcc hss hl
    have hmo := mo_X11_init_34  h x0 _ hm
    have sb_ : h.1 ≤ u9.1 := hmo.1
    have tb_ : h.2.1 ≤ u9.2.1 := hmo.2.1
    rw [m_X11_init_34] at hm
    refine lv_iconst (v := 0) hx hb dX11_init_34 (by decide) ?_
    refine lv_istore_n (lv' := [(2, .int (0 : Int32)), (0, .ref x0)]) hx hb dX11_init_35 rfl hl (by decide) rfl (fun ls hl => ?_)
    exact hB36 f h x0 (0 : Int32) _ _ _ _ _ hm hw (by omega) (by omega) (lv_sub hl [1, 0] rfl)
  have hB12 : ∀ (n12 : Nat), ∀ (h : CH) (x0 : Nat) (cc ss : Nat) (H : Heap) (locs : List Loc) (ls : Array Slot), m_X11_init_12 f n12 h x0 = some u9 → CW D dA A s h H locs → cc + u.1 = h.1 → ss + u.2.1 = h.2.1 → lv_has ls 3 [(0, .ref x0)] → W p l e (rm_X11_init (u9.1 - u.1) (u9.2.1 - u.2.1)) s m args below meth c H locs cc ss QQ (F0 m 12 ls []) := by
    intro n12
    induction n12 with
    | zero => intro h x0 cc ss H locs ls hm hw hcc hss hl; rw [m_X11_init_12] at hm; exact noE hm
    | succ n12 ih12 =>
      have hB31 : ∀ (h : CH) (x0 : Nat) (y0 : Int32) (cc ss : Nat) (H : Heap) (locs : List Loc) (ls : Array Slot), m_X11_init_31 f (m_X11_init_12 f n12) h x0 y0 = some u9 → CW D dA A s h H locs → cc + u.1 = h.1 → ss + u.2.1 = h.2.1 → lv_has ls 3 [(0, .ref x0)] → W p l e (rm_X11_init (u9.1 - u.1) (u9.2.1 - u.2.1)) s m args below meth c H locs cc ss QQ (F0 m 31 ls [.int y0]) := by
        intro h x0 y0 cc ss H locs ls hm hw hcc hss hl
        have hmo := mo_X11_init_31 (mo_X11_init_12 n12) h x0 y0 _ hm
        have sb_ : h.1 ≤ u9.1 := hmo.1
        have tb_ : h.2.1 ≤ u9.2.1 := hmo.2.1
        rw [m_X11_init_31] at hm
        refine lv_if_ne (tgt := 12) hx hb dX11_init_31 (by decide) (fun c1 => ?_) (fun c1 => ?_)
        · have hm := ifT hm c1
          exact ih12 h x0 _ _ _ _ _ hm hw (by omega) (by omega) (lv_sub hl [0] rfl)
        · have hm := ifT' hm c1
          exact hB34 h x0 _ _ _ _ _ hm hw (by omega) (by omega) (lv_sub hl [0] rfl)
      have hB22 : ∀ (h : CH) (x0 : Nat) (y0 : Int32) (cc ss : Nat) (H : Heap) (locs : List Loc) (ls : Array Slot), m_X11_init_22 f (m_X11_init_12 f n12) h x0 y0 = some u9 → CW D dA A s h H locs → cc + u.1 = h.1 → ss + u.2.1 = h.2.1 → lv_has ls 3 [(0, .ref x0)] → W p l e (rm_X11_init (u9.1 - u.1) (u9.2.1 - u.2.1)) s m args below meth c H locs cc ss QQ (F0 m 22 ls [.int y0]) := by
        intro h x0 y0 cc ss H locs ls hm hw hcc hss hl
        have hmo := mo_X11_init_22 (mo_X11_init_12 n12) h x0 y0 _ hm
        have sb_ : h.1 ≤ u9.1 := hmo.1
        have tb_ : h.2.1 ≤ u9.2.1 := hmo.2.1
        rw [m_X11_init_22] at hm
        refine lv_if_ne (tgt := 12) hx hb dX11_init_22 (by decide) (fun c1 => ?_) (fun c1 => ?_)
        · have hm := ifT hm c1
          exact ih12 h x0 _ _ _ _ _ hm hw (by omega) (by omega) (lv_sub hl [0] rfl)
        · have hm := ifT' hm c1
          refine lv_aload_n hx hb dX11_init_25 rfl (lv_at hl 0 rfl) ?_
          refine lv_iconst (v := 1) hx hb dX11_init_26 (by decide) ?_
          refine lv_iconst (v := 0) hx hb dX11_init_27 (by decide) ?_
          obtain ⟨g2, hm⟩ := gdE hm
          obtain ⟨r4, h3, er4, hm⟩ := bd2E hm
          have lh3 := mo_X11_betters er4
          have ph3 : h.1 ≤ h3.1 := lh3.1
          have qh3 : h.2.1 ≤ h3.2.1 := lh3.2.1
          have hmo := mo_X11_init_31 (mo_X11_init_12 n12)  h3 x0 r4 _ hm
          have sh3 : h3.1 ≤ u9.1 := hmo.1
          have th3 : h3.2.1 ≤ u9.2.1 := hmo.2.1
          refine cg_calli hw lh3 (va_runV (As := [.int (1 : Int32), .int (0 : Int32)]) (rest := []) ⟨hx, hb, hml, hown, hts⟩ (w_X11_betters l er4) (cw_X11_betters hts q1241 ⟨Nat.le_of_ble_eq_true rfl, Nat.le_of_ble_eq_true rfl⟩) (cg_preV C hw g2 rfl _) rfl rfl hl.1 rfl (lv_room (Nat.le_of_ble_eq_true rfl)) dX11_init_28 ⟨show cc + (h3.1 - h.1) ≤ u9.1 - u.1 by omega, show ss + (h3.2.1 - h.2.1) ≤ u9.2.1 - u.2.1 by omega⟩) (fun H locs hw => ?_)
          exact hB31 h3 x0 r4 _ _ _ _ _ hm hw (by omega) (by omega) (lv_sub hl [0] rfl)
      have hB16 : ∀ (h : CH) (x0 : Nat) (cc ss : Nat) (H : Heap) (locs : List Loc) (ls : Array Slot), m_X11_init_16 f (m_X11_init_12 f n12) h x0 = some u9 → CW D dA A s h H locs → cc + u.1 = h.1 → ss + u.2.1 = h.2.1 → lv_has ls 3 [(0, .ref x0)] → W p l e (rm_X11_init (u9.1 - u.1) (u9.2.1 - u.2.1)) s m args below meth c H locs cc ss QQ (F0 m 16 ls []) := by
        intro h x0 cc ss H locs ls hm hw hcc hss hl
        have hmo := mo_X11_init_16 (mo_X11_init_12 n12) h x0 _ hm
        have sb_ : h.1 ≤ u9.1 := hmo.1
        have tb_ : h.2.1 ≤ u9.2.1 := hmo.2.1
        rw [m_X11_init_16] at hm
        refine lv_aload_n hx hb dX11_init_16 rfl (lv_at hl 0 rfl) ?_
        refine lv_iconst (v := 2) hx hb dX11_init_17 (by decide) ?_
        refine lv_iconst (v := 1) hx hb dX11_init_18 (by decide) ?_
        obtain ⟨g1, hm⟩ := gdE hm
        obtain ⟨r3, h2, er3, hm⟩ := bd2E hm
        have lh2 := mo_X11_betters er3
        have ph2 : h.1 ≤ h2.1 := lh2.1
        have qh2 : h.2.1 ≤ h2.2.1 := lh2.2.1
        have hmo := mo_X11_init_22 (mo_X11_init_12 n12)  h2 x0 r3 _ hm
        have sh2 : h2.1 ≤ u9.1 := hmo.1
        have th2 : h2.2.1 ≤ u9.2.1 := hmo.2.1
        refine cg_calli hw lh2 (va_runV (As := [.int (2 : Int32), .int (1 : Int32)]) (rest := []) ⟨hx, hb, hml, hown, hts⟩ (w_X11_betters l er3) (cw_X11_betters hts q1241 ⟨Nat.le_of_ble_eq_true rfl, Nat.le_of_ble_eq_true rfl⟩) (cg_preV C hw g1 rfl _) rfl rfl hl.1 rfl (lv_room (Nat.le_of_ble_eq_true rfl)) dX11_init_19 ⟨show cc + (h2.1 - h.1) ≤ u9.1 - u.1 by omega, show ss + (h2.2.1 - h.2.1) ≤ u9.2.1 - u.2.1 by omega⟩) (fun H locs hw => ?_)
        exact hB22 h2 x0 r3 _ _ _ _ _ hm hw (by omega) (by omega) (lv_sub hl [0] rfl)
      intro h x0 cc ss H locs ls hm hw hcc hss hl
      have hmo := mo_X11_init_12  (n12 + 1) h x0 _ hm
      have sb_ : h.1 ≤ u9.1 := hmo.1
      have tb_ : h.2.1 ≤ u9.2.1 := hmo.2.1
      rw [m_X11_init_12] at hm
      refine lv_aload_n hx hb dX11_init_12 rfl (lv_at hl 0 rfl) ?_
      obtain ⟨g1, hm⟩ := gdE hm
      obtain ⟨h2, eh2, hm⟩ := bdE hm
      have lh2 := mo_X11_orders eh2
      have ph2 : h.1 ≤ h2.1 := lh2.1
      have qh2 : h.2.1 ≤ h2.2.1 := lh2.2.1
      have hmo := mo_X11_init_16 (mo_X11_init_12 n12)  h2 x0 _ hm
      have sh2 : h2.1 ≤ u9.1 := hmo.1
      have th2 : h2.2.1 ≤ u9.2.1 := hmo.2.1
      refine cg_callv hw lh2 (va_runV (As := []) (rest := []) ⟨hx, hb, hml, hown, hts⟩ (w_X11_orders l eh2) (cw_X11_orders hts q1228 ⟨Nat.le_of_ble_eq_true rfl, Nat.le_of_ble_eq_true rfl⟩) (cg_preV C hw g1 rfl _) rfl rfl hl.1 rfl (lv_room (Nat.le_of_ble_eq_true rfl)) dX11_init_13 ⟨show cc + (h2.1 - h.1) ≤ u9.1 - u.1 by omega, show ss + (h2.2.1 - h.2.1) ≤ u9.2.1 - u.2.1 by omega⟩) (fun H locs hw => ?_)
      exact hB16 h2 x0 _ _ _ _ _ hm hw (by omega) (by omega) (lv_sub hl [0] rfl)
  have hB9 : ∀ (h : CH) (x0 : Nat) (y0 : Nat) (y1 : Nat) (cc ss : Nat) (H : Heap) (locs : List Loc) (ls : Array Slot), m_X11_init_9 f h x0 y0 y1 = some u9 → CW D dA A s h H locs → cc + u.1 = h.1 → ss + u.2.1 = h.2.1 → lv_has ls 3 [(0, .ref x0)] → W p l e (rm_X11_init (u9.1 - u.1) (u9.2.1 - u.2.1)) s m args below meth c H locs cc ss QQ (F0 m 9 ls [.ref y1, .ref y0]) := by
    intro h x0 y0 y1 cc ss H locs ls hm hw hcc hss hl
    have hmo := mo_X11_init_9  h x0 y0 y1 _ hm
    have sb_ : h.1 ≤ u9.1 := hmo.1
    have tb_ : h.2.1 ≤ u9.2.1 := hmo.2.1
    rw [m_X11_init_9] at hm
    obtain ⟨h1, eh1, hm⟩ := bdE hm
    refine cg_putF C hw eh1 rfl in_X11 tyX11 tyX11_ok nmX11 (by decide) q1255 rfl hin rfl rfl rfl dX11_init_9 (fun H locs hw => ?_)
    have zh1 := pF_sz eh1
    exact hB12 f h1 x0 _ _ _ _ _ hm hw (by omega) (by omega) (lv_sub hl [0] rfl)
  rw [m_X11_init] at hm
  refine lv_aload_n hx hb dX11_init_0 rfl (lv_at hl 0 rfl) ?_
  refine W.objInit hx hb hown (hts _ q1226) (hts _ q161) (hts _ q162) rfl (by rw [hml]; exact hl.1) rfl dX11_init_1 (Nat.le_of_ble_eq_true rfl) (Nat.le_of_ble_eq_true rfl) ?_
  refine W.eq (g2 := F0 m 4 ls []) rfl ?_
  refine lv_aload_n hx hb dX11_init_4 rfl (lv_at hl 0 rfl) ?_
  refine lv_aload_n hx hb dX11_init_5 rfl (lv_at hl 1 rfl) ?_
  obtain ⟨g1, hm⟩ := gdE hm
  obtain ⟨a3, h2, ea3, hm⟩ := bd2E hm
  have lh2 := mo_X2_copy ea3
  have ph2 : u.1 ≤ h2.1 := lh2.1
  have qh2 : u.2.1 ≤ h2.2.1 := lh2.2.1
  have hmo := mo_X11_init_9   h2 x0 x0 a3 _ hm
  have sh2 : h2.1 ≤ u9.1 := hmo.1
  have th2 : h2.2.1 ≤ u9.2.1 := hmo.2.1
  refine cg_callr hw lh2 (va_runV (As := []) (rest := [.ref x0]) ⟨hx, hb, hml, hown, hts⟩ (w_X2_copy l ea3) (cw_X2_copy hts q1227 ⟨Nat.le_of_ble_eq_true rfl, Nat.le_of_ble_eq_true rfl⟩) (cg_preV C hw g1 rfl _) rfl rfl hl.1 rfl (lv_room (Nat.le_of_ble_eq_true rfl)) dX11_init_6 ⟨show cc + (h2.1 - u.1) ≤ u9.1 - u.1 by omega, show ss + (h2.2.1 - u.2.1) ≤ u9.2.1 - u.2.1 by omega⟩) (fun H locs hw => ?_)
  exact hB9 h2 x0 x0 a3 _ _ _ _ _ hm hw (by omega) (by omega) (lv_sub hl [0] rfl)
def m_X0_reducedOf_25 (f : Nat) (h : CH) (y0 : Nat) : Option (Nat × CH) := some (y0, h)
theorem mo_X0_reducedOf_25 {f : Nat} : ∀ (h : CH) (y0 : Nat) (r : (Nat × CH)), m_X0_reducedOf_25 f h y0 = some r → le2 h r.2 := by
  intro h y0 r hm
  rw [m_X0_reducedOf_25] at hm
  cases hm
  exact le2.rf
def m_X0_reducedOf_19 (f : Nat) (h : CH) (y0 : Nat) (y1 : Nat) (y2 : Nat) : Option (Nat × CH) := bd (oR h 8 0 y2) fun a1 =>
    bd (m_X11_init f h y1 a1) fun h2 =>
    m_X0_reducedOf_25 f h2 y0
theorem mo_X0_reducedOf_19 {f : Nat} : ∀ (h : CH) (y0 : Nat) (y1 : Nat) (y2 : Nat) (r : (Nat × CH)), m_X0_reducedOf_19 f h y0 y1 y2 = some r → le2 h r.2 := by
  intro h y0 y1 y2 r hm
  rw [m_X0_reducedOf_19] at hm
  obtain ⟨a1, ea1, hm⟩ := bdE hm
  obtain ⟨h2, eh2, hm⟩ := bdE hm
  have lh2 := mo_X11_init eh2
  exact (lh2.tr (mo_X0_reducedOf_25  h2 y0 _ hm))
def m_X0_reducedOf_16 (f : Nat) (h : CH) (y0 : Nat) (y1 : Nat) (y2 : Nat) (y3 : Nat) (y4 : Nat) : Option (Nat × CH) := bd (m_X8_init f h y3 y4) fun h1 =>
    m_X0_reducedOf_19 f h1 y0 y1 y2
theorem mo_X0_reducedOf_16 {f : Nat} : ∀ (h : CH) (y0 : Nat) (y1 : Nat) (y2 : Nat) (y3 : Nat) (y4 : Nat) (r : (Nat × CH)), m_X0_reducedOf_16 f h y0 y1 y2 y3 y4 = some r → le2 h r.2 := by
  intro h y0 y1 y2 y3 y4 r hm
  rw [m_X0_reducedOf_16] at hm
  obtain ⟨h1, eh1, hm⟩ := bdE hm
  have lh1 := mo_X8_init eh1
  exact (lh1.tr (mo_X0_reducedOf_19  h1 y0 y1 y2 _ hm))
def m_X0_reducedOf_13 (f : Nat) (h : CH) (y0 : Nat) (y1 : Nat) (y2 : Nat) (y3 : Nat) (y4 : Nat) : Option (Nat × CH) := if isC h y4 6 = true then
    bd2 (m_X6_rows f h y4) fun a3 h2 =>
    m_X0_reducedOf_16 f h2 y0 y1 y2 y3 a3
    else gd (isC h y4 7) <|
    bd2 (m_X7_rows f h y4) fun a6 h5 =>
    m_X0_reducedOf_16 f h5 y0 y1 y2 y3 a6
theorem mo_X0_reducedOf_13 {f : Nat} : ∀ (h : CH) (y0 : Nat) (y1 : Nat) (y2 : Nat) (y3 : Nat) (y4 : Nat) (r : (Nat × CH)), m_X0_reducedOf_13 f h y0 y1 y2 y3 y4 = some r → le2 h r.2 := by
  intro h y0 y1 y2 y3 y4 r hm
  rw [m_X0_reducedOf_13] at hm
  by_cases c1 : isC h y4 6 = true
  · have hm := ifT hm c1
    obtain ⟨a3, h2, ea3, hm⟩ := bd2E hm
    have lh2 := mo_X6_rows ea3
    exact (lh2.tr (mo_X0_reducedOf_16  h2 y0 y1 y2 y3 a3 _ hm))
  · have hm := ifF hm c1
    obtain ⟨g4, hm⟩ := gdE hm
    obtain ⟨a6, h5, ea6, hm⟩ := bd2E hm
    have lh5 := mo_X7_rows ea6
    exact (lh5.tr (mo_X0_reducedOf_16  h5 y0 y1 y2 y3 a6 _ hm))
def m_X0_reducedOf_7 (f : Nat) (h : CH) (x0 : Nat) (x1 : Int32) (y0 : Nat) (y1 : Nat) (y2 : Nat) : Option (Nat × CH) := gd (isC h x0 1) <|
    bd2 (m_X0_at f h x0 x1) fun a3 h2 =>
    m_X0_reducedOf_13 f h2 y0 y1 y2 y2 a3
theorem mo_X0_reducedOf_7 {f : Nat} : ∀ (h : CH) (x0 : Nat) (x1 : Int32) (y0 : Nat) (y1 : Nat) (y2 : Nat) (r : (Nat × CH)), m_X0_reducedOf_7 f h x0 x1 y0 y1 y2 = some r → le2 h r.2 := by
  intro h x0 x1 y0 y1 y2 r hm
  rw [m_X0_reducedOf_7] at hm
  obtain ⟨g1, hm⟩ := gdE hm
  obtain ⟨a3, h2, ea3, hm⟩ := bd2E hm
  have lh2 := mo_X0_at ea3
  exact (lh2.tr (mo_X0_reducedOf_13  h2 y0 y1 y2 y2 a3 _ hm))
def m_X0_reducedOf_3 (f : Nat) (h : CH) (x0 : Nat) (x1 : Int32) (y0 : Nat) : Option (Nat × CH) := nmv (cn h 2 (.inl (8, [.null, .null]))) fun h1 =>
    nmv (h.1 : Nat) fun a2 =>
    m_X0_reducedOf_7 f h1 x0 x1 y0 y0 a2
theorem mo_X0_reducedOf_3 {f : Nat} : ∀ (h : CH) (x0 : Nat) (x1 : Int32) (y0 : Nat) (r : (Nat × CH)), m_X0_reducedOf_3 f h x0 x1 y0 = some r → le2 h r.2 := by
  intro h x0 x1 y0 r hm
  rw [m_X0_reducedOf_3] at hm
  obtain ⟨h1, eh1, hm⟩ := nmE hm
  have lh1 := cn_le eh1
  obtain ⟨a2, ea2, hm⟩ := nmE hm
  exact (lh1.tr (mo_X0_reducedOf_7  h1 x0 x1 y0 y0 a2 _ hm))
def m_X0_reducedOf (f : Nat) (u : CH) (x0 : Nat) (x1 : Int32) : Option (Nat × CH) := nmv (cn u 2 (.inl (11, [.null, .int 0]))) fun h1 =>
    nmv (u.1 : Nat) fun a2 =>
    m_X0_reducedOf_3 f h1 x0 x1 a2
theorem mo_X0_reducedOf {f : Nat} {u : CH} {x0 : Nat} {x1 : Int32} {r0 : Nat} {u9 : CH} (hm : m_X0_reducedOf f u x0 x1 = some (r0, u9)) : le2 u u9 := by
  rw [m_X0_reducedOf] at hm
  obtain ⟨h1, eh1, hm⟩ := nmE hm
  have lh1 := cn_le eh1
  obtain ⟨a2, ea2, hm⟩ := nmE hm
  exact (lh1.tr (mo_X0_reducedOf_3  h1 x0 x1 a2 _ hm))
abbrev rm_X0_reducedOf (mc ms : Nat) : Room := { frames := 105, cells := mc, slots := ms, locals := 4127 }
theorem cw_X0_reducedOf {R : Room} {s : State} {args : Array Value} {own : String} {idx mc ms : Nat} (hts : ∀ w ∈ lw_all, w.before args s = true) (hl : Cond.methodLink own idx yX0_reducedOf ∈ lw_all) (hR : 105 + 1 ≤ R.frames ∧ 8 + (2 + 11) + 4127 ≤ R.locals) : CallW R s args own RX0 idx yX0_reducedOf cX0_reducedOf 2 (Option.some (Jvm.ClassFile.FieldType.object "CoincideBench$Reduced")) (ws_ yX0_reducedOf cX0_reducedOf 2 (Option.some (Jvm.ClassFile.FieldType.object "CoincideBench$Reduced"))) (rm_X0_reducedOf mc ms) mc ms 1 := cwV 1 hts (lw_V hl q1219 qs34 q119 q1220) rfl rfl rfl (by decide +kernel) hR
set_option maxHeartbeats 4000000 in
set_option maxRecDepth 100000 in
theorem w_X0_reducedOf (l : Launch) {D : va_G} {dA : Nat → ClassId} {A : Nat → Prop} {f : Nat} {u u9 : CH} {r0 : Nat} {x0 : Nat} {x1 : Int32} (hm : m_X0_reducedOf f u x0 x1 = some (r0, u9)) : Met l yX0_reducedOf (ws_ yX0_reducedOf cX0_reducedOf 2 (Option.some (Jvm.ClassFile.FieldType.object "CoincideBench$Reduced"))) (rm_X0_reducedOf (u9.1 - u.1) (u9.2.1 - u.2.1)) (va_Pc [.ref x0, .int x1] (CPre D dA A u)) (va_Qr (fun u => u = u9) (fun u r t => r = r0 ∧ CPost D dA A u t) A) (u9.1 - u.1) (u9.2.1 - u.2.1) A := by
  refine Met.ofW (cc := cX0_reducedOf) (maxL := 2) (ret := (Option.some (Jvm.ClassFile.FieldType.object "CoincideBench$Reduced"))) (by decide) rfl ?_
  intro p e s m args below meth c s₁ B hml hv
  have hx := B.exec
  have hb := B.bytes
  have hr := B.returns
  have hts := atoms_spec (ws := (ws_ yX0_reducedOf cX0_reducedOf 2 (Option.some (Jvm.ClassFile.FieldType.object "CoincideBench$Reduced")))) B.pre
  have hts : ∀ w ∈ lw_all, w.before args s = true := fun w h => hts w (List.mem_cons_of_mem _ h)
  have hown : s.vm.findClass RX0 = some m.cls := findClass_of_methodNamed B.named
  have hlocks := B.notSynchronized
  obtain ⟨hav, hv⟩ := hv
  have C : CX p s m args c cX0_reducedOf RX0 D dA := ⟨hx, hb, hown, hts, hv.2⟩
  have hw : CW D dA A s u s.heap [] := hv.1
  generalize hQ : MQ below (va_Qr (fun u => u = u9) (fun u r t => r = r0 ∧ CPost D dA A u t) A) args s (u9.1 - u.1) (u9.2.1 - u.2.1) A = QQ
  have hent := lg_entry_eq m [.ref x0, .int x1] 2
  rw [← hav] at hent
  rw [hent]
  have hl := lv_entry ([.ref x0, .int x1]) (n := 2) (Nat.le_of_ble_eq_true rfl)
  generalize (lg_sl ([.ref x0, .int x1]) ++ List.replicate (2 - (lg_sl ([.ref x0, .int x1])).length) Slot.unset).toArray = ls at hl ⊢
  have hl : lv_has ls 2 [(0, .ref x0), (1, .int x1)] := hl
  obtain ⟨cc, ecc⟩ : ∃ z : Nat, z = 0 := ⟨0, rfl⟩
  obtain ⟨ss, ess⟩ : ∃ z : Nat, z = 0 := ⟨0, rfl⟩
  have hcc : cc + u.1 = u.1 := by omega
  have hss : ss + u.2.1 = u.2.1 := by omega
  suffices hgo : W p l e (rm_X0_reducedOf (u9.1 - u.1) (u9.2.1 - u.2.1)) s m args below meth c s.heap [] cc ss QQ (F0 m 0 ls []) by rw [ecc, ess] at hgo; exact hgo
  have ⟨pu, qu, _, _⟩ := mo_X0_reducedOf hm
  have hB25 : ∀ (h : CH) (y0 : Nat) (cc ss : Nat) (H : Heap) (locs : List Loc) (ls : Array Slot), m_X0_reducedOf_25 f h y0 = some (r0, u9) → CW D dA A s h H locs → cc + u.1 = h.1 → ss + u.2.1 = h.2.1 → lv_has ls 2 [] → W p l e (rm_X0_reducedOf (u9.1 - u.1) (u9.2.1 - u.2.1)) s m args below meth c H locs cc ss QQ (F0 m 25 ls [.ref y0]) := by
    intro h y0 cc ss H locs ls hm hw hcc hss hl
    have hmo := mo_X0_reducedOf_25  h y0 _ hm
    have sb_ : h.1 ≤ u9.1 := hmo.1
    have tb_ : h.2.1 ≤ u9.2.1 := hmo.2.1
    rw [m_X0_reducedOf_25] at hm
    obtain ⟨er, eh⟩ := retE hm
    have ec : cc = u9.1 - u.1 := by rw [← eh]; omega
    have es : ss = u9.2.1 - u.2.1 := by rw [← eh]; omega
    rw [ec, es, ← hQ]
    exact W.aret (v := .ref y0) hx hb hr (Or.inl ⟨_, rfl⟩) (Or.inr ⟨_, rfl⟩) (fun t ht hW => ⟨⟨h, y0, rfl, eh, er, ⟨by rw [ht]; exact hw.1, by rw [ht]; exact hw.2.1⟩⟩, hw.2.2.1.F ht⟩) hw.2.2.1.2.2 dX0_reducedOf_25
  have hB19 : ∀ (h : CH) (y0 : Nat) (y1 : Nat) (y2 : Nat) (cc ss : Nat) (H : Heap) (locs : List Loc) (ls : Array Slot), m_X0_reducedOf_19 f h y0 y1 y2 = some (r0, u9) → CW D dA A s h H locs → cc + u.1 = h.1 → ss + u.2.1 = h.2.1 → lv_has ls 2 [] → W p l e (rm_X0_reducedOf (u9.1 - u.1) (u9.2.1 - u.2.1)) s m args below meth c H locs cc ss QQ (F0 m 19 ls [.ref y2, .ref y1, .ref y0]) := by
    intro h y0 y1 y2 cc ss H locs ls hm hw hcc hss hl
    have hmo := mo_X0_reducedOf_19  h y0 y1 y2 _ hm
    have sb_ : h.1 ≤ u9.1 := hmo.1
    have tb_ : h.2.1 ≤ u9.2.1 := hmo.2.1
    rw [m_X0_reducedOf_19] at hm
    obtain ⟨a1, ea1, hm⟩ := bdE hm
    refine cg_getN C hw (by decide) (oR_E ea1) rfl in_X8 (by decide) (hw.2.2.2.2.1 _ (List.mem_of_getElem? (i := 26) rfl)) dX0_reducedOf_19 ?_
    obtain ⟨h2, eh2, hm⟩ := bdE hm
    have lh2 := mo_X11_init eh2
    have ph2 : h.1 ≤ h2.1 := lh2.1
    have qh2 : h.2.1 ≤ h2.2.1 := lh2.2.1
    have hmo := mo_X0_reducedOf_25   h2 y0 _ hm
    have sh2 : h2.1 ≤ u9.1 := hmo.1
    have th2 : h2.2.1 ≤ u9.2.1 := hmo.2.1
    refine cg_callv hw lh2 (va_runI (As := [.ref a1]) (rest := [.ref y0]) ⟨hx, hb, hml, hown, hts⟩ (w_X11_init l eh2) (cw_X11_init hts q1223 ⟨Nat.le_of_ble_eq_true rfl, Nat.le_of_ble_eq_true rfl⟩) (cg_preS C hw _) rfl rfl hl.1 rfl (lv_room (Nat.le_of_ble_eq_true rfl)) dX0_reducedOf_22 ⟨show cc + (h2.1 - h.1) ≤ u9.1 - u.1 by omega, show ss + (h2.2.1 - h.2.1) ≤ u9.2.1 - u.2.1 by omega⟩) (fun H locs hw => ?_)
    exact hB25 h2 y0 _ _ _ _ _ hm hw (by omega) (by omega) (lv_sub hl [] rfl)
  have hB16 : ∀ (h : CH) (y0 : Nat) (y1 : Nat) (y2 : Nat) (y3 : Nat) (y4 : Nat) (cc ss : Nat) (H : Heap) (locs : List Loc) (ls : Array Slot), m_X0_reducedOf_16 f h y0 y1 y2 y3 y4 = some (r0, u9) → CW D dA A s h H locs → cc + u.1 = h.1 → ss + u.2.1 = h.2.1 → lv_has ls 2 [] → W p l e (rm_X0_reducedOf (u9.1 - u.1) (u9.2.1 - u.2.1)) s m args below meth c H locs cc ss QQ (F0 m 16 ls [.ref y4, .ref y3, .ref y2, .ref y1, .ref y0]) := by
    intro h y0 y1 y2 y3 y4 cc ss H locs ls hm hw hcc hss hl
    have hmo := mo_X0_reducedOf_16  h y0 y1 y2 y3 y4 _ hm
    have sb_ : h.1 ≤ u9.1 := hmo.1
    have tb_ : h.2.1 ≤ u9.2.1 := hmo.2.1
    rw [m_X0_reducedOf_16] at hm
    obtain ⟨h1, eh1, hm⟩ := bdE hm
    have lh1 := mo_X8_init eh1
    have ph1 : h.1 ≤ h1.1 := lh1.1
    have qh1 : h.2.1 ≤ h1.2.1 := lh1.2.1
    have hmo := mo_X0_reducedOf_19   h1 y0 y1 y2 _ hm
    have sh1 : h1.1 ≤ u9.1 := hmo.1
    have th1 : h1.2.1 ≤ u9.2.1 := hmo.2.1
    refine cg_callv hw lh1 (va_runI (As := [.ref y4]) (rest := [.ref y2, .ref y1, .ref y0]) ⟨hx, hb, hml, hown, hts⟩ (w_X8_init l eh1) (cw_X8_init hts q959 ⟨Nat.le_of_ble_eq_true rfl, Nat.le_of_ble_eq_true rfl⟩) (cg_preS C hw _) rfl rfl hl.1 rfl (lv_room (Nat.le_of_ble_eq_true rfl)) dX0_reducedOf_16 ⟨show cc + (h1.1 - h.1) ≤ u9.1 - u.1 by omega, show ss + (h1.2.1 - h.2.1) ≤ u9.2.1 - u.2.1 by omega⟩) (fun H locs hw => ?_)
    exact hB19 h1 y0 y1 y2 _ _ _ _ _ hm hw (by omega) (by omega) (lv_sub hl [] rfl)
  have hB13 : ∀ (h : CH) (y0 : Nat) (y1 : Nat) (y2 : Nat) (y3 : Nat) (y4 : Nat) (cc ss : Nat) (H : Heap) (locs : List Loc) (ls : Array Slot), m_X0_reducedOf_13 f h y0 y1 y2 y3 y4 = some (r0, u9) → CW D dA A s h H locs → cc + u.1 = h.1 → ss + u.2.1 = h.2.1 → lv_has ls 2 [] → W p l e (rm_X0_reducedOf (u9.1 - u.1) (u9.2.1 - u.2.1)) s m args below meth c H locs cc ss QQ (F0 m 13 ls [.ref y4, .ref y3, .ref y2, .ref y1, .ref y0]) := by
    intro h y0 y1 y2 y3 y4 cc ss H locs ls hm hw hcc hss hl
    have hmo := mo_X0_reducedOf_13  h y0 y1 y2 y3 y4 _ hm
    have sb_ : h.1 ≤ u9.1 := hmo.1
    have tb_ : h.2.1 ≤ u9.2.1 := hmo.2.1
    rw [m_X0_reducedOf_13] at hm
    by_cases c1 : isC h y4 6 = true
    · have hm := ifT hm c1
      obtain ⟨a3, h2, ea3, hm⟩ := bd2E hm
      have lh2 := mo_X6_rows ea3
      have ph2 : h.1 ≤ h2.1 := lh2.1
      have qh2 : h.2.1 ≤ h2.2.1 := lh2.2.1
      have hmo := mo_X0_reducedOf_16   h2 y0 y1 y2 y3 a3 _ hm
      have sh2 : h2.1 ≤ u9.1 := hmo.1
      have th2 : h2.2.1 ≤ u9.2.1 := hmo.2.1
      refine cg_callr hw lh2 (va_runV (As := []) (rest := [.ref y3, .ref y2, .ref y1, .ref y0]) ⟨hx, hb, hml, hown, hts⟩ (w_X6_rows l ea3) (cw_X6_rows hts q904 ⟨Nat.le_of_ble_eq_true rfl, Nat.le_of_ble_eq_true rfl⟩) (cg_preV C hw c1 rfl _) rfl rfl hl.1 rfl (lv_room (Nat.le_of_ble_eq_true rfl)) dX0_reducedOf_13 ⟨show cc + (h2.1 - h.1) ≤ u9.1 - u.1 by omega, show ss + (h2.2.1 - h.2.1) ≤ u9.2.1 - u.2.1 by omega⟩) (fun H locs hw => ?_)
      exact hB16 h2 y0 y1 y2 y3 a3 _ _ _ _ _ hm hw (by omega) (by omega) (lv_sub hl [] rfl)
    · have hm := ifF hm c1
      obtain ⟨g4, hm⟩ := gdE hm
      obtain ⟨a6, h5, ea6, hm⟩ := bd2E hm
      have lh5 := mo_X7_rows ea6
      have ph5 : h.1 ≤ h5.1 := lh5.1
      have qh5 : h.2.1 ≤ h5.2.1 := lh5.2.1
      have hmo := mo_X0_reducedOf_16   h5 y0 y1 y2 y3 a6 _ hm
      have sh5 : h5.1 ≤ u9.1 := hmo.1
      have th5 : h5.2.1 ≤ u9.2.1 := hmo.2.1
      refine cg_callr hw lh5 (va_runU (As := []) (rest := [.ref y3, .ref y2, .ref y1, .ref y0]) ⟨hx, hb, hml, hown, hts⟩ (w_X7_rows l ea6) (va_cwO 0 hts (lwO q904 q907 q905 q908 q909 q144 q910) rfl rfl rfl q940 (by decide +kernel) ⟨Nat.le_of_ble_eq_true rfl, Nat.le_of_ble_eq_true rfl⟩) (cg_preV C hw g4 rfl _) rfl rfl hl.1 rfl (lv_room (Nat.le_of_ble_eq_true rfl)) dX0_reducedOf_13 ⟨show cc + (h5.1 - h.1) ≤ u9.1 - u.1 by omega, show ss + (h5.2.1 - h.2.1) ≤ u9.2.1 - u.2.1 by omega⟩) (fun H locs hw => ?_)
      exact hB16 h5 y0 y1 y2 y3 a6 _ _ _ _ _ hm hw (by omega) (by omega) (lv_sub hl [] rfl)
  have hB7 : ∀ (h : CH) (x0 : Nat) (x1 : Int32) (y0 : Nat) (y1 : Nat) (y2 : Nat) (cc ss : Nat) (H : Heap) (locs : List Loc) (ls : Array Slot), m_X0_reducedOf_7 f h x0 x1 y0 y1 y2 = some (r0, u9) → CW D dA A s h H locs → cc + u.1 = h.1 → ss + u.2.1 = h.2.1 → lv_has ls 2 [(0, .ref x0), (1, .int x1)] → W p l e (rm_X0_reducedOf (u9.1 - u.1) (u9.2.1 - u.2.1)) s m args below meth c H locs cc ss QQ (F0 m 7 ls [.ref y2, .ref y1, .ref y0]) := by
    intro h x0 x1 y0 y1 y2 cc ss H locs ls hm hw hcc hss hl
    have hmo := mo_X0_reducedOf_7  h x0 x1 y0 y1 y2 _ hm
    have sb_ : h.1 ≤ u9.1 := hmo.1
    have tb_ : h.2.1 ≤ u9.2.1 := hmo.2.1
    rw [m_X0_reducedOf_7] at hm
    refine lv_dup hx hb dX0_reducedOf_7 rfl ?_
    refine lv_aload_n hx hb dX0_reducedOf_8 rfl (lv_at hl 0 rfl) ?_
    refine lv_iload_n hx hb dX0_reducedOf_9 rfl (lv_at hl 1 rfl) ?_
    obtain ⟨g1, hm⟩ := gdE hm
    obtain ⟨a3, h2, ea3, hm⟩ := bd2E hm
    have lh2 := mo_X0_at ea3
    have ph2 : h.1 ≤ h2.1 := lh2.1
    have qh2 : h.2.1 ≤ h2.2.1 := lh2.2.1
    have hmo := mo_X0_reducedOf_13   h2 y0 y1 y2 y2 a3 _ hm
    have sh2 : h2.1 ≤ u9.1 := hmo.1
    have th2 : h2.2.1 ≤ u9.2.1 := hmo.2.1
    refine cg_callr hw lh2 (va_runV (As := [.int x1]) (rest := [.ref y2, .ref y2, .ref y1, .ref y0]) ⟨hx, hb, hml, hown, hts⟩ (w_X0_at l ea3) (cw_X0_at hts q900 ⟨Nat.le_of_ble_eq_true rfl, Nat.le_of_ble_eq_true rfl⟩) (cg_preV C hw g1 rfl _) rfl rfl hl.1 rfl (lv_room (Nat.le_of_ble_eq_true rfl)) dX0_reducedOf_10 ⟨show cc + (h2.1 - h.1) ≤ u9.1 - u.1 by omega, show ss + (h2.2.1 - h.2.1) ≤ u9.2.1 - u.2.1 by omega⟩) (fun H locs hw => ?_)
    exact hB13 h2 y0 y1 y2 y2 a3 _ _ _ _ _ hm hw (by omega) (by omega) (lv_sub hl [] rfl)
  have hB3 : ∀ (h : CH) (x0 : Nat) (x1 : Int32) (y0 : Nat) (cc ss : Nat) (H : Heap) (locs : List Loc) (ls : Array Slot), m_X0_reducedOf_3 f h x0 x1 y0 = some (r0, u9) → CW D dA A s h H locs → cc + u.1 = h.1 → ss + u.2.1 = h.2.1 → lv_has ls 2 [(0, .ref x0), (1, .int x1)] → W p l e (rm_X0_reducedOf (u9.1 - u.1) (u9.2.1 - u.2.1)) s m args below meth c H locs cc ss QQ (F0 m 3 ls [.ref y0]) := by
    intro h x0 x1 y0 cc ss H locs ls hm hw hcc hss hl
    have hmo := mo_X0_reducedOf_3  h x0 x1 y0 _ hm
    have sb_ : h.1 ≤ u9.1 := hmo.1
    have tb_ : h.2.1 ≤ u9.2.1 := hmo.2.1
    rw [m_X0_reducedOf_3] at hm
    refine lv_dup hx hb dX0_reducedOf_3 rfl ?_
    obtain ⟨h1, eh1, hm⟩ := nmE hm
    obtain ⟨_, _, hmq⟩ := nmE hm
    have hmo := mo_X0_reducedOf_7   h1 x0 x1 y0 y0 _ _ hmq
    have sh1 : h1.1 ≤ u9.1 := hmo.1
    have th1 : h1.2.1 ≤ u9.2.1 := hmo.2.1
    have zh1 := cn_sz eh1
    refine cg_new (C0 := C) hw (ci := 8) (fs := [.null, .null]) rfl in_X8 tyX8 tyX8_ok q957 q958 q145 (fun j hj => by rcases (show j = 0 ∨ j = 1 by omega) with rfl | rfl <;> rfl) (show cc + 1 ≤ u9.1 - u.1 by omega) (show ss + 2 ≤ u9.2.1 - u.2.1 by omega) dX0_reducedOf_4 (fun H hw => ?_)
    rw [← eh1] at hw
    refine lv_topr (fun a2 ea2 => ?_)
    have hm := nmK hm ea2
    exact hB7 h1 x0 x1 y0 y0 a2 _ _ _ _ _ hm hw (by omega) (by omega) (lv_sub hl [0, 1] rfl)
  rw [m_X0_reducedOf] at hm
  obtain ⟨h1, eh1, hm⟩ := nmE hm
  obtain ⟨_, _, hmq⟩ := nmE hm
  have hmo := mo_X0_reducedOf_3   h1 x0 x1 _ _ hmq
  have sh1 : h1.1 ≤ u9.1 := hmo.1
  have th1 : h1.2.1 ≤ u9.2.1 := hmo.2.1
  have zh1 := cn_sz eh1
  refine cg_new (C0 := C) hw (ci := 11) (fs := [.null, .int 0]) rfl in_X11 tyX11 tyX11_ok q1221 q1222 q148 (fun j hj => by rcases (show j = 0 ∨ j = 1 by omega) with rfl | rfl <;> rfl) (show cc + 1 ≤ u9.1 - u.1 by omega) (show ss + 2 ≤ u9.2.1 - u.2.1 by omega) dX0_reducedOf_0 (fun H hw => ?_)
  rw [← eh1] at hw
  refine lv_topr (fun a2 ea2 => ?_)
  have hm := nmK hm ea2
  exact hB3 h1 x0 x1 a2 _ _ _ _ _ hm hw (by omega) (by omega) (lv_sub hl [0, 1] rfl)
def m_X0_reduced_31 (f : Nat) (h : CH) (y0 : Int32) : Option (Int32 × CH) := some (y0, h)
theorem mo_X0_reduced_31 {f : Nat} : ∀ (h : CH) (y0 : Int32) (r : (Int32 × CH)), m_X0_reduced_31 f h y0 = some r → le2 h r.2 := by
  intro h y0 r hm
  rw [m_X0_reduced_31] at hm
  cases hm
  exact le2.rf
def m_X0_reduced_15 (f : Nat) (h : CH) (x2 : Int32) (x3 : Int32) (y0 : Nat) : Option (Int32 × CH) := bd (oR h 11 0 y0) fun a1 =>
    bd (oR h 3 0 a1) fun a2 =>
    bd (aR h 4 a2 x2) fun a3 =>
    bd (aL h 1 a3 x3) fun v4 =>
    m_X0_reduced_31 f h (Int64.toInt32 v4)
theorem mo_X0_reduced_15 {f : Nat} : ∀ (h : CH) (x2 : Int32) (x3 : Int32) (y0 : Nat) (r : (Int32 × CH)), m_X0_reduced_15 f h x2 x3 y0 = some r → le2 h r.2 := by
  intro h x2 x3 y0 r hm
  rw [m_X0_reduced_15] at hm
  obtain ⟨a1, ea1, hm⟩ := bdE hm
  obtain ⟨a2, ea2, hm⟩ := bdE hm
  obtain ⟨a3, ea3, hm⟩ := bdE hm
  obtain ⟨v4, ev4, hm⟩ := bdE hm
  exact (mo_X0_reduced_31  h (Int64.toInt32 v4) _ hm)
def m_X0_reduced_7 (f : Nat) (h : CH) (x0 : Nat) (x1 : Int32) (x2 : Int32) (x3 : Int32) (y0 : Int32) : Option (Int32 × CH) := if y0 = 0 then
    m_X0_reduced_31 f h (-1000000 : Int32)
    else gd (isC h x0 1) <|
    bd2 (m_X0_reducedOf f h x0 x1) fun a4 h3 =>
    m_X0_reduced_15 f h3 x2 x3 a4
theorem mo_X0_reduced_7 {f : Nat} : ∀ (h : CH) (x0 : Nat) (x1 : Int32) (x2 : Int32) (x3 : Int32) (y0 : Int32) (r : (Int32 × CH)), m_X0_reduced_7 f h x0 x1 x2 x3 y0 = some r → le2 h r.2 := by
  intro h x0 x1 x2 x3 y0 r hm
  rw [m_X0_reduced_7] at hm
  by_cases c1 : y0 = 0
  · have hm := ifT hm c1
    exact (mo_X0_reduced_31  h (-1000000 : Int32) _ hm)
  · have hm := ifF hm c1
    obtain ⟨g2, hm⟩ := gdE hm
    obtain ⟨a4, h3, ea4, hm⟩ := bd2E hm
    have lh3 := mo_X0_reducedOf ea4
    exact (lh3.tr (mo_X0_reduced_15  h3 x2 x3 a4 _ hm))
def m_X0_reduced (f : Nat) (u : CH) (x0 : Nat) (x1 : Int32) (x2 : Int32) (x3 : Int32) : Option (Int32 × CH) := gd (isC u x0 1) <|
    bd2 (m_X0_isAt f u x0 x1 x2 x3) fun r3 h2 =>
    m_X0_reduced_7 f h2 x0 x1 x2 x3 r3
theorem mo_X0_reduced {f : Nat} {u : CH} {x0 : Nat} {x1 : Int32} {x2 : Int32} {x3 : Int32} {r0 : Int32} {u9 : CH} (hm : m_X0_reduced f u x0 x1 x2 x3 = some (r0, u9)) : le2 u u9 := by
  rw [m_X0_reduced] at hm
  obtain ⟨g1, hm⟩ := gdE hm
  obtain ⟨r3, h2, er3, hm⟩ := bd2E hm
  have lh2 := mo_X0_isAt er3
  exact (lh2.tr (mo_X0_reduced_7  h2 x0 x1 x2 x3 r3 _ hm))
abbrev rm_X0_reduced (mc ms : Nat) : Room := { frames := 106, cells := mc, slots := ms, locals := 4148 }
theorem cw_X0_reduced {R : Room} {s : State} {args : Array Value} {own : String} {idx mc ms : Nat} (hts : ∀ w ∈ lw_all, w.before args s = true) (hl : Cond.methodLink own idx yX0_reduced ∈ lw_all) (hR : 106 + 1 ≤ R.frames ∧ 8 + (4 + 11) + 4148 ≤ R.locals) : CallW R s args own RX0 idx yX0_reduced cX0_reduced 4 (Option.some Jvm.ClassFile.FieldType.int) (ws_ yX0_reduced cX0_reduced 4 (Option.some Jvm.ClassFile.FieldType.int)) (rm_X0_reduced mc ms) mc ms 3 := cwV 3 hts (lw_V hl q1214 q1215 q119 q1216) rfl rfl rfl (by decide +kernel) hR
set_option maxHeartbeats 4000000 in
set_option maxRecDepth 100000 in
theorem w_X0_reduced (l : Launch) {D : va_G} {dA : Nat → ClassId} {A : Nat → Prop} {f : Nat} {u u9 : CH} {r0 : Int32} {x0 : Nat} {x1 : Int32} {x2 : Int32} {x3 : Int32} (hm : m_X0_reduced f u x0 x1 x2 x3 = some (r0, u9)) : Met l yX0_reduced (ws_ yX0_reduced cX0_reduced 4 (Option.some Jvm.ClassFile.FieldType.int)) (rm_X0_reduced (u9.1 - u.1) (u9.2.1 - u.2.1)) (va_Pc [.ref x0, .int x1, .int x2, .int x3] (CPre D dA A u)) (va_Qi (fun r u => r = r0 ∧ u = u9) (CPost D dA A) A) (u9.1 - u.1) (u9.2.1 - u.2.1) A := by
  refine Met.ofW (cc := cX0_reduced) (maxL := 4) (ret := (Option.some Jvm.ClassFile.FieldType.int)) (by decide) rfl ?_
  intro p e s m args below meth c s₁ B hml hv
  have hx := B.exec
  have hb := B.bytes
  have hr := B.returns
  have hts := atoms_spec (ws := (ws_ yX0_reduced cX0_reduced 4 (Option.some Jvm.ClassFile.FieldType.int))) B.pre
  have hts : ∀ w ∈ lw_all, w.before args s = true := fun w h => hts w (List.mem_cons_of_mem _ h)
  have hown : s.vm.findClass RX0 = some m.cls := findClass_of_methodNamed B.named
  have hlocks := B.notSynchronized
  obtain ⟨hav, hv⟩ := hv
  have C : CX p s m args c cX0_reduced RX0 D dA := ⟨hx, hb, hown, hts, hv.2⟩
  have hw : CW D dA A s u s.heap [] := hv.1
  generalize hQ : MQ below (va_Qi (fun r u => r = r0 ∧ u = u9) (CPost D dA A) A) args s (u9.1 - u.1) (u9.2.1 - u.2.1) A = QQ
  have hent := lg_entry_eq m [.ref x0, .int x1, .int x2, .int x3] 4
  rw [← hav] at hent
  rw [hent]
  have hl := lv_entry ([.ref x0, .int x1, .int x2, .int x3]) (n := 4) (Nat.le_of_ble_eq_true rfl)
  generalize (lg_sl ([.ref x0, .int x1, .int x2, .int x3]) ++ List.replicate (4 - (lg_sl ([.ref x0, .int x1, .int x2, .int x3])).length) Slot.unset).toArray = ls at hl ⊢
  have hl : lv_has ls 4 [(0, .ref x0), (1, .int x1), (2, .int x2), (3, .int x3)] := hl
  obtain ⟨cc, ecc⟩ : ∃ z : Nat, z = 0 := ⟨0, rfl⟩
  obtain ⟨ss, ess⟩ : ∃ z : Nat, z = 0 := ⟨0, rfl⟩
  have hcc : cc + u.1 = u.1 := by omega
  have hss : ss + u.2.1 = u.2.1 := by omega
  suffices hgo : W p l e (rm_X0_reduced (u9.1 - u.1) (u9.2.1 - u.2.1)) s m args below meth c s.heap [] cc ss QQ (F0 m 0 ls []) by rw [ecc, ess] at hgo; exact hgo
  have ⟨pu, qu, _, _⟩ := mo_X0_reduced hm
  have hB31 : ∀ (h : CH) (y0 : Int32) (cc ss : Nat) (H : Heap) (locs : List Loc) (ls : Array Slot), m_X0_reduced_31 f h y0 = some (r0, u9) → CW D dA A s h H locs → cc + u.1 = h.1 → ss + u.2.1 = h.2.1 → lv_has ls 4 [] → W p l e (rm_X0_reduced (u9.1 - u.1) (u9.2.1 - u.2.1)) s m args below meth c H locs cc ss QQ (F0 m 31 ls [.int y0]) := by
    intro h y0 cc ss H locs ls hm hw hcc hss hl
    have hmo := mo_X0_reduced_31  h y0 _ hm
    have sb_ : h.1 ≤ u9.1 := hmo.1
    have tb_ : h.2.1 ≤ u9.2.1 := hmo.2.1
    rw [m_X0_reduced_31] at hm
    obtain ⟨er, eh⟩ := retE hm
    have ec : cc = u9.1 - u.1 := by rw [← eh]; omega
    have es : ss = u9.2.1 - u.2.1 := by rw [← eh]; omega
    rw [ec, es, ← hQ]
    exact W.iret (v := y0) hx hb hr (fun t ht hW => ⟨⟨y0, h, rfl, ⟨er, eh⟩, ⟨by rw [ht]; exact hw.1, by rw [ht]; exact hw.2.1⟩⟩, hw.2.2.1.F ht⟩) hw.2.2.1.2.2 dX0_reduced_31
  have hB15 : ∀ (h : CH) (x2 : Int32) (x3 : Int32) (y0 : Nat) (cc ss : Nat) (H : Heap) (locs : List Loc) (ls : Array Slot), m_X0_reduced_15 f h x2 x3 y0 = some (r0, u9) → CW D dA A s h H locs → cc + u.1 = h.1 → ss + u.2.1 = h.2.1 → lv_has ls 4 [(2, .int x2), (3, .int x3)] → W p l e (rm_X0_reduced (u9.1 - u.1) (u9.2.1 - u.2.1)) s m args below meth c H locs cc ss QQ (F0 m 15 ls [.ref y0]) := by
    intro h x2 x3 y0 cc ss H locs ls hm hw hcc hss hl
    have hmo := mo_X0_reduced_15  h x2 x3 y0 _ hm
    have sb_ : h.1 ≤ u9.1 := hmo.1
    have tb_ : h.2.1 ≤ u9.2.1 := hmo.2.1
    rw [m_X0_reduced_15] at hm
    obtain ⟨a1, ea1, hm⟩ := bdE hm
    refine cg_getN C hw (by decide) (oR_E ea1) rfl in_X11 (by decide) (hw.2.2.2.2.1 _ (List.mem_of_getElem? (i := 30) rfl)) dX0_reduced_15 ?_
    obtain ⟨a2, ea2, hm⟩ := bdE hm
    refine cg_getN C hw (by decide) (oR_E ea2) rfl in_X2 (by decide) (hw.2.2.2.2.1 _ (List.mem_of_getElem? (i := 12) rfl)) dX0_reduced_18 ?_
    refine lv_iload_n hx hb dX0_reduced_21 rfl (lv_at hl 0 rfl) ?_
    obtain ⟨a3, ea3, hm⟩ := bdE hm
    refine cg_aaldA C hw (ty := .array .long) rfl rfl (aR_E ea3) dX0_reduced_22 ?_
    refine lv_iload_n hx hb dX0_reduced_23 rfl (lv_at hl 1 rfl) ?_
    obtain ⟨v4, ev4, hm⟩ := bdE hm
    refine cg_lald C hw ev4 dX0_reduced_24 ?_
    refine lv_l2i hx hb dX0_reduced_25 rfl ?_
    refine lv_goto (tgt := 31) hx hb dX0_reduced_26 (by decide) ?_
    exact hB31 h (Int64.toInt32 v4) _ _ _ _ _ hm hw (by omega) (by omega) (lv_sub hl [] rfl)
  have hB7 : ∀ (h : CH) (x0 : Nat) (x1 : Int32) (x2 : Int32) (x3 : Int32) (y0 : Int32) (cc ss : Nat) (H : Heap) (locs : List Loc) (ls : Array Slot), m_X0_reduced_7 f h x0 x1 x2 x3 y0 = some (r0, u9) → CW D dA A s h H locs → cc + u.1 = h.1 → ss + u.2.1 = h.2.1 → lv_has ls 4 [(0, .ref x0), (1, .int x1), (2, .int x2), (3, .int x3)] → W p l e (rm_X0_reduced (u9.1 - u.1) (u9.2.1 - u.2.1)) s m args below meth c H locs cc ss QQ (F0 m 7 ls [.int y0]) := by
    intro h x0 x1 x2 x3 y0 cc ss H locs ls hm hw hcc hss hl
    have hmo := mo_X0_reduced_7  h x0 x1 x2 x3 y0 _ hm
    have sb_ : h.1 ≤ u9.1 := hmo.1
    have tb_ : h.2.1 ≤ u9.2.1 := hmo.2.1
    rw [m_X0_reduced_7] at hm
    refine lv_if_eq (tgt := 29) hx hb dX0_reduced_7 (by decide) (fun c1 => ?_) (fun c1 => ?_)
    · have hm := ifT hm c1
      refine lv_ldc hx hb hown (hts _ q1050) dX0_reduced_29 ?_
      exact hB31 h (-1000000 : Int32) _ _ _ _ _ hm hw (by omega) (by omega) (lv_sub hl [] rfl)
    · have hm := ifF hm c1
      refine lv_aload_n hx hb dX0_reduced_10 rfl (lv_at hl 0 rfl) ?_
      refine lv_iload_n hx hb dX0_reduced_11 rfl (lv_at hl 1 rfl) ?_
      obtain ⟨g2, hm⟩ := gdE hm
      obtain ⟨a4, h3, ea4, hm⟩ := bd2E hm
      have lh3 := mo_X0_reducedOf ea4
      have ph3 : h.1 ≤ h3.1 := lh3.1
      have qh3 : h.2.1 ≤ h3.2.1 := lh3.2.1
      have hmo := mo_X0_reduced_15   h3 x2 x3 a4 _ hm
      have sh3 : h3.1 ≤ u9.1 := hmo.1
      have th3 : h3.2.1 ≤ u9.2.1 := hmo.2.1
      refine cg_callr hw lh3 (va_runV (As := [.int x1]) (rest := []) ⟨hx, hb, hml, hown, hts⟩ (w_X0_reducedOf l ea4) (cw_X0_reducedOf hts q1217 ⟨Nat.le_of_ble_eq_true rfl, Nat.le_of_ble_eq_true rfl⟩) (cg_preV C hw g2 rfl _) rfl rfl hl.1 rfl (lv_room (Nat.le_of_ble_eq_true rfl)) dX0_reduced_12 ⟨show cc + (h3.1 - h.1) ≤ u9.1 - u.1 by omega, show ss + (h3.2.1 - h.2.1) ≤ u9.2.1 - u.2.1 by omega⟩) (fun H locs hw => ?_)
      exact hB15 h3 x2 x3 a4 _ _ _ _ _ hm hw (by omega) (by omega) (lv_sub hl [2, 3] rfl)
  rw [m_X0_reduced] at hm
  refine lv_aload_n hx hb dX0_reduced_0 rfl (lv_at hl 0 rfl) ?_
  refine lv_iload_n hx hb dX0_reduced_1 rfl (lv_at hl 1 rfl) ?_
  refine lv_iload_n hx hb dX0_reduced_2 rfl (lv_at hl 2 rfl) ?_
  refine lv_iload_n hx hb dX0_reduced_3 rfl (lv_at hl 3 rfl) ?_
  obtain ⟨g1, hm⟩ := gdE hm
  obtain ⟨r3, h2, er3, hm⟩ := bd2E hm
  have lh2 := mo_X0_isAt er3
  have ph2 : u.1 ≤ h2.1 := lh2.1
  have qh2 : u.2.1 ≤ h2.2.1 := lh2.2.1
  have hmo := mo_X0_reduced_7   h2 x0 x1 x2 x3 r3 _ hm
  have sh2 : h2.1 ≤ u9.1 := hmo.1
  have th2 : h2.2.1 ≤ u9.2.1 := hmo.2.1
  refine cg_calli hw lh2 (va_runV (As := [.int x1, .int x2, .int x3]) (rest := []) ⟨hx, hb, hml, hown, hts⟩ (w_X0_isAt l er3) (cw_X0_isAt hts q888 ⟨Nat.le_of_ble_eq_true rfl, Nat.le_of_ble_eq_true rfl⟩) (cg_preV C hw g1 rfl _) rfl rfl hl.1 rfl (lv_room (Nat.le_of_ble_eq_true rfl)) dX0_reduced_4 ⟨show cc + (h2.1 - u.1) ≤ u9.1 - u.1 by omega, show ss + (h2.2.1 - u.2.1) ≤ u9.2.1 - u.2.1 by omega⟩) (fun H locs hw => ?_)
  exact hB7 h2 x0 x1 x2 x3 r3 _ _ _ _ _ hm hw (by omega) (by omega) (lv_sub hl [0, 1, 2, 3] rfl)
def m_X0_bettered_21 (f : Nat) (h : CH) (y0 : Int32) : Option (Int32 × CH) := some (y0, h)
theorem mo_X0_bettered_21 {f : Nat} : ∀ (h : CH) (y0 : Int32) (r : (Int32 × CH)), m_X0_bettered_21 f h y0 = some r → le2 h r.2 := by
  intro h y0 r hm
  rw [m_X0_bettered_21] at hm
  cases hm
  exact le2.rf
def m_X0_bettered_13 (f : Nat) (h : CH) (y0 : Nat) : Option (Int32 × CH) := bd (oI h 11 1 y0) fun v1 =>
    m_X0_bettered_21 f h v1
theorem mo_X0_bettered_13 {f : Nat} : ∀ (h : CH) (y0 : Nat) (r : (Int32 × CH)), m_X0_bettered_13 f h y0 = some r → le2 h r.2 := by
  intro h y0 r hm
  rw [m_X0_bettered_13] at hm
  obtain ⟨v1, ev1, hm⟩ := bdE hm
  exact (mo_X0_bettered_21  h v1 _ hm)
def m_X0_bettered_5 (f : Nat) (h : CH) (x0 : Nat) (x1 : Int32) (y0 : Int32) : Option (Int32 × CH) := if y0 = 0 then
    m_X0_bettered_21 f h (-2 : Int32)
    else gd (isC h x0 1) <|
    bd2 (m_X0_reducedOf f h x0 x1) fun a4 h3 =>
    m_X0_bettered_13 f h3 a4
theorem mo_X0_bettered_5 {f : Nat} : ∀ (h : CH) (x0 : Nat) (x1 : Int32) (y0 : Int32) (r : (Int32 × CH)), m_X0_bettered_5 f h x0 x1 y0 = some r → le2 h r.2 := by
  intro h x0 x1 y0 r hm
  rw [m_X0_bettered_5] at hm
  by_cases c1 : y0 = 0
  · have hm := ifT hm c1
    exact (mo_X0_bettered_21  h (-2 : Int32) _ hm)
  · have hm := ifF hm c1
    obtain ⟨g2, hm⟩ := gdE hm
    obtain ⟨a4, h3, ea4, hm⟩ := bd2E hm
    have lh3 := mo_X0_reducedOf ea4
    exact (lh3.tr (mo_X0_bettered_13  h3 a4 _ hm))
def m_X0_bettered (f : Nat) (u : CH) (x0 : Nat) (x1 : Int32) : Option (Int32 × CH) := gd (isC u x0 1) <|
    bd2 (m_X0_isLattice f u x0 x1) fun r3 h2 =>
    m_X0_bettered_5 f h2 x0 x1 r3
theorem mo_X0_bettered {f : Nat} {u : CH} {x0 : Nat} {x1 : Int32} {r0 : Int32} {u9 : CH} (hm : m_X0_bettered f u x0 x1 = some (r0, u9)) : le2 u u9 := by
  rw [m_X0_bettered] at hm
  obtain ⟨g1, hm⟩ := gdE hm
  obtain ⟨r3, h2, er3, hm⟩ := bd2E hm
  have lh2 := mo_X0_isLattice er3
  exact (lh2.tr (mo_X0_bettered_5  h2 x0 x1 r3 _ hm))
abbrev rm_X0_bettered (mc ms : Nat) : Room := { frames := 106, cells := mc, slots := ms, locals := 4148 }
theorem cw_X0_bettered {R : Room} {s : State} {args : Array Value} {own : String} {idx mc ms : Nat} (hts : ∀ w ∈ lw_all, w.before args s = true) (hl : Cond.methodLink own idx yX0_bettered ∈ lw_all) (hR : 106 + 1 ≤ R.frames ∧ 8 + (2 + 11) + 4148 ≤ R.locals) : CallW R s args own RX0 idx yX0_bettered cX0_bettered 2 (Option.some Jvm.ClassFile.FieldType.int) (ws_ yX0_bettered cX0_bettered 2 (Option.some Jvm.ClassFile.FieldType.int)) (rm_X0_bettered mc ms) mc ms 1 := cwV 1 hts (lw_V hl q1265 q1266 q119 q1267) rfl rfl rfl (by decide +kernel) hR
set_option maxHeartbeats 4000000 in
set_option maxRecDepth 100000 in
theorem w_X0_bettered (l : Launch) {D : va_G} {dA : Nat → ClassId} {A : Nat → Prop} {f : Nat} {u u9 : CH} {r0 : Int32} {x0 : Nat} {x1 : Int32} (hm : m_X0_bettered f u x0 x1 = some (r0, u9)) : Met l yX0_bettered (ws_ yX0_bettered cX0_bettered 2 (Option.some Jvm.ClassFile.FieldType.int)) (rm_X0_bettered (u9.1 - u.1) (u9.2.1 - u.2.1)) (va_Pc [.ref x0, .int x1] (CPre D dA A u)) (va_Qi (fun r u => r = r0 ∧ u = u9) (CPost D dA A) A) (u9.1 - u.1) (u9.2.1 - u.2.1) A := by
  refine Met.ofW (cc := cX0_bettered) (maxL := 2) (ret := (Option.some Jvm.ClassFile.FieldType.int)) (by decide) rfl ?_
  intro p e s m args below meth c s₁ B hml hv
  have hx := B.exec
  have hb := B.bytes
  have hr := B.returns
  have hts := atoms_spec (ws := (ws_ yX0_bettered cX0_bettered 2 (Option.some Jvm.ClassFile.FieldType.int))) B.pre
  have hts : ∀ w ∈ lw_all, w.before args s = true := fun w h => hts w (List.mem_cons_of_mem _ h)
  have hown : s.vm.findClass RX0 = some m.cls := findClass_of_methodNamed B.named
  have hlocks := B.notSynchronized
  obtain ⟨hav, hv⟩ := hv
  have C : CX p s m args c cX0_bettered RX0 D dA := ⟨hx, hb, hown, hts, hv.2⟩
  have hw : CW D dA A s u s.heap [] := hv.1
  generalize hQ : MQ below (va_Qi (fun r u => r = r0 ∧ u = u9) (CPost D dA A) A) args s (u9.1 - u.1) (u9.2.1 - u.2.1) A = QQ
  have hent := lg_entry_eq m [.ref x0, .int x1] 2
  rw [← hav] at hent
  rw [hent]
  have hl := lv_entry ([.ref x0, .int x1]) (n := 2) (Nat.le_of_ble_eq_true rfl)
  generalize (lg_sl ([.ref x0, .int x1]) ++ List.replicate (2 - (lg_sl ([.ref x0, .int x1])).length) Slot.unset).toArray = ls at hl ⊢
  have hl : lv_has ls 2 [(0, .ref x0), (1, .int x1)] := hl
  obtain ⟨cc, ecc⟩ : ∃ z : Nat, z = 0 := ⟨0, rfl⟩
  obtain ⟨ss, ess⟩ : ∃ z : Nat, z = 0 := ⟨0, rfl⟩
  have hcc : cc + u.1 = u.1 := by omega
  have hss : ss + u.2.1 = u.2.1 := by omega
  suffices hgo : W p l e (rm_X0_bettered (u9.1 - u.1) (u9.2.1 - u.2.1)) s m args below meth c s.heap [] cc ss QQ (F0 m 0 ls []) by rw [ecc, ess] at hgo; exact hgo
  have ⟨pu, qu, _, _⟩ := mo_X0_bettered hm
  have hB21 : ∀ (h : CH) (y0 : Int32) (cc ss : Nat) (H : Heap) (locs : List Loc) (ls : Array Slot), m_X0_bettered_21 f h y0 = some (r0, u9) → CW D dA A s h H locs → cc + u.1 = h.1 → ss + u.2.1 = h.2.1 → lv_has ls 2 [] → W p l e (rm_X0_bettered (u9.1 - u.1) (u9.2.1 - u.2.1)) s m args below meth c H locs cc ss QQ (F0 m 21 ls [.int y0]) := by
    intro h y0 cc ss H locs ls hm hw hcc hss hl
    have hmo := mo_X0_bettered_21  h y0 _ hm
    have sb_ : h.1 ≤ u9.1 := hmo.1
    have tb_ : h.2.1 ≤ u9.2.1 := hmo.2.1
    rw [m_X0_bettered_21] at hm
    obtain ⟨er, eh⟩ := retE hm
    have ec : cc = u9.1 - u.1 := by rw [← eh]; omega
    have es : ss = u9.2.1 - u.2.1 := by rw [← eh]; omega
    rw [ec, es, ← hQ]
    exact W.iret (v := y0) hx hb hr (fun t ht hW => ⟨⟨y0, h, rfl, ⟨er, eh⟩, ⟨by rw [ht]; exact hw.1, by rw [ht]; exact hw.2.1⟩⟩, hw.2.2.1.F ht⟩) hw.2.2.1.2.2 dX0_bettered_21
  have hB13 : ∀ (h : CH) (y0 : Nat) (cc ss : Nat) (H : Heap) (locs : List Loc) (ls : Array Slot), m_X0_bettered_13 f h y0 = some (r0, u9) → CW D dA A s h H locs → cc + u.1 = h.1 → ss + u.2.1 = h.2.1 → lv_has ls 2 [] → W p l e (rm_X0_bettered (u9.1 - u.1) (u9.2.1 - u.2.1)) s m args below meth c H locs cc ss QQ (F0 m 13 ls [.ref y0]) := by
    intro h y0 cc ss H locs ls hm hw hcc hss hl
    have hmo := mo_X0_bettered_13  h y0 _ hm
    have sb_ : h.1 ≤ u9.1 := hmo.1
    have tb_ : h.2.1 ≤ u9.2.1 := hmo.2.1
    rw [m_X0_bettered_13] at hm
    obtain ⟨v1, ev1, hm⟩ := bdE hm
    refine cg_getN C hw (by decide) (oI_E ev1) rfl in_X11 (by decide) (hw.2.2.2.2.1 _ (List.mem_of_getElem? (i := 31) rfl)) dX0_bettered_13 ?_
    refine lv_goto (tgt := 21) hx hb dX0_bettered_16 (by decide) ?_
    exact hB21 h v1 _ _ _ _ _ hm hw (by omega) (by omega) (lv_sub hl [] rfl)
  have hB5 : ∀ (h : CH) (x0 : Nat) (x1 : Int32) (y0 : Int32) (cc ss : Nat) (H : Heap) (locs : List Loc) (ls : Array Slot), m_X0_bettered_5 f h x0 x1 y0 = some (r0, u9) → CW D dA A s h H locs → cc + u.1 = h.1 → ss + u.2.1 = h.2.1 → lv_has ls 2 [(0, .ref x0), (1, .int x1)] → W p l e (rm_X0_bettered (u9.1 - u.1) (u9.2.1 - u.2.1)) s m args below meth c H locs cc ss QQ (F0 m 5 ls [.int y0]) := by
    intro h x0 x1 y0 cc ss H locs ls hm hw hcc hss hl
    have hmo := mo_X0_bettered_5  h x0 x1 y0 _ hm
    have sb_ : h.1 ≤ u9.1 := hmo.1
    have tb_ : h.2.1 ≤ u9.2.1 := hmo.2.1
    rw [m_X0_bettered_5] at hm
    refine lv_if_eq (tgt := 19) hx hb dX0_bettered_5 (by decide) (fun c1 => ?_) (fun c1 => ?_)
    · have hm := ifT hm c1
      refine lv_bipush (v := -2) hx hb dX0_bettered_19 (by decide) ?_
      exact hB21 h (-2 : Int32) _ _ _ _ _ hm hw (by omega) (by omega) (lv_sub hl [] rfl)
    · have hm := ifF hm c1
      refine lv_aload_n hx hb dX0_bettered_8 rfl (lv_at hl 0 rfl) ?_
      refine lv_iload_n hx hb dX0_bettered_9 rfl (lv_at hl 1 rfl) ?_
      obtain ⟨g2, hm⟩ := gdE hm
      obtain ⟨a4, h3, ea4, hm⟩ := bd2E hm
      have lh3 := mo_X0_reducedOf ea4
      have ph3 : h.1 ≤ h3.1 := lh3.1
      have qh3 : h.2.1 ≤ h3.2.1 := lh3.2.1
      have hmo := mo_X0_bettered_13   h3 a4 _ hm
      have sh3 : h3.1 ≤ u9.1 := hmo.1
      have th3 : h3.2.1 ≤ u9.2.1 := hmo.2.1
      refine cg_callr hw lh3 (va_runV (As := [.int x1]) (rest := []) ⟨hx, hb, hml, hown, hts⟩ (w_X0_reducedOf l ea4) (cw_X0_reducedOf hts q1217 ⟨Nat.le_of_ble_eq_true rfl, Nat.le_of_ble_eq_true rfl⟩) (cg_preV C hw g2 rfl _) rfl rfl hl.1 rfl (lv_room (Nat.le_of_ble_eq_true rfl)) dX0_bettered_10 ⟨show cc + (h3.1 - h.1) ≤ u9.1 - u.1 by omega, show ss + (h3.2.1 - h.2.1) ≤ u9.2.1 - u.2.1 by omega⟩) (fun H locs hw => ?_)
      exact hB13 h3 a4 _ _ _ _ _ hm hw (by omega) (by omega) (lv_sub hl [] rfl)
  rw [m_X0_bettered] at hm
  refine lv_aload_n hx hb dX0_bettered_0 rfl (lv_at hl 0 rfl) ?_
  refine lv_iload_n hx hb dX0_bettered_1 rfl (lv_at hl 1 rfl) ?_
  obtain ⟨g1, hm⟩ := gdE hm
  obtain ⟨r3, h2, er3, hm⟩ := bd2E hm
  have lh2 := mo_X0_isLattice er3
  have ph2 : u.1 ≤ h2.1 := lh2.1
  have qh2 : u.2.1 ≤ h2.2.1 := lh2.2.1
  have hmo := mo_X0_bettered_5   h2 x0 x1 r3 _ hm
  have sh2 : h2.1 ≤ u9.1 := hmo.1
  have th2 : h2.2.1 ≤ u9.2.1 := hmo.2.1
  refine cg_calli hw lh2 (va_runV (As := [.int x1]) (rest := []) ⟨hx, hb, hml, hown, hts⟩ (w_X0_isLattice l er3) (cw_X0_isLattice hts q892 ⟨Nat.le_of_ble_eq_true rfl, Nat.le_of_ble_eq_true rfl⟩) (cg_preV C hw g1 rfl _) rfl rfl hl.1 rfl (lv_room (Nat.le_of_ble_eq_true rfl)) dX0_bettered_2 ⟨show cc + (h2.1 - u.1) ≤ u9.1 - u.1 by omega, show ss + (h2.2.1 - u.2.1) ≤ u9.2.1 - u.2.1 by omega⟩) (fun H locs hw => ?_)
  exact hB5 h2 x0 x1 r3 _ _ _ _ _ hm hw (by omega) (by omega) (lv_sub hl [0, 1] rfl)
def m_X0_length_22 (f : Nat) (h : CH) : Option (Int64 × CH) := some ((-2 : Int64), h)
theorem mo_X0_length_22 {f : Nat} : ∀ (h : CH) (r : (Int64 × CH)), m_X0_length_22 f h = some r → le2 h r.2 := by
  intro h r hm
  rw [m_X0_length_22] at hm
  cases hm
  exact le2.rf
def m_X0_length_48 (f : Nat) (h : CH) (x3 : Int32) (x4 : Int64) (y0 : Int64) : Option (Int64 × CH) := bd (m_X0_part f y0 (x4 * x4) x3) fun r1 =>
    some (r1, h)
theorem mo_X0_length_48 {f : Nat} : ∀ (h : CH) (x3 : Int32) (x4 : Int64) (y0 : Int64) (r : (Int64 × CH)), m_X0_length_48 f h x3 x4 y0 = some r → le2 h r.2 := by
  intro h x3 x4 y0 r hm
  rw [m_X0_length_48] at hm
  obtain ⟨r1, er1, hm⟩ := bdE hm
  cases hm
  exact le2.rf
def m_X0_length_41 (f : Nat) (h : CH) (x2 : Int32) (x3 : Int32) (x4 : Int64) (y0 : Nat) : Option (Int64 × CH) := bd (oR h 11 0 y0) fun a1 =>
    gd (isC h a1 3) <|
    bd2 (m_X2_square f h a1 x2) fun r4 h3 =>
    m_X0_length_48 f h3 x3 x4 r4
theorem mo_X0_length_41 {f : Nat} : ∀ (h : CH) (x2 : Int32) (x3 : Int32) (x4 : Int64) (y0 : Nat) (r : (Int64 × CH)), m_X0_length_41 f h x2 x3 x4 y0 = some r → le2 h r.2 := by
  intro h x2 x3 x4 y0 r hm
  rw [m_X0_length_41] at hm
  obtain ⟨a1, ea1, hm⟩ := bdE hm
  obtain ⟨g2, hm⟩ := gdE hm
  obtain ⟨r4, h3, er4, hm⟩ := bd2E hm
  have lh3 := mo_X2_square er4
  exact (lh3.tr (mo_X0_length_48  h3 x3 x4 r4 _ hm))
def m_X0_length_34 (f : Nat) (h : CH) (x0 : Nat) (x1 : Int32) (x2 : Int32) (x3 : Int32) (y0 : Int64) : Option (Int64 × CH) := gd (isC h x0 1) <|
    bd2 (m_X0_reducedOf f h x0 x1) fun a3 h2 =>
    m_X0_length_41 f h2 x2 x3 y0 a3
theorem mo_X0_length_34 {f : Nat} : ∀ (h : CH) (x0 : Nat) (x1 : Int32) (x2 : Int32) (x3 : Int32) (y0 : Int64) (r : (Int64 × CH)), m_X0_length_34 f h x0 x1 x2 x3 y0 = some r → le2 h r.2 := by
  intro h x0 x1 x2 x3 y0 r hm
  rw [m_X0_length_34] at hm
  obtain ⟨g1, hm⟩ := gdE hm
  obtain ⟨a3, h2, ea3, hm⟩ := bd2E hm
  have lh2 := mo_X0_reducedOf ea3
  exact (lh2.tr (mo_X0_length_41  h2 x2 x3 y0 a3 _ hm))
def m_X0_length_31 (f : Nat) (h : CH) (x0 : Nat) (x1 : Int32) (x2 : Int32) (x3 : Int32) (y0 : Nat) : Option (Int64 × CH) := if isC h y0 6 = true then
    bd2 (m_X6_over f h y0) fun r3 h2 =>
    m_X0_length_34 f h2 x0 x1 x2 x3 r3
    else gd (isC h y0 7) <|
    bd2 (m_X7_over f h y0) fun r6 h5 =>
    m_X0_length_34 f h5 x0 x1 x2 x3 r6
theorem mo_X0_length_31 {f : Nat} : ∀ (h : CH) (x0 : Nat) (x1 : Int32) (x2 : Int32) (x3 : Int32) (y0 : Nat) (r : (Int64 × CH)), m_X0_length_31 f h x0 x1 x2 x3 y0 = some r → le2 h r.2 := by
  intro h x0 x1 x2 x3 y0 r hm
  rw [m_X0_length_31] at hm
  by_cases c1 : isC h y0 6 = true
  · have hm := ifT hm c1
    obtain ⟨r3, h2, er3, hm⟩ := bd2E hm
    have lh2 := mo_X6_over er3
    exact (lh2.tr (mo_X0_length_34  h2 x0 x1 x2 x3 r3 _ hm))
  · have hm := ifF hm c1
    obtain ⟨g4, hm⟩ := gdE hm
    obtain ⟨r6, h5, er6, hm⟩ := bd2E hm
    have lh5 := mo_X7_over er6
    exact (lh5.tr (mo_X0_length_34  h5 x0 x1 x2 x3 r6 _ hm))
def m_X0_length_5 (f : Nat) (h : CH) (x0 : Nat) (x1 : Int32) (x2 : Int32) (x3 : Int32) (y0 : Int32) : Option (Int64 × CH) := if y0 = 0 then
    m_X0_length_22 f h
    else bd (m_X0_isSide f x2) fun r2 =>
    if r2 = 0 then
    m_X0_length_22 f h
    else bd (m_X0_isPart f x3) fun r4 =>
    if ¬ r4 = 0 then
    gd (isC h x0 1) <|
    bd2 (m_X0_at f h x0 x1) fun a8 h7 =>
    m_X0_length_31 f h7 x0 x1 x2 x3 a8
    else m_X0_length_22 f h
theorem mo_X0_length_5 {f : Nat} : ∀ (h : CH) (x0 : Nat) (x1 : Int32) (x2 : Int32) (x3 : Int32) (y0 : Int32) (r : (Int64 × CH)), m_X0_length_5 f h x0 x1 x2 x3 y0 = some r → le2 h r.2 := by
  intro h x0 x1 x2 x3 y0 r hm
  rw [m_X0_length_5] at hm
  by_cases c1 : y0 = 0
  · have hm := ifT hm c1
    exact (mo_X0_length_22  h _ hm)
  · have hm := ifF hm c1
    obtain ⟨r2, er2, hm⟩ := bdE hm
    by_cases c3 : r2 = 0
    · have hm := ifT hm c3
      exact (mo_X0_length_22  h _ hm)
    · have hm := ifF hm c3
      obtain ⟨r4, er4, hm⟩ := bdE hm
      by_cases c5 : ¬ r4 = 0
      · have hm := ifT hm c5
        obtain ⟨g6, hm⟩ := gdE hm
        obtain ⟨a8, h7, ea8, hm⟩ := bd2E hm
        have lh7 := mo_X0_at ea8
        exact (lh7.tr (mo_X0_length_31  h7 x0 x1 x2 x3 a8 _ hm))
      · have hm := ifF hm c5
        exact (mo_X0_length_22  h _ hm)
def m_X0_length (f : Nat) (u : CH) (x0 : Nat) (x1 : Int32) (x2 : Int32) (x3 : Int32) : Option (Int64 × CH) := gd (isC u x0 1) <|
    bd2 (m_X0_isLattice f u x0 x1) fun r3 h2 =>
    m_X0_length_5 f h2 x0 x1 x2 x3 r3
theorem mo_X0_length {f : Nat} {u : CH} {x0 : Nat} {x1 : Int32} {x2 : Int32} {x3 : Int32} {r0 : Int64} {u9 : CH} (hm : m_X0_length f u x0 x1 x2 x3 = some (r0, u9)) : le2 u u9 := by
  rw [m_X0_length] at hm
  obtain ⟨g1, hm⟩ := gdE hm
  obtain ⟨r3, h2, er3, hm⟩ := bd2E hm
  have lh2 := mo_X0_isLattice er3
  exact (lh2.tr (mo_X0_length_5  h2 x0 x1 x2 x3 r3 _ hm))
abbrev rm_X0_length (mc ms : Nat) : Room := { frames := 106, cells := mc, slots := ms, locals := 4148 }
theorem cw_X0_length {R : Room} {s : State} {args : Array Value} {own : String} {idx mc ms : Nat} (hts : ∀ w ∈ lw_all, w.before args s = true) (hl : Cond.methodLink own idx yX0_length ∈ lw_all) (hR : 106 + 1 ≤ R.frames ∧ 8 + (6 + 11) + 4148 ≤ R.locals) : CallW R s args own RX0 idx yX0_length cX0_length 6 (Option.some Jvm.ClassFile.FieldType.long) (ws_ yX0_length cX0_length 6 (Option.some Jvm.ClassFile.FieldType.long)) (rm_X0_length mc ms) mc ms 3 := cwV 3 hts (lw_V hl q1269 q1270 q119 q1271) rfl rfl rfl (by decide +kernel) hR
set_option maxHeartbeats 4000000 in
set_option maxRecDepth 100000 in
theorem w_X0_length (l : Launch) {D : va_G} {dA : Nat → ClassId} {A : Nat → Prop} {f : Nat} {u u9 : CH} {r0 : Int64} {x0 : Nat} {x1 : Int32} {x2 : Int32} {x3 : Int32} (hm : m_X0_length f u x0 x1 x2 x3 = some (r0, u9)) : Met l yX0_length (ws_ yX0_length cX0_length 6 (Option.some Jvm.ClassFile.FieldType.long)) (rm_X0_length (u9.1 - u.1) (u9.2.1 - u.2.1)) (va_Pc [.ref x0, .int x1, .int x2, .int x3] (CPre D dA A u)) (va_Ql (fun r u => r = r0 ∧ u = u9) (CPost D dA A) A) (u9.1 - u.1) (u9.2.1 - u.2.1) A := by
  refine Met.ofW (cc := cX0_length) (maxL := 6) (ret := (Option.some Jvm.ClassFile.FieldType.long)) (by decide) rfl ?_
  intro p e s m args below meth c s₁ B hml hv
  have hx := B.exec
  have hb := B.bytes
  have hr := B.returns
  have hts := atoms_spec (ws := (ws_ yX0_length cX0_length 6 (Option.some Jvm.ClassFile.FieldType.long))) B.pre
  have hts : ∀ w ∈ lw_all, w.before args s = true := fun w h => hts w (List.mem_cons_of_mem _ h)
  have hown : s.vm.findClass RX0 = some m.cls := findClass_of_methodNamed B.named
  have hlocks := B.notSynchronized
  obtain ⟨hav, hv⟩ := hv
  have C : CX p s m args c cX0_length RX0 D dA := ⟨hx, hb, hown, hts, hv.2⟩
  have hw : CW D dA A s u s.heap [] := hv.1
  generalize hQ : MQ below (va_Ql (fun r u => r = r0 ∧ u = u9) (CPost D dA A) A) args s (u9.1 - u.1) (u9.2.1 - u.2.1) A = QQ
  have hent := lg_entry_eq m [.ref x0, .int x1, .int x2, .int x3] 6
  rw [← hav] at hent
  rw [hent]
  have hl := lv_entry ([.ref x0, .int x1, .int x2, .int x3]) (n := 6) (Nat.le_of_ble_eq_true rfl)
  generalize (lg_sl ([.ref x0, .int x1, .int x2, .int x3]) ++ List.replicate (6 - (lg_sl ([.ref x0, .int x1, .int x2, .int x3])).length) Slot.unset).toArray = ls at hl ⊢
  have hl : lv_has ls 6 [(0, .ref x0), (1, .int x1), (2, .int x2), (3, .int x3)] := hl
  obtain ⟨cc, ecc⟩ : ∃ z : Nat, z = 0 := ⟨0, rfl⟩
  obtain ⟨ss, ess⟩ : ∃ z : Nat, z = 0 := ⟨0, rfl⟩
  have hcc : cc + u.1 = u.1 := by omega
  have hss : ss + u.2.1 = u.2.1 := by omega
  suffices hgo : W p l e (rm_X0_length (u9.1 - u.1) (u9.2.1 - u.2.1)) s m args below meth c s.heap [] cc ss QQ (F0 m 0 ls []) by rw [ecc, ess] at hgo; exact hgo
  have ⟨pu, qu, _, _⟩ := mo_X0_length hm
  have hB22 : ∀ (h : CH) (cc ss : Nat) (H : Heap) (locs : List Loc) (ls : Array Slot), m_X0_length_22 f h = some (r0, u9) → CW D dA A s h H locs → cc + u.1 = h.1 → ss + u.2.1 = h.2.1 → lv_has ls 6 [] → W p l e (rm_X0_length (u9.1 - u.1) (u9.2.1 - u.2.1)) s m args below meth c H locs cc ss QQ (F0 m 22 ls []) := by
    intro h cc ss H locs ls hm hw hcc hss hl
    have hmo := mo_X0_length_22  h _ hm
    have sb_ : h.1 ≤ u9.1 := hmo.1
    have tb_ : h.2.1 ≤ u9.2.1 := hmo.2.1
    rw [m_X0_length_22] at hm
    refine lv_ldc2 hx hb hown (hts _ q1059) dX0_length_22 ?_
    obtain ⟨er, eh⟩ := retE hm
    have ec : cc = u9.1 - u.1 := by rw [← eh]; omega
    have es : ss = u9.2.1 - u.2.1 := by rw [← eh]; omega
    rw [ec, es, ← hQ]
    exact W.lret (v := (-2 : Int64)) hx hb hr (fun t ht hW => ⟨⟨(-2 : Int64), h, rfl, ⟨er, eh⟩, ⟨by rw [ht]; exact hw.1, by rw [ht]; exact hw.2.1⟩⟩, hw.2.2.1.F ht⟩) hw.2.2.1.2.2 dX0_length_25
  have hB48 : ∀ (h : CH) (x3 : Int32) (x4 : Int64) (y0 : Int64) (cc ss : Nat) (H : Heap) (locs : List Loc) (ls : Array Slot), m_X0_length_48 f h x3 x4 y0 = some (r0, u9) → CW D dA A s h H locs → cc + u.1 = h.1 → ss + u.2.1 = h.2.1 → lv_has ls 6 [(3, .int x3), (4, .long x4)] → W p l e (rm_X0_length (u9.1 - u.1) (u9.2.1 - u.2.1)) s m args below meth c H locs cc ss QQ (F0 m 48 ls [.long y0]) := by
    intro h x3 x4 y0 cc ss H locs ls hm hw hcc hss hl
    have hmo := mo_X0_length_48  h x3 x4 y0 _ hm
    have sb_ : h.1 ≤ u9.1 := hmo.1
    have tb_ : h.2.1 ≤ u9.2.1 := hmo.2.1
    rw [m_X0_length_48] at hm
    refine lv_lload hx hb dX0_length_48 (lv_at hl 1 rfl) ?_
    refine lv_lload hx hb dX0_length_50 (lv_at hl 1 rfl) ?_
    refine lv_lmul hx hb dX0_length_52 ?_
    refine lv_iload_n hx hb dX0_length_53 rfl (lv_at hl 0 rfl) ?_
    obtain ⟨r1, er1, hm⟩ := bdE hm
    refine scl (va_runS (As := [.long y0, .long (x4 * x4), .int x3]) (rest := []) ⟨hx, hb, hml, hown, hts⟩ (w_X0_part l er1) (cw_X0_part hts q1061 ⟨Nat.le_of_ble_eq_true rfl, Nat.le_of_ble_eq_true rfl⟩) (pre_s _) rfl rfl hl.1 rfl (lv_room (Nat.le_of_ble_eq_true rfl)) dX0_length_54 ⟨show cc + 0 ≤ u9.1 - u.1 by omega, show ss + 0 ≤ u9.2.1 - u.2.1 by omega⟩) ?_
    obtain ⟨er, eh⟩ := retE hm
    have ec : cc = u9.1 - u.1 := by rw [← eh]; omega
    have es : ss = u9.2.1 - u.2.1 := by rw [← eh]; omega
    rw [ec, es, ← hQ]
    exact W.lret (v := r1) hx hb hr (fun t ht hW => ⟨⟨r1, h, rfl, ⟨er, eh⟩, ⟨by rw [ht]; exact hw.1, by rw [ht]; exact hw.2.1⟩⟩, hw.2.2.1.F ht⟩) hw.2.2.1.2.2 dX0_length_57
  have hB41 : ∀ (h : CH) (x2 : Int32) (x3 : Int32) (x4 : Int64) (y0 : Nat) (cc ss : Nat) (H : Heap) (locs : List Loc) (ls : Array Slot), m_X0_length_41 f h x2 x3 x4 y0 = some (r0, u9) → CW D dA A s h H locs → cc + u.1 = h.1 → ss + u.2.1 = h.2.1 → lv_has ls 6 [(2, .int x2), (3, .int x3), (4, .long x4)] → W p l e (rm_X0_length (u9.1 - u.1) (u9.2.1 - u.2.1)) s m args below meth c H locs cc ss QQ (F0 m 41 ls [.ref y0]) := by
    intro h x2 x3 x4 y0 cc ss H locs ls hm hw hcc hss hl
    have hmo := mo_X0_length_41  h x2 x3 x4 y0 _ hm
    have sb_ : h.1 ≤ u9.1 := hmo.1
    have tb_ : h.2.1 ≤ u9.2.1 := hmo.2.1
    rw [m_X0_length_41] at hm
    obtain ⟨a1, ea1, hm⟩ := bdE hm
    refine cg_getN C hw (by decide) (oR_E ea1) rfl in_X11 (by decide) (hw.2.2.2.2.1 _ (List.mem_of_getElem? (i := 30) rfl)) dX0_length_41 ?_
    refine lv_iload_n hx hb dX0_length_44 rfl (lv_at hl 0 rfl) ?_
    obtain ⟨g2, hm⟩ := gdE hm
    obtain ⟨r4, h3, er4, hm⟩ := bd2E hm
    have lh3 := mo_X2_square er4
    have ph3 : h.1 ≤ h3.1 := lh3.1
    have qh3 : h.2.1 ≤ h3.2.1 := lh3.2.1
    have hmo := mo_X0_length_48   h3 x3 x4 r4 _ hm
    have sh3 : h3.1 ≤ u9.1 := hmo.1
    have th3 : h3.2.1 ≤ u9.2.1 := hmo.2.1
    refine cg_calll hw lh3 (va_runV (As := [.int x2]) (rest := []) ⟨hx, hb, hml, hown, hts⟩ (w_X2_square l er4) (cw_X2_square hts q1272 ⟨Nat.le_of_ble_eq_true rfl, Nat.le_of_ble_eq_true rfl⟩) (cg_preV C hw g2 rfl _) rfl rfl hl.1 rfl (lv_room (Nat.le_of_ble_eq_true rfl)) dX0_length_45 ⟨show cc + (h3.1 - h.1) ≤ u9.1 - u.1 by omega, show ss + (h3.2.1 - h.2.1) ≤ u9.2.1 - u.2.1 by omega⟩) (fun H locs hw => ?_)
    exact hB48 h3 x3 x4 r4 _ _ _ _ _ hm hw (by omega) (by omega) (lv_sub hl [1, 2] rfl)
  have hB34 : ∀ (h : CH) (x0 : Nat) (x1 : Int32) (x2 : Int32) (x3 : Int32) (y0 : Int64) (cc ss : Nat) (H : Heap) (locs : List Loc) (ls : Array Slot), m_X0_length_34 f h x0 x1 x2 x3 y0 = some (r0, u9) → CW D dA A s h H locs → cc + u.1 = h.1 → ss + u.2.1 = h.2.1 → lv_has ls 6 [(0, .ref x0), (1, .int x1), (2, .int x2), (3, .int x3)] → W p l e (rm_X0_length (u9.1 - u.1) (u9.2.1 - u.2.1)) s m args below meth c H locs cc ss QQ (F0 m 34 ls [.long y0]) := by
    intro h x0 x1 x2 x3 y0 cc ss H locs ls hm hw hcc hss hl
    have hmo := mo_X0_length_34  h x0 x1 x2 x3 y0 _ hm
    have sb_ : h.1 ≤ u9.1 := hmo.1
    have tb_ : h.2.1 ≤ u9.2.1 := hmo.2.1
    rw [m_X0_length_34] at hm
    refine lv_lstore (lv' := [(4, .long y0), (0, .ref x0), (1, .int x1), (2, .int x2), (3, .int x3)]) hx hb dX0_length_34 hl (by decide) rfl (fun ls hl => ?_)
    refine lv_aload_n hx hb dX0_length_36 rfl (lv_at hl 1 rfl) ?_
    refine lv_iload_n hx hb dX0_length_37 rfl (lv_at hl 2 rfl) ?_
    obtain ⟨g1, hm⟩ := gdE hm
    obtain ⟨a3, h2, ea3, hm⟩ := bd2E hm
    have lh2 := mo_X0_reducedOf ea3
    have ph2 : h.1 ≤ h2.1 := lh2.1
    have qh2 : h.2.1 ≤ h2.2.1 := lh2.2.1
    have hmo := mo_X0_length_41   h2 x2 x3 y0 a3 _ hm
    have sh2 : h2.1 ≤ u9.1 := hmo.1
    have th2 : h2.2.1 ≤ u9.2.1 := hmo.2.1
    refine cg_callr hw lh2 (va_runV (As := [.int x1]) (rest := []) ⟨hx, hb, hml, hown, hts⟩ (w_X0_reducedOf l ea3) (cw_X0_reducedOf hts q1217 ⟨Nat.le_of_ble_eq_true rfl, Nat.le_of_ble_eq_true rfl⟩) (cg_preV C hw g1 rfl _) rfl rfl hl.1 rfl (lv_room (Nat.le_of_ble_eq_true rfl)) dX0_length_38 ⟨show cc + (h2.1 - h.1) ≤ u9.1 - u.1 by omega, show ss + (h2.2.1 - h.2.1) ≤ u9.2.1 - u.2.1 by omega⟩) (fun H locs hw => ?_)
    exact hB41 h2 x2 x3 y0 a3 _ _ _ _ _ hm hw (by omega) (by omega) (lv_sub hl [3, 4, 0] rfl)
  have hB31 : ∀ (h : CH) (x0 : Nat) (x1 : Int32) (x2 : Int32) (x3 : Int32) (y0 : Nat) (cc ss : Nat) (H : Heap) (locs : List Loc) (ls : Array Slot), m_X0_length_31 f h x0 x1 x2 x3 y0 = some (r0, u9) → CW D dA A s h H locs → cc + u.1 = h.1 → ss + u.2.1 = h.2.1 → lv_has ls 6 [(0, .ref x0), (1, .int x1), (2, .int x2), (3, .int x3)] → W p l e (rm_X0_length (u9.1 - u.1) (u9.2.1 - u.2.1)) s m args below meth c H locs cc ss QQ (F0 m 31 ls [.ref y0]) := by
    intro h x0 x1 x2 x3 y0 cc ss H locs ls hm hw hcc hss hl
    have hmo := mo_X0_length_31  h x0 x1 x2 x3 y0 _ hm
    have sb_ : h.1 ≤ u9.1 := hmo.1
    have tb_ : h.2.1 ≤ u9.2.1 := hmo.2.1
    rw [m_X0_length_31] at hm
    by_cases c1 : isC h y0 6 = true
    · have hm := ifT hm c1
      obtain ⟨r3, h2, er3, hm⟩ := bd2E hm
      have lh2 := mo_X6_over er3
      have ph2 : h.1 ≤ h2.1 := lh2.1
      have qh2 : h.2.1 ≤ h2.2.1 := lh2.2.1
      have hmo := mo_X0_length_34   h2 x0 x1 x2 x3 r3 _ hm
      have sh2 : h2.1 ≤ u9.1 := hmo.1
      have th2 : h2.2.1 ≤ u9.2.1 := hmo.2.1
      refine cg_calll hw lh2 (va_runV (As := []) (rest := []) ⟨hx, hb, hml, hown, hts⟩ (w_X6_over l er3) (cw_X6_over hts q945 ⟨Nat.le_of_ble_eq_true rfl, Nat.le_of_ble_eq_true rfl⟩) (cg_preV C hw c1 rfl _) rfl rfl hl.1 rfl (lv_room (Nat.le_of_ble_eq_true rfl)) dX0_length_31 ⟨show cc + (h2.1 - h.1) ≤ u9.1 - u.1 by omega, show ss + (h2.2.1 - h.2.1) ≤ u9.2.1 - u.2.1 by omega⟩) (fun H locs hw => ?_)
      exact hB34 h2 x0 x1 x2 x3 r3 _ _ _ _ _ hm hw (by omega) (by omega) (lv_sub hl [0, 1, 2, 3] rfl)
    · have hm := ifF hm c1
      obtain ⟨g4, hm⟩ := gdE hm
      obtain ⟨r6, h5, er6, hm⟩ := bd2E hm
      have lh5 := mo_X7_over er6
      have ph5 : h.1 ≤ h5.1 := lh5.1
      have qh5 : h.2.1 ≤ h5.2.1 := lh5.2.1
      have hmo := mo_X0_length_34   h5 x0 x1 x2 x3 r6 _ hm
      have sh5 : h5.1 ≤ u9.1 := hmo.1
      have th5 : h5.2.1 ≤ u9.2.1 := hmo.2.1
      refine cg_calll hw lh5 (va_runU (As := []) (rest := []) ⟨hx, hb, hml, hown, hts⟩ (w_X7_over l er6) (va_cwO 0 hts (lwO q945 q948 q946 q949 q950 q144 q951) rfl rfl rfl q952 (by decide +kernel) ⟨Nat.le_of_ble_eq_true rfl, Nat.le_of_ble_eq_true rfl⟩) (cg_preV C hw g4 rfl _) rfl rfl hl.1 rfl (lv_room (Nat.le_of_ble_eq_true rfl)) dX0_length_31 ⟨show cc + (h5.1 - h.1) ≤ u9.1 - u.1 by omega, show ss + (h5.2.1 - h.2.1) ≤ u9.2.1 - u.2.1 by omega⟩) (fun H locs hw => ?_)
      exact hB34 h5 x0 x1 x2 x3 r6 _ _ _ _ _ hm hw (by omega) (by omega) (lv_sub hl [0, 1, 2, 3] rfl)
  have hB5 : ∀ (h : CH) (x0 : Nat) (x1 : Int32) (x2 : Int32) (x3 : Int32) (y0 : Int32) (cc ss : Nat) (H : Heap) (locs : List Loc) (ls : Array Slot), m_X0_length_5 f h x0 x1 x2 x3 y0 = some (r0, u9) → CW D dA A s h H locs → cc + u.1 = h.1 → ss + u.2.1 = h.2.1 → lv_has ls 6 [(0, .ref x0), (1, .int x1), (2, .int x2), (3, .int x3)] → W p l e (rm_X0_length (u9.1 - u.1) (u9.2.1 - u.2.1)) s m args below meth c H locs cc ss QQ (F0 m 5 ls [.int y0]) := by
    intro h x0 x1 x2 x3 y0 cc ss H locs ls hm hw hcc hss hl
    have hmo := mo_X0_length_5  h x0 x1 x2 x3 y0 _ hm
    have sb_ : h.1 ≤ u9.1 := hmo.1
    have tb_ : h.2.1 ≤ u9.2.1 := hmo.2.1
    rw [m_X0_length_5] at hm
    refine lv_if_eq (tgt := 22) hx hb dX0_length_5 (by decide) (fun c1 => ?_) (fun c1 => ?_)
    · have hm := ifT hm c1
      exact hB22 h _ _ _ _ _ hm hw (by omega) (by omega) (lv_sub hl [] rfl)
    · have hm := ifF hm c1
      refine lv_iload_n hx hb dX0_length_8 rfl (lv_at hl 2 rfl) ?_
      obtain ⟨r2, er2, hm⟩ := bdE hm
      refine sci (va_runS (As := [.int x2]) (rest := []) ⟨hx, hb, hml, hown, hts⟩ (w_X0_isSide l er2) (cw_X0_isSide hts q896 ⟨Nat.le_of_ble_eq_true rfl, Nat.le_of_ble_eq_true rfl⟩) (pre_s _) rfl rfl hl.1 rfl (lv_room (Nat.le_of_ble_eq_true rfl)) dX0_length_9 ⟨show cc + 0 ≤ u9.1 - u.1 by omega, show ss + 0 ≤ u9.2.1 - u.2.1 by omega⟩) ?_
      refine lv_if_eq (tgt := 22) hx hb dX0_length_12 (by decide) (fun c3 => ?_) (fun c3 => ?_)
      · have hm := ifT hm c3
        exact hB22 h _ _ _ _ _ hm hw (by omega) (by omega) (lv_sub hl [] rfl)
      · have hm := ifF hm c3
        refine lv_iload_n hx hb dX0_length_15 rfl (lv_at hl 3 rfl) ?_
        obtain ⟨r4, er4, hm⟩ := bdE hm
        refine sci (va_runS (As := [.int x3]) (rest := []) ⟨hx, hb, hml, hown, hts⟩ (w_X0_isPart l er4) (cw_X0_isPart hts q1056 ⟨Nat.le_of_ble_eq_true rfl, Nat.le_of_ble_eq_true rfl⟩) (pre_s _) rfl rfl hl.1 rfl (lv_room (Nat.le_of_ble_eq_true rfl)) dX0_length_16 ⟨show cc + 0 ≤ u9.1 - u.1 by omega, show ss + 0 ≤ u9.2.1 - u.2.1 by omega⟩) ?_
        refine lv_if_ne (tgt := 26) hx hb dX0_length_19 (by decide) (fun c5 => ?_) (fun c5 => ?_)
        · have hm := ifT hm c5
          refine lv_aload_n hx hb dX0_length_26 rfl (lv_at hl 0 rfl) ?_
          refine lv_iload_n hx hb dX0_length_27 rfl (lv_at hl 1 rfl) ?_
          obtain ⟨g6, hm⟩ := gdE hm
          obtain ⟨a8, h7, ea8, hm⟩ := bd2E hm
          have lh7 := mo_X0_at ea8
          have ph7 : h.1 ≤ h7.1 := lh7.1
          have qh7 : h.2.1 ≤ h7.2.1 := lh7.2.1
          have hmo := mo_X0_length_31   h7 x0 x1 x2 x3 a8 _ hm
          have sh7 : h7.1 ≤ u9.1 := hmo.1
          have th7 : h7.2.1 ≤ u9.2.1 := hmo.2.1
          refine cg_callr hw lh7 (va_runV (As := [.int x1]) (rest := []) ⟨hx, hb, hml, hown, hts⟩ (w_X0_at l ea8) (cw_X0_at hts q900 ⟨Nat.le_of_ble_eq_true rfl, Nat.le_of_ble_eq_true rfl⟩) (cg_preV C hw g6 rfl _) rfl rfl hl.1 rfl (lv_room (Nat.le_of_ble_eq_true rfl)) dX0_length_28 ⟨show cc + (h7.1 - h.1) ≤ u9.1 - u.1 by omega, show ss + (h7.2.1 - h.2.1) ≤ u9.2.1 - u.2.1 by omega⟩) (fun H locs hw => ?_)
          exact hB31 h7 x0 x1 x2 x3 a8 _ _ _ _ _ hm hw (by omega) (by omega) (lv_sub hl [0, 1, 2, 3] rfl)
        · have hm := ifT' hm c5
          exact hB22 h _ _ _ _ _ hm hw (by omega) (by omega) (lv_sub hl [] rfl)
  rw [m_X0_length] at hm
  refine lv_aload_n hx hb dX0_length_0 rfl (lv_at hl 0 rfl) ?_
  refine lv_iload_n hx hb dX0_length_1 rfl (lv_at hl 1 rfl) ?_
  obtain ⟨g1, hm⟩ := gdE hm
  obtain ⟨r3, h2, er3, hm⟩ := bd2E hm
  have lh2 := mo_X0_isLattice er3
  have ph2 : u.1 ≤ h2.1 := lh2.1
  have qh2 : u.2.1 ≤ h2.2.1 := lh2.2.1
  have hmo := mo_X0_length_5   h2 x0 x1 x2 x3 r3 _ hm
  have sh2 : h2.1 ≤ u9.1 := hmo.1
  have th2 : h2.2.1 ≤ u9.2.1 := hmo.2.1
  refine cg_calli hw lh2 (va_runV (As := [.int x1]) (rest := []) ⟨hx, hb, hml, hown, hts⟩ (w_X0_isLattice l er3) (cw_X0_isLattice hts q892 ⟨Nat.le_of_ble_eq_true rfl, Nat.le_of_ble_eq_true rfl⟩) (cg_preV C hw g1 rfl _) rfl rfl hl.1 rfl (lv_room (Nat.le_of_ble_eq_true rfl)) dX0_length_2 ⟨show cc + (h2.1 - u.1) ≤ u9.1 - u.1 by omega, show ss + (h2.2.1 - u.2.1) ≤ u9.2.1 - u.2.1 by omega⟩) (fun H locs hw => ?_)
  exact hB5 h2 x0 x1 x2 x3 r3 _ _ _ _ _ hm hw (by omega) (by omega) (lv_sub hl [0, 1, 2, 3] rfl)
def m_X11_kissing_151 (f : Nat) (h : CH) (x3 : Int32) : Option (Int32 × CH) := some (x3, h)
theorem mo_X11_kissing_151 {f : Nat} : ∀ (h : CH) (x3 : Int32) (r : (Int32 × CH)), m_X11_kissing_151 f h x3 = some r → le2 h r.2 := by
  intro h x3 r hm
  rw [m_X11_kissing_151] at hm
  cases hm
  exact le2.rf
def m_X11_kissing_145 (f : Nat) (k14 : CH → Nat → Int64 → Int32 → Int32 → Option (Int32 × CH)) (h : CH) (x0 : Nat) (x1 : Int64) (x3 : Int32) (x4 : Int32) : Option (Int32 × CH) := nmv ((x4 + 1) : Int32) fun v1 =>
    k14 h x0 x1 x3 v1
theorem mo_X11_kissing_145 {f : Nat} {k14 : CH → Nat → Int64 → Int32 → Int32 → Option (Int32 × CH)} (hk14 : ∀ (h : CH) (x0 : Nat) (x1 : Int64) (x3 : Int32) (x4 : Int32) (r : (Int32 × CH)), k14 h x0 x1 x3 x4 = some r → le2 h r.2) : ∀ (h : CH) (x0 : Nat) (x1 : Int64) (x3 : Int32) (x4 : Int32) (r : (Int32 × CH)), m_X11_kissing_145 f k14 h x0 x1 x3 x4 = some r → le2 h r.2 := by
  intro h x0 x1 x3 x4 r hm
  rw [m_X11_kissing_145] at hm
  obtain ⟨v1, ev1, hm⟩ := nmE hm
  exact (hk14 h x0 x1 x3 v1 _ hm)
def m_X11_kissing_139 (f : Nat) (k14 : CH → Nat → Int64 → Int32 → Int32 → Option (Int32 × CH)) (k23 : CH → Nat → Int64 → Int32 → Int32 → Int32 → Option (Int32 × CH)) (h : CH) (x0 : Nat) (x1 : Int64) (x3 : Int32) (x4 : Int32) (x5 : Int32) : Option (Int32 × CH) := nmv ((x5 + 1) : Int32) fun v1 =>
    k23 h x0 x1 x3 x4 v1
theorem mo_X11_kissing_139 {f : Nat} {k14 : CH → Nat → Int64 → Int32 → Int32 → Option (Int32 × CH)} (hk14 : ∀ (h : CH) (x0 : Nat) (x1 : Int64) (x3 : Int32) (x4 : Int32) (r : (Int32 × CH)), k14 h x0 x1 x3 x4 = some r → le2 h r.2) {k23 : CH → Nat → Int64 → Int32 → Int32 → Int32 → Option (Int32 × CH)} (hk23 : ∀ (h : CH) (x0 : Nat) (x1 : Int64) (x3 : Int32) (x4 : Int32) (x5 : Int32) (r : (Int32 × CH)), k23 h x0 x1 x3 x4 x5 = some r → le2 h r.2) : ∀ (h : CH) (x0 : Nat) (x1 : Int64) (x3 : Int32) (x4 : Int32) (x5 : Int32) (r : (Int32 × CH)), m_X11_kissing_139 f k14 k23 h x0 x1 x3 x4 x5 = some r → le2 h r.2 := by
  intro h x0 x1 x3 x4 x5 r hm
  rw [m_X11_kissing_139] at hm
  obtain ⟨v1, ev1, hm⟩ := nmE hm
  exact (hk23 h x0 x1 x3 x4 v1 _ hm)
def m_X11_kissing_131 (f : Nat) (k14 : CH → Nat → Int64 → Int32 → Int32 → Option (Int32 × CH)) (k23 : CH → Nat → Int64 → Int32 → Int32 → Int32 → Option (Int32 × CH)) (k32 : CH → Nat → Int64 → Int32 → Int32 → Int32 → Int32 → Option (Int32 × CH)) (h : CH) (x0 : Nat) (x1 : Int64) (x4 : Int32) (x5 : Int32) (x6 : Int32) (y0 : Int32) (y1 : Int32) : Option (Int32 × CH) := nmv ((y0 + y1) : Int32) fun v1 =>
    nmv ((x6 + 1) : Int32) fun v2 =>
    k32 h x0 x1 v1 x4 x5 v2
theorem mo_X11_kissing_131 {f : Nat} {k14 : CH → Nat → Int64 → Int32 → Int32 → Option (Int32 × CH)} (hk14 : ∀ (h : CH) (x0 : Nat) (x1 : Int64) (x3 : Int32) (x4 : Int32) (r : (Int32 × CH)), k14 h x0 x1 x3 x4 = some r → le2 h r.2) {k23 : CH → Nat → Int64 → Int32 → Int32 → Int32 → Option (Int32 × CH)} (hk23 : ∀ (h : CH) (x0 : Nat) (x1 : Int64) (x3 : Int32) (x4 : Int32) (x5 : Int32) (r : (Int32 × CH)), k23 h x0 x1 x3 x4 x5 = some r → le2 h r.2) {k32 : CH → Nat → Int64 → Int32 → Int32 → Int32 → Int32 → Option (Int32 × CH)} (hk32 : ∀ (h : CH) (x0 : Nat) (x1 : Int64) (x3 : Int32) (x4 : Int32) (x5 : Int32) (x6 : Int32) (r : (Int32 × CH)), k32 h x0 x1 x3 x4 x5 x6 = some r → le2 h r.2) : ∀ (h : CH) (x0 : Nat) (x1 : Int64) (x4 : Int32) (x5 : Int32) (x6 : Int32) (y0 : Int32) (y1 : Int32) (r : (Int32 × CH)), m_X11_kissing_131 f k14 k23 k32 h x0 x1 x4 x5 x6 y0 y1 = some r → le2 h r.2 := by
  intro h x0 x1 x4 x5 x6 y0 y1 r hm
  rw [m_X11_kissing_131] at hm
  obtain ⟨v1, ev1, hm⟩ := nmE hm
  obtain ⟨v2, ev2, hm⟩ := nmE hm
  exact (hk32 h x0 x1 v1 x4 x5 v2 _ hm)
def m_X11_kissing_118 (f : Nat) (k14 : CH → Nat → Int64 → Int32 → Int32 → Option (Int32 × CH)) (k23 : CH → Nat → Int64 → Int32 → Int32 → Int32 → Option (Int32 × CH)) (k32 : CH → Nat → Int64 → Int32 → Int32 → Int32 → Int32 → Option (Int32 × CH)) (h : CH) (x0 : Nat) (x1 : Int64) (x3 : Int32) (x4 : Int32) (x5 : Int32) (x6 : Int32) (x7 : Int64) : Option (Int32 × CH) := if ¬ x7 = x1 then
    m_X11_kissing_131 f k14 k23 k32 h x0 x1 x4 x5 x6 x3 (0 : Int32)
    else m_X11_kissing_131 f k14 k23 k32 h x0 x1 x4 x5 x6 x3 (1 : Int32)
theorem mo_X11_kissing_118 {f : Nat} {k14 : CH → Nat → Int64 → Int32 → Int32 → Option (Int32 × CH)} (hk14 : ∀ (h : CH) (x0 : Nat) (x1 : Int64) (x3 : Int32) (x4 : Int32) (r : (Int32 × CH)), k14 h x0 x1 x3 x4 = some r → le2 h r.2) {k23 : CH → Nat → Int64 → Int32 → Int32 → Int32 → Option (Int32 × CH)} (hk23 : ∀ (h : CH) (x0 : Nat) (x1 : Int64) (x3 : Int32) (x4 : Int32) (x5 : Int32) (r : (Int32 × CH)), k23 h x0 x1 x3 x4 x5 = some r → le2 h r.2) {k32 : CH → Nat → Int64 → Int32 → Int32 → Int32 → Int32 → Option (Int32 × CH)} (hk32 : ∀ (h : CH) (x0 : Nat) (x1 : Int64) (x3 : Int32) (x4 : Int32) (x5 : Int32) (x6 : Int32) (r : (Int32 × CH)), k32 h x0 x1 x3 x4 x5 x6 = some r → le2 h r.2) : ∀ (h : CH) (x0 : Nat) (x1 : Int64) (x3 : Int32) (x4 : Int32) (x5 : Int32) (x6 : Int32) (x7 : Int64) (r : (Int32 × CH)), m_X11_kissing_118 f k14 k23 k32 h x0 x1 x3 x4 x5 x6 x7 = some r → le2 h r.2 := by
  intro h x0 x1 x3 x4 x5 x6 x7 r hm
  rw [m_X11_kissing_118] at hm
  by_cases c1 : ¬ x7 = x1
  · have hm := ifT hm c1
    exact (mo_X11_kissing_131 hk14 hk23 hk32 h x0 x1 x4 x5 x6 x3 (0 : Int32) _ hm)
  · have hm := ifF hm c1
    exact (mo_X11_kissing_131 hk14 hk23 hk32 h x0 x1 x4 x5 x6 x3 (1 : Int32) _ hm)
def m_X11_kissing_44 (f : Nat) (k14 : CH → Nat → Int64 → Int32 → Int32 → Option (Int32 × CH)) (k23 : CH → Nat → Int64 → Int32 → Int32 → Int32 → Option (Int32 × CH)) (k32 : CH → Nat → Int64 → Int32 → Int32 → Int32 → Int32 → Option (Int32 × CH)) : Nat → CH → Nat → Int64 → Int32 → Int32 → Int32 → Int32 → Int64 → Int32 → Option (Int32 × CH)
  | 0, _, _, _, _, _, _, _, _, _ => none
  | n44 + 1, h, x0, x1, x3, x4, x5, x6, x7, x9 => if (3 : Int32) ≤ x9 then
    m_X11_kissing_118 f k14 k23 k32 h x0 x1 x3 x4 x5 x6 x7
    else bd (oR h 11 0 x0) fun a2 =>
    bd (oR h 3 0 a2) fun a3 =>
    bd (aR h 4 a3 (0 : Int32)) fun a4 =>
    bd (aL h 1 a4 x9) fun v5 =>
    bd (oR h 11 0 x0) fun a6 =>
    bd (oR h 3 0 a6) fun a7 =>
    bd (aR h 4 a7 (1 : Int32)) fun a8 =>
    bd (aL h 1 a8 x9) fun v9 =>
    bd (oR h 11 0 x0) fun a10 =>
    bd (oR h 3 0 a10) fun a11 =>
    bd (aR h 4 a11 (2 : Int32)) fun a12 =>
    bd (aL h 1 a12 x9) fun v13 =>
    nmv (((((Int32.toInt64 x4) * v5) + ((Int32.toInt64 x5) * v9)) + ((Int32.toInt64 x6) * v13)) : Int64) fun v14 =>
    nmv ((x7 + (v14 * v14)) : Int64) fun v15 =>
    nmv ((x9 + 1) : Int32) fun v16 =>
    m_X11_kissing_44 f k14 k23 k32 n44 h x0 x1 x3 x4 x5 x6 v15 v16
theorem mo_X11_kissing_44 {f : Nat} {k14 : CH → Nat → Int64 → Int32 → Int32 → Option (Int32 × CH)} (hk14 : ∀ (h : CH) (x0 : Nat) (x1 : Int64) (x3 : Int32) (x4 : Int32) (r : (Int32 × CH)), k14 h x0 x1 x3 x4 = some r → le2 h r.2) {k23 : CH → Nat → Int64 → Int32 → Int32 → Int32 → Option (Int32 × CH)} (hk23 : ∀ (h : CH) (x0 : Nat) (x1 : Int64) (x3 : Int32) (x4 : Int32) (x5 : Int32) (r : (Int32 × CH)), k23 h x0 x1 x3 x4 x5 = some r → le2 h r.2) {k32 : CH → Nat → Int64 → Int32 → Int32 → Int32 → Int32 → Option (Int32 × CH)} (hk32 : ∀ (h : CH) (x0 : Nat) (x1 : Int64) (x3 : Int32) (x4 : Int32) (x5 : Int32) (x6 : Int32) (r : (Int32 × CH)), k32 h x0 x1 x3 x4 x5 x6 = some r → le2 h r.2) : ∀ (n44 : Nat) (h : CH) (x0 : Nat) (x1 : Int64) (x3 : Int32) (x4 : Int32) (x5 : Int32) (x6 : Int32) (x7 : Int64) (x9 : Int32) (r : (Int32 × CH)), m_X11_kissing_44 f k14 k23 k32 n44 h x0 x1 x3 x4 x5 x6 x7 x9 = some r → le2 h r.2 := by
  intro n44
  induction n44 with
  | zero => intro h x0 x1 x3 x4 x5 x6 x7 x9 r hm; rw [m_X11_kissing_44] at hm; exact noE hm
  | succ n44 ihm =>
    intro h x0 x1 x3 x4 x5 x6 x7 x9 r hm
    rw [m_X11_kissing_44] at hm
    by_cases c1 : (3 : Int32) ≤ x9
    · have hm := ifT hm c1
      exact (mo_X11_kissing_118 hk14 hk23 hk32 h x0 x1 x3 x4 x5 x6 x7 _ hm)
    · have hm := ifF hm c1
      obtain ⟨a2, ea2, hm⟩ := bdE hm
      obtain ⟨a3, ea3, hm⟩ := bdE hm
      obtain ⟨a4, ea4, hm⟩ := bdE hm
      obtain ⟨v5, ev5, hm⟩ := bdE hm
      obtain ⟨a6, ea6, hm⟩ := bdE hm
      obtain ⟨a7, ea7, hm⟩ := bdE hm
      obtain ⟨a8, ea8, hm⟩ := bdE hm
      obtain ⟨v9, ev9, hm⟩ := bdE hm
      obtain ⟨a10, ea10, hm⟩ := bdE hm
      obtain ⟨a11, ea11, hm⟩ := bdE hm
      obtain ⟨a12, ea12, hm⟩ := bdE hm
      obtain ⟨v13, ev13, hm⟩ := bdE hm
      obtain ⟨v14, ev14, hm⟩ := nmE hm
      obtain ⟨v15, ev15, hm⟩ := nmE hm
      obtain ⟨v16, ev16, hm⟩ := nmE hm
      exact (ihm h x0 x1 x3 x4 x5 x6 v15 v16 _ hm)
def m_X11_kissing_32 (f : Nat) (k14 : CH → Nat → Int64 → Int32 → Int32 → Option (Int32 × CH)) (k23 : CH → Nat → Int64 → Int32 → Int32 → Int32 → Option (Int32 × CH)) : Nat → CH → Nat → Int64 → Int32 → Int32 → Int32 → Int32 → Option (Int32 × CH)
  | 0, _, _, _, _, _, _, _ => none
  | n32 + 1, h, x0, x1, x3, x4, x5, x6 => if (1 : Int32) < x6 then
    m_X11_kissing_139 f k14 k23 h x0 x1 x3 x4 x5
    else m_X11_kissing_44 f k14 k23 (m_X11_kissing_32 f k14 k23 n32) f h x0 x1 x3 x4 x5 x6 (0 : Int64) (0 : Int32)
theorem mo_X11_kissing_32 {f : Nat} {k14 : CH → Nat → Int64 → Int32 → Int32 → Option (Int32 × CH)} (hk14 : ∀ (h : CH) (x0 : Nat) (x1 : Int64) (x3 : Int32) (x4 : Int32) (r : (Int32 × CH)), k14 h x0 x1 x3 x4 = some r → le2 h r.2) {k23 : CH → Nat → Int64 → Int32 → Int32 → Int32 → Option (Int32 × CH)} (hk23 : ∀ (h : CH) (x0 : Nat) (x1 : Int64) (x3 : Int32) (x4 : Int32) (x5 : Int32) (r : (Int32 × CH)), k23 h x0 x1 x3 x4 x5 = some r → le2 h r.2) : ∀ (n32 : Nat) (h : CH) (x0 : Nat) (x1 : Int64) (x3 : Int32) (x4 : Int32) (x5 : Int32) (x6 : Int32) (r : (Int32 × CH)), m_X11_kissing_32 f k14 k23 n32 h x0 x1 x3 x4 x5 x6 = some r → le2 h r.2 := by
  intro n32
  induction n32 with
  | zero => intro h x0 x1 x3 x4 x5 x6 r hm; rw [m_X11_kissing_32] at hm; exact noE hm
  | succ n32 ihm =>
    intro h x0 x1 x3 x4 x5 x6 r hm
    rw [m_X11_kissing_32] at hm
    by_cases c1 : (1 : Int32) < x6
    · have hm := ifT hm c1
      exact (mo_X11_kissing_139 hk14 hk23 h x0 x1 x3 x4 x5 _ hm)
    · have hm := ifF hm c1
      exact (mo_X11_kissing_44 hk14 hk23 ihm f h x0 x1 x3 x4 x5 x6 (0 : Int64) (0 : Int32) _ hm)
def m_X11_kissing_23 (f : Nat) (k14 : CH → Nat → Int64 → Int32 → Int32 → Option (Int32 × CH)) : Nat → CH → Nat → Int64 → Int32 → Int32 → Int32 → Option (Int32 × CH)
  | 0, _, _, _, _, _, _ => none
  | n23 + 1, h, x0, x1, x3, x4, x5 => if (1 : Int32) < x5 then
    m_X11_kissing_145 f k14 h x0 x1 x3 x4
    else m_X11_kissing_32 f k14 (m_X11_kissing_23 f k14 n23) f h x0 x1 x3 x4 x5 (-1 : Int32)
theorem mo_X11_kissing_23 {f : Nat} {k14 : CH → Nat → Int64 → Int32 → Int32 → Option (Int32 × CH)} (hk14 : ∀ (h : CH) (x0 : Nat) (x1 : Int64) (x3 : Int32) (x4 : Int32) (r : (Int32 × CH)), k14 h x0 x1 x3 x4 = some r → le2 h r.2) : ∀ (n23 : Nat) (h : CH) (x0 : Nat) (x1 : Int64) (x3 : Int32) (x4 : Int32) (x5 : Int32) (r : (Int32 × CH)), m_X11_kissing_23 f k14 n23 h x0 x1 x3 x4 x5 = some r → le2 h r.2 := by
  intro n23
  induction n23 with
  | zero => intro h x0 x1 x3 x4 x5 r hm; rw [m_X11_kissing_23] at hm; exact noE hm
  | succ n23 ihm =>
    intro h x0 x1 x3 x4 x5 r hm
    rw [m_X11_kissing_23] at hm
    by_cases c1 : (1 : Int32) < x5
    · have hm := ifT hm c1
      exact (mo_X11_kissing_145 hk14 h x0 x1 x3 x4 _ hm)
    · have hm := ifF hm c1
      exact (mo_X11_kissing_32 hk14 ihm f h x0 x1 x3 x4 x5 (-1 : Int32) _ hm)
def m_X11_kissing_14 (f : Nat) : Nat → CH → Nat → Int64 → Int32 → Int32 → Option (Int32 × CH)
  | 0, _, _, _, _, _ => none
  | n14 + 1, h, x0, x1, x3, x4 => if (1 : Int32) < x4 then
    m_X11_kissing_151 f h x3
    else m_X11_kissing_23 f (m_X11_kissing_14 f n14) f h x0 x1 x3 x4 (-1 : Int32)
theorem mo_X11_kissing_14 {f : Nat} : ∀ (n14 : Nat) (h : CH) (x0 : Nat) (x1 : Int64) (x3 : Int32) (x4 : Int32) (r : (Int32 × CH)), m_X11_kissing_14 f n14 h x0 x1 x3 x4 = some r → le2 h r.2 := by
  intro n14
  induction n14 with
  | zero => intro h x0 x1 x3 x4 r hm; rw [m_X11_kissing_14] at hm; exact noE hm
  | succ n14 ihm =>
    intro h x0 x1 x3 x4 r hm
    rw [m_X11_kissing_14] at hm
    by_cases c1 : (1 : Int32) < x4
    · have hm := ifT hm c1
      exact (mo_X11_kissing_151  h x3 _ hm)
    · have hm := ifF hm c1
      exact (mo_X11_kissing_23 ihm f h x0 x1 x3 x4 (-1 : Int32) _ hm)
def m_X11_kissing_8 (f : Nat) (h : CH) (x0 : Nat) (y0 : Int64) : Option (Int32 × CH) := m_X11_kissing_14 f f h x0 y0 (0 : Int32) (-1 : Int32)
theorem mo_X11_kissing_8 {f : Nat} : ∀ (h : CH) (x0 : Nat) (y0 : Int64) (r : (Int32 × CH)), m_X11_kissing_8 f h x0 y0 = some r → le2 h r.2 := by
  intro h x0 y0 r hm
  rw [m_X11_kissing_8] at hm
  exact (mo_X11_kissing_14  f h x0 y0 (0 : Int32) (-1 : Int32) _ hm)
def m_X11_kissing (f : Nat) (u : CH) (x0 : Nat) : Option (Int32 × CH) := bd (oR u 11 0 x0) fun a1 =>
    gd (isC u a1 3) <|
    bd2 (m_X2_square f u a1 (0 : Int32)) fun r4 h3 =>
    m_X11_kissing_8 f h3 x0 r4
theorem mo_X11_kissing {f : Nat} {u : CH} {x0 : Nat} {r0 : Int32} {u9 : CH} (hm : m_X11_kissing f u x0 = some (r0, u9)) : le2 u u9 := by
  rw [m_X11_kissing] at hm
  obtain ⟨a1, ea1, hm⟩ := bdE hm
  obtain ⟨g2, hm⟩ := gdE hm
  obtain ⟨r4, h3, er4, hm⟩ := bd2E hm
  have lh3 := mo_X2_square er4
  exact (lh3.tr (mo_X11_kissing_8  h3 x0 r4 _ hm))
abbrev rm_X11_kissing (mc ms : Nat) : Room := { frames := 1, cells := mc, slots := ms, locals := 21 }
theorem cw_X11_kissing {R : Room} {s : State} {args : Array Value} {own : String} {idx mc ms : Nat} (hts : ∀ w ∈ lw_all, w.before args s = true) (hl : Cond.methodLink own idx yX11_kissing ∈ lw_all) (hR : 1 + 1 ≤ R.frames ∧ 8 + (12 + 11) + 21 ≤ R.locals) : CallW R s args own RX11 idx yX11_kissing cX11_kissing 12 (Option.some Jvm.ClassFile.FieldType.int) (ws_ yX11_kissing cX11_kissing 12 (Option.some Jvm.ClassFile.FieldType.int)) (rm_X11_kissing mc ms) mc ms 0 := cwV 0 hts (lw_V hl q1279 qs40 q148 q1280) rfl rfl rfl (by decide +kernel) hR
set_option maxHeartbeats 4000000 in
set_option maxRecDepth 100000 in
theorem w_X11_kissing (l : Launch) {D : va_G} {dA : Nat → ClassId} {A : Nat → Prop} {f : Nat} {u u9 : CH} {r0 : Int32} {x0 : Nat} (hm : m_X11_kissing f u x0 = some (r0, u9)) : Met l yX11_kissing (ws_ yX11_kissing cX11_kissing 12 (Option.some Jvm.ClassFile.FieldType.int)) (rm_X11_kissing (u9.1 - u.1) (u9.2.1 - u.2.1)) (va_Pc [.ref x0] (CPre D dA A u)) (va_Qi (fun r u => r = r0 ∧ u = u9) (CPost D dA A) A) (u9.1 - u.1) (u9.2.1 - u.2.1) A := by
  refine Met.ofW (cc := cX11_kissing) (maxL := 12) (ret := (Option.some Jvm.ClassFile.FieldType.int)) (by decide) rfl ?_
  intro p e s m args below meth c s₁ B hml hv
  have hx := B.exec
  have hb := B.bytes
  have hr := B.returns
  have hts := atoms_spec (ws := (ws_ yX11_kissing cX11_kissing 12 (Option.some Jvm.ClassFile.FieldType.int))) B.pre
  have hts : ∀ w ∈ lw_all, w.before args s = true := fun w h => hts w (List.mem_cons_of_mem _ h)
  have hown : s.vm.findClass RX11 = some m.cls := findClass_of_methodNamed B.named
  have hlocks := B.notSynchronized
  obtain ⟨hav, hv⟩ := hv
  have C : CX p s m args c cX11_kissing RX11 D dA := ⟨hx, hb, hown, hts, hv.2⟩
  have hw : CW D dA A s u s.heap [] := hv.1
  generalize hQ : MQ below (va_Qi (fun r u => r = r0 ∧ u = u9) (CPost D dA A) A) args s (u9.1 - u.1) (u9.2.1 - u.2.1) A = QQ
  have hent := lg_entry_eq m [.ref x0] 12
  rw [← hav] at hent
  rw [hent]
  have hl := lv_entry ([.ref x0]) (n := 12) (Nat.le_of_ble_eq_true rfl)
  generalize (lg_sl ([.ref x0]) ++ List.replicate (12 - (lg_sl ([.ref x0])).length) Slot.unset).toArray = ls at hl ⊢
  have hl : lv_has ls 12 [(0, .ref x0)] := hl
  obtain ⟨cc, ecc⟩ : ∃ z : Nat, z = 0 := ⟨0, rfl⟩
  obtain ⟨ss, ess⟩ : ∃ z : Nat, z = 0 := ⟨0, rfl⟩
  have hcc : cc + u.1 = u.1 := by omega
  have hss : ss + u.2.1 = u.2.1 := by omega
  suffices hgo : W p l e (rm_X11_kissing (u9.1 - u.1) (u9.2.1 - u.2.1)) s m args below meth c s.heap [] cc ss QQ (F0 m 0 ls []) by rw [ecc, ess] at hgo; exact hgo
  have ⟨pu, qu, _, _⟩ := mo_X11_kissing hm
  have hB151 : ∀ (h : CH) (x3 : Int32) (cc ss : Nat) (H : Heap) (locs : List Loc) (ls : Array Slot), m_X11_kissing_151 f h x3 = some (r0, u9) → CW D dA A s h H locs → cc + u.1 = h.1 → ss + u.2.1 = h.2.1 → lv_has ls 12 [(3, .int x3)] → W p l e (rm_X11_kissing (u9.1 - u.1) (u9.2.1 - u.2.1)) s m args below meth c H locs cc ss QQ (F0 m 151 ls []) := by
    intro h x3 cc ss H locs ls hm hw hcc hss hl
    have hmo := mo_X11_kissing_151  h x3 _ hm
    have sb_ : h.1 ≤ u9.1 := hmo.1
    have tb_ : h.2.1 ≤ u9.2.1 := hmo.2.1
    rw [m_X11_kissing_151] at hm
    refine lv_iload_n hx hb dX11_kissing_151 rfl (lv_at hl 0 rfl) ?_
    obtain ⟨er, eh⟩ := retE hm
    have ec : cc = u9.1 - u.1 := by rw [← eh]; omega
    have es : ss = u9.2.1 - u.2.1 := by rw [← eh]; omega
    rw [ec, es, ← hQ]
    exact W.iret (v := x3) hx hb hr (fun t ht hW => ⟨⟨x3, h, rfl, ⟨er, eh⟩, ⟨by rw [ht]; exact hw.1, by rw [ht]; exact hw.2.1⟩⟩, hw.2.2.1.F ht⟩) hw.2.2.1.2.2 dX11_kissing_152
  have hB14 : ∀ (n14 : Nat), ∀ (h : CH) (x0 : Nat) (x1 : Int64) (x3 : Int32) (x4 : Int32) (cc ss : Nat) (H : Heap) (locs : List Loc) (ls : Array Slot), m_X11_kissing_14 f n14 h x0 x1 x3 x4 = some (r0, u9) → CW D dA A s h H locs → cc + u.1 = h.1 → ss + u.2.1 = h.2.1 → lv_has ls 12 [(0, .ref x0), (1, .long x1), (3, .int x3), (4, .int x4)] → W p l e (rm_X11_kissing (u9.1 - u.1) (u9.2.1 - u.2.1)) s m args below meth c H locs cc ss QQ (F0 m 14 ls []) := by
    intro n14
    induction n14 with
    | zero => intro h x0 x1 x3 x4 cc ss H locs ls hm hw hcc hss hl; rw [m_X11_kissing_14] at hm; exact noE hm
    | succ n14 ih14 =>
      have hB145 : ∀ (h : CH) (x0 : Nat) (x1 : Int64) (x3 : Int32) (x4 : Int32) (cc ss : Nat) (H : Heap) (locs : List Loc) (ls : Array Slot), m_X11_kissing_145 f (m_X11_kissing_14 f n14) h x0 x1 x3 x4 = some (r0, u9) → CW D dA A s h H locs → cc + u.1 = h.1 → ss + u.2.1 = h.2.1 → lv_has ls 12 [(0, .ref x0), (1, .long x1), (3, .int x3), (4, .int x4)] → W p l e (rm_X11_kissing (u9.1 - u.1) (u9.2.1 - u.2.1)) s m args below meth c H locs cc ss QQ (F0 m 145 ls []) := by
        intro h x0 x1 x3 x4 cc ss H locs ls hm hw hcc hss hl
        have hmo := mo_X11_kissing_145 (mo_X11_kissing_14 n14) h x0 x1 x3 x4 _ hm
        have sb_ : h.1 ≤ u9.1 := hmo.1
        have tb_ : h.2.1 ≤ u9.2.1 := hmo.2.1
        rw [m_X11_kissing_145] at hm
        obtain ⟨v1, ev1, hm⟩ := nmE hm
        refine lv_iinc (v := v1) (lv' := [(4, .int v1), (0, .ref x0), (1, .long x1), (3, .int x3)]) hx hb dX11_kissing_145 hl (k := 3) rfl (by rw [ev1]; rfl) (by decide) rfl (fun ls hl => ?_)
        refine lv_goto (tgt := 14) hx hb dX11_kissing_148 (by decide) ?_
        exact ih14 h x0 x1 x3 v1 _ _ _ _ _ hm hw (by omega) (by omega) (lv_sub hl [1, 2, 3, 0] rfl)
      have hB23 : ∀ (n23 : Nat), ∀ (h : CH) (x0 : Nat) (x1 : Int64) (x3 : Int32) (x4 : Int32) (x5 : Int32) (cc ss : Nat) (H : Heap) (locs : List Loc) (ls : Array Slot), m_X11_kissing_23 f (m_X11_kissing_14 f n14) n23 h x0 x1 x3 x4 x5 = some (r0, u9) → CW D dA A s h H locs → cc + u.1 = h.1 → ss + u.2.1 = h.2.1 → lv_has ls 12 [(0, .ref x0), (1, .long x1), (3, .int x3), (4, .int x4), (5, .int x5)] → W p l e (rm_X11_kissing (u9.1 - u.1) (u9.2.1 - u.2.1)) s m args below meth c H locs cc ss QQ (F0 m 23 ls []) := by
        intro n23
        induction n23 with
        | zero => intro h x0 x1 x3 x4 x5 cc ss H locs ls hm hw hcc hss hl; rw [m_X11_kissing_23] at hm; exact noE hm
        | succ n23 ih23 =>
          have hB139 : ∀ (h : CH) (x0 : Nat) (x1 : Int64) (x3 : Int32) (x4 : Int32) (x5 : Int32) (cc ss : Nat) (H : Heap) (locs : List Loc) (ls : Array Slot), m_X11_kissing_139 f (m_X11_kissing_14 f n14) (m_X11_kissing_23 f (m_X11_kissing_14 f n14) n23) h x0 x1 x3 x4 x5 = some (r0, u9) → CW D dA A s h H locs → cc + u.1 = h.1 → ss + u.2.1 = h.2.1 → lv_has ls 12 [(0, .ref x0), (1, .long x1), (3, .int x3), (4, .int x4), (5, .int x5)] → W p l e (rm_X11_kissing (u9.1 - u.1) (u9.2.1 - u.2.1)) s m args below meth c H locs cc ss QQ (F0 m 139 ls []) := by
            intro h x0 x1 x3 x4 x5 cc ss H locs ls hm hw hcc hss hl
            have hmo := mo_X11_kissing_139 (mo_X11_kissing_14 n14) (mo_X11_kissing_23 (mo_X11_kissing_14 n14) n23) h x0 x1 x3 x4 x5 _ hm
            have sb_ : h.1 ≤ u9.1 := hmo.1
            have tb_ : h.2.1 ≤ u9.2.1 := hmo.2.1
            rw [m_X11_kissing_139] at hm
            obtain ⟨v1, ev1, hm⟩ := nmE hm
            refine lv_iinc (v := v1) (lv' := [(5, .int v1), (0, .ref x0), (1, .long x1), (3, .int x3), (4, .int x4)]) hx hb dX11_kissing_139 hl (k := 4) rfl (by rw [ev1]; rfl) (by decide) rfl (fun ls hl => ?_)
            refine lv_goto (tgt := 23) hx hb dX11_kissing_142 (by decide) ?_
            exact ih23 h x0 x1 x3 x4 v1 _ _ _ _ _ hm hw (by omega) (by omega) (lv_sub hl [1, 2, 3, 4, 0] rfl)
          have hB32 : ∀ (n32 : Nat), ∀ (h : CH) (x0 : Nat) (x1 : Int64) (x3 : Int32) (x4 : Int32) (x5 : Int32) (x6 : Int32) (cc ss : Nat) (H : Heap) (locs : List Loc) (ls : Array Slot), m_X11_kissing_32 f (m_X11_kissing_14 f n14) (m_X11_kissing_23 f (m_X11_kissing_14 f n14) n23) n32 h x0 x1 x3 x4 x5 x6 = some (r0, u9) → CW D dA A s h H locs → cc + u.1 = h.1 → ss + u.2.1 = h.2.1 → lv_has ls 12 [(0, .ref x0), (1, .long x1), (3, .int x3), (4, .int x4), (5, .int x5), (6, .int x6)] → W p l e (rm_X11_kissing (u9.1 - u.1) (u9.2.1 - u.2.1)) s m args below meth c H locs cc ss QQ (F0 m 32 ls []) := by
            intro n32
            induction n32 with
            | zero => intro h x0 x1 x3 x4 x5 x6 cc ss H locs ls hm hw hcc hss hl; rw [m_X11_kissing_32] at hm; exact noE hm
            | succ n32 ih32 =>
              have hB131 : ∀ (h : CH) (x0 : Nat) (x1 : Int64) (x4 : Int32) (x5 : Int32) (x6 : Int32) (y0 : Int32) (y1 : Int32) (cc ss : Nat) (H : Heap) (locs : List Loc) (ls : Array Slot), m_X11_kissing_131 f (m_X11_kissing_14 f n14) (m_X11_kissing_23 f (m_X11_kissing_14 f n14) n23) (m_X11_kissing_32 f (m_X11_kissing_14 f n14) (m_X11_kissing_23 f (m_X11_kissing_14 f n14) n23) n32) h x0 x1 x4 x5 x6 y0 y1 = some (r0, u9) → CW D dA A s h H locs → cc + u.1 = h.1 → ss + u.2.1 = h.2.1 → lv_has ls 12 [(0, .ref x0), (1, .long x1), (4, .int x4), (5, .int x5), (6, .int x6)] → W p l e (rm_X11_kissing (u9.1 - u.1) (u9.2.1 - u.2.1)) s m args below meth c H locs cc ss QQ (F0 m 131 ls [.int y1, .int y0]) := by
                intro h x0 x1 x4 x5 x6 y0 y1 cc ss H locs ls hm hw hcc hss hl
                have hmo := mo_X11_kissing_131 (mo_X11_kissing_14 n14) (mo_X11_kissing_23 (mo_X11_kissing_14 n14) n23) (mo_X11_kissing_32 (mo_X11_kissing_14 n14) (mo_X11_kissing_23 (mo_X11_kissing_14 n14) n23) n32) h x0 x1 x4 x5 x6 y0 y1 _ hm
                have sb_ : h.1 ≤ u9.1 := hmo.1
                have tb_ : h.2.1 ≤ u9.2.1 := hmo.2.1
                rw [m_X11_kissing_131] at hm
                refine lv_iadd hx hb dX11_kissing_131 ?_
                refine lv_topi (fun v1 ev1 => ?_)
                have hm := nmK hm ev1
                refine lv_istore_n (lv' := [(3, .int v1), (0, .ref x0), (1, .long x1), (4, .int x4), (5, .int x5), (6, .int x6)]) hx hb dX11_kissing_132 rfl hl (by decide) rfl (fun ls hl => ?_)
                obtain ⟨v2, ev2, hm⟩ := nmE hm
                refine lv_iinc (v := v2) (lv' := [(6, .int v2), (3, .int v1), (0, .ref x0), (1, .long x1), (4, .int x4), (5, .int x5)]) hx hb dX11_kissing_133 hl (k := 5) rfl (by rw [ev2]; rfl) (by decide) rfl (fun ls hl => ?_)
                refine lv_goto (tgt := 32) hx hb dX11_kissing_136 (by decide) ?_
                exact ih32 h x0 x1 v1 x4 x5 v2 _ _ _ _ _ hm hw (by omega) (by omega) (lv_sub hl [2, 3, 1, 4, 5, 0] rfl)
              have hB118 : ∀ (h : CH) (x0 : Nat) (x1 : Int64) (x3 : Int32) (x4 : Int32) (x5 : Int32) (x6 : Int32) (x7 : Int64) (cc ss : Nat) (H : Heap) (locs : List Loc) (ls : Array Slot), m_X11_kissing_118 f (m_X11_kissing_14 f n14) (m_X11_kissing_23 f (m_X11_kissing_14 f n14) n23) (m_X11_kissing_32 f (m_X11_kissing_14 f n14) (m_X11_kissing_23 f (m_X11_kissing_14 f n14) n23) n32) h x0 x1 x3 x4 x5 x6 x7 = some (r0, u9) → CW D dA A s h H locs → cc + u.1 = h.1 → ss + u.2.1 = h.2.1 → lv_has ls 12 [(0, .ref x0), (1, .long x1), (3, .int x3), (4, .int x4), (5, .int x5), (6, .int x6), (7, .long x7)] → W p l e (rm_X11_kissing (u9.1 - u.1) (u9.2.1 - u.2.1)) s m args below meth c H locs cc ss QQ (F0 m 118 ls []) := by
                intro h x0 x1 x3 x4 x5 x6 x7 cc ss H locs ls hm hw hcc hss hl
                have hmo := mo_X11_kissing_118 (mo_X11_kissing_14 n14) (mo_X11_kissing_23 (mo_X11_kissing_14 n14) n23) (mo_X11_kissing_32 (mo_X11_kissing_14 n14) (mo_X11_kissing_23 (mo_X11_kissing_14 n14) n23) n32) h x0 x1 x3 x4 x5 x6 x7 _ hm
                have sb_ : h.1 ≤ u9.1 := hmo.1
                have tb_ : h.2.1 ≤ u9.2.1 := hmo.2.1
                rw [m_X11_kissing_118] at hm
                refine lv_iload_n hx hb dX11_kissing_118 rfl (lv_at hl 2 rfl) ?_
                refine lv_lload hx hb dX11_kissing_119 (lv_at hl 6 rfl) ?_
                refine lv_lload_n hx hb dX11_kissing_121 rfl (lv_at hl 1 rfl) ?_
                refine lc_ne (tgt := 130) hx hb dX11_kissing_122 dX11_kissing_123 (by decide) (fun c1 => ?_) (fun c1 => ?_)
                · have hm := ifT hm c1
                  refine lv_iconst (v := 0) hx hb dX11_kissing_130 (by decide) ?_
                  exact hB131 h x0 x1 x4 x5 x6 x3 (0 : Int32) _ _ _ _ _ hm hw (by omega) (by omega) (lv_sub hl [0, 1, 3, 4, 5] rfl)
                · have hm := ifT' hm c1
                  refine lv_iconst (v := 1) hx hb dX11_kissing_126 (by decide) ?_
                  refine lv_goto (tgt := 131) hx hb dX11_kissing_127 (by decide) ?_
                  exact hB131 h x0 x1 x4 x5 x6 x3 (1 : Int32) _ _ _ _ _ hm hw (by omega) (by omega) (lv_sub hl [0, 1, 3, 4, 5] rfl)
              have hB44 : ∀ (n44 : Nat), ∀ (h : CH) (x0 : Nat) (x1 : Int64) (x3 : Int32) (x4 : Int32) (x5 : Int32) (x6 : Int32) (x7 : Int64) (x9 : Int32) (cc ss : Nat) (H : Heap) (locs : List Loc) (ls : Array Slot), m_X11_kissing_44 f (m_X11_kissing_14 f n14) (m_X11_kissing_23 f (m_X11_kissing_14 f n14) n23) (m_X11_kissing_32 f (m_X11_kissing_14 f n14) (m_X11_kissing_23 f (m_X11_kissing_14 f n14) n23) n32) n44 h x0 x1 x3 x4 x5 x6 x7 x9 = some (r0, u9) → CW D dA A s h H locs → cc + u.1 = h.1 → ss + u.2.1 = h.2.1 → lv_has ls 12 [(0, .ref x0), (1, .long x1), (3, .int x3), (4, .int x4), (5, .int x5), (6, .int x6), (7, .long x7), (9, .int x9)] → W p l e (rm_X11_kissing (u9.1 - u.1) (u9.2.1 - u.2.1)) s m args below meth c H locs cc ss QQ (F0 m 44 ls []) := by
                intro n44
                induction n44 with
                | zero => intro h x0 x1 x3 x4 x5 x6 x7 x9 cc ss H locs ls hm hw hcc hss hl; rw [m_X11_kissing_44] at hm; exact noE hm
                | succ n44 ih44 =>
                  intro h x0 x1 x3 x4 x5 x6 x7 x9 cc ss H locs ls hm hw hcc hss hl
                  have hmo := mo_X11_kissing_44 (mo_X11_kissing_14 n14) (mo_X11_kissing_23 (mo_X11_kissing_14 n14) n23) (mo_X11_kissing_32 (mo_X11_kissing_14 n14) (mo_X11_kissing_23 (mo_X11_kissing_14 n14) n23) n32) (n44 + 1) h x0 x1 x3 x4 x5 x6 x7 x9 _ hm
                  have sb_ : h.1 ≤ u9.1 := hmo.1
                  have tb_ : h.2.1 ≤ u9.2.1 := hmo.2.1
                  rw [m_X11_kissing_44] at hm
                  refine lv_iload hx hb dX11_kissing_44 (lv_at hl 7 rfl) ?_
                  refine lv_iconst (v := 3) hx hb dX11_kissing_46 (by decide) ?_
                  refine lv_icmp_ge (tgt := 118) hx hb dX11_kissing_47 (by decide) (fun c1 => ?_) (fun c1 => ?_)
                  · have hm := ifT hm c1
                    exact hB118 h x0 x1 x3 x4 x5 x6 x7 _ _ _ _ _ hm hw (by omega) (by omega) (lv_sub hl [0, 1, 2, 3, 4, 5, 6] rfl)
                  · have hm := ifF hm c1
                    refine lv_iload hx hb dX11_kissing_50 (lv_at hl 3 rfl) ?_
                    refine lv_i2l hx hb dX11_kissing_52 rfl ?_
                    refine lv_aload_n hx hb dX11_kissing_53 rfl (lv_at hl 0 rfl) ?_
                    obtain ⟨a2, ea2, hm⟩ := bdE hm
                    refine cg_get C hw (oR_E ea2) rfl in_X11 (by decide) q1255 dX11_kissing_54 ?_
                    obtain ⟨a3, ea3, hm⟩ := bdE hm
                    refine cg_getN C hw (by decide) (oR_E ea3) rfl in_X2 (by decide) (hw.2.2.2.2.1 _ (List.mem_of_getElem? (i := 44) rfl)) dX11_kissing_57 ?_
                    refine lv_iconst (v := 0) hx hb dX11_kissing_60 (by decide) ?_
                    obtain ⟨a4, ea4, hm⟩ := bdE hm
                    refine cg_aaldA C hw (ty := .array .long) rfl rfl (aR_E ea4) dX11_kissing_61 ?_
                    refine lv_iload hx hb dX11_kissing_62 (lv_at hl 7 rfl) ?_
                    obtain ⟨v5, ev5, hm⟩ := bdE hm
                    refine cg_lald C hw ev5 dX11_kissing_64 ?_
                    refine lv_lmul hx hb dX11_kissing_65 ?_
                    refine lv_iload hx hb dX11_kissing_66 (lv_at hl 4 rfl) ?_
                    refine lv_i2l hx hb dX11_kissing_68 rfl ?_
                    refine lv_aload_n hx hb dX11_kissing_69 rfl (lv_at hl 0 rfl) ?_
                    obtain ⟨a6, ea6, hm⟩ := bdE hm
                    refine cg_get C hw (oR_E ea6) rfl in_X11 (by decide) q1255 dX11_kissing_70 ?_
                    obtain ⟨a7, ea7, hm⟩ := bdE hm
                    refine cg_getN C hw (by decide) (oR_E ea7) rfl in_X2 (by decide) (hw.2.2.2.2.1 _ (List.mem_of_getElem? (i := 44) rfl)) dX11_kissing_73 ?_
                    refine lv_iconst (v := 1) hx hb dX11_kissing_76 (by decide) ?_
                    obtain ⟨a8, ea8, hm⟩ := bdE hm
                    refine cg_aaldA C hw (ty := .array .long) rfl rfl (aR_E ea8) dX11_kissing_77 ?_
                    refine lv_iload hx hb dX11_kissing_78 (lv_at hl 7 rfl) ?_
                    obtain ⟨v9, ev9, hm⟩ := bdE hm
                    refine cg_lald C hw ev9 dX11_kissing_80 ?_
                    refine lv_lmul hx hb dX11_kissing_81 ?_
                    refine lv_ladd hx hb dX11_kissing_82 ?_
                    refine lv_iload hx hb dX11_kissing_83 (lv_at hl 5 rfl) ?_
                    refine lv_i2l hx hb dX11_kissing_85 rfl ?_
                    refine lv_aload_n hx hb dX11_kissing_86 rfl (lv_at hl 0 rfl) ?_
                    obtain ⟨a10, ea10, hm⟩ := bdE hm
                    refine cg_get C hw (oR_E ea10) rfl in_X11 (by decide) q1255 dX11_kissing_87 ?_
                    obtain ⟨a11, ea11, hm⟩ := bdE hm
                    refine cg_getN C hw (by decide) (oR_E ea11) rfl in_X2 (by decide) (hw.2.2.2.2.1 _ (List.mem_of_getElem? (i := 44) rfl)) dX11_kissing_90 ?_
                    refine lv_iconst (v := 2) hx hb dX11_kissing_93 (by decide) ?_
                    obtain ⟨a12, ea12, hm⟩ := bdE hm
                    refine cg_aaldA C hw (ty := .array .long) rfl rfl (aR_E ea12) dX11_kissing_94 ?_
                    refine lv_iload hx hb dX11_kissing_95 (lv_at hl 7 rfl) ?_
                    obtain ⟨v13, ev13, hm⟩ := bdE hm
                    refine cg_lald C hw ev13 dX11_kissing_97 ?_
                    refine lv_lmul hx hb dX11_kissing_98 ?_
                    refine lv_ladd hx hb dX11_kissing_99 ?_
                    refine lv_topl (fun v14 ev14 => ?_)
                    have hm := nmK hm ev14
                    refine lv_lstore (lv' := [(10, .long v14), (0, .ref x0), (1, .long x1), (3, .int x3), (4, .int x4), (5, .int x5), (6, .int x6), (7, .long x7), (9, .int x9)]) hx hb dX11_kissing_100 hl (by decide) rfl (fun ls hl => ?_)
                    refine lv_lload hx hb dX11_kissing_102 (lv_at hl 7 rfl) ?_
                    refine lv_lload hx hb dX11_kissing_104 (lv_at hl 0 rfl) ?_
                    refine lv_lload hx hb dX11_kissing_106 (lv_at hl 0 rfl) ?_
                    refine lv_lmul hx hb dX11_kissing_108 ?_
                    refine lv_ladd hx hb dX11_kissing_109 ?_
                    refine lv_topl (fun v15 ev15 => ?_)
                    have hm := nmK hm ev15
                    refine lv_lstore (lv' := [(7, .long v15), (10, .long v14), (0, .ref x0), (1, .long x1), (3, .int x3), (4, .int x4), (5, .int x5), (6, .int x6), (9, .int x9)]) hx hb dX11_kissing_110 hl (by decide) rfl (fun ls hl => ?_)
                    obtain ⟨v16, ev16, hm⟩ := nmE hm
                    refine lv_iinc (v := v16) (lv' := [(9, .int v16), (7, .long v15), (10, .long v14), (0, .ref x0), (1, .long x1), (3, .int x3), (4, .int x4), (5, .int x5), (6, .int x6)]) hx hb dX11_kissing_112 hl (k := 8) rfl (by rw [ev16]; rfl) (by decide) rfl (fun ls hl => ?_)
                    refine lv_goto (tgt := 44) hx hb dX11_kissing_115 (by decide) ?_
                    exact ih44 h x0 x1 x3 x4 x5 x6 v15 v16 _ _ _ _ _ hm hw (by omega) (by omega) (lv_sub hl [3, 4, 5, 6, 7, 8, 1, 0] rfl)
              intro h x0 x1 x3 x4 x5 x6 cc ss H locs ls hm hw hcc hss hl
              have hmo := mo_X11_kissing_32 (mo_X11_kissing_14 n14) (mo_X11_kissing_23 (mo_X11_kissing_14 n14) n23) (n32 + 1) h x0 x1 x3 x4 x5 x6 _ hm
              have sb_ : h.1 ≤ u9.1 := hmo.1
              have tb_ : h.2.1 ≤ u9.2.1 := hmo.2.1
              rw [m_X11_kissing_32] at hm
              refine lv_iload hx hb dX11_kissing_32 (lv_at hl 5 rfl) ?_
              refine lv_iconst (v := 1) hx hb dX11_kissing_34 (by decide) ?_
              refine lv_icmp_gt (tgt := 139) hx hb dX11_kissing_35 (by decide) (fun c1 => ?_) (fun c1 => ?_)
              · have hm := ifT hm c1
                exact hB139 h x0 x1 x3 x4 x5 _ _ _ _ _ hm hw (by omega) (by omega) (lv_sub hl [0, 1, 2, 3, 4] rfl)
              · have hm := ifF hm c1
                refine lv_lconst (v := 0) hx hb dX11_kissing_38 (by decide) ?_
                refine lv_lstore (lv' := [(7, .long (0 : Int64)), (0, .ref x0), (1, .long x1), (3, .int x3), (4, .int x4), (5, .int x5), (6, .int x6)]) hx hb dX11_kissing_39 hl (by decide) rfl (fun ls hl => ?_)
                refine lv_iconst (v := 0) hx hb dX11_kissing_41 (by decide) ?_
                refine lv_istore (lv' := [(9, .int (0 : Int32)), (7, .long (0 : Int64)), (0, .ref x0), (1, .long x1), (3, .int x3), (4, .int x4), (5, .int x5), (6, .int x6)]) hx hb dX11_kissing_42 hl (by decide) rfl (fun ls hl => ?_)
                exact hB44 f h x0 x1 x3 x4 x5 x6 (0 : Int64) (0 : Int32) _ _ _ _ _ hm hw (by omega) (by omega) (lv_sub hl [2, 3, 4, 5, 6, 7, 1, 0] rfl)
          intro h x0 x1 x3 x4 x5 cc ss H locs ls hm hw hcc hss hl
          have hmo := mo_X11_kissing_23 (mo_X11_kissing_14 n14) (n23 + 1) h x0 x1 x3 x4 x5 _ hm
          have sb_ : h.1 ≤ u9.1 := hmo.1
          have tb_ : h.2.1 ≤ u9.2.1 := hmo.2.1
          rw [m_X11_kissing_23] at hm
          refine lv_iload hx hb dX11_kissing_23 (lv_at hl 4 rfl) ?_
          refine lv_iconst (v := 1) hx hb dX11_kissing_25 (by decide) ?_
          refine lv_icmp_gt (tgt := 145) hx hb dX11_kissing_26 (by decide) (fun c1 => ?_) (fun c1 => ?_)
          · have hm := ifT hm c1
            exact hB145 h x0 x1 x3 x4 _ _ _ _ _ hm hw (by omega) (by omega) (lv_sub hl [0, 1, 2, 3] rfl)
          · have hm := ifF hm c1
            refine lv_iconst (v := -1) hx hb dX11_kissing_29 (by decide) ?_
            refine lv_istore (lv' := [(6, .int (-1 : Int32)), (0, .ref x0), (1, .long x1), (3, .int x3), (4, .int x4), (5, .int x5)]) hx hb dX11_kissing_30 hl (by decide) rfl (fun ls hl => ?_)
            exact hB32 f h x0 x1 x3 x4 x5 (-1 : Int32) _ _ _ _ _ hm hw (by omega) (by omega) (lv_sub hl [1, 2, 3, 4, 5, 0] rfl)
      intro h x0 x1 x3 x4 cc ss H locs ls hm hw hcc hss hl
      have hmo := mo_X11_kissing_14  (n14 + 1) h x0 x1 x3 x4 _ hm
      have sb_ : h.1 ≤ u9.1 := hmo.1
      have tb_ : h.2.1 ≤ u9.2.1 := hmo.2.1
      rw [m_X11_kissing_14] at hm
      refine lv_iload hx hb dX11_kissing_14 (lv_at hl 3 rfl) ?_
      refine lv_iconst (v := 1) hx hb dX11_kissing_16 (by decide) ?_
      refine lv_icmp_gt (tgt := 151) hx hb dX11_kissing_17 (by decide) (fun c1 => ?_) (fun c1 => ?_)
      · have hm := ifT hm c1
        exact hB151 h x3 _ _ _ _ _ hm hw (by omega) (by omega) (lv_sub hl [2] rfl)
      · have hm := ifF hm c1
        refine lv_iconst (v := -1) hx hb dX11_kissing_20 (by decide) ?_
        refine lv_istore (lv' := [(5, .int (-1 : Int32)), (0, .ref x0), (1, .long x1), (3, .int x3), (4, .int x4)]) hx hb dX11_kissing_21 hl (by decide) rfl (fun ls hl => ?_)
        exact hB23 f h x0 x1 x3 x4 (-1 : Int32) _ _ _ _ _ hm hw (by omega) (by omega) (lv_sub hl [1, 2, 3, 4, 0] rfl)
  have hB8 : ∀ (h : CH) (x0 : Nat) (y0 : Int64) (cc ss : Nat) (H : Heap) (locs : List Loc) (ls : Array Slot), m_X11_kissing_8 f h x0 y0 = some (r0, u9) → CW D dA A s h H locs → cc + u.1 = h.1 → ss + u.2.1 = h.2.1 → lv_has ls 12 [(0, .ref x0)] → W p l e (rm_X11_kissing (u9.1 - u.1) (u9.2.1 - u.2.1)) s m args below meth c H locs cc ss QQ (F0 m 8 ls [.long y0]) := by
    intro h x0 y0 cc ss H locs ls hm hw hcc hss hl
    have hmo := mo_X11_kissing_8  h x0 y0 _ hm
    have sb_ : h.1 ≤ u9.1 := hmo.1
    have tb_ : h.2.1 ≤ u9.2.1 := hmo.2.1
    rw [m_X11_kissing_8] at hm
    refine lv_lstore_n (lv' := [(1, .long y0), (0, .ref x0)]) hx hb dX11_kissing_8 rfl hl (by decide) rfl (fun ls hl => ?_)
    refine lv_iconst (v := 0) hx hb dX11_kissing_9 (by decide) ?_
    refine lv_istore_n (lv' := [(3, .int (0 : Int32)), (1, .long y0), (0, .ref x0)]) hx hb dX11_kissing_10 rfl hl (by decide) rfl (fun ls hl => ?_)
    refine lv_iconst (v := -1) hx hb dX11_kissing_11 (by decide) ?_
    refine lv_istore (lv' := [(4, .int (-1 : Int32)), (3, .int (0 : Int32)), (1, .long y0), (0, .ref x0)]) hx hb dX11_kissing_12 hl (by decide) rfl (fun ls hl => ?_)
    exact hB14 f h x0 y0 (0 : Int32) (-1 : Int32) _ _ _ _ _ hm hw (by omega) (by omega) (lv_sub hl [3, 2, 1, 0] rfl)
  rw [m_X11_kissing] at hm
  refine lv_aload_n hx hb dX11_kissing_0 rfl (lv_at hl 0 rfl) ?_
  obtain ⟨a1, ea1, hm⟩ := bdE hm
  refine cg_get C hw (oR_E ea1) rfl in_X11 (by decide) q1255 dX11_kissing_1 ?_
  refine lv_iconst (v := 0) hx hb dX11_kissing_4 (by decide) ?_
  obtain ⟨g2, hm⟩ := gdE hm
  obtain ⟨r4, h3, er4, hm⟩ := bd2E hm
  have lh3 := mo_X2_square er4
  have ph3 : u.1 ≤ h3.1 := lh3.1
  have qh3 : u.2.1 ≤ h3.2.1 := lh3.2.1
  have hmo := mo_X11_kissing_8   h3 x0 r4 _ hm
  have sh3 : h3.1 ≤ u9.1 := hmo.1
  have th3 : h3.2.1 ≤ u9.2.1 := hmo.2.1
  refine cg_calll hw lh3 (va_runV (As := [.int (0 : Int32)]) (rest := []) ⟨hx, hb, hml, hown, hts⟩ (w_X2_square l er4) (cw_X2_square hts q1236 ⟨Nat.le_of_ble_eq_true rfl, Nat.le_of_ble_eq_true rfl⟩) (cg_preV C hw g2 rfl _) rfl rfl hl.1 rfl (lv_room (Nat.le_of_ble_eq_true rfl)) dX11_kissing_5 ⟨show cc + (h3.1 - u.1) ≤ u9.1 - u.1 by omega, show ss + (h3.2.1 - u.2.1) ≤ u9.2.1 - u.2.1 by omega⟩) (fun H locs hw => ?_)
  exact hB8 h3 x0 r4 _ _ _ _ _ hm hw (by omega) (by omega) (lv_sub hl [0] rfl)
