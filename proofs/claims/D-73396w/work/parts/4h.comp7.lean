/-! walks of the component (printed by gen/walkc.py) -/
set_option maxRecDepth 100000
def m_X1_takesAll_41 (f : Nat) (h : CH) : Option CH := some h
theorem mo_X1_takesAll_41 {f : Nat} : ∀ (h : CH) (r : CH), m_X1_takesAll_41 f h = some r → le2 h r := by
  intro h r hm
  rw [m_X1_takesAll_41] at hm
  cases hm
  exact le2.rf
def m_X1_takesAll_35 (f : Nat) (k2 : CH → Nat → Nat → Int32 → Option CH) (h : CH) (x0 : Nat) (x1 : Nat) (x2 : Int32) : Option CH := nmv ((x2 + 1) : Int32) fun v1 =>
    k2 h x0 x1 v1
theorem mo_X1_takesAll_35 {f : Nat} {k2 : CH → Nat → Nat → Int32 → Option CH} (hk2 : ∀ (h : CH) (x0 : Nat) (x1 : Nat) (x2 : Int32) (r : CH), k2 h x0 x1 x2 = some r → le2 h r) : ∀ (h : CH) (x0 : Nat) (x1 : Nat) (x2 : Int32) (r : CH), m_X1_takesAll_35 f k2 h x0 x1 x2 = some r → le2 h r := by
  intro h x0 x1 x2 r hm
  rw [m_X1_takesAll_35] at hm
  obtain ⟨v1, ev1, hm⟩ := nmE hm
  exact (hk2 h x0 x1 v1 _ hm)
def m_X1_takesAll_2 (f : Nat) : Nat → CH → Nat → Nat → Int32 → Option CH
  | 0, _, _, _, _ => none
  | n2 + 1, h, x0, x1, x2 => if (3 : Int32) ≤ x2 then
    m_X1_takesAll_41 f h
    else bd (oR h 3 0 x1) fun a2 =>
    bd (aR h 4 a2 x2) fun a3 =>
    bd (aL h 1 a3 (0 : Int32)) fun v4 =>
    bd (oR h 3 0 x1) fun a5 =>
    bd (aR h 4 a5 x2) fun a6 =>
    bd (aL h 1 a6 (1 : Int32)) fun v7 =>
    bd (oR h 3 0 x1) fun a8 =>
    bd (aR h 4 a8 x2) fun a9 =>
    bd (aL h 1 a9 (2 : Int32)) fun v10 =>
    gd (isC h x0 2) <|
    bd (m_X1_takes f h x0 v4 v7 v10) fun h12 =>
    m_X1_takesAll_35 f (m_X1_takesAll_2 f n2) h12 x0 x1 x2
theorem mo_X1_takesAll_2 {f : Nat} : ∀ (n2 : Nat) (h : CH) (x0 : Nat) (x1 : Nat) (x2 : Int32) (r : CH), m_X1_takesAll_2 f n2 h x0 x1 x2 = some r → le2 h r := by
  intro n2
  induction n2 with
  | zero => intro h x0 x1 x2 r hm; rw [m_X1_takesAll_2] at hm; exact noE hm
  | succ n2 ihm =>
    intro h x0 x1 x2 r hm
    rw [m_X1_takesAll_2] at hm
    by_cases c1 : (3 : Int32) ≤ x2
    · have hm := ifT hm c1
      exact (mo_X1_takesAll_41  h _ hm)
    · have hm := ifF hm c1
      obtain ⟨a2, ea2, hm⟩ := bdE hm
      obtain ⟨a3, ea3, hm⟩ := bdE hm
      obtain ⟨v4, ev4, hm⟩ := bdE hm
      obtain ⟨a5, ea5, hm⟩ := bdE hm
      obtain ⟨a6, ea6, hm⟩ := bdE hm
      obtain ⟨v7, ev7, hm⟩ := bdE hm
      obtain ⟨a8, ea8, hm⟩ := bdE hm
      obtain ⟨a9, ea9, hm⟩ := bdE hm
      obtain ⟨v10, ev10, hm⟩ := bdE hm
      obtain ⟨g11, hm⟩ := gdE hm
      obtain ⟨h12, eh12, hm⟩ := bdE hm
      have lh12 := mo_X1_takes eh12
      exact (lh12.tr (mo_X1_takesAll_35 ihm h12 x0 x1 x2 _ hm))
def m_X1_takesAll (f : Nat) (u : CH) (x0 : Nat) (x1 : Nat) : Option CH := m_X1_takesAll_2 f f u x0 x1 (0 : Int32)
theorem mo_X1_takesAll {f : Nat} {u : CH} {x0 : Nat} {x1 : Nat} {u9 : CH} (hm : m_X1_takesAll f u x0 x1 = some u9) : le2 u u9 := by
  rw [m_X1_takesAll] at hm
  exact (mo_X1_takesAll_2  f u x0 x1 (0 : Int32) _ hm)
abbrev rm_X1_takesAll (mc ms : Nat) : Room := { frames := 3, cells := mc, slots := ms, locals := 79 }
theorem cw_X1_takesAll {R : Room} {s : State} {args : Array Value} {own : String} {idx mc ms : Nat} (hts : ∀ w ∈ lw_all, w.before args s = true) (hl : Cond.methodLink own idx yX1_takesAll ∈ lw_all) (hR : 3 + 1 ≤ R.frames ∧ 8 + (3 + 11) + 79 ≤ R.locals) : CallW R s args own RX1 idx yX1_takesAll cX1_takesAll 3 (Option.none : Option Jvm.ClassFile.FieldType) (ws_ yX1_takesAll cX1_takesAll 3 (Option.none : Option Jvm.ClassFile.FieldType)) (rm_X1_takesAll mc ms) mc ms 1 := cwV 1 hts (lw_V hl q1145 q1146 q123 q1147) rfl rfl rfl (by decide +kernel) hR
set_option maxHeartbeats 4000000 in
set_option maxRecDepth 100000 in
theorem w_X1_takesAll (l : Launch) {D : va_G} {dA : Nat → ClassId} {A : Nat → Prop} {f : Nat} {u u9 : CH} {x0 : Nat} {x1 : Nat} (hm : m_X1_takesAll f u x0 x1 = some u9) : Met l yX1_takesAll (ws_ yX1_takesAll cX1_takesAll 3 (Option.none : Option Jvm.ClassFile.FieldType)) (rm_X1_takesAll (u9.1 - u.1) (u9.2.1 - u.2.1)) (va_Pc [.ref x0, .ref x1] (CPre D dA A u)) (va_Qv (fun u => u = u9) (CPost D dA A) A) (u9.1 - u.1) (u9.2.1 - u.2.1) A := by
  refine Met.ofW (cc := cX1_takesAll) (maxL := 3) (ret := (Option.none : Option Jvm.ClassFile.FieldType)) (by decide) rfl ?_
  intro p e s m args below meth c s₁ B hml hv
  have hx := B.exec
  have hb := B.bytes
  have hr := B.returns
  have hts := atoms_spec (ws := (ws_ yX1_takesAll cX1_takesAll 3 (Option.none : Option Jvm.ClassFile.FieldType))) B.pre
  have hts : ∀ w ∈ lw_all, w.before args s = true := fun w h => hts w (List.mem_cons_of_mem _ h)
  have hown : s.vm.findClass RX1 = some m.cls := findClass_of_methodNamed B.named
  have hlocks := B.notSynchronized
  obtain ⟨hav, hv⟩ := hv
  have C : CX p s m args c cX1_takesAll RX1 D dA := ⟨hx, hb, hown, hts, hv.2⟩
  have hw : CW D dA A s u s.heap [] := hv.1
  generalize hQ : MQ below (va_Qv (fun u => u = u9) (CPost D dA A) A) args s (u9.1 - u.1) (u9.2.1 - u.2.1) A = QQ
  have hent := lg_entry_eq m [.ref x0, .ref x1] 3
  rw [← hav] at hent
  rw [hent]
  have hl := lv_entry ([.ref x0, .ref x1]) (n := 3) (Nat.le_of_ble_eq_true rfl)
  generalize (lg_sl ([.ref x0, .ref x1]) ++ List.replicate (3 - (lg_sl ([.ref x0, .ref x1])).length) Slot.unset).toArray = ls at hl ⊢
  have hl : lv_has ls 3 [(0, .ref x0), (1, .ref x1)] := hl
  obtain ⟨cc, ecc⟩ : ∃ z : Nat, z = 0 := ⟨0, rfl⟩
  obtain ⟨ss, ess⟩ : ∃ z : Nat, z = 0 := ⟨0, rfl⟩
  have hcc : cc + u.1 = u.1 := by omega
  have hss : ss + u.2.1 = u.2.1 := by omega
  suffices hgo : W p l e (rm_X1_takesAll (u9.1 - u.1) (u9.2.1 - u.2.1)) s m args below meth c s.heap [] cc ss QQ (F0 m 0 ls []) by rw [ecc, ess] at hgo; exact hgo
  have ⟨pu, qu, _, _⟩ := mo_X1_takesAll hm
  have hB41 : ∀ (h : CH) (cc ss : Nat) (H : Heap) (locs : List Loc) (ls : Array Slot), m_X1_takesAll_41 f h = some u9 → CW D dA A s h H locs → cc + u.1 = h.1 → ss + u.2.1 = h.2.1 → lv_has ls 3 [] → W p l e (rm_X1_takesAll (u9.1 - u.1) (u9.2.1 - u.2.1)) s m args below meth c H locs cc ss QQ (F0 m 41 ls []) := by
    intro h cc ss H locs ls hm hw hcc hss hl
    have hmo := mo_X1_takesAll_41  h _ hm
    have sb_ : h.1 ≤ u9.1 := hmo.1
    have tb_ : h.2.1 ≤ u9.2.1 := hmo.2.1
    rw [m_X1_takesAll_41] at hm
    have eh := ret1 hm
    have ec : cc = u9.1 - u.1 := by rw [← eh]; omega
    have es : ss = u9.2.1 - u.2.1 := by rw [← eh]; omega
    rw [ec, es, ← hQ]
    exact W.vret hx hb hr (fun t ht hW => ⟨⟨h, rfl, eh, ⟨by rw [ht]; exact hw.1, by rw [ht]; exact hw.2.1⟩⟩, hw.2.2.1.F ht⟩) hw.2.2.1.2.2 dX1_takesAll_41
  have hB2 : ∀ (n2 : Nat), ∀ (h : CH) (x0 : Nat) (x1 : Nat) (x2 : Int32) (cc ss : Nat) (H : Heap) (locs : List Loc) (ls : Array Slot), m_X1_takesAll_2 f n2 h x0 x1 x2 = some u9 → CW D dA A s h H locs → cc + u.1 = h.1 → ss + u.2.1 = h.2.1 → lv_has ls 3 [(0, .ref x0), (1, .ref x1), (2, .int x2)] → W p l e (rm_X1_takesAll (u9.1 - u.1) (u9.2.1 - u.2.1)) s m args below meth c H locs cc ss QQ (F0 m 2 ls []) := by
    intro n2
    induction n2 with
    | zero => intro h x0 x1 x2 cc ss H locs ls hm hw hcc hss hl; rw [m_X1_takesAll_2] at hm; exact noE hm
    | succ n2 ih2 =>
      have hB35 : ∀ (h : CH) (x0 : Nat) (x1 : Nat) (x2 : Int32) (cc ss : Nat) (H : Heap) (locs : List Loc) (ls : Array Slot), m_X1_takesAll_35 f (m_X1_takesAll_2 f n2) h x0 x1 x2 = some u9 → CW D dA A s h H locs → cc + u.1 = h.1 → ss + u.2.1 = h.2.1 → lv_has ls 3 [(0, .ref x0), (1, .ref x1), (2, .int x2)] → W p l e (rm_X1_takesAll (u9.1 - u.1) (u9.2.1 - u.2.1)) s m args below meth c H locs cc ss QQ (F0 m 35 ls []) := by
        intro h x0 x1 x2 cc ss H locs ls hm hw hcc hss hl
        have hmo := mo_X1_takesAll_35 (mo_X1_takesAll_2 n2) h x0 x1 x2 _ hm
        have sb_ : h.1 ≤ u9.1 := hmo.1
        have tb_ : h.2.1 ≤ u9.2.1 := hmo.2.1
        rw [m_X1_takesAll_35] at hm
        obtain ⟨v1, ev1, hm⟩ := nmE hm
        refine lv_iinc (v := v1) (lv' := [(2, .int v1), (0, .ref x0), (1, .ref x1)]) hx hb dX1_takesAll_35 hl (k := 2) rfl (by rw [ev1]; rfl) (by decide) rfl (fun ls hl => ?_)
        refine lv_goto (tgt := 2) hx hb dX1_takesAll_38 (by decide) ?_
        exact ih2 h x0 x1 v1 _ _ _ _ _ hm hw (by omega) (by omega) (lv_sub hl [1, 2, 0] rfl)
      intro h x0 x1 x2 cc ss H locs ls hm hw hcc hss hl
      have hmo := mo_X1_takesAll_2  (n2 + 1) h x0 x1 x2 _ hm
      have sb_ : h.1 ≤ u9.1 := hmo.1
      have tb_ : h.2.1 ≤ u9.2.1 := hmo.2.1
      rw [m_X1_takesAll_2] at hm
      refine lv_iload_n hx hb dX1_takesAll_2 rfl (lv_at hl 2 rfl) ?_
      refine lv_iconst (v := 3) hx hb dX1_takesAll_3 (by decide) ?_
      refine lv_icmp_ge (tgt := 41) hx hb dX1_takesAll_4 (by decide) (fun c1 => ?_) (fun c1 => ?_)
      · have hm := ifT hm c1
        exact hB41 h _ _ _ _ _ hm hw (by omega) (by omega) (lv_sub hl [] rfl)
      · have hm := ifF hm c1
        refine lv_aload_n hx hb dX1_takesAll_7 rfl (lv_at hl 0 rfl) ?_
        refine lv_aload_n hx hb dX1_takesAll_8 rfl (lv_at hl 1 rfl) ?_
        obtain ⟨a2, ea2, hm⟩ := bdE hm
        refine cg_getN C hw (by decide) (oR_E ea2) rfl in_X2 (by decide) (hw.2.2.2.2.1 _ (List.mem_of_getElem? (i := 40) rfl)) dX1_takesAll_9 ?_
        refine lv_iload_n hx hb dX1_takesAll_12 rfl (lv_at hl 2 rfl) ?_
        obtain ⟨a3, ea3, hm⟩ := bdE hm
        refine cg_aaldA C hw (ty := .array .long) rfl rfl (aR_E ea3) dX1_takesAll_13 ?_
        refine lv_iconst (v := 0) hx hb dX1_takesAll_14 (by decide) ?_
        obtain ⟨v4, ev4, hm⟩ := bdE hm
        refine cg_lald C hw ev4 dX1_takesAll_15 ?_
        refine lv_aload_n hx hb dX1_takesAll_16 rfl (lv_at hl 1 rfl) ?_
        obtain ⟨a5, ea5, hm⟩ := bdE hm
        refine cg_getN C hw (by decide) (oR_E ea5) rfl in_X2 (by decide) (hw.2.2.2.2.1 _ (List.mem_of_getElem? (i := 40) rfl)) dX1_takesAll_17 ?_
        refine lv_iload_n hx hb dX1_takesAll_20 rfl (lv_at hl 2 rfl) ?_
        obtain ⟨a6, ea6, hm⟩ := bdE hm
        refine cg_aaldA C hw (ty := .array .long) rfl rfl (aR_E ea6) dX1_takesAll_21 ?_
        refine lv_iconst (v := 1) hx hb dX1_takesAll_22 (by decide) ?_
        obtain ⟨v7, ev7, hm⟩ := bdE hm
        refine cg_lald C hw ev7 dX1_takesAll_23 ?_
        refine lv_aload_n hx hb dX1_takesAll_24 rfl (lv_at hl 1 rfl) ?_
        obtain ⟨a8, ea8, hm⟩ := bdE hm
        refine cg_getN C hw (by decide) (oR_E ea8) rfl in_X2 (by decide) (hw.2.2.2.2.1 _ (List.mem_of_getElem? (i := 40) rfl)) dX1_takesAll_25 ?_
        refine lv_iload_n hx hb dX1_takesAll_28 rfl (lv_at hl 2 rfl) ?_
        obtain ⟨a9, ea9, hm⟩ := bdE hm
        refine cg_aaldA C hw (ty := .array .long) rfl rfl (aR_E ea9) dX1_takesAll_29 ?_
        refine lv_iconst (v := 2) hx hb dX1_takesAll_30 (by decide) ?_
        obtain ⟨v10, ev10, hm⟩ := bdE hm
        refine cg_lald C hw ev10 dX1_takesAll_31 ?_
        obtain ⟨g11, hm⟩ := gdE hm
        obtain ⟨h12, eh12, hm⟩ := bdE hm
        have lh12 := mo_X1_takes eh12
        have ph12 : h.1 ≤ h12.1 := lh12.1
        have qh12 : h.2.1 ≤ h12.2.1 := lh12.2.1
        have hmo := mo_X1_takesAll_35 (mo_X1_takesAll_2 n2)  h12 x0 x1 x2 _ hm
        have sh12 : h12.1 ≤ u9.1 := hmo.1
        have th12 : h12.2.1 ≤ u9.2.1 := hmo.2.1
        refine cg_callv hw lh12 (va_runV (As := [.long v4, .long v7, .long v10]) (rest := []) ⟨hx, hb, hml, hown, hts⟩ (w_X1_takes l eh12) (cw_X1_takes hts q1148 ⟨Nat.le_of_ble_eq_true rfl, Nat.le_of_ble_eq_true rfl⟩) (cg_preV C hw g11 rfl _) rfl rfl hl.1 rfl (lv_room (Nat.le_of_ble_eq_true rfl)) dX1_takesAll_32 ⟨show cc + (h12.1 - h.1) ≤ u9.1 - u.1 by omega, show ss + (h12.2.1 - h.2.1) ≤ u9.2.1 - u.2.1 by omega⟩) (fun H locs hw => ?_)
        exact hB35 h12 x0 x1 x2 _ _ _ _ _ hm hw (by omega) (by omega) (lv_sub hl [0, 1, 2] rfl)
  rw [m_X1_takesAll] at hm
  refine lv_iconst (v := 0) hx hb dX1_takesAll_0 (by decide) ?_
  refine lv_istore_n (lv' := [(2, .int (0 : Int32)), (0, .ref x0), (1, .ref x1)]) hx hb dX1_takesAll_1 rfl hl (by decide) rfl (fun ls hl => ?_)
  exact hB2 f u x0 x1 (0 : Int32) _ _ _ _ _ hm hw (by omega) (by omega) (lv_sub hl [1, 2, 0] rfl)
def m_X10_init_21 (f : Nat) (h : CH) (x0 : Nat) (x2 : Int64) (x4 : Int64) (y0 : Nat) (y1 : Nat) : Option CH := bd (pF h 10 0 y0 (.ref y1)) fun h1 =>
    gd (nzL x4) <|
    bd (pF h1 10 1 x0 (.long (x2 / x4))) fun h3 =>
    some h3
theorem mo_X10_init_21 {f : Nat} : ∀ (h : CH) (x0 : Nat) (x2 : Int64) (x4 : Int64) (y0 : Nat) (y1 : Nat) (r : CH), m_X10_init_21 f h x0 x2 x4 y0 y1 = some r → le2 h r := by
  intro h x0 x2 x4 y0 y1 r hm
  rw [m_X10_init_21] at hm
  obtain ⟨h1, eh1, hm⟩ := bdE hm
  have lh1 := pF_le eh1
  obtain ⟨g2, hm⟩ := gdE hm
  obtain ⟨h3, eh3, hm⟩ := bdE hm
  have lh3 := pF_le eh3
  cases hm
  exact (lh1.tr (lh3.tr le2.rf))
def m_X10_init_8 (f : Nat) (h : CH) (x0 : Nat) (x1 : Nat) (x2 : Int64) (y0 : Int64) : Option CH := bd (m_X0_divisor f y0 x2) fun r1 =>
    gd (isC h x1 3) <|
    bd2 (m_X2_by f h x1 r1) fun a4 h3 =>
    m_X10_init_21 f h3 x0 x2 r1 x0 a4
theorem mo_X10_init_8 {f : Nat} : ∀ (h : CH) (x0 : Nat) (x1 : Nat) (x2 : Int64) (y0 : Int64) (r : CH), m_X10_init_8 f h x0 x1 x2 y0 = some r → le2 h r := by
  intro h x0 x1 x2 y0 r hm
  rw [m_X10_init_8] at hm
  obtain ⟨r1, er1, hm⟩ := bdE hm
  obtain ⟨g2, hm⟩ := gdE hm
  obtain ⟨a4, h3, ea4, hm⟩ := bd2E hm
  have lh3 := mo_X2_by ea4
  exact (lh3.tr (mo_X10_init_21  h3 x0 x2 r1 x0 a4 _ hm))
def m_X10_init (f : Nat) (u : CH) (x0 : Nat) (x1 : Nat) (x2 : Int64) : Option CH := gd (isC u x1 3) <|
    bd2 (m_X2_common f u x1) fun r3 h2 =>
    m_X10_init_8 f h2 x0 x1 x2 r3
theorem mo_X10_init {f : Nat} {u : CH} {x0 : Nat} {x1 : Nat} {x2 : Int64} {u9 : CH} (hm : m_X10_init f u x0 x1 x2 = some u9) : le2 u u9 := by
  rw [m_X10_init] at hm
  obtain ⟨g1, hm⟩ := gdE hm
  obtain ⟨r3, h2, er3, hm⟩ := bd2E hm
  have lh2 := mo_X2_common er3
  exact (lh2.tr (mo_X10_init_8  h2 x0 x1 x2 r3 _ hm))
abbrev rm_X10_init (mc ms : Nat) : Room := { frames := 103, cells := mc, slots := ms, locals := 4087 }
theorem cw_X10_init {R : Room} {s : State} {args : Array Value} {own : String} {idx mc ms : Nat} (hts : ∀ w ∈ lw_all, w.before args s = true) (hl : Cond.methodLink own idx yX10_init ∈ lw_all) (hR : 103 + 1 ≤ R.frames ∧ 8 + (6 + 11) + 4087 ≤ R.locals) : CallB R s args own idx yX10_init cX10_init 6 none (ws_ yX10_init cX10_init 6 (Option.none : Option Jvm.ClassFile.FieldType)) (rm_X10_init mc ms) mc ms 2 ∧ yX10_init.name = "<init>" ∧ (Cond.instanceMethod yX10_init).before args s = true := cwI 2 hts (lw_meth q1153) rfl rfl rfl (hts _ q147) (hts _ hl) (hts _ q1152) rfl (by decide +kernel) hR
set_option maxHeartbeats 4000000 in
set_option maxRecDepth 100000 in
theorem w_X10_init (l : Launch) {D : va_G} {dA : Nat → ClassId} {A : Nat → Prop} {f : Nat} {u u9 : CH} {x0 : Nat} {x1 : Nat} {x2 : Int64} (hm : m_X10_init f u x0 x1 x2 = some u9) : Met l yX10_init (ws_ yX10_init cX10_init 6 (Option.none : Option Jvm.ClassFile.FieldType)) (rm_X10_init (u9.1 - u.1) (u9.2.1 - u.2.1)) (va_Pc [.ref x0, .ref x1, .long x2] (CPre D dA A u)) (va_Qv (fun u => u = u9) (CPost D dA A) A) (u9.1 - u.1) (u9.2.1 - u.2.1) A := by
  refine Met.ofW (cc := cX10_init) (maxL := 6) (ret := (Option.none : Option Jvm.ClassFile.FieldType)) (by decide) rfl ?_
  intro p e s m args below meth c s₁ B hml hv
  have hx := B.exec
  have hb := B.bytes
  have hr := B.returns
  have hts := atoms_spec (ws := (ws_ yX10_init cX10_init 6 (Option.none : Option Jvm.ClassFile.FieldType))) B.pre
  have hts : ∀ w ∈ lw_all, w.before args s = true := fun w h => hts w (List.mem_cons_of_mem _ h)
  have hown : s.vm.findClass RX10 = some m.cls := findClass_of_methodNamed B.named
  have hlocks := B.notSynchronized
  have hin : meth.name = "<init>" := (name_of_methodNamed B.named B.method).1
  obtain ⟨hav, hv⟩ := hv
  have C : CX p s m args c cX10_init RX10 D dA := ⟨hx, hb, hown, hts, hv.2⟩
  have hw : CW D dA A s u s.heap [] := hv.1
  generalize hQ : MQ below (va_Qv (fun u => u = u9) (CPost D dA A) A) args s (u9.1 - u.1) (u9.2.1 - u.2.1) A = QQ
  have hent := lg_entry_eq m [.ref x0, .ref x1, .long x2] 6
  rw [← hav] at hent
  rw [hent]
  have hl := lv_entry ([.ref x0, .ref x1, .long x2]) (n := 6) (Nat.le_of_ble_eq_true rfl)
  generalize (lg_sl ([.ref x0, .ref x1, .long x2]) ++ List.replicate (6 - (lg_sl ([.ref x0, .ref x1, .long x2])).length) Slot.unset).toArray = ls at hl ⊢
  have hl : lv_has ls 6 [(0, .ref x0), (1, .ref x1), (2, .long x2)] := hl
  obtain ⟨cc, ecc⟩ : ∃ z : Nat, z = 0 := ⟨0, rfl⟩
  obtain ⟨ss, ess⟩ : ∃ z : Nat, z = 0 := ⟨0, rfl⟩
  have hcc : cc + u.1 = u.1 := by omega
  have hss : ss + u.2.1 = u.2.1 := by omega
  suffices hgo : W p l e (rm_X10_init (u9.1 - u.1) (u9.2.1 - u.2.1)) s m args below meth c s.heap [] cc ss QQ (F0 m 0 ls []) by rw [ecc, ess] at hgo; exact hgo
  have ⟨pu, qu, _, _⟩ := mo_X10_init hm
  have hB21 : ∀ (h : CH) (x0 : Nat) (x2 : Int64) (x4 : Int64) (y0 : Nat) (y1 : Nat) (cc ss : Nat) (H : Heap) (locs : List Loc) (ls : Array Slot), m_X10_init_21 f h x0 x2 x4 y0 y1 = some u9 → CW D dA A s h H locs → cc + u.1 = h.1 → ss + u.2.1 = h.2.1 → lv_has ls 6 [(0, .ref x0), (2, .long x2), (4, .long x4)] → W p l e (rm_X10_init (u9.1 - u.1) (u9.2.1 - u.2.1)) s m args below meth c H locs cc ss QQ (F0 m 21 ls [.ref y1, .ref y0]) := by
    intro h x0 x2 x4 y0 y1 cc ss H locs ls hm hw hcc hss hl
    have hmo := mo_X10_init_21  h x0 x2 x4 y0 y1 _ hm
    have sb_ : h.1 ≤ u9.1 := hmo.1
    have tb_ : h.2.1 ≤ u9.2.1 := hmo.2.1
    rw [m_X10_init_21] at hm
    obtain ⟨h1, eh1, hm⟩ := bdE hm
    refine cg_putF C hw eh1 rfl in_X10 tyX10 tyX10_ok nmX10 (by decide) q1158 rfl hin rfl rfl rfl dX10_init_21 (fun H locs hw => ?_)
    have zh1 := pF_sz eh1
    refine lv_aload_n hx hb dX10_init_24 rfl (lv_at hl 0 rfl) ?_
    refine lv_lload_n hx hb dX10_init_25 rfl (lv_at hl 1 rfl) ?_
    refine lv_lload hx hb dX10_init_26 (lv_at hl 2 rfl) ?_
    obtain ⟨g2, hm⟩ := gdE hm
    refine lv_ldiv hx hb dX10_init_28 (nzL_ne g2) ?_
    obtain ⟨h3, eh3, hm⟩ := bdE hm
    refine cg_putF C hw eh3 rfl in_X10 tyX10 tyX10_ok nmX10 (by decide) q1160 rfl hin rfl rfl rfl dX10_init_29 (fun H locs hw => ?_)
    have zh3 := pF_sz eh3
    have eh := ret1 hm
    have ec : cc = u9.1 - u.1 := by rw [← eh]; omega
    have es : ss = u9.2.1 - u.2.1 := by rw [← eh]; omega
    rw [ec, es, ← hQ]
    exact W.vret hx hb hr (fun t ht hW => ⟨⟨h3, rfl, eh, ⟨by rw [ht]; exact hw.1, by rw [ht]; exact hw.2.1⟩⟩, hw.2.2.1.F ht⟩) hw.2.2.1.2.2 dX10_init_32
  have hB8 : ∀ (h : CH) (x0 : Nat) (x1 : Nat) (x2 : Int64) (y0 : Int64) (cc ss : Nat) (H : Heap) (locs : List Loc) (ls : Array Slot), m_X10_init_8 f h x0 x1 x2 y0 = some u9 → CW D dA A s h H locs → cc + u.1 = h.1 → ss + u.2.1 = h.2.1 → lv_has ls 6 [(0, .ref x0), (1, .ref x1), (2, .long x2)] → W p l e (rm_X10_init (u9.1 - u.1) (u9.2.1 - u.2.1)) s m args below meth c H locs cc ss QQ (F0 m 8 ls [.long y0]) := by
    intro h x0 x1 x2 y0 cc ss H locs ls hm hw hcc hss hl
    have hmo := mo_X10_init_8  h x0 x1 x2 y0 _ hm
    have sb_ : h.1 ≤ u9.1 := hmo.1
    have tb_ : h.2.1 ≤ u9.2.1 := hmo.2.1
    rw [m_X10_init_8] at hm
    refine lv_lload_n hx hb dX10_init_8 rfl (lv_at hl 2 rfl) ?_
    obtain ⟨r1, er1, hm⟩ := bdE hm
    refine scl (va_runSN (As := [.long y0, .long x2]) (rest := []) ⟨hx, hb, hml, hown, hts⟩ (w_X0_divisor l er1) ⟨va_cnB 2 hts (lw_meth q932) rfl rfl rfl (hw.2.2.2.2.1 _ (List.mem_of_getElem? (i := 42) rfl)) (hts _ q119) (by decide +kernel) ⟨Nat.le_of_ble_eq_true rfl, Nat.le_of_ble_eq_true rfl⟩, hts _ q931, trivial⟩ (pre_s _) rfl rfl hl.1 rfl (lv_room (Nat.le_of_ble_eq_true rfl)) dX10_init_9 ⟨show cc + 0 ≤ u9.1 - u.1 by omega, show ss + 0 ≤ u9.2.1 - u.2.1 by omega⟩) ?_
    refine lv_lstore (lv' := [(4, .long r1), (0, .ref x0), (1, .ref x1), (2, .long x2)]) hx hb dX10_init_12 hl (by decide) rfl (fun ls hl => ?_)
    refine lv_aload_n hx hb dX10_init_14 rfl (lv_at hl 1 rfl) ?_
    refine lv_aload_n hx hb dX10_init_15 rfl (lv_at hl 2 rfl) ?_
    refine lv_lload hx hb dX10_init_16 (lv_at hl 0 rfl) ?_
    obtain ⟨g2, hm⟩ := gdE hm
    obtain ⟨a4, h3, ea4, hm⟩ := bd2E hm
    have lh3 := mo_X2_by ea4
    have ph3 : h.1 ≤ h3.1 := lh3.1
    have qh3 : h.2.1 ≤ h3.2.1 := lh3.2.1
    have hmo := mo_X10_init_21   h3 x0 x2 r1 x0 a4 _ hm
    have sh3 : h3.1 ≤ u9.1 := hmo.1
    have th3 : h3.2.1 ≤ u9.2.1 := hmo.2.1
    refine cg_callr hw lh3 (va_runV (As := [.long r1]) (rest := [.ref x0]) ⟨hx, hb, hml, hown, hts⟩ (w_X2_by l ea4) (cw_X2_by hts q1157 ⟨Nat.le_of_ble_eq_true rfl, Nat.le_of_ble_eq_true rfl⟩) (cg_preV C hw g2 rfl _) rfl rfl hl.1 rfl (lv_room (Nat.le_of_ble_eq_true rfl)) dX10_init_18 ⟨show cc + (h3.1 - h.1) ≤ u9.1 - u.1 by omega, show ss + (h3.2.1 - h.2.1) ≤ u9.2.1 - u.2.1 by omega⟩) (fun H locs hw => ?_)
    exact hB21 h3 x0 x2 r1 x0 a4 _ _ _ _ _ hm hw (by omega) (by omega) (lv_sub hl [1, 3, 0] rfl)
  rw [m_X10_init] at hm
  refine lv_aload_n hx hb dX10_init_0 rfl (lv_at hl 0 rfl) ?_
  refine W.objInit hx hb hown (hts _ q1154) (hts _ q161) (hts _ q162) rfl (by rw [hml]; exact hl.1) rfl dX10_init_1 (Nat.le_of_ble_eq_true rfl) (Nat.le_of_ble_eq_true rfl) ?_
  refine W.eq (g2 := F0 m 4 ls []) rfl ?_
  refine lv_aload_n hx hb dX10_init_4 rfl (lv_at hl 1 rfl) ?_
  obtain ⟨g1, hm⟩ := gdE hm
  obtain ⟨r3, h2, er3, hm⟩ := bd2E hm
  have lh2 := mo_X2_common er3
  have ph2 : u.1 ≤ h2.1 := lh2.1
  have qh2 : u.2.1 ≤ h2.2.1 := lh2.2.1
  have hmo := mo_X10_init_8   h2 x0 x1 x2 r3 _ hm
  have sh2 : h2.1 ≤ u9.1 := hmo.1
  have th2 : h2.2.1 ≤ u9.2.1 := hmo.2.1
  refine cg_calll hw lh2 (va_runV (As := []) (rest := []) ⟨hx, hb, hml, hown, hts⟩ (w_X2_common l er3) (cw_X2_common hts q1155 ⟨Nat.le_of_ble_eq_true rfl, Nat.le_of_ble_eq_true rfl⟩) (cg_preV C hw g1 rfl _) rfl rfl hl.1 rfl (lv_room (Nat.le_of_ble_eq_true rfl)) dX10_init_5 ⟨show cc + (h2.1 - u.1) ≤ u9.1 - u.1 by omega, show ss + (h2.2.1 - u.2.1) ≤ u9.2.1 - u.2.1 by omega⟩) (fun H locs hw => ?_)
  exact hB8 h2 x0 x1 x2 r3 _ _ _ _ _ hm hw (by omega) (by omega) (lv_sub hl [0, 1, 2] rfl)
def m_X0_meetOf_226 (f : Nat) (h : CH) (y0 : Nat) : Option (Nat × CH) := some (y0, h)
theorem mo_X0_meetOf_226 {f : Nat} : ∀ (h : CH) (y0 : Nat) (r : (Nat × CH)), m_X0_meetOf_226 f h y0 = some r → le2 h r.2 := by
  intro h y0 r hm
  rw [m_X0_meetOf_226] at hm
  cases hm
  exact le2.rf
def m_X0_meetOf_216 (f : Nat) (h : CH) (x3 : Int64) (x13 : Nat) (y0 : Nat) : Option (Nat × CH) := bd (oR h 2 0 x13) fun a1 =>
    bd (m_X10_init f h y0 a1 x3) fun h2 =>
    m_X0_meetOf_226 f h2 y0
theorem mo_X0_meetOf_216 {f : Nat} : ∀ (h : CH) (x3 : Int64) (x13 : Nat) (y0 : Nat) (r : (Nat × CH)), m_X0_meetOf_216 f h x3 x13 y0 = some r → le2 h r.2 := by
  intro h x3 x13 y0 r hm
  rw [m_X0_meetOf_216] at hm
  obtain ⟨a1, ea1, hm⟩ := bdE hm
  obtain ⟨h2, eh2, hm⟩ := bdE hm
  have lh2 := mo_X10_init eh2
  exact (lh2.tr (mo_X0_meetOf_226  h2 y0 _ hm))
def m_X0_meetOf_213 (f : Nat) (h : CH) (x3 : Int64) (x13 : Nat) : Option (Nat × CH) := nmv (cn h 2 (.inl (10, [.null, .long 0]))) fun h1 =>
    nmv (h.1 : Nat) fun a2 =>
    m_X0_meetOf_216 f h1 x3 x13 a2
theorem mo_X0_meetOf_213 {f : Nat} : ∀ (h : CH) (x3 : Int64) (x13 : Nat) (r : (Nat × CH)), m_X0_meetOf_213 f h x3 x13 = some r → le2 h r.2 := by
  intro h x3 x13 r hm
  rw [m_X0_meetOf_213] at hm
  obtain ⟨h1, eh1, hm⟩ := nmE hm
  have lh1 := cn_le eh1
  obtain ⟨a2, ea2, hm⟩ := nmE hm
  exact (lh1.tr (mo_X0_meetOf_216  h1 x3 x13 a2 _ hm))
def m_X0_meetOf_210 (f : Nat) (h : CH) (x3 : Int64) (x13 : Nat) (y0 : Nat) (y1 : Nat) : Option (Nat × CH) := gd (isC h y0 2) <|
    bd (m_X1_takesAll f h y0 y1) fun h2 =>
    m_X0_meetOf_213 f h2 x3 x13
theorem mo_X0_meetOf_210 {f : Nat} : ∀ (h : CH) (x3 : Int64) (x13 : Nat) (y0 : Nat) (y1 : Nat) (r : (Nat × CH)), m_X0_meetOf_210 f h x3 x13 y0 y1 = some r → le2 h r.2 := by
  intro h x3 x13 y0 y1 r hm
  rw [m_X0_meetOf_210] at hm
  obtain ⟨g1, hm⟩ := gdE hm
  obtain ⟨h2, eh2, hm⟩ := bdE hm
  have lh2 := mo_X1_takesAll eh2
  exact (lh2.tr (mo_X0_meetOf_213  h2 x3 x13 _ hm))
def m_X0_meetOf_196 (f : Nat) (h : CH) (x3 : Int64) (x5 : Nat) (x12 : Nat) (y0 : Nat) : Option (Nat × CH) := bd (oR h 2 0 x12) fun a1 =>
    gd (isC h a1 3) <|
    bd2 (m_X2_times f h a1 x5) fun a4 h3 =>
    m_X0_meetOf_210 f h3 x3 y0 y0 a4
theorem mo_X0_meetOf_196 {f : Nat} : ∀ (h : CH) (x3 : Int64) (x5 : Nat) (x12 : Nat) (y0 : Nat) (r : (Nat × CH)), m_X0_meetOf_196 f h x3 x5 x12 y0 = some r → le2 h r.2 := by
  intro h x3 x5 x12 y0 r hm
  rw [m_X0_meetOf_196] at hm
  obtain ⟨a1, ea1, hm⟩ := bdE hm
  obtain ⟨g2, hm⟩ := gdE hm
  obtain ⟨a4, h3, ea4, hm⟩ := bd2E hm
  have lh3 := mo_X2_times ea4
  exact (lh3.tr (mo_X0_meetOf_210  h3 x3 y0 y0 a4 _ hm))
def m_X0_meetOf_190 (f : Nat) (h : CH) (x3 : Int64) (x5 : Nat) (x12 : Nat) (y0 : Nat) (y1 : Nat) (y2 : Int64) (y3 : Int64) : Option (Nat × CH) := bd (m_X0_multiple f y2 y3) fun r1 =>
    bd (m_X1_init f h y1 r1) fun h2 =>
    m_X0_meetOf_196 f h2 x3 x5 x12 y0
theorem mo_X0_meetOf_190 {f : Nat} : ∀ (h : CH) (x3 : Int64) (x5 : Nat) (x12 : Nat) (y0 : Nat) (y1 : Nat) (y2 : Int64) (y3 : Int64) (r : (Nat × CH)), m_X0_meetOf_190 f h x3 x5 x12 y0 y1 y2 y3 = some r → le2 h r.2 := by
  intro h x3 x5 x12 y0 y1 y2 y3 r hm
  rw [m_X0_meetOf_190] at hm
  obtain ⟨r1, er1, hm⟩ := bdE hm
  obtain ⟨h2, eh2, hm⟩ := bdE hm
  have lh2 := mo_X1_init eh2
  exact (lh2.tr (mo_X0_meetOf_196  h2 x3 x5 x12 y0 _ hm))
def m_X0_meetOf_184 (f : Nat) (h : CH) (x3 : Int64) (x5 : Nat) (x6 : Nat) (x12 : Nat) (y0 : Nat) (y1 : Nat) (y2 : Int64) : Option (Nat × CH) := gd (isC h x6 3) <|
    bd2 (m_X2_smith f h x6 (2 : Int32)) fun r3 h2 =>
    m_X0_meetOf_190 f h2 x3 x5 x12 y0 y1 y2 r3
theorem mo_X0_meetOf_184 {f : Nat} : ∀ (h : CH) (x3 : Int64) (x5 : Nat) (x6 : Nat) (x12 : Nat) (y0 : Nat) (y1 : Nat) (y2 : Int64) (r : (Nat × CH)), m_X0_meetOf_184 f h x3 x5 x6 x12 y0 y1 y2 = some r → le2 h r.2 := by
  intro h x3 x5 x6 x12 y0 y1 y2 r hm
  rw [m_X0_meetOf_184] at hm
  obtain ⟨g1, hm⟩ := gdE hm
  obtain ⟨r3, h2, er3, hm⟩ := bd2E hm
  have lh2 := mo_X2_smith er3
  exact (lh2.tr (mo_X0_meetOf_190  h2 x3 x5 x12 y0 y1 y2 r3 _ hm))
def m_X0_meetOf_177 (f : Nat) (h : CH) (x3 : Int64) (x5 : Nat) (x6 : Nat) (x12 : Nat) (y0 : Nat) : Option (Nat × CH) := gd (isC h x5 3) <|
    bd2 (m_X2_smith f h x5 (2 : Int32)) fun r3 h2 =>
    m_X0_meetOf_184 f h2 x3 x5 x6 x12 y0 y0 r3
theorem mo_X0_meetOf_177 {f : Nat} : ∀ (h : CH) (x3 : Int64) (x5 : Nat) (x6 : Nat) (x12 : Nat) (y0 : Nat) (r : (Nat × CH)), m_X0_meetOf_177 f h x3 x5 x6 x12 y0 = some r → le2 h r.2 := by
  intro h x3 x5 x6 x12 y0 r hm
  rw [m_X0_meetOf_177] at hm
  obtain ⟨g1, hm⟩ := gdE hm
  obtain ⟨r3, h2, er3, hm⟩ := bd2E hm
  have lh2 := mo_X2_smith er3
  exact (lh2.tr (mo_X0_meetOf_184  h2 x3 x5 x6 x12 y0 y0 r3 _ hm))
def m_X0_meetOf_174 (f : Nat) (h : CH) (x3 : Int64) (x5 : Nat) (x6 : Nat) (x12 : Nat) : Option (Nat × CH) := nmv (cn h 3 (.inl (2, [.null, .null, .long 0]))) fun h1 =>
    nmv (h.1 : Nat) fun a2 =>
    m_X0_meetOf_177 f h1 x3 x5 x6 x12 a2
theorem mo_X0_meetOf_174 {f : Nat} : ∀ (h : CH) (x3 : Int64) (x5 : Nat) (x6 : Nat) (x12 : Nat) (r : (Nat × CH)), m_X0_meetOf_174 f h x3 x5 x6 x12 = some r → le2 h r.2 := by
  intro h x3 x5 x6 x12 r hm
  rw [m_X0_meetOf_174] at hm
  obtain ⟨h1, eh1, hm⟩ := nmE hm
  have lh1 := cn_le eh1
  obtain ⟨a2, ea2, hm⟩ := nmE hm
  exact (lh1.tr (mo_X0_meetOf_177  h1 x3 x5 x6 x12 a2 _ hm))
def m_X0_meetOf_168 (f : Nat) (k127 : CH → Int64 → Nat → Nat → Nat → Nat → Int32 → Option (Nat × CH)) (h : CH) (x3 : Int64) (x5 : Nat) (x6 : Nat) (x11 : Nat) (x12 : Nat) (x13 : Int32) : Option (Nat × CH) := nmv ((x13 + 1) : Int32) fun v1 =>
    k127 h x3 x5 x6 x11 x12 v1
theorem mo_X0_meetOf_168 {f : Nat} {k127 : CH → Int64 → Nat → Nat → Nat → Nat → Int32 → Option (Nat × CH)} (hk127 : ∀ (h : CH) (x3 : Int64) (x5 : Nat) (x6 : Nat) (x11 : Nat) (x12 : Nat) (x13 : Int32) (r : (Nat × CH)), k127 h x3 x5 x6 x11 x12 x13 = some r → le2 h r.2) : ∀ (h : CH) (x3 : Int64) (x5 : Nat) (x6 : Nat) (x11 : Nat) (x12 : Nat) (x13 : Int32) (r : (Nat × CH)), m_X0_meetOf_168 f k127 h x3 x5 x6 x11 x12 x13 = some r → le2 h r.2 := by
  intro h x3 x5 x6 x11 x12 x13 r hm
  rw [m_X0_meetOf_168] at hm
  obtain ⟨v1, ev1, hm⟩ := nmE hm
  exact (hk127 h x3 x5 x6 x11 x12 v1 _ hm)
def m_X0_meetOf_127 (f : Nat) : Nat → CH → Int64 → Nat → Nat → Nat → Nat → Int32 → Option (Nat × CH)
  | 0, _, _, _, _, _, _, _ => none
  | n127 + 1, h, x3, x5, x6, x11, x12, x13 => if (3 : Int32) ≤ x13 then
    m_X0_meetOf_174 f h x3 x5 x6 x12
    else bd (oR h 3 0 x11) fun a2 =>
    bd (aR h 4 a2 (0 : Int32)) fun a3 =>
    bd (aL h 1 a3 x13) fun v4 =>
    bd (oR h 3 0 x11) fun a5 =>
    bd (aR h 4 a5 (1 : Int32)) fun a6 =>
    bd (aL h 1 a6 x13) fun v7 =>
    bd (oR h 3 0 x11) fun a8 =>
    bd (aR h 4 a8 (2 : Int32)) fun a9 =>
    bd (aL h 1 a9 x13) fun v10 =>
    gd (isC h x12 2) <|
    bd (m_X1_takes f h x12 v4 v7 v10) fun h12 =>
    m_X0_meetOf_168 f (m_X0_meetOf_127 f n127) h12 x3 x5 x6 x11 x12 x13
theorem mo_X0_meetOf_127 {f : Nat} : ∀ (n127 : Nat) (h : CH) (x3 : Int64) (x5 : Nat) (x6 : Nat) (x11 : Nat) (x12 : Nat) (x13 : Int32) (r : (Nat × CH)), m_X0_meetOf_127 f n127 h x3 x5 x6 x11 x12 x13 = some r → le2 h r.2 := by
  intro n127
  induction n127 with
  | zero => intro h x3 x5 x6 x11 x12 x13 r hm; rw [m_X0_meetOf_127] at hm; exact noE hm
  | succ n127 ihm =>
    intro h x3 x5 x6 x11 x12 x13 r hm
    rw [m_X0_meetOf_127] at hm
    by_cases c1 : (3 : Int32) ≤ x13
    · have hm := ifT hm c1
      exact (mo_X0_meetOf_174  h x3 x5 x6 x12 _ hm)
    · have hm := ifF hm c1
      obtain ⟨a2, ea2, hm⟩ := bdE hm
      obtain ⟨a3, ea3, hm⟩ := bdE hm
      obtain ⟨v4, ev4, hm⟩ := bdE hm
      obtain ⟨a5, ea5, hm⟩ := bdE hm
      obtain ⟨a6, ea6, hm⟩ := bdE hm
      obtain ⟨v7, ev7, hm⟩ := bdE hm
      obtain ⟨a8, ea8, hm⟩ := bdE hm
      obtain ⟨a9, ea9, hm⟩ := bdE hm
      obtain ⟨v10, ev10, hm⟩ := bdE hm
      obtain ⟨g11, hm⟩ := gdE hm
      obtain ⟨h12, eh12, hm⟩ := bdE hm
      have lh12 := mo_X1_takes eh12
      exact (lh12.tr (mo_X0_meetOf_168 ihm h12 x3 x5 x6 x11 x12 x13 _ hm))
def m_X0_meetOf_122 (f : Nat) (h : CH) (x3 : Int64) (x5 : Nat) (x6 : Nat) (x11 : Nat) (y0 : Nat) : Option (Nat × CH) := m_X0_meetOf_127 f f h x3 x5 x6 x11 y0 (0 : Int32)
theorem mo_X0_meetOf_122 {f : Nat} : ∀ (h : CH) (x3 : Int64) (x5 : Nat) (x6 : Nat) (x11 : Nat) (y0 : Nat) (r : (Nat × CH)), m_X0_meetOf_122 f h x3 x5 x6 x11 y0 = some r → le2 h r.2 := by
  intro h x3 x5 x6 x11 y0 r hm
  rw [m_X0_meetOf_122] at hm
  exact (mo_X0_meetOf_127  f h x3 x5 x6 x11 y0 (0 : Int32) _ hm)
def m_X0_meetOf_116 (f : Nat) (h : CH) (x3 : Int64) (x5 : Nat) (x6 : Nat) (x7 : Int64) (x11 : Nat) (y0 : Nat) : Option (Nat × CH) := bd (m_X1_init f h y0 x7) fun h1 =>
    m_X0_meetOf_122 f h1 x3 x5 x6 x11 y0
theorem mo_X0_meetOf_116 {f : Nat} : ∀ (h : CH) (x3 : Int64) (x5 : Nat) (x6 : Nat) (x7 : Int64) (x11 : Nat) (y0 : Nat) (r : (Nat × CH)), m_X0_meetOf_116 f h x3 x5 x6 x7 x11 y0 = some r → le2 h r.2 := by
  intro h x3 x5 x6 x7 x11 y0 r hm
  rw [m_X0_meetOf_116] at hm
  obtain ⟨h1, eh1, hm⟩ := bdE hm
  have lh1 := mo_X1_init eh1
  exact (lh1.tr (mo_X0_meetOf_122  h1 x3 x5 x6 x11 y0 _ hm))
def m_X0_meetOf_111 (f : Nat) (h : CH) (x3 : Int64) (x5 : Nat) (x6 : Nat) (x7 : Int64) (y0 : Nat) : Option (Nat × CH) := nmv (cn h 3 (.inl (2, [.null, .null, .long 0]))) fun h1 =>
    nmv (h.1 : Nat) fun a2 =>
    m_X0_meetOf_116 f h1 x3 x5 x6 x7 y0 a2
theorem mo_X0_meetOf_111 {f : Nat} : ∀ (h : CH) (x3 : Int64) (x5 : Nat) (x6 : Nat) (x7 : Int64) (y0 : Nat) (r : (Nat × CH)), m_X0_meetOf_111 f h x3 x5 x6 x7 y0 = some r → le2 h r.2 := by
  intro h x3 x5 x6 x7 y0 r hm
  rw [m_X0_meetOf_111] at hm
  obtain ⟨h1, eh1, hm⟩ := nmE hm
  have lh1 := cn_le eh1
  obtain ⟨a2, ea2, hm⟩ := nmE hm
  exact (lh1.tr (mo_X0_meetOf_116  h1 x3 x5 x6 x7 y0 a2 _ hm))
def m_X0_meetOf_106 (f : Nat) (h : CH) (x3 : Int64) (x5 : Nat) (x6 : Nat) (x7 : Int64) (x10 : Nat) : Option (Nat × CH) := gd (isC h x10 2) <|
    bd2 (m_X1_dual f h x10) fun a3 h2 =>
    m_X0_meetOf_111 f h2 x3 x5 x6 x7 a3
theorem mo_X0_meetOf_106 {f : Nat} : ∀ (h : CH) (x3 : Int64) (x5 : Nat) (x6 : Nat) (x7 : Int64) (x10 : Nat) (r : (Nat × CH)), m_X0_meetOf_106 f h x3 x5 x6 x7 x10 = some r → le2 h r.2 := by
  intro h x3 x5 x6 x7 x10 r hm
  rw [m_X0_meetOf_106] at hm
  obtain ⟨g1, hm⟩ := gdE hm
  obtain ⟨a3, h2, ea3, hm⟩ := bd2E hm
  have lh2 := mo_X1_dual ea3
  exact (lh2.tr (mo_X0_meetOf_111  h2 x3 x5 x6 x7 a3 _ hm))
def m_X0_meetOf_100 (f : Nat) (k59 : CH → Int64 → Nat → Nat → Int64 → Nat → Nat → Int32 → Option (Nat × CH)) (h : CH) (x3 : Int64) (x5 : Nat) (x6 : Nat) (x7 : Int64) (x9 : Nat) (x10 : Nat) (x11 : Int32) : Option (Nat × CH) := nmv ((x11 + 1) : Int32) fun v1 =>
    k59 h x3 x5 x6 x7 x9 x10 v1
theorem mo_X0_meetOf_100 {f : Nat} {k59 : CH → Int64 → Nat → Nat → Int64 → Nat → Nat → Int32 → Option (Nat × CH)} (hk59 : ∀ (h : CH) (x3 : Int64) (x5 : Nat) (x6 : Nat) (x7 : Int64) (x9 : Nat) (x10 : Nat) (x11 : Int32) (r : (Nat × CH)), k59 h x3 x5 x6 x7 x9 x10 x11 = some r → le2 h r.2) : ∀ (h : CH) (x3 : Int64) (x5 : Nat) (x6 : Nat) (x7 : Int64) (x9 : Nat) (x10 : Nat) (x11 : Int32) (r : (Nat × CH)), m_X0_meetOf_100 f k59 h x3 x5 x6 x7 x9 x10 x11 = some r → le2 h r.2 := by
  intro h x3 x5 x6 x7 x9 x10 x11 r hm
  rw [m_X0_meetOf_100] at hm
  obtain ⟨v1, ev1, hm⟩ := nmE hm
  exact (hk59 h x3 x5 x6 x7 x9 x10 v1 _ hm)
def m_X0_meetOf_59 (f : Nat) : Nat → CH → Int64 → Nat → Nat → Int64 → Nat → Nat → Int32 → Option (Nat × CH)
  | 0, _, _, _, _, _, _, _, _ => none
  | n59 + 1, h, x3, x5, x6, x7, x9, x10, x11 => if (3 : Int32) ≤ x11 then
    m_X0_meetOf_106 f h x3 x5 x6 x7 x10
    else bd (oR h 3 0 x9) fun a2 =>
    bd (aR h 4 a2 (0 : Int32)) fun a3 =>
    bd (aL h 1 a3 x11) fun v4 =>
    bd (oR h 3 0 x9) fun a5 =>
    bd (aR h 4 a5 (1 : Int32)) fun a6 =>
    bd (aL h 1 a6 x11) fun v7 =>
    bd (oR h 3 0 x9) fun a8 =>
    bd (aR h 4 a8 (2 : Int32)) fun a9 =>
    bd (aL h 1 a9 x11) fun v10 =>
    gd (isC h x10 2) <|
    bd (m_X1_takes f h x10 v4 v7 v10) fun h12 =>
    m_X0_meetOf_100 f (m_X0_meetOf_59 f n59) h12 x3 x5 x6 x7 x9 x10 x11
theorem mo_X0_meetOf_59 {f : Nat} : ∀ (n59 : Nat) (h : CH) (x3 : Int64) (x5 : Nat) (x6 : Nat) (x7 : Int64) (x9 : Nat) (x10 : Nat) (x11 : Int32) (r : (Nat × CH)), m_X0_meetOf_59 f n59 h x3 x5 x6 x7 x9 x10 x11 = some r → le2 h r.2 := by
  intro n59
  induction n59 with
  | zero => intro h x3 x5 x6 x7 x9 x10 x11 r hm; rw [m_X0_meetOf_59] at hm; exact noE hm
  | succ n59 ihm =>
    intro h x3 x5 x6 x7 x9 x10 x11 r hm
    rw [m_X0_meetOf_59] at hm
    by_cases c1 : (3 : Int32) ≤ x11
    · have hm := ifT hm c1
      exact (mo_X0_meetOf_106  h x3 x5 x6 x7 x10 _ hm)
    · have hm := ifF hm c1
      obtain ⟨a2, ea2, hm⟩ := bdE hm
      obtain ⟨a3, ea3, hm⟩ := bdE hm
      obtain ⟨v4, ev4, hm⟩ := bdE hm
      obtain ⟨a5, ea5, hm⟩ := bdE hm
      obtain ⟨a6, ea6, hm⟩ := bdE hm
      obtain ⟨v7, ev7, hm⟩ := bdE hm
      obtain ⟨a8, ea8, hm⟩ := bdE hm
      obtain ⟨a9, ea9, hm⟩ := bdE hm
      obtain ⟨v10, ev10, hm⟩ := bdE hm
      obtain ⟨g11, hm⟩ := gdE hm
      obtain ⟨h12, eh12, hm⟩ := bdE hm
      have lh12 := mo_X1_takes eh12
      exact (lh12.tr (mo_X0_meetOf_100 ihm h12 x3 x5 x6 x7 x9 x10 x11 _ hm))
def m_X0_meetOf_54 (f : Nat) (h : CH) (x3 : Int64) (x5 : Nat) (x6 : Nat) (x7 : Int64) (x9 : Nat) (y0 : Nat) : Option (Nat × CH) := m_X0_meetOf_59 f f h x3 x5 x6 x7 x9 y0 (0 : Int32)
theorem mo_X0_meetOf_54 {f : Nat} : ∀ (h : CH) (x3 : Int64) (x5 : Nat) (x6 : Nat) (x7 : Int64) (x9 : Nat) (y0 : Nat) (r : (Nat × CH)), m_X0_meetOf_54 f h x3 x5 x6 x7 x9 y0 = some r → le2 h r.2 := by
  intro h x3 x5 x6 x7 x9 y0 r hm
  rw [m_X0_meetOf_54] at hm
  exact (mo_X0_meetOf_59  f h x3 x5 x6 x7 x9 y0 (0 : Int32) _ hm)
def m_X0_meetOf_48 (f : Nat) (h : CH) (x3 : Int64) (x5 : Nat) (x6 : Nat) (x7 : Int64) (x9 : Nat) (y0 : Nat) : Option (Nat × CH) := bd (m_X1_init f h y0 x7) fun h1 =>
    m_X0_meetOf_54 f h1 x3 x5 x6 x7 x9 y0
theorem mo_X0_meetOf_48 {f : Nat} : ∀ (h : CH) (x3 : Int64) (x5 : Nat) (x6 : Nat) (x7 : Int64) (x9 : Nat) (y0 : Nat) (r : (Nat × CH)), m_X0_meetOf_48 f h x3 x5 x6 x7 x9 y0 = some r → le2 h r.2 := by
  intro h x3 x5 x6 x7 x9 y0 r hm
  rw [m_X0_meetOf_48] at hm
  obtain ⟨h1, eh1, hm⟩ := bdE hm
  have lh1 := mo_X1_init eh1
  exact (lh1.tr (mo_X0_meetOf_54  h1 x3 x5 x6 x7 x9 y0 _ hm))
def m_X0_meetOf_43 (f : Nat) (h : CH) (x3 : Int64) (x5 : Nat) (x6 : Nat) (x7 : Int64) (y0 : Nat) : Option (Nat × CH) := nmv (cn h 3 (.inl (2, [.null, .null, .long 0]))) fun h1 =>
    nmv (h.1 : Nat) fun a2 =>
    m_X0_meetOf_48 f h1 x3 x5 x6 x7 y0 a2
theorem mo_X0_meetOf_43 {f : Nat} : ∀ (h : CH) (x3 : Int64) (x5 : Nat) (x6 : Nat) (x7 : Int64) (y0 : Nat) (r : (Nat × CH)), m_X0_meetOf_43 f h x3 x5 x6 x7 y0 = some r → le2 h r.2 := by
  intro h x3 x5 x6 x7 y0 r hm
  rw [m_X0_meetOf_43] at hm
  obtain ⟨h1, eh1, hm⟩ := nmE hm
  have lh1 := cn_le eh1
  obtain ⟨a2, ea2, hm⟩ := nmE hm
  exact (lh1.tr (mo_X0_meetOf_48  h1 x3 x5 x6 x7 y0 a2 _ hm))
def m_X0_meetOf_40 (f : Nat) (h : CH) (x3 : Int64) (x5 : Nat) (x6 : Nat) (x7 : Int64) (y0 : Nat) (y1 : Nat) : Option (Nat × CH) := gd (isC h y0 3) <|
    bd2 (m_X2_times f h y0 y1) fun a3 h2 =>
    m_X0_meetOf_43 f h2 x3 x5 x6 x7 a3
theorem mo_X0_meetOf_40 {f : Nat} : ∀ (h : CH) (x3 : Int64) (x5 : Nat) (x6 : Nat) (x7 : Int64) (y0 : Nat) (y1 : Nat) (r : (Nat × CH)), m_X0_meetOf_40 f h x3 x5 x6 x7 y0 y1 = some r → le2 h r.2 := by
  intro h x3 x5 x6 x7 y0 y1 r hm
  rw [m_X0_meetOf_40] at hm
  obtain ⟨g1, hm⟩ := gdE hm
  obtain ⟨a3, h2, ea3, hm⟩ := bd2E hm
  have lh2 := mo_X2_times ea3
  exact (lh2.tr (mo_X0_meetOf_43  h2 x3 x5 x6 x7 a3 _ hm))
def m_X0_meetOf_28 (f : Nat) (h : CH) (x3 : Int64) (x5 : Nat) (x6 : Nat) (y0 : Int64) : Option (Nat × CH) := bd (m_J9_abs f y0) fun r1 =>
    gd (isC h x6 3) <|
    bd2 (m_X2_adjoint f h x6) fun a4 h3 =>
    m_X0_meetOf_40 f h3 x3 x5 x6 r1 x5 a4
theorem mo_X0_meetOf_28 {f : Nat} : ∀ (h : CH) (x3 : Int64) (x5 : Nat) (x6 : Nat) (y0 : Int64) (r : (Nat × CH)), m_X0_meetOf_28 f h x3 x5 x6 y0 = some r → le2 h r.2 := by
  intro h x3 x5 x6 y0 r hm
  rw [m_X0_meetOf_28] at hm
  obtain ⟨r1, er1, hm⟩ := bdE hm
  obtain ⟨g2, hm⟩ := gdE hm
  obtain ⟨a4, h3, ea4, hm⟩ := bd2E hm
  have lh3 := mo_X2_adjoint ea4
  exact (lh3.tr (mo_X0_meetOf_40  h3 x3 x5 x6 r1 x5 a4 _ hm))
def m_X0_meetOf_21 (f : Nat) (h : CH) (x3 : Int64) (x5 : Nat) (y0 : Nat) : Option (Nat × CH) := gd (isC h y0 3) <|
    bd2 (m_X2_determinant f h y0) fun r3 h2 =>
    m_X0_meetOf_28 f h2 x3 x5 y0 r3
theorem mo_X0_meetOf_21 {f : Nat} : ∀ (h : CH) (x3 : Int64) (x5 : Nat) (y0 : Nat) (r : (Nat × CH)), m_X0_meetOf_21 f h x3 x5 y0 = some r → le2 h r.2 := by
  intro h x3 x5 y0 r hm
  rw [m_X0_meetOf_21] at hm
  obtain ⟨g1, hm⟩ := gdE hm
  obtain ⟨r3, h2, er3, hm⟩ := bd2E hm
  have lh2 := mo_X2_determinant er3
  exact (lh2.tr (mo_X0_meetOf_28  h2 x3 x5 y0 r3 _ hm))
def m_X0_meetOf_13 (f : Nat) (h : CH) (x0 : Nat) (x2 : Int32) (x3 : Int64) (y0 : Nat) : Option (Nat × CH) := gd (isC h x0 1) <|
    bd2 (m_X0_rowsBy f h x0 x2 x3) fun a3 h2 =>
    m_X0_meetOf_21 f h2 x3 y0 a3
theorem mo_X0_meetOf_13 {f : Nat} : ∀ (h : CH) (x0 : Nat) (x2 : Int32) (x3 : Int64) (y0 : Nat) (r : (Nat × CH)), m_X0_meetOf_13 f h x0 x2 x3 y0 = some r → le2 h r.2 := by
  intro h x0 x2 x3 y0 r hm
  rw [m_X0_meetOf_13] at hm
  obtain ⟨g1, hm⟩ := gdE hm
  obtain ⟨a3, h2, ea3, hm⟩ := bd2E hm
  have lh2 := mo_X0_rowsBy ea3
  exact (lh2.tr (mo_X0_meetOf_21  h2 x3 y0 a3 _ hm))
def m_X0_meetOf_6 (f : Nat) (h : CH) (x0 : Nat) (x1 : Int32) (x2 : Int32) (y0 : Int64) : Option (Nat × CH) := gd (isC h x0 1) <|
    bd2 (m_X0_rowsBy f h x0 x1 y0) fun a3 h2 =>
    m_X0_meetOf_13 f h2 x0 x2 y0 a3
theorem mo_X0_meetOf_6 {f : Nat} : ∀ (h : CH) (x0 : Nat) (x1 : Int32) (x2 : Int32) (y0 : Int64) (r : (Nat × CH)), m_X0_meetOf_6 f h x0 x1 x2 y0 = some r → le2 h r.2 := by
  intro h x0 x1 x2 y0 r hm
  rw [m_X0_meetOf_6] at hm
  obtain ⟨g1, hm⟩ := gdE hm
  obtain ⟨a3, h2, ea3, hm⟩ := bd2E hm
  have lh2 := mo_X0_rowsBy ea3
  exact (lh2.tr (mo_X0_meetOf_13  h2 x0 x2 y0 a3 _ hm))
def m_X0_meetOf (f : Nat) (u : CH) (x0 : Nat) (x1 : Int32) (x2 : Int32) : Option (Nat × CH) := gd (isC u x0 1) <|
    bd2 (m_X0_overBoth f u x0 x1 x2) fun r3 h2 =>
    m_X0_meetOf_6 f h2 x0 x1 x2 r3
theorem mo_X0_meetOf {f : Nat} {u : CH} {x0 : Nat} {x1 : Int32} {x2 : Int32} {r0 : Nat} {u9 : CH} (hm : m_X0_meetOf f u x0 x1 x2 = some (r0, u9)) : le2 u u9 := by
  rw [m_X0_meetOf] at hm
  obtain ⟨g1, hm⟩ := gdE hm
  obtain ⟨r3, h2, er3, hm⟩ := bd2E hm
  have lh2 := mo_X0_overBoth er3
  exact (lh2.tr (mo_X0_meetOf_6  h2 x0 x1 x2 r3 _ hm))
abbrev rm_X0_meetOf (mc ms : Nat) : Room := { frames := 106, cells := mc, slots := ms, locals := 4150 }
theorem cw_X0_meetOf {R : Room} {s : State} {args : Array Value} {own : String} {idx mc ms : Nat} (hts : ∀ w ∈ lw_all, w.before args s = true) (hl : Cond.methodLink own idx yX0_meetOf ∈ lw_all) (hR : 106 + 1 ≤ R.frames ∧ 8 + (14 + 11) + 4150 ≤ R.locals) : CallW R s args own RX0 idx yX0_meetOf cX0_meetOf 14 (Option.some (Jvm.ClassFile.FieldType.object "CoincideBench$Both")) (ws_ yX0_meetOf cX0_meetOf 14 (Option.some (Jvm.ClassFile.FieldType.object "CoincideBench$Both"))) (rm_X0_meetOf mc ms) mc ms 2 := cwV 2 hts (lw_V hl q1106 qs25 q119 q1107) rfl rfl rfl (by decide +kernel) hR
set_option maxHeartbeats 4000000 in
set_option maxRecDepth 100000 in
theorem w_X0_meetOf (l : Launch) {D : va_G} {dA : Nat → ClassId} {A : Nat → Prop} {f : Nat} {u u9 : CH} {r0 : Nat} {x0 : Nat} {x1 : Int32} {x2 : Int32} (hm : m_X0_meetOf f u x0 x1 x2 = some (r0, u9)) : Met l yX0_meetOf (ws_ yX0_meetOf cX0_meetOf 14 (Option.some (Jvm.ClassFile.FieldType.object "CoincideBench$Both"))) (rm_X0_meetOf (u9.1 - u.1) (u9.2.1 - u.2.1)) (va_Pc [.ref x0, .int x1, .int x2] (CPre D dA A u)) (va_Qr (fun u => u = u9) (fun u r t => r = r0 ∧ CPost D dA A u t) A) (u9.1 - u.1) (u9.2.1 - u.2.1) A := by
  refine Met.ofW (cc := cX0_meetOf) (maxL := 14) (ret := (Option.some (Jvm.ClassFile.FieldType.object "CoincideBench$Both"))) (by decide) rfl ?_
  intro p e s m args below meth c s₁ B hml hv
  have hx := B.exec
  have hb := B.bytes
  have hr := B.returns
  have hts := atoms_spec (ws := (ws_ yX0_meetOf cX0_meetOf 14 (Option.some (Jvm.ClassFile.FieldType.object "CoincideBench$Both")))) B.pre
  have hts : ∀ w ∈ lw_all, w.before args s = true := fun w h => hts w (List.mem_cons_of_mem _ h)
  have hown : s.vm.findClass RX0 = some m.cls := findClass_of_methodNamed B.named
  have hlocks := B.notSynchronized
  obtain ⟨hav, hv⟩ := hv
  have C : CX p s m args c cX0_meetOf RX0 D dA := ⟨hx, hb, hown, hts, hv.2⟩
  have hw : CW D dA A s u s.heap [] := hv.1
  generalize hQ : MQ below (va_Qr (fun u => u = u9) (fun u r t => r = r0 ∧ CPost D dA A u t) A) args s (u9.1 - u.1) (u9.2.1 - u.2.1) A = QQ
  have hent := lg_entry_eq m [.ref x0, .int x1, .int x2] 14
  rw [← hav] at hent
  rw [hent]
  have hl := lv_entry ([.ref x0, .int x1, .int x2]) (n := 14) (Nat.le_of_ble_eq_true rfl)
  generalize (lg_sl ([.ref x0, .int x1, .int x2]) ++ List.replicate (14 - (lg_sl ([.ref x0, .int x1, .int x2])).length) Slot.unset).toArray = ls at hl ⊢
  have hl : lv_has ls 14 [(0, .ref x0), (1, .int x1), (2, .int x2)] := hl
  obtain ⟨cc, ecc⟩ : ∃ z : Nat, z = 0 := ⟨0, rfl⟩
  obtain ⟨ss, ess⟩ : ∃ z : Nat, z = 0 := ⟨0, rfl⟩
  have hcc : cc + u.1 = u.1 := by omega
  have hss : ss + u.2.1 = u.2.1 := by omega
  suffices hgo : W p l e (rm_X0_meetOf (u9.1 - u.1) (u9.2.1 - u.2.1)) s m args below meth c s.heap [] cc ss QQ (F0 m 0 ls []) by rw [ecc, ess] at hgo; exact hgo
  have ⟨pu, qu, _, _⟩ := mo_X0_meetOf hm
  have hB226 : ∀ (h : CH) (y0 : Nat) (cc ss : Nat) (H : Heap) (locs : List Loc) (ls : Array Slot), m_X0_meetOf_226 f h y0 = some (r0, u9) → CW D dA A s h H locs → cc + u.1 = h.1 → ss + u.2.1 = h.2.1 → lv_has ls 14 [] → W p l e (rm_X0_meetOf (u9.1 - u.1) (u9.2.1 - u.2.1)) s m args below meth c H locs cc ss QQ (F0 m 226 ls [.ref y0]) := by
    intro h y0 cc ss H locs ls hm hw hcc hss hl
    have hmo := mo_X0_meetOf_226  h y0 _ hm
    have sb_ : h.1 ≤ u9.1 := hmo.1
    have tb_ : h.2.1 ≤ u9.2.1 := hmo.2.1
    rw [m_X0_meetOf_226] at hm
    obtain ⟨er, eh⟩ := retE hm
    have ec : cc = u9.1 - u.1 := by rw [← eh]; omega
    have es : ss = u9.2.1 - u.2.1 := by rw [← eh]; omega
    rw [ec, es, ← hQ]
    exact W.aret (v := .ref y0) hx hb hr (Or.inl ⟨_, rfl⟩) (Or.inr ⟨_, rfl⟩) (fun t ht hW => ⟨⟨h, y0, rfl, eh, er, ⟨by rw [ht]; exact hw.1, by rw [ht]; exact hw.2.1⟩⟩, hw.2.2.1.F ht⟩) hw.2.2.1.2.2 dX0_meetOf_226
  have hB216 : ∀ (h : CH) (x3 : Int64) (x13 : Nat) (y0 : Nat) (cc ss : Nat) (H : Heap) (locs : List Loc) (ls : Array Slot), m_X0_meetOf_216 f h x3 x13 y0 = some (r0, u9) → CW D dA A s h H locs → cc + u.1 = h.1 → ss + u.2.1 = h.2.1 → lv_has ls 14 [(3, .long x3), (13, .ref x13)] → W p l e (rm_X0_meetOf (u9.1 - u.1) (u9.2.1 - u.2.1)) s m args below meth c H locs cc ss QQ (F0 m 216 ls [.ref y0]) := by
    intro h x3 x13 y0 cc ss H locs ls hm hw hcc hss hl
    have hmo := mo_X0_meetOf_216  h x3 x13 y0 _ hm
    have sb_ : h.1 ≤ u9.1 := hmo.1
    have tb_ : h.2.1 ≤ u9.2.1 := hmo.2.1
    rw [m_X0_meetOf_216] at hm
    refine lv_dup hx hb dX0_meetOf_216 rfl ?_
    refine lv_aload hx hb dX0_meetOf_217 (lv_at hl 1 rfl) ?_
    obtain ⟨a1, ea1, hm⟩ := bdE hm
    refine cg_getN C hw (by decide) (oR_E ea1) rfl in_X1 (by decide) (hw.2.2.2.2.1 _ (List.mem_of_getElem? (i := 13) rfl)) dX0_meetOf_219 ?_
    refine lv_lload_n hx hb dX0_meetOf_222 rfl (lv_at hl 0 rfl) ?_
    obtain ⟨h2, eh2, hm⟩ := bdE hm
    have lh2 := mo_X10_init eh2
    have ph2 : h.1 ≤ h2.1 := lh2.1
    have qh2 : h.2.1 ≤ h2.2.1 := lh2.2.1
    have hmo := mo_X0_meetOf_226   h2 y0 _ hm
    have sh2 : h2.1 ≤ u9.1 := hmo.1
    have th2 : h2.2.1 ≤ u9.2.1 := hmo.2.1
    refine cg_callv hw lh2 (va_runI (As := [.ref a1, .long x3]) (rest := [.ref y0]) ⟨hx, hb, hml, hown, hts⟩ (w_X10_init l eh2) (cw_X10_init hts q1151 ⟨Nat.le_of_ble_eq_true rfl, Nat.le_of_ble_eq_true rfl⟩) (cg_preS C hw _) rfl rfl hl.1 rfl (lv_room (Nat.le_of_ble_eq_true rfl)) dX0_meetOf_223 ⟨show cc + (h2.1 - h.1) ≤ u9.1 - u.1 by omega, show ss + (h2.2.1 - h.2.1) ≤ u9.2.1 - u.2.1 by omega⟩) (fun H locs hw => ?_)
    exact hB226 h2 y0 _ _ _ _ _ hm hw (by omega) (by omega) (lv_sub hl [] rfl)
  have hB213 : ∀ (h : CH) (x3 : Int64) (x13 : Nat) (cc ss : Nat) (H : Heap) (locs : List Loc) (ls : Array Slot), m_X0_meetOf_213 f h x3 x13 = some (r0, u9) → CW D dA A s h H locs → cc + u.1 = h.1 → ss + u.2.1 = h.2.1 → lv_has ls 14 [(3, .long x3), (13, .ref x13)] → W p l e (rm_X0_meetOf (u9.1 - u.1) (u9.2.1 - u.2.1)) s m args below meth c H locs cc ss QQ (F0 m 213 ls []) := by
    intro h x3 x13 cc ss H locs ls hm hw hcc hss hl
    have hmo := mo_X0_meetOf_213  h x3 x13 _ hm
    have sb_ : h.1 ≤ u9.1 := hmo.1
    have tb_ : h.2.1 ≤ u9.2.1 := hmo.2.1
    rw [m_X0_meetOf_213] at hm
    obtain ⟨h1, eh1, hm⟩ := nmE hm
    obtain ⟨_, _, hmq⟩ := nmE hm
    have hmo := mo_X0_meetOf_216   h1 x3 x13 _ _ hmq
    have sh1 : h1.1 ≤ u9.1 := hmo.1
    have th1 : h1.2.1 ≤ u9.2.1 := hmo.2.1
    have zh1 := cn_sz eh1
    refine cg_new (C0 := C) hw (ci := 10) (fs := [.null, .long 0]) rfl in_X10 tyX10 tyX10_ok q1149 q1150 q147 (fun j hj => by rcases (show j = 0 ∨ j = 1 by omega) with rfl | rfl <;> rfl) (show cc + 1 ≤ u9.1 - u.1 by omega) (show ss + 2 ≤ u9.2.1 - u.2.1 by omega) dX0_meetOf_213 (fun H hw => ?_)
    rw [← eh1] at hw
    refine lv_topr (fun a2 ea2 => ?_)
    have hm := nmK hm ea2
    exact hB216 h1 x3 x13 a2 _ _ _ _ _ hm hw (by omega) (by omega) (lv_sub hl [0, 1] rfl)
  have hB210 : ∀ (h : CH) (x3 : Int64) (x13 : Nat) (y0 : Nat) (y1 : Nat) (cc ss : Nat) (H : Heap) (locs : List Loc) (ls : Array Slot), m_X0_meetOf_210 f h x3 x13 y0 y1 = some (r0, u9) → CW D dA A s h H locs → cc + u.1 = h.1 → ss + u.2.1 = h.2.1 → lv_has ls 14 [(3, .long x3), (13, .ref x13)] → W p l e (rm_X0_meetOf (u9.1 - u.1) (u9.2.1 - u.2.1)) s m args below meth c H locs cc ss QQ (F0 m 210 ls [.ref y1, .ref y0]) := by
    intro h x3 x13 y0 y1 cc ss H locs ls hm hw hcc hss hl
    have hmo := mo_X0_meetOf_210  h x3 x13 y0 y1 _ hm
    have sb_ : h.1 ≤ u9.1 := hmo.1
    have tb_ : h.2.1 ≤ u9.2.1 := hmo.2.1
    rw [m_X0_meetOf_210] at hm
    obtain ⟨g1, hm⟩ := gdE hm
    obtain ⟨h2, eh2, hm⟩ := bdE hm
    have lh2 := mo_X1_takesAll eh2
    have ph2 : h.1 ≤ h2.1 := lh2.1
    have qh2 : h.2.1 ≤ h2.2.1 := lh2.2.1
    have hmo := mo_X0_meetOf_213   h2 x3 x13 _ hm
    have sh2 : h2.1 ≤ u9.1 := hmo.1
    have th2 : h2.2.1 ≤ u9.2.1 := hmo.2.1
    refine cg_callv hw lh2 (va_runV (As := [.ref y1]) (rest := []) ⟨hx, hb, hml, hown, hts⟩ (w_X1_takesAll l eh2) (cw_X1_takesAll hts q1144 ⟨Nat.le_of_ble_eq_true rfl, Nat.le_of_ble_eq_true rfl⟩) (cg_preV C hw g1 rfl _) rfl rfl hl.1 rfl (lv_room (Nat.le_of_ble_eq_true rfl)) dX0_meetOf_210 ⟨show cc + (h2.1 - h.1) ≤ u9.1 - u.1 by omega, show ss + (h2.2.1 - h.2.1) ≤ u9.2.1 - u.2.1 by omega⟩) (fun H locs hw => ?_)
    exact hB213 h2 x3 x13 _ _ _ _ _ hm hw (by omega) (by omega) (lv_sub hl [0, 1] rfl)
  have hB196 : ∀ (h : CH) (x3 : Int64) (x5 : Nat) (x12 : Nat) (y0 : Nat) (cc ss : Nat) (H : Heap) (locs : List Loc) (ls : Array Slot), m_X0_meetOf_196 f h x3 x5 x12 y0 = some (r0, u9) → CW D dA A s h H locs → cc + u.1 = h.1 → ss + u.2.1 = h.2.1 → lv_has ls 14 [(3, .long x3), (5, .ref x5), (12, .ref x12)] → W p l e (rm_X0_meetOf (u9.1 - u.1) (u9.2.1 - u.2.1)) s m args below meth c H locs cc ss QQ (F0 m 196 ls [.ref y0]) := by
    intro h x3 x5 x12 y0 cc ss H locs ls hm hw hcc hss hl
    have hmo := mo_X0_meetOf_196  h x3 x5 x12 y0 _ hm
    have sb_ : h.1 ≤ u9.1 := hmo.1
    have tb_ : h.2.1 ≤ u9.2.1 := hmo.2.1
    rw [m_X0_meetOf_196] at hm
    refine lv_astore (lv' := [(13, .ref y0), (3, .long x3), (5, .ref x5), (12, .ref x12)]) hx hb dX0_meetOf_196 hl (by decide) rfl (fun ls hl => ?_)
    refine lv_aload hx hb dX0_meetOf_198 (lv_at hl 0 rfl) ?_
    refine lv_aload hx hb dX0_meetOf_200 (lv_at hl 3 rfl) ?_
    obtain ⟨a1, ea1, hm⟩ := bdE hm
    refine cg_getN C hw (by decide) (oR_E ea1) rfl in_X1 (by decide) (hw.2.2.2.2.1 _ (List.mem_of_getElem? (i := 13) rfl)) dX0_meetOf_202 ?_
    refine lv_aload hx hb dX0_meetOf_205 (lv_at hl 2 rfl) ?_
    obtain ⟨g2, hm⟩ := gdE hm
    obtain ⟨a4, h3, ea4, hm⟩ := bd2E hm
    have lh3 := mo_X2_times ea4
    have ph3 : h.1 ≤ h3.1 := lh3.1
    have qh3 : h.2.1 ≤ h3.2.1 := lh3.2.1
    have hmo := mo_X0_meetOf_210   h3 x3 y0 y0 a4 _ hm
    have sh3 : h3.1 ≤ u9.1 := hmo.1
    have th3 : h3.2.1 ≤ u9.2.1 := hmo.2.1
    refine cg_callr hw lh3 (va_runV (As := [.ref x5]) (rest := [.ref y0]) ⟨hx, hb, hml, hown, hts⟩ (w_X2_times l ea4) (cw_X2_times hts q1123 ⟨Nat.le_of_ble_eq_true rfl, Nat.le_of_ble_eq_true rfl⟩) (cg_preV C hw g2 rfl _) rfl rfl hl.1 rfl (lv_room (Nat.le_of_ble_eq_true rfl)) dX0_meetOf_207 ⟨show cc + (h3.1 - h.1) ≤ u9.1 - u.1 by omega, show ss + (h3.2.1 - h.2.1) ≤ u9.2.1 - u.2.1 by omega⟩) (fun H locs hw => ?_)
    exact hB210 h3 x3 y0 y0 a4 _ _ _ _ _ hm hw (by omega) (by omega) (lv_sub hl [1, 0] rfl)
  have hB190 : ∀ (h : CH) (x3 : Int64) (x5 : Nat) (x12 : Nat) (y0 : Nat) (y1 : Nat) (y2 : Int64) (y3 : Int64) (cc ss : Nat) (H : Heap) (locs : List Loc) (ls : Array Slot), m_X0_meetOf_190 f h x3 x5 x12 y0 y1 y2 y3 = some (r0, u9) → CW D dA A s h H locs → cc + u.1 = h.1 → ss + u.2.1 = h.2.1 → lv_has ls 14 [(3, .long x3), (5, .ref x5), (12, .ref x12)] → W p l e (rm_X0_meetOf (u9.1 - u.1) (u9.2.1 - u.2.1)) s m args below meth c H locs cc ss QQ (F0 m 190 ls [.long y3, .long y2, .ref y1, .ref y0]) := by
    intro h x3 x5 x12 y0 y1 y2 y3 cc ss H locs ls hm hw hcc hss hl
    have hmo := mo_X0_meetOf_190  h x3 x5 x12 y0 y1 y2 y3 _ hm
    have sb_ : h.1 ≤ u9.1 := hmo.1
    have tb_ : h.2.1 ≤ u9.2.1 := hmo.2.1
    rw [m_X0_meetOf_190] at hm
    obtain ⟨r1, er1, hm⟩ := bdE hm
    refine scl (va_runS (As := [.long y2, .long y3]) (rest := [.ref y1, .ref y0]) ⟨hx, hb, hml, hown, hts⟩ (w_X0_multiple l er1) (cw_X0_multiple hts q1112 ⟨Nat.le_of_ble_eq_true rfl, Nat.le_of_ble_eq_true rfl⟩) (pre_s _) rfl rfl hl.1 rfl (lv_room (Nat.le_of_ble_eq_true rfl)) dX0_meetOf_190 ⟨show cc + 0 ≤ u9.1 - u.1 by omega, show ss + 0 ≤ u9.2.1 - u.2.1 by omega⟩) ?_
    obtain ⟨h2, eh2, hm⟩ := bdE hm
    have lh2 := mo_X1_init eh2
    have ph2 : h.1 ≤ h2.1 := lh2.1
    have qh2 : h.2.1 ≤ h2.2.1 := lh2.2.1
    have hmo := mo_X0_meetOf_196   h2 x3 x5 x12 y0 _ hm
    have sh2 : h2.1 ≤ u9.1 := hmo.1
    have th2 : h2.2.1 ≤ u9.2.1 := hmo.2.1
    refine cg_callv hw lh2 (va_runI (As := [.long r1]) (rest := [.ref y0]) ⟨hx, hb, hml, hown, hts⟩ (w_X1_init l eh2) (cw_X1_init hts q193 ⟨Nat.le_of_ble_eq_true rfl, Nat.le_of_ble_eq_true rfl⟩) (cg_preS C hw _) rfl rfl hl.1 rfl (lv_room (Nat.le_of_ble_eq_true rfl)) dX0_meetOf_193 ⟨show cc + (h2.1 - h.1) ≤ u9.1 - u.1 by omega, show ss + (h2.2.1 - h.2.1) ≤ u9.2.1 - u.2.1 by omega⟩) (fun H locs hw => ?_)
    exact hB196 h2 x3 x5 x12 y0 _ _ _ _ _ hm hw (by omega) (by omega) (lv_sub hl [0, 1, 2] rfl)
  have hB184 : ∀ (h : CH) (x3 : Int64) (x5 : Nat) (x6 : Nat) (x12 : Nat) (y0 : Nat) (y1 : Nat) (y2 : Int64) (cc ss : Nat) (H : Heap) (locs : List Loc) (ls : Array Slot), m_X0_meetOf_184 f h x3 x5 x6 x12 y0 y1 y2 = some (r0, u9) → CW D dA A s h H locs → cc + u.1 = h.1 → ss + u.2.1 = h.2.1 → lv_has ls 14 [(3, .long x3), (5, .ref x5), (6, .ref x6), (12, .ref x12)] → W p l e (rm_X0_meetOf (u9.1 - u.1) (u9.2.1 - u.2.1)) s m args below meth c H locs cc ss QQ (F0 m 184 ls [.long y2, .ref y1, .ref y0]) := by
    intro h x3 x5 x6 x12 y0 y1 y2 cc ss H locs ls hm hw hcc hss hl
    have hmo := mo_X0_meetOf_184  h x3 x5 x6 x12 y0 y1 y2 _ hm
    have sb_ : h.1 ≤ u9.1 := hmo.1
    have tb_ : h.2.1 ≤ u9.2.1 := hmo.2.1
    rw [m_X0_meetOf_184] at hm
    refine lv_aload hx hb dX0_meetOf_184 (lv_at hl 2 rfl) ?_
    refine lv_iconst (v := 2) hx hb dX0_meetOf_186 (by decide) ?_
    obtain ⟨g1, hm⟩ := gdE hm
    obtain ⟨r3, h2, er3, hm⟩ := bd2E hm
    have lh2 := mo_X2_smith er3
    have ph2 : h.1 ≤ h2.1 := lh2.1
    have qh2 : h.2.1 ≤ h2.2.1 := lh2.2.1
    have hmo := mo_X0_meetOf_190   h2 x3 x5 x12 y0 y1 y2 r3 _ hm
    have sh2 : h2.1 ≤ u9.1 := hmo.1
    have th2 : h2.2.1 ≤ u9.2.1 := hmo.2.1
    refine cg_calll hw lh2 (va_runV (As := [.int (2 : Int32)]) (rest := [.long y2, .ref y1, .ref y0]) ⟨hx, hb, hml, hown, hts⟩ (w_X2_smith l er3) (cw_X2_smith hts q1068 ⟨Nat.le_of_ble_eq_true rfl, Nat.le_of_ble_eq_true rfl⟩) (cg_preV C hw g1 rfl _) rfl rfl hl.1 rfl (lv_room (Nat.le_of_ble_eq_true rfl)) dX0_meetOf_187 ⟨show cc + (h2.1 - h.1) ≤ u9.1 - u.1 by omega, show ss + (h2.2.1 - h.2.1) ≤ u9.2.1 - u.2.1 by omega⟩) (fun H locs hw => ?_)
    exact hB190 h2 x3 x5 x12 y0 y1 y2 r3 _ _ _ _ _ hm hw (by omega) (by omega) (lv_sub hl [0, 1, 3] rfl)
  have hB177 : ∀ (h : CH) (x3 : Int64) (x5 : Nat) (x6 : Nat) (x12 : Nat) (y0 : Nat) (cc ss : Nat) (H : Heap) (locs : List Loc) (ls : Array Slot), m_X0_meetOf_177 f h x3 x5 x6 x12 y0 = some (r0, u9) → CW D dA A s h H locs → cc + u.1 = h.1 → ss + u.2.1 = h.2.1 → lv_has ls 14 [(3, .long x3), (5, .ref x5), (6, .ref x6), (12, .ref x12)] → W p l e (rm_X0_meetOf (u9.1 - u.1) (u9.2.1 - u.2.1)) s m args below meth c H locs cc ss QQ (F0 m 177 ls [.ref y0]) := by
    intro h x3 x5 x6 x12 y0 cc ss H locs ls hm hw hcc hss hl
    have hmo := mo_X0_meetOf_177  h x3 x5 x6 x12 y0 _ hm
    have sb_ : h.1 ≤ u9.1 := hmo.1
    have tb_ : h.2.1 ≤ u9.2.1 := hmo.2.1
    rw [m_X0_meetOf_177] at hm
    refine lv_dup hx hb dX0_meetOf_177 rfl ?_
    refine lv_aload hx hb dX0_meetOf_178 (lv_at hl 1 rfl) ?_
    refine lv_iconst (v := 2) hx hb dX0_meetOf_180 (by decide) ?_
    obtain ⟨g1, hm⟩ := gdE hm
    obtain ⟨r3, h2, er3, hm⟩ := bd2E hm
    have lh2 := mo_X2_smith er3
    have ph2 : h.1 ≤ h2.1 := lh2.1
    have qh2 : h.2.1 ≤ h2.2.1 := lh2.2.1
    have hmo := mo_X0_meetOf_184   h2 x3 x5 x6 x12 y0 y0 r3 _ hm
    have sh2 : h2.1 ≤ u9.1 := hmo.1
    have th2 : h2.2.1 ≤ u9.2.1 := hmo.2.1
    refine cg_calll hw lh2 (va_runV (As := [.int (2 : Int32)]) (rest := [.ref y0, .ref y0]) ⟨hx, hb, hml, hown, hts⟩ (w_X2_smith l er3) (cw_X2_smith hts q1068 ⟨Nat.le_of_ble_eq_true rfl, Nat.le_of_ble_eq_true rfl⟩) (cg_preV C hw g1 rfl _) rfl rfl hl.1 rfl (lv_room (Nat.le_of_ble_eq_true rfl)) dX0_meetOf_181 ⟨show cc + (h2.1 - h.1) ≤ u9.1 - u.1 by omega, show ss + (h2.2.1 - h.2.1) ≤ u9.2.1 - u.2.1 by omega⟩) (fun H locs hw => ?_)
    exact hB184 h2 x3 x5 x6 x12 y0 y0 r3 _ _ _ _ _ hm hw (by omega) (by omega) (lv_sub hl [0, 1, 2, 3] rfl)
  have hB174 : ∀ (h : CH) (x3 : Int64) (x5 : Nat) (x6 : Nat) (x12 : Nat) (cc ss : Nat) (H : Heap) (locs : List Loc) (ls : Array Slot), m_X0_meetOf_174 f h x3 x5 x6 x12 = some (r0, u9) → CW D dA A s h H locs → cc + u.1 = h.1 → ss + u.2.1 = h.2.1 → lv_has ls 14 [(3, .long x3), (5, .ref x5), (6, .ref x6), (12, .ref x12)] → W p l e (rm_X0_meetOf (u9.1 - u.1) (u9.2.1 - u.2.1)) s m args below meth c H locs cc ss QQ (F0 m 174 ls []) := by
    intro h x3 x5 x6 x12 cc ss H locs ls hm hw hcc hss hl
    have hmo := mo_X0_meetOf_174  h x3 x5 x6 x12 _ hm
    have sb_ : h.1 ≤ u9.1 := hmo.1
    have tb_ : h.2.1 ≤ u9.2.1 := hmo.2.1
    rw [m_X0_meetOf_174] at hm
    obtain ⟨h1, eh1, hm⟩ := nmE hm
    obtain ⟨_, _, hmq⟩ := nmE hm
    have hmo := mo_X0_meetOf_177   h1 x3 x5 x6 x12 _ _ hmq
    have sh1 : h1.1 ≤ u9.1 := hmo.1
    have th1 : h1.2.1 ≤ u9.2.1 := hmo.2.1
    have zh1 := cn_sz eh1
    refine cg_new (C0 := C) hw (ci := 2) (fs := [.null, .null, .long 0]) rfl in_X1 tyX1 tyX1_ok q191 q192 q123 (fun j hj => by rcases (show j = 0 ∨ j = 1 ∨ j = 2 by omega) with rfl | rfl | rfl <;> rfl) (show cc + 1 ≤ u9.1 - u.1 by omega) (show ss + 3 ≤ u9.2.1 - u.2.1 by omega) dX0_meetOf_174 (fun H hw => ?_)
    rw [← eh1] at hw
    refine lv_topr (fun a2 ea2 => ?_)
    have hm := nmK hm ea2
    exact hB177 h1 x3 x5 x6 x12 a2 _ _ _ _ _ hm hw (by omega) (by omega) (lv_sub hl [0, 1, 2, 3] rfl)
  have hB127 : ∀ (n127 : Nat), ∀ (h : CH) (x3 : Int64) (x5 : Nat) (x6 : Nat) (x11 : Nat) (x12 : Nat) (x13 : Int32) (cc ss : Nat) (H : Heap) (locs : List Loc) (ls : Array Slot), m_X0_meetOf_127 f n127 h x3 x5 x6 x11 x12 x13 = some (r0, u9) → CW D dA A s h H locs → cc + u.1 = h.1 → ss + u.2.1 = h.2.1 → lv_has ls 14 [(3, .long x3), (5, .ref x5), (6, .ref x6), (11, .ref x11), (12, .ref x12), (13, .int x13)] → W p l e (rm_X0_meetOf (u9.1 - u.1) (u9.2.1 - u.2.1)) s m args below meth c H locs cc ss QQ (F0 m 127 ls []) := by
    intro n127
    induction n127 with
    | zero => intro h x3 x5 x6 x11 x12 x13 cc ss H locs ls hm hw hcc hss hl; rw [m_X0_meetOf_127] at hm; exact noE hm
    | succ n127 ih127 =>
      have hB168 : ∀ (h : CH) (x3 : Int64) (x5 : Nat) (x6 : Nat) (x11 : Nat) (x12 : Nat) (x13 : Int32) (cc ss : Nat) (H : Heap) (locs : List Loc) (ls : Array Slot), m_X0_meetOf_168 f (m_X0_meetOf_127 f n127) h x3 x5 x6 x11 x12 x13 = some (r0, u9) → CW D dA A s h H locs → cc + u.1 = h.1 → ss + u.2.1 = h.2.1 → lv_has ls 14 [(3, .long x3), (5, .ref x5), (6, .ref x6), (11, .ref x11), (12, .ref x12), (13, .int x13)] → W p l e (rm_X0_meetOf (u9.1 - u.1) (u9.2.1 - u.2.1)) s m args below meth c H locs cc ss QQ (F0 m 168 ls []) := by
        intro h x3 x5 x6 x11 x12 x13 cc ss H locs ls hm hw hcc hss hl
        have hmo := mo_X0_meetOf_168 (mo_X0_meetOf_127 n127) h x3 x5 x6 x11 x12 x13 _ hm
        have sb_ : h.1 ≤ u9.1 := hmo.1
        have tb_ : h.2.1 ≤ u9.2.1 := hmo.2.1
        rw [m_X0_meetOf_168] at hm
        obtain ⟨v1, ev1, hm⟩ := nmE hm
        refine lv_iinc (v := v1) (lv' := [(13, .int v1), (3, .long x3), (5, .ref x5), (6, .ref x6), (11, .ref x11), (12, .ref x12)]) hx hb dX0_meetOf_168 hl (k := 5) rfl (by rw [ev1]; rfl) (by decide) rfl (fun ls hl => ?_)
        refine lv_goto (tgt := 127) hx hb dX0_meetOf_171 (by decide) ?_
        exact ih127 h x3 x5 x6 x11 x12 v1 _ _ _ _ _ hm hw (by omega) (by omega) (lv_sub hl [1, 2, 3, 4, 5, 0] rfl)
      intro h x3 x5 x6 x11 x12 x13 cc ss H locs ls hm hw hcc hss hl
      have hmo := mo_X0_meetOf_127  (n127 + 1) h x3 x5 x6 x11 x12 x13 _ hm
      have sb_ : h.1 ≤ u9.1 := hmo.1
      have tb_ : h.2.1 ≤ u9.2.1 := hmo.2.1
      rw [m_X0_meetOf_127] at hm
      refine lv_iload hx hb dX0_meetOf_127 (lv_at hl 5 rfl) ?_
      refine lv_iconst (v := 3) hx hb dX0_meetOf_129 (by decide) ?_
      refine lv_icmp_ge (tgt := 174) hx hb dX0_meetOf_130 (by decide) (fun c1 => ?_) (fun c1 => ?_)
      · have hm := ifT hm c1
        exact hB174 h x3 x5 x6 x12 _ _ _ _ _ hm hw (by omega) (by omega) (lv_sub hl [0, 1, 2, 4] rfl)
      · have hm := ifF hm c1
        refine lv_aload hx hb dX0_meetOf_133 (lv_at hl 4 rfl) ?_
        refine lv_aload hx hb dX0_meetOf_135 (lv_at hl 3 rfl) ?_
        obtain ⟨a2, ea2, hm⟩ := bdE hm
        refine cg_getN C hw (by decide) (oR_E ea2) rfl in_X2 (by decide) (hw.2.2.2.2.1 _ (List.mem_of_getElem? (i := 12) rfl)) dX0_meetOf_137 ?_
        refine lv_iconst (v := 0) hx hb dX0_meetOf_140 (by decide) ?_
        obtain ⟨a3, ea3, hm⟩ := bdE hm
        refine cg_aaldA C hw (ty := .array .long) rfl rfl (aR_E ea3) dX0_meetOf_141 ?_
        refine lv_iload hx hb dX0_meetOf_142 (lv_at hl 5 rfl) ?_
        obtain ⟨v4, ev4, hm⟩ := bdE hm
        refine cg_lald C hw ev4 dX0_meetOf_144 ?_
        refine lv_aload hx hb dX0_meetOf_145 (lv_at hl 3 rfl) ?_
        obtain ⟨a5, ea5, hm⟩ := bdE hm
        refine cg_getN C hw (by decide) (oR_E ea5) rfl in_X2 (by decide) (hw.2.2.2.2.1 _ (List.mem_of_getElem? (i := 12) rfl)) dX0_meetOf_147 ?_
        refine lv_iconst (v := 1) hx hb dX0_meetOf_150 (by decide) ?_
        obtain ⟨a6, ea6, hm⟩ := bdE hm
        refine cg_aaldA C hw (ty := .array .long) rfl rfl (aR_E ea6) dX0_meetOf_151 ?_
        refine lv_iload hx hb dX0_meetOf_152 (lv_at hl 5 rfl) ?_
        obtain ⟨v7, ev7, hm⟩ := bdE hm
        refine cg_lald C hw ev7 dX0_meetOf_154 ?_
        refine lv_aload hx hb dX0_meetOf_155 (lv_at hl 3 rfl) ?_
        obtain ⟨a8, ea8, hm⟩ := bdE hm
        refine cg_getN C hw (by decide) (oR_E ea8) rfl in_X2 (by decide) (hw.2.2.2.2.1 _ (List.mem_of_getElem? (i := 12) rfl)) dX0_meetOf_157 ?_
        refine lv_iconst (v := 2) hx hb dX0_meetOf_160 (by decide) ?_
        obtain ⟨a9, ea9, hm⟩ := bdE hm
        refine cg_aaldA C hw (ty := .array .long) rfl rfl (aR_E ea9) dX0_meetOf_161 ?_
        refine lv_iload hx hb dX0_meetOf_162 (lv_at hl 5 rfl) ?_
        obtain ⟨v10, ev10, hm⟩ := bdE hm
        refine cg_lald C hw ev10 dX0_meetOf_164 ?_
        obtain ⟨g11, hm⟩ := gdE hm
        obtain ⟨h12, eh12, hm⟩ := bdE hm
        have lh12 := mo_X1_takes eh12
        have ph12 : h.1 ≤ h12.1 := lh12.1
        have qh12 : h.2.1 ≤ h12.2.1 := lh12.2.1
        have hmo := mo_X0_meetOf_168 (mo_X0_meetOf_127 n127)  h12 x3 x5 x6 x11 x12 x13 _ hm
        have sh12 : h12.1 ≤ u9.1 := hmo.1
        have th12 : h12.2.1 ≤ u9.2.1 := hmo.2.1
        refine cg_callv hw lh12 (va_runV (As := [.long v4, .long v7, .long v10]) (rest := []) ⟨hx, hb, hml, hown, hts⟩ (w_X1_takes l eh12) (cw_X1_takes hts q1124 ⟨Nat.le_of_ble_eq_true rfl, Nat.le_of_ble_eq_true rfl⟩) (cg_preV C hw g11 rfl _) rfl rfl hl.1 rfl (lv_room (Nat.le_of_ble_eq_true rfl)) dX0_meetOf_165 ⟨show cc + (h12.1 - h.1) ≤ u9.1 - u.1 by omega, show ss + (h12.2.1 - h.2.1) ≤ u9.2.1 - u.2.1 by omega⟩) (fun H locs hw => ?_)
        exact hB168 h12 x3 x5 x6 x11 x12 x13 _ _ _ _ _ hm hw (by omega) (by omega) (lv_sub hl [0, 1, 2, 3, 4, 5] rfl)
  have hB122 : ∀ (h : CH) (x3 : Int64) (x5 : Nat) (x6 : Nat) (x11 : Nat) (y0 : Nat) (cc ss : Nat) (H : Heap) (locs : List Loc) (ls : Array Slot), m_X0_meetOf_122 f h x3 x5 x6 x11 y0 = some (r0, u9) → CW D dA A s h H locs → cc + u.1 = h.1 → ss + u.2.1 = h.2.1 → lv_has ls 14 [(3, .long x3), (5, .ref x5), (6, .ref x6), (11, .ref x11)] → W p l e (rm_X0_meetOf (u9.1 - u.1) (u9.2.1 - u.2.1)) s m args below meth c H locs cc ss QQ (F0 m 122 ls [.ref y0]) := by
    intro h x3 x5 x6 x11 y0 cc ss H locs ls hm hw hcc hss hl
    have hmo := mo_X0_meetOf_122  h x3 x5 x6 x11 y0 _ hm
    have sb_ : h.1 ≤ u9.1 := hmo.1
    have tb_ : h.2.1 ≤ u9.2.1 := hmo.2.1
    rw [m_X0_meetOf_122] at hm
    refine lv_astore (lv' := [(12, .ref y0), (3, .long x3), (5, .ref x5), (6, .ref x6), (11, .ref x11)]) hx hb dX0_meetOf_122 hl (by decide) rfl (fun ls hl => ?_)
    refine lv_iconst (v := 0) hx hb dX0_meetOf_124 (by decide) ?_
    refine lv_istore (lv' := [(13, .int (0 : Int32)), (12, .ref y0), (3, .long x3), (5, .ref x5), (6, .ref x6), (11, .ref x11)]) hx hb dX0_meetOf_125 hl (by decide) rfl (fun ls hl => ?_)
    exact hB127 f h x3 x5 x6 x11 y0 (0 : Int32) _ _ _ _ _ hm hw (by omega) (by omega) (lv_sub hl [2, 3, 4, 5, 1, 0] rfl)
  have hB116 : ∀ (h : CH) (x3 : Int64) (x5 : Nat) (x6 : Nat) (x7 : Int64) (x11 : Nat) (y0 : Nat) (cc ss : Nat) (H : Heap) (locs : List Loc) (ls : Array Slot), m_X0_meetOf_116 f h x3 x5 x6 x7 x11 y0 = some (r0, u9) → CW D dA A s h H locs → cc + u.1 = h.1 → ss + u.2.1 = h.2.1 → lv_has ls 14 [(3, .long x3), (5, .ref x5), (6, .ref x6), (7, .long x7), (11, .ref x11)] → W p l e (rm_X0_meetOf (u9.1 - u.1) (u9.2.1 - u.2.1)) s m args below meth c H locs cc ss QQ (F0 m 116 ls [.ref y0]) := by
    intro h x3 x5 x6 x7 x11 y0 cc ss H locs ls hm hw hcc hss hl
    have hmo := mo_X0_meetOf_116  h x3 x5 x6 x7 x11 y0 _ hm
    have sb_ : h.1 ≤ u9.1 := hmo.1
    have tb_ : h.2.1 ≤ u9.2.1 := hmo.2.1
    rw [m_X0_meetOf_116] at hm
    refine lv_dup hx hb dX0_meetOf_116 rfl ?_
    refine lv_lload hx hb dX0_meetOf_117 (lv_at hl 3 rfl) ?_
    obtain ⟨h1, eh1, hm⟩ := bdE hm
    have lh1 := mo_X1_init eh1
    have ph1 : h.1 ≤ h1.1 := lh1.1
    have qh1 : h.2.1 ≤ h1.2.1 := lh1.2.1
    have hmo := mo_X0_meetOf_122   h1 x3 x5 x6 x11 y0 _ hm
    have sh1 : h1.1 ≤ u9.1 := hmo.1
    have th1 : h1.2.1 ≤ u9.2.1 := hmo.2.1
    refine cg_callv hw lh1 (va_runI (As := [.long x7]) (rest := [.ref y0]) ⟨hx, hb, hml, hown, hts⟩ (w_X1_init l eh1) (cw_X1_init hts q193 ⟨Nat.le_of_ble_eq_true rfl, Nat.le_of_ble_eq_true rfl⟩) (cg_preS C hw _) rfl rfl hl.1 rfl (lv_room (Nat.le_of_ble_eq_true rfl)) dX0_meetOf_119 ⟨show cc + (h1.1 - h.1) ≤ u9.1 - u.1 by omega, show ss + (h1.2.1 - h.2.1) ≤ u9.2.1 - u.2.1 by omega⟩) (fun H locs hw => ?_)
    exact hB122 h1 x3 x5 x6 x11 y0 _ _ _ _ _ hm hw (by omega) (by omega) (lv_sub hl [0, 1, 2, 4] rfl)
  have hB111 : ∀ (h : CH) (x3 : Int64) (x5 : Nat) (x6 : Nat) (x7 : Int64) (y0 : Nat) (cc ss : Nat) (H : Heap) (locs : List Loc) (ls : Array Slot), m_X0_meetOf_111 f h x3 x5 x6 x7 y0 = some (r0, u9) → CW D dA A s h H locs → cc + u.1 = h.1 → ss + u.2.1 = h.2.1 → lv_has ls 14 [(3, .long x3), (5, .ref x5), (6, .ref x6), (7, .long x7)] → W p l e (rm_X0_meetOf (u9.1 - u.1) (u9.2.1 - u.2.1)) s m args below meth c H locs cc ss QQ (F0 m 111 ls [.ref y0]) := by
    intro h x3 x5 x6 x7 y0 cc ss H locs ls hm hw hcc hss hl
    have hmo := mo_X0_meetOf_111  h x3 x5 x6 x7 y0 _ hm
    have sb_ : h.1 ≤ u9.1 := hmo.1
    have tb_ : h.2.1 ≤ u9.2.1 := hmo.2.1
    rw [m_X0_meetOf_111] at hm
    refine lv_astore (lv' := [(11, .ref y0), (3, .long x3), (5, .ref x5), (6, .ref x6), (7, .long x7)]) hx hb dX0_meetOf_111 hl (by decide) rfl (fun ls hl => ?_)
    obtain ⟨h1, eh1, hm⟩ := nmE hm
    obtain ⟨_, _, hmq⟩ := nmE hm
    have hmo := mo_X0_meetOf_116   h1 x3 x5 x6 x7 y0 _ _ hmq
    have sh1 : h1.1 ≤ u9.1 := hmo.1
    have th1 : h1.2.1 ≤ u9.2.1 := hmo.2.1
    have zh1 := cn_sz eh1
    refine cg_new (C0 := C) hw (ci := 2) (fs := [.null, .null, .long 0]) rfl in_X1 tyX1 tyX1_ok q191 q192 q123 (fun j hj => by rcases (show j = 0 ∨ j = 1 ∨ j = 2 by omega) with rfl | rfl | rfl <;> rfl) (show cc + 1 ≤ u9.1 - u.1 by omega) (show ss + 3 ≤ u9.2.1 - u.2.1 by omega) dX0_meetOf_113 (fun H hw => ?_)
    rw [← eh1] at hw
    refine lv_topr (fun a2 ea2 => ?_)
    have hm := nmK hm ea2
    exact hB116 h1 x3 x5 x6 x7 y0 a2 _ _ _ _ _ hm hw (by omega) (by omega) (lv_sub hl [1, 2, 3, 4, 0] rfl)
  have hB106 : ∀ (h : CH) (x3 : Int64) (x5 : Nat) (x6 : Nat) (x7 : Int64) (x10 : Nat) (cc ss : Nat) (H : Heap) (locs : List Loc) (ls : Array Slot), m_X0_meetOf_106 f h x3 x5 x6 x7 x10 = some (r0, u9) → CW D dA A s h H locs → cc + u.1 = h.1 → ss + u.2.1 = h.2.1 → lv_has ls 14 [(3, .long x3), (5, .ref x5), (6, .ref x6), (7, .long x7), (10, .ref x10)] → W p l e (rm_X0_meetOf (u9.1 - u.1) (u9.2.1 - u.2.1)) s m args below meth c H locs cc ss QQ (F0 m 106 ls []) := by
    intro h x3 x5 x6 x7 x10 cc ss H locs ls hm hw hcc hss hl
    have hmo := mo_X0_meetOf_106  h x3 x5 x6 x7 x10 _ hm
    have sb_ : h.1 ≤ u9.1 := hmo.1
    have tb_ : h.2.1 ≤ u9.2.1 := hmo.2.1
    rw [m_X0_meetOf_106] at hm
    refine lv_aload hx hb dX0_meetOf_106 (lv_at hl 4 rfl) ?_
    obtain ⟨g1, hm⟩ := gdE hm
    obtain ⟨a3, h2, ea3, hm⟩ := bd2E hm
    have lh2 := mo_X1_dual ea3
    have ph2 : h.1 ≤ h2.1 := lh2.1
    have qh2 : h.2.1 ≤ h2.2.1 := lh2.2.1
    have hmo := mo_X0_meetOf_111   h2 x3 x5 x6 x7 a3 _ hm
    have sh2 : h2.1 ≤ u9.1 := hmo.1
    have th2 : h2.2.1 ≤ u9.2.1 := hmo.2.1
    refine cg_callr hw lh2 (va_runV (As := []) (rest := []) ⟨hx, hb, hml, hown, hts⟩ (w_X1_dual l ea3) (cw_X1_dual hts q1140 ⟨Nat.le_of_ble_eq_true rfl, Nat.le_of_ble_eq_true rfl⟩) (cg_preV C hw g1 rfl _) rfl rfl hl.1 rfl (lv_room (Nat.le_of_ble_eq_true rfl)) dX0_meetOf_108 ⟨show cc + (h2.1 - h.1) ≤ u9.1 - u.1 by omega, show ss + (h2.2.1 - h.2.1) ≤ u9.2.1 - u.2.1 by omega⟩) (fun H locs hw => ?_)
    exact hB111 h2 x3 x5 x6 x7 a3 _ _ _ _ _ hm hw (by omega) (by omega) (lv_sub hl [0, 1, 2, 3] rfl)
  have hB59 : ∀ (n59 : Nat), ∀ (h : CH) (x3 : Int64) (x5 : Nat) (x6 : Nat) (x7 : Int64) (x9 : Nat) (x10 : Nat) (x11 : Int32) (cc ss : Nat) (H : Heap) (locs : List Loc) (ls : Array Slot), m_X0_meetOf_59 f n59 h x3 x5 x6 x7 x9 x10 x11 = some (r0, u9) → CW D dA A s h H locs → cc + u.1 = h.1 → ss + u.2.1 = h.2.1 → lv_has ls 14 [(3, .long x3), (5, .ref x5), (6, .ref x6), (7, .long x7), (9, .ref x9), (10, .ref x10), (11, .int x11)] → W p l e (rm_X0_meetOf (u9.1 - u.1) (u9.2.1 - u.2.1)) s m args below meth c H locs cc ss QQ (F0 m 59 ls []) := by
    intro n59
    induction n59 with
    | zero => intro h x3 x5 x6 x7 x9 x10 x11 cc ss H locs ls hm hw hcc hss hl; rw [m_X0_meetOf_59] at hm; exact noE hm
    | succ n59 ih59 =>
      have hB100 : ∀ (h : CH) (x3 : Int64) (x5 : Nat) (x6 : Nat) (x7 : Int64) (x9 : Nat) (x10 : Nat) (x11 : Int32) (cc ss : Nat) (H : Heap) (locs : List Loc) (ls : Array Slot), m_X0_meetOf_100 f (m_X0_meetOf_59 f n59) h x3 x5 x6 x7 x9 x10 x11 = some (r0, u9) → CW D dA A s h H locs → cc + u.1 = h.1 → ss + u.2.1 = h.2.1 → lv_has ls 14 [(3, .long x3), (5, .ref x5), (6, .ref x6), (7, .long x7), (9, .ref x9), (10, .ref x10), (11, .int x11)] → W p l e (rm_X0_meetOf (u9.1 - u.1) (u9.2.1 - u.2.1)) s m args below meth c H locs cc ss QQ (F0 m 100 ls []) := by
        intro h x3 x5 x6 x7 x9 x10 x11 cc ss H locs ls hm hw hcc hss hl
        have hmo := mo_X0_meetOf_100 (mo_X0_meetOf_59 n59) h x3 x5 x6 x7 x9 x10 x11 _ hm
        have sb_ : h.1 ≤ u9.1 := hmo.1
        have tb_ : h.2.1 ≤ u9.2.1 := hmo.2.1
        rw [m_X0_meetOf_100] at hm
        obtain ⟨v1, ev1, hm⟩ := nmE hm
        refine lv_iinc (v := v1) (lv' := [(11, .int v1), (3, .long x3), (5, .ref x5), (6, .ref x6), (7, .long x7), (9, .ref x9), (10, .ref x10)]) hx hb dX0_meetOf_100 hl (k := 6) rfl (by rw [ev1]; rfl) (by decide) rfl (fun ls hl => ?_)
        refine lv_goto (tgt := 59) hx hb dX0_meetOf_103 (by decide) ?_
        exact ih59 h x3 x5 x6 x7 x9 x10 v1 _ _ _ _ _ hm hw (by omega) (by omega) (lv_sub hl [1, 2, 3, 4, 5, 6, 0] rfl)
      intro h x3 x5 x6 x7 x9 x10 x11 cc ss H locs ls hm hw hcc hss hl
      have hmo := mo_X0_meetOf_59  (n59 + 1) h x3 x5 x6 x7 x9 x10 x11 _ hm
      have sb_ : h.1 ≤ u9.1 := hmo.1
      have tb_ : h.2.1 ≤ u9.2.1 := hmo.2.1
      rw [m_X0_meetOf_59] at hm
      refine lv_iload hx hb dX0_meetOf_59 (lv_at hl 6 rfl) ?_
      refine lv_iconst (v := 3) hx hb dX0_meetOf_61 (by decide) ?_
      refine lv_icmp_ge (tgt := 106) hx hb dX0_meetOf_62 (by decide) (fun c1 => ?_) (fun c1 => ?_)
      · have hm := ifT hm c1
        exact hB106 h x3 x5 x6 x7 x10 _ _ _ _ _ hm hw (by omega) (by omega) (lv_sub hl [0, 1, 2, 3, 5] rfl)
      · have hm := ifF hm c1
        refine lv_aload hx hb dX0_meetOf_65 (lv_at hl 5 rfl) ?_
        refine lv_aload hx hb dX0_meetOf_67 (lv_at hl 4 rfl) ?_
        obtain ⟨a2, ea2, hm⟩ := bdE hm
        refine cg_getN C hw (by decide) (oR_E ea2) rfl in_X2 (by decide) (hw.2.2.2.2.1 _ (List.mem_of_getElem? (i := 12) rfl)) dX0_meetOf_69 ?_
        refine lv_iconst (v := 0) hx hb dX0_meetOf_72 (by decide) ?_
        obtain ⟨a3, ea3, hm⟩ := bdE hm
        refine cg_aaldA C hw (ty := .array .long) rfl rfl (aR_E ea3) dX0_meetOf_73 ?_
        refine lv_iload hx hb dX0_meetOf_74 (lv_at hl 6 rfl) ?_
        obtain ⟨v4, ev4, hm⟩ := bdE hm
        refine cg_lald C hw ev4 dX0_meetOf_76 ?_
        refine lv_aload hx hb dX0_meetOf_77 (lv_at hl 4 rfl) ?_
        obtain ⟨a5, ea5, hm⟩ := bdE hm
        refine cg_getN C hw (by decide) (oR_E ea5) rfl in_X2 (by decide) (hw.2.2.2.2.1 _ (List.mem_of_getElem? (i := 12) rfl)) dX0_meetOf_79 ?_
        refine lv_iconst (v := 1) hx hb dX0_meetOf_82 (by decide) ?_
        obtain ⟨a6, ea6, hm⟩ := bdE hm
        refine cg_aaldA C hw (ty := .array .long) rfl rfl (aR_E ea6) dX0_meetOf_83 ?_
        refine lv_iload hx hb dX0_meetOf_84 (lv_at hl 6 rfl) ?_
        obtain ⟨v7, ev7, hm⟩ := bdE hm
        refine cg_lald C hw ev7 dX0_meetOf_86 ?_
        refine lv_aload hx hb dX0_meetOf_87 (lv_at hl 4 rfl) ?_
        obtain ⟨a8, ea8, hm⟩ := bdE hm
        refine cg_getN C hw (by decide) (oR_E ea8) rfl in_X2 (by decide) (hw.2.2.2.2.1 _ (List.mem_of_getElem? (i := 12) rfl)) dX0_meetOf_89 ?_
        refine lv_iconst (v := 2) hx hb dX0_meetOf_92 (by decide) ?_
        obtain ⟨a9, ea9, hm⟩ := bdE hm
        refine cg_aaldA C hw (ty := .array .long) rfl rfl (aR_E ea9) dX0_meetOf_93 ?_
        refine lv_iload hx hb dX0_meetOf_94 (lv_at hl 6 rfl) ?_
        obtain ⟨v10, ev10, hm⟩ := bdE hm
        refine cg_lald C hw ev10 dX0_meetOf_96 ?_
        obtain ⟨g11, hm⟩ := gdE hm
        obtain ⟨h12, eh12, hm⟩ := bdE hm
        have lh12 := mo_X1_takes eh12
        have ph12 : h.1 ≤ h12.1 := lh12.1
        have qh12 : h.2.1 ≤ h12.2.1 := lh12.2.1
        have hmo := mo_X0_meetOf_100 (mo_X0_meetOf_59 n59)  h12 x3 x5 x6 x7 x9 x10 x11 _ hm
        have sh12 : h12.1 ≤ u9.1 := hmo.1
        have th12 : h12.2.1 ≤ u9.2.1 := hmo.2.1
        refine cg_callv hw lh12 (va_runV (As := [.long v4, .long v7, .long v10]) (rest := []) ⟨hx, hb, hml, hown, hts⟩ (w_X1_takes l eh12) (cw_X1_takes hts q1124 ⟨Nat.le_of_ble_eq_true rfl, Nat.le_of_ble_eq_true rfl⟩) (cg_preV C hw g11 rfl _) rfl rfl hl.1 rfl (lv_room (Nat.le_of_ble_eq_true rfl)) dX0_meetOf_97 ⟨show cc + (h12.1 - h.1) ≤ u9.1 - u.1 by omega, show ss + (h12.2.1 - h.2.1) ≤ u9.2.1 - u.2.1 by omega⟩) (fun H locs hw => ?_)
        exact hB100 h12 x3 x5 x6 x7 x9 x10 x11 _ _ _ _ _ hm hw (by omega) (by omega) (lv_sub hl [0, 1, 2, 3, 4, 5, 6] rfl)
  have hB54 : ∀ (h : CH) (x3 : Int64) (x5 : Nat) (x6 : Nat) (x7 : Int64) (x9 : Nat) (y0 : Nat) (cc ss : Nat) (H : Heap) (locs : List Loc) (ls : Array Slot), m_X0_meetOf_54 f h x3 x5 x6 x7 x9 y0 = some (r0, u9) → CW D dA A s h H locs → cc + u.1 = h.1 → ss + u.2.1 = h.2.1 → lv_has ls 14 [(3, .long x3), (5, .ref x5), (6, .ref x6), (7, .long x7), (9, .ref x9)] → W p l e (rm_X0_meetOf (u9.1 - u.1) (u9.2.1 - u.2.1)) s m args below meth c H locs cc ss QQ (F0 m 54 ls [.ref y0]) := by
    intro h x3 x5 x6 x7 x9 y0 cc ss H locs ls hm hw hcc hss hl
    have hmo := mo_X0_meetOf_54  h x3 x5 x6 x7 x9 y0 _ hm
    have sb_ : h.1 ≤ u9.1 := hmo.1
    have tb_ : h.2.1 ≤ u9.2.1 := hmo.2.1
    rw [m_X0_meetOf_54] at hm
    refine lv_astore (lv' := [(10, .ref y0), (3, .long x3), (5, .ref x5), (6, .ref x6), (7, .long x7), (9, .ref x9)]) hx hb dX0_meetOf_54 hl (by decide) rfl (fun ls hl => ?_)
    refine lv_iconst (v := 0) hx hb dX0_meetOf_56 (by decide) ?_
    refine lv_istore (lv' := [(11, .int (0 : Int32)), (10, .ref y0), (3, .long x3), (5, .ref x5), (6, .ref x6), (7, .long x7), (9, .ref x9)]) hx hb dX0_meetOf_57 hl (by decide) rfl (fun ls hl => ?_)
    exact hB59 f h x3 x5 x6 x7 x9 y0 (0 : Int32) _ _ _ _ _ hm hw (by omega) (by omega) (lv_sub hl [2, 3, 4, 5, 6, 1, 0] rfl)
  have hB48 : ∀ (h : CH) (x3 : Int64) (x5 : Nat) (x6 : Nat) (x7 : Int64) (x9 : Nat) (y0 : Nat) (cc ss : Nat) (H : Heap) (locs : List Loc) (ls : Array Slot), m_X0_meetOf_48 f h x3 x5 x6 x7 x9 y0 = some (r0, u9) → CW D dA A s h H locs → cc + u.1 = h.1 → ss + u.2.1 = h.2.1 → lv_has ls 14 [(3, .long x3), (5, .ref x5), (6, .ref x6), (7, .long x7), (9, .ref x9)] → W p l e (rm_X0_meetOf (u9.1 - u.1) (u9.2.1 - u.2.1)) s m args below meth c H locs cc ss QQ (F0 m 48 ls [.ref y0]) := by
    intro h x3 x5 x6 x7 x9 y0 cc ss H locs ls hm hw hcc hss hl
    have hmo := mo_X0_meetOf_48  h x3 x5 x6 x7 x9 y0 _ hm
    have sb_ : h.1 ≤ u9.1 := hmo.1
    have tb_ : h.2.1 ≤ u9.2.1 := hmo.2.1
    rw [m_X0_meetOf_48] at hm
    refine lv_dup hx hb dX0_meetOf_48 rfl ?_
    refine lv_lload hx hb dX0_meetOf_49 (lv_at hl 3 rfl) ?_
    obtain ⟨h1, eh1, hm⟩ := bdE hm
    have lh1 := mo_X1_init eh1
    have ph1 : h.1 ≤ h1.1 := lh1.1
    have qh1 : h.2.1 ≤ h1.2.1 := lh1.2.1
    have hmo := mo_X0_meetOf_54   h1 x3 x5 x6 x7 x9 y0 _ hm
    have sh1 : h1.1 ≤ u9.1 := hmo.1
    have th1 : h1.2.1 ≤ u9.2.1 := hmo.2.1
    refine cg_callv hw lh1 (va_runI (As := [.long x7]) (rest := [.ref y0]) ⟨hx, hb, hml, hown, hts⟩ (w_X1_init l eh1) (cw_X1_init hts q193 ⟨Nat.le_of_ble_eq_true rfl, Nat.le_of_ble_eq_true rfl⟩) (cg_preS C hw _) rfl rfl hl.1 rfl (lv_room (Nat.le_of_ble_eq_true rfl)) dX0_meetOf_51 ⟨show cc + (h1.1 - h.1) ≤ u9.1 - u.1 by omega, show ss + (h1.2.1 - h.2.1) ≤ u9.2.1 - u.2.1 by omega⟩) (fun H locs hw => ?_)
    exact hB54 h1 x3 x5 x6 x7 x9 y0 _ _ _ _ _ hm hw (by omega) (by omega) (lv_sub hl [0, 1, 2, 3, 4] rfl)
  have hB43 : ∀ (h : CH) (x3 : Int64) (x5 : Nat) (x6 : Nat) (x7 : Int64) (y0 : Nat) (cc ss : Nat) (H : Heap) (locs : List Loc) (ls : Array Slot), m_X0_meetOf_43 f h x3 x5 x6 x7 y0 = some (r0, u9) → CW D dA A s h H locs → cc + u.1 = h.1 → ss + u.2.1 = h.2.1 → lv_has ls 14 [(3, .long x3), (5, .ref x5), (6, .ref x6), (7, .long x7)] → W p l e (rm_X0_meetOf (u9.1 - u.1) (u9.2.1 - u.2.1)) s m args below meth c H locs cc ss QQ (F0 m 43 ls [.ref y0]) := by
    intro h x3 x5 x6 x7 y0 cc ss H locs ls hm hw hcc hss hl
    have hmo := mo_X0_meetOf_43  h x3 x5 x6 x7 y0 _ hm
    have sb_ : h.1 ≤ u9.1 := hmo.1
    have tb_ : h.2.1 ≤ u9.2.1 := hmo.2.1
    rw [m_X0_meetOf_43] at hm
    refine lv_astore (lv' := [(9, .ref y0), (3, .long x3), (5, .ref x5), (6, .ref x6), (7, .long x7)]) hx hb dX0_meetOf_43 hl (by decide) rfl (fun ls hl => ?_)
    obtain ⟨h1, eh1, hm⟩ := nmE hm
    obtain ⟨_, _, hmq⟩ := nmE hm
    have hmo := mo_X0_meetOf_48   h1 x3 x5 x6 x7 y0 _ _ hmq
    have sh1 : h1.1 ≤ u9.1 := hmo.1
    have th1 : h1.2.1 ≤ u9.2.1 := hmo.2.1
    have zh1 := cn_sz eh1
    refine cg_new (C0 := C) hw (ci := 2) (fs := [.null, .null, .long 0]) rfl in_X1 tyX1 tyX1_ok q191 q192 q123 (fun j hj => by rcases (show j = 0 ∨ j = 1 ∨ j = 2 by omega) with rfl | rfl | rfl <;> rfl) (show cc + 1 ≤ u9.1 - u.1 by omega) (show ss + 3 ≤ u9.2.1 - u.2.1 by omega) dX0_meetOf_45 (fun H hw => ?_)
    rw [← eh1] at hw
    refine lv_topr (fun a2 ea2 => ?_)
    have hm := nmK hm ea2
    exact hB48 h1 x3 x5 x6 x7 y0 a2 _ _ _ _ _ hm hw (by omega) (by omega) (lv_sub hl [1, 2, 3, 4, 0] rfl)
  have hB40 : ∀ (h : CH) (x3 : Int64) (x5 : Nat) (x6 : Nat) (x7 : Int64) (y0 : Nat) (y1 : Nat) (cc ss : Nat) (H : Heap) (locs : List Loc) (ls : Array Slot), m_X0_meetOf_40 f h x3 x5 x6 x7 y0 y1 = some (r0, u9) → CW D dA A s h H locs → cc + u.1 = h.1 → ss + u.2.1 = h.2.1 → lv_has ls 14 [(3, .long x3), (5, .ref x5), (6, .ref x6), (7, .long x7)] → W p l e (rm_X0_meetOf (u9.1 - u.1) (u9.2.1 - u.2.1)) s m args below meth c H locs cc ss QQ (F0 m 40 ls [.ref y1, .ref y0]) := by
    intro h x3 x5 x6 x7 y0 y1 cc ss H locs ls hm hw hcc hss hl
    have hmo := mo_X0_meetOf_40  h x3 x5 x6 x7 y0 y1 _ hm
    have sb_ : h.1 ≤ u9.1 := hmo.1
    have tb_ : h.2.1 ≤ u9.2.1 := hmo.2.1
    rw [m_X0_meetOf_40] at hm
    obtain ⟨g1, hm⟩ := gdE hm
    obtain ⟨a3, h2, ea3, hm⟩ := bd2E hm
    have lh2 := mo_X2_times ea3
    have ph2 : h.1 ≤ h2.1 := lh2.1
    have qh2 : h.2.1 ≤ h2.2.1 := lh2.2.1
    have hmo := mo_X0_meetOf_43   h2 x3 x5 x6 x7 a3 _ hm
    have sh2 : h2.1 ≤ u9.1 := hmo.1
    have th2 : h2.2.1 ≤ u9.2.1 := hmo.2.1
    refine cg_callr hw lh2 (va_runV (As := [.ref y1]) (rest := []) ⟨hx, hb, hml, hown, hts⟩ (w_X2_times l ea3) (cw_X2_times hts q1123 ⟨Nat.le_of_ble_eq_true rfl, Nat.le_of_ble_eq_true rfl⟩) (cg_preV C hw g1 rfl _) rfl rfl hl.1 rfl (lv_room (Nat.le_of_ble_eq_true rfl)) dX0_meetOf_40 ⟨show cc + (h2.1 - h.1) ≤ u9.1 - u.1 by omega, show ss + (h2.2.1 - h.2.1) ≤ u9.2.1 - u.2.1 by omega⟩) (fun H locs hw => ?_)
    exact hB43 h2 x3 x5 x6 x7 a3 _ _ _ _ _ hm hw (by omega) (by omega) (lv_sub hl [0, 1, 2, 3] rfl)
  have hB28 : ∀ (h : CH) (x3 : Int64) (x5 : Nat) (x6 : Nat) (y0 : Int64) (cc ss : Nat) (H : Heap) (locs : List Loc) (ls : Array Slot), m_X0_meetOf_28 f h x3 x5 x6 y0 = some (r0, u9) → CW D dA A s h H locs → cc + u.1 = h.1 → ss + u.2.1 = h.2.1 → lv_has ls 14 [(3, .long x3), (5, .ref x5), (6, .ref x6)] → W p l e (rm_X0_meetOf (u9.1 - u.1) (u9.2.1 - u.2.1)) s m args below meth c H locs cc ss QQ (F0 m 28 ls [.long y0]) := by
    intro h x3 x5 x6 y0 cc ss H locs ls hm hw hcc hss hl
    have hmo := mo_X0_meetOf_28  h x3 x5 x6 y0 _ hm
    have sb_ : h.1 ≤ u9.1 := hmo.1
    have tb_ : h.2.1 ≤ u9.2.1 := hmo.2.1
    rw [m_X0_meetOf_28] at hm
    obtain ⟨r1, er1, hm⟩ := bdE hm
    refine scl (va_runS (As := [.long y0]) (rest := []) ⟨hx, hb, hml, hown, hts⟩ (w_J9_abs l er1) (cw_J9_abs hts q933 ⟨Nat.le_of_ble_eq_true rfl, Nat.le_of_ble_eq_true rfl⟩) (pre_s _) rfl rfl hl.1 rfl (lv_room (Nat.le_of_ble_eq_true rfl)) dX0_meetOf_28 ⟨show cc + 0 ≤ u9.1 - u.1 by omega, show ss + 0 ≤ u9.2.1 - u.2.1 by omega⟩) ?_
    refine lv_lstore (lv' := [(7, .long r1), (3, .long x3), (5, .ref x5), (6, .ref x6)]) hx hb dX0_meetOf_31 hl (by decide) rfl (fun ls hl => ?_)
    refine lv_aload hx hb dX0_meetOf_33 (lv_at hl 2 rfl) ?_
    refine lv_aload hx hb dX0_meetOf_35 (lv_at hl 3 rfl) ?_
    obtain ⟨g2, hm⟩ := gdE hm
    obtain ⟨a4, h3, ea4, hm⟩ := bd2E hm
    have lh3 := mo_X2_adjoint ea4
    have ph3 : h.1 ≤ h3.1 := lh3.1
    have qh3 : h.2.1 ≤ h3.2.1 := lh3.2.1
    have hmo := mo_X0_meetOf_40   h3 x3 x5 x6 r1 x5 a4 _ hm
    have sh3 : h3.1 ≤ u9.1 := hmo.1
    have th3 : h3.2.1 ≤ u9.2.1 := hmo.2.1
    refine cg_callr hw lh3 (va_runV (As := []) (rest := [.ref x5]) ⟨hx, hb, hml, hown, hts⟩ (w_X2_adjoint l ea4) (cw_X2_adjoint hts q1088 ⟨Nat.le_of_ble_eq_true rfl, Nat.le_of_ble_eq_true rfl⟩) (cg_preV C hw g2 rfl _) rfl rfl hl.1 rfl (lv_room (Nat.le_of_ble_eq_true rfl)) dX0_meetOf_37 ⟨show cc + (h3.1 - h.1) ≤ u9.1 - u.1 by omega, show ss + (h3.2.1 - h.2.1) ≤ u9.2.1 - u.2.1 by omega⟩) (fun H locs hw => ?_)
    exact hB40 h3 x3 x5 x6 r1 x5 a4 _ _ _ _ _ hm hw (by omega) (by omega) (lv_sub hl [1, 2, 3, 0] rfl)
  have hB21 : ∀ (h : CH) (x3 : Int64) (x5 : Nat) (y0 : Nat) (cc ss : Nat) (H : Heap) (locs : List Loc) (ls : Array Slot), m_X0_meetOf_21 f h x3 x5 y0 = some (r0, u9) → CW D dA A s h H locs → cc + u.1 = h.1 → ss + u.2.1 = h.2.1 → lv_has ls 14 [(3, .long x3), (5, .ref x5)] → W p l e (rm_X0_meetOf (u9.1 - u.1) (u9.2.1 - u.2.1)) s m args below meth c H locs cc ss QQ (F0 m 21 ls [.ref y0]) := by
    intro h x3 x5 y0 cc ss H locs ls hm hw hcc hss hl
    have hmo := mo_X0_meetOf_21  h x3 x5 y0 _ hm
    have sb_ : h.1 ≤ u9.1 := hmo.1
    have tb_ : h.2.1 ≤ u9.2.1 := hmo.2.1
    rw [m_X0_meetOf_21] at hm
    refine lv_astore (lv' := [(6, .ref y0), (3, .long x3), (5, .ref x5)]) hx hb dX0_meetOf_21 hl (by decide) rfl (fun ls hl => ?_)
    refine lv_aload hx hb dX0_meetOf_23 (lv_at hl 0 rfl) ?_
    obtain ⟨g1, hm⟩ := gdE hm
    obtain ⟨r3, h2, er3, hm⟩ := bd2E hm
    have lh2 := mo_X2_determinant er3
    have ph2 : h.1 ≤ h2.1 := lh2.1
    have qh2 : h.2.1 ≤ h2.2.1 := lh2.2.1
    have hmo := mo_X0_meetOf_28   h2 x3 x5 y0 r3 _ hm
    have sh2 : h2.1 ≤ u9.1 := hmo.1
    have th2 : h2.2.1 ≤ u9.2.1 := hmo.2.1
    refine cg_calll hw lh2 (va_runV (As := []) (rest := []) ⟨hx, hb, hml, hown, hts⟩ (w_X2_determinant l er3) (cw_X2_determinant hts q1060 ⟨Nat.le_of_ble_eq_true rfl, Nat.le_of_ble_eq_true rfl⟩) (cg_preV C hw g1 rfl _) rfl rfl hl.1 rfl (lv_room (Nat.le_of_ble_eq_true rfl)) dX0_meetOf_25 ⟨show cc + (h2.1 - h.1) ≤ u9.1 - u.1 by omega, show ss + (h2.2.1 - h.2.1) ≤ u9.2.1 - u.2.1 by omega⟩) (fun H locs hw => ?_)
    exact hB28 h2 x3 x5 y0 r3 _ _ _ _ _ hm hw (by omega) (by omega) (lv_sub hl [1, 2, 0] rfl)
  have hB13 : ∀ (h : CH) (x0 : Nat) (x2 : Int32) (x3 : Int64) (y0 : Nat) (cc ss : Nat) (H : Heap) (locs : List Loc) (ls : Array Slot), m_X0_meetOf_13 f h x0 x2 x3 y0 = some (r0, u9) → CW D dA A s h H locs → cc + u.1 = h.1 → ss + u.2.1 = h.2.1 → lv_has ls 14 [(0, .ref x0), (2, .int x2), (3, .long x3)] → W p l e (rm_X0_meetOf (u9.1 - u.1) (u9.2.1 - u.2.1)) s m args below meth c H locs cc ss QQ (F0 m 13 ls [.ref y0]) := by
    intro h x0 x2 x3 y0 cc ss H locs ls hm hw hcc hss hl
    have hmo := mo_X0_meetOf_13  h x0 x2 x3 y0 _ hm
    have sb_ : h.1 ≤ u9.1 := hmo.1
    have tb_ : h.2.1 ≤ u9.2.1 := hmo.2.1
    rw [m_X0_meetOf_13] at hm
    refine lv_astore (lv' := [(5, .ref y0), (0, .ref x0), (2, .int x2), (3, .long x3)]) hx hb dX0_meetOf_13 hl (by decide) rfl (fun ls hl => ?_)
    refine lv_aload_n hx hb dX0_meetOf_15 rfl (lv_at hl 1 rfl) ?_
    refine lv_iload_n hx hb dX0_meetOf_16 rfl (lv_at hl 2 rfl) ?_
    refine lv_lload_n hx hb dX0_meetOf_17 rfl (lv_at hl 3 rfl) ?_
    obtain ⟨g1, hm⟩ := gdE hm
    obtain ⟨a3, h2, ea3, hm⟩ := bd2E hm
    have lh2 := mo_X0_rowsBy ea3
    have ph2 : h.1 ≤ h2.1 := lh2.1
    have qh2 : h.2.1 ≤ h2.2.1 := lh2.2.1
    have hmo := mo_X0_meetOf_21   h2 x3 y0 a3 _ hm
    have sh2 : h2.1 ≤ u9.1 := hmo.1
    have th2 : h2.2.1 ≤ u9.2.1 := hmo.2.1
    refine cg_callr hw lh2 (va_runV (As := [.int x2, .long x3]) (rest := []) ⟨hx, hb, hml, hown, hts⟩ (w_X0_rowsBy l ea3) (cw_X0_rowsBy hts q1115 ⟨Nat.le_of_ble_eq_true rfl, Nat.le_of_ble_eq_true rfl⟩) (cg_preV C hw g1 rfl _) rfl rfl hl.1 rfl (lv_room (Nat.le_of_ble_eq_true rfl)) dX0_meetOf_18 ⟨show cc + (h2.1 - h.1) ≤ u9.1 - u.1 by omega, show ss + (h2.2.1 - h.2.1) ≤ u9.2.1 - u.2.1 by omega⟩) (fun H locs hw => ?_)
    exact hB21 h2 x3 y0 a3 _ _ _ _ _ hm hw (by omega) (by omega) (lv_sub hl [3, 0] rfl)
  have hB6 : ∀ (h : CH) (x0 : Nat) (x1 : Int32) (x2 : Int32) (y0 : Int64) (cc ss : Nat) (H : Heap) (locs : List Loc) (ls : Array Slot), m_X0_meetOf_6 f h x0 x1 x2 y0 = some (r0, u9) → CW D dA A s h H locs → cc + u.1 = h.1 → ss + u.2.1 = h.2.1 → lv_has ls 14 [(0, .ref x0), (1, .int x1), (2, .int x2)] → W p l e (rm_X0_meetOf (u9.1 - u.1) (u9.2.1 - u.2.1)) s m args below meth c H locs cc ss QQ (F0 m 6 ls [.long y0]) := by
    intro h x0 x1 x2 y0 cc ss H locs ls hm hw hcc hss hl
    have hmo := mo_X0_meetOf_6  h x0 x1 x2 y0 _ hm
    have sb_ : h.1 ≤ u9.1 := hmo.1
    have tb_ : h.2.1 ≤ u9.2.1 := hmo.2.1
    rw [m_X0_meetOf_6] at hm
    refine lv_lstore_n (lv' := [(3, .long y0), (0, .ref x0), (1, .int x1), (2, .int x2)]) hx hb dX0_meetOf_6 rfl hl (by decide) rfl (fun ls hl => ?_)
    refine lv_aload_n hx hb dX0_meetOf_7 rfl (lv_at hl 1 rfl) ?_
    refine lv_iload_n hx hb dX0_meetOf_8 rfl (lv_at hl 2 rfl) ?_
    refine lv_lload_n hx hb dX0_meetOf_9 rfl (lv_at hl 0 rfl) ?_
    obtain ⟨g1, hm⟩ := gdE hm
    obtain ⟨a3, h2, ea3, hm⟩ := bd2E hm
    have lh2 := mo_X0_rowsBy ea3
    have ph2 : h.1 ≤ h2.1 := lh2.1
    have qh2 : h.2.1 ≤ h2.2.1 := lh2.2.1
    have hmo := mo_X0_meetOf_13   h2 x0 x2 y0 a3 _ hm
    have sh2 : h2.1 ≤ u9.1 := hmo.1
    have th2 : h2.2.1 ≤ u9.2.1 := hmo.2.1
    refine cg_callr hw lh2 (va_runV (As := [.int x1, .long y0]) (rest := []) ⟨hx, hb, hml, hown, hts⟩ (w_X0_rowsBy l ea3) (cw_X0_rowsBy hts q1115 ⟨Nat.le_of_ble_eq_true rfl, Nat.le_of_ble_eq_true rfl⟩) (cg_preV C hw g1 rfl _) rfl rfl hl.1 rfl (lv_room (Nat.le_of_ble_eq_true rfl)) dX0_meetOf_10 ⟨show cc + (h2.1 - h.1) ≤ u9.1 - u.1 by omega, show ss + (h2.2.1 - h.2.1) ≤ u9.2.1 - u.2.1 by omega⟩) (fun H locs hw => ?_)
    exact hB13 h2 x0 x2 y0 a3 _ _ _ _ _ hm hw (by omega) (by omega) (lv_sub hl [1, 3, 0] rfl)
  rw [m_X0_meetOf] at hm
  refine lv_aload_n hx hb dX0_meetOf_0 rfl (lv_at hl 0 rfl) ?_
  refine lv_iload_n hx hb dX0_meetOf_1 rfl (lv_at hl 1 rfl) ?_
  refine lv_iload_n hx hb dX0_meetOf_2 rfl (lv_at hl 2 rfl) ?_
  obtain ⟨g1, hm⟩ := gdE hm
  obtain ⟨r3, h2, er3, hm⟩ := bd2E hm
  have lh2 := mo_X0_overBoth er3
  have ph2 : u.1 ≤ h2.1 := lh2.1
  have qh2 : u.2.1 ≤ h2.2.1 := lh2.2.1
  have hmo := mo_X0_meetOf_6   h2 x0 x1 x2 r3 _ hm
  have sh2 : h2.1 ≤ u9.1 := hmo.1
  have th2 : h2.2.1 ≤ u9.2.1 := hmo.2.1
  refine cg_calll hw lh2 (va_runV (As := [.int x1, .int x2]) (rest := []) ⟨hx, hb, hml, hown, hts⟩ (w_X0_overBoth l er3) (cw_X0_overBoth hts q1108 ⟨Nat.le_of_ble_eq_true rfl, Nat.le_of_ble_eq_true rfl⟩) (cg_preV C hw g1 rfl _) rfl rfl hl.1 rfl (lv_room (Nat.le_of_ble_eq_true rfl)) dX0_meetOf_3 ⟨show cc + (h2.1 - u.1) ≤ u9.1 - u.1 by omega, show ss + (h2.2.1 - u.2.1) ≤ u9.2.1 - u.2.1 by omega⟩) (fun H locs hw => ?_)
  exact hB6 h2 x0 x1 x2 r3 _ _ _ _ _ hm hw (by omega) (by omega) (lv_sub hl [0, 1, 2] rfl)
def m_X0_meetOver_25 (f : Nat) (h : CH) (y0 : Int32) : Option (Int32 × CH) := some (y0, h)
theorem mo_X0_meetOver_25 {f : Nat} : ∀ (h : CH) (y0 : Int32) (r : (Int32 × CH)), m_X0_meetOver_25 f h y0 = some r → le2 h r.2 := by
  intro h y0 r hm
  rw [m_X0_meetOver_25] at hm
  cases hm
  exact le2.rf
def m_X0_meetOver_21 (f : Nat) (h : CH) (y0 : Nat) : Option (Int32 × CH) := bd (oL h 10 1 y0) fun v1 =>
    m_X0_meetOver_25 f h (Int64.toInt32 v1)
theorem mo_X0_meetOver_21 {f : Nat} : ∀ (h : CH) (y0 : Nat) (r : (Int32 × CH)), m_X0_meetOver_21 f h y0 = some r → le2 h r.2 := by
  intro h y0 r hm
  rw [m_X0_meetOver_21] at hm
  obtain ⟨v1, ev1, hm⟩ := bdE hm
  exact (mo_X0_meetOver_25  h (Int64.toInt32 v1) _ hm)
def m_X0_meetOver_6 (f : Nat) (h : CH) (x0 : Nat) (x1 : Int32) (x2 : Int32) (y0 : Int32) : Option (Int32 × CH) := if 0 ≤ y0 then
    gd (isC h x0 1) <|
    bd2 (m_X0_meetOf f h x0 x1 x2) fun a4 h3 =>
    m_X0_meetOver_21 f h3 a4
    else m_X0_meetOver_25 f h y0
theorem mo_X0_meetOver_6 {f : Nat} : ∀ (h : CH) (x0 : Nat) (x1 : Int32) (x2 : Int32) (y0 : Int32) (r : (Int32 × CH)), m_X0_meetOver_6 f h x0 x1 x2 y0 = some r → le2 h r.2 := by
  intro h x0 x1 x2 y0 r hm
  rw [m_X0_meetOver_6] at hm
  by_cases c1 : 0 ≤ y0
  · have hm := ifT hm c1
    obtain ⟨g2, hm⟩ := gdE hm
    obtain ⟨a4, h3, ea4, hm⟩ := bd2E hm
    have lh3 := mo_X0_meetOf ea4
    exact (lh3.tr (mo_X0_meetOver_21  h3 a4 _ hm))
  · have hm := ifF hm c1
    exact (mo_X0_meetOver_25  h y0 _ hm)
def m_X0_meetOver (f : Nat) (u : CH) (x0 : Nat) (x1 : Int32) (x2 : Int32) : Option (Int32 × CH) := gd (isC u x0 1) <|
    bd2 (m_X0_asks f u x0 x1 x2) fun r3 h2 =>
    m_X0_meetOver_6 f h2 x0 x1 x2 r3
theorem mo_X0_meetOver {f : Nat} {u : CH} {x0 : Nat} {x1 : Int32} {x2 : Int32} {r0 : Int32} {u9 : CH} (hm : m_X0_meetOver f u x0 x1 x2 = some (r0, u9)) : le2 u u9 := by
  rw [m_X0_meetOver] at hm
  obtain ⟨g1, hm⟩ := gdE hm
  obtain ⟨r3, h2, er3, hm⟩ := bd2E hm
  have lh2 := mo_X0_asks er3
  exact (lh2.tr (mo_X0_meetOver_6  h2 x0 x1 x2 r3 _ hm))
abbrev rm_X0_meetOver (mc ms : Nat) : Room := { frames := 107, cells := mc, slots := ms, locals := 4183 }
theorem cw_X0_meetOver {R : Room} {s : State} {args : Array Value} {own : String} {idx mc ms : Nat} (hts : ∀ w ∈ lw_all, w.before args s = true) (hl : Cond.methodLink own idx yX0_meetOver ∈ lw_all) (hR : 107 + 1 ≤ R.frames ∧ 8 + (4 + 11) + 4183 ≤ R.locals) : CallW R s args own RX0 idx yX0_meetOver cX0_meetOver 4 (Option.some Jvm.ClassFile.FieldType.int) (ws_ yX0_meetOver cX0_meetOver 4 (Option.some Jvm.ClassFile.FieldType.int)) (rm_X0_meetOver mc ms) mc ms 2 := cwV 2 hts (lw_V hl q1101 q1102 q119 q1103) rfl rfl rfl (by decide +kernel) hR
set_option maxHeartbeats 4000000 in
set_option maxRecDepth 100000 in
theorem w_X0_meetOver (l : Launch) {D : va_G} {dA : Nat → ClassId} {A : Nat → Prop} {f : Nat} {u u9 : CH} {r0 : Int32} {x0 : Nat} {x1 : Int32} {x2 : Int32} (hm : m_X0_meetOver f u x0 x1 x2 = some (r0, u9)) : Met l yX0_meetOver (ws_ yX0_meetOver cX0_meetOver 4 (Option.some Jvm.ClassFile.FieldType.int)) (rm_X0_meetOver (u9.1 - u.1) (u9.2.1 - u.2.1)) (va_Pc [.ref x0, .int x1, .int x2] (CPre D dA A u)) (va_Qi (fun r u => r = r0 ∧ u = u9) (CPost D dA A) A) (u9.1 - u.1) (u9.2.1 - u.2.1) A := by
  refine Met.ofW (cc := cX0_meetOver) (maxL := 4) (ret := (Option.some Jvm.ClassFile.FieldType.int)) (by decide) rfl ?_
  intro p e s m args below meth c s₁ B hml hv
  have hx := B.exec
  have hb := B.bytes
  have hr := B.returns
  have hts := atoms_spec (ws := (ws_ yX0_meetOver cX0_meetOver 4 (Option.some Jvm.ClassFile.FieldType.int))) B.pre
  have hts : ∀ w ∈ lw_all, w.before args s = true := fun w h => hts w (List.mem_cons_of_mem _ h)
  have hown : s.vm.findClass RX0 = some m.cls := findClass_of_methodNamed B.named
  have hlocks := B.notSynchronized
  obtain ⟨hav, hv⟩ := hv
  have C : CX p s m args c cX0_meetOver RX0 D dA := ⟨hx, hb, hown, hts, hv.2⟩
  have hw : CW D dA A s u s.heap [] := hv.1
  generalize hQ : MQ below (va_Qi (fun r u => r = r0 ∧ u = u9) (CPost D dA A) A) args s (u9.1 - u.1) (u9.2.1 - u.2.1) A = QQ
  have hent := lg_entry_eq m [.ref x0, .int x1, .int x2] 4
  rw [← hav] at hent
  rw [hent]
  have hl := lv_entry ([.ref x0, .int x1, .int x2]) (n := 4) (Nat.le_of_ble_eq_true rfl)
  generalize (lg_sl ([.ref x0, .int x1, .int x2]) ++ List.replicate (4 - (lg_sl ([.ref x0, .int x1, .int x2])).length) Slot.unset).toArray = ls at hl ⊢
  have hl : lv_has ls 4 [(0, .ref x0), (1, .int x1), (2, .int x2)] := hl
  obtain ⟨cc, ecc⟩ : ∃ z : Nat, z = 0 := ⟨0, rfl⟩
  obtain ⟨ss, ess⟩ : ∃ z : Nat, z = 0 := ⟨0, rfl⟩
  have hcc : cc + u.1 = u.1 := by omega
  have hss : ss + u.2.1 = u.2.1 := by omega
  suffices hgo : W p l e (rm_X0_meetOver (u9.1 - u.1) (u9.2.1 - u.2.1)) s m args below meth c s.heap [] cc ss QQ (F0 m 0 ls []) by rw [ecc, ess] at hgo; exact hgo
  have ⟨pu, qu, _, _⟩ := mo_X0_meetOver hm
  have hB25 : ∀ (h : CH) (y0 : Int32) (cc ss : Nat) (H : Heap) (locs : List Loc) (ls : Array Slot), m_X0_meetOver_25 f h y0 = some (r0, u9) → CW D dA A s h H locs → cc + u.1 = h.1 → ss + u.2.1 = h.2.1 → lv_has ls 4 [] → W p l e (rm_X0_meetOver (u9.1 - u.1) (u9.2.1 - u.2.1)) s m args below meth c H locs cc ss QQ (F0 m 25 ls [.int y0]) := by
    intro h y0 cc ss H locs ls hm hw hcc hss hl
    have hmo := mo_X0_meetOver_25  h y0 _ hm
    have sb_ : h.1 ≤ u9.1 := hmo.1
    have tb_ : h.2.1 ≤ u9.2.1 := hmo.2.1
    rw [m_X0_meetOver_25] at hm
    obtain ⟨er, eh⟩ := retE hm
    have ec : cc = u9.1 - u.1 := by rw [← eh]; omega
    have es : ss = u9.2.1 - u.2.1 := by rw [← eh]; omega
    rw [ec, es, ← hQ]
    exact W.iret (v := y0) hx hb hr (fun t ht hW => ⟨⟨y0, h, rfl, ⟨er, eh⟩, ⟨by rw [ht]; exact hw.1, by rw [ht]; exact hw.2.1⟩⟩, hw.2.2.1.F ht⟩) hw.2.2.1.2.2 dX0_meetOver_25
  have hB21 : ∀ (h : CH) (y0 : Nat) (cc ss : Nat) (H : Heap) (locs : List Loc) (ls : Array Slot), m_X0_meetOver_21 f h y0 = some (r0, u9) → CW D dA A s h H locs → cc + u.1 = h.1 → ss + u.2.1 = h.2.1 → lv_has ls 4 [] → W p l e (rm_X0_meetOver (u9.1 - u.1) (u9.2.1 - u.2.1)) s m args below meth c H locs cc ss QQ (F0 m 21 ls [.ref y0]) := by
    intro h y0 cc ss H locs ls hm hw hcc hss hl
    have hmo := mo_X0_meetOver_21  h y0 _ hm
    have sb_ : h.1 ≤ u9.1 := hmo.1
    have tb_ : h.2.1 ≤ u9.2.1 := hmo.2.1
    rw [m_X0_meetOver_21] at hm
    obtain ⟨v1, ev1, hm⟩ := bdE hm
    refine cg_getN C hw (by decide) (oL_E ev1) rfl in_X10 (by decide) (hw.2.2.2.2.1 _ (List.mem_of_getElem? (i := 29) rfl)) dX0_meetOver_21 ?_
    refine lv_l2i hx hb dX0_meetOver_24 rfl ?_
    exact hB25 h (Int64.toInt32 v1) _ _ _ _ _ hm hw (by omega) (by omega) (lv_sub hl [] rfl)
  have hB6 : ∀ (h : CH) (x0 : Nat) (x1 : Int32) (x2 : Int32) (y0 : Int32) (cc ss : Nat) (H : Heap) (locs : List Loc) (ls : Array Slot), m_X0_meetOver_6 f h x0 x1 x2 y0 = some (r0, u9) → CW D dA A s h H locs → cc + u.1 = h.1 → ss + u.2.1 = h.2.1 → lv_has ls 4 [(0, .ref x0), (1, .int x1), (2, .int x2)] → W p l e (rm_X0_meetOver (u9.1 - u.1) (u9.2.1 - u.2.1)) s m args below meth c H locs cc ss QQ (F0 m 6 ls [.int y0]) := by
    intro h x0 x1 x2 y0 cc ss H locs ls hm hw hcc hss hl
    have hmo := mo_X0_meetOver_6  h x0 x1 x2 y0 _ hm
    have sb_ : h.1 ≤ u9.1 := hmo.1
    have tb_ : h.2.1 ≤ u9.2.1 := hmo.2.1
    rw [m_X0_meetOver_6] at hm
    refine lv_istore_n (lv' := [(3, .int y0), (0, .ref x0), (1, .int x1), (2, .int x2)]) hx hb dX0_meetOver_6 rfl hl (by decide) rfl (fun ls hl => ?_)
    refine lv_iload_n hx hb dX0_meetOver_7 rfl (lv_at hl 0 rfl) ?_
    refine lv_if_ge (tgt := 15) hx hb dX0_meetOver_8 (by decide) (fun c1 => ?_) (fun c1 => ?_)
    · have hm := ifT hm c1
      refine lv_aload_n hx hb dX0_meetOver_15 rfl (lv_at hl 1 rfl) ?_
      refine lv_iload_n hx hb dX0_meetOver_16 rfl (lv_at hl 2 rfl) ?_
      refine lv_iload_n hx hb dX0_meetOver_17 rfl (lv_at hl 3 rfl) ?_
      obtain ⟨g2, hm⟩ := gdE hm
      obtain ⟨a4, h3, ea4, hm⟩ := bd2E hm
      have lh3 := mo_X0_meetOf ea4
      have ph3 : h.1 ≤ h3.1 := lh3.1
      have qh3 : h.2.1 ≤ h3.2.1 := lh3.2.1
      have hmo := mo_X0_meetOver_21   h3 a4 _ hm
      have sh3 : h3.1 ≤ u9.1 := hmo.1
      have th3 : h3.2.1 ≤ u9.2.1 := hmo.2.1
      refine cg_callr hw lh3 (va_runV (As := [.int x1, .int x2]) (rest := []) ⟨hx, hb, hml, hown, hts⟩ (w_X0_meetOf l ea4) (cw_X0_meetOf hts q1104 ⟨Nat.le_of_ble_eq_true rfl, Nat.le_of_ble_eq_true rfl⟩) (cg_preV C hw g2 rfl _) rfl rfl hl.1 rfl (lv_room (Nat.le_of_ble_eq_true rfl)) dX0_meetOver_18 ⟨show cc + (h3.1 - h.1) ≤ u9.1 - u.1 by omega, show ss + (h3.2.1 - h.2.1) ≤ u9.2.1 - u.2.1 by omega⟩) (fun H locs hw => ?_)
      exact hB21 h3 a4 _ _ _ _ _ hm hw (by omega) (by omega) (lv_sub hl [] rfl)
    · have hm := ifF hm c1
      refine lv_iload_n hx hb dX0_meetOver_11 rfl (lv_at hl 0 rfl) ?_
      refine lv_goto (tgt := 25) hx hb dX0_meetOver_12 (by decide) ?_
      exact hB25 h y0 _ _ _ _ _ hm hw (by omega) (by omega) (lv_sub hl [] rfl)
  rw [m_X0_meetOver] at hm
  refine lv_aload_n hx hb dX0_meetOver_0 rfl (lv_at hl 0 rfl) ?_
  refine lv_iload_n hx hb dX0_meetOver_1 rfl (lv_at hl 1 rfl) ?_
  refine lv_iload_n hx hb dX0_meetOver_2 rfl (lv_at hl 2 rfl) ?_
  obtain ⟨g1, hm⟩ := gdE hm
  obtain ⟨r3, h2, er3, hm⟩ := bd2E hm
  have lh2 := mo_X0_asks er3
  have ph2 : u.1 ≤ h2.1 := lh2.1
  have qh2 : u.2.1 ≤ h2.2.1 := lh2.2.1
  have hmo := mo_X0_meetOver_6   h2 x0 x1 x2 r3 _ hm
  have sh2 : h2.1 ≤ u9.1 := hmo.1
  have th2 : h2.2.1 ≤ u9.2.1 := hmo.2.1
  refine cg_calli hw lh2 (va_runV (As := [.int x1, .int x2]) (rest := []) ⟨hx, hb, hml, hown, hts⟩ (w_X0_asks l er3) (cw_X0_asks hts q1096 ⟨Nat.le_of_ble_eq_true rfl, Nat.le_of_ble_eq_true rfl⟩) (cg_preV C hw g1 rfl _) rfl rfl hl.1 rfl (lv_room (Nat.le_of_ble_eq_true rfl)) dX0_meetOver_3 ⟨show cc + (h2.1 - u.1) ≤ u9.1 - u.1 by omega, show ss + (h2.2.1 - u.2.1) ≤ u9.2.1 - u.2.1 by omega⟩) (fun H locs hw => ?_)
  exact hB6 h2 x0 x1 x2 r3 _ _ _ _ _ hm hw (by omega) (by omega) (lv_sub hl [0, 1, 2] rfl)
def m_X0_meet_30 (f : Nat) (h : CH) : Option (Int64 × CH) := some ((-1 : Int64), h)
theorem mo_X0_meet_30 {f : Nat} : ∀ (h : CH) (r : (Int64 × CH)), m_X0_meet_30 f h = some r → le2 h r.2 := by
  intro h r hm
  rw [m_X0_meet_30] at hm
  cases hm
  exact le2.rf
def m_X0_meet_62 (f : Nat) (h : CH) (y0 : Int64) : Option (Int64 × CH) := some (y0, h)
theorem mo_X0_meet_62 {f : Nat} : ∀ (h : CH) (y0 : Int64) (r : (Int64 × CH)), m_X0_meet_62 f h y0 = some r → le2 h r.2 := by
  intro h y0 r hm
  rw [m_X0_meet_62] at hm
  cases hm
  exact le2.rf
def m_X0_meet_51 (f : Nat) (h : CH) (x3 : Int32) (x4 : Int32) (y0 : Nat) : Option (Int64 × CH) := bd (oR h 10 0 y0) fun a1 =>
    bd (oR h 3 0 a1) fun a2 =>
    bd (aR h 4 a2 x3) fun a3 =>
    bd (aL h 1 a3 x4) fun v4 =>
    m_X0_meet_62 f h v4
theorem mo_X0_meet_51 {f : Nat} : ∀ (h : CH) (x3 : Int32) (x4 : Int32) (y0 : Nat) (r : (Int64 × CH)), m_X0_meet_51 f h x3 x4 y0 = some r → le2 h r.2 := by
  intro h x3 x4 y0 r hm
  rw [m_X0_meet_51] at hm
  obtain ⟨a1, ea1, hm⟩ := bdE hm
  obtain ⟨a2, ea2, hm⟩ := bdE hm
  obtain ⟨a3, ea3, hm⟩ := bdE hm
  obtain ⟨v4, ev4, hm⟩ := bdE hm
  exact (mo_X0_meet_62  h v4 _ hm)
def m_X0_meet_6 (f : Nat) (h : CH) (x0 : Nat) (x1 : Int32) (x2 : Int32) (x3 : Int32) (x4 : Int32) (y0 : Int32) : Option (Int64 × CH) := if y0 = (-2 : Int32) then
    m_X0_meet_30 f h
    else bd (m_X0_isSide f x3) fun r2 =>
    if r2 = 0 then
    m_X0_meet_30 f h
    else bd (m_X0_isSide f x4) fun r4 =>
    if ¬ r4 = 0 then
    if 0 ≤ y0 then
    gd (isC h x0 1) <|
    bd2 (m_X0_meetOf f h x0 x1 x2) fun a9 h8 =>
    m_X0_meet_51 f h8 x3 x4 a9
    else m_X0_meet_62 f h (Int32.toInt64 y0)
    else m_X0_meet_30 f h
theorem mo_X0_meet_6 {f : Nat} : ∀ (h : CH) (x0 : Nat) (x1 : Int32) (x2 : Int32) (x3 : Int32) (x4 : Int32) (y0 : Int32) (r : (Int64 × CH)), m_X0_meet_6 f h x0 x1 x2 x3 x4 y0 = some r → le2 h r.2 := by
  intro h x0 x1 x2 x3 x4 y0 r hm
  rw [m_X0_meet_6] at hm
  by_cases c1 : y0 = (-2 : Int32)
  · have hm := ifT hm c1
    exact (mo_X0_meet_30  h _ hm)
  · have hm := ifF hm c1
    obtain ⟨r2, er2, hm⟩ := bdE hm
    by_cases c3 : r2 = 0
    · have hm := ifT hm c3
      exact (mo_X0_meet_30  h _ hm)
    · have hm := ifF hm c3
      obtain ⟨r4, er4, hm⟩ := bdE hm
      by_cases c5 : ¬ r4 = 0
      · have hm := ifT hm c5
        by_cases c6 : 0 ≤ y0
        · have hm := ifT hm c6
          obtain ⟨g7, hm⟩ := gdE hm
          obtain ⟨a9, h8, ea9, hm⟩ := bd2E hm
          have lh8 := mo_X0_meetOf ea9
          exact (lh8.tr (mo_X0_meet_51  h8 x3 x4 a9 _ hm))
        · have hm := ifF hm c6
          exact (mo_X0_meet_62  h (Int32.toInt64 y0) _ hm)
      · have hm := ifF hm c5
        exact (mo_X0_meet_30  h _ hm)
def m_X0_meet (f : Nat) (u : CH) (x0 : Nat) (x1 : Int32) (x2 : Int32) (x3 : Int32) (x4 : Int32) : Option (Int64 × CH) := gd (isC u x0 1) <|
    bd2 (m_X0_asks f u x0 x1 x2) fun r3 h2 =>
    m_X0_meet_6 f h2 x0 x1 x2 x3 x4 r3
theorem mo_X0_meet {f : Nat} {u : CH} {x0 : Nat} {x1 : Int32} {x2 : Int32} {x3 : Int32} {x4 : Int32} {r0 : Int64} {u9 : CH} (hm : m_X0_meet f u x0 x1 x2 x3 x4 = some (r0, u9)) : le2 u u9 := by
  rw [m_X0_meet] at hm
  obtain ⟨g1, hm⟩ := gdE hm
  obtain ⟨r3, h2, er3, hm⟩ := bd2E hm
  have lh2 := mo_X0_asks er3
  exact (lh2.tr (mo_X0_meet_6  h2 x0 x1 x2 x3 x4 r3 _ hm))
abbrev rm_X0_meet (mc ms : Nat) : Room := { frames := 107, cells := mc, slots := ms, locals := 4183 }
theorem cw_X0_meet {R : Room} {s : State} {args : Array Value} {own : String} {idx mc ms : Nat} (hts : ∀ w ∈ lw_all, w.before args s = true) (hl : Cond.methodLink own idx yX0_meet ∈ lw_all) (hR : 107 + 1 ≤ R.frames ∧ 8 + (6 + 11) + 4183 ≤ R.locals) : CallW R s args own RX0 idx yX0_meet cX0_meet 6 (Option.some Jvm.ClassFile.FieldType.long) (ws_ yX0_meet cX0_meet 6 (Option.some Jvm.ClassFile.FieldType.long)) (rm_X0_meet mc ms) mc ms 4 := cwV 4 hts (lw_V hl q1168 q1169 q119 q1170) rfl rfl rfl (by decide +kernel) hR
set_option maxHeartbeats 4000000 in
set_option maxRecDepth 100000 in
theorem w_X0_meet (l : Launch) {D : va_G} {dA : Nat → ClassId} {A : Nat → Prop} {f : Nat} {u u9 : CH} {r0 : Int64} {x0 : Nat} {x1 : Int32} {x2 : Int32} {x3 : Int32} {x4 : Int32} (hm : m_X0_meet f u x0 x1 x2 x3 x4 = some (r0, u9)) : Met l yX0_meet (ws_ yX0_meet cX0_meet 6 (Option.some Jvm.ClassFile.FieldType.long)) (rm_X0_meet (u9.1 - u.1) (u9.2.1 - u.2.1)) (va_Pc [.ref x0, .int x1, .int x2, .int x3, .int x4] (CPre D dA A u)) (va_Ql (fun r u => r = r0 ∧ u = u9) (CPost D dA A) A) (u9.1 - u.1) (u9.2.1 - u.2.1) A := by
  refine Met.ofW (cc := cX0_meet) (maxL := 6) (ret := (Option.some Jvm.ClassFile.FieldType.long)) (by decide) rfl ?_
  intro p e s m args below meth c s₁ B hml hv
  have hx := B.exec
  have hb := B.bytes
  have hr := B.returns
  have hts := atoms_spec (ws := (ws_ yX0_meet cX0_meet 6 (Option.some Jvm.ClassFile.FieldType.long))) B.pre
  have hts : ∀ w ∈ lw_all, w.before args s = true := fun w h => hts w (List.mem_cons_of_mem _ h)
  have hown : s.vm.findClass RX0 = some m.cls := findClass_of_methodNamed B.named
  have hlocks := B.notSynchronized
  obtain ⟨hav, hv⟩ := hv
  have C : CX p s m args c cX0_meet RX0 D dA := ⟨hx, hb, hown, hts, hv.2⟩
  have hw : CW D dA A s u s.heap [] := hv.1
  generalize hQ : MQ below (va_Ql (fun r u => r = r0 ∧ u = u9) (CPost D dA A) A) args s (u9.1 - u.1) (u9.2.1 - u.2.1) A = QQ
  have hent := lg_entry_eq m [.ref x0, .int x1, .int x2, .int x3, .int x4] 6
  rw [← hav] at hent
  rw [hent]
  have hl := lv_entry ([.ref x0, .int x1, .int x2, .int x3, .int x4]) (n := 6) (Nat.le_of_ble_eq_true rfl)
  generalize (lg_sl ([.ref x0, .int x1, .int x2, .int x3, .int x4]) ++ List.replicate (6 - (lg_sl ([.ref x0, .int x1, .int x2, .int x3, .int x4])).length) Slot.unset).toArray = ls at hl ⊢
  have hl : lv_has ls 6 [(0, .ref x0), (1, .int x1), (2, .int x2), (3, .int x3), (4, .int x4)] := hl
  obtain ⟨cc, ecc⟩ : ∃ z : Nat, z = 0 := ⟨0, rfl⟩
  obtain ⟨ss, ess⟩ : ∃ z : Nat, z = 0 := ⟨0, rfl⟩
  have hcc : cc + u.1 = u.1 := by omega
  have hss : ss + u.2.1 = u.2.1 := by omega
  suffices hgo : W p l e (rm_X0_meet (u9.1 - u.1) (u9.2.1 - u.2.1)) s m args below meth c s.heap [] cc ss QQ (F0 m 0 ls []) by rw [ecc, ess] at hgo; exact hgo
  have ⟨pu, qu, _, _⟩ := mo_X0_meet hm
  have hB30 : ∀ (h : CH) (cc ss : Nat) (H : Heap) (locs : List Loc) (ls : Array Slot), m_X0_meet_30 f h = some (r0, u9) → CW D dA A s h H locs → cc + u.1 = h.1 → ss + u.2.1 = h.2.1 → lv_has ls 6 [] → W p l e (rm_X0_meet (u9.1 - u.1) (u9.2.1 - u.2.1)) s m args below meth c H locs cc ss QQ (F0 m 30 ls []) := by
    intro h cc ss H locs ls hm hw hcc hss hl
    have hmo := mo_X0_meet_30  h _ hm
    have sb_ : h.1 ≤ u9.1 := hmo.1
    have tb_ : h.2.1 ≤ u9.2.1 := hmo.2.1
    rw [m_X0_meet_30] at hm
    refine lv_ldc2 hx hb hown (hts _ q1040) dX0_meet_30 ?_
    obtain ⟨er, eh⟩ := retE hm
    have ec : cc = u9.1 - u.1 := by rw [← eh]; omega
    have es : ss = u9.2.1 - u.2.1 := by rw [← eh]; omega
    rw [ec, es, ← hQ]
    exact W.lret (v := (-1 : Int64)) hx hb hr (fun t ht hW => ⟨⟨(-1 : Int64), h, rfl, ⟨er, eh⟩, ⟨by rw [ht]; exact hw.1, by rw [ht]; exact hw.2.1⟩⟩, hw.2.2.1.F ht⟩) hw.2.2.1.2.2 dX0_meet_33
  have hB62 : ∀ (h : CH) (y0 : Int64) (cc ss : Nat) (H : Heap) (locs : List Loc) (ls : Array Slot), m_X0_meet_62 f h y0 = some (r0, u9) → CW D dA A s h H locs → cc + u.1 = h.1 → ss + u.2.1 = h.2.1 → lv_has ls 6 [] → W p l e (rm_X0_meet (u9.1 - u.1) (u9.2.1 - u.2.1)) s m args below meth c H locs cc ss QQ (F0 m 62 ls [.long y0]) := by
    intro h y0 cc ss H locs ls hm hw hcc hss hl
    have hmo := mo_X0_meet_62  h y0 _ hm
    have sb_ : h.1 ≤ u9.1 := hmo.1
    have tb_ : h.2.1 ≤ u9.2.1 := hmo.2.1
    rw [m_X0_meet_62] at hm
    obtain ⟨er, eh⟩ := retE hm
    have ec : cc = u9.1 - u.1 := by rw [← eh]; omega
    have es : ss = u9.2.1 - u.2.1 := by rw [← eh]; omega
    rw [ec, es, ← hQ]
    exact W.lret (v := y0) hx hb hr (fun t ht hW => ⟨⟨y0, h, rfl, ⟨er, eh⟩, ⟨by rw [ht]; exact hw.1, by rw [ht]; exact hw.2.1⟩⟩, hw.2.2.1.F ht⟩) hw.2.2.1.2.2 dX0_meet_62
  have hB51 : ∀ (h : CH) (x3 : Int32) (x4 : Int32) (y0 : Nat) (cc ss : Nat) (H : Heap) (locs : List Loc) (ls : Array Slot), m_X0_meet_51 f h x3 x4 y0 = some (r0, u9) → CW D dA A s h H locs → cc + u.1 = h.1 → ss + u.2.1 = h.2.1 → lv_has ls 6 [(3, .int x3), (4, .int x4)] → W p l e (rm_X0_meet (u9.1 - u.1) (u9.2.1 - u.2.1)) s m args below meth c H locs cc ss QQ (F0 m 51 ls [.ref y0]) := by
    intro h x3 x4 y0 cc ss H locs ls hm hw hcc hss hl
    have hmo := mo_X0_meet_51  h x3 x4 y0 _ hm
    have sb_ : h.1 ≤ u9.1 := hmo.1
    have tb_ : h.2.1 ≤ u9.2.1 := hmo.2.1
    rw [m_X0_meet_51] at hm
    obtain ⟨a1, ea1, hm⟩ := bdE hm
    refine cg_getN C hw (by decide) (oR_E ea1) rfl in_X10 (by decide) (hw.2.2.2.2.1 _ (List.mem_of_getElem? (i := 28) rfl)) dX0_meet_51 ?_
    obtain ⟨a2, ea2, hm⟩ := bdE hm
    refine cg_getN C hw (by decide) (oR_E ea2) rfl in_X2 (by decide) (hw.2.2.2.2.1 _ (List.mem_of_getElem? (i := 12) rfl)) dX0_meet_54 ?_
    refine lv_iload_n hx hb dX0_meet_57 rfl (lv_at hl 0 rfl) ?_
    obtain ⟨a3, ea3, hm⟩ := bdE hm
    refine cg_aaldA C hw (ty := .array .long) rfl rfl (aR_E ea3) dX0_meet_58 ?_
    refine lv_iload hx hb dX0_meet_59 (lv_at hl 1 rfl) ?_
    obtain ⟨v4, ev4, hm⟩ := bdE hm
    refine cg_lald C hw ev4 dX0_meet_61 ?_
    exact hB62 h v4 _ _ _ _ _ hm hw (by omega) (by omega) (lv_sub hl [] rfl)
  have hB6 : ∀ (h : CH) (x0 : Nat) (x1 : Int32) (x2 : Int32) (x3 : Int32) (x4 : Int32) (y0 : Int32) (cc ss : Nat) (H : Heap) (locs : List Loc) (ls : Array Slot), m_X0_meet_6 f h x0 x1 x2 x3 x4 y0 = some (r0, u9) → CW D dA A s h H locs → cc + u.1 = h.1 → ss + u.2.1 = h.2.1 → lv_has ls 6 [(0, .ref x0), (1, .int x1), (2, .int x2), (3, .int x3), (4, .int x4)] → W p l e (rm_X0_meet (u9.1 - u.1) (u9.2.1 - u.2.1)) s m args below meth c H locs cc ss QQ (F0 m 6 ls [.int y0]) := by
    intro h x0 x1 x2 x3 x4 y0 cc ss H locs ls hm hw hcc hss hl
    have hmo := mo_X0_meet_6  h x0 x1 x2 x3 x4 y0 _ hm
    have sb_ : h.1 ≤ u9.1 := hmo.1
    have tb_ : h.2.1 ≤ u9.2.1 := hmo.2.1
    rw [m_X0_meet_6] at hm
    refine lv_istore (lv' := [(5, .int y0), (0, .ref x0), (1, .int x1), (2, .int x2), (3, .int x3), (4, .int x4)]) hx hb dX0_meet_6 hl (by decide) rfl (fun ls hl => ?_)
    refine lv_iload hx hb dX0_meet_8 (lv_at hl 0 rfl) ?_
    refine lv_bipush (v := -2) hx hb dX0_meet_10 (by decide) ?_
    refine lv_icmp_eq (tgt := 30) hx hb dX0_meet_12 (by decide) (fun c1 => ?_) (fun c1 => ?_)
    · have hm := ifT hm c1
      exact hB30 h _ _ _ _ _ hm hw (by omega) (by omega) (lv_sub hl [] rfl)
    · have hm := ifF hm c1
      refine lv_iload_n hx hb dX0_meet_15 rfl (lv_at hl 4 rfl) ?_
      obtain ⟨r2, er2, hm⟩ := bdE hm
      refine sci (va_runS (As := [.int x3]) (rest := []) ⟨hx, hb, hml, hown, hts⟩ (w_X0_isSide l er2) (cw_X0_isSide hts q896 ⟨Nat.le_of_ble_eq_true rfl, Nat.le_of_ble_eq_true rfl⟩) (pre_s _) rfl rfl hl.1 rfl (lv_room (Nat.le_of_ble_eq_true rfl)) dX0_meet_16 ⟨show cc + 0 ≤ u9.1 - u.1 by omega, show ss + 0 ≤ u9.2.1 - u.2.1 by omega⟩) ?_
      refine lv_if_eq (tgt := 30) hx hb dX0_meet_19 (by decide) (fun c3 => ?_) (fun c3 => ?_)
      · have hm := ifT hm c3
        exact hB30 h _ _ _ _ _ hm hw (by omega) (by omega) (lv_sub hl [] rfl)
      · have hm := ifF hm c3
        refine lv_iload hx hb dX0_meet_22 (lv_at hl 5 rfl) ?_
        obtain ⟨r4, er4, hm⟩ := bdE hm
        refine sci (va_runS (As := [.int x4]) (rest := []) ⟨hx, hb, hml, hown, hts⟩ (w_X0_isSide l er4) (cw_X0_isSide hts q896 ⟨Nat.le_of_ble_eq_true rfl, Nat.le_of_ble_eq_true rfl⟩) (pre_s _) rfl rfl hl.1 rfl (lv_room (Nat.le_of_ble_eq_true rfl)) dX0_meet_24 ⟨show cc + 0 ≤ u9.1 - u.1 by omega, show ss + 0 ≤ u9.2.1 - u.2.1 by omega⟩) ?_
        refine lv_if_ne (tgt := 34) hx hb dX0_meet_27 (by decide) (fun c5 => ?_) (fun c5 => ?_)
        · have hm := ifT hm c5
          refine lv_iload hx hb dX0_meet_34 (lv_at hl 0 rfl) ?_
          refine lv_if_ge (tgt := 45) hx hb dX0_meet_36 (by decide) (fun c6 => ?_) (fun c6 => ?_)
          · have hm := ifT hm c6
            refine lv_aload_n hx hb dX0_meet_45 rfl (lv_at hl 1 rfl) ?_
            refine lv_iload_n hx hb dX0_meet_46 rfl (lv_at hl 2 rfl) ?_
            refine lv_iload_n hx hb dX0_meet_47 rfl (lv_at hl 3 rfl) ?_
            obtain ⟨g7, hm⟩ := gdE hm
            obtain ⟨a9, h8, ea9, hm⟩ := bd2E hm
            have lh8 := mo_X0_meetOf ea9
            have ph8 : h.1 ≤ h8.1 := lh8.1
            have qh8 : h.2.1 ≤ h8.2.1 := lh8.2.1
            have hmo := mo_X0_meet_51   h8 x3 x4 a9 _ hm
            have sh8 : h8.1 ≤ u9.1 := hmo.1
            have th8 : h8.2.1 ≤ u9.2.1 := hmo.2.1
            refine cg_callr hw lh8 (va_runV (As := [.int x1, .int x2]) (rest := []) ⟨hx, hb, hml, hown, hts⟩ (w_X0_meetOf l ea9) (cw_X0_meetOf hts q1104 ⟨Nat.le_of_ble_eq_true rfl, Nat.le_of_ble_eq_true rfl⟩) (cg_preV C hw g7 rfl _) rfl rfl hl.1 rfl (lv_room (Nat.le_of_ble_eq_true rfl)) dX0_meet_48 ⟨show cc + (h8.1 - h.1) ≤ u9.1 - u.1 by omega, show ss + (h8.2.1 - h.2.1) ≤ u9.2.1 - u.2.1 by omega⟩) (fun H locs hw => ?_)
            exact hB51 h8 x3 x4 a9 _ _ _ _ _ hm hw (by omega) (by omega) (lv_sub hl [4, 5] rfl)
          · have hm := ifF hm c6
            refine lv_iload hx hb dX0_meet_39 (lv_at hl 0 rfl) ?_
            refine lv_i2l hx hb dX0_meet_41 rfl ?_
            refine lv_goto (tgt := 62) hx hb dX0_meet_42 (by decide) ?_
            exact hB62 h (Int32.toInt64 y0) _ _ _ _ _ hm hw (by omega) (by omega) (lv_sub hl [] rfl)
        · have hm := ifT' hm c5
          exact hB30 h _ _ _ _ _ hm hw (by omega) (by omega) (lv_sub hl [] rfl)
  rw [m_X0_meet] at hm
  refine lv_aload_n hx hb dX0_meet_0 rfl (lv_at hl 0 rfl) ?_
  refine lv_iload_n hx hb dX0_meet_1 rfl (lv_at hl 1 rfl) ?_
  refine lv_iload_n hx hb dX0_meet_2 rfl (lv_at hl 2 rfl) ?_
  obtain ⟨g1, hm⟩ := gdE hm
  obtain ⟨r3, h2, er3, hm⟩ := bd2E hm
  have lh2 := mo_X0_asks er3
  have ph2 : u.1 ≤ h2.1 := lh2.1
  have qh2 : u.2.1 ≤ h2.2.1 := lh2.2.1
  have hmo := mo_X0_meet_6   h2 x0 x1 x2 x3 x4 r3 _ hm
  have sh2 : h2.1 ≤ u9.1 := hmo.1
  have th2 : h2.2.1 ≤ u9.2.1 := hmo.2.1
  refine cg_calli hw lh2 (va_runV (As := [.int x1, .int x2]) (rest := []) ⟨hx, hb, hml, hown, hts⟩ (w_X0_asks l er3) (cw_X0_asks hts q1096 ⟨Nat.le_of_ble_eq_true rfl, Nat.le_of_ble_eq_true rfl⟩) (cg_preV C hw g1 rfl _) rfl rfl hl.1 rfl (lv_room (Nat.le_of_ble_eq_true rfl)) dX0_meet_3 ⟨show cc + (h2.1 - u.1) ≤ u9.1 - u.1 by omega, show ss + (h2.2.1 - u.2.1) ≤ u9.2.1 - u.2.1 by omega⟩) (fun H locs hw => ?_)
  exact hB6 h2 x0 x1 x2 x3 x4 r3 _ _ _ _ _ hm hw (by omega) (by omega) (lv_sub hl [0, 1, 2, 3, 4] rfl)
def m_X0_joinOf_61 (f : Nat) (h : CH) (y0 : Nat) : Option (Nat × CH) := some (y0, h)
theorem mo_X0_joinOf_61 {f : Nat} : ∀ (h : CH) (y0 : Nat) (r : (Nat × CH)), m_X0_joinOf_61 f h y0 = some r → le2 h r.2 := by
  intro h y0 r hm
  rw [m_X0_joinOf_61] at hm
  cases hm
  exact le2.rf
def m_X0_joinOf_51 (f : Nat) (h : CH) (x3 : Int64) (x6 : Nat) (y0 : Nat) : Option (Nat × CH) := bd (oR h 2 0 x6) fun a1 =>
    bd (m_X10_init f h y0 a1 x3) fun h2 =>
    m_X0_joinOf_61 f h2 y0
theorem mo_X0_joinOf_51 {f : Nat} : ∀ (h : CH) (x3 : Int64) (x6 : Nat) (y0 : Nat) (r : (Nat × CH)), m_X0_joinOf_51 f h x3 x6 y0 = some r → le2 h r.2 := by
  intro h x3 x6 y0 r hm
  rw [m_X0_joinOf_51] at hm
  obtain ⟨a1, ea1, hm⟩ := bdE hm
  obtain ⟨h2, eh2, hm⟩ := bdE hm
  have lh2 := mo_X10_init eh2
  exact (lh2.tr (mo_X0_joinOf_61  h2 y0 _ hm))
def m_X0_joinOf_48 (f : Nat) (h : CH) (x3 : Int64) (x6 : Nat) : Option (Nat × CH) := nmv (cn h 2 (.inl (10, [.null, .long 0]))) fun h1 =>
    nmv (h.1 : Nat) fun a2 =>
    m_X0_joinOf_51 f h1 x3 x6 a2
theorem mo_X0_joinOf_48 {f : Nat} : ∀ (h : CH) (x3 : Int64) (x6 : Nat) (r : (Nat × CH)), m_X0_joinOf_48 f h x3 x6 = some r → le2 h r.2 := by
  intro h x3 x6 r hm
  rw [m_X0_joinOf_48] at hm
  obtain ⟨h1, eh1, hm⟩ := nmE hm
  have lh1 := cn_le eh1
  obtain ⟨a2, ea2, hm⟩ := nmE hm
  exact (lh1.tr (mo_X0_joinOf_51  h1 x3 x6 a2 _ hm))
def m_X0_joinOf_45 (f : Nat) (h : CH) (x3 : Int64) (x6 : Nat) (y0 : Nat) (y1 : Nat) : Option (Nat × CH) := gd (isC h y0 2) <|
    bd (m_X1_takesAll f h y0 y1) fun h2 =>
    m_X0_joinOf_48 f h2 x3 x6
theorem mo_X0_joinOf_45 {f : Nat} : ∀ (h : CH) (x3 : Int64) (x6 : Nat) (y0 : Nat) (y1 : Nat) (r : (Nat × CH)), m_X0_joinOf_45 f h x3 x6 y0 y1 = some r → le2 h r.2 := by
  intro h x3 x6 y0 y1 r hm
  rw [m_X0_joinOf_45] at hm
  obtain ⟨g1, hm⟩ := gdE hm
  obtain ⟨h2, eh2, hm⟩ := bdE hm
  have lh2 := mo_X1_takesAll eh2
  exact (lh2.tr (mo_X0_joinOf_48  h2 x3 x6 _ hm))
def m_X0_joinOf_37 (f : Nat) (h : CH) (x0 : Nat) (x2 : Int32) (x3 : Int64) (x6 : Nat) : Option (Nat × CH) := gd (isC h x0 1) <|
    bd2 (m_X0_rowsBy f h x0 x2 x3) fun a3 h2 =>
    m_X0_joinOf_45 f h2 x3 x6 x6 a3
theorem mo_X0_joinOf_37 {f : Nat} : ∀ (h : CH) (x0 : Nat) (x2 : Int32) (x3 : Int64) (x6 : Nat) (r : (Nat × CH)), m_X0_joinOf_37 f h x0 x2 x3 x6 = some r → le2 h r.2 := by
  intro h x0 x2 x3 x6 r hm
  rw [m_X0_joinOf_37] at hm
  obtain ⟨g1, hm⟩ := gdE hm
  obtain ⟨a3, h2, ea3, hm⟩ := bd2E hm
  have lh2 := mo_X0_rowsBy ea3
  exact (lh2.tr (mo_X0_joinOf_45  h2 x3 x6 x6 a3 _ hm))
def m_X0_joinOf_28 (f : Nat) (h : CH) (x0 : Nat) (x2 : Int32) (x3 : Int64) (x5 : Nat) (y0 : Nat) : Option (Nat × CH) := gd (isC h y0 2) <|
    bd (m_X1_takesAll f h y0 x5) fun h2 =>
    m_X0_joinOf_37 f h2 x0 x2 x3 y0
theorem mo_X0_joinOf_28 {f : Nat} : ∀ (h : CH) (x0 : Nat) (x2 : Int32) (x3 : Int64) (x5 : Nat) (y0 : Nat) (r : (Nat × CH)), m_X0_joinOf_28 f h x0 x2 x3 x5 y0 = some r → le2 h r.2 := by
  intro h x0 x2 x3 x5 y0 r hm
  rw [m_X0_joinOf_28] at hm
  obtain ⟨g1, hm⟩ := gdE hm
  obtain ⟨h2, eh2, hm⟩ := bdE hm
  have lh2 := mo_X1_takesAll eh2
  exact (lh2.tr (mo_X0_joinOf_37  h2 x0 x2 x3 y0 _ hm))
def m_X0_joinOf_25 (f : Nat) (h : CH) (x0 : Nat) (x2 : Int32) (x3 : Int64) (x5 : Nat) (y0 : Nat) (y1 : Nat) (y2 : Int64) : Option (Nat × CH) := bd (m_X1_init f h y1 y2) fun h1 =>
    m_X0_joinOf_28 f h1 x0 x2 x3 x5 y0
theorem mo_X0_joinOf_25 {f : Nat} : ∀ (h : CH) (x0 : Nat) (x2 : Int32) (x3 : Int64) (x5 : Nat) (y0 : Nat) (y1 : Nat) (y2 : Int64) (r : (Nat × CH)), m_X0_joinOf_25 f h x0 x2 x3 x5 y0 y1 y2 = some r → le2 h r.2 := by
  intro h x0 x2 x3 x5 y0 y1 y2 r hm
  rw [m_X0_joinOf_25] at hm
  obtain ⟨h1, eh1, hm⟩ := bdE hm
  have lh1 := mo_X1_init eh1
  exact (lh1.tr (mo_X0_joinOf_28  h1 x0 x2 x3 x5 y0 _ hm))
def m_X0_joinOf_18 (f : Nat) (h : CH) (x0 : Nat) (x2 : Int32) (x3 : Int64) (x5 : Nat) (y0 : Nat) : Option (Nat × CH) := gd (isC h x5 3) <|
    bd2 (m_X2_smith f h x5 (2 : Int32)) fun r3 h2 =>
    m_X0_joinOf_25 f h2 x0 x2 x3 x5 y0 y0 r3
theorem mo_X0_joinOf_18 {f : Nat} : ∀ (h : CH) (x0 : Nat) (x2 : Int32) (x3 : Int64) (x5 : Nat) (y0 : Nat) (r : (Nat × CH)), m_X0_joinOf_18 f h x0 x2 x3 x5 y0 = some r → le2 h r.2 := by
  intro h x0 x2 x3 x5 y0 r hm
  rw [m_X0_joinOf_18] at hm
  obtain ⟨g1, hm⟩ := gdE hm
  obtain ⟨r3, h2, er3, hm⟩ := bd2E hm
  have lh2 := mo_X2_smith er3
  exact (lh2.tr (mo_X0_joinOf_25  h2 x0 x2 x3 x5 y0 y0 r3 _ hm))
def m_X0_joinOf_13 (f : Nat) (h : CH) (x0 : Nat) (x2 : Int32) (x3 : Int64) (y0 : Nat) : Option (Nat × CH) := nmv (cn h 3 (.inl (2, [.null, .null, .long 0]))) fun h1 =>
    nmv (h.1 : Nat) fun a2 =>
    m_X0_joinOf_18 f h1 x0 x2 x3 y0 a2
theorem mo_X0_joinOf_13 {f : Nat} : ∀ (h : CH) (x0 : Nat) (x2 : Int32) (x3 : Int64) (y0 : Nat) (r : (Nat × CH)), m_X0_joinOf_13 f h x0 x2 x3 y0 = some r → le2 h r.2 := by
  intro h x0 x2 x3 y0 r hm
  rw [m_X0_joinOf_13] at hm
  obtain ⟨h1, eh1, hm⟩ := nmE hm
  have lh1 := cn_le eh1
  obtain ⟨a2, ea2, hm⟩ := nmE hm
  exact (lh1.tr (mo_X0_joinOf_18  h1 x0 x2 x3 y0 a2 _ hm))
def m_X0_joinOf_6 (f : Nat) (h : CH) (x0 : Nat) (x1 : Int32) (x2 : Int32) (y0 : Int64) : Option (Nat × CH) := gd (isC h x0 1) <|
    bd2 (m_X0_rowsBy f h x0 x1 y0) fun a3 h2 =>
    m_X0_joinOf_13 f h2 x0 x2 y0 a3
theorem mo_X0_joinOf_6 {f : Nat} : ∀ (h : CH) (x0 : Nat) (x1 : Int32) (x2 : Int32) (y0 : Int64) (r : (Nat × CH)), m_X0_joinOf_6 f h x0 x1 x2 y0 = some r → le2 h r.2 := by
  intro h x0 x1 x2 y0 r hm
  rw [m_X0_joinOf_6] at hm
  obtain ⟨g1, hm⟩ := gdE hm
  obtain ⟨a3, h2, ea3, hm⟩ := bd2E hm
  have lh2 := mo_X0_rowsBy ea3
  exact (lh2.tr (mo_X0_joinOf_13  h2 x0 x2 y0 a3 _ hm))
def m_X0_joinOf (f : Nat) (u : CH) (x0 : Nat) (x1 : Int32) (x2 : Int32) : Option (Nat × CH) := gd (isC u x0 1) <|
    bd2 (m_X0_overBoth f u x0 x1 x2) fun r3 h2 =>
    m_X0_joinOf_6 f h2 x0 x1 x2 r3
theorem mo_X0_joinOf {f : Nat} {u : CH} {x0 : Nat} {x1 : Int32} {x2 : Int32} {r0 : Nat} {u9 : CH} (hm : m_X0_joinOf f u x0 x1 x2 = some (r0, u9)) : le2 u u9 := by
  rw [m_X0_joinOf] at hm
  obtain ⟨g1, hm⟩ := gdE hm
  obtain ⟨r3, h2, er3, hm⟩ := bd2E hm
  have lh2 := mo_X0_overBoth er3
  exact (lh2.tr (mo_X0_joinOf_6  h2 x0 x1 x2 r3 _ hm))
abbrev rm_X0_joinOf (mc ms : Nat) : Room := { frames := 106, cells := mc, slots := ms, locals := 4150 }
theorem cw_X0_joinOf {R : Room} {s : State} {args : Array Value} {own : String} {idx mc ms : Nat} (hts : ∀ w ∈ lw_all, w.before args s = true) (hl : Cond.methodLink own idx yX0_joinOf ∈ lw_all) (hR : 106 + 1 ≤ R.frames ∧ 8 + (7 + 11) + 4150 ≤ R.locals) : CallW R s args own RX0 idx yX0_joinOf cX0_joinOf 7 (Option.some (Jvm.ClassFile.FieldType.object "CoincideBench$Both")) (ws_ yX0_joinOf cX0_joinOf 7 (Option.some (Jvm.ClassFile.FieldType.object "CoincideBench$Both"))) (rm_X0_joinOf mc ms) mc ms 2 := cwV 2 hts (lw_V hl q1177 qs30 q119 q1178) rfl rfl rfl (by decide +kernel) hR
set_option maxHeartbeats 4000000 in
set_option maxRecDepth 100000 in
theorem w_X0_joinOf (l : Launch) {D : va_G} {dA : Nat → ClassId} {A : Nat → Prop} {f : Nat} {u u9 : CH} {r0 : Nat} {x0 : Nat} {x1 : Int32} {x2 : Int32} (hm : m_X0_joinOf f u x0 x1 x2 = some (r0, u9)) : Met l yX0_joinOf (ws_ yX0_joinOf cX0_joinOf 7 (Option.some (Jvm.ClassFile.FieldType.object "CoincideBench$Both"))) (rm_X0_joinOf (u9.1 - u.1) (u9.2.1 - u.2.1)) (va_Pc [.ref x0, .int x1, .int x2] (CPre D dA A u)) (va_Qr (fun u => u = u9) (fun u r t => r = r0 ∧ CPost D dA A u t) A) (u9.1 - u.1) (u9.2.1 - u.2.1) A := by
  refine Met.ofW (cc := cX0_joinOf) (maxL := 7) (ret := (Option.some (Jvm.ClassFile.FieldType.object "CoincideBench$Both"))) (by decide) rfl ?_
  intro p e s m args below meth c s₁ B hml hv
  have hx := B.exec
  have hb := B.bytes
  have hr := B.returns
  have hts := atoms_spec (ws := (ws_ yX0_joinOf cX0_joinOf 7 (Option.some (Jvm.ClassFile.FieldType.object "CoincideBench$Both")))) B.pre
  have hts : ∀ w ∈ lw_all, w.before args s = true := fun w h => hts w (List.mem_cons_of_mem _ h)
  have hown : s.vm.findClass RX0 = some m.cls := findClass_of_methodNamed B.named
  have hlocks := B.notSynchronized
  obtain ⟨hav, hv⟩ := hv
  have C : CX p s m args c cX0_joinOf RX0 D dA := ⟨hx, hb, hown, hts, hv.2⟩
  have hw : CW D dA A s u s.heap [] := hv.1
  generalize hQ : MQ below (va_Qr (fun u => u = u9) (fun u r t => r = r0 ∧ CPost D dA A u t) A) args s (u9.1 - u.1) (u9.2.1 - u.2.1) A = QQ
  have hent := lg_entry_eq m [.ref x0, .int x1, .int x2] 7
  rw [← hav] at hent
  rw [hent]
  have hl := lv_entry ([.ref x0, .int x1, .int x2]) (n := 7) (Nat.le_of_ble_eq_true rfl)
  generalize (lg_sl ([.ref x0, .int x1, .int x2]) ++ List.replicate (7 - (lg_sl ([.ref x0, .int x1, .int x2])).length) Slot.unset).toArray = ls at hl ⊢
  have hl : lv_has ls 7 [(0, .ref x0), (1, .int x1), (2, .int x2)] := hl
  obtain ⟨cc, ecc⟩ : ∃ z : Nat, z = 0 := ⟨0, rfl⟩
  obtain ⟨ss, ess⟩ : ∃ z : Nat, z = 0 := ⟨0, rfl⟩
  have hcc : cc + u.1 = u.1 := by omega
  have hss : ss + u.2.1 = u.2.1 := by omega
  suffices hgo : W p l e (rm_X0_joinOf (u9.1 - u.1) (u9.2.1 - u.2.1)) s m args below meth c s.heap [] cc ss QQ (F0 m 0 ls []) by rw [ecc, ess] at hgo; exact hgo
  have ⟨pu, qu, _, _⟩ := mo_X0_joinOf hm
  have hB61 : ∀ (h : CH) (y0 : Nat) (cc ss : Nat) (H : Heap) (locs : List Loc) (ls : Array Slot), m_X0_joinOf_61 f h y0 = some (r0, u9) → CW D dA A s h H locs → cc + u.1 = h.1 → ss + u.2.1 = h.2.1 → lv_has ls 7 [] → W p l e (rm_X0_joinOf (u9.1 - u.1) (u9.2.1 - u.2.1)) s m args below meth c H locs cc ss QQ (F0 m 61 ls [.ref y0]) := by
    intro h y0 cc ss H locs ls hm hw hcc hss hl
    have hmo := mo_X0_joinOf_61  h y0 _ hm
    have sb_ : h.1 ≤ u9.1 := hmo.1
    have tb_ : h.2.1 ≤ u9.2.1 := hmo.2.1
    rw [m_X0_joinOf_61] at hm
    obtain ⟨er, eh⟩ := retE hm
    have ec : cc = u9.1 - u.1 := by rw [← eh]; omega
    have es : ss = u9.2.1 - u.2.1 := by rw [← eh]; omega
    rw [ec, es, ← hQ]
    exact W.aret (v := .ref y0) hx hb hr (Or.inl ⟨_, rfl⟩) (Or.inr ⟨_, rfl⟩) (fun t ht hW => ⟨⟨h, y0, rfl, eh, er, ⟨by rw [ht]; exact hw.1, by rw [ht]; exact hw.2.1⟩⟩, hw.2.2.1.F ht⟩) hw.2.2.1.2.2 dX0_joinOf_61
  have hB51 : ∀ (h : CH) (x3 : Int64) (x6 : Nat) (y0 : Nat) (cc ss : Nat) (H : Heap) (locs : List Loc) (ls : Array Slot), m_X0_joinOf_51 f h x3 x6 y0 = some (r0, u9) → CW D dA A s h H locs → cc + u.1 = h.1 → ss + u.2.1 = h.2.1 → lv_has ls 7 [(3, .long x3), (6, .ref x6)] → W p l e (rm_X0_joinOf (u9.1 - u.1) (u9.2.1 - u.2.1)) s m args below meth c H locs cc ss QQ (F0 m 51 ls [.ref y0]) := by
    intro h x3 x6 y0 cc ss H locs ls hm hw hcc hss hl
    have hmo := mo_X0_joinOf_51  h x3 x6 y0 _ hm
    have sb_ : h.1 ≤ u9.1 := hmo.1
    have tb_ : h.2.1 ≤ u9.2.1 := hmo.2.1
    rw [m_X0_joinOf_51] at hm
    refine lv_dup hx hb dX0_joinOf_51 rfl ?_
    refine lv_aload hx hb dX0_joinOf_52 (lv_at hl 1 rfl) ?_
    obtain ⟨a1, ea1, hm⟩ := bdE hm
    refine cg_getN C hw (by decide) (oR_E ea1) rfl in_X1 (by decide) (hw.2.2.2.2.1 _ (List.mem_of_getElem? (i := 13) rfl)) dX0_joinOf_54 ?_
    refine lv_lload_n hx hb dX0_joinOf_57 rfl (lv_at hl 0 rfl) ?_
    obtain ⟨h2, eh2, hm⟩ := bdE hm
    have lh2 := mo_X10_init eh2
    have ph2 : h.1 ≤ h2.1 := lh2.1
    have qh2 : h.2.1 ≤ h2.2.1 := lh2.2.1
    have hmo := mo_X0_joinOf_61   h2 y0 _ hm
    have sh2 : h2.1 ≤ u9.1 := hmo.1
    have th2 : h2.2.1 ≤ u9.2.1 := hmo.2.1
    refine cg_callv hw lh2 (va_runI (As := [.ref a1, .long x3]) (rest := [.ref y0]) ⟨hx, hb, hml, hown, hts⟩ (w_X10_init l eh2) (cw_X10_init hts q1151 ⟨Nat.le_of_ble_eq_true rfl, Nat.le_of_ble_eq_true rfl⟩) (cg_preS C hw _) rfl rfl hl.1 rfl (lv_room (Nat.le_of_ble_eq_true rfl)) dX0_joinOf_58 ⟨show cc + (h2.1 - h.1) ≤ u9.1 - u.1 by omega, show ss + (h2.2.1 - h.2.1) ≤ u9.2.1 - u.2.1 by omega⟩) (fun H locs hw => ?_)
    exact hB61 h2 y0 _ _ _ _ _ hm hw (by omega) (by omega) (lv_sub hl [] rfl)
  have hB48 : ∀ (h : CH) (x3 : Int64) (x6 : Nat) (cc ss : Nat) (H : Heap) (locs : List Loc) (ls : Array Slot), m_X0_joinOf_48 f h x3 x6 = some (r0, u9) → CW D dA A s h H locs → cc + u.1 = h.1 → ss + u.2.1 = h.2.1 → lv_has ls 7 [(3, .long x3), (6, .ref x6)] → W p l e (rm_X0_joinOf (u9.1 - u.1) (u9.2.1 - u.2.1)) s m args below meth c H locs cc ss QQ (F0 m 48 ls []) := by
    intro h x3 x6 cc ss H locs ls hm hw hcc hss hl
    have hmo := mo_X0_joinOf_48  h x3 x6 _ hm
    have sb_ : h.1 ≤ u9.1 := hmo.1
    have tb_ : h.2.1 ≤ u9.2.1 := hmo.2.1
    rw [m_X0_joinOf_48] at hm
    obtain ⟨h1, eh1, hm⟩ := nmE hm
    obtain ⟨_, _, hmq⟩ := nmE hm
    have hmo := mo_X0_joinOf_51   h1 x3 x6 _ _ hmq
    have sh1 : h1.1 ≤ u9.1 := hmo.1
    have th1 : h1.2.1 ≤ u9.2.1 := hmo.2.1
    have zh1 := cn_sz eh1
    refine cg_new (C0 := C) hw (ci := 10) (fs := [.null, .long 0]) rfl in_X10 tyX10 tyX10_ok q1149 q1150 q147 (fun j hj => by rcases (show j = 0 ∨ j = 1 by omega) with rfl | rfl <;> rfl) (show cc + 1 ≤ u9.1 - u.1 by omega) (show ss + 2 ≤ u9.2.1 - u.2.1 by omega) dX0_joinOf_48 (fun H hw => ?_)
    rw [← eh1] at hw
    refine lv_topr (fun a2 ea2 => ?_)
    have hm := nmK hm ea2
    exact hB51 h1 x3 x6 a2 _ _ _ _ _ hm hw (by omega) (by omega) (lv_sub hl [0, 1] rfl)
  have hB45 : ∀ (h : CH) (x3 : Int64) (x6 : Nat) (y0 : Nat) (y1 : Nat) (cc ss : Nat) (H : Heap) (locs : List Loc) (ls : Array Slot), m_X0_joinOf_45 f h x3 x6 y0 y1 = some (r0, u9) → CW D dA A s h H locs → cc + u.1 = h.1 → ss + u.2.1 = h.2.1 → lv_has ls 7 [(3, .long x3), (6, .ref x6)] → W p l e (rm_X0_joinOf (u9.1 - u.1) (u9.2.1 - u.2.1)) s m args below meth c H locs cc ss QQ (F0 m 45 ls [.ref y1, .ref y0]) := by
    intro h x3 x6 y0 y1 cc ss H locs ls hm hw hcc hss hl
    have hmo := mo_X0_joinOf_45  h x3 x6 y0 y1 _ hm
    have sb_ : h.1 ≤ u9.1 := hmo.1
    have tb_ : h.2.1 ≤ u9.2.1 := hmo.2.1
    rw [m_X0_joinOf_45] at hm
    obtain ⟨g1, hm⟩ := gdE hm
    obtain ⟨h2, eh2, hm⟩ := bdE hm
    have lh2 := mo_X1_takesAll eh2
    have ph2 : h.1 ≤ h2.1 := lh2.1
    have qh2 : h.2.1 ≤ h2.2.1 := lh2.2.1
    have hmo := mo_X0_joinOf_48   h2 x3 x6 _ hm
    have sh2 : h2.1 ≤ u9.1 := hmo.1
    have th2 : h2.2.1 ≤ u9.2.1 := hmo.2.1
    refine cg_callv hw lh2 (va_runV (As := [.ref y1]) (rest := []) ⟨hx, hb, hml, hown, hts⟩ (w_X1_takesAll l eh2) (cw_X1_takesAll hts q1144 ⟨Nat.le_of_ble_eq_true rfl, Nat.le_of_ble_eq_true rfl⟩) (cg_preV C hw g1 rfl _) rfl rfl hl.1 rfl (lv_room (Nat.le_of_ble_eq_true rfl)) dX0_joinOf_45 ⟨show cc + (h2.1 - h.1) ≤ u9.1 - u.1 by omega, show ss + (h2.2.1 - h.2.1) ≤ u9.2.1 - u.2.1 by omega⟩) (fun H locs hw => ?_)
    exact hB48 h2 x3 x6 _ _ _ _ _ hm hw (by omega) (by omega) (lv_sub hl [0, 1] rfl)
  have hB37 : ∀ (h : CH) (x0 : Nat) (x2 : Int32) (x3 : Int64) (x6 : Nat) (cc ss : Nat) (H : Heap) (locs : List Loc) (ls : Array Slot), m_X0_joinOf_37 f h x0 x2 x3 x6 = some (r0, u9) → CW D dA A s h H locs → cc + u.1 = h.1 → ss + u.2.1 = h.2.1 → lv_has ls 7 [(0, .ref x0), (2, .int x2), (3, .long x3), (6, .ref x6)] → W p l e (rm_X0_joinOf (u9.1 - u.1) (u9.2.1 - u.2.1)) s m args below meth c H locs cc ss QQ (F0 m 37 ls []) := by
    intro h x0 x2 x3 x6 cc ss H locs ls hm hw hcc hss hl
    have hmo := mo_X0_joinOf_37  h x0 x2 x3 x6 _ hm
    have sb_ : h.1 ≤ u9.1 := hmo.1
    have tb_ : h.2.1 ≤ u9.2.1 := hmo.2.1
    rw [m_X0_joinOf_37] at hm
    refine lv_aload hx hb dX0_joinOf_37 (lv_at hl 3 rfl) ?_
    refine lv_aload_n hx hb dX0_joinOf_39 rfl (lv_at hl 0 rfl) ?_
    refine lv_iload_n hx hb dX0_joinOf_40 rfl (lv_at hl 1 rfl) ?_
    refine lv_lload_n hx hb dX0_joinOf_41 rfl (lv_at hl 2 rfl) ?_
    obtain ⟨g1, hm⟩ := gdE hm
    obtain ⟨a3, h2, ea3, hm⟩ := bd2E hm
    have lh2 := mo_X0_rowsBy ea3
    have ph2 : h.1 ≤ h2.1 := lh2.1
    have qh2 : h.2.1 ≤ h2.2.1 := lh2.2.1
    have hmo := mo_X0_joinOf_45   h2 x3 x6 x6 a3 _ hm
    have sh2 : h2.1 ≤ u9.1 := hmo.1
    have th2 : h2.2.1 ≤ u9.2.1 := hmo.2.1
    refine cg_callr hw lh2 (va_runV (As := [.int x2, .long x3]) (rest := [.ref x6]) ⟨hx, hb, hml, hown, hts⟩ (w_X0_rowsBy l ea3) (cw_X0_rowsBy hts q1115 ⟨Nat.le_of_ble_eq_true rfl, Nat.le_of_ble_eq_true rfl⟩) (cg_preV C hw g1 rfl _) rfl rfl hl.1 rfl (lv_room (Nat.le_of_ble_eq_true rfl)) dX0_joinOf_42 ⟨show cc + (h2.1 - h.1) ≤ u9.1 - u.1 by omega, show ss + (h2.2.1 - h.2.1) ≤ u9.2.1 - u.2.1 by omega⟩) (fun H locs hw => ?_)
    exact hB45 h2 x3 x6 x6 a3 _ _ _ _ _ hm hw (by omega) (by omega) (lv_sub hl [2, 3] rfl)
  have hB28 : ∀ (h : CH) (x0 : Nat) (x2 : Int32) (x3 : Int64) (x5 : Nat) (y0 : Nat) (cc ss : Nat) (H : Heap) (locs : List Loc) (ls : Array Slot), m_X0_joinOf_28 f h x0 x2 x3 x5 y0 = some (r0, u9) → CW D dA A s h H locs → cc + u.1 = h.1 → ss + u.2.1 = h.2.1 → lv_has ls 7 [(0, .ref x0), (2, .int x2), (3, .long x3), (5, .ref x5)] → W p l e (rm_X0_joinOf (u9.1 - u.1) (u9.2.1 - u.2.1)) s m args below meth c H locs cc ss QQ (F0 m 28 ls [.ref y0]) := by
    intro h x0 x2 x3 x5 y0 cc ss H locs ls hm hw hcc hss hl
    have hmo := mo_X0_joinOf_28  h x0 x2 x3 x5 y0 _ hm
    have sb_ : h.1 ≤ u9.1 := hmo.1
    have tb_ : h.2.1 ≤ u9.2.1 := hmo.2.1
    rw [m_X0_joinOf_28] at hm
    refine lv_astore (lv' := [(6, .ref y0), (0, .ref x0), (2, .int x2), (3, .long x3), (5, .ref x5)]) hx hb dX0_joinOf_28 hl (by decide) rfl (fun ls hl => ?_)
    refine lv_aload hx hb dX0_joinOf_30 (lv_at hl 0 rfl) ?_
    refine lv_aload hx hb dX0_joinOf_32 (lv_at hl 4 rfl) ?_
    obtain ⟨g1, hm⟩ := gdE hm
    obtain ⟨h2, eh2, hm⟩ := bdE hm
    have lh2 := mo_X1_takesAll eh2
    have ph2 : h.1 ≤ h2.1 := lh2.1
    have qh2 : h.2.1 ≤ h2.2.1 := lh2.2.1
    have hmo := mo_X0_joinOf_37   h2 x0 x2 x3 y0 _ hm
    have sh2 : h2.1 ≤ u9.1 := hmo.1
    have th2 : h2.2.1 ≤ u9.2.1 := hmo.2.1
    refine cg_callv hw lh2 (va_runV (As := [.ref x5]) (rest := []) ⟨hx, hb, hml, hown, hts⟩ (w_X1_takesAll l eh2) (cw_X1_takesAll hts q1144 ⟨Nat.le_of_ble_eq_true rfl, Nat.le_of_ble_eq_true rfl⟩) (cg_preV C hw g1 rfl _) rfl rfl hl.1 rfl (lv_room (Nat.le_of_ble_eq_true rfl)) dX0_joinOf_34 ⟨show cc + (h2.1 - h.1) ≤ u9.1 - u.1 by omega, show ss + (h2.2.1 - h.2.1) ≤ u9.2.1 - u.2.1 by omega⟩) (fun H locs hw => ?_)
    exact hB37 h2 x0 x2 x3 y0 _ _ _ _ _ hm hw (by omega) (by omega) (lv_sub hl [1, 2, 3, 0] rfl)
  have hB25 : ∀ (h : CH) (x0 : Nat) (x2 : Int32) (x3 : Int64) (x5 : Nat) (y0 : Nat) (y1 : Nat) (y2 : Int64) (cc ss : Nat) (H : Heap) (locs : List Loc) (ls : Array Slot), m_X0_joinOf_25 f h x0 x2 x3 x5 y0 y1 y2 = some (r0, u9) → CW D dA A s h H locs → cc + u.1 = h.1 → ss + u.2.1 = h.2.1 → lv_has ls 7 [(0, .ref x0), (2, .int x2), (3, .long x3), (5, .ref x5)] → W p l e (rm_X0_joinOf (u9.1 - u.1) (u9.2.1 - u.2.1)) s m args below meth c H locs cc ss QQ (F0 m 25 ls [.long y2, .ref y1, .ref y0]) := by
    intro h x0 x2 x3 x5 y0 y1 y2 cc ss H locs ls hm hw hcc hss hl
    have hmo := mo_X0_joinOf_25  h x0 x2 x3 x5 y0 y1 y2 _ hm
    have sb_ : h.1 ≤ u9.1 := hmo.1
    have tb_ : h.2.1 ≤ u9.2.1 := hmo.2.1
    rw [m_X0_joinOf_25] at hm
    obtain ⟨h1, eh1, hm⟩ := bdE hm
    have lh1 := mo_X1_init eh1
    have ph1 : h.1 ≤ h1.1 := lh1.1
    have qh1 : h.2.1 ≤ h1.2.1 := lh1.2.1
    have hmo := mo_X0_joinOf_28   h1 x0 x2 x3 x5 y0 _ hm
    have sh1 : h1.1 ≤ u9.1 := hmo.1
    have th1 : h1.2.1 ≤ u9.2.1 := hmo.2.1
    refine cg_callv hw lh1 (va_runI (As := [.long y2]) (rest := [.ref y0]) ⟨hx, hb, hml, hown, hts⟩ (w_X1_init l eh1) (cw_X1_init hts q193 ⟨Nat.le_of_ble_eq_true rfl, Nat.le_of_ble_eq_true rfl⟩) (cg_preS C hw _) rfl rfl hl.1 rfl (lv_room (Nat.le_of_ble_eq_true rfl)) dX0_joinOf_25 ⟨show cc + (h1.1 - h.1) ≤ u9.1 - u.1 by omega, show ss + (h1.2.1 - h.2.1) ≤ u9.2.1 - u.2.1 by omega⟩) (fun H locs hw => ?_)
    exact hB28 h1 x0 x2 x3 x5 y0 _ _ _ _ _ hm hw (by omega) (by omega) (lv_sub hl [0, 1, 2, 3] rfl)
  have hB18 : ∀ (h : CH) (x0 : Nat) (x2 : Int32) (x3 : Int64) (x5 : Nat) (y0 : Nat) (cc ss : Nat) (H : Heap) (locs : List Loc) (ls : Array Slot), m_X0_joinOf_18 f h x0 x2 x3 x5 y0 = some (r0, u9) → CW D dA A s h H locs → cc + u.1 = h.1 → ss + u.2.1 = h.2.1 → lv_has ls 7 [(0, .ref x0), (2, .int x2), (3, .long x3), (5, .ref x5)] → W p l e (rm_X0_joinOf (u9.1 - u.1) (u9.2.1 - u.2.1)) s m args below meth c H locs cc ss QQ (F0 m 18 ls [.ref y0]) := by
    intro h x0 x2 x3 x5 y0 cc ss H locs ls hm hw hcc hss hl
    have hmo := mo_X0_joinOf_18  h x0 x2 x3 x5 y0 _ hm
    have sb_ : h.1 ≤ u9.1 := hmo.1
    have tb_ : h.2.1 ≤ u9.2.1 := hmo.2.1
    rw [m_X0_joinOf_18] at hm
    refine lv_dup hx hb dX0_joinOf_18 rfl ?_
    refine lv_aload hx hb dX0_joinOf_19 (lv_at hl 3 rfl) ?_
    refine lv_iconst (v := 2) hx hb dX0_joinOf_21 (by decide) ?_
    obtain ⟨g1, hm⟩ := gdE hm
    obtain ⟨r3, h2, er3, hm⟩ := bd2E hm
    have lh2 := mo_X2_smith er3
    have ph2 : h.1 ≤ h2.1 := lh2.1
    have qh2 : h.2.1 ≤ h2.2.1 := lh2.2.1
    have hmo := mo_X0_joinOf_25   h2 x0 x2 x3 x5 y0 y0 r3 _ hm
    have sh2 : h2.1 ≤ u9.1 := hmo.1
    have th2 : h2.2.1 ≤ u9.2.1 := hmo.2.1
    refine cg_calll hw lh2 (va_runV (As := [.int (2 : Int32)]) (rest := [.ref y0, .ref y0]) ⟨hx, hb, hml, hown, hts⟩ (w_X2_smith l er3) (cw_X2_smith hts q1068 ⟨Nat.le_of_ble_eq_true rfl, Nat.le_of_ble_eq_true rfl⟩) (cg_preV C hw g1 rfl _) rfl rfl hl.1 rfl (lv_room (Nat.le_of_ble_eq_true rfl)) dX0_joinOf_22 ⟨show cc + (h2.1 - h.1) ≤ u9.1 - u.1 by omega, show ss + (h2.2.1 - h.2.1) ≤ u9.2.1 - u.2.1 by omega⟩) (fun H locs hw => ?_)
    exact hB25 h2 x0 x2 x3 x5 y0 y0 r3 _ _ _ _ _ hm hw (by omega) (by omega) (lv_sub hl [0, 1, 2, 3] rfl)
  have hB13 : ∀ (h : CH) (x0 : Nat) (x2 : Int32) (x3 : Int64) (y0 : Nat) (cc ss : Nat) (H : Heap) (locs : List Loc) (ls : Array Slot), m_X0_joinOf_13 f h x0 x2 x3 y0 = some (r0, u9) → CW D dA A s h H locs → cc + u.1 = h.1 → ss + u.2.1 = h.2.1 → lv_has ls 7 [(0, .ref x0), (2, .int x2), (3, .long x3)] → W p l e (rm_X0_joinOf (u9.1 - u.1) (u9.2.1 - u.2.1)) s m args below meth c H locs cc ss QQ (F0 m 13 ls [.ref y0]) := by
    intro h x0 x2 x3 y0 cc ss H locs ls hm hw hcc hss hl
    have hmo := mo_X0_joinOf_13  h x0 x2 x3 y0 _ hm
    have sb_ : h.1 ≤ u9.1 := hmo.1
    have tb_ : h.2.1 ≤ u9.2.1 := hmo.2.1
    rw [m_X0_joinOf_13] at hm
    refine lv_astore (lv' := [(5, .ref y0), (0, .ref x0), (2, .int x2), (3, .long x3)]) hx hb dX0_joinOf_13 hl (by decide) rfl (fun ls hl => ?_)
    obtain ⟨h1, eh1, hm⟩ := nmE hm
    obtain ⟨_, _, hmq⟩ := nmE hm
    have hmo := mo_X0_joinOf_18   h1 x0 x2 x3 y0 _ _ hmq
    have sh1 : h1.1 ≤ u9.1 := hmo.1
    have th1 : h1.2.1 ≤ u9.2.1 := hmo.2.1
    have zh1 := cn_sz eh1
    refine cg_new (C0 := C) hw (ci := 2) (fs := [.null, .null, .long 0]) rfl in_X1 tyX1 tyX1_ok q191 q192 q123 (fun j hj => by rcases (show j = 0 ∨ j = 1 ∨ j = 2 by omega) with rfl | rfl | rfl <;> rfl) (show cc + 1 ≤ u9.1 - u.1 by omega) (show ss + 3 ≤ u9.2.1 - u.2.1 by omega) dX0_joinOf_15 (fun H hw => ?_)
    rw [← eh1] at hw
    refine lv_topr (fun a2 ea2 => ?_)
    have hm := nmK hm ea2
    exact hB18 h1 x0 x2 x3 y0 a2 _ _ _ _ _ hm hw (by omega) (by omega) (lv_sub hl [1, 2, 3, 0] rfl)
  have hB6 : ∀ (h : CH) (x0 : Nat) (x1 : Int32) (x2 : Int32) (y0 : Int64) (cc ss : Nat) (H : Heap) (locs : List Loc) (ls : Array Slot), m_X0_joinOf_6 f h x0 x1 x2 y0 = some (r0, u9) → CW D dA A s h H locs → cc + u.1 = h.1 → ss + u.2.1 = h.2.1 → lv_has ls 7 [(0, .ref x0), (1, .int x1), (2, .int x2)] → W p l e (rm_X0_joinOf (u9.1 - u.1) (u9.2.1 - u.2.1)) s m args below meth c H locs cc ss QQ (F0 m 6 ls [.long y0]) := by
    intro h x0 x1 x2 y0 cc ss H locs ls hm hw hcc hss hl
    have hmo := mo_X0_joinOf_6  h x0 x1 x2 y0 _ hm
    have sb_ : h.1 ≤ u9.1 := hmo.1
    have tb_ : h.2.1 ≤ u9.2.1 := hmo.2.1
    rw [m_X0_joinOf_6] at hm
    refine lv_lstore_n (lv' := [(3, .long y0), (0, .ref x0), (1, .int x1), (2, .int x2)]) hx hb dX0_joinOf_6 rfl hl (by decide) rfl (fun ls hl => ?_)
    refine lv_aload_n hx hb dX0_joinOf_7 rfl (lv_at hl 1 rfl) ?_
    refine lv_iload_n hx hb dX0_joinOf_8 rfl (lv_at hl 2 rfl) ?_
    refine lv_lload_n hx hb dX0_joinOf_9 rfl (lv_at hl 0 rfl) ?_
    obtain ⟨g1, hm⟩ := gdE hm
    obtain ⟨a3, h2, ea3, hm⟩ := bd2E hm
    have lh2 := mo_X0_rowsBy ea3
    have ph2 : h.1 ≤ h2.1 := lh2.1
    have qh2 : h.2.1 ≤ h2.2.1 := lh2.2.1
    have hmo := mo_X0_joinOf_13   h2 x0 x2 y0 a3 _ hm
    have sh2 : h2.1 ≤ u9.1 := hmo.1
    have th2 : h2.2.1 ≤ u9.2.1 := hmo.2.1
    refine cg_callr hw lh2 (va_runV (As := [.int x1, .long y0]) (rest := []) ⟨hx, hb, hml, hown, hts⟩ (w_X0_rowsBy l ea3) (cw_X0_rowsBy hts q1115 ⟨Nat.le_of_ble_eq_true rfl, Nat.le_of_ble_eq_true rfl⟩) (cg_preV C hw g1 rfl _) rfl rfl hl.1 rfl (lv_room (Nat.le_of_ble_eq_true rfl)) dX0_joinOf_10 ⟨show cc + (h2.1 - h.1) ≤ u9.1 - u.1 by omega, show ss + (h2.2.1 - h.2.1) ≤ u9.2.1 - u.2.1 by omega⟩) (fun H locs hw => ?_)
    exact hB13 h2 x0 x2 y0 a3 _ _ _ _ _ hm hw (by omega) (by omega) (lv_sub hl [1, 3, 0] rfl)
  rw [m_X0_joinOf] at hm
  refine lv_aload_n hx hb dX0_joinOf_0 rfl (lv_at hl 0 rfl) ?_
  refine lv_iload_n hx hb dX0_joinOf_1 rfl (lv_at hl 1 rfl) ?_
  refine lv_iload_n hx hb dX0_joinOf_2 rfl (lv_at hl 2 rfl) ?_
  obtain ⟨g1, hm⟩ := gdE hm
  obtain ⟨r3, h2, er3, hm⟩ := bd2E hm
  have lh2 := mo_X0_overBoth er3
  have ph2 : u.1 ≤ h2.1 := lh2.1
  have qh2 : u.2.1 ≤ h2.2.1 := lh2.2.1
  have hmo := mo_X0_joinOf_6   h2 x0 x1 x2 r3 _ hm
  have sh2 : h2.1 ≤ u9.1 := hmo.1
  have th2 : h2.2.1 ≤ u9.2.1 := hmo.2.1
  refine cg_calll hw lh2 (va_runV (As := [.int x1, .int x2]) (rest := []) ⟨hx, hb, hml, hown, hts⟩ (w_X0_overBoth l er3) (cw_X0_overBoth hts q1108 ⟨Nat.le_of_ble_eq_true rfl, Nat.le_of_ble_eq_true rfl⟩) (cg_preV C hw g1 rfl _) rfl rfl hl.1 rfl (lv_room (Nat.le_of_ble_eq_true rfl)) dX0_joinOf_3 ⟨show cc + (h2.1 - u.1) ≤ u9.1 - u.1 by omega, show ss + (h2.2.1 - u.2.1) ≤ u9.2.1 - u.2.1 by omega⟩) (fun H locs hw => ?_)
  exact hB6 h2 x0 x1 x2 r3 _ _ _ _ _ hm hw (by omega) (by omega) (lv_sub hl [0, 1, 2] rfl)
def m_X0_joinOver_25 (f : Nat) (h : CH) (y0 : Int32) : Option (Int32 × CH) := some (y0, h)
theorem mo_X0_joinOver_25 {f : Nat} : ∀ (h : CH) (y0 : Int32) (r : (Int32 × CH)), m_X0_joinOver_25 f h y0 = some r → le2 h r.2 := by
  intro h y0 r hm
  rw [m_X0_joinOver_25] at hm
  cases hm
  exact le2.rf
def m_X0_joinOver_21 (f : Nat) (h : CH) (y0 : Nat) : Option (Int32 × CH) := bd (oL h 10 1 y0) fun v1 =>
    m_X0_joinOver_25 f h (Int64.toInt32 v1)
theorem mo_X0_joinOver_21 {f : Nat} : ∀ (h : CH) (y0 : Nat) (r : (Int32 × CH)), m_X0_joinOver_21 f h y0 = some r → le2 h r.2 := by
  intro h y0 r hm
  rw [m_X0_joinOver_21] at hm
  obtain ⟨v1, ev1, hm⟩ := bdE hm
  exact (mo_X0_joinOver_25  h (Int64.toInt32 v1) _ hm)
def m_X0_joinOver_6 (f : Nat) (h : CH) (x0 : Nat) (x1 : Int32) (x2 : Int32) (y0 : Int32) : Option (Int32 × CH) := if 0 ≤ y0 then
    gd (isC h x0 1) <|
    bd2 (m_X0_joinOf f h x0 x1 x2) fun a4 h3 =>
    m_X0_joinOver_21 f h3 a4
    else m_X0_joinOver_25 f h y0
theorem mo_X0_joinOver_6 {f : Nat} : ∀ (h : CH) (x0 : Nat) (x1 : Int32) (x2 : Int32) (y0 : Int32) (r : (Int32 × CH)), m_X0_joinOver_6 f h x0 x1 x2 y0 = some r → le2 h r.2 := by
  intro h x0 x1 x2 y0 r hm
  rw [m_X0_joinOver_6] at hm
  by_cases c1 : 0 ≤ y0
  · have hm := ifT hm c1
    obtain ⟨g2, hm⟩ := gdE hm
    obtain ⟨a4, h3, ea4, hm⟩ := bd2E hm
    have lh3 := mo_X0_joinOf ea4
    exact (lh3.tr (mo_X0_joinOver_21  h3 a4 _ hm))
  · have hm := ifF hm c1
    exact (mo_X0_joinOver_25  h y0 _ hm)
def m_X0_joinOver (f : Nat) (u : CH) (x0 : Nat) (x1 : Int32) (x2 : Int32) : Option (Int32 × CH) := gd (isC u x0 1) <|
    bd2 (m_X0_asks f u x0 x1 x2) fun r3 h2 =>
    m_X0_joinOver_6 f h2 x0 x1 x2 r3
theorem mo_X0_joinOver {f : Nat} {u : CH} {x0 : Nat} {x1 : Int32} {x2 : Int32} {r0 : Int32} {u9 : CH} (hm : m_X0_joinOver f u x0 x1 x2 = some (r0, u9)) : le2 u u9 := by
  rw [m_X0_joinOver] at hm
  obtain ⟨g1, hm⟩ := gdE hm
  obtain ⟨r3, h2, er3, hm⟩ := bd2E hm
  have lh2 := mo_X0_asks er3
  exact (lh2.tr (mo_X0_joinOver_6  h2 x0 x1 x2 r3 _ hm))
abbrev rm_X0_joinOver (mc ms : Nat) : Room := { frames := 107, cells := mc, slots := ms, locals := 4176 }
theorem cw_X0_joinOver {R : Room} {s : State} {args : Array Value} {own : String} {idx mc ms : Nat} (hts : ∀ w ∈ lw_all, w.before args s = true) (hl : Cond.methodLink own idx yX0_joinOver ∈ lw_all) (hR : 107 + 1 ≤ R.frames ∧ 8 + (4 + 11) + 4176 ≤ R.locals) : CallW R s args own RX0 idx yX0_joinOver cX0_joinOver 4 (Option.some Jvm.ClassFile.FieldType.int) (ws_ yX0_joinOver cX0_joinOver 4 (Option.some Jvm.ClassFile.FieldType.int)) (rm_X0_joinOver mc ms) mc ms 2 := cwV 2 hts (lw_V hl q1172 q1173 q119 q1174) rfl rfl rfl (by decide +kernel) hR
set_option maxHeartbeats 4000000 in
set_option maxRecDepth 100000 in
theorem w_X0_joinOver (l : Launch) {D : va_G} {dA : Nat → ClassId} {A : Nat → Prop} {f : Nat} {u u9 : CH} {r0 : Int32} {x0 : Nat} {x1 : Int32} {x2 : Int32} (hm : m_X0_joinOver f u x0 x1 x2 = some (r0, u9)) : Met l yX0_joinOver (ws_ yX0_joinOver cX0_joinOver 4 (Option.some Jvm.ClassFile.FieldType.int)) (rm_X0_joinOver (u9.1 - u.1) (u9.2.1 - u.2.1)) (va_Pc [.ref x0, .int x1, .int x2] (CPre D dA A u)) (va_Qi (fun r u => r = r0 ∧ u = u9) (CPost D dA A) A) (u9.1 - u.1) (u9.2.1 - u.2.1) A := by
  refine Met.ofW (cc := cX0_joinOver) (maxL := 4) (ret := (Option.some Jvm.ClassFile.FieldType.int)) (by decide) rfl ?_
  intro p e s m args below meth c s₁ B hml hv
  have hx := B.exec
  have hb := B.bytes
  have hr := B.returns
  have hts := atoms_spec (ws := (ws_ yX0_joinOver cX0_joinOver 4 (Option.some Jvm.ClassFile.FieldType.int))) B.pre
  have hts : ∀ w ∈ lw_all, w.before args s = true := fun w h => hts w (List.mem_cons_of_mem _ h)
  have hown : s.vm.findClass RX0 = some m.cls := findClass_of_methodNamed B.named
  have hlocks := B.notSynchronized
  obtain ⟨hav, hv⟩ := hv
  have C : CX p s m args c cX0_joinOver RX0 D dA := ⟨hx, hb, hown, hts, hv.2⟩
  have hw : CW D dA A s u s.heap [] := hv.1
  generalize hQ : MQ below (va_Qi (fun r u => r = r0 ∧ u = u9) (CPost D dA A) A) args s (u9.1 - u.1) (u9.2.1 - u.2.1) A = QQ
  have hent := lg_entry_eq m [.ref x0, .int x1, .int x2] 4
  rw [← hav] at hent
  rw [hent]
  have hl := lv_entry ([.ref x0, .int x1, .int x2]) (n := 4) (Nat.le_of_ble_eq_true rfl)
  generalize (lg_sl ([.ref x0, .int x1, .int x2]) ++ List.replicate (4 - (lg_sl ([.ref x0, .int x1, .int x2])).length) Slot.unset).toArray = ls at hl ⊢
  have hl : lv_has ls 4 [(0, .ref x0), (1, .int x1), (2, .int x2)] := hl
  obtain ⟨cc, ecc⟩ : ∃ z : Nat, z = 0 := ⟨0, rfl⟩
  obtain ⟨ss, ess⟩ : ∃ z : Nat, z = 0 := ⟨0, rfl⟩
  have hcc : cc + u.1 = u.1 := by omega
  have hss : ss + u.2.1 = u.2.1 := by omega
  suffices hgo : W p l e (rm_X0_joinOver (u9.1 - u.1) (u9.2.1 - u.2.1)) s m args below meth c s.heap [] cc ss QQ (F0 m 0 ls []) by rw [ecc, ess] at hgo; exact hgo
  have ⟨pu, qu, _, _⟩ := mo_X0_joinOver hm
  have hB25 : ∀ (h : CH) (y0 : Int32) (cc ss : Nat) (H : Heap) (locs : List Loc) (ls : Array Slot), m_X0_joinOver_25 f h y0 = some (r0, u9) → CW D dA A s h H locs → cc + u.1 = h.1 → ss + u.2.1 = h.2.1 → lv_has ls 4 [] → W p l e (rm_X0_joinOver (u9.1 - u.1) (u9.2.1 - u.2.1)) s m args below meth c H locs cc ss QQ (F0 m 25 ls [.int y0]) := by
    intro h y0 cc ss H locs ls hm hw hcc hss hl
    have hmo := mo_X0_joinOver_25  h y0 _ hm
    have sb_ : h.1 ≤ u9.1 := hmo.1
    have tb_ : h.2.1 ≤ u9.2.1 := hmo.2.1
    rw [m_X0_joinOver_25] at hm
    obtain ⟨er, eh⟩ := retE hm
    have ec : cc = u9.1 - u.1 := by rw [← eh]; omega
    have es : ss = u9.2.1 - u.2.1 := by rw [← eh]; omega
    rw [ec, es, ← hQ]
    exact W.iret (v := y0) hx hb hr (fun t ht hW => ⟨⟨y0, h, rfl, ⟨er, eh⟩, ⟨by rw [ht]; exact hw.1, by rw [ht]; exact hw.2.1⟩⟩, hw.2.2.1.F ht⟩) hw.2.2.1.2.2 dX0_joinOver_25
  have hB21 : ∀ (h : CH) (y0 : Nat) (cc ss : Nat) (H : Heap) (locs : List Loc) (ls : Array Slot), m_X0_joinOver_21 f h y0 = some (r0, u9) → CW D dA A s h H locs → cc + u.1 = h.1 → ss + u.2.1 = h.2.1 → lv_has ls 4 [] → W p l e (rm_X0_joinOver (u9.1 - u.1) (u9.2.1 - u.2.1)) s m args below meth c H locs cc ss QQ (F0 m 21 ls [.ref y0]) := by
    intro h y0 cc ss H locs ls hm hw hcc hss hl
    have hmo := mo_X0_joinOver_21  h y0 _ hm
    have sb_ : h.1 ≤ u9.1 := hmo.1
    have tb_ : h.2.1 ≤ u9.2.1 := hmo.2.1
    rw [m_X0_joinOver_21] at hm
    obtain ⟨v1, ev1, hm⟩ := bdE hm
    refine cg_getN C hw (by decide) (oL_E ev1) rfl in_X10 (by decide) (hw.2.2.2.2.1 _ (List.mem_of_getElem? (i := 29) rfl)) dX0_joinOver_21 ?_
    refine lv_l2i hx hb dX0_joinOver_24 rfl ?_
    exact hB25 h (Int64.toInt32 v1) _ _ _ _ _ hm hw (by omega) (by omega) (lv_sub hl [] rfl)
  have hB6 : ∀ (h : CH) (x0 : Nat) (x1 : Int32) (x2 : Int32) (y0 : Int32) (cc ss : Nat) (H : Heap) (locs : List Loc) (ls : Array Slot), m_X0_joinOver_6 f h x0 x1 x2 y0 = some (r0, u9) → CW D dA A s h H locs → cc + u.1 = h.1 → ss + u.2.1 = h.2.1 → lv_has ls 4 [(0, .ref x0), (1, .int x1), (2, .int x2)] → W p l e (rm_X0_joinOver (u9.1 - u.1) (u9.2.1 - u.2.1)) s m args below meth c H locs cc ss QQ (F0 m 6 ls [.int y0]) := by
    intro h x0 x1 x2 y0 cc ss H locs ls hm hw hcc hss hl
    have hmo := mo_X0_joinOver_6  h x0 x1 x2 y0 _ hm
    have sb_ : h.1 ≤ u9.1 := hmo.1
    have tb_ : h.2.1 ≤ u9.2.1 := hmo.2.1
    rw [m_X0_joinOver_6] at hm
    refine lv_istore_n (lv' := [(3, .int y0), (0, .ref x0), (1, .int x1), (2, .int x2)]) hx hb dX0_joinOver_6 rfl hl (by decide) rfl (fun ls hl => ?_)
    refine lv_iload_n hx hb dX0_joinOver_7 rfl (lv_at hl 0 rfl) ?_
    refine lv_if_ge (tgt := 15) hx hb dX0_joinOver_8 (by decide) (fun c1 => ?_) (fun c1 => ?_)
    · have hm := ifT hm c1
      refine lv_aload_n hx hb dX0_joinOver_15 rfl (lv_at hl 1 rfl) ?_
      refine lv_iload_n hx hb dX0_joinOver_16 rfl (lv_at hl 2 rfl) ?_
      refine lv_iload_n hx hb dX0_joinOver_17 rfl (lv_at hl 3 rfl) ?_
      obtain ⟨g2, hm⟩ := gdE hm
      obtain ⟨a4, h3, ea4, hm⟩ := bd2E hm
      have lh3 := mo_X0_joinOf ea4
      have ph3 : h.1 ≤ h3.1 := lh3.1
      have qh3 : h.2.1 ≤ h3.2.1 := lh3.2.1
      have hmo := mo_X0_joinOver_21   h3 a4 _ hm
      have sh3 : h3.1 ≤ u9.1 := hmo.1
      have th3 : h3.2.1 ≤ u9.2.1 := hmo.2.1
      refine cg_callr hw lh3 (va_runV (As := [.int x1, .int x2]) (rest := []) ⟨hx, hb, hml, hown, hts⟩ (w_X0_joinOf l ea4) (cw_X0_joinOf hts q1175 ⟨Nat.le_of_ble_eq_true rfl, Nat.le_of_ble_eq_true rfl⟩) (cg_preV C hw g2 rfl _) rfl rfl hl.1 rfl (lv_room (Nat.le_of_ble_eq_true rfl)) dX0_joinOver_18 ⟨show cc + (h3.1 - h.1) ≤ u9.1 - u.1 by omega, show ss + (h3.2.1 - h.2.1) ≤ u9.2.1 - u.2.1 by omega⟩) (fun H locs hw => ?_)
      exact hB21 h3 a4 _ _ _ _ _ hm hw (by omega) (by omega) (lv_sub hl [] rfl)
    · have hm := ifF hm c1
      refine lv_iload_n hx hb dX0_joinOver_11 rfl (lv_at hl 0 rfl) ?_
      refine lv_goto (tgt := 25) hx hb dX0_joinOver_12 (by decide) ?_
      exact hB25 h y0 _ _ _ _ _ hm hw (by omega) (by omega) (lv_sub hl [] rfl)
  rw [m_X0_joinOver] at hm
  refine lv_aload_n hx hb dX0_joinOver_0 rfl (lv_at hl 0 rfl) ?_
  refine lv_iload_n hx hb dX0_joinOver_1 rfl (lv_at hl 1 rfl) ?_
  refine lv_iload_n hx hb dX0_joinOver_2 rfl (lv_at hl 2 rfl) ?_
  obtain ⟨g1, hm⟩ := gdE hm
  obtain ⟨r3, h2, er3, hm⟩ := bd2E hm
  have lh2 := mo_X0_asks er3
  have ph2 : u.1 ≤ h2.1 := lh2.1
  have qh2 : u.2.1 ≤ h2.2.1 := lh2.2.1
  have hmo := mo_X0_joinOver_6   h2 x0 x1 x2 r3 _ hm
  have sh2 : h2.1 ≤ u9.1 := hmo.1
  have th2 : h2.2.1 ≤ u9.2.1 := hmo.2.1
  refine cg_calli hw lh2 (va_runV (As := [.int x1, .int x2]) (rest := []) ⟨hx, hb, hml, hown, hts⟩ (w_X0_asks l er3) (cw_X0_asks hts q1096 ⟨Nat.le_of_ble_eq_true rfl, Nat.le_of_ble_eq_true rfl⟩) (cg_preV C hw g1 rfl _) rfl rfl hl.1 rfl (lv_room (Nat.le_of_ble_eq_true rfl)) dX0_joinOver_3 ⟨show cc + (h2.1 - u.1) ≤ u9.1 - u.1 by omega, show ss + (h2.2.1 - u.2.1) ≤ u9.2.1 - u.2.1 by omega⟩) (fun H locs hw => ?_)
  exact hB6 h2 x0 x1 x2 r3 _ _ _ _ _ hm hw (by omega) (by omega) (lv_sub hl [0, 1, 2] rfl)
def m_X0_join_30 (f : Nat) (h : CH) : Option (Int64 × CH) := some ((-1 : Int64), h)
theorem mo_X0_join_30 {f : Nat} : ∀ (h : CH) (r : (Int64 × CH)), m_X0_join_30 f h = some r → le2 h r.2 := by
  intro h r hm
  rw [m_X0_join_30] at hm
  cases hm
  exact le2.rf
def m_X0_join_62 (f : Nat) (h : CH) (y0 : Int64) : Option (Int64 × CH) := some (y0, h)
theorem mo_X0_join_62 {f : Nat} : ∀ (h : CH) (y0 : Int64) (r : (Int64 × CH)), m_X0_join_62 f h y0 = some r → le2 h r.2 := by
  intro h y0 r hm
  rw [m_X0_join_62] at hm
  cases hm
  exact le2.rf
def m_X0_join_51 (f : Nat) (h : CH) (x3 : Int32) (x4 : Int32) (y0 : Nat) : Option (Int64 × CH) := bd (oR h 10 0 y0) fun a1 =>
    bd (oR h 3 0 a1) fun a2 =>
    bd (aR h 4 a2 x3) fun a3 =>
    bd (aL h 1 a3 x4) fun v4 =>
    m_X0_join_62 f h v4
theorem mo_X0_join_51 {f : Nat} : ∀ (h : CH) (x3 : Int32) (x4 : Int32) (y0 : Nat) (r : (Int64 × CH)), m_X0_join_51 f h x3 x4 y0 = some r → le2 h r.2 := by
  intro h x3 x4 y0 r hm
  rw [m_X0_join_51] at hm
  obtain ⟨a1, ea1, hm⟩ := bdE hm
  obtain ⟨a2, ea2, hm⟩ := bdE hm
  obtain ⟨a3, ea3, hm⟩ := bdE hm
  obtain ⟨v4, ev4, hm⟩ := bdE hm
  exact (mo_X0_join_62  h v4 _ hm)
def m_X0_join_6 (f : Nat) (h : CH) (x0 : Nat) (x1 : Int32) (x2 : Int32) (x3 : Int32) (x4 : Int32) (y0 : Int32) : Option (Int64 × CH) := if y0 = (-2 : Int32) then
    m_X0_join_30 f h
    else bd (m_X0_isSide f x3) fun r2 =>
    if r2 = 0 then
    m_X0_join_30 f h
    else bd (m_X0_isSide f x4) fun r4 =>
    if ¬ r4 = 0 then
    if 0 ≤ y0 then
    gd (isC h x0 1) <|
    bd2 (m_X0_joinOf f h x0 x1 x2) fun a9 h8 =>
    m_X0_join_51 f h8 x3 x4 a9
    else m_X0_join_62 f h (Int32.toInt64 y0)
    else m_X0_join_30 f h
theorem mo_X0_join_6 {f : Nat} : ∀ (h : CH) (x0 : Nat) (x1 : Int32) (x2 : Int32) (x3 : Int32) (x4 : Int32) (y0 : Int32) (r : (Int64 × CH)), m_X0_join_6 f h x0 x1 x2 x3 x4 y0 = some r → le2 h r.2 := by
  intro h x0 x1 x2 x3 x4 y0 r hm
  rw [m_X0_join_6] at hm
  by_cases c1 : y0 = (-2 : Int32)
  · have hm := ifT hm c1
    exact (mo_X0_join_30  h _ hm)
  · have hm := ifF hm c1
    obtain ⟨r2, er2, hm⟩ := bdE hm
    by_cases c3 : r2 = 0
    · have hm := ifT hm c3
      exact (mo_X0_join_30  h _ hm)
    · have hm := ifF hm c3
      obtain ⟨r4, er4, hm⟩ := bdE hm
      by_cases c5 : ¬ r4 = 0
      · have hm := ifT hm c5
        by_cases c6 : 0 ≤ y0
        · have hm := ifT hm c6
          obtain ⟨g7, hm⟩ := gdE hm
          obtain ⟨a9, h8, ea9, hm⟩ := bd2E hm
          have lh8 := mo_X0_joinOf ea9
          exact (lh8.tr (mo_X0_join_51  h8 x3 x4 a9 _ hm))
        · have hm := ifF hm c6
          exact (mo_X0_join_62  h (Int32.toInt64 y0) _ hm)
      · have hm := ifF hm c5
        exact (mo_X0_join_30  h _ hm)
def m_X0_join (f : Nat) (u : CH) (x0 : Nat) (x1 : Int32) (x2 : Int32) (x3 : Int32) (x4 : Int32) : Option (Int64 × CH) := gd (isC u x0 1) <|
    bd2 (m_X0_asks f u x0 x1 x2) fun r3 h2 =>
    m_X0_join_6 f h2 x0 x1 x2 x3 x4 r3
theorem mo_X0_join {f : Nat} {u : CH} {x0 : Nat} {x1 : Int32} {x2 : Int32} {x3 : Int32} {x4 : Int32} {r0 : Int64} {u9 : CH} (hm : m_X0_join f u x0 x1 x2 x3 x4 = some (r0, u9)) : le2 u u9 := by
  rw [m_X0_join] at hm
  obtain ⟨g1, hm⟩ := gdE hm
  obtain ⟨r3, h2, er3, hm⟩ := bd2E hm
  have lh2 := mo_X0_asks er3
  exact (lh2.tr (mo_X0_join_6  h2 x0 x1 x2 x3 x4 r3 _ hm))
abbrev rm_X0_join (mc ms : Nat) : Room := { frames := 107, cells := mc, slots := ms, locals := 4176 }
theorem cw_X0_join {R : Room} {s : State} {args : Array Value} {own : String} {idx mc ms : Nat} (hts : ∀ w ∈ lw_all, w.before args s = true) (hl : Cond.methodLink own idx yX0_join ∈ lw_all) (hR : 107 + 1 ≤ R.frames ∧ 8 + (6 + 11) + 4176 ≤ R.locals) : CallW R s args own RX0 idx yX0_join cX0_join 6 (Option.some Jvm.ClassFile.FieldType.long) (ws_ yX0_join cX0_join 6 (Option.some Jvm.ClassFile.FieldType.long)) (rm_X0_join mc ms) mc ms 4 := cwV 4 hts (lw_V hl q1180 q1181 q119 q1182) rfl rfl rfl (by decide +kernel) hR
set_option maxHeartbeats 4000000 in
set_option maxRecDepth 100000 in
theorem w_X0_join (l : Launch) {D : va_G} {dA : Nat → ClassId} {A : Nat → Prop} {f : Nat} {u u9 : CH} {r0 : Int64} {x0 : Nat} {x1 : Int32} {x2 : Int32} {x3 : Int32} {x4 : Int32} (hm : m_X0_join f u x0 x1 x2 x3 x4 = some (r0, u9)) : Met l yX0_join (ws_ yX0_join cX0_join 6 (Option.some Jvm.ClassFile.FieldType.long)) (rm_X0_join (u9.1 - u.1) (u9.2.1 - u.2.1)) (va_Pc [.ref x0, .int x1, .int x2, .int x3, .int x4] (CPre D dA A u)) (va_Ql (fun r u => r = r0 ∧ u = u9) (CPost D dA A) A) (u9.1 - u.1) (u9.2.1 - u.2.1) A := by
  refine Met.ofW (cc := cX0_join) (maxL := 6) (ret := (Option.some Jvm.ClassFile.FieldType.long)) (by decide) rfl ?_
  intro p e s m args below meth c s₁ B hml hv
  have hx := B.exec
  have hb := B.bytes
  have hr := B.returns
  have hts := atoms_spec (ws := (ws_ yX0_join cX0_join 6 (Option.some Jvm.ClassFile.FieldType.long))) B.pre
  have hts : ∀ w ∈ lw_all, w.before args s = true := fun w h => hts w (List.mem_cons_of_mem _ h)
  have hown : s.vm.findClass RX0 = some m.cls := findClass_of_methodNamed B.named
  have hlocks := B.notSynchronized
  obtain ⟨hav, hv⟩ := hv
  have C : CX p s m args c cX0_join RX0 D dA := ⟨hx, hb, hown, hts, hv.2⟩
  have hw : CW D dA A s u s.heap [] := hv.1
  generalize hQ : MQ below (va_Ql (fun r u => r = r0 ∧ u = u9) (CPost D dA A) A) args s (u9.1 - u.1) (u9.2.1 - u.2.1) A = QQ
  have hent := lg_entry_eq m [.ref x0, .int x1, .int x2, .int x3, .int x4] 6
  rw [← hav] at hent
  rw [hent]
  have hl := lv_entry ([.ref x0, .int x1, .int x2, .int x3, .int x4]) (n := 6) (Nat.le_of_ble_eq_true rfl)
  generalize (lg_sl ([.ref x0, .int x1, .int x2, .int x3, .int x4]) ++ List.replicate (6 - (lg_sl ([.ref x0, .int x1, .int x2, .int x3, .int x4])).length) Slot.unset).toArray = ls at hl ⊢
  have hl : lv_has ls 6 [(0, .ref x0), (1, .int x1), (2, .int x2), (3, .int x3), (4, .int x4)] := hl
  obtain ⟨cc, ecc⟩ : ∃ z : Nat, z = 0 := ⟨0, rfl⟩
  obtain ⟨ss, ess⟩ : ∃ z : Nat, z = 0 := ⟨0, rfl⟩
  have hcc : cc + u.1 = u.1 := by omega
  have hss : ss + u.2.1 = u.2.1 := by omega
  suffices hgo : W p l e (rm_X0_join (u9.1 - u.1) (u9.2.1 - u.2.1)) s m args below meth c s.heap [] cc ss QQ (F0 m 0 ls []) by rw [ecc, ess] at hgo; exact hgo
  have ⟨pu, qu, _, _⟩ := mo_X0_join hm
  have hB30 : ∀ (h : CH) (cc ss : Nat) (H : Heap) (locs : List Loc) (ls : Array Slot), m_X0_join_30 f h = some (r0, u9) → CW D dA A s h H locs → cc + u.1 = h.1 → ss + u.2.1 = h.2.1 → lv_has ls 6 [] → W p l e (rm_X0_join (u9.1 - u.1) (u9.2.1 - u.2.1)) s m args below meth c H locs cc ss QQ (F0 m 30 ls []) := by
    intro h cc ss H locs ls hm hw hcc hss hl
    have hmo := mo_X0_join_30  h _ hm
    have sb_ : h.1 ≤ u9.1 := hmo.1
    have tb_ : h.2.1 ≤ u9.2.1 := hmo.2.1
    rw [m_X0_join_30] at hm
    refine lv_ldc2 hx hb hown (hts _ q1040) dX0_join_30 ?_
    obtain ⟨er, eh⟩ := retE hm
    have ec : cc = u9.1 - u.1 := by rw [← eh]; omega
    have es : ss = u9.2.1 - u.2.1 := by rw [← eh]; omega
    rw [ec, es, ← hQ]
    exact W.lret (v := (-1 : Int64)) hx hb hr (fun t ht hW => ⟨⟨(-1 : Int64), h, rfl, ⟨er, eh⟩, ⟨by rw [ht]; exact hw.1, by rw [ht]; exact hw.2.1⟩⟩, hw.2.2.1.F ht⟩) hw.2.2.1.2.2 dX0_join_33
  have hB62 : ∀ (h : CH) (y0 : Int64) (cc ss : Nat) (H : Heap) (locs : List Loc) (ls : Array Slot), m_X0_join_62 f h y0 = some (r0, u9) → CW D dA A s h H locs → cc + u.1 = h.1 → ss + u.2.1 = h.2.1 → lv_has ls 6 [] → W p l e (rm_X0_join (u9.1 - u.1) (u9.2.1 - u.2.1)) s m args below meth c H locs cc ss QQ (F0 m 62 ls [.long y0]) := by
    intro h y0 cc ss H locs ls hm hw hcc hss hl
    have hmo := mo_X0_join_62  h y0 _ hm
    have sb_ : h.1 ≤ u9.1 := hmo.1
    have tb_ : h.2.1 ≤ u9.2.1 := hmo.2.1
    rw [m_X0_join_62] at hm
    obtain ⟨er, eh⟩ := retE hm
    have ec : cc = u9.1 - u.1 := by rw [← eh]; omega
    have es : ss = u9.2.1 - u.2.1 := by rw [← eh]; omega
    rw [ec, es, ← hQ]
    exact W.lret (v := y0) hx hb hr (fun t ht hW => ⟨⟨y0, h, rfl, ⟨er, eh⟩, ⟨by rw [ht]; exact hw.1, by rw [ht]; exact hw.2.1⟩⟩, hw.2.2.1.F ht⟩) hw.2.2.1.2.2 dX0_join_62
  have hB51 : ∀ (h : CH) (x3 : Int32) (x4 : Int32) (y0 : Nat) (cc ss : Nat) (H : Heap) (locs : List Loc) (ls : Array Slot), m_X0_join_51 f h x3 x4 y0 = some (r0, u9) → CW D dA A s h H locs → cc + u.1 = h.1 → ss + u.2.1 = h.2.1 → lv_has ls 6 [(3, .int x3), (4, .int x4)] → W p l e (rm_X0_join (u9.1 - u.1) (u9.2.1 - u.2.1)) s m args below meth c H locs cc ss QQ (F0 m 51 ls [.ref y0]) := by
    intro h x3 x4 y0 cc ss H locs ls hm hw hcc hss hl
    have hmo := mo_X0_join_51  h x3 x4 y0 _ hm
    have sb_ : h.1 ≤ u9.1 := hmo.1
    have tb_ : h.2.1 ≤ u9.2.1 := hmo.2.1
    rw [m_X0_join_51] at hm
    obtain ⟨a1, ea1, hm⟩ := bdE hm
    refine cg_getN C hw (by decide) (oR_E ea1) rfl in_X10 (by decide) (hw.2.2.2.2.1 _ (List.mem_of_getElem? (i := 28) rfl)) dX0_join_51 ?_
    obtain ⟨a2, ea2, hm⟩ := bdE hm
    refine cg_getN C hw (by decide) (oR_E ea2) rfl in_X2 (by decide) (hw.2.2.2.2.1 _ (List.mem_of_getElem? (i := 12) rfl)) dX0_join_54 ?_
    refine lv_iload_n hx hb dX0_join_57 rfl (lv_at hl 0 rfl) ?_
    obtain ⟨a3, ea3, hm⟩ := bdE hm
    refine cg_aaldA C hw (ty := .array .long) rfl rfl (aR_E ea3) dX0_join_58 ?_
    refine lv_iload hx hb dX0_join_59 (lv_at hl 1 rfl) ?_
    obtain ⟨v4, ev4, hm⟩ := bdE hm
    refine cg_lald C hw ev4 dX0_join_61 ?_
    exact hB62 h v4 _ _ _ _ _ hm hw (by omega) (by omega) (lv_sub hl [] rfl)
  have hB6 : ∀ (h : CH) (x0 : Nat) (x1 : Int32) (x2 : Int32) (x3 : Int32) (x4 : Int32) (y0 : Int32) (cc ss : Nat) (H : Heap) (locs : List Loc) (ls : Array Slot), m_X0_join_6 f h x0 x1 x2 x3 x4 y0 = some (r0, u9) → CW D dA A s h H locs → cc + u.1 = h.1 → ss + u.2.1 = h.2.1 → lv_has ls 6 [(0, .ref x0), (1, .int x1), (2, .int x2), (3, .int x3), (4, .int x4)] → W p l e (rm_X0_join (u9.1 - u.1) (u9.2.1 - u.2.1)) s m args below meth c H locs cc ss QQ (F0 m 6 ls [.int y0]) := by
    intro h x0 x1 x2 x3 x4 y0 cc ss H locs ls hm hw hcc hss hl
    have hmo := mo_X0_join_6  h x0 x1 x2 x3 x4 y0 _ hm
    have sb_ : h.1 ≤ u9.1 := hmo.1
    have tb_ : h.2.1 ≤ u9.2.1 := hmo.2.1
    rw [m_X0_join_6] at hm
    refine lv_istore (lv' := [(5, .int y0), (0, .ref x0), (1, .int x1), (2, .int x2), (3, .int x3), (4, .int x4)]) hx hb dX0_join_6 hl (by decide) rfl (fun ls hl => ?_)
    refine lv_iload hx hb dX0_join_8 (lv_at hl 0 rfl) ?_
    refine lv_bipush (v := -2) hx hb dX0_join_10 (by decide) ?_
    refine lv_icmp_eq (tgt := 30) hx hb dX0_join_12 (by decide) (fun c1 => ?_) (fun c1 => ?_)
    · have hm := ifT hm c1
      exact hB30 h _ _ _ _ _ hm hw (by omega) (by omega) (lv_sub hl [] rfl)
    · have hm := ifF hm c1
      refine lv_iload_n hx hb dX0_join_15 rfl (lv_at hl 4 rfl) ?_
      obtain ⟨r2, er2, hm⟩ := bdE hm
      refine sci (va_runS (As := [.int x3]) (rest := []) ⟨hx, hb, hml, hown, hts⟩ (w_X0_isSide l er2) (cw_X0_isSide hts q896 ⟨Nat.le_of_ble_eq_true rfl, Nat.le_of_ble_eq_true rfl⟩) (pre_s _) rfl rfl hl.1 rfl (lv_room (Nat.le_of_ble_eq_true rfl)) dX0_join_16 ⟨show cc + 0 ≤ u9.1 - u.1 by omega, show ss + 0 ≤ u9.2.1 - u.2.1 by omega⟩) ?_
      refine lv_if_eq (tgt := 30) hx hb dX0_join_19 (by decide) (fun c3 => ?_) (fun c3 => ?_)
      · have hm := ifT hm c3
        exact hB30 h _ _ _ _ _ hm hw (by omega) (by omega) (lv_sub hl [] rfl)
      · have hm := ifF hm c3
        refine lv_iload hx hb dX0_join_22 (lv_at hl 5 rfl) ?_
        obtain ⟨r4, er4, hm⟩ := bdE hm
        refine sci (va_runS (As := [.int x4]) (rest := []) ⟨hx, hb, hml, hown, hts⟩ (w_X0_isSide l er4) (cw_X0_isSide hts q896 ⟨Nat.le_of_ble_eq_true rfl, Nat.le_of_ble_eq_true rfl⟩) (pre_s _) rfl rfl hl.1 rfl (lv_room (Nat.le_of_ble_eq_true rfl)) dX0_join_24 ⟨show cc + 0 ≤ u9.1 - u.1 by omega, show ss + 0 ≤ u9.2.1 - u.2.1 by omega⟩) ?_
        refine lv_if_ne (tgt := 34) hx hb dX0_join_27 (by decide) (fun c5 => ?_) (fun c5 => ?_)
        · have hm := ifT hm c5
          refine lv_iload hx hb dX0_join_34 (lv_at hl 0 rfl) ?_
          refine lv_if_ge (tgt := 45) hx hb dX0_join_36 (by decide) (fun c6 => ?_) (fun c6 => ?_)
          · have hm := ifT hm c6
            refine lv_aload_n hx hb dX0_join_45 rfl (lv_at hl 1 rfl) ?_
            refine lv_iload_n hx hb dX0_join_46 rfl (lv_at hl 2 rfl) ?_
            refine lv_iload_n hx hb dX0_join_47 rfl (lv_at hl 3 rfl) ?_
            obtain ⟨g7, hm⟩ := gdE hm
            obtain ⟨a9, h8, ea9, hm⟩ := bd2E hm
            have lh8 := mo_X0_joinOf ea9
            have ph8 : h.1 ≤ h8.1 := lh8.1
            have qh8 : h.2.1 ≤ h8.2.1 := lh8.2.1
            have hmo := mo_X0_join_51   h8 x3 x4 a9 _ hm
            have sh8 : h8.1 ≤ u9.1 := hmo.1
            have th8 : h8.2.1 ≤ u9.2.1 := hmo.2.1
            refine cg_callr hw lh8 (va_runV (As := [.int x1, .int x2]) (rest := []) ⟨hx, hb, hml, hown, hts⟩ (w_X0_joinOf l ea9) (cw_X0_joinOf hts q1175 ⟨Nat.le_of_ble_eq_true rfl, Nat.le_of_ble_eq_true rfl⟩) (cg_preV C hw g7 rfl _) rfl rfl hl.1 rfl (lv_room (Nat.le_of_ble_eq_true rfl)) dX0_join_48 ⟨show cc + (h8.1 - h.1) ≤ u9.1 - u.1 by omega, show ss + (h8.2.1 - h.2.1) ≤ u9.2.1 - u.2.1 by omega⟩) (fun H locs hw => ?_)
            exact hB51 h8 x3 x4 a9 _ _ _ _ _ hm hw (by omega) (by omega) (lv_sub hl [4, 5] rfl)
          · have hm := ifF hm c6
            refine lv_iload hx hb dX0_join_39 (lv_at hl 0 rfl) ?_
            refine lv_i2l hx hb dX0_join_41 rfl ?_
            refine lv_goto (tgt := 62) hx hb dX0_join_42 (by decide) ?_
            exact hB62 h (Int32.toInt64 y0) _ _ _ _ _ hm hw (by omega) (by omega) (lv_sub hl [] rfl)
        · have hm := ifT' hm c5
          exact hB30 h _ _ _ _ _ hm hw (by omega) (by omega) (lv_sub hl [] rfl)
  rw [m_X0_join] at hm
  refine lv_aload_n hx hb dX0_join_0 rfl (lv_at hl 0 rfl) ?_
  refine lv_iload_n hx hb dX0_join_1 rfl (lv_at hl 1 rfl) ?_
  refine lv_iload_n hx hb dX0_join_2 rfl (lv_at hl 2 rfl) ?_
  obtain ⟨g1, hm⟩ := gdE hm
  obtain ⟨r3, h2, er3, hm⟩ := bd2E hm
  have lh2 := mo_X0_asks er3
  have ph2 : u.1 ≤ h2.1 := lh2.1
  have qh2 : u.2.1 ≤ h2.2.1 := lh2.2.1
  have hmo := mo_X0_join_6   h2 x0 x1 x2 x3 x4 r3 _ hm
  have sh2 : h2.1 ≤ u9.1 := hmo.1
  have th2 : h2.2.1 ≤ u9.2.1 := hmo.2.1
  refine cg_calli hw lh2 (va_runV (As := [.int x1, .int x2]) (rest := []) ⟨hx, hb, hml, hown, hts⟩ (w_X0_asks l er3) (cw_X0_asks hts q1096 ⟨Nat.le_of_ble_eq_true rfl, Nat.le_of_ble_eq_true rfl⟩) (cg_preV C hw g1 rfl _) rfl rfl hl.1 rfl (lv_room (Nat.le_of_ble_eq_true rfl)) dX0_join_3 ⟨show cc + (h2.1 - u.1) ≤ u9.1 - u.1 by omega, show ss + (h2.2.1 - u.2.1) ≤ u9.2.1 - u.2.1 by omega⟩) (fun H locs hw => ?_)
  exact hB6 h2 x0 x1 x2 x3 x4 r3 _ _ _ _ _ hm hw (by omega) (by omega) (lv_sub hl [0, 1, 2, 3, 4] rfl)
def m_X0_toldBy_63 (f : Nat) (h : CH) (y0 : Nat) : Option (Nat × CH) := some (y0, h)
theorem mo_X0_toldBy_63 {f : Nat} : ∀ (h : CH) (y0 : Nat) (r : (Nat × CH)), m_X0_toldBy_63 f h y0 = some r → le2 h r.2 := by
  intro h y0 r hm
  rw [m_X0_toldBy_63] at hm
  cases hm
  exact le2.rf
def m_X0_toldBy_60 (f : Nat) (h : CH) (y0 : Nat) (y1 : Int64) : Option (Nat × CH) := gd (isC h y0 3) <|
    bd2 (m_X2_by f h y0 y1) fun a3 h2 =>
    m_X0_toldBy_63 f h2 a3
theorem mo_X0_toldBy_60 {f : Nat} : ∀ (h : CH) (y0 : Nat) (y1 : Int64) (r : (Nat × CH)), m_X0_toldBy_60 f h y0 y1 = some r → le2 h r.2 := by
  intro h y0 y1 r hm
  rw [m_X0_toldBy_60] at hm
  obtain ⟨g1, hm⟩ := gdE hm
  obtain ⟨a3, h2, ea3, hm⟩ := bd2E hm
  have lh2 := mo_X2_by ea3
  exact (lh2.tr (mo_X0_toldBy_63  h2 a3 _ hm))
def m_X0_toldBy_55 (f : Nat) (h : CH) (x6 : Nat) (y0 : Nat) : Option (Nat × CH) := gd (isC h x6 3) <|
    bd2 (m_X2_determinant f h x6) fun r3 h2 =>
    m_X0_toldBy_60 f h2 y0 r3
theorem mo_X0_toldBy_55 {f : Nat} : ∀ (h : CH) (x6 : Nat) (y0 : Nat) (r : (Nat × CH)), m_X0_toldBy_55 f h x6 y0 = some r → le2 h r.2 := by
  intro h x6 y0 r hm
  rw [m_X0_toldBy_55] at hm
  obtain ⟨g1, hm⟩ := gdE hm
  obtain ⟨r3, h2, er3, hm⟩ := bd2E hm
  have lh2 := mo_X2_determinant er3
  exact (lh2.tr (mo_X0_toldBy_60  h2 y0 r3 _ hm))
def m_X0_toldBy_52 (f : Nat) (h : CH) (x6 : Nat) (y0 : Nat) (y1 : Nat) : Option (Nat × CH) := gd (isC h y0 3) <|
    bd2 (m_X2_times f h y0 y1) fun a3 h2 =>
    m_X0_toldBy_55 f h2 x6 a3
theorem mo_X0_toldBy_52 {f : Nat} : ∀ (h : CH) (x6 : Nat) (y0 : Nat) (y1 : Nat) (r : (Nat × CH)), m_X0_toldBy_52 f h x6 y0 y1 = some r → le2 h r.2 := by
  intro h x6 y0 y1 r hm
  rw [m_X0_toldBy_52] at hm
  obtain ⟨g1, hm⟩ := gdE hm
  obtain ⟨a3, h2, ea3, hm⟩ := bd2E hm
  have lh2 := mo_X2_times ea3
  exact (lh2.tr (mo_X0_toldBy_55  h2 x6 a3 _ hm))
def m_X0_toldBy_47 (f : Nat) (h : CH) (x6 : Nat) (y0 : Nat) : Option (Nat × CH) := gd (isC h x6 3) <|
    bd2 (m_X2_adjoint f h x6) fun a3 h2 =>
    m_X0_toldBy_52 f h2 x6 y0 a3
theorem mo_X0_toldBy_47 {f : Nat} : ∀ (h : CH) (x6 : Nat) (y0 : Nat) (r : (Nat × CH)), m_X0_toldBy_47 f h x6 y0 = some r → le2 h r.2 := by
  intro h x6 y0 r hm
  rw [m_X0_toldBy_47] at hm
  obtain ⟨g1, hm⟩ := gdE hm
  obtain ⟨a3, h2, ea3, hm⟩ := bd2E hm
  have lh2 := mo_X2_adjoint ea3
  exact (lh2.tr (mo_X0_toldBy_52  h2 x6 y0 a3 _ hm))
def m_X0_toldBy_31 (f : Nat) (h : CH) (x3 : Nat) (x4 : Int64) (y0 : Nat) : Option (Nat × CH) := bd (oR h 10 0 x3) fun a1 =>
    bd (oL h 10 1 x3) fun v2 =>
    gd (nzL v2) <|
    gd (isC h a1 3) <|
    bd2 (m_X2_times_2 f h a1 (x4 / v2)) fun a6 h5 =>
    m_X0_toldBy_47 f h5 y0 a6
theorem mo_X0_toldBy_31 {f : Nat} : ∀ (h : CH) (x3 : Nat) (x4 : Int64) (y0 : Nat) (r : (Nat × CH)), m_X0_toldBy_31 f h x3 x4 y0 = some r → le2 h r.2 := by
  intro h x3 x4 y0 r hm
  rw [m_X0_toldBy_31] at hm
  obtain ⟨a1, ea1, hm⟩ := bdE hm
  obtain ⟨v2, ev2, hm⟩ := bdE hm
  obtain ⟨g3, hm⟩ := gdE hm
  obtain ⟨g4, hm⟩ := gdE hm
  obtain ⟨a6, h5, ea6, hm⟩ := bd2E hm
  have lh5 := mo_X2_times_2 ea6
  exact (lh5.tr (mo_X0_toldBy_47  h5 y0 a6 _ hm))
def m_X0_toldBy_19 (f : Nat) (h : CH) (x0 : Nat) (x1 : Int32) (x3 : Nat) (y0 : Int64) (y1 : Int64) : Option (Nat × CH) := bd (m_X0_multiple f y0 y1) fun r1 =>
    gd (isC h x0 1) <|
    bd2 (m_X0_rowsBy f h x0 x1 r1) fun a4 h3 =>
    m_X0_toldBy_31 f h3 x3 r1 a4
theorem mo_X0_toldBy_19 {f : Nat} : ∀ (h : CH) (x0 : Nat) (x1 : Int32) (x3 : Nat) (y0 : Int64) (y1 : Int64) (r : (Nat × CH)), m_X0_toldBy_19 f h x0 x1 x3 y0 y1 = some r → le2 h r.2 := by
  intro h x0 x1 x3 y0 y1 r hm
  rw [m_X0_toldBy_19] at hm
  obtain ⟨r1, er1, hm⟩ := bdE hm
  obtain ⟨g2, hm⟩ := gdE hm
  obtain ⟨a4, h3, ea4, hm⟩ := bd2E hm
  have lh3 := mo_X0_rowsBy ea4
  exact (lh3.tr (mo_X0_toldBy_31  h3 x3 r1 a4 _ hm))
def m_X0_toldBy_16 (f : Nat) (h : CH) (x0 : Nat) (x1 : Int32) (x3 : Nat) (y0 : Int64) (y1 : Nat) : Option (Nat × CH) := if isC h y1 6 = true then
    bd2 (m_X6_over f h y1) fun r3 h2 =>
    m_X0_toldBy_19 f h2 x0 x1 x3 y0 r3
    else gd (isC h y1 7) <|
    bd2 (m_X7_over f h y1) fun r6 h5 =>
    m_X0_toldBy_19 f h5 x0 x1 x3 y0 r6
theorem mo_X0_toldBy_16 {f : Nat} : ∀ (h : CH) (x0 : Nat) (x1 : Int32) (x3 : Nat) (y0 : Int64) (y1 : Nat) (r : (Nat × CH)), m_X0_toldBy_16 f h x0 x1 x3 y0 y1 = some r → le2 h r.2 := by
  intro h x0 x1 x3 y0 y1 r hm
  rw [m_X0_toldBy_16] at hm
  by_cases c1 : isC h y1 6 = true
  · have hm := ifT hm c1
    obtain ⟨r3, h2, er3, hm⟩ := bd2E hm
    have lh2 := mo_X6_over er3
    exact (lh2.tr (mo_X0_toldBy_19  h2 x0 x1 x3 y0 r3 _ hm))
  · have hm := ifF hm c1
    obtain ⟨g4, hm⟩ := gdE hm
    obtain ⟨r6, h5, er6, hm⟩ := bd2E hm
    have lh5 := mo_X7_over er6
    exact (lh5.tr (mo_X0_toldBy_19  h5 x0 x1 x3 y0 r6 _ hm))
def m_X0_toldBy_6 (f : Nat) (h : CH) (x0 : Nat) (x1 : Int32) (y0 : Nat) : Option (Nat × CH) := bd (oL h 10 1 y0) fun v1 =>
    gd (isC h x0 1) <|
    bd2 (m_X0_at f h x0 x1) fun a4 h3 =>
    m_X0_toldBy_16 f h3 x0 x1 y0 v1 a4
theorem mo_X0_toldBy_6 {f : Nat} : ∀ (h : CH) (x0 : Nat) (x1 : Int32) (y0 : Nat) (r : (Nat × CH)), m_X0_toldBy_6 f h x0 x1 y0 = some r → le2 h r.2 := by
  intro h x0 x1 y0 r hm
  rw [m_X0_toldBy_6] at hm
  obtain ⟨v1, ev1, hm⟩ := bdE hm
  obtain ⟨g2, hm⟩ := gdE hm
  obtain ⟨a4, h3, ea4, hm⟩ := bd2E hm
  have lh3 := mo_X0_at ea4
  exact (lh3.tr (mo_X0_toldBy_16  h3 x0 x1 y0 v1 a4 _ hm))
def m_X0_toldBy (f : Nat) (u : CH) (x0 : Nat) (x1 : Int32) (x2 : Int32) : Option (Nat × CH) := gd (isC u x0 1) <|
    bd2 (m_X0_meetOf f u x0 x1 x2) fun a3 h2 =>
    m_X0_toldBy_6 f h2 x0 x1 a3
theorem mo_X0_toldBy {f : Nat} {u : CH} {x0 : Nat} {x1 : Int32} {x2 : Int32} {r0 : Nat} {u9 : CH} (hm : m_X0_toldBy f u x0 x1 x2 = some (r0, u9)) : le2 u u9 := by
  rw [m_X0_toldBy] at hm
  obtain ⟨g1, hm⟩ := gdE hm
  obtain ⟨a3, h2, ea3, hm⟩ := bd2E hm
  have lh2 := mo_X0_meetOf ea3
  exact (lh2.tr (mo_X0_toldBy_6  h2 x0 x1 a3 _ hm))
abbrev rm_X0_toldBy (mc ms : Nat) : Room := { frames := 107, cells := mc, slots := ms, locals := 4183 }
theorem cw_X0_toldBy {R : Room} {s : State} {args : Array Value} {own : String} {idx mc ms : Nat} (hts : ∀ w ∈ lw_all, w.before args s = true) (hl : Cond.methodLink own idx yX0_toldBy ∈ lw_all) (hR : 107 + 1 ≤ R.frames ∧ 8 + (7 + 11) + 4183 ≤ R.locals) : CallW R s args own RX0 idx yX0_toldBy cX0_toldBy 7 (Option.some (Jvm.ClassFile.FieldType.object "CoincideBench$Rows")) (ws_ yX0_toldBy cX0_toldBy 7 (Option.some (Jvm.ClassFile.FieldType.object "CoincideBench$Rows"))) (rm_X0_toldBy mc ms) mc ms 2 := cwV 2 hts (lw_V hl q1189 qs31 q119 q1190) rfl rfl rfl (by decide +kernel) hR
set_option maxHeartbeats 4000000 in
set_option maxRecDepth 100000 in
theorem w_X0_toldBy (l : Launch) {D : va_G} {dA : Nat → ClassId} {A : Nat → Prop} {f : Nat} {u u9 : CH} {r0 : Nat} {x0 : Nat} {x1 : Int32} {x2 : Int32} (hm : m_X0_toldBy f u x0 x1 x2 = some (r0, u9)) : Met l yX0_toldBy (ws_ yX0_toldBy cX0_toldBy 7 (Option.some (Jvm.ClassFile.FieldType.object "CoincideBench$Rows"))) (rm_X0_toldBy (u9.1 - u.1) (u9.2.1 - u.2.1)) (va_Pc [.ref x0, .int x1, .int x2] (CPre D dA A u)) (va_Qr (fun u => u = u9) (fun u r t => r = r0 ∧ CPost D dA A u t) A) (u9.1 - u.1) (u9.2.1 - u.2.1) A := by
  refine Met.ofW (cc := cX0_toldBy) (maxL := 7) (ret := (Option.some (Jvm.ClassFile.FieldType.object "CoincideBench$Rows"))) (by decide) rfl ?_
  intro p e s m args below meth c s₁ B hml hv
  have hx := B.exec
  have hb := B.bytes
  have hr := B.returns
  have hts := atoms_spec (ws := (ws_ yX0_toldBy cX0_toldBy 7 (Option.some (Jvm.ClassFile.FieldType.object "CoincideBench$Rows")))) B.pre
  have hts : ∀ w ∈ lw_all, w.before args s = true := fun w h => hts w (List.mem_cons_of_mem _ h)
  have hown : s.vm.findClass RX0 = some m.cls := findClass_of_methodNamed B.named
  have hlocks := B.notSynchronized
  obtain ⟨hav, hv⟩ := hv
  have C : CX p s m args c cX0_toldBy RX0 D dA := ⟨hx, hb, hown, hts, hv.2⟩
  have hw : CW D dA A s u s.heap [] := hv.1
  generalize hQ : MQ below (va_Qr (fun u => u = u9) (fun u r t => r = r0 ∧ CPost D dA A u t) A) args s (u9.1 - u.1) (u9.2.1 - u.2.1) A = QQ
  have hent := lg_entry_eq m [.ref x0, .int x1, .int x2] 7
  rw [← hav] at hent
  rw [hent]
  have hl := lv_entry ([.ref x0, .int x1, .int x2]) (n := 7) (Nat.le_of_ble_eq_true rfl)
  generalize (lg_sl ([.ref x0, .int x1, .int x2]) ++ List.replicate (7 - (lg_sl ([.ref x0, .int x1, .int x2])).length) Slot.unset).toArray = ls at hl ⊢
  have hl : lv_has ls 7 [(0, .ref x0), (1, .int x1), (2, .int x2)] := hl
  obtain ⟨cc, ecc⟩ : ∃ z : Nat, z = 0 := ⟨0, rfl⟩
  obtain ⟨ss, ess⟩ : ∃ z : Nat, z = 0 := ⟨0, rfl⟩
  have hcc : cc + u.1 = u.1 := by omega
  have hss : ss + u.2.1 = u.2.1 := by omega
  suffices hgo : W p l e (rm_X0_toldBy (u9.1 - u.1) (u9.2.1 - u.2.1)) s m args below meth c s.heap [] cc ss QQ (F0 m 0 ls []) by rw [ecc, ess] at hgo; exact hgo
  have ⟨pu, qu, _, _⟩ := mo_X0_toldBy hm
  have hB63 : ∀ (h : CH) (y0 : Nat) (cc ss : Nat) (H : Heap) (locs : List Loc) (ls : Array Slot), m_X0_toldBy_63 f h y0 = some (r0, u9) → CW D dA A s h H locs → cc + u.1 = h.1 → ss + u.2.1 = h.2.1 → lv_has ls 7 [] → W p l e (rm_X0_toldBy (u9.1 - u.1) (u9.2.1 - u.2.1)) s m args below meth c H locs cc ss QQ (F0 m 63 ls [.ref y0]) := by
    intro h y0 cc ss H locs ls hm hw hcc hss hl
    have hmo := mo_X0_toldBy_63  h y0 _ hm
    have sb_ : h.1 ≤ u9.1 := hmo.1
    have tb_ : h.2.1 ≤ u9.2.1 := hmo.2.1
    rw [m_X0_toldBy_63] at hm
    obtain ⟨er, eh⟩ := retE hm
    have ec : cc = u9.1 - u.1 := by rw [← eh]; omega
    have es : ss = u9.2.1 - u.2.1 := by rw [← eh]; omega
    rw [ec, es, ← hQ]
    exact W.aret (v := .ref y0) hx hb hr (Or.inl ⟨_, rfl⟩) (Or.inr ⟨_, rfl⟩) (fun t ht hW => ⟨⟨h, y0, rfl, eh, er, ⟨by rw [ht]; exact hw.1, by rw [ht]; exact hw.2.1⟩⟩, hw.2.2.1.F ht⟩) hw.2.2.1.2.2 dX0_toldBy_63
  have hB60 : ∀ (h : CH) (y0 : Nat) (y1 : Int64) (cc ss : Nat) (H : Heap) (locs : List Loc) (ls : Array Slot), m_X0_toldBy_60 f h y0 y1 = some (r0, u9) → CW D dA A s h H locs → cc + u.1 = h.1 → ss + u.2.1 = h.2.1 → lv_has ls 7 [] → W p l e (rm_X0_toldBy (u9.1 - u.1) (u9.2.1 - u.2.1)) s m args below meth c H locs cc ss QQ (F0 m 60 ls [.long y1, .ref y0]) := by
    intro h y0 y1 cc ss H locs ls hm hw hcc hss hl
    have hmo := mo_X0_toldBy_60  h y0 y1 _ hm
    have sb_ : h.1 ≤ u9.1 := hmo.1
    have tb_ : h.2.1 ≤ u9.2.1 := hmo.2.1
    rw [m_X0_toldBy_60] at hm
    obtain ⟨g1, hm⟩ := gdE hm
    obtain ⟨a3, h2, ea3, hm⟩ := bd2E hm
    have lh2 := mo_X2_by ea3
    have ph2 : h.1 ≤ h2.1 := lh2.1
    have qh2 : h.2.1 ≤ h2.2.1 := lh2.2.1
    have hmo := mo_X0_toldBy_63   h2 a3 _ hm
    have sh2 : h2.1 ≤ u9.1 := hmo.1
    have th2 : h2.2.1 ≤ u9.2.1 := hmo.2.1
    refine cg_callr hw lh2 (va_runV (As := [.long y1]) (rest := []) ⟨hx, hb, hml, hown, hts⟩ (w_X2_by l ea3) (cw_X2_by hts q1191 ⟨Nat.le_of_ble_eq_true rfl, Nat.le_of_ble_eq_true rfl⟩) (cg_preV C hw g1 rfl _) rfl rfl hl.1 rfl (lv_room (Nat.le_of_ble_eq_true rfl)) dX0_toldBy_60 ⟨show cc + (h2.1 - h.1) ≤ u9.1 - u.1 by omega, show ss + (h2.2.1 - h.2.1) ≤ u9.2.1 - u.2.1 by omega⟩) (fun H locs hw => ?_)
    exact hB63 h2 a3 _ _ _ _ _ hm hw (by omega) (by omega) (lv_sub hl [] rfl)
  have hB55 : ∀ (h : CH) (x6 : Nat) (y0 : Nat) (cc ss : Nat) (H : Heap) (locs : List Loc) (ls : Array Slot), m_X0_toldBy_55 f h x6 y0 = some (r0, u9) → CW D dA A s h H locs → cc + u.1 = h.1 → ss + u.2.1 = h.2.1 → lv_has ls 7 [(6, .ref x6)] → W p l e (rm_X0_toldBy (u9.1 - u.1) (u9.2.1 - u.2.1)) s m args below meth c H locs cc ss QQ (F0 m 55 ls [.ref y0]) := by
    intro h x6 y0 cc ss H locs ls hm hw hcc hss hl
    have hmo := mo_X0_toldBy_55  h x6 y0 _ hm
    have sb_ : h.1 ≤ u9.1 := hmo.1
    have tb_ : h.2.1 ≤ u9.2.1 := hmo.2.1
    rw [m_X0_toldBy_55] at hm
    refine lv_aload hx hb dX0_toldBy_55 (lv_at hl 0 rfl) ?_
    obtain ⟨g1, hm⟩ := gdE hm
    obtain ⟨r3, h2, er3, hm⟩ := bd2E hm
    have lh2 := mo_X2_determinant er3
    have ph2 : h.1 ≤ h2.1 := lh2.1
    have qh2 : h.2.1 ≤ h2.2.1 := lh2.2.1
    have hmo := mo_X0_toldBy_60   h2 y0 r3 _ hm
    have sh2 : h2.1 ≤ u9.1 := hmo.1
    have th2 : h2.2.1 ≤ u9.2.1 := hmo.2.1
    refine cg_calll hw lh2 (va_runV (As := []) (rest := [.ref y0]) ⟨hx, hb, hml, hown, hts⟩ (w_X2_determinant l er3) (cw_X2_determinant hts q1060 ⟨Nat.le_of_ble_eq_true rfl, Nat.le_of_ble_eq_true rfl⟩) (cg_preV C hw g1 rfl _) rfl rfl hl.1 rfl (lv_room (Nat.le_of_ble_eq_true rfl)) dX0_toldBy_57 ⟨show cc + (h2.1 - h.1) ≤ u9.1 - u.1 by omega, show ss + (h2.2.1 - h.2.1) ≤ u9.2.1 - u.2.1 by omega⟩) (fun H locs hw => ?_)
    exact hB60 h2 y0 r3 _ _ _ _ _ hm hw (by omega) (by omega) (lv_sub hl [] rfl)
  have hB52 : ∀ (h : CH) (x6 : Nat) (y0 : Nat) (y1 : Nat) (cc ss : Nat) (H : Heap) (locs : List Loc) (ls : Array Slot), m_X0_toldBy_52 f h x6 y0 y1 = some (r0, u9) → CW D dA A s h H locs → cc + u.1 = h.1 → ss + u.2.1 = h.2.1 → lv_has ls 7 [(6, .ref x6)] → W p l e (rm_X0_toldBy (u9.1 - u.1) (u9.2.1 - u.2.1)) s m args below meth c H locs cc ss QQ (F0 m 52 ls [.ref y1, .ref y0]) := by
    intro h x6 y0 y1 cc ss H locs ls hm hw hcc hss hl
    have hmo := mo_X0_toldBy_52  h x6 y0 y1 _ hm
    have sb_ : h.1 ≤ u9.1 := hmo.1
    have tb_ : h.2.1 ≤ u9.2.1 := hmo.2.1
    rw [m_X0_toldBy_52] at hm
    obtain ⟨g1, hm⟩ := gdE hm
    obtain ⟨a3, h2, ea3, hm⟩ := bd2E hm
    have lh2 := mo_X2_times ea3
    have ph2 : h.1 ≤ h2.1 := lh2.1
    have qh2 : h.2.1 ≤ h2.2.1 := lh2.2.1
    have hmo := mo_X0_toldBy_55   h2 x6 a3 _ hm
    have sh2 : h2.1 ≤ u9.1 := hmo.1
    have th2 : h2.2.1 ≤ u9.2.1 := hmo.2.1
    refine cg_callr hw lh2 (va_runV (As := [.ref y1]) (rest := []) ⟨hx, hb, hml, hown, hts⟩ (w_X2_times l ea3) (cw_X2_times hts q1123 ⟨Nat.le_of_ble_eq_true rfl, Nat.le_of_ble_eq_true rfl⟩) (cg_preV C hw g1 rfl _) rfl rfl hl.1 rfl (lv_room (Nat.le_of_ble_eq_true rfl)) dX0_toldBy_52 ⟨show cc + (h2.1 - h.1) ≤ u9.1 - u.1 by omega, show ss + (h2.2.1 - h.2.1) ≤ u9.2.1 - u.2.1 by omega⟩) (fun H locs hw => ?_)
    exact hB55 h2 x6 a3 _ _ _ _ _ hm hw (by omega) (by omega) (lv_sub hl [0] rfl)
  have hB47 : ∀ (h : CH) (x6 : Nat) (y0 : Nat) (cc ss : Nat) (H : Heap) (locs : List Loc) (ls : Array Slot), m_X0_toldBy_47 f h x6 y0 = some (r0, u9) → CW D dA A s h H locs → cc + u.1 = h.1 → ss + u.2.1 = h.2.1 → lv_has ls 7 [(6, .ref x6)] → W p l e (rm_X0_toldBy (u9.1 - u.1) (u9.2.1 - u.2.1)) s m args below meth c H locs cc ss QQ (F0 m 47 ls [.ref y0]) := by
    intro h x6 y0 cc ss H locs ls hm hw hcc hss hl
    have hmo := mo_X0_toldBy_47  h x6 y0 _ hm
    have sb_ : h.1 ≤ u9.1 := hmo.1
    have tb_ : h.2.1 ≤ u9.2.1 := hmo.2.1
    rw [m_X0_toldBy_47] at hm
    refine lv_aload hx hb dX0_toldBy_47 (lv_at hl 0 rfl) ?_
    obtain ⟨g1, hm⟩ := gdE hm
    obtain ⟨a3, h2, ea3, hm⟩ := bd2E hm
    have lh2 := mo_X2_adjoint ea3
    have ph2 : h.1 ≤ h2.1 := lh2.1
    have qh2 : h.2.1 ≤ h2.2.1 := lh2.2.1
    have hmo := mo_X0_toldBy_52   h2 x6 y0 a3 _ hm
    have sh2 : h2.1 ≤ u9.1 := hmo.1
    have th2 : h2.2.1 ≤ u9.2.1 := hmo.2.1
    refine cg_callr hw lh2 (va_runV (As := []) (rest := [.ref y0]) ⟨hx, hb, hml, hown, hts⟩ (w_X2_adjoint l ea3) (cw_X2_adjoint hts q1088 ⟨Nat.le_of_ble_eq_true rfl, Nat.le_of_ble_eq_true rfl⟩) (cg_preV C hw g1 rfl _) rfl rfl hl.1 rfl (lv_room (Nat.le_of_ble_eq_true rfl)) dX0_toldBy_49 ⟨show cc + (h2.1 - h.1) ≤ u9.1 - u.1 by omega, show ss + (h2.2.1 - h.2.1) ≤ u9.2.1 - u.2.1 by omega⟩) (fun H locs hw => ?_)
    exact hB52 h2 x6 y0 a3 _ _ _ _ _ hm hw (by omega) (by omega) (lv_sub hl [0] rfl)
  have hB31 : ∀ (h : CH) (x3 : Nat) (x4 : Int64) (y0 : Nat) (cc ss : Nat) (H : Heap) (locs : List Loc) (ls : Array Slot), m_X0_toldBy_31 f h x3 x4 y0 = some (r0, u9) → CW D dA A s h H locs → cc + u.1 = h.1 → ss + u.2.1 = h.2.1 → lv_has ls 7 [(3, .ref x3), (4, .long x4)] → W p l e (rm_X0_toldBy (u9.1 - u.1) (u9.2.1 - u.2.1)) s m args below meth c H locs cc ss QQ (F0 m 31 ls [.ref y0]) := by
    intro h x3 x4 y0 cc ss H locs ls hm hw hcc hss hl
    have hmo := mo_X0_toldBy_31  h x3 x4 y0 _ hm
    have sb_ : h.1 ≤ u9.1 := hmo.1
    have tb_ : h.2.1 ≤ u9.2.1 := hmo.2.1
    rw [m_X0_toldBy_31] at hm
    refine lv_astore (lv' := [(6, .ref y0), (3, .ref x3), (4, .long x4)]) hx hb dX0_toldBy_31 hl (by decide) rfl (fun ls hl => ?_)
    refine lv_aload_n hx hb dX0_toldBy_33 rfl (lv_at hl 1 rfl) ?_
    obtain ⟨a1, ea1, hm⟩ := bdE hm
    refine cg_getN C hw (by decide) (oR_E ea1) rfl in_X10 (by decide) (hw.2.2.2.2.1 _ (List.mem_of_getElem? (i := 28) rfl)) dX0_toldBy_34 ?_
    refine lv_lload hx hb dX0_toldBy_37 (lv_at hl 2 rfl) ?_
    refine lv_aload_n hx hb dX0_toldBy_39 rfl (lv_at hl 1 rfl) ?_
    obtain ⟨v2, ev2, hm⟩ := bdE hm
    refine cg_getN C hw (by decide) (oL_E ev2) rfl in_X10 (by decide) (hw.2.2.2.2.1 _ (List.mem_of_getElem? (i := 29) rfl)) dX0_toldBy_40 ?_
    obtain ⟨g3, hm⟩ := gdE hm
    refine lv_ldiv hx hb dX0_toldBy_43 (nzL_ne g3) ?_
    obtain ⟨g4, hm⟩ := gdE hm
    obtain ⟨a6, h5, ea6, hm⟩ := bd2E hm
    have lh5 := mo_X2_times_2 ea6
    have ph5 : h.1 ≤ h5.1 := lh5.1
    have qh5 : h.2.1 ≤ h5.2.1 := lh5.2.1
    have hmo := mo_X0_toldBy_47   h5 y0 a6 _ hm
    have sh5 : h5.1 ≤ u9.1 := hmo.1
    have th5 : h5.2.1 ≤ u9.2.1 := hmo.2.1
    refine cg_callr hw lh5 (va_runV (As := [.long (x4 / v2)]) (rest := []) ⟨hx, hb, hml, hown, hts⟩ (w_X2_times_2 l ea6) (cw_X2_times_2 hts q1119 ⟨Nat.le_of_ble_eq_true rfl, Nat.le_of_ble_eq_true rfl⟩) (cg_preV C hw g4 rfl _) rfl rfl hl.1 rfl (lv_room (Nat.le_of_ble_eq_true rfl)) dX0_toldBy_44 ⟨show cc + (h5.1 - h.1) ≤ u9.1 - u.1 by omega, show ss + (h5.2.1 - h.2.1) ≤ u9.2.1 - u.2.1 by omega⟩) (fun H locs hw => ?_)
    exact hB47 h5 y0 a6 _ _ _ _ _ hm hw (by omega) (by omega) (lv_sub hl [0] rfl)
  have hB19 : ∀ (h : CH) (x0 : Nat) (x1 : Int32) (x3 : Nat) (y0 : Int64) (y1 : Int64) (cc ss : Nat) (H : Heap) (locs : List Loc) (ls : Array Slot), m_X0_toldBy_19 f h x0 x1 x3 y0 y1 = some (r0, u9) → CW D dA A s h H locs → cc + u.1 = h.1 → ss + u.2.1 = h.2.1 → lv_has ls 7 [(0, .ref x0), (1, .int x1), (3, .ref x3)] → W p l e (rm_X0_toldBy (u9.1 - u.1) (u9.2.1 - u.2.1)) s m args below meth c H locs cc ss QQ (F0 m 19 ls [.long y1, .long y0]) := by
    intro h x0 x1 x3 y0 y1 cc ss H locs ls hm hw hcc hss hl
    have hmo := mo_X0_toldBy_19  h x0 x1 x3 y0 y1 _ hm
    have sb_ : h.1 ≤ u9.1 := hmo.1
    have tb_ : h.2.1 ≤ u9.2.1 := hmo.2.1
    rw [m_X0_toldBy_19] at hm
    obtain ⟨r1, er1, hm⟩ := bdE hm
    refine scl (va_runS (As := [.long y0, .long y1]) (rest := []) ⟨hx, hb, hml, hown, hts⟩ (w_X0_multiple l er1) (cw_X0_multiple hts q1112 ⟨Nat.le_of_ble_eq_true rfl, Nat.le_of_ble_eq_true rfl⟩) (pre_s _) rfl rfl hl.1 rfl (lv_room (Nat.le_of_ble_eq_true rfl)) dX0_toldBy_19 ⟨show cc + 0 ≤ u9.1 - u.1 by omega, show ss + 0 ≤ u9.2.1 - u.2.1 by omega⟩) ?_
    refine lv_lstore (lv' := [(4, .long r1), (0, .ref x0), (1, .int x1), (3, .ref x3)]) hx hb dX0_toldBy_22 hl (by decide) rfl (fun ls hl => ?_)
    refine lv_aload_n hx hb dX0_toldBy_24 rfl (lv_at hl 1 rfl) ?_
    refine lv_iload_n hx hb dX0_toldBy_25 rfl (lv_at hl 2 rfl) ?_
    refine lv_lload hx hb dX0_toldBy_26 (lv_at hl 0 rfl) ?_
    obtain ⟨g2, hm⟩ := gdE hm
    obtain ⟨a4, h3, ea4, hm⟩ := bd2E hm
    have lh3 := mo_X0_rowsBy ea4
    have ph3 : h.1 ≤ h3.1 := lh3.1
    have qh3 : h.2.1 ≤ h3.2.1 := lh3.2.1
    have hmo := mo_X0_toldBy_31   h3 x3 r1 a4 _ hm
    have sh3 : h3.1 ≤ u9.1 := hmo.1
    have th3 : h3.2.1 ≤ u9.2.1 := hmo.2.1
    refine cg_callr hw lh3 (va_runV (As := [.int x1, .long r1]) (rest := []) ⟨hx, hb, hml, hown, hts⟩ (w_X0_rowsBy l ea4) (cw_X0_rowsBy hts q1115 ⟨Nat.le_of_ble_eq_true rfl, Nat.le_of_ble_eq_true rfl⟩) (cg_preV C hw g2 rfl _) rfl rfl hl.1 rfl (lv_room (Nat.le_of_ble_eq_true rfl)) dX0_toldBy_28 ⟨show cc + (h3.1 - h.1) ≤ u9.1 - u.1 by omega, show ss + (h3.2.1 - h.2.1) ≤ u9.2.1 - u.2.1 by omega⟩) (fun H locs hw => ?_)
    exact hB31 h3 x3 r1 a4 _ _ _ _ _ hm hw (by omega) (by omega) (lv_sub hl [3, 0] rfl)
  have hB16 : ∀ (h : CH) (x0 : Nat) (x1 : Int32) (x3 : Nat) (y0 : Int64) (y1 : Nat) (cc ss : Nat) (H : Heap) (locs : List Loc) (ls : Array Slot), m_X0_toldBy_16 f h x0 x1 x3 y0 y1 = some (r0, u9) → CW D dA A s h H locs → cc + u.1 = h.1 → ss + u.2.1 = h.2.1 → lv_has ls 7 [(0, .ref x0), (1, .int x1), (3, .ref x3)] → W p l e (rm_X0_toldBy (u9.1 - u.1) (u9.2.1 - u.2.1)) s m args below meth c H locs cc ss QQ (F0 m 16 ls [.ref y1, .long y0]) := by
    intro h x0 x1 x3 y0 y1 cc ss H locs ls hm hw hcc hss hl
    have hmo := mo_X0_toldBy_16  h x0 x1 x3 y0 y1 _ hm
    have sb_ : h.1 ≤ u9.1 := hmo.1
    have tb_ : h.2.1 ≤ u9.2.1 := hmo.2.1
    rw [m_X0_toldBy_16] at hm
    by_cases c1 : isC h y1 6 = true
    · have hm := ifT hm c1
      obtain ⟨r3, h2, er3, hm⟩ := bd2E hm
      have lh2 := mo_X6_over er3
      have ph2 : h.1 ≤ h2.1 := lh2.1
      have qh2 : h.2.1 ≤ h2.2.1 := lh2.2.1
      have hmo := mo_X0_toldBy_19   h2 x0 x1 x3 y0 r3 _ hm
      have sh2 : h2.1 ≤ u9.1 := hmo.1
      have th2 : h2.2.1 ≤ u9.2.1 := hmo.2.1
      refine cg_calll hw lh2 (va_runV (As := []) (rest := [.long y0]) ⟨hx, hb, hml, hown, hts⟩ (w_X6_over l er3) (cw_X6_over hts q945 ⟨Nat.le_of_ble_eq_true rfl, Nat.le_of_ble_eq_true rfl⟩) (cg_preV C hw c1 rfl _) rfl rfl hl.1 rfl (lv_room (Nat.le_of_ble_eq_true rfl)) dX0_toldBy_16 ⟨show cc + (h2.1 - h.1) ≤ u9.1 - u.1 by omega, show ss + (h2.2.1 - h.2.1) ≤ u9.2.1 - u.2.1 by omega⟩) (fun H locs hw => ?_)
      exact hB19 h2 x0 x1 x3 y0 r3 _ _ _ _ _ hm hw (by omega) (by omega) (lv_sub hl [0, 1, 2] rfl)
    · have hm := ifF hm c1
      obtain ⟨g4, hm⟩ := gdE hm
      obtain ⟨r6, h5, er6, hm⟩ := bd2E hm
      have lh5 := mo_X7_over er6
      have ph5 : h.1 ≤ h5.1 := lh5.1
      have qh5 : h.2.1 ≤ h5.2.1 := lh5.2.1
      have hmo := mo_X0_toldBy_19   h5 x0 x1 x3 y0 r6 _ hm
      have sh5 : h5.1 ≤ u9.1 := hmo.1
      have th5 : h5.2.1 ≤ u9.2.1 := hmo.2.1
      refine cg_calll hw lh5 (va_runU (As := []) (rest := [.long y0]) ⟨hx, hb, hml, hown, hts⟩ (w_X7_over l er6) (va_cwO 0 hts (lwO q945 q948 q946 q949 q950 q144 q951) rfl rfl rfl q952 (by decide +kernel) ⟨Nat.le_of_ble_eq_true rfl, Nat.le_of_ble_eq_true rfl⟩) (cg_preV C hw g4 rfl _) rfl rfl hl.1 rfl (lv_room (Nat.le_of_ble_eq_true rfl)) dX0_toldBy_16 ⟨show cc + (h5.1 - h.1) ≤ u9.1 - u.1 by omega, show ss + (h5.2.1 - h.2.1) ≤ u9.2.1 - u.2.1 by omega⟩) (fun H locs hw => ?_)
      exact hB19 h5 x0 x1 x3 y0 r6 _ _ _ _ _ hm hw (by omega) (by omega) (lv_sub hl [0, 1, 2] rfl)
  have hB6 : ∀ (h : CH) (x0 : Nat) (x1 : Int32) (y0 : Nat) (cc ss : Nat) (H : Heap) (locs : List Loc) (ls : Array Slot), m_X0_toldBy_6 f h x0 x1 y0 = some (r0, u9) → CW D dA A s h H locs → cc + u.1 = h.1 → ss + u.2.1 = h.2.1 → lv_has ls 7 [(0, .ref x0), (1, .int x1)] → W p l e (rm_X0_toldBy (u9.1 - u.1) (u9.2.1 - u.2.1)) s m args below meth c H locs cc ss QQ (F0 m 6 ls [.ref y0]) := by
    intro h x0 x1 y0 cc ss H locs ls hm hw hcc hss hl
    have hmo := mo_X0_toldBy_6  h x0 x1 y0 _ hm
    have sb_ : h.1 ≤ u9.1 := hmo.1
    have tb_ : h.2.1 ≤ u9.2.1 := hmo.2.1
    rw [m_X0_toldBy_6] at hm
    refine lv_astore_n (lv' := [(3, .ref y0), (0, .ref x0), (1, .int x1)]) hx hb dX0_toldBy_6 rfl hl (by decide) rfl (fun ls hl => ?_)
    refine lv_aload_n hx hb dX0_toldBy_7 rfl (lv_at hl 0 rfl) ?_
    obtain ⟨v1, ev1, hm⟩ := bdE hm
    refine cg_getN C hw (by decide) (oL_E ev1) rfl in_X10 (by decide) (hw.2.2.2.2.1 _ (List.mem_of_getElem? (i := 29) rfl)) dX0_toldBy_8 ?_
    refine lv_aload_n hx hb dX0_toldBy_11 rfl (lv_at hl 1 rfl) ?_
    refine lv_iload_n hx hb dX0_toldBy_12 rfl (lv_at hl 2 rfl) ?_
    obtain ⟨g2, hm⟩ := gdE hm
    obtain ⟨a4, h3, ea4, hm⟩ := bd2E hm
    have lh3 := mo_X0_at ea4
    have ph3 : h.1 ≤ h3.1 := lh3.1
    have qh3 : h.2.1 ≤ h3.2.1 := lh3.2.1
    have hmo := mo_X0_toldBy_16   h3 x0 x1 y0 v1 a4 _ hm
    have sh3 : h3.1 ≤ u9.1 := hmo.1
    have th3 : h3.2.1 ≤ u9.2.1 := hmo.2.1
    refine cg_callr hw lh3 (va_runV (As := [.int x1]) (rest := [.long v1]) ⟨hx, hb, hml, hown, hts⟩ (w_X0_at l ea4) (cw_X0_at hts q900 ⟨Nat.le_of_ble_eq_true rfl, Nat.le_of_ble_eq_true rfl⟩) (cg_preV C hw g2 rfl _) rfl rfl hl.1 rfl (lv_room (Nat.le_of_ble_eq_true rfl)) dX0_toldBy_13 ⟨show cc + (h3.1 - h.1) ≤ u9.1 - u.1 by omega, show ss + (h3.2.1 - h.2.1) ≤ u9.2.1 - u.2.1 by omega⟩) (fun H locs hw => ?_)
    exact hB16 h3 x0 x1 y0 v1 a4 _ _ _ _ _ hm hw (by omega) (by omega) (lv_sub hl [1, 2, 0] rfl)
  rw [m_X0_toldBy] at hm
  refine lv_aload_n hx hb dX0_toldBy_0 rfl (lv_at hl 0 rfl) ?_
  refine lv_iload_n hx hb dX0_toldBy_1 rfl (lv_at hl 1 rfl) ?_
  refine lv_iload_n hx hb dX0_toldBy_2 rfl (lv_at hl 2 rfl) ?_
  obtain ⟨g1, hm⟩ := gdE hm
  obtain ⟨a3, h2, ea3, hm⟩ := bd2E hm
  have lh2 := mo_X0_meetOf ea3
  have ph2 : u.1 ≤ h2.1 := lh2.1
  have qh2 : u.2.1 ≤ h2.2.1 := lh2.2.1
  have hmo := mo_X0_toldBy_6   h2 x0 x1 a3 _ hm
  have sh2 : h2.1 ≤ u9.1 := hmo.1
  have th2 : h2.2.1 ≤ u9.2.1 := hmo.2.1
  refine cg_callr hw lh2 (va_runV (As := [.int x1, .int x2]) (rest := []) ⟨hx, hb, hml, hown, hts⟩ (w_X0_meetOf l ea3) (cw_X0_meetOf hts q1104 ⟨Nat.le_of_ble_eq_true rfl, Nat.le_of_ble_eq_true rfl⟩) (cg_preV C hw g1 rfl _) rfl rfl hl.1 rfl (lv_room (Nat.le_of_ble_eq_true rfl)) dX0_toldBy_3 ⟨show cc + (h2.1 - u.1) ≤ u9.1 - u.1 by omega, show ss + (h2.2.1 - u.2.1) ≤ u9.2.1 - u.2.1 by omega⟩) (fun H locs hw => ?_)
  exact hB6 h2 x0 x1 a3 _ _ _ _ _ hm hw (by omega) (by omega) (lv_sub hl [0, 1] rfl)
def m_X0_index_28 (f : Nat) (h : CH) (y0 : Int64) : Option (Int64 × CH) := some (y0, h)
theorem mo_X0_index_28 {f : Nat} : ∀ (h : CH) (y0 : Int64) (r : (Int64 × CH)), m_X0_index_28 f h y0 = some r → le2 h r.2 := by
  intro h y0 r hm
  rw [m_X0_index_28] at hm
  cases hm
  exact le2.rf
def m_X0_index_25 (f : Nat) (h : CH) (y0 : Int64) : Option (Int64 × CH) := bd (m_J9_abs f y0) fun r1 =>
    m_X0_index_28 f h r1
theorem mo_X0_index_25 {f : Nat} : ∀ (h : CH) (y0 : Int64) (r : (Int64 × CH)), m_X0_index_25 f h y0 = some r → le2 h r.2 := by
  intro h y0 r hm
  rw [m_X0_index_25] at hm
  obtain ⟨r1, er1, hm⟩ := bdE hm
  exact (mo_X0_index_28  h r1 _ hm)
def m_X0_index_22 (f : Nat) (h : CH) (y0 : Nat) : Option (Int64 × CH) := gd (isC h y0 3) <|
    bd2 (m_X2_determinant f h y0) fun r3 h2 =>
    m_X0_index_25 f h2 r3
theorem mo_X0_index_22 {f : Nat} : ∀ (h : CH) (y0 : Nat) (r : (Int64 × CH)), m_X0_index_22 f h y0 = some r → le2 h r.2 := by
  intro h y0 r hm
  rw [m_X0_index_22] at hm
  obtain ⟨g1, hm⟩ := gdE hm
  obtain ⟨r3, h2, er3, hm⟩ := bd2E hm
  have lh2 := mo_X2_determinant er3
  exact (lh2.tr (mo_X0_index_25  h2 r3 _ hm))
def m_X0_index_6 (f : Nat) (h : CH) (x0 : Nat) (x1 : Int32) (x2 : Int32) (y0 : Int32) : Option (Int64 × CH) := if 0 ≤ y0 then
    gd (isC h x0 1) <|
    bd2 (m_X0_toldBy f h x0 x1 x2) fun a4 h3 =>
    m_X0_index_22 f h3 a4
    else m_X0_index_28 f h (Int32.toInt64 y0)
theorem mo_X0_index_6 {f : Nat} : ∀ (h : CH) (x0 : Nat) (x1 : Int32) (x2 : Int32) (y0 : Int32) (r : (Int64 × CH)), m_X0_index_6 f h x0 x1 x2 y0 = some r → le2 h r.2 := by
  intro h x0 x1 x2 y0 r hm
  rw [m_X0_index_6] at hm
  by_cases c1 : 0 ≤ y0
  · have hm := ifT hm c1
    obtain ⟨g2, hm⟩ := gdE hm
    obtain ⟨a4, h3, ea4, hm⟩ := bd2E hm
    have lh3 := mo_X0_toldBy ea4
    exact (lh3.tr (mo_X0_index_22  h3 a4 _ hm))
  · have hm := ifF hm c1
    exact (mo_X0_index_28  h (Int32.toInt64 y0) _ hm)
def m_X0_index (f : Nat) (u : CH) (x0 : Nat) (x1 : Int32) (x2 : Int32) : Option (Int64 × CH) := gd (isC u x0 1) <|
    bd2 (m_X0_asks f u x0 x1 x2) fun r3 h2 =>
    m_X0_index_6 f h2 x0 x1 x2 r3
theorem mo_X0_index {f : Nat} {u : CH} {x0 : Nat} {x1 : Int32} {x2 : Int32} {r0 : Int64} {u9 : CH} (hm : m_X0_index f u x0 x1 x2 = some (r0, u9)) : le2 u u9 := by
  rw [m_X0_index] at hm
  obtain ⟨g1, hm⟩ := gdE hm
  obtain ⟨r3, h2, er3, hm⟩ := bd2E hm
  have lh2 := mo_X0_asks er3
  exact (lh2.tr (mo_X0_index_6  h2 x0 x1 x2 r3 _ hm))
abbrev rm_X0_index (mc ms : Nat) : Room := { frames := 108, cells := mc, slots := ms, locals := 4209 }
theorem cw_X0_index {R : Room} {s : State} {args : Array Value} {own : String} {idx mc ms : Nat} (hts : ∀ w ∈ lw_all, w.before args s = true) (hl : Cond.methodLink own idx yX0_index ∈ lw_all) (hR : 108 + 1 ≤ R.frames ∧ 8 + (4 + 11) + 4209 ≤ R.locals) : CallW R s args own RX0 idx yX0_index cX0_index 4 (Option.some Jvm.ClassFile.FieldType.long) (ws_ yX0_index cX0_index 4 (Option.some Jvm.ClassFile.FieldType.long)) (rm_X0_index mc ms) mc ms 2 := cwV 2 hts (lw_V hl q1184 q1185 q119 q1186) rfl rfl rfl (by decide +kernel) hR
set_option maxHeartbeats 4000000 in
set_option maxRecDepth 100000 in
theorem w_X0_index (l : Launch) {D : va_G} {dA : Nat → ClassId} {A : Nat → Prop} {f : Nat} {u u9 : CH} {r0 : Int64} {x0 : Nat} {x1 : Int32} {x2 : Int32} (hm : m_X0_index f u x0 x1 x2 = some (r0, u9)) : Met l yX0_index (ws_ yX0_index cX0_index 4 (Option.some Jvm.ClassFile.FieldType.long)) (rm_X0_index (u9.1 - u.1) (u9.2.1 - u.2.1)) (va_Pc [.ref x0, .int x1, .int x2] (CPre D dA A u)) (va_Ql (fun r u => r = r0 ∧ u = u9) (CPost D dA A) A) (u9.1 - u.1) (u9.2.1 - u.2.1) A := by
  refine Met.ofW (cc := cX0_index) (maxL := 4) (ret := (Option.some Jvm.ClassFile.FieldType.long)) (by decide) rfl ?_
  intro p e s m args below meth c s₁ B hml hv
  have hx := B.exec
  have hb := B.bytes
  have hr := B.returns
  have hts := atoms_spec (ws := (ws_ yX0_index cX0_index 4 (Option.some Jvm.ClassFile.FieldType.long))) B.pre
  have hts : ∀ w ∈ lw_all, w.before args s = true := fun w h => hts w (List.mem_cons_of_mem _ h)
  have hown : s.vm.findClass RX0 = some m.cls := findClass_of_methodNamed B.named
  have hlocks := B.notSynchronized
  obtain ⟨hav, hv⟩ := hv
  have C : CX p s m args c cX0_index RX0 D dA := ⟨hx, hb, hown, hts, hv.2⟩
  have hw : CW D dA A s u s.heap [] := hv.1
  generalize hQ : MQ below (va_Ql (fun r u => r = r0 ∧ u = u9) (CPost D dA A) A) args s (u9.1 - u.1) (u9.2.1 - u.2.1) A = QQ
  have hent := lg_entry_eq m [.ref x0, .int x1, .int x2] 4
  rw [← hav] at hent
  rw [hent]
  have hl := lv_entry ([.ref x0, .int x1, .int x2]) (n := 4) (Nat.le_of_ble_eq_true rfl)
  generalize (lg_sl ([.ref x0, .int x1, .int x2]) ++ List.replicate (4 - (lg_sl ([.ref x0, .int x1, .int x2])).length) Slot.unset).toArray = ls at hl ⊢
  have hl : lv_has ls 4 [(0, .ref x0), (1, .int x1), (2, .int x2)] := hl
  obtain ⟨cc, ecc⟩ : ∃ z : Nat, z = 0 := ⟨0, rfl⟩
  obtain ⟨ss, ess⟩ : ∃ z : Nat, z = 0 := ⟨0, rfl⟩
  have hcc : cc + u.1 = u.1 := by omega
  have hss : ss + u.2.1 = u.2.1 := by omega
  suffices hgo : W p l e (rm_X0_index (u9.1 - u.1) (u9.2.1 - u.2.1)) s m args below meth c s.heap [] cc ss QQ (F0 m 0 ls []) by rw [ecc, ess] at hgo; exact hgo
  have ⟨pu, qu, _, _⟩ := mo_X0_index hm
  have hB28 : ∀ (h : CH) (y0 : Int64) (cc ss : Nat) (H : Heap) (locs : List Loc) (ls : Array Slot), m_X0_index_28 f h y0 = some (r0, u9) → CW D dA A s h H locs → cc + u.1 = h.1 → ss + u.2.1 = h.2.1 → lv_has ls 4 [] → W p l e (rm_X0_index (u9.1 - u.1) (u9.2.1 - u.2.1)) s m args below meth c H locs cc ss QQ (F0 m 28 ls [.long y0]) := by
    intro h y0 cc ss H locs ls hm hw hcc hss hl
    have hmo := mo_X0_index_28  h y0 _ hm
    have sb_ : h.1 ≤ u9.1 := hmo.1
    have tb_ : h.2.1 ≤ u9.2.1 := hmo.2.1
    rw [m_X0_index_28] at hm
    obtain ⟨er, eh⟩ := retE hm
    have ec : cc = u9.1 - u.1 := by rw [← eh]; omega
    have es : ss = u9.2.1 - u.2.1 := by rw [← eh]; omega
    rw [ec, es, ← hQ]
    exact W.lret (v := y0) hx hb hr (fun t ht hW => ⟨⟨y0, h, rfl, ⟨er, eh⟩, ⟨by rw [ht]; exact hw.1, by rw [ht]; exact hw.2.1⟩⟩, hw.2.2.1.F ht⟩) hw.2.2.1.2.2 dX0_index_28
  have hB25 : ∀ (h : CH) (y0 : Int64) (cc ss : Nat) (H : Heap) (locs : List Loc) (ls : Array Slot), m_X0_index_25 f h y0 = some (r0, u9) → CW D dA A s h H locs → cc + u.1 = h.1 → ss + u.2.1 = h.2.1 → lv_has ls 4 [] → W p l e (rm_X0_index (u9.1 - u.1) (u9.2.1 - u.2.1)) s m args below meth c H locs cc ss QQ (F0 m 25 ls [.long y0]) := by
    intro h y0 cc ss H locs ls hm hw hcc hss hl
    have hmo := mo_X0_index_25  h y0 _ hm
    have sb_ : h.1 ≤ u9.1 := hmo.1
    have tb_ : h.2.1 ≤ u9.2.1 := hmo.2.1
    rw [m_X0_index_25] at hm
    obtain ⟨r1, er1, hm⟩ := bdE hm
    refine scl (va_runS (As := [.long y0]) (rest := []) ⟨hx, hb, hml, hown, hts⟩ (w_J9_abs l er1) (cw_J9_abs hts q933 ⟨Nat.le_of_ble_eq_true rfl, Nat.le_of_ble_eq_true rfl⟩) (pre_s _) rfl rfl hl.1 rfl (lv_room (Nat.le_of_ble_eq_true rfl)) dX0_index_25 ⟨show cc + 0 ≤ u9.1 - u.1 by omega, show ss + 0 ≤ u9.2.1 - u.2.1 by omega⟩) ?_
    exact hB28 h r1 _ _ _ _ _ hm hw (by omega) (by omega) (lv_sub hl [] rfl)
  have hB22 : ∀ (h : CH) (y0 : Nat) (cc ss : Nat) (H : Heap) (locs : List Loc) (ls : Array Slot), m_X0_index_22 f h y0 = some (r0, u9) → CW D dA A s h H locs → cc + u.1 = h.1 → ss + u.2.1 = h.2.1 → lv_has ls 4 [] → W p l e (rm_X0_index (u9.1 - u.1) (u9.2.1 - u.2.1)) s m args below meth c H locs cc ss QQ (F0 m 22 ls [.ref y0]) := by
    intro h y0 cc ss H locs ls hm hw hcc hss hl
    have hmo := mo_X0_index_22  h y0 _ hm
    have sb_ : h.1 ≤ u9.1 := hmo.1
    have tb_ : h.2.1 ≤ u9.2.1 := hmo.2.1
    rw [m_X0_index_22] at hm
    obtain ⟨g1, hm⟩ := gdE hm
    obtain ⟨r3, h2, er3, hm⟩ := bd2E hm
    have lh2 := mo_X2_determinant er3
    have ph2 : h.1 ≤ h2.1 := lh2.1
    have qh2 : h.2.1 ≤ h2.2.1 := lh2.2.1
    have hmo := mo_X0_index_25   h2 r3 _ hm
    have sh2 : h2.1 ≤ u9.1 := hmo.1
    have th2 : h2.2.1 ≤ u9.2.1 := hmo.2.1
    refine cg_calll hw lh2 (va_runV (As := []) (rest := []) ⟨hx, hb, hml, hown, hts⟩ (w_X2_determinant l er3) (cw_X2_determinant hts q1060 ⟨Nat.le_of_ble_eq_true rfl, Nat.le_of_ble_eq_true rfl⟩) (cg_preV C hw g1 rfl _) rfl rfl hl.1 rfl (lv_room (Nat.le_of_ble_eq_true rfl)) dX0_index_22 ⟨show cc + (h2.1 - h.1) ≤ u9.1 - u.1 by omega, show ss + (h2.2.1 - h.2.1) ≤ u9.2.1 - u.2.1 by omega⟩) (fun H locs hw => ?_)
    exact hB25 h2 r3 _ _ _ _ _ hm hw (by omega) (by omega) (lv_sub hl [] rfl)
  have hB6 : ∀ (h : CH) (x0 : Nat) (x1 : Int32) (x2 : Int32) (y0 : Int32) (cc ss : Nat) (H : Heap) (locs : List Loc) (ls : Array Slot), m_X0_index_6 f h x0 x1 x2 y0 = some (r0, u9) → CW D dA A s h H locs → cc + u.1 = h.1 → ss + u.2.1 = h.2.1 → lv_has ls 4 [(0, .ref x0), (1, .int x1), (2, .int x2)] → W p l e (rm_X0_index (u9.1 - u.1) (u9.2.1 - u.2.1)) s m args below meth c H locs cc ss QQ (F0 m 6 ls [.int y0]) := by
    intro h x0 x1 x2 y0 cc ss H locs ls hm hw hcc hss hl
    have hmo := mo_X0_index_6  h x0 x1 x2 y0 _ hm
    have sb_ : h.1 ≤ u9.1 := hmo.1
    have tb_ : h.2.1 ≤ u9.2.1 := hmo.2.1
    rw [m_X0_index_6] at hm
    refine lv_istore_n (lv' := [(3, .int y0), (0, .ref x0), (1, .int x1), (2, .int x2)]) hx hb dX0_index_6 rfl hl (by decide) rfl (fun ls hl => ?_)
    refine lv_iload_n hx hb dX0_index_7 rfl (lv_at hl 0 rfl) ?_
    refine lv_if_ge (tgt := 16) hx hb dX0_index_8 (by decide) (fun c1 => ?_) (fun c1 => ?_)
    · have hm := ifT hm c1
      refine lv_aload_n hx hb dX0_index_16 rfl (lv_at hl 1 rfl) ?_
      refine lv_iload_n hx hb dX0_index_17 rfl (lv_at hl 2 rfl) ?_
      refine lv_iload_n hx hb dX0_index_18 rfl (lv_at hl 3 rfl) ?_
      obtain ⟨g2, hm⟩ := gdE hm
      obtain ⟨a4, h3, ea4, hm⟩ := bd2E hm
      have lh3 := mo_X0_toldBy ea4
      have ph3 : h.1 ≤ h3.1 := lh3.1
      have qh3 : h.2.1 ≤ h3.2.1 := lh3.2.1
      have hmo := mo_X0_index_22   h3 a4 _ hm
      have sh3 : h3.1 ≤ u9.1 := hmo.1
      have th3 : h3.2.1 ≤ u9.2.1 := hmo.2.1
      refine cg_callr hw lh3 (va_runV (As := [.int x1, .int x2]) (rest := []) ⟨hx, hb, hml, hown, hts⟩ (w_X0_toldBy l ea4) (cw_X0_toldBy hts q1187 ⟨Nat.le_of_ble_eq_true rfl, Nat.le_of_ble_eq_true rfl⟩) (cg_preV C hw g2 rfl _) rfl rfl hl.1 rfl (lv_room (Nat.le_of_ble_eq_true rfl)) dX0_index_19 ⟨show cc + (h3.1 - h.1) ≤ u9.1 - u.1 by omega, show ss + (h3.2.1 - h.2.1) ≤ u9.2.1 - u.2.1 by omega⟩) (fun H locs hw => ?_)
      exact hB22 h3 a4 _ _ _ _ _ hm hw (by omega) (by omega) (lv_sub hl [] rfl)
    · have hm := ifF hm c1
      refine lv_iload_n hx hb dX0_index_11 rfl (lv_at hl 0 rfl) ?_
      refine lv_i2l hx hb dX0_index_12 rfl ?_
      refine lv_goto (tgt := 28) hx hb dX0_index_13 (by decide) ?_
      exact hB28 h (Int32.toInt64 y0) _ _ _ _ _ hm hw (by omega) (by omega) (lv_sub hl [] rfl)
  rw [m_X0_index] at hm
  refine lv_aload_n hx hb dX0_index_0 rfl (lv_at hl 0 rfl) ?_
  refine lv_iload_n hx hb dX0_index_1 rfl (lv_at hl 1 rfl) ?_
  refine lv_iload_n hx hb dX0_index_2 rfl (lv_at hl 2 rfl) ?_
  obtain ⟨g1, hm⟩ := gdE hm
  obtain ⟨r3, h2, er3, hm⟩ := bd2E hm
  have lh2 := mo_X0_asks er3
  have ph2 : u.1 ≤ h2.1 := lh2.1
  have qh2 : u.2.1 ≤ h2.2.1 := lh2.2.1
  have hmo := mo_X0_index_6   h2 x0 x1 x2 r3 _ hm
  have sh2 : h2.1 ≤ u9.1 := hmo.1
  have th2 : h2.2.1 ≤ u9.2.1 := hmo.2.1
  refine cg_calli hw lh2 (va_runV (As := [.int x1, .int x2]) (rest := []) ⟨hx, hb, hml, hown, hts⟩ (w_X0_asks l er3) (cw_X0_asks hts q1096 ⟨Nat.le_of_ble_eq_true rfl, Nat.le_of_ble_eq_true rfl⟩) (cg_preV C hw g1 rfl _) rfl rfl hl.1 rfl (lv_room (Nat.le_of_ble_eq_true rfl)) dX0_index_3 ⟨show cc + (h2.1 - u.1) ≤ u9.1 - u.1 by omega, show ss + (h2.2.1 - u.2.1) ≤ u9.2.1 - u.2.1 by omega⟩) (fun H locs hw => ?_)
  exact hB6 h2 x0 x1 x2 r3 _ _ _ _ _ hm hw (by omega) (by omega) (lv_sub hl [0, 1, 2] rfl)
def m_X0_group_22 (f : Nat) (h : CH) : Option (Int64 × CH) := some ((-2 : Int64), h)
theorem mo_X0_group_22 {f : Nat} : ∀ (h : CH) (r : (Int64 × CH)), m_X0_group_22 f h = some r → le2 h r.2 := by
  intro h r hm
  rw [m_X0_group_22] at hm
  cases hm
  exact le2.rf
def m_X0_group_47 (f : Nat) (h : CH) (y0 : Int64) : Option (Int64 × CH) := some (y0, h)
theorem mo_X0_group_47 {f : Nat} : ∀ (h : CH) (y0 : Int64) (r : (Int64 × CH)), m_X0_group_47 f h y0 = some r → le2 h r.2 := by
  intro h y0 r hm
  rw [m_X0_group_47] at hm
  cases hm
  exact le2.rf
def m_X0_group_43 (f : Nat) (h : CH) (x3 : Int32) (y0 : Nat) : Option (Int64 × CH) := gd (isC h y0 3) <|
    bd2 (m_X2_smith f h y0 x3) fun r3 h2 =>
    m_X0_group_47 f h2 r3
theorem mo_X0_group_43 {f : Nat} : ∀ (h : CH) (x3 : Int32) (y0 : Nat) (r : (Int64 × CH)), m_X0_group_43 f h x3 y0 = some r → le2 h r.2 := by
  intro h x3 y0 r hm
  rw [m_X0_group_43] at hm
  obtain ⟨g1, hm⟩ := gdE hm
  obtain ⟨r3, h2, er3, hm⟩ := bd2E hm
  have lh2 := mo_X2_smith er3
  exact (lh2.tr (mo_X0_group_47  h2 r3 _ hm))
def m_X0_group_6 (f : Nat) (h : CH) (x0 : Nat) (x1 : Int32) (x2 : Int32) (x3 : Int32) (y0 : Int32) : Option (Int64 × CH) := if y0 = (-2 : Int32) then
    m_X0_group_22 f h
    else bd (m_X0_isSide f x3) fun r2 =>
    if ¬ r2 = 0 then
    if 0 ≤ y0 then
    gd (isC h x0 1) <|
    bd2 (m_X0_toldBy f h x0 x1 x2) fun a7 h6 =>
    m_X0_group_43 f h6 x3 a7
    else m_X0_group_47 f h (Int32.toInt64 y0)
    else m_X0_group_22 f h
theorem mo_X0_group_6 {f : Nat} : ∀ (h : CH) (x0 : Nat) (x1 : Int32) (x2 : Int32) (x3 : Int32) (y0 : Int32) (r : (Int64 × CH)), m_X0_group_6 f h x0 x1 x2 x3 y0 = some r → le2 h r.2 := by
  intro h x0 x1 x2 x3 y0 r hm
  rw [m_X0_group_6] at hm
  by_cases c1 : y0 = (-2 : Int32)
  · have hm := ifT hm c1
    exact (mo_X0_group_22  h _ hm)
  · have hm := ifF hm c1
    obtain ⟨r2, er2, hm⟩ := bdE hm
    by_cases c3 : ¬ r2 = 0
    · have hm := ifT hm c3
      by_cases c4 : 0 ≤ y0
      · have hm := ifT hm c4
        obtain ⟨g5, hm⟩ := gdE hm
        obtain ⟨a7, h6, ea7, hm⟩ := bd2E hm
        have lh6 := mo_X0_toldBy ea7
        exact (lh6.tr (mo_X0_group_43  h6 x3 a7 _ hm))
      · have hm := ifF hm c4
        exact (mo_X0_group_47  h (Int32.toInt64 y0) _ hm)
    · have hm := ifF hm c3
      exact (mo_X0_group_22  h _ hm)
def m_X0_group (f : Nat) (u : CH) (x0 : Nat) (x1 : Int32) (x2 : Int32) (x3 : Int32) : Option (Int64 × CH) := gd (isC u x0 1) <|
    bd2 (m_X0_asks f u x0 x1 x2) fun r3 h2 =>
    m_X0_group_6 f h2 x0 x1 x2 x3 r3
theorem mo_X0_group {f : Nat} {u : CH} {x0 : Nat} {x1 : Int32} {x2 : Int32} {x3 : Int32} {r0 : Int64} {u9 : CH} (hm : m_X0_group f u x0 x1 x2 x3 = some (r0, u9)) : le2 u u9 := by
  rw [m_X0_group] at hm
  obtain ⟨g1, hm⟩ := gdE hm
  obtain ⟨r3, h2, er3, hm⟩ := bd2E hm
  have lh2 := mo_X0_asks er3
  exact (lh2.tr (mo_X0_group_6  h2 x0 x1 x2 x3 r3 _ hm))
abbrev rm_X0_group (mc ms : Nat) : Room := { frames := 108, cells := mc, slots := ms, locals := 4209 }
theorem cw_X0_group {R : Room} {s : State} {args : Array Value} {own : String} {idx mc ms : Nat} (hts : ∀ w ∈ lw_all, w.before args s = true) (hl : Cond.methodLink own idx yX0_group ∈ lw_all) (hR : 108 + 1 ≤ R.frames ∧ 8 + (5 + 11) + 4209 ≤ R.locals) : CallW R s args own RX0 idx yX0_group cX0_group 5 (Option.some Jvm.ClassFile.FieldType.long) (ws_ yX0_group cX0_group 5 (Option.some Jvm.ClassFile.FieldType.long)) (rm_X0_group mc ms) mc ms 3 := cwV 3 hts (lw_V hl q1193 q1194 q119 q1195) rfl rfl rfl (by decide +kernel) hR
set_option maxHeartbeats 4000000 in
set_option maxRecDepth 100000 in
theorem w_X0_group (l : Launch) {D : va_G} {dA : Nat → ClassId} {A : Nat → Prop} {f : Nat} {u u9 : CH} {r0 : Int64} {x0 : Nat} {x1 : Int32} {x2 : Int32} {x3 : Int32} (hm : m_X0_group f u x0 x1 x2 x3 = some (r0, u9)) : Met l yX0_group (ws_ yX0_group cX0_group 5 (Option.some Jvm.ClassFile.FieldType.long)) (rm_X0_group (u9.1 - u.1) (u9.2.1 - u.2.1)) (va_Pc [.ref x0, .int x1, .int x2, .int x3] (CPre D dA A u)) (va_Ql (fun r u => r = r0 ∧ u = u9) (CPost D dA A) A) (u9.1 - u.1) (u9.2.1 - u.2.1) A := by
  refine Met.ofW (cc := cX0_group) (maxL := 5) (ret := (Option.some Jvm.ClassFile.FieldType.long)) (by decide) rfl ?_
  intro p e s m args below meth c s₁ B hml hv
  have hx := B.exec
  have hb := B.bytes
  have hr := B.returns
  have hts := atoms_spec (ws := (ws_ yX0_group cX0_group 5 (Option.some Jvm.ClassFile.FieldType.long))) B.pre
  have hts : ∀ w ∈ lw_all, w.before args s = true := fun w h => hts w (List.mem_cons_of_mem _ h)
  have hown : s.vm.findClass RX0 = some m.cls := findClass_of_methodNamed B.named
  have hlocks := B.notSynchronized
  obtain ⟨hav, hv⟩ := hv
  have C : CX p s m args c cX0_group RX0 D dA := ⟨hx, hb, hown, hts, hv.2⟩
  have hw : CW D dA A s u s.heap [] := hv.1
  generalize hQ : MQ below (va_Ql (fun r u => r = r0 ∧ u = u9) (CPost D dA A) A) args s (u9.1 - u.1) (u9.2.1 - u.2.1) A = QQ
  have hent := lg_entry_eq m [.ref x0, .int x1, .int x2, .int x3] 5
  rw [← hav] at hent
  rw [hent]
  have hl := lv_entry ([.ref x0, .int x1, .int x2, .int x3]) (n := 5) (Nat.le_of_ble_eq_true rfl)
  generalize (lg_sl ([.ref x0, .int x1, .int x2, .int x3]) ++ List.replicate (5 - (lg_sl ([.ref x0, .int x1, .int x2, .int x3])).length) Slot.unset).toArray = ls at hl ⊢
  have hl : lv_has ls 5 [(0, .ref x0), (1, .int x1), (2, .int x2), (3, .int x3)] := hl
  obtain ⟨cc, ecc⟩ : ∃ z : Nat, z = 0 := ⟨0, rfl⟩
  obtain ⟨ss, ess⟩ : ∃ z : Nat, z = 0 := ⟨0, rfl⟩
  have hcc : cc + u.1 = u.1 := by omega
  have hss : ss + u.2.1 = u.2.1 := by omega
  suffices hgo : W p l e (rm_X0_group (u9.1 - u.1) (u9.2.1 - u.2.1)) s m args below meth c s.heap [] cc ss QQ (F0 m 0 ls []) by rw [ecc, ess] at hgo; exact hgo
  have ⟨pu, qu, _, _⟩ := mo_X0_group hm
  have hB22 : ∀ (h : CH) (cc ss : Nat) (H : Heap) (locs : List Loc) (ls : Array Slot), m_X0_group_22 f h = some (r0, u9) → CW D dA A s h H locs → cc + u.1 = h.1 → ss + u.2.1 = h.2.1 → lv_has ls 5 [] → W p l e (rm_X0_group (u9.1 - u.1) (u9.2.1 - u.2.1)) s m args below meth c H locs cc ss QQ (F0 m 22 ls []) := by
    intro h cc ss H locs ls hm hw hcc hss hl
    have hmo := mo_X0_group_22  h _ hm
    have sb_ : h.1 ≤ u9.1 := hmo.1
    have tb_ : h.2.1 ≤ u9.2.1 := hmo.2.1
    rw [m_X0_group_22] at hm
    refine lv_ldc2 hx hb hown (hts _ q1059) dX0_group_22 ?_
    obtain ⟨er, eh⟩ := retE hm
    have ec : cc = u9.1 - u.1 := by rw [← eh]; omega
    have es : ss = u9.2.1 - u.2.1 := by rw [← eh]; omega
    rw [ec, es, ← hQ]
    exact W.lret (v := (-2 : Int64)) hx hb hr (fun t ht hW => ⟨⟨(-2 : Int64), h, rfl, ⟨er, eh⟩, ⟨by rw [ht]; exact hw.1, by rw [ht]; exact hw.2.1⟩⟩, hw.2.2.1.F ht⟩) hw.2.2.1.2.2 dX0_group_25
  have hB47 : ∀ (h : CH) (y0 : Int64) (cc ss : Nat) (H : Heap) (locs : List Loc) (ls : Array Slot), m_X0_group_47 f h y0 = some (r0, u9) → CW D dA A s h H locs → cc + u.1 = h.1 → ss + u.2.1 = h.2.1 → lv_has ls 5 [] → W p l e (rm_X0_group (u9.1 - u.1) (u9.2.1 - u.2.1)) s m args below meth c H locs cc ss QQ (F0 m 47 ls [.long y0]) := by
    intro h y0 cc ss H locs ls hm hw hcc hss hl
    have hmo := mo_X0_group_47  h y0 _ hm
    have sb_ : h.1 ≤ u9.1 := hmo.1
    have tb_ : h.2.1 ≤ u9.2.1 := hmo.2.1
    rw [m_X0_group_47] at hm
    obtain ⟨er, eh⟩ := retE hm
    have ec : cc = u9.1 - u.1 := by rw [← eh]; omega
    have es : ss = u9.2.1 - u.2.1 := by rw [← eh]; omega
    rw [ec, es, ← hQ]
    exact W.lret (v := y0) hx hb hr (fun t ht hW => ⟨⟨y0, h, rfl, ⟨er, eh⟩, ⟨by rw [ht]; exact hw.1, by rw [ht]; exact hw.2.1⟩⟩, hw.2.2.1.F ht⟩) hw.2.2.1.2.2 dX0_group_47
  have hB43 : ∀ (h : CH) (x3 : Int32) (y0 : Nat) (cc ss : Nat) (H : Heap) (locs : List Loc) (ls : Array Slot), m_X0_group_43 f h x3 y0 = some (r0, u9) → CW D dA A s h H locs → cc + u.1 = h.1 → ss + u.2.1 = h.2.1 → lv_has ls 5 [(3, .int x3)] → W p l e (rm_X0_group (u9.1 - u.1) (u9.2.1 - u.2.1)) s m args below meth c H locs cc ss QQ (F0 m 43 ls [.ref y0]) := by
    intro h x3 y0 cc ss H locs ls hm hw hcc hss hl
    have hmo := mo_X0_group_43  h x3 y0 _ hm
    have sb_ : h.1 ≤ u9.1 := hmo.1
    have tb_ : h.2.1 ≤ u9.2.1 := hmo.2.1
    rw [m_X0_group_43] at hm
    refine lv_iload_n hx hb dX0_group_43 rfl (lv_at hl 0 rfl) ?_
    obtain ⟨g1, hm⟩ := gdE hm
    obtain ⟨r3, h2, er3, hm⟩ := bd2E hm
    have lh2 := mo_X2_smith er3
    have ph2 : h.1 ≤ h2.1 := lh2.1
    have qh2 : h.2.1 ≤ h2.2.1 := lh2.2.1
    have hmo := mo_X0_group_47   h2 r3 _ hm
    have sh2 : h2.1 ≤ u9.1 := hmo.1
    have th2 : h2.2.1 ≤ u9.2.1 := hmo.2.1
    refine cg_calll hw lh2 (va_runV (As := [.int x3]) (rest := []) ⟨hx, hb, hml, hown, hts⟩ (w_X2_smith l er3) (cw_X2_smith hts q1068 ⟨Nat.le_of_ble_eq_true rfl, Nat.le_of_ble_eq_true rfl⟩) (cg_preV C hw g1 rfl _) rfl rfl hl.1 rfl (lv_room (Nat.le_of_ble_eq_true rfl)) dX0_group_44 ⟨show cc + (h2.1 - h.1) ≤ u9.1 - u.1 by omega, show ss + (h2.2.1 - h.2.1) ≤ u9.2.1 - u.2.1 by omega⟩) (fun H locs hw => ?_)
    exact hB47 h2 r3 _ _ _ _ _ hm hw (by omega) (by omega) (lv_sub hl [] rfl)
  have hB6 : ∀ (h : CH) (x0 : Nat) (x1 : Int32) (x2 : Int32) (x3 : Int32) (y0 : Int32) (cc ss : Nat) (H : Heap) (locs : List Loc) (ls : Array Slot), m_X0_group_6 f h x0 x1 x2 x3 y0 = some (r0, u9) → CW D dA A s h H locs → cc + u.1 = h.1 → ss + u.2.1 = h.2.1 → lv_has ls 5 [(0, .ref x0), (1, .int x1), (2, .int x2), (3, .int x3)] → W p l e (rm_X0_group (u9.1 - u.1) (u9.2.1 - u.2.1)) s m args below meth c H locs cc ss QQ (F0 m 6 ls [.int y0]) := by
    intro h x0 x1 x2 x3 y0 cc ss H locs ls hm hw hcc hss hl
    have hmo := mo_X0_group_6  h x0 x1 x2 x3 y0 _ hm
    have sb_ : h.1 ≤ u9.1 := hmo.1
    have tb_ : h.2.1 ≤ u9.2.1 := hmo.2.1
    rw [m_X0_group_6] at hm
    refine lv_istore (lv' := [(4, .int y0), (0, .ref x0), (1, .int x1), (2, .int x2), (3, .int x3)]) hx hb dX0_group_6 hl (by decide) rfl (fun ls hl => ?_)
    refine lv_iload hx hb dX0_group_8 (lv_at hl 0 rfl) ?_
    refine lv_bipush (v := -2) hx hb dX0_group_10 (by decide) ?_
    refine lv_icmp_eq (tgt := 22) hx hb dX0_group_12 (by decide) (fun c1 => ?_) (fun c1 => ?_)
    · have hm := ifT hm c1
      exact hB22 h _ _ _ _ _ hm hw (by omega) (by omega) (lv_sub hl [] rfl)
    · have hm := ifF hm c1
      refine lv_iload_n hx hb dX0_group_15 rfl (lv_at hl 4 rfl) ?_
      obtain ⟨r2, er2, hm⟩ := bdE hm
      refine sci (va_runS (As := [.int x3]) (rest := []) ⟨hx, hb, hml, hown, hts⟩ (w_X0_isSide l er2) (cw_X0_isSide hts q896 ⟨Nat.le_of_ble_eq_true rfl, Nat.le_of_ble_eq_true rfl⟩) (pre_s _) rfl rfl hl.1 rfl (lv_room (Nat.le_of_ble_eq_true rfl)) dX0_group_16 ⟨show cc + 0 ≤ u9.1 - u.1 by omega, show ss + 0 ≤ u9.2.1 - u.2.1 by omega⟩) ?_
      refine lv_if_ne (tgt := 26) hx hb dX0_group_19 (by decide) (fun c3 => ?_) (fun c3 => ?_)
      · have hm := ifT hm c3
        refine lv_iload hx hb dX0_group_26 (lv_at hl 0 rfl) ?_
        refine lv_if_ge (tgt := 37) hx hb dX0_group_28 (by decide) (fun c4 => ?_) (fun c4 => ?_)
        · have hm := ifT hm c4
          refine lv_aload_n hx hb dX0_group_37 rfl (lv_at hl 1 rfl) ?_
          refine lv_iload_n hx hb dX0_group_38 rfl (lv_at hl 2 rfl) ?_
          refine lv_iload_n hx hb dX0_group_39 rfl (lv_at hl 3 rfl) ?_
          obtain ⟨g5, hm⟩ := gdE hm
          obtain ⟨a7, h6, ea7, hm⟩ := bd2E hm
          have lh6 := mo_X0_toldBy ea7
          have ph6 : h.1 ≤ h6.1 := lh6.1
          have qh6 : h.2.1 ≤ h6.2.1 := lh6.2.1
          have hmo := mo_X0_group_43   h6 x3 a7 _ hm
          have sh6 : h6.1 ≤ u9.1 := hmo.1
          have th6 : h6.2.1 ≤ u9.2.1 := hmo.2.1
          refine cg_callr hw lh6 (va_runV (As := [.int x1, .int x2]) (rest := []) ⟨hx, hb, hml, hown, hts⟩ (w_X0_toldBy l ea7) (cw_X0_toldBy hts q1187 ⟨Nat.le_of_ble_eq_true rfl, Nat.le_of_ble_eq_true rfl⟩) (cg_preV C hw g5 rfl _) rfl rfl hl.1 rfl (lv_room (Nat.le_of_ble_eq_true rfl)) dX0_group_40 ⟨show cc + (h6.1 - h.1) ≤ u9.1 - u.1 by omega, show ss + (h6.2.1 - h.2.1) ≤ u9.2.1 - u.2.1 by omega⟩) (fun H locs hw => ?_)
          exact hB43 h6 x3 a7 _ _ _ _ _ hm hw (by omega) (by omega) (lv_sub hl [4] rfl)
        · have hm := ifF hm c4
          refine lv_iload hx hb dX0_group_31 (lv_at hl 0 rfl) ?_
          refine lv_i2l hx hb dX0_group_33 rfl ?_
          refine lv_goto (tgt := 47) hx hb dX0_group_34 (by decide) ?_
          exact hB47 h (Int32.toInt64 y0) _ _ _ _ _ hm hw (by omega) (by omega) (lv_sub hl [] rfl)
      · have hm := ifT' hm c3
        exact hB22 h _ _ _ _ _ hm hw (by omega) (by omega) (lv_sub hl [] rfl)
  rw [m_X0_group] at hm
  refine lv_aload_n hx hb dX0_group_0 rfl (lv_at hl 0 rfl) ?_
  refine lv_iload_n hx hb dX0_group_1 rfl (lv_at hl 1 rfl) ?_
  refine lv_iload_n hx hb dX0_group_2 rfl (lv_at hl 2 rfl) ?_
  obtain ⟨g1, hm⟩ := gdE hm
  obtain ⟨r3, h2, er3, hm⟩ := bd2E hm
  have lh2 := mo_X0_asks er3
  have ph2 : u.1 ≤ h2.1 := lh2.1
  have qh2 : u.2.1 ≤ h2.2.1 := lh2.2.1
  have hmo := mo_X0_group_6   h2 x0 x1 x2 x3 r3 _ hm
  have sh2 : h2.1 ≤ u9.1 := hmo.1
  have th2 : h2.2.1 ≤ u9.2.1 := hmo.2.1
  refine cg_calli hw lh2 (va_runV (As := [.int x1, .int x2]) (rest := []) ⟨hx, hb, hml, hown, hts⟩ (w_X0_asks l er3) (cw_X0_asks hts q1096 ⟨Nat.le_of_ble_eq_true rfl, Nat.le_of_ble_eq_true rfl⟩) (cg_preV C hw g1 rfl _) rfl rfl hl.1 rfl (lv_room (Nat.le_of_ble_eq_true rfl)) dX0_group_3 ⟨show cc + (h2.1 - u.1) ≤ u9.1 - u.1 by omega, show ss + (h2.2.1 - u.2.1) ≤ u9.2.1 - u.2.1 by omega⟩) (fun H locs hw => ?_)
  exact hB6 h2 x0 x1 x2 x3 r3 _ _ _ _ _ hm hw (by omega) (by omega) (lv_sub hl [0, 1, 2, 3] rfl)
def m_X0_asksPoint_28 (f : Nat) (h : CH) : Option (Int32 × CH) := some ((-2 : Int32), h)
theorem mo_X0_asksPoint_28 {f : Nat} : ∀ (h : CH) (r : (Int32 × CH)), m_X0_asksPoint_28 f h = some r → le2 h r.2 := by
  intro h r hm
  rw [m_X0_asksPoint_28] at hm
  cases hm
  exact le2.rf
def m_X0_asksPoint_61 (f : Nat) (h : CH) (y0 : Int32) : Option (Int32 × CH) := some (y0, h)
theorem mo_X0_asksPoint_61 {f : Nat} : ∀ (h : CH) (y0 : Int32) (r : (Int32 × CH)), m_X0_asksPoint_61 f h y0 = some r → le2 h r.2 := by
  intro h y0 r hm
  rw [m_X0_asksPoint_61] at hm
  cases hm
  exact le2.rf
def m_X0_asksPoint_51 (f : Nat) (h : CH) (y0 : Int32) : Option (Int32 × CH) := if ¬ y0 = (1 : Int32) then
    m_X0_asksPoint_61 f h (-2 : Int32)
    else m_X0_asksPoint_61 f h (0 : Int32)
theorem mo_X0_asksPoint_51 {f : Nat} : ∀ (h : CH) (y0 : Int32) (r : (Int32 × CH)), m_X0_asksPoint_51 f h y0 = some r → le2 h r.2 := by
  intro h y0 r hm
  rw [m_X0_asksPoint_51] at hm
  by_cases c1 : ¬ y0 = (1 : Int32)
  · have hm := ifT hm c1
    exact (mo_X0_asksPoint_61  h (-2 : Int32) _ hm)
  · have hm := ifF hm c1
    exact (mo_X0_asksPoint_61  h (0 : Int32) _ hm)
def m_X0_asksPoint_6 (f : Nat) (h : CH) (x0 : Nat) (x1 : Int32) (x3 : Int32) (x4 : Int32) (x5 : Int32) (x6 : Int32) (y0 : Int32) : Option (Int32 × CH) := if y0 = (-2 : Int32) then
    m_X0_asksPoint_28 f h
    else bd (m_X0_isPoint f x3 x4 x5 x6) fun r2 =>
    if ¬ r2 = 0 then
    if 0 ≤ y0 then
    gd (isC h x0 1) <|
    bd2 (m_X0_has f h x0 x1 x3 x4 x5 x6) fun r7 h6 =>
    m_X0_asksPoint_51 f h6 r7
    else some (y0, h)
    else m_X0_asksPoint_28 f h
theorem mo_X0_asksPoint_6 {f : Nat} : ∀ (h : CH) (x0 : Nat) (x1 : Int32) (x3 : Int32) (x4 : Int32) (x5 : Int32) (x6 : Int32) (y0 : Int32) (r : (Int32 × CH)), m_X0_asksPoint_6 f h x0 x1 x3 x4 x5 x6 y0 = some r → le2 h r.2 := by
  intro h x0 x1 x3 x4 x5 x6 y0 r hm
  rw [m_X0_asksPoint_6] at hm
  by_cases c1 : y0 = (-2 : Int32)
  · have hm := ifT hm c1
    exact (mo_X0_asksPoint_28  h _ hm)
  · have hm := ifF hm c1
    obtain ⟨r2, er2, hm⟩ := bdE hm
    by_cases c3 : ¬ r2 = 0
    · have hm := ifT hm c3
      by_cases c4 : 0 ≤ y0
      · have hm := ifT hm c4
        obtain ⟨g5, hm⟩ := gdE hm
        obtain ⟨r7, h6, er7, hm⟩ := bd2E hm
        have lh6 := mo_X0_has er7
        exact (lh6.tr (mo_X0_asksPoint_51  h6 r7 _ hm))
      · have hm := ifF hm c4
        cases hm
        exact le2.rf
    · have hm := ifF hm c3
      exact (mo_X0_asksPoint_28  h _ hm)
def m_X0_asksPoint (f : Nat) (u : CH) (x0 : Nat) (x1 : Int32) (x2 : Int32) (x3 : Int32) (x4 : Int32) (x5 : Int32) (x6 : Int32) : Option (Int32 × CH) := gd (isC u x0 1) <|
    bd2 (m_X0_asks f u x0 x1 x2) fun r3 h2 =>
    m_X0_asksPoint_6 f h2 x0 x1 x3 x4 x5 x6 r3
theorem mo_X0_asksPoint {f : Nat} {u : CH} {x0 : Nat} {x1 : Int32} {x2 : Int32} {x3 : Int32} {x4 : Int32} {x5 : Int32} {x6 : Int32} {r0 : Int32} {u9 : CH} (hm : m_X0_asksPoint f u x0 x1 x2 x3 x4 x5 x6 = some (r0, u9)) : le2 u u9 := by
  rw [m_X0_asksPoint] at hm
  obtain ⟨g1, hm⟩ := gdE hm
  obtain ⟨r3, h2, er3, hm⟩ := bd2E hm
  have lh2 := mo_X0_asks er3
  exact (lh2.tr (mo_X0_asksPoint_6  h2 x0 x1 x3 x4 x5 x6 r3 _ hm))
abbrev rm_X0_asksPoint (mc ms : Nat) : Room := { frames := 106, cells := mc, slots := ms, locals := 4152 }
theorem cw_X0_asksPoint {R : Room} {s : State} {args : Array Value} {own : String} {idx mc ms : Nat} (hts : ∀ w ∈ lw_all, w.before args s = true) (hl : Cond.methodLink own idx yX0_asksPoint ∈ lw_all) (hR : 106 + 1 ≤ R.frames ∧ 8 + (8 + 11) + 4152 ≤ R.locals) : CallW R s args own RX0 idx yX0_asksPoint cX0_asksPoint 8 (Option.some Jvm.ClassFile.FieldType.int) (ws_ yX0_asksPoint cX0_asksPoint 8 (Option.some Jvm.ClassFile.FieldType.int)) (rm_X0_asksPoint mc ms) mc ms 6 := cwV 6 hts (lw_V hl q1202 qs32 q119 q1203) rfl rfl rfl (by decide +kernel) hR
set_option maxHeartbeats 4000000 in
set_option maxRecDepth 100000 in
theorem w_X0_asksPoint (l : Launch) {D : va_G} {dA : Nat → ClassId} {A : Nat → Prop} {f : Nat} {u u9 : CH} {r0 : Int32} {x0 : Nat} {x1 : Int32} {x2 : Int32} {x3 : Int32} {x4 : Int32} {x5 : Int32} {x6 : Int32} (hm : m_X0_asksPoint f u x0 x1 x2 x3 x4 x5 x6 = some (r0, u9)) : Met l yX0_asksPoint (ws_ yX0_asksPoint cX0_asksPoint 8 (Option.some Jvm.ClassFile.FieldType.int)) (rm_X0_asksPoint (u9.1 - u.1) (u9.2.1 - u.2.1)) (va_Pc [.ref x0, .int x1, .int x2, .int x3, .int x4, .int x5, .int x6] (CPre D dA A u)) (va_Qi (fun r u => r = r0 ∧ u = u9) (CPost D dA A) A) (u9.1 - u.1) (u9.2.1 - u.2.1) A := by
  refine Met.ofW (cc := cX0_asksPoint) (maxL := 8) (ret := (Option.some Jvm.ClassFile.FieldType.int)) (by decide) rfl ?_
  intro p e s m args below meth c s₁ B hml hv
  have hx := B.exec
  have hb := B.bytes
  have hr := B.returns
  have hts := atoms_spec (ws := (ws_ yX0_asksPoint cX0_asksPoint 8 (Option.some Jvm.ClassFile.FieldType.int))) B.pre
  have hts : ∀ w ∈ lw_all, w.before args s = true := fun w h => hts w (List.mem_cons_of_mem _ h)
  have hown : s.vm.findClass RX0 = some m.cls := findClass_of_methodNamed B.named
  have hlocks := B.notSynchronized
  obtain ⟨hav, hv⟩ := hv
  have C : CX p s m args c cX0_asksPoint RX0 D dA := ⟨hx, hb, hown, hts, hv.2⟩
  have hw : CW D dA A s u s.heap [] := hv.1
  generalize hQ : MQ below (va_Qi (fun r u => r = r0 ∧ u = u9) (CPost D dA A) A) args s (u9.1 - u.1) (u9.2.1 - u.2.1) A = QQ
  have hent := lg_entry_eq m [.ref x0, .int x1, .int x2, .int x3, .int x4, .int x5, .int x6] 8
  rw [← hav] at hent
  rw [hent]
  have hl := lv_entry ([.ref x0, .int x1, .int x2, .int x3, .int x4, .int x5, .int x6]) (n := 8) (Nat.le_of_ble_eq_true rfl)
  generalize (lg_sl ([.ref x0, .int x1, .int x2, .int x3, .int x4, .int x5, .int x6]) ++ List.replicate (8 - (lg_sl ([.ref x0, .int x1, .int x2, .int x3, .int x4, .int x5, .int x6])).length) Slot.unset).toArray = ls at hl ⊢
  have hl : lv_has ls 8 [(0, .ref x0), (1, .int x1), (2, .int x2), (3, .int x3), (4, .int x4), (5, .int x5), (6, .int x6)] := hl
  obtain ⟨cc, ecc⟩ : ∃ z : Nat, z = 0 := ⟨0, rfl⟩
  obtain ⟨ss, ess⟩ : ∃ z : Nat, z = 0 := ⟨0, rfl⟩
  have hcc : cc + u.1 = u.1 := by omega
  have hss : ss + u.2.1 = u.2.1 := by omega
  suffices hgo : W p l e (rm_X0_asksPoint (u9.1 - u.1) (u9.2.1 - u.2.1)) s m args below meth c s.heap [] cc ss QQ (F0 m 0 ls []) by rw [ecc, ess] at hgo; exact hgo
  have ⟨pu, qu, _, _⟩ := mo_X0_asksPoint hm
  have hB28 : ∀ (h : CH) (cc ss : Nat) (H : Heap) (locs : List Loc) (ls : Array Slot), m_X0_asksPoint_28 f h = some (r0, u9) → CW D dA A s h H locs → cc + u.1 = h.1 → ss + u.2.1 = h.2.1 → lv_has ls 8 [] → W p l e (rm_X0_asksPoint (u9.1 - u.1) (u9.2.1 - u.2.1)) s m args below meth c H locs cc ss QQ (F0 m 28 ls []) := by
    intro h cc ss H locs ls hm hw hcc hss hl
    have hmo := mo_X0_asksPoint_28  h _ hm
    have sb_ : h.1 ≤ u9.1 := hmo.1
    have tb_ : h.2.1 ≤ u9.2.1 := hmo.2.1
    rw [m_X0_asksPoint_28] at hm
    refine lv_bipush (v := -2) hx hb dX0_asksPoint_28 (by decide) ?_
    obtain ⟨er, eh⟩ := retE hm
    have ec : cc = u9.1 - u.1 := by rw [← eh]; omega
    have es : ss = u9.2.1 - u.2.1 := by rw [← eh]; omega
    rw [ec, es, ← hQ]
    exact W.iret (v := (-2 : Int32)) hx hb hr (fun t ht hW => ⟨⟨(-2 : Int32), h, rfl, ⟨er, eh⟩, ⟨by rw [ht]; exact hw.1, by rw [ht]; exact hw.2.1⟩⟩, hw.2.2.1.F ht⟩) hw.2.2.1.2.2 dX0_asksPoint_30
  have hB61 : ∀ (h : CH) (y0 : Int32) (cc ss : Nat) (H : Heap) (locs : List Loc) (ls : Array Slot), m_X0_asksPoint_61 f h y0 = some (r0, u9) → CW D dA A s h H locs → cc + u.1 = h.1 → ss + u.2.1 = h.2.1 → lv_has ls 8 [] → W p l e (rm_X0_asksPoint (u9.1 - u.1) (u9.2.1 - u.2.1)) s m args below meth c H locs cc ss QQ (F0 m 61 ls [.int y0]) := by
    intro h y0 cc ss H locs ls hm hw hcc hss hl
    have hmo := mo_X0_asksPoint_61  h y0 _ hm
    have sb_ : h.1 ≤ u9.1 := hmo.1
    have tb_ : h.2.1 ≤ u9.2.1 := hmo.2.1
    rw [m_X0_asksPoint_61] at hm
    obtain ⟨er, eh⟩ := retE hm
    have ec : cc = u9.1 - u.1 := by rw [← eh]; omega
    have es : ss = u9.2.1 - u.2.1 := by rw [← eh]; omega
    rw [ec, es, ← hQ]
    exact W.iret (v := y0) hx hb hr (fun t ht hW => ⟨⟨y0, h, rfl, ⟨er, eh⟩, ⟨by rw [ht]; exact hw.1, by rw [ht]; exact hw.2.1⟩⟩, hw.2.2.1.F ht⟩) hw.2.2.1.2.2 dX0_asksPoint_61
  have hB51 : ∀ (h : CH) (y0 : Int32) (cc ss : Nat) (H : Heap) (locs : List Loc) (ls : Array Slot), m_X0_asksPoint_51 f h y0 = some (r0, u9) → CW D dA A s h H locs → cc + u.1 = h.1 → ss + u.2.1 = h.2.1 → lv_has ls 8 [] → W p l e (rm_X0_asksPoint (u9.1 - u.1) (u9.2.1 - u.2.1)) s m args below meth c H locs cc ss QQ (F0 m 51 ls [.int y0]) := by
    intro h y0 cc ss H locs ls hm hw hcc hss hl
    have hmo := mo_X0_asksPoint_51  h y0 _ hm
    have sb_ : h.1 ≤ u9.1 := hmo.1
    have tb_ : h.2.1 ≤ u9.2.1 := hmo.2.1
    rw [m_X0_asksPoint_51] at hm
    refine lv_iconst (v := 1) hx hb dX0_asksPoint_51 (by decide) ?_
    refine lv_icmp_ne (tgt := 59) hx hb dX0_asksPoint_52 (by decide) (fun c1 => ?_) (fun c1 => ?_)
    · have hm := ifT hm c1
      refine lv_bipush (v := -2) hx hb dX0_asksPoint_59 (by decide) ?_
      exact hB61 h (-2 : Int32) _ _ _ _ _ hm hw (by omega) (by omega) (lv_sub hl [] rfl)
    · have hm := ifT' hm c1
      refine lv_iconst (v := 0) hx hb dX0_asksPoint_55 (by decide) ?_
      refine lv_goto (tgt := 61) hx hb dX0_asksPoint_56 (by decide) ?_
      exact hB61 h (0 : Int32) _ _ _ _ _ hm hw (by omega) (by omega) (lv_sub hl [] rfl)
  have hB6 : ∀ (h : CH) (x0 : Nat) (x1 : Int32) (x3 : Int32) (x4 : Int32) (x5 : Int32) (x6 : Int32) (y0 : Int32) (cc ss : Nat) (H : Heap) (locs : List Loc) (ls : Array Slot), m_X0_asksPoint_6 f h x0 x1 x3 x4 x5 x6 y0 = some (r0, u9) → CW D dA A s h H locs → cc + u.1 = h.1 → ss + u.2.1 = h.2.1 → lv_has ls 8 [(0, .ref x0), (1, .int x1), (3, .int x3), (4, .int x4), (5, .int x5), (6, .int x6)] → W p l e (rm_X0_asksPoint (u9.1 - u.1) (u9.2.1 - u.2.1)) s m args below meth c H locs cc ss QQ (F0 m 6 ls [.int y0]) := by
    intro h x0 x1 x3 x4 x5 x6 y0 cc ss H locs ls hm hw hcc hss hl
    have hmo := mo_X0_asksPoint_6  h x0 x1 x3 x4 x5 x6 y0 _ hm
    have sb_ : h.1 ≤ u9.1 := hmo.1
    have tb_ : h.2.1 ≤ u9.2.1 := hmo.2.1
    rw [m_X0_asksPoint_6] at hm
    refine lv_istore (lv' := [(7, .int y0), (0, .ref x0), (1, .int x1), (3, .int x3), (4, .int x4), (5, .int x5), (6, .int x6)]) hx hb dX0_asksPoint_6 hl (by decide) rfl (fun ls hl => ?_)
    refine lv_iload hx hb dX0_asksPoint_8 (lv_at hl 0 rfl) ?_
    refine lv_bipush (v := -2) hx hb dX0_asksPoint_10 (by decide) ?_
    refine lv_icmp_eq (tgt := 28) hx hb dX0_asksPoint_12 (by decide) (fun c1 => ?_) (fun c1 => ?_)
    · have hm := ifT hm c1
      exact hB28 h _ _ _ _ _ hm hw (by omega) (by omega) (lv_sub hl [] rfl)
    · have hm := ifF hm c1
      refine lv_iload_n hx hb dX0_asksPoint_15 rfl (lv_at hl 3 rfl) ?_
      refine lv_iload hx hb dX0_asksPoint_16 (lv_at hl 4 rfl) ?_
      refine lv_iload hx hb dX0_asksPoint_18 (lv_at hl 5 rfl) ?_
      refine lv_iload hx hb dX0_asksPoint_20 (lv_at hl 6 rfl) ?_
      obtain ⟨r2, er2, hm⟩ := bdE hm
      refine sci (va_runS (As := [.int x3, .int x4, .int x5, .int x6]) (rest := []) ⟨hx, hb, hml, hown, hts⟩ (w_X0_isPoint l er2) (cw_X0_isPoint hts q1079 ⟨Nat.le_of_ble_eq_true rfl, Nat.le_of_ble_eq_true rfl⟩) (pre_s _) rfl rfl hl.1 rfl (lv_room (Nat.le_of_ble_eq_true rfl)) dX0_asksPoint_22 ⟨show cc + 0 ≤ u9.1 - u.1 by omega, show ss + 0 ≤ u9.2.1 - u.2.1 by omega⟩) ?_
      refine lv_if_ne (tgt := 31) hx hb dX0_asksPoint_25 (by decide) (fun c3 => ?_) (fun c3 => ?_)
      · have hm := ifT hm c3
        refine lv_iload hx hb dX0_asksPoint_31 (lv_at hl 0 rfl) ?_
        refine lv_if_ge (tgt := 39) hx hb dX0_asksPoint_33 (by decide) (fun c4 => ?_) (fun c4 => ?_)
        · have hm := ifT hm c4
          refine lv_aload_n hx hb dX0_asksPoint_39 rfl (lv_at hl 1 rfl) ?_
          refine lv_iload_n hx hb dX0_asksPoint_40 rfl (lv_at hl 2 rfl) ?_
          refine lv_iload_n hx hb dX0_asksPoint_41 rfl (lv_at hl 3 rfl) ?_
          refine lv_iload hx hb dX0_asksPoint_42 (lv_at hl 4 rfl) ?_
          refine lv_iload hx hb dX0_asksPoint_44 (lv_at hl 5 rfl) ?_
          refine lv_iload hx hb dX0_asksPoint_46 (lv_at hl 6 rfl) ?_
          obtain ⟨g5, hm⟩ := gdE hm
          obtain ⟨r7, h6, er7, hm⟩ := bd2E hm
          have lh6 := mo_X0_has er7
          have ph6 : h.1 ≤ h6.1 := lh6.1
          have qh6 : h.2.1 ≤ h6.2.1 := lh6.2.1
          have hmo := mo_X0_asksPoint_51   h6 r7 _ hm
          have sh6 : h6.1 ≤ u9.1 := hmo.1
          have th6 : h6.2.1 ≤ u9.2.1 := hmo.2.1
          refine cg_calli hw lh6 (va_runV (As := [.int x1, .int x3, .int x4, .int x5, .int x6]) (rest := []) ⟨hx, hb, hml, hown, hts⟩ (w_X0_has l er7) (cw_X0_has hts q1204 ⟨Nat.le_of_ble_eq_true rfl, Nat.le_of_ble_eq_true rfl⟩) (cg_preV C hw g5 rfl _) rfl rfl hl.1 rfl (lv_room (Nat.le_of_ble_eq_true rfl)) dX0_asksPoint_48 ⟨show cc + (h6.1 - h.1) ≤ u9.1 - u.1 by omega, show ss + (h6.2.1 - h.2.1) ≤ u9.2.1 - u.2.1 by omega⟩) (fun H locs hw => ?_)
          exact hB51 h6 r7 _ _ _ _ _ hm hw (by omega) (by omega) (lv_sub hl [] rfl)
        · have hm := ifF hm c4
          refine lv_iload hx hb dX0_asksPoint_36 (lv_at hl 0 rfl) ?_
          obtain ⟨er, eh⟩ := retE hm
          have ec : cc = u9.1 - u.1 := by rw [← eh]; omega
          have es : ss = u9.2.1 - u.2.1 := by rw [← eh]; omega
          rw [ec, es, ← hQ]
          exact W.iret (v := y0) hx hb hr (fun t ht hW => ⟨⟨y0, h, rfl, ⟨er, eh⟩, ⟨by rw [ht]; exact hw.1, by rw [ht]; exact hw.2.1⟩⟩, hw.2.2.1.F ht⟩) hw.2.2.1.2.2 dX0_asksPoint_38
      · have hm := ifT' hm c3
        exact hB28 h _ _ _ _ _ hm hw (by omega) (by omega) (lv_sub hl [] rfl)
  rw [m_X0_asksPoint] at hm
  refine lv_aload_n hx hb dX0_asksPoint_0 rfl (lv_at hl 0 rfl) ?_
  refine lv_iload_n hx hb dX0_asksPoint_1 rfl (lv_at hl 1 rfl) ?_
  refine lv_iload_n hx hb dX0_asksPoint_2 rfl (lv_at hl 2 rfl) ?_
  obtain ⟨g1, hm⟩ := gdE hm
  obtain ⟨r3, h2, er3, hm⟩ := bd2E hm
  have lh2 := mo_X0_asks er3
  have ph2 : u.1 ≤ h2.1 := lh2.1
  have qh2 : u.2.1 ≤ h2.2.1 := lh2.2.1
  have hmo := mo_X0_asksPoint_6   h2 x0 x1 x3 x4 x5 x6 r3 _ hm
  have sh2 : h2.1 ≤ u9.1 := hmo.1
  have th2 : h2.2.1 ≤ u9.2.1 := hmo.2.1
  refine cg_calli hw lh2 (va_runV (As := [.int x1, .int x2]) (rest := []) ⟨hx, hb, hml, hown, hts⟩ (w_X0_asks l er3) (cw_X0_asks hts q1096 ⟨Nat.le_of_ble_eq_true rfl, Nat.le_of_ble_eq_true rfl⟩) (cg_preV C hw g1 rfl _) rfl rfl hl.1 rfl (lv_room (Nat.le_of_ble_eq_true rfl)) dX0_asksPoint_3 ⟨show cc + (h2.1 - u.1) ≤ u9.1 - u.1 by omega, show ss + (h2.2.1 - u.2.1) ≤ u9.2.1 - u.2.1 by omega⟩) (fun H locs hw => ?_)
  exact hB6 h2 x0 x1 x3 x4 x5 x6 r3 _ _ _ _ _ hm hw (by omega) (by omega) (lv_sub hl [0, 1, 3, 4, 5, 6] rfl)
def m_X0_orderOf_217 (f : Nat) (h : CH) (x16 : Int64) : Option (Int32 × CH) := some ((Int64.toInt32 x16), h)
theorem mo_X0_orderOf_217 {f : Nat} : ∀ (h : CH) (x16 : Int64) (r : (Int32 × CH)), m_X0_orderOf_217 f h x16 = some r → le2 h r.2 := by
  intro h x16 r hm
  rw [m_X0_orderOf_217] at hm
  cases hm
  exact le2.rf
def m_X0_orderOf_139 (f : Nat) : Nat → CH → Nat → Int64 → Nat → Int64 → Int32 → Option (Int32 × CH)
  | 0, _, _, _, _, _, _ => none
  | n139 + 1, h, x12, x13, x15, x16, x18 => if (3 : Int32) ≤ x18 then
    m_X0_orderOf_217 f h x16
    else bd (aL h 1 x15 (0 : Int32)) fun v2 =>
    bd (oR h 3 0 x12) fun a3 =>
    bd (aR h 4 a3 (0 : Int32)) fun a4 =>
    bd (aL h 1 a4 x18) fun v5 =>
    bd (aL h 1 x15 (1 : Int32)) fun v6 =>
    bd (oR h 3 0 x12) fun a7 =>
    bd (aR h 4 a7 (1 : Int32)) fun a8 =>
    bd (aL h 1 a8 x18) fun v9 =>
    bd (aL h 1 x15 (2 : Int32)) fun v10 =>
    bd (oR h 3 0 x12) fun a11 =>
    bd (aR h 4 a11 (2 : Int32)) fun a12 =>
    bd (aL h 1 a12 x18) fun v13 =>
    nmv ((((v2 * v5) + (v6 * v9)) + (v10 * v13)) : Int64) fun v14 =>
    bd (m_X0_divisor f x13 v14) fun r15 =>
    gd (nzL r15) <|
    bd (m_X0_multiple f x16 (x13 / r15)) fun r17 =>
    nmv ((x18 + 1) : Int32) fun v18 =>
    m_X0_orderOf_139 f n139 h x12 x13 x15 r17 v18
theorem mo_X0_orderOf_139 {f : Nat} : ∀ (n139 : Nat) (h : CH) (x12 : Nat) (x13 : Int64) (x15 : Nat) (x16 : Int64) (x18 : Int32) (r : (Int32 × CH)), m_X0_orderOf_139 f n139 h x12 x13 x15 x16 x18 = some r → le2 h r.2 := by
  intro n139
  induction n139 with
  | zero => intro h x12 x13 x15 x16 x18 r hm; rw [m_X0_orderOf_139] at hm; exact noE hm
  | succ n139 ihm =>
    intro h x12 x13 x15 x16 x18 r hm
    rw [m_X0_orderOf_139] at hm
    by_cases c1 : (3 : Int32) ≤ x18
    · have hm := ifT hm c1
      exact (mo_X0_orderOf_217  h x16 _ hm)
    · have hm := ifF hm c1
      obtain ⟨v2, ev2, hm⟩ := bdE hm
      obtain ⟨a3, ea3, hm⟩ := bdE hm
      obtain ⟨a4, ea4, hm⟩ := bdE hm
      obtain ⟨v5, ev5, hm⟩ := bdE hm
      obtain ⟨v6, ev6, hm⟩ := bdE hm
      obtain ⟨a7, ea7, hm⟩ := bdE hm
      obtain ⟨a8, ea8, hm⟩ := bdE hm
      obtain ⟨v9, ev9, hm⟩ := bdE hm
      obtain ⟨v10, ev10, hm⟩ := bdE hm
      obtain ⟨a11, ea11, hm⟩ := bdE hm
      obtain ⟨a12, ea12, hm⟩ := bdE hm
      obtain ⟨v13, ev13, hm⟩ := bdE hm
      obtain ⟨v14, ev14, hm⟩ := nmE hm
      obtain ⟨r15, er15, hm⟩ := bdE hm
      obtain ⟨g16, hm⟩ := gdE hm
      obtain ⟨r17, er17, hm⟩ := bdE hm
      obtain ⟨v18, ev18, hm⟩ := nmE hm
      exact (ihm h x12 x13 x15 r17 v18 _ hm)
def m_X0_orderOf_133 (f : Nat) (h : CH) (x12 : Nat) (x13 : Int64) (x15 : Nat) : Option (Int32 × CH) := m_X0_orderOf_139 f f h x12 x13 x15 (1 : Int64) (0 : Int32)
theorem mo_X0_orderOf_133 {f : Nat} : ∀ (h : CH) (x12 : Nat) (x13 : Int64) (x15 : Nat) (r : (Int32 × CH)), m_X0_orderOf_133 f h x12 x13 x15 = some r → le2 h r.2 := by
  intro h x12 x13 x15 r hm
  rw [m_X0_orderOf_133] at hm
  exact (mo_X0_orderOf_139  f h x12 x13 x15 (1 : Int64) (0 : Int32) _ hm)
def m_X0_orderOf_122 (f : Nat) (k61 : CH → Nat → Int32 → Int32 → Int32 → Int32 → Nat → Int64 → Nat → Int64 → Nat → Int32 → Option (Int32 × CH)) (h : CH) (x0 : Nat) (x1 : Int32) (x3 : Int32) (x4 : Int32) (x5 : Int32) (x8 : Nat) (x9 : Int64) (x12 : Nat) (x13 : Int64) (x15 : Nat) (x16 : Int32) (y0 : Nat) (y1 : Int32) (y2 : Int64) (y3 : Int64) : Option (Int32 × CH) := gd (nzL x9) <|
    bd (uL h 1 y0 y1 ((y2 * y3) / x9)) fun h2 =>
    nmv ((x16 + 1) : Int32) fun v3 =>
    k61 h2 x0 x1 x3 x4 x5 x8 x9 x12 x13 x15 v3
theorem mo_X0_orderOf_122 {f : Nat} {k61 : CH → Nat → Int32 → Int32 → Int32 → Int32 → Nat → Int64 → Nat → Int64 → Nat → Int32 → Option (Int32 × CH)} (hk61 : ∀ (h : CH) (x0 : Nat) (x1 : Int32) (x3 : Int32) (x4 : Int32) (x5 : Int32) (x8 : Nat) (x9 : Int64) (x12 : Nat) (x13 : Int64) (x15 : Nat) (x16 : Int32) (r : (Int32 × CH)), k61 h x0 x1 x3 x4 x5 x8 x9 x12 x13 x15 x16 = some r → le2 h r.2) : ∀ (h : CH) (x0 : Nat) (x1 : Int32) (x3 : Int32) (x4 : Int32) (x5 : Int32) (x8 : Nat) (x9 : Int64) (x12 : Nat) (x13 : Int64) (x15 : Nat) (x16 : Int32) (y0 : Nat) (y1 : Int32) (y2 : Int64) (y3 : Int64) (r : (Int32 × CH)), m_X0_orderOf_122 f k61 h x0 x1 x3 x4 x5 x8 x9 x12 x13 x15 x16 y0 y1 y2 y3 = some r → le2 h r.2 := by
  intro h x0 x1 x3 x4 x5 x8 x9 x12 x13 x15 x16 y0 y1 y2 y3 r hm
  rw [m_X0_orderOf_122] at hm
  obtain ⟨g1, hm⟩ := gdE hm
  obtain ⟨h2, eh2, hm⟩ := bdE hm
  have lh2 := uL_le eh2
  obtain ⟨v3, ev3, hm⟩ := nmE hm
  exact (lh2.tr (hk61 h2 x0 x1 x3 x4 x5 x8 x9 x12 x13 x15 v3 _ hm))
def m_X0_orderOf_119 (f : Nat) (k61 : CH → Nat → Int32 → Int32 → Int32 → Int32 → Nat → Int64 → Nat → Int64 → Nat → Int32 → Option (Int32 × CH)) (h : CH) (x0 : Nat) (x1 : Int32) (x3 : Int32) (x4 : Int32) (x5 : Int32) (x8 : Nat) (x9 : Int64) (x12 : Nat) (x13 : Int64) (x15 : Nat) (x16 : Int32) (y0 : Nat) (y1 : Int32) (y2 : Int64) (y3 : Nat) : Option (Int32 × CH) := if isC h y3 6 = true then
    bd2 (m_X6_over f h y3) fun r3 h2 =>
    m_X0_orderOf_122 f k61 h2 x0 x1 x3 x4 x5 x8 x9 x12 x13 x15 x16 y0 y1 y2 r3
    else gd (isC h y3 7) <|
    bd2 (m_X7_over f h y3) fun r6 h5 =>
    m_X0_orderOf_122 f k61 h5 x0 x1 x3 x4 x5 x8 x9 x12 x13 x15 x16 y0 y1 y2 r6
theorem mo_X0_orderOf_119 {f : Nat} {k61 : CH → Nat → Int32 → Int32 → Int32 → Int32 → Nat → Int64 → Nat → Int64 → Nat → Int32 → Option (Int32 × CH)} (hk61 : ∀ (h : CH) (x0 : Nat) (x1 : Int32) (x3 : Int32) (x4 : Int32) (x5 : Int32) (x8 : Nat) (x9 : Int64) (x12 : Nat) (x13 : Int64) (x15 : Nat) (x16 : Int32) (r : (Int32 × CH)), k61 h x0 x1 x3 x4 x5 x8 x9 x12 x13 x15 x16 = some r → le2 h r.2) : ∀ (h : CH) (x0 : Nat) (x1 : Int32) (x3 : Int32) (x4 : Int32) (x5 : Int32) (x8 : Nat) (x9 : Int64) (x12 : Nat) (x13 : Int64) (x15 : Nat) (x16 : Int32) (y0 : Nat) (y1 : Int32) (y2 : Int64) (y3 : Nat) (r : (Int32 × CH)), m_X0_orderOf_119 f k61 h x0 x1 x3 x4 x5 x8 x9 x12 x13 x15 x16 y0 y1 y2 y3 = some r → le2 h r.2 := by
  intro h x0 x1 x3 x4 x5 x8 x9 x12 x13 x15 x16 y0 y1 y2 y3 r hm
  rw [m_X0_orderOf_119] at hm
  by_cases c1 : isC h y3 6 = true
  · have hm := ifT hm c1
    obtain ⟨r3, h2, er3, hm⟩ := bd2E hm
    have lh2 := mo_X6_over er3
    exact (lh2.tr (mo_X0_orderOf_122 hk61 h2 x0 x1 x3 x4 x5 x8 x9 x12 x13 x15 x16 y0 y1 y2 r3 _ hm))
  · have hm := ifF hm c1
    obtain ⟨g4, hm⟩ := gdE hm
    obtain ⟨r6, h5, er6, hm⟩ := bd2E hm
    have lh5 := mo_X7_over er6
    exact (lh5.tr (mo_X0_orderOf_122 hk61 h5 x0 x1 x3 x4 x5 x8 x9 x12 x13 x15 x16 y0 y1 y2 r6 _ hm))
def m_X0_orderOf_61 (f : Nat) : Nat → CH → Nat → Int32 → Int32 → Int32 → Int32 → Nat → Int64 → Nat → Int64 → Nat → Int32 → Option (Int32 × CH)
  | 0, _, _, _, _, _, _, _, _, _, _, _, _ => none
  | n61 + 1, h, x0, x1, x3, x4, x5, x8, x9, x12, x13, x15, x16 => if (3 : Int32) ≤ x16 then
    m_X0_orderOf_133 f h x12 x13 x15
    else bd (oR h 3 0 x8) fun a2 =>
    bd (aR h 4 a2 (0 : Int32)) fun a3 =>
    bd (aL h 1 a3 x16) fun v4 =>
    bd (oR h 3 0 x8) fun a5 =>
    bd (aR h 4 a5 (1 : Int32)) fun a6 =>
    bd (aL h 1 a6 x16) fun v7 =>
    bd (oR h 3 0 x8) fun a8 =>
    bd (aR h 4 a8 (2 : Int32)) fun a9 =>
    bd (aL h 1 a9 x16) fun v10 =>
    gd (isC h x0 1) <|
    bd2 (m_X0_at f h x0 x1) fun a13 h12 =>
    m_X0_orderOf_119 f (m_X0_orderOf_61 f n61) h12 x0 x1 x3 x4 x5 x8 x9 x12 x13 x15 x16 x15 x16 ((((Int32.toInt64 x3) * v4) + ((Int32.toInt64 x4) * v7)) + ((Int32.toInt64 x5) * v10)) a13
theorem mo_X0_orderOf_61 {f : Nat} : ∀ (n61 : Nat) (h : CH) (x0 : Nat) (x1 : Int32) (x3 : Int32) (x4 : Int32) (x5 : Int32) (x8 : Nat) (x9 : Int64) (x12 : Nat) (x13 : Int64) (x15 : Nat) (x16 : Int32) (r : (Int32 × CH)), m_X0_orderOf_61 f n61 h x0 x1 x3 x4 x5 x8 x9 x12 x13 x15 x16 = some r → le2 h r.2 := by
  intro n61
  induction n61 with
  | zero => intro h x0 x1 x3 x4 x5 x8 x9 x12 x13 x15 x16 r hm; rw [m_X0_orderOf_61] at hm; exact noE hm
  | succ n61 ihm =>
    intro h x0 x1 x3 x4 x5 x8 x9 x12 x13 x15 x16 r hm
    rw [m_X0_orderOf_61] at hm
    by_cases c1 : (3 : Int32) ≤ x16
    · have hm := ifT hm c1
      exact (mo_X0_orderOf_133  h x12 x13 x15 _ hm)
    · have hm := ifF hm c1
      obtain ⟨a2, ea2, hm⟩ := bdE hm
      obtain ⟨a3, ea3, hm⟩ := bdE hm
      obtain ⟨v4, ev4, hm⟩ := bdE hm
      obtain ⟨a5, ea5, hm⟩ := bdE hm
      obtain ⟨a6, ea6, hm⟩ := bdE hm
      obtain ⟨v7, ev7, hm⟩ := bdE hm
      obtain ⟨a8, ea8, hm⟩ := bdE hm
      obtain ⟨a9, ea9, hm⟩ := bdE hm
      obtain ⟨v10, ev10, hm⟩ := bdE hm
      obtain ⟨g11, hm⟩ := gdE hm
      obtain ⟨a13, h12, ea13, hm⟩ := bd2E hm
      have lh12 := mo_X0_at ea13
      exact (lh12.tr (mo_X0_orderOf_119 ihm h12 x0 x1 x3 x4 x5 x8 x9 x12 x13 x15 x16 x15 x16 ((((Int32.toInt64 x3) * v4) + ((Int32.toInt64 x4) * v7)) + ((Int32.toInt64 x5) * v10)) a13 _ hm))
def m_X0_orderOf_56 (f : Nat) (h : CH) (x0 : Nat) (x1 : Int32) (x3 : Int32) (x4 : Int32) (x5 : Int32) (x8 : Nat) (x9 : Int64) (x12 : Nat) (x13 : Int64) (y0 : Nat) : Option (Int32 × CH) := m_X0_orderOf_61 f f h x0 x1 x3 x4 x5 x8 x9 x12 x13 y0 (0 : Int32)
theorem mo_X0_orderOf_56 {f : Nat} : ∀ (h : CH) (x0 : Nat) (x1 : Int32) (x3 : Int32) (x4 : Int32) (x5 : Int32) (x8 : Nat) (x9 : Int64) (x12 : Nat) (x13 : Int64) (y0 : Nat) (r : (Int32 × CH)), m_X0_orderOf_56 f h x0 x1 x3 x4 x5 x8 x9 x12 x13 y0 = some r → le2 h r.2 := by
  intro h x0 x1 x3 x4 x5 x8 x9 x12 x13 y0 r hm
  rw [m_X0_orderOf_56] at hm
  exact (mo_X0_orderOf_61  f h x0 x1 x3 x4 x5 x8 x9 x12 x13 y0 (0 : Int32) _ hm)
def m_X0_orderOf_48 (f : Nat) (h : CH) (x0 : Nat) (x1 : Int32) (x3 : Int32) (x4 : Int32) (x5 : Int32) (x8 : Nat) (x9 : Int64) (x12 : Nat) (y0 : Int64) : Option (Int32 × CH) := bd (m_J9_abs f y0) fun r1 =>
    nmv (cn h 3 (.inr (1, 3, .inr (.inl (fun _ => 0))))) fun h2 =>
    nmv (h.1 : Nat) fun a3 =>
    m_X0_orderOf_56 f h2 x0 x1 x3 x4 x5 x8 x9 x12 r1 a3
theorem mo_X0_orderOf_48 {f : Nat} : ∀ (h : CH) (x0 : Nat) (x1 : Int32) (x3 : Int32) (x4 : Int32) (x5 : Int32) (x8 : Nat) (x9 : Int64) (x12 : Nat) (y0 : Int64) (r : (Int32 × CH)), m_X0_orderOf_48 f h x0 x1 x3 x4 x5 x8 x9 x12 y0 = some r → le2 h r.2 := by
  intro h x0 x1 x3 x4 x5 x8 x9 x12 y0 r hm
  rw [m_X0_orderOf_48] at hm
  obtain ⟨r1, er1, hm⟩ := bdE hm
  obtain ⟨h2, eh2, hm⟩ := nmE hm
  have lh2 := cn_le eh2
  obtain ⟨a3, ea3, hm⟩ := nmE hm
  exact (lh2.tr (mo_X0_orderOf_56  h2 x0 x1 x3 x4 x5 x8 x9 x12 r1 a3 _ hm))
def m_X0_orderOf_41 (f : Nat) (h : CH) (x0 : Nat) (x1 : Int32) (x3 : Int32) (x4 : Int32) (x5 : Int32) (x8 : Nat) (x9 : Int64) (x11 : Nat) (y0 : Nat) : Option (Int32 × CH) := gd (isC h x11 3) <|
    bd2 (m_X2_determinant f h x11) fun r3 h2 =>
    m_X0_orderOf_48 f h2 x0 x1 x3 x4 x5 x8 x9 y0 r3
theorem mo_X0_orderOf_41 {f : Nat} : ∀ (h : CH) (x0 : Nat) (x1 : Int32) (x3 : Int32) (x4 : Int32) (x5 : Int32) (x8 : Nat) (x9 : Int64) (x11 : Nat) (y0 : Nat) (r : (Int32 × CH)), m_X0_orderOf_41 f h x0 x1 x3 x4 x5 x8 x9 x11 y0 = some r → le2 h r.2 := by
  intro h x0 x1 x3 x4 x5 x8 x9 x11 y0 r hm
  rw [m_X0_orderOf_41] at hm
  obtain ⟨g1, hm⟩ := gdE hm
  obtain ⟨r3, h2, er3, hm⟩ := bd2E hm
  have lh2 := mo_X2_determinant er3
  exact (lh2.tr (mo_X0_orderOf_48  h2 x0 x1 x3 x4 x5 x8 x9 y0 r3 _ hm))
def m_X0_orderOf_34 (f : Nat) (h : CH) (x0 : Nat) (x1 : Int32) (x3 : Int32) (x4 : Int32) (x5 : Int32) (x8 : Nat) (x9 : Int64) (y0 : Nat) : Option (Int32 × CH) := gd (isC h y0 3) <|
    bd2 (m_X2_adjoint f h y0) fun a3 h2 =>
    m_X0_orderOf_41 f h2 x0 x1 x3 x4 x5 x8 x9 y0 a3
theorem mo_X0_orderOf_34 {f : Nat} : ∀ (h : CH) (x0 : Nat) (x1 : Int32) (x3 : Int32) (x4 : Int32) (x5 : Int32) (x8 : Nat) (x9 : Int64) (y0 : Nat) (r : (Int32 × CH)), m_X0_orderOf_34 f h x0 x1 x3 x4 x5 x8 x9 y0 = some r → le2 h r.2 := by
  intro h x0 x1 x3 x4 x5 x8 x9 y0 r hm
  rw [m_X0_orderOf_34] at hm
  obtain ⟨g1, hm⟩ := gdE hm
  obtain ⟨a3, h2, ea3, hm⟩ := bd2E hm
  have lh2 := mo_X2_adjoint ea3
  exact (lh2.tr (mo_X0_orderOf_41  h2 x0 x1 x3 x4 x5 x8 x9 y0 a3 _ hm))
def m_X0_orderOf_25 (f : Nat) (h : CH) (x0 : Nat) (x1 : Int32) (x2 : Int32) (x3 : Int32) (x4 : Int32) (x5 : Int32) (x8 : Nat) (y0 : Int64) (y1 : Int64) : Option (Int32 × CH) := nmv ((y0 * y1) : Int64) fun v1 =>
    gd (isC h x0 1) <|
    bd2 (m_X0_toldBy f h x0 x1 x2) fun a4 h3 =>
    m_X0_orderOf_34 f h3 x0 x1 x3 x4 x5 x8 v1 a4
theorem mo_X0_orderOf_25 {f : Nat} : ∀ (h : CH) (x0 : Nat) (x1 : Int32) (x2 : Int32) (x3 : Int32) (x4 : Int32) (x5 : Int32) (x8 : Nat) (y0 : Int64) (y1 : Int64) (r : (Int32 × CH)), m_X0_orderOf_25 f h x0 x1 x2 x3 x4 x5 x8 y0 y1 = some r → le2 h r.2 := by
  intro h x0 x1 x2 x3 x4 x5 x8 y0 y1 r hm
  rw [m_X0_orderOf_25] at hm
  obtain ⟨v1, ev1, hm⟩ := nmE hm
  obtain ⟨g2, hm⟩ := gdE hm
  obtain ⟨a4, h3, ea4, hm⟩ := bd2E hm
  have lh3 := mo_X0_toldBy ea4
  exact (lh3.tr (mo_X0_orderOf_34  h3 x0 x1 x3 x4 x5 x8 v1 a4 _ hm))
def m_X0_orderOf_15 (f : Nat) (h : CH) (x0 : Nat) (x1 : Int32) (x2 : Int32) (x3 : Int32) (x4 : Int32) (x5 : Int32) (x6 : Int32) (x7 : Nat) (y0 : Nat) : Option (Int32 × CH) := gd (isC h x7 3) <|
    bd2 (m_X2_determinant f h x7) fun r3 h2 =>
    m_X0_orderOf_25 f h2 x0 x1 x2 x3 x4 x5 y0 (Int32.toInt64 x6) r3
theorem mo_X0_orderOf_15 {f : Nat} : ∀ (h : CH) (x0 : Nat) (x1 : Int32) (x2 : Int32) (x3 : Int32) (x4 : Int32) (x5 : Int32) (x6 : Int32) (x7 : Nat) (y0 : Nat) (r : (Int32 × CH)), m_X0_orderOf_15 f h x0 x1 x2 x3 x4 x5 x6 x7 y0 = some r → le2 h r.2 := by
  intro h x0 x1 x2 x3 x4 x5 x6 x7 y0 r hm
  rw [m_X0_orderOf_15] at hm
  obtain ⟨g1, hm⟩ := gdE hm
  obtain ⟨r3, h2, er3, hm⟩ := bd2E hm
  have lh2 := mo_X2_determinant er3
  exact (lh2.tr (mo_X0_orderOf_25  h2 x0 x1 x2 x3 x4 x5 y0 (Int32.toInt64 x6) r3 _ hm))
def m_X0_orderOf_8 (f : Nat) (h : CH) (x0 : Nat) (x1 : Int32) (x2 : Int32) (x3 : Int32) (x4 : Int32) (x5 : Int32) (x6 : Int32) (y0 : Nat) : Option (Int32 × CH) := gd (isC h y0 3) <|
    bd2 (m_X2_adjoint f h y0) fun a3 h2 =>
    m_X0_orderOf_15 f h2 x0 x1 x2 x3 x4 x5 x6 y0 a3
theorem mo_X0_orderOf_8 {f : Nat} : ∀ (h : CH) (x0 : Nat) (x1 : Int32) (x2 : Int32) (x3 : Int32) (x4 : Int32) (x5 : Int32) (x6 : Int32) (y0 : Nat) (r : (Int32 × CH)), m_X0_orderOf_8 f h x0 x1 x2 x3 x4 x5 x6 y0 = some r → le2 h r.2 := by
  intro h x0 x1 x2 x3 x4 x5 x6 y0 r hm
  rw [m_X0_orderOf_8] at hm
  obtain ⟨g1, hm⟩ := gdE hm
  obtain ⟨a3, h2, ea3, hm⟩ := bd2E hm
  have lh2 := mo_X2_adjoint ea3
  exact (lh2.tr (mo_X0_orderOf_15  h2 x0 x1 x2 x3 x4 x5 x6 y0 a3 _ hm))
def m_X0_orderOf_5 (f : Nat) (h : CH) (x0 : Nat) (x1 : Int32) (x2 : Int32) (x3 : Int32) (x4 : Int32) (x5 : Int32) (x6 : Int32) (y0 : Nat) : Option (Int32 × CH) := if isC h y0 6 = true then
    bd2 (m_X6_rows f h y0) fun a3 h2 =>
    m_X0_orderOf_8 f h2 x0 x1 x2 x3 x4 x5 x6 a3
    else gd (isC h y0 7) <|
    bd2 (m_X7_rows f h y0) fun a6 h5 =>
    m_X0_orderOf_8 f h5 x0 x1 x2 x3 x4 x5 x6 a6
theorem mo_X0_orderOf_5 {f : Nat} : ∀ (h : CH) (x0 : Nat) (x1 : Int32) (x2 : Int32) (x3 : Int32) (x4 : Int32) (x5 : Int32) (x6 : Int32) (y0 : Nat) (r : (Int32 × CH)), m_X0_orderOf_5 f h x0 x1 x2 x3 x4 x5 x6 y0 = some r → le2 h r.2 := by
  intro h x0 x1 x2 x3 x4 x5 x6 y0 r hm
  rw [m_X0_orderOf_5] at hm
  by_cases c1 : isC h y0 6 = true
  · have hm := ifT hm c1
    obtain ⟨a3, h2, ea3, hm⟩ := bd2E hm
    have lh2 := mo_X6_rows ea3
    exact (lh2.tr (mo_X0_orderOf_8  h2 x0 x1 x2 x3 x4 x5 x6 a3 _ hm))
  · have hm := ifF hm c1
    obtain ⟨g4, hm⟩ := gdE hm
    obtain ⟨a6, h5, ea6, hm⟩ := bd2E hm
    have lh5 := mo_X7_rows ea6
    exact (lh5.tr (mo_X0_orderOf_8  h5 x0 x1 x2 x3 x4 x5 x6 a6 _ hm))
def m_X0_orderOf (f : Nat) (u : CH) (x0 : Nat) (x1 : Int32) (x2 : Int32) (x3 : Int32) (x4 : Int32) (x5 : Int32) (x6 : Int32) : Option (Int32 × CH) := gd (isC u x0 1) <|
    bd2 (m_X0_at f u x0 x1) fun a3 h2 =>
    m_X0_orderOf_5 f h2 x0 x1 x2 x3 x4 x5 x6 a3
theorem mo_X0_orderOf {f : Nat} {u : CH} {x0 : Nat} {x1 : Int32} {x2 : Int32} {x3 : Int32} {x4 : Int32} {x5 : Int32} {x6 : Int32} {r0 : Int32} {u9 : CH} (hm : m_X0_orderOf f u x0 x1 x2 x3 x4 x5 x6 = some (r0, u9)) : le2 u u9 := by
  rw [m_X0_orderOf] at hm
  obtain ⟨g1, hm⟩ := gdE hm
  obtain ⟨a3, h2, ea3, hm⟩ := bd2E hm
  have lh2 := mo_X0_at ea3
  exact (lh2.tr (mo_X0_orderOf_5  h2 x0 x1 x2 x3 x4 x5 x6 a3 _ hm))
abbrev rm_X0_orderOf (mc ms : Nat) : Room := { frames := 108, cells := mc, slots := ms, locals := 4209 }
theorem cw_X0_orderOf {R : Room} {s : State} {args : Array Value} {own : String} {idx mc ms : Nat} (hts : ∀ w ∈ lw_all, w.before args s = true) (hl : Cond.methodLink own idx yX0_orderOf ∈ lw_all) (hR : 108 + 1 ≤ R.frames ∧ 8 + (21 + 11) + 4209 ≤ R.locals) : CallW R s args own RX0 idx yX0_orderOf cX0_orderOf 21 (Option.some Jvm.ClassFile.FieldType.int) (ws_ yX0_orderOf cX0_orderOf 21 (Option.some Jvm.ClassFile.FieldType.int)) (rm_X0_orderOf mc ms) mc ms 6 := cwV 6 hts (lw_V hl q1207 qs33 q119 q1208) rfl rfl rfl (by decide +kernel) hR
set_option maxHeartbeats 4000000 in
set_option maxRecDepth 100000 in
theorem w_X0_orderOf (l : Launch) {D : va_G} {dA : Nat → ClassId} {A : Nat → Prop} {f : Nat} {u u9 : CH} {r0 : Int32} {x0 : Nat} {x1 : Int32} {x2 : Int32} {x3 : Int32} {x4 : Int32} {x5 : Int32} {x6 : Int32} (hm : m_X0_orderOf f u x0 x1 x2 x3 x4 x5 x6 = some (r0, u9)) : Met l yX0_orderOf (ws_ yX0_orderOf cX0_orderOf 21 (Option.some Jvm.ClassFile.FieldType.int)) (rm_X0_orderOf (u9.1 - u.1) (u9.2.1 - u.2.1)) (va_Pc [.ref x0, .int x1, .int x2, .int x3, .int x4, .int x5, .int x6] (CPre D dA A u)) (va_Qi (fun r u => r = r0 ∧ u = u9) (CPost D dA A) A) (u9.1 - u.1) (u9.2.1 - u.2.1) A := by
  refine Met.ofW (cc := cX0_orderOf) (maxL := 21) (ret := (Option.some Jvm.ClassFile.FieldType.int)) (by decide) rfl ?_
  intro p e s m args below meth c s₁ B hml hv
  have hx := B.exec
  have hb := B.bytes
  have hr := B.returns
  have hts := atoms_spec (ws := (ws_ yX0_orderOf cX0_orderOf 21 (Option.some Jvm.ClassFile.FieldType.int))) B.pre
  have hts : ∀ w ∈ lw_all, w.before args s = true := fun w h => hts w (List.mem_cons_of_mem _ h)
  have hown : s.vm.findClass RX0 = some m.cls := findClass_of_methodNamed B.named
  have hlocks := B.notSynchronized
  obtain ⟨hav, hv⟩ := hv
  have C : CX p s m args c cX0_orderOf RX0 D dA := ⟨hx, hb, hown, hts, hv.2⟩
  have hw : CW D dA A s u s.heap [] := hv.1
  generalize hQ : MQ below (va_Qi (fun r u => r = r0 ∧ u = u9) (CPost D dA A) A) args s (u9.1 - u.1) (u9.2.1 - u.2.1) A = QQ
  have hent := lg_entry_eq m [.ref x0, .int x1, .int x2, .int x3, .int x4, .int x5, .int x6] 21
  rw [← hav] at hent
  rw [hent]
  have hl := lv_entry ([.ref x0, .int x1, .int x2, .int x3, .int x4, .int x5, .int x6]) (n := 21) (Nat.le_of_ble_eq_true rfl)
  generalize (lg_sl ([.ref x0, .int x1, .int x2, .int x3, .int x4, .int x5, .int x6]) ++ List.replicate (21 - (lg_sl ([.ref x0, .int x1, .int x2, .int x3, .int x4, .int x5, .int x6])).length) Slot.unset).toArray = ls at hl ⊢
  have hl : lv_has ls 21 [(0, .ref x0), (1, .int x1), (2, .int x2), (3, .int x3), (4, .int x4), (5, .int x5), (6, .int x6)] := hl
  obtain ⟨cc, ecc⟩ : ∃ z : Nat, z = 0 := ⟨0, rfl⟩
  obtain ⟨ss, ess⟩ : ∃ z : Nat, z = 0 := ⟨0, rfl⟩
  have hcc : cc + u.1 = u.1 := by omega
  have hss : ss + u.2.1 = u.2.1 := by omega
  suffices hgo : W p l e (rm_X0_orderOf (u9.1 - u.1) (u9.2.1 - u.2.1)) s m args below meth c s.heap [] cc ss QQ (F0 m 0 ls []) by rw [ecc, ess] at hgo; exact hgo
  have ⟨pu, qu, _, _⟩ := mo_X0_orderOf hm
  have hB217 : ∀ (h : CH) (x16 : Int64) (cc ss : Nat) (H : Heap) (locs : List Loc) (ls : Array Slot), m_X0_orderOf_217 f h x16 = some (r0, u9) → CW D dA A s h H locs → cc + u.1 = h.1 → ss + u.2.1 = h.2.1 → lv_has ls 21 [(16, .long x16)] → W p l e (rm_X0_orderOf (u9.1 - u.1) (u9.2.1 - u.2.1)) s m args below meth c H locs cc ss QQ (F0 m 217 ls []) := by
    intro h x16 cc ss H locs ls hm hw hcc hss hl
    have hmo := mo_X0_orderOf_217  h x16 _ hm
    have sb_ : h.1 ≤ u9.1 := hmo.1
    have tb_ : h.2.1 ≤ u9.2.1 := hmo.2.1
    rw [m_X0_orderOf_217] at hm
    refine lv_lload hx hb dX0_orderOf_217 (lv_at hl 0 rfl) ?_
    refine lv_l2i hx hb dX0_orderOf_219 rfl ?_
    obtain ⟨er, eh⟩ := retE hm
    have ec : cc = u9.1 - u.1 := by rw [← eh]; omega
    have es : ss = u9.2.1 - u.2.1 := by rw [← eh]; omega
    rw [ec, es, ← hQ]
    exact W.iret (v := (Int64.toInt32 x16)) hx hb hr (fun t ht hW => ⟨⟨(Int64.toInt32 x16), h, rfl, ⟨er, eh⟩, ⟨by rw [ht]; exact hw.1, by rw [ht]; exact hw.2.1⟩⟩, hw.2.2.1.F ht⟩) hw.2.2.1.2.2 dX0_orderOf_220
  have hB139 : ∀ (n139 : Nat), ∀ (h : CH) (x12 : Nat) (x13 : Int64) (x15 : Nat) (x16 : Int64) (x18 : Int32) (cc ss : Nat) (H : Heap) (locs : List Loc) (ls : Array Slot), m_X0_orderOf_139 f n139 h x12 x13 x15 x16 x18 = some (r0, u9) → CW D dA A s h H locs → cc + u.1 = h.1 → ss + u.2.1 = h.2.1 → lv_has ls 21 [(12, .ref x12), (13, .long x13), (15, .ref x15), (16, .long x16), (18, .int x18)] → W p l e (rm_X0_orderOf (u9.1 - u.1) (u9.2.1 - u.2.1)) s m args below meth c H locs cc ss QQ (F0 m 139 ls []) := by
    intro n139
    induction n139 with
    | zero => intro h x12 x13 x15 x16 x18 cc ss H locs ls hm hw hcc hss hl; rw [m_X0_orderOf_139] at hm; exact noE hm
    | succ n139 ih139 =>
      intro h x12 x13 x15 x16 x18 cc ss H locs ls hm hw hcc hss hl
      have hmo := mo_X0_orderOf_139  (n139 + 1) h x12 x13 x15 x16 x18 _ hm
      have sb_ : h.1 ≤ u9.1 := hmo.1
      have tb_ : h.2.1 ≤ u9.2.1 := hmo.2.1
      rw [m_X0_orderOf_139] at hm
      refine lv_iload hx hb dX0_orderOf_139 (lv_at hl 4 rfl) ?_
      refine lv_iconst (v := 3) hx hb dX0_orderOf_141 (by decide) ?_
      refine lv_icmp_ge (tgt := 217) hx hb dX0_orderOf_142 (by decide) (fun c1 => ?_) (fun c1 => ?_)
      · have hm := ifT hm c1
        exact hB217 h x16 _ _ _ _ _ hm hw (by omega) (by omega) (lv_sub hl [3] rfl)
      · have hm := ifF hm c1
        refine lv_aload hx hb dX0_orderOf_145 (lv_at hl 2 rfl) ?_
        refine lv_iconst (v := 0) hx hb dX0_orderOf_147 (by decide) ?_
        obtain ⟨v2, ev2, hm⟩ := bdE hm
        refine cg_lald C hw ev2 dX0_orderOf_148 ?_
        refine lv_aload hx hb dX0_orderOf_149 (lv_at hl 0 rfl) ?_
        obtain ⟨a3, ea3, hm⟩ := bdE hm
        refine cg_getN C hw (by decide) (oR_E ea3) rfl in_X2 (by decide) (hw.2.2.2.2.1 _ (List.mem_of_getElem? (i := 12) rfl)) dX0_orderOf_151 ?_
        refine lv_iconst (v := 0) hx hb dX0_orderOf_154 (by decide) ?_
        obtain ⟨a4, ea4, hm⟩ := bdE hm
        refine cg_aaldA C hw (ty := .array .long) rfl rfl (aR_E ea4) dX0_orderOf_155 ?_
        refine lv_iload hx hb dX0_orderOf_156 (lv_at hl 4 rfl) ?_
        obtain ⟨v5, ev5, hm⟩ := bdE hm
        refine cg_lald C hw ev5 dX0_orderOf_158 ?_
        refine lv_lmul hx hb dX0_orderOf_159 ?_
        refine lv_aload hx hb dX0_orderOf_160 (lv_at hl 2 rfl) ?_
        refine lv_iconst (v := 1) hx hb dX0_orderOf_162 (by decide) ?_
        obtain ⟨v6, ev6, hm⟩ := bdE hm
        refine cg_lald C hw ev6 dX0_orderOf_163 ?_
        refine lv_aload hx hb dX0_orderOf_164 (lv_at hl 0 rfl) ?_
        obtain ⟨a7, ea7, hm⟩ := bdE hm
        refine cg_getN C hw (by decide) (oR_E ea7) rfl in_X2 (by decide) (hw.2.2.2.2.1 _ (List.mem_of_getElem? (i := 12) rfl)) dX0_orderOf_166 ?_
        refine lv_iconst (v := 1) hx hb dX0_orderOf_169 (by decide) ?_
        obtain ⟨a8, ea8, hm⟩ := bdE hm
        refine cg_aaldA C hw (ty := .array .long) rfl rfl (aR_E ea8) dX0_orderOf_170 ?_
        refine lv_iload hx hb dX0_orderOf_171 (lv_at hl 4 rfl) ?_
        obtain ⟨v9, ev9, hm⟩ := bdE hm
        refine cg_lald C hw ev9 dX0_orderOf_173 ?_
        refine lv_lmul hx hb dX0_orderOf_174 ?_
        refine lv_ladd hx hb dX0_orderOf_175 ?_
        refine lv_aload hx hb dX0_orderOf_176 (lv_at hl 2 rfl) ?_
        refine lv_iconst (v := 2) hx hb dX0_orderOf_178 (by decide) ?_
        obtain ⟨v10, ev10, hm⟩ := bdE hm
        refine cg_lald C hw ev10 dX0_orderOf_179 ?_
        refine lv_aload hx hb dX0_orderOf_180 (lv_at hl 0 rfl) ?_
        obtain ⟨a11, ea11, hm⟩ := bdE hm
        refine cg_getN C hw (by decide) (oR_E ea11) rfl in_X2 (by decide) (hw.2.2.2.2.1 _ (List.mem_of_getElem? (i := 12) rfl)) dX0_orderOf_182 ?_
        refine lv_iconst (v := 2) hx hb dX0_orderOf_185 (by decide) ?_
        obtain ⟨a12, ea12, hm⟩ := bdE hm
        refine cg_aaldA C hw (ty := .array .long) rfl rfl (aR_E ea12) dX0_orderOf_186 ?_
        refine lv_iload hx hb dX0_orderOf_187 (lv_at hl 4 rfl) ?_
        obtain ⟨v13, ev13, hm⟩ := bdE hm
        refine cg_lald C hw ev13 dX0_orderOf_189 ?_
        refine lv_lmul hx hb dX0_orderOf_190 ?_
        refine lv_ladd hx hb dX0_orderOf_191 ?_
        refine lv_topl (fun v14 ev14 => ?_)
        have hm := nmK hm ev14
        refine lv_lstore (lv' := [(19, .long v14), (12, .ref x12), (13, .long x13), (15, .ref x15), (16, .long x16), (18, .int x18)]) hx hb dX0_orderOf_192 hl (by decide) rfl (fun ls hl => ?_)
        refine lv_lload hx hb dX0_orderOf_194 (lv_at hl 4 rfl) ?_
        refine lv_lload hx hb dX0_orderOf_196 (lv_at hl 2 rfl) ?_
        refine lv_lload hx hb dX0_orderOf_198 (lv_at hl 2 rfl) ?_
        refine lv_lload hx hb dX0_orderOf_200 (lv_at hl 0 rfl) ?_
        obtain ⟨r15, er15, hm⟩ := bdE hm
        refine scl (va_runS (As := [.long x13, .long v14]) (rest := [.long x13, .long x16]) ⟨hx, hb, hml, hown, hts⟩ (w_X0_divisor l er15) (cw_X0_divisor hts q934 ⟨Nat.le_of_ble_eq_true rfl, Nat.le_of_ble_eq_true rfl⟩) (pre_s _) rfl rfl hl.1 rfl (lv_room (Nat.le_of_ble_eq_true rfl)) dX0_orderOf_202 ⟨show cc + 0 ≤ u9.1 - u.1 by omega, show ss + 0 ≤ u9.2.1 - u.2.1 by omega⟩) ?_
        obtain ⟨g16, hm⟩ := gdE hm
        refine lv_ldiv hx hb dX0_orderOf_205 (nzL_ne g16) ?_
        obtain ⟨r17, er17, hm⟩ := bdE hm
        refine scl (va_runS (As := [.long x16, .long (x13 / r15)]) (rest := []) ⟨hx, hb, hml, hown, hts⟩ (w_X0_multiple l er17) (cw_X0_multiple hts q1112 ⟨Nat.le_of_ble_eq_true rfl, Nat.le_of_ble_eq_true rfl⟩) (pre_s _) rfl rfl hl.1 rfl (lv_room (Nat.le_of_ble_eq_true rfl)) dX0_orderOf_206 ⟨show cc + 0 ≤ u9.1 - u.1 by omega, show ss + 0 ≤ u9.2.1 - u.2.1 by omega⟩) ?_
        refine lv_lstore (lv' := [(16, .long r17), (19, .long v14), (12, .ref x12), (13, .long x13), (15, .ref x15), (18, .int x18)]) hx hb dX0_orderOf_209 hl (by decide) rfl (fun ls hl => ?_)
        obtain ⟨v18, ev18, hm⟩ := nmE hm
        refine lv_iinc (v := v18) (lv' := [(18, .int v18), (16, .long r17), (19, .long v14), (12, .ref x12), (13, .long x13), (15, .ref x15)]) hx hb dX0_orderOf_211 hl (k := 5) rfl (by rw [ev18]; rfl) (by decide) rfl (fun ls hl => ?_)
        refine lv_goto (tgt := 139) hx hb dX0_orderOf_214 (by decide) ?_
        exact ih139 h x12 x13 x15 r17 v18 _ _ _ _ _ hm hw (by omega) (by omega) (lv_sub hl [3, 4, 5, 1, 0] rfl)
  have hB133 : ∀ (h : CH) (x12 : Nat) (x13 : Int64) (x15 : Nat) (cc ss : Nat) (H : Heap) (locs : List Loc) (ls : Array Slot), m_X0_orderOf_133 f h x12 x13 x15 = some (r0, u9) → CW D dA A s h H locs → cc + u.1 = h.1 → ss + u.2.1 = h.2.1 → lv_has ls 21 [(12, .ref x12), (13, .long x13), (15, .ref x15)] → W p l e (rm_X0_orderOf (u9.1 - u.1) (u9.2.1 - u.2.1)) s m args below meth c H locs cc ss QQ (F0 m 133 ls []) := by
    intro h x12 x13 x15 cc ss H locs ls hm hw hcc hss hl
    have hmo := mo_X0_orderOf_133  h x12 x13 x15 _ hm
    have sb_ : h.1 ≤ u9.1 := hmo.1
    have tb_ : h.2.1 ≤ u9.2.1 := hmo.2.1
    rw [m_X0_orderOf_133] at hm
    refine lv_lconst (v := 1) hx hb dX0_orderOf_133 (by decide) ?_
    refine lv_lstore (lv' := [(16, .long (1 : Int64)), (12, .ref x12), (13, .long x13), (15, .ref x15)]) hx hb dX0_orderOf_134 hl (by decide) rfl (fun ls hl => ?_)
    refine lv_iconst (v := 0) hx hb dX0_orderOf_136 (by decide) ?_
    refine lv_istore (lv' := [(18, .int (0 : Int32)), (16, .long (1 : Int64)), (12, .ref x12), (13, .long x13), (15, .ref x15)]) hx hb dX0_orderOf_137 hl (by decide) rfl (fun ls hl => ?_)
    exact hB139 f h x12 x13 x15 (1 : Int64) (0 : Int32) _ _ _ _ _ hm hw (by omega) (by omega) (lv_sub hl [2, 3, 4, 1, 0] rfl)
  have hB61 : ∀ (n61 : Nat), ∀ (h : CH) (x0 : Nat) (x1 : Int32) (x3 : Int32) (x4 : Int32) (x5 : Int32) (x8 : Nat) (x9 : Int64) (x12 : Nat) (x13 : Int64) (x15 : Nat) (x16 : Int32) (cc ss : Nat) (H : Heap) (locs : List Loc) (ls : Array Slot), m_X0_orderOf_61 f n61 h x0 x1 x3 x4 x5 x8 x9 x12 x13 x15 x16 = some (r0, u9) → CW D dA A s h H locs → cc + u.1 = h.1 → ss + u.2.1 = h.2.1 → lv_has ls 21 [(0, .ref x0), (1, .int x1), (3, .int x3), (4, .int x4), (5, .int x5), (8, .ref x8), (9, .long x9), (12, .ref x12), (13, .long x13), (15, .ref x15), (16, .int x16)] → W p l e (rm_X0_orderOf (u9.1 - u.1) (u9.2.1 - u.2.1)) s m args below meth c H locs cc ss QQ (F0 m 61 ls []) := by
    intro n61
    induction n61 with
    | zero => intro h x0 x1 x3 x4 x5 x8 x9 x12 x13 x15 x16 cc ss H locs ls hm hw hcc hss hl; rw [m_X0_orderOf_61] at hm; exact noE hm
    | succ n61 ih61 =>
      have hB122 : ∀ (h : CH) (x0 : Nat) (x1 : Int32) (x3 : Int32) (x4 : Int32) (x5 : Int32) (x8 : Nat) (x9 : Int64) (x12 : Nat) (x13 : Int64) (x15 : Nat) (x16 : Int32) (y0 : Nat) (y1 : Int32) (y2 : Int64) (y3 : Int64) (cc ss : Nat) (H : Heap) (locs : List Loc) (ls : Array Slot), m_X0_orderOf_122 f (m_X0_orderOf_61 f n61) h x0 x1 x3 x4 x5 x8 x9 x12 x13 x15 x16 y0 y1 y2 y3 = some (r0, u9) → CW D dA A s h H locs → cc + u.1 = h.1 → ss + u.2.1 = h.2.1 → lv_has ls 21 [(0, .ref x0), (1, .int x1), (3, .int x3), (4, .int x4), (5, .int x5), (8, .ref x8), (9, .long x9), (12, .ref x12), (13, .long x13), (15, .ref x15), (16, .int x16)] → W p l e (rm_X0_orderOf (u9.1 - u.1) (u9.2.1 - u.2.1)) s m args below meth c H locs cc ss QQ (F0 m 122 ls [.long y3, .long y2, .int y1, .ref y0]) := by
        intro h x0 x1 x3 x4 x5 x8 x9 x12 x13 x15 x16 y0 y1 y2 y3 cc ss H locs ls hm hw hcc hss hl
        have hmo := mo_X0_orderOf_122 (mo_X0_orderOf_61 n61) h x0 x1 x3 x4 x5 x8 x9 x12 x13 x15 x16 y0 y1 y2 y3 _ hm
        have sb_ : h.1 ≤ u9.1 := hmo.1
        have tb_ : h.2.1 ≤ u9.2.1 := hmo.2.1
        rw [m_X0_orderOf_122] at hm
        refine lv_lmul hx hb dX0_orderOf_122 ?_
        refine lv_lload hx hb dX0_orderOf_123 (lv_at hl 6 rfl) ?_
        obtain ⟨g1, hm⟩ := gdE hm
        refine lv_ldiv hx hb dX0_orderOf_125 (nzL_ne g1) ?_
        obtain ⟨h2, eh2, hm⟩ := bdE hm
        refine cg_last C hw eh2 dX0_orderOf_126 (fun H locs hw => ?_)
        have zh2 := uL_sz eh2
        obtain ⟨v3, ev3, hm⟩ := nmE hm
        refine lv_iinc (v := v3) (lv' := [(16, .int v3), (0, .ref x0), (1, .int x1), (3, .int x3), (4, .int x4), (5, .int x5), (8, .ref x8), (9, .long x9), (12, .ref x12), (13, .long x13), (15, .ref x15)]) hx hb dX0_orderOf_127 hl (k := 10) rfl (by rw [ev3]; rfl) (by decide) rfl (fun ls hl => ?_)
        refine lv_goto (tgt := 61) hx hb dX0_orderOf_130 (by decide) ?_
        exact ih61 h2 x0 x1 x3 x4 x5 x8 x9 x12 x13 x15 v3 _ _ _ _ _ hm hw (by omega) (by omega) (lv_sub hl [1, 2, 3, 4, 5, 6, 7, 8, 9, 10, 0] rfl)
      have hB119 : ∀ (h : CH) (x0 : Nat) (x1 : Int32) (x3 : Int32) (x4 : Int32) (x5 : Int32) (x8 : Nat) (x9 : Int64) (x12 : Nat) (x13 : Int64) (x15 : Nat) (x16 : Int32) (y0 : Nat) (y1 : Int32) (y2 : Int64) (y3 : Nat) (cc ss : Nat) (H : Heap) (locs : List Loc) (ls : Array Slot), m_X0_orderOf_119 f (m_X0_orderOf_61 f n61) h x0 x1 x3 x4 x5 x8 x9 x12 x13 x15 x16 y0 y1 y2 y3 = some (r0, u9) → CW D dA A s h H locs → cc + u.1 = h.1 → ss + u.2.1 = h.2.1 → lv_has ls 21 [(0, .ref x0), (1, .int x1), (3, .int x3), (4, .int x4), (5, .int x5), (8, .ref x8), (9, .long x9), (12, .ref x12), (13, .long x13), (15, .ref x15), (16, .int x16)] → W p l e (rm_X0_orderOf (u9.1 - u.1) (u9.2.1 - u.2.1)) s m args below meth c H locs cc ss QQ (F0 m 119 ls [.ref y3, .long y2, .int y1, .ref y0]) := by
        intro h x0 x1 x3 x4 x5 x8 x9 x12 x13 x15 x16 y0 y1 y2 y3 cc ss H locs ls hm hw hcc hss hl
        have hmo := mo_X0_orderOf_119 (mo_X0_orderOf_61 n61) h x0 x1 x3 x4 x5 x8 x9 x12 x13 x15 x16 y0 y1 y2 y3 _ hm
        have sb_ : h.1 ≤ u9.1 := hmo.1
        have tb_ : h.2.1 ≤ u9.2.1 := hmo.2.1
        rw [m_X0_orderOf_119] at hm
        by_cases c1 : isC h y3 6 = true
        · have hm := ifT hm c1
          obtain ⟨r3, h2, er3, hm⟩ := bd2E hm
          have lh2 := mo_X6_over er3
          have ph2 : h.1 ≤ h2.1 := lh2.1
          have qh2 : h.2.1 ≤ h2.2.1 := lh2.2.1
          have hmo := mo_X0_orderOf_122 (mo_X0_orderOf_61 n61)  h2 x0 x1 x3 x4 x5 x8 x9 x12 x13 x15 x16 y0 y1 y2 r3 _ hm
          have sh2 : h2.1 ≤ u9.1 := hmo.1
          have th2 : h2.2.1 ≤ u9.2.1 := hmo.2.1
          refine cg_calll hw lh2 (va_runV (As := []) (rest := [.long y2, .int y1, .ref y0]) ⟨hx, hb, hml, hown, hts⟩ (w_X6_over l er3) (cw_X6_over hts q945 ⟨Nat.le_of_ble_eq_true rfl, Nat.le_of_ble_eq_true rfl⟩) (cg_preV C hw c1 rfl _) rfl rfl hl.1 rfl (lv_room (Nat.le_of_ble_eq_true rfl)) dX0_orderOf_119 ⟨show cc + (h2.1 - h.1) ≤ u9.1 - u.1 by omega, show ss + (h2.2.1 - h.2.1) ≤ u9.2.1 - u.2.1 by omega⟩) (fun H locs hw => ?_)
          exact hB122 h2 x0 x1 x3 x4 x5 x8 x9 x12 x13 x15 x16 y0 y1 y2 r3 _ _ _ _ _ hm hw (by omega) (by omega) (lv_sub hl [0, 1, 2, 3, 4, 5, 6, 7, 8, 9, 10] rfl)
        · have hm := ifF hm c1
          obtain ⟨g4, hm⟩ := gdE hm
          obtain ⟨r6, h5, er6, hm⟩ := bd2E hm
          have lh5 := mo_X7_over er6
          have ph5 : h.1 ≤ h5.1 := lh5.1
          have qh5 : h.2.1 ≤ h5.2.1 := lh5.2.1
          have hmo := mo_X0_orderOf_122 (mo_X0_orderOf_61 n61)  h5 x0 x1 x3 x4 x5 x8 x9 x12 x13 x15 x16 y0 y1 y2 r6 _ hm
          have sh5 : h5.1 ≤ u9.1 := hmo.1
          have th5 : h5.2.1 ≤ u9.2.1 := hmo.2.1
          refine cg_calll hw lh5 (va_runU (As := []) (rest := [.long y2, .int y1, .ref y0]) ⟨hx, hb, hml, hown, hts⟩ (w_X7_over l er6) (va_cwO 0 hts (lwO q945 q948 q946 q949 q950 q144 q951) rfl rfl rfl q952 (by decide +kernel) ⟨Nat.le_of_ble_eq_true rfl, Nat.le_of_ble_eq_true rfl⟩) (cg_preV C hw g4 rfl _) rfl rfl hl.1 rfl (lv_room (Nat.le_of_ble_eq_true rfl)) dX0_orderOf_119 ⟨show cc + (h5.1 - h.1) ≤ u9.1 - u.1 by omega, show ss + (h5.2.1 - h.2.1) ≤ u9.2.1 - u.2.1 by omega⟩) (fun H locs hw => ?_)
          exact hB122 h5 x0 x1 x3 x4 x5 x8 x9 x12 x13 x15 x16 y0 y1 y2 r6 _ _ _ _ _ hm hw (by omega) (by omega) (lv_sub hl [0, 1, 2, 3, 4, 5, 6, 7, 8, 9, 10] rfl)
      intro h x0 x1 x3 x4 x5 x8 x9 x12 x13 x15 x16 cc ss H locs ls hm hw hcc hss hl
      have hmo := mo_X0_orderOf_61  (n61 + 1) h x0 x1 x3 x4 x5 x8 x9 x12 x13 x15 x16 _ hm
      have sb_ : h.1 ≤ u9.1 := hmo.1
      have tb_ : h.2.1 ≤ u9.2.1 := hmo.2.1
      rw [m_X0_orderOf_61] at hm
      refine lv_iload hx hb dX0_orderOf_61 (lv_at hl 10 rfl) ?_
      refine lv_iconst (v := 3) hx hb dX0_orderOf_63 (by decide) ?_
      refine lv_icmp_ge (tgt := 133) hx hb dX0_orderOf_64 (by decide) (fun c1 => ?_) (fun c1 => ?_)
      · have hm := ifT hm c1
        exact hB133 h x12 x13 x15 _ _ _ _ _ hm hw (by omega) (by omega) (lv_sub hl [7, 8, 9] rfl)
      · have hm := ifF hm c1
        refine lv_aload hx hb dX0_orderOf_67 (lv_at hl 9 rfl) ?_
        refine lv_iload hx hb dX0_orderOf_69 (lv_at hl 10 rfl) ?_
        refine lv_iload_n hx hb dX0_orderOf_71 rfl (lv_at hl 2 rfl) ?_
        refine lv_i2l hx hb dX0_orderOf_72 rfl ?_
        refine lv_aload hx hb dX0_orderOf_73 (lv_at hl 5 rfl) ?_
        obtain ⟨a2, ea2, hm⟩ := bdE hm
        refine cg_getN C hw (by decide) (oR_E ea2) rfl in_X2 (by decide) (hw.2.2.2.2.1 _ (List.mem_of_getElem? (i := 12) rfl)) dX0_orderOf_75 ?_
        refine lv_iconst (v := 0) hx hb dX0_orderOf_78 (by decide) ?_
        obtain ⟨a3, ea3, hm⟩ := bdE hm
        refine cg_aaldA C hw (ty := .array .long) rfl rfl (aR_E ea3) dX0_orderOf_79 ?_
        refine lv_iload hx hb dX0_orderOf_80 (lv_at hl 10 rfl) ?_
        obtain ⟨v4, ev4, hm⟩ := bdE hm
        refine cg_lald C hw ev4 dX0_orderOf_82 ?_
        refine lv_lmul hx hb dX0_orderOf_83 ?_
        refine lv_iload hx hb dX0_orderOf_84 (lv_at hl 3 rfl) ?_
        refine lv_i2l hx hb dX0_orderOf_86 rfl ?_
        refine lv_aload hx hb dX0_orderOf_87 (lv_at hl 5 rfl) ?_
        obtain ⟨a5, ea5, hm⟩ := bdE hm
        refine cg_getN C hw (by decide) (oR_E ea5) rfl in_X2 (by decide) (hw.2.2.2.2.1 _ (List.mem_of_getElem? (i := 12) rfl)) dX0_orderOf_89 ?_
        refine lv_iconst (v := 1) hx hb dX0_orderOf_92 (by decide) ?_
        obtain ⟨a6, ea6, hm⟩ := bdE hm
        refine cg_aaldA C hw (ty := .array .long) rfl rfl (aR_E ea6) dX0_orderOf_93 ?_
        refine lv_iload hx hb dX0_orderOf_94 (lv_at hl 10 rfl) ?_
        obtain ⟨v7, ev7, hm⟩ := bdE hm
        refine cg_lald C hw ev7 dX0_orderOf_96 ?_
        refine lv_lmul hx hb dX0_orderOf_97 ?_
        refine lv_ladd hx hb dX0_orderOf_98 ?_
        refine lv_iload hx hb dX0_orderOf_99 (lv_at hl 4 rfl) ?_
        refine lv_i2l hx hb dX0_orderOf_101 rfl ?_
        refine lv_aload hx hb dX0_orderOf_102 (lv_at hl 5 rfl) ?_
        obtain ⟨a8, ea8, hm⟩ := bdE hm
        refine cg_getN C hw (by decide) (oR_E ea8) rfl in_X2 (by decide) (hw.2.2.2.2.1 _ (List.mem_of_getElem? (i := 12) rfl)) dX0_orderOf_104 ?_
        refine lv_iconst (v := 2) hx hb dX0_orderOf_107 (by decide) ?_
        obtain ⟨a9, ea9, hm⟩ := bdE hm
        refine cg_aaldA C hw (ty := .array .long) rfl rfl (aR_E ea9) dX0_orderOf_108 ?_
        refine lv_iload hx hb dX0_orderOf_109 (lv_at hl 10 rfl) ?_
        obtain ⟨v10, ev10, hm⟩ := bdE hm
        refine cg_lald C hw ev10 dX0_orderOf_111 ?_
        refine lv_lmul hx hb dX0_orderOf_112 ?_
        refine lv_ladd hx hb dX0_orderOf_113 ?_
        refine lv_aload_n hx hb dX0_orderOf_114 rfl (lv_at hl 0 rfl) ?_
        refine lv_iload_n hx hb dX0_orderOf_115 rfl (lv_at hl 1 rfl) ?_
        obtain ⟨g11, hm⟩ := gdE hm
        obtain ⟨a13, h12, ea13, hm⟩ := bd2E hm
        have lh12 := mo_X0_at ea13
        have ph12 : h.1 ≤ h12.1 := lh12.1
        have qh12 : h.2.1 ≤ h12.2.1 := lh12.2.1
        have hmo := mo_X0_orderOf_119 (mo_X0_orderOf_61 n61)  h12 x0 x1 x3 x4 x5 x8 x9 x12 x13 x15 x16 x15 x16 ((((Int32.toInt64 x3) * v4) + ((Int32.toInt64 x4) * v7)) + ((Int32.toInt64 x5) * v10)) a13 _ hm
        have sh12 : h12.1 ≤ u9.1 := hmo.1
        have th12 : h12.2.1 ≤ u9.2.1 := hmo.2.1
        refine cg_callr hw lh12 (va_runV (As := [.int x1]) (rest := [.long ((((Int32.toInt64 x3) * v4) + ((Int32.toInt64 x4) * v7)) + ((Int32.toInt64 x5) * v10)), .int x16, .ref x15]) ⟨hx, hb, hml, hown, hts⟩ (w_X0_at l ea13) (cw_X0_at hts q900 ⟨Nat.le_of_ble_eq_true rfl, Nat.le_of_ble_eq_true rfl⟩) (cg_preV C hw g11 rfl _) rfl rfl hl.1 rfl (lv_room (Nat.le_of_ble_eq_true rfl)) dX0_orderOf_116 ⟨show cc + (h12.1 - h.1) ≤ u9.1 - u.1 by omega, show ss + (h12.2.1 - h.2.1) ≤ u9.2.1 - u.2.1 by omega⟩) (fun H locs hw => ?_)
        exact hB119 h12 x0 x1 x3 x4 x5 x8 x9 x12 x13 x15 x16 x15 x16 ((((Int32.toInt64 x3) * v4) + ((Int32.toInt64 x4) * v7)) + ((Int32.toInt64 x5) * v10)) a13 _ _ _ _ _ hm hw (by omega) (by omega) (lv_sub hl [0, 1, 2, 3, 4, 5, 6, 7, 8, 9, 10] rfl)
  have hB56 : ∀ (h : CH) (x0 : Nat) (x1 : Int32) (x3 : Int32) (x4 : Int32) (x5 : Int32) (x8 : Nat) (x9 : Int64) (x12 : Nat) (x13 : Int64) (y0 : Nat) (cc ss : Nat) (H : Heap) (locs : List Loc) (ls : Array Slot), m_X0_orderOf_56 f h x0 x1 x3 x4 x5 x8 x9 x12 x13 y0 = some (r0, u9) → CW D dA A s h H locs → cc + u.1 = h.1 → ss + u.2.1 = h.2.1 → lv_has ls 21 [(0, .ref x0), (1, .int x1), (3, .int x3), (4, .int x4), (5, .int x5), (8, .ref x8), (9, .long x9), (12, .ref x12), (13, .long x13)] → W p l e (rm_X0_orderOf (u9.1 - u.1) (u9.2.1 - u.2.1)) s m args below meth c H locs cc ss QQ (F0 m 56 ls [.ref y0]) := by
    intro h x0 x1 x3 x4 x5 x8 x9 x12 x13 y0 cc ss H locs ls hm hw hcc hss hl
    have hmo := mo_X0_orderOf_56  h x0 x1 x3 x4 x5 x8 x9 x12 x13 y0 _ hm
    have sb_ : h.1 ≤ u9.1 := hmo.1
    have tb_ : h.2.1 ≤ u9.2.1 := hmo.2.1
    rw [m_X0_orderOf_56] at hm
    refine lv_astore (lv' := [(15, .ref y0), (0, .ref x0), (1, .int x1), (3, .int x3), (4, .int x4), (5, .int x5), (8, .ref x8), (9, .long x9), (12, .ref x12), (13, .long x13)]) hx hb dX0_orderOf_56 hl (by decide) rfl (fun ls hl => ?_)
    refine lv_iconst (v := 0) hx hb dX0_orderOf_58 (by decide) ?_
    refine lv_istore (lv' := [(16, .int (0 : Int32)), (15, .ref y0), (0, .ref x0), (1, .int x1), (3, .int x3), (4, .int x4), (5, .int x5), (8, .ref x8), (9, .long x9), (12, .ref x12), (13, .long x13)]) hx hb dX0_orderOf_59 hl (by decide) rfl (fun ls hl => ?_)
    exact hB61 f h x0 x1 x3 x4 x5 x8 x9 x12 x13 y0 (0 : Int32) _ _ _ _ _ hm hw (by omega) (by omega) (lv_sub hl [2, 3, 4, 5, 6, 7, 8, 9, 10, 1, 0] rfl)
  have hB48 : ∀ (h : CH) (x0 : Nat) (x1 : Int32) (x3 : Int32) (x4 : Int32) (x5 : Int32) (x8 : Nat) (x9 : Int64) (x12 : Nat) (y0 : Int64) (cc ss : Nat) (H : Heap) (locs : List Loc) (ls : Array Slot), m_X0_orderOf_48 f h x0 x1 x3 x4 x5 x8 x9 x12 y0 = some (r0, u9) → CW D dA A s h H locs → cc + u.1 = h.1 → ss + u.2.1 = h.2.1 → lv_has ls 21 [(0, .ref x0), (1, .int x1), (3, .int x3), (4, .int x4), (5, .int x5), (8, .ref x8), (9, .long x9), (12, .ref x12)] → W p l e (rm_X0_orderOf (u9.1 - u.1) (u9.2.1 - u.2.1)) s m args below meth c H locs cc ss QQ (F0 m 48 ls [.long y0]) := by
    intro h x0 x1 x3 x4 x5 x8 x9 x12 y0 cc ss H locs ls hm hw hcc hss hl
    have hmo := mo_X0_orderOf_48  h x0 x1 x3 x4 x5 x8 x9 x12 y0 _ hm
    have sb_ : h.1 ≤ u9.1 := hmo.1
    have tb_ : h.2.1 ≤ u9.2.1 := hmo.2.1
    rw [m_X0_orderOf_48] at hm
    obtain ⟨r1, er1, hm⟩ := bdE hm
    refine scl (va_runS (As := [.long y0]) (rest := []) ⟨hx, hb, hml, hown, hts⟩ (w_J9_abs l er1) (cw_J9_abs hts q933 ⟨Nat.le_of_ble_eq_true rfl, Nat.le_of_ble_eq_true rfl⟩) (pre_s _) rfl rfl hl.1 rfl (lv_room (Nat.le_of_ble_eq_true rfl)) dX0_orderOf_48 ⟨show cc + 0 ≤ u9.1 - u.1 by omega, show ss + 0 ≤ u9.2.1 - u.2.1 by omega⟩) ?_
    refine lv_lstore (lv' := [(13, .long r1), (0, .ref x0), (1, .int x1), (3, .int x3), (4, .int x4), (5, .int x5), (8, .ref x8), (9, .long x9), (12, .ref x12)]) hx hb dX0_orderOf_51 hl (by decide) rfl (fun ls hl => ?_)
    refine lv_iconst (v := 3) hx hb dX0_orderOf_53 (by decide) ?_
    obtain ⟨h2, eh2, hm⟩ := nmE hm
    obtain ⟨_, _, hmq⟩ := nmE hm
    have hmo := mo_X0_orderOf_56   h2 x0 x1 x3 x4 x5 x8 x9 x12 r1 _ _ hmq
    have sh2 : h2.1 ≤ u9.1 := hmo.1
    have th2 : h2.2.1 ≤ u9.2.1 := hmo.2.1
    have zh2 := cn_sz eh2
    refine cg_newJ (C0 := C) hw (N := 3) (by decide) (by decide) (by decide) (show cc + 1 ≤ u9.1 - u.1 by omega) (show ss + 3 ≤ u9.2.1 - u.2.1 by omega) dX0_orderOf_54 (fun H hw => ?_)
    rw [← eh2] at hw
    refine lv_topr (fun a3 ea3 => ?_)
    have hm := nmK hm ea3
    exact hB56 h2 x0 x1 x3 x4 x5 x8 x9 x12 r1 a3 _ _ _ _ _ hm hw (by omega) (by omega) (lv_sub hl [1, 2, 3, 4, 5, 6, 7, 8, 0] rfl)
  have hB41 : ∀ (h : CH) (x0 : Nat) (x1 : Int32) (x3 : Int32) (x4 : Int32) (x5 : Int32) (x8 : Nat) (x9 : Int64) (x11 : Nat) (y0 : Nat) (cc ss : Nat) (H : Heap) (locs : List Loc) (ls : Array Slot), m_X0_orderOf_41 f h x0 x1 x3 x4 x5 x8 x9 x11 y0 = some (r0, u9) → CW D dA A s h H locs → cc + u.1 = h.1 → ss + u.2.1 = h.2.1 → lv_has ls 21 [(0, .ref x0), (1, .int x1), (3, .int x3), (4, .int x4), (5, .int x5), (8, .ref x8), (9, .long x9), (11, .ref x11)] → W p l e (rm_X0_orderOf (u9.1 - u.1) (u9.2.1 - u.2.1)) s m args below meth c H locs cc ss QQ (F0 m 41 ls [.ref y0]) := by
    intro h x0 x1 x3 x4 x5 x8 x9 x11 y0 cc ss H locs ls hm hw hcc hss hl
    have hmo := mo_X0_orderOf_41  h x0 x1 x3 x4 x5 x8 x9 x11 y0 _ hm
    have sb_ : h.1 ≤ u9.1 := hmo.1
    have tb_ : h.2.1 ≤ u9.2.1 := hmo.2.1
    rw [m_X0_orderOf_41] at hm
    refine lv_astore (lv' := [(12, .ref y0), (0, .ref x0), (1, .int x1), (3, .int x3), (4, .int x4), (5, .int x5), (8, .ref x8), (9, .long x9), (11, .ref x11)]) hx hb dX0_orderOf_41 hl (by decide) rfl (fun ls hl => ?_)
    refine lv_aload hx hb dX0_orderOf_43 (lv_at hl 8 rfl) ?_
    obtain ⟨g1, hm⟩ := gdE hm
    obtain ⟨r3, h2, er3, hm⟩ := bd2E hm
    have lh2 := mo_X2_determinant er3
    have ph2 : h.1 ≤ h2.1 := lh2.1
    have qh2 : h.2.1 ≤ h2.2.1 := lh2.2.1
    have hmo := mo_X0_orderOf_48   h2 x0 x1 x3 x4 x5 x8 x9 y0 r3 _ hm
    have sh2 : h2.1 ≤ u9.1 := hmo.1
    have th2 : h2.2.1 ≤ u9.2.1 := hmo.2.1
    refine cg_calll hw lh2 (va_runV (As := []) (rest := []) ⟨hx, hb, hml, hown, hts⟩ (w_X2_determinant l er3) (cw_X2_determinant hts q1060 ⟨Nat.le_of_ble_eq_true rfl, Nat.le_of_ble_eq_true rfl⟩) (cg_preV C hw g1 rfl _) rfl rfl hl.1 rfl (lv_room (Nat.le_of_ble_eq_true rfl)) dX0_orderOf_45 ⟨show cc + (h2.1 - h.1) ≤ u9.1 - u.1 by omega, show ss + (h2.2.1 - h.2.1) ≤ u9.2.1 - u.2.1 by omega⟩) (fun H locs hw => ?_)
    exact hB48 h2 x0 x1 x3 x4 x5 x8 x9 y0 r3 _ _ _ _ _ hm hw (by omega) (by omega) (lv_sub hl [1, 2, 3, 4, 5, 6, 7, 0] rfl)
  have hB34 : ∀ (h : CH) (x0 : Nat) (x1 : Int32) (x3 : Int32) (x4 : Int32) (x5 : Int32) (x8 : Nat) (x9 : Int64) (y0 : Nat) (cc ss : Nat) (H : Heap) (locs : List Loc) (ls : Array Slot), m_X0_orderOf_34 f h x0 x1 x3 x4 x5 x8 x9 y0 = some (r0, u9) → CW D dA A s h H locs → cc + u.1 = h.1 → ss + u.2.1 = h.2.1 → lv_has ls 21 [(0, .ref x0), (1, .int x1), (3, .int x3), (4, .int x4), (5, .int x5), (8, .ref x8), (9, .long x9)] → W p l e (rm_X0_orderOf (u9.1 - u.1) (u9.2.1 - u.2.1)) s m args below meth c H locs cc ss QQ (F0 m 34 ls [.ref y0]) := by
    intro h x0 x1 x3 x4 x5 x8 x9 y0 cc ss H locs ls hm hw hcc hss hl
    have hmo := mo_X0_orderOf_34  h x0 x1 x3 x4 x5 x8 x9 y0 _ hm
    have sb_ : h.1 ≤ u9.1 := hmo.1
    have tb_ : h.2.1 ≤ u9.2.1 := hmo.2.1
    rw [m_X0_orderOf_34] at hm
    refine lv_astore (lv' := [(11, .ref y0), (0, .ref x0), (1, .int x1), (3, .int x3), (4, .int x4), (5, .int x5), (8, .ref x8), (9, .long x9)]) hx hb dX0_orderOf_34 hl (by decide) rfl (fun ls hl => ?_)
    refine lv_aload hx hb dX0_orderOf_36 (lv_at hl 0 rfl) ?_
    obtain ⟨g1, hm⟩ := gdE hm
    obtain ⟨a3, h2, ea3, hm⟩ := bd2E hm
    have lh2 := mo_X2_adjoint ea3
    have ph2 : h.1 ≤ h2.1 := lh2.1
    have qh2 : h.2.1 ≤ h2.2.1 := lh2.2.1
    have hmo := mo_X0_orderOf_41   h2 x0 x1 x3 x4 x5 x8 x9 y0 a3 _ hm
    have sh2 : h2.1 ≤ u9.1 := hmo.1
    have th2 : h2.2.1 ≤ u9.2.1 := hmo.2.1
    refine cg_callr hw lh2 (va_runV (As := []) (rest := []) ⟨hx, hb, hml, hown, hts⟩ (w_X2_adjoint l ea3) (cw_X2_adjoint hts q1088 ⟨Nat.le_of_ble_eq_true rfl, Nat.le_of_ble_eq_true rfl⟩) (cg_preV C hw g1 rfl _) rfl rfl hl.1 rfl (lv_room (Nat.le_of_ble_eq_true rfl)) dX0_orderOf_38 ⟨show cc + (h2.1 - h.1) ≤ u9.1 - u.1 by omega, show ss + (h2.2.1 - h.2.1) ≤ u9.2.1 - u.2.1 by omega⟩) (fun H locs hw => ?_)
    exact hB41 h2 x0 x1 x3 x4 x5 x8 x9 y0 a3 _ _ _ _ _ hm hw (by omega) (by omega) (lv_sub hl [1, 2, 3, 4, 5, 6, 7, 0] rfl)
  have hB25 : ∀ (h : CH) (x0 : Nat) (x1 : Int32) (x2 : Int32) (x3 : Int32) (x4 : Int32) (x5 : Int32) (x8 : Nat) (y0 : Int64) (y1 : Int64) (cc ss : Nat) (H : Heap) (locs : List Loc) (ls : Array Slot), m_X0_orderOf_25 f h x0 x1 x2 x3 x4 x5 x8 y0 y1 = some (r0, u9) → CW D dA A s h H locs → cc + u.1 = h.1 → ss + u.2.1 = h.2.1 → lv_has ls 21 [(0, .ref x0), (1, .int x1), (2, .int x2), (3, .int x3), (4, .int x4), (5, .int x5), (8, .ref x8)] → W p l e (rm_X0_orderOf (u9.1 - u.1) (u9.2.1 - u.2.1)) s m args below meth c H locs cc ss QQ (F0 m 25 ls [.long y1, .long y0]) := by
    intro h x0 x1 x2 x3 x4 x5 x8 y0 y1 cc ss H locs ls hm hw hcc hss hl
    have hmo := mo_X0_orderOf_25  h x0 x1 x2 x3 x4 x5 x8 y0 y1 _ hm
    have sb_ : h.1 ≤ u9.1 := hmo.1
    have tb_ : h.2.1 ≤ u9.2.1 := hmo.2.1
    rw [m_X0_orderOf_25] at hm
    refine lv_lmul hx hb dX0_orderOf_25 ?_
    refine lv_topl (fun v1 ev1 => ?_)
    have hm := nmK hm ev1
    refine lv_lstore (lv' := [(9, .long v1), (0, .ref x0), (1, .int x1), (2, .int x2), (3, .int x3), (4, .int x4), (5, .int x5), (8, .ref x8)]) hx hb dX0_orderOf_26 hl (by decide) rfl (fun ls hl => ?_)
    refine lv_aload_n hx hb dX0_orderOf_28 rfl (lv_at hl 1 rfl) ?_
    refine lv_iload_n hx hb dX0_orderOf_29 rfl (lv_at hl 2 rfl) ?_
    refine lv_iload_n hx hb dX0_orderOf_30 rfl (lv_at hl 3 rfl) ?_
    obtain ⟨g2, hm⟩ := gdE hm
    obtain ⟨a4, h3, ea4, hm⟩ := bd2E hm
    have lh3 := mo_X0_toldBy ea4
    have ph3 : h.1 ≤ h3.1 := lh3.1
    have qh3 : h.2.1 ≤ h3.2.1 := lh3.2.1
    have hmo := mo_X0_orderOf_34   h3 x0 x1 x3 x4 x5 x8 v1 a4 _ hm
    have sh3 : h3.1 ≤ u9.1 := hmo.1
    have th3 : h3.2.1 ≤ u9.2.1 := hmo.2.1
    refine cg_callr hw lh3 (va_runV (As := [.int x1, .int x2]) (rest := []) ⟨hx, hb, hml, hown, hts⟩ (w_X0_toldBy l ea4) (cw_X0_toldBy hts q1187 ⟨Nat.le_of_ble_eq_true rfl, Nat.le_of_ble_eq_true rfl⟩) (cg_preV C hw g2 rfl _) rfl rfl hl.1 rfl (lv_room (Nat.le_of_ble_eq_true rfl)) dX0_orderOf_31 ⟨show cc + (h3.1 - h.1) ≤ u9.1 - u.1 by omega, show ss + (h3.2.1 - h.2.1) ≤ u9.2.1 - u.2.1 by omega⟩) (fun H locs hw => ?_)
    exact hB34 h3 x0 x1 x3 x4 x5 x8 v1 a4 _ _ _ _ _ hm hw (by omega) (by omega) (lv_sub hl [1, 2, 4, 5, 6, 7, 0] rfl)
  have hB15 : ∀ (h : CH) (x0 : Nat) (x1 : Int32) (x2 : Int32) (x3 : Int32) (x4 : Int32) (x5 : Int32) (x6 : Int32) (x7 : Nat) (y0 : Nat) (cc ss : Nat) (H : Heap) (locs : List Loc) (ls : Array Slot), m_X0_orderOf_15 f h x0 x1 x2 x3 x4 x5 x6 x7 y0 = some (r0, u9) → CW D dA A s h H locs → cc + u.1 = h.1 → ss + u.2.1 = h.2.1 → lv_has ls 21 [(0, .ref x0), (1, .int x1), (2, .int x2), (3, .int x3), (4, .int x4), (5, .int x5), (6, .int x6), (7, .ref x7)] → W p l e (rm_X0_orderOf (u9.1 - u.1) (u9.2.1 - u.2.1)) s m args below meth c H locs cc ss QQ (F0 m 15 ls [.ref y0]) := by
    intro h x0 x1 x2 x3 x4 x5 x6 x7 y0 cc ss H locs ls hm hw hcc hss hl
    have hmo := mo_X0_orderOf_15  h x0 x1 x2 x3 x4 x5 x6 x7 y0 _ hm
    have sb_ : h.1 ≤ u9.1 := hmo.1
    have tb_ : h.2.1 ≤ u9.2.1 := hmo.2.1
    rw [m_X0_orderOf_15] at hm
    refine lv_astore (lv' := [(8, .ref y0), (0, .ref x0), (1, .int x1), (2, .int x2), (3, .int x3), (4, .int x4), (5, .int x5), (6, .int x6), (7, .ref x7)]) hx hb dX0_orderOf_15 hl (by decide) rfl (fun ls hl => ?_)
    refine lv_iload hx hb dX0_orderOf_17 (lv_at hl 7 rfl) ?_
    refine lv_i2l hx hb dX0_orderOf_19 rfl ?_
    refine lv_aload hx hb dX0_orderOf_20 (lv_at hl 8 rfl) ?_
    obtain ⟨g1, hm⟩ := gdE hm
    obtain ⟨r3, h2, er3, hm⟩ := bd2E hm
    have lh2 := mo_X2_determinant er3
    have ph2 : h.1 ≤ h2.1 := lh2.1
    have qh2 : h.2.1 ≤ h2.2.1 := lh2.2.1
    have hmo := mo_X0_orderOf_25   h2 x0 x1 x2 x3 x4 x5 y0 (Int32.toInt64 x6) r3 _ hm
    have sh2 : h2.1 ≤ u9.1 := hmo.1
    have th2 : h2.2.1 ≤ u9.2.1 := hmo.2.1
    refine cg_calll hw lh2 (va_runV (As := []) (rest := [.long (Int32.toInt64 x6)]) ⟨hx, hb, hml, hown, hts⟩ (w_X2_determinant l er3) (cw_X2_determinant hts q1060 ⟨Nat.le_of_ble_eq_true rfl, Nat.le_of_ble_eq_true rfl⟩) (cg_preV C hw g1 rfl _) rfl rfl hl.1 rfl (lv_room (Nat.le_of_ble_eq_true rfl)) dX0_orderOf_22 ⟨show cc + (h2.1 - h.1) ≤ u9.1 - u.1 by omega, show ss + (h2.2.1 - h.2.1) ≤ u9.2.1 - u.2.1 by omega⟩) (fun H locs hw => ?_)
    exact hB25 h2 x0 x1 x2 x3 x4 x5 y0 (Int32.toInt64 x6) r3 _ _ _ _ _ hm hw (by omega) (by omega) (lv_sub hl [1, 2, 3, 4, 5, 6, 0] rfl)
  have hB8 : ∀ (h : CH) (x0 : Nat) (x1 : Int32) (x2 : Int32) (x3 : Int32) (x4 : Int32) (x5 : Int32) (x6 : Int32) (y0 : Nat) (cc ss : Nat) (H : Heap) (locs : List Loc) (ls : Array Slot), m_X0_orderOf_8 f h x0 x1 x2 x3 x4 x5 x6 y0 = some (r0, u9) → CW D dA A s h H locs → cc + u.1 = h.1 → ss + u.2.1 = h.2.1 → lv_has ls 21 [(0, .ref x0), (1, .int x1), (2, .int x2), (3, .int x3), (4, .int x4), (5, .int x5), (6, .int x6)] → W p l e (rm_X0_orderOf (u9.1 - u.1) (u9.2.1 - u.2.1)) s m args below meth c H locs cc ss QQ (F0 m 8 ls [.ref y0]) := by
    intro h x0 x1 x2 x3 x4 x5 x6 y0 cc ss H locs ls hm hw hcc hss hl
    have hmo := mo_X0_orderOf_8  h x0 x1 x2 x3 x4 x5 x6 y0 _ hm
    have sb_ : h.1 ≤ u9.1 := hmo.1
    have tb_ : h.2.1 ≤ u9.2.1 := hmo.2.1
    rw [m_X0_orderOf_8] at hm
    refine lv_astore (lv' := [(7, .ref y0), (0, .ref x0), (1, .int x1), (2, .int x2), (3, .int x3), (4, .int x4), (5, .int x5), (6, .int x6)]) hx hb dX0_orderOf_8 hl (by decide) rfl (fun ls hl => ?_)
    refine lv_aload hx hb dX0_orderOf_10 (lv_at hl 0 rfl) ?_
    obtain ⟨g1, hm⟩ := gdE hm
    obtain ⟨a3, h2, ea3, hm⟩ := bd2E hm
    have lh2 := mo_X2_adjoint ea3
    have ph2 : h.1 ≤ h2.1 := lh2.1
    have qh2 : h.2.1 ≤ h2.2.1 := lh2.2.1
    have hmo := mo_X0_orderOf_15   h2 x0 x1 x2 x3 x4 x5 x6 y0 a3 _ hm
    have sh2 : h2.1 ≤ u9.1 := hmo.1
    have th2 : h2.2.1 ≤ u9.2.1 := hmo.2.1
    refine cg_callr hw lh2 (va_runV (As := []) (rest := []) ⟨hx, hb, hml, hown, hts⟩ (w_X2_adjoint l ea3) (cw_X2_adjoint hts q1088 ⟨Nat.le_of_ble_eq_true rfl, Nat.le_of_ble_eq_true rfl⟩) (cg_preV C hw g1 rfl _) rfl rfl hl.1 rfl (lv_room (Nat.le_of_ble_eq_true rfl)) dX0_orderOf_12 ⟨show cc + (h2.1 - h.1) ≤ u9.1 - u.1 by omega, show ss + (h2.2.1 - h.2.1) ≤ u9.2.1 - u.2.1 by omega⟩) (fun H locs hw => ?_)
    exact hB15 h2 x0 x1 x2 x3 x4 x5 x6 y0 a3 _ _ _ _ _ hm hw (by omega) (by omega) (lv_sub hl [1, 2, 3, 4, 5, 6, 7, 0] rfl)
  have hB5 : ∀ (h : CH) (x0 : Nat) (x1 : Int32) (x2 : Int32) (x3 : Int32) (x4 : Int32) (x5 : Int32) (x6 : Int32) (y0 : Nat) (cc ss : Nat) (H : Heap) (locs : List Loc) (ls : Array Slot), m_X0_orderOf_5 f h x0 x1 x2 x3 x4 x5 x6 y0 = some (r0, u9) → CW D dA A s h H locs → cc + u.1 = h.1 → ss + u.2.1 = h.2.1 → lv_has ls 21 [(0, .ref x0), (1, .int x1), (2, .int x2), (3, .int x3), (4, .int x4), (5, .int x5), (6, .int x6)] → W p l e (rm_X0_orderOf (u9.1 - u.1) (u9.2.1 - u.2.1)) s m args below meth c H locs cc ss QQ (F0 m 5 ls [.ref y0]) := by
    intro h x0 x1 x2 x3 x4 x5 x6 y0 cc ss H locs ls hm hw hcc hss hl
    have hmo := mo_X0_orderOf_5  h x0 x1 x2 x3 x4 x5 x6 y0 _ hm
    have sb_ : h.1 ≤ u9.1 := hmo.1
    have tb_ : h.2.1 ≤ u9.2.1 := hmo.2.1
    rw [m_X0_orderOf_5] at hm
    by_cases c1 : isC h y0 6 = true
    · have hm := ifT hm c1
      obtain ⟨a3, h2, ea3, hm⟩ := bd2E hm
      have lh2 := mo_X6_rows ea3
      have ph2 : h.1 ≤ h2.1 := lh2.1
      have qh2 : h.2.1 ≤ h2.2.1 := lh2.2.1
      have hmo := mo_X0_orderOf_8   h2 x0 x1 x2 x3 x4 x5 x6 a3 _ hm
      have sh2 : h2.1 ≤ u9.1 := hmo.1
      have th2 : h2.2.1 ≤ u9.2.1 := hmo.2.1
      refine cg_callr hw lh2 (va_runV (As := []) (rest := []) ⟨hx, hb, hml, hown, hts⟩ (w_X6_rows l ea3) (cw_X6_rows hts q904 ⟨Nat.le_of_ble_eq_true rfl, Nat.le_of_ble_eq_true rfl⟩) (cg_preV C hw c1 rfl _) rfl rfl hl.1 rfl (lv_room (Nat.le_of_ble_eq_true rfl)) dX0_orderOf_5 ⟨show cc + (h2.1 - h.1) ≤ u9.1 - u.1 by omega, show ss + (h2.2.1 - h.2.1) ≤ u9.2.1 - u.2.1 by omega⟩) (fun H locs hw => ?_)
      exact hB8 h2 x0 x1 x2 x3 x4 x5 x6 a3 _ _ _ _ _ hm hw (by omega) (by omega) (lv_sub hl [0, 1, 2, 3, 4, 5, 6] rfl)
    · have hm := ifF hm c1
      obtain ⟨g4, hm⟩ := gdE hm
      obtain ⟨a6, h5, ea6, hm⟩ := bd2E hm
      have lh5 := mo_X7_rows ea6
      have ph5 : h.1 ≤ h5.1 := lh5.1
      have qh5 : h.2.1 ≤ h5.2.1 := lh5.2.1
      have hmo := mo_X0_orderOf_8   h5 x0 x1 x2 x3 x4 x5 x6 a6 _ hm
      have sh5 : h5.1 ≤ u9.1 := hmo.1
      have th5 : h5.2.1 ≤ u9.2.1 := hmo.2.1
      refine cg_callr hw lh5 (va_runU (As := []) (rest := []) ⟨hx, hb, hml, hown, hts⟩ (w_X7_rows l ea6) (va_cwO 0 hts (lwO q904 q907 q905 q908 q909 q144 q910) rfl rfl rfl q940 (by decide +kernel) ⟨Nat.le_of_ble_eq_true rfl, Nat.le_of_ble_eq_true rfl⟩) (cg_preV C hw g4 rfl _) rfl rfl hl.1 rfl (lv_room (Nat.le_of_ble_eq_true rfl)) dX0_orderOf_5 ⟨show cc + (h5.1 - h.1) ≤ u9.1 - u.1 by omega, show ss + (h5.2.1 - h.2.1) ≤ u9.2.1 - u.2.1 by omega⟩) (fun H locs hw => ?_)
      exact hB8 h5 x0 x1 x2 x3 x4 x5 x6 a6 _ _ _ _ _ hm hw (by omega) (by omega) (lv_sub hl [0, 1, 2, 3, 4, 5, 6] rfl)
  rw [m_X0_orderOf] at hm
  refine lv_aload_n hx hb dX0_orderOf_0 rfl (lv_at hl 0 rfl) ?_
  refine lv_iload_n hx hb dX0_orderOf_1 rfl (lv_at hl 1 rfl) ?_
  obtain ⟨g1, hm⟩ := gdE hm
  obtain ⟨a3, h2, ea3, hm⟩ := bd2E hm
  have lh2 := mo_X0_at ea3
  have ph2 : u.1 ≤ h2.1 := lh2.1
  have qh2 : u.2.1 ≤ h2.2.1 := lh2.2.1
  have hmo := mo_X0_orderOf_5   h2 x0 x1 x2 x3 x4 x5 x6 a3 _ hm
  have sh2 : h2.1 ≤ u9.1 := hmo.1
  have th2 : h2.2.1 ≤ u9.2.1 := hmo.2.1
  refine cg_callr hw lh2 (va_runV (As := [.int x1]) (rest := []) ⟨hx, hb, hml, hown, hts⟩ (w_X0_at l ea3) (cw_X0_at hts q900 ⟨Nat.le_of_ble_eq_true rfl, Nat.le_of_ble_eq_true rfl⟩) (cg_preV C hw g1 rfl _) rfl rfl hl.1 rfl (lv_room (Nat.le_of_ble_eq_true rfl)) dX0_orderOf_2 ⟨show cc + (h2.1 - u.1) ≤ u9.1 - u.1 by omega, show ss + (h2.2.1 - u.2.1) ≤ u9.2.1 - u.2.1 by omega⟩) (fun H locs hw => ?_)
  exact hB5 h2 x0 x1 x2 x3 x4 x5 x6 a3 _ _ _ _ _ hm hw (by omega) (by omega) (lv_sub hl [0, 1, 2, 3, 4, 5, 6] rfl)
