/-! walks of the twin's methods with own arrays or Strings (printed by gen/all_ct.py) -/
set_option maxRecDepth 100000
noncomputable section
def m_X3_readsLattice_135 (f : Nat) (h : CH) : Option CH := some h
theorem mo_X3_readsLattice_135 {f : Nat} : ∀ (h : CH) (r : CH), m_X3_readsLattice_135 f h = some r → le2 h r := by
  intro h r hm
  rw [m_X3_readsLattice_135] at hm
  cases hm
  exact le2.rf
def m_X3_readsLattice_104 (f : Nat) (h : CH) (x0 : Nat) : Option CH := bd (oI h 0 15 x0) fun v1 =>
    if ¬ v1 = 0 then
    m_X3_readsLattice_135 f h
    else bd (oR h 0 0 x0) fun a3 =>
    bd (oR h 0 0 x0) fun a4 =>
    bd (aI h 0 a4 (0 : Int32)) fun v5 =>
    bd (uI h 0 a3 ((3 : Int32) + v5) (-1 : Int32)) fun h6 =>
    bd (oR h6 0 0 x0) fun a7 =>
    bd (aI h6 0 a7 (0 : Int32)) fun v8 =>
    bd (uI h6 0 a7 (0 : Int32) (v8 + (1 : Int32))) fun h9 =>
    m_X3_readsLattice_135 f h9
theorem mo_X3_readsLattice_104 {f : Nat} : ∀ (h : CH) (x0 : Nat) (r : CH), m_X3_readsLattice_104 f h x0 = some r → le2 h r := by
  intro h x0 r hm
  rw [m_X3_readsLattice_104] at hm
  obtain ⟨v1, ev1, hm⟩ := bdE hm
  by_cases c2 : ¬ v1 = 0
  · have hm := ifT hm c2
    exact (mo_X3_readsLattice_135  h _ hm)
  · have hm := ifF hm c2
    obtain ⟨a3, ea3, hm⟩ := bdE hm
    obtain ⟨a4, ea4, hm⟩ := bdE hm
    obtain ⟨v5, ev5, hm⟩ := bdE hm
    obtain ⟨h6, eh6, hm⟩ := bdE hm
    have lh6 := uI_le eh6
    obtain ⟨a7, ea7, hm⟩ := bdE hm
    obtain ⟨v8, ev8, hm⟩ := bdE hm
    obtain ⟨h9, eh9, hm⟩ := bdE hm
    have lh9 := uI_le eh9
    exact (lh6.tr (lh9.tr (mo_X3_readsLattice_135  h9 _ hm)))
def m_X3_readsLattice_93 (f : Nat) (k30 : CH → Nat → Int32 → Int32 → Option CH) (h : CH) (x0 : Nat) (x1 : Int32) (x2 : Int32) : Option CH := bd (tcv h x0 (fun z => m_X3_passes f z (1 : Int32))) fun h1 =>
    nmv ((x2 + 1) : Int32) fun v2 =>
    k30 h1 x0 x1 v2
theorem mo_X3_readsLattice_93 {f : Nat} {k30 : CH → Nat → Int32 → Int32 → Option CH} (hk30 : ∀ (h : CH) (x0 : Nat) (x1 : Int32) (x2 : Int32) (r : CH), k30 h x0 x1 x2 = some r → le2 h r) : ∀ (h : CH) (x0 : Nat) (x1 : Int32) (x2 : Int32) (r : CH), m_X3_readsLattice_93 f k30 h x0 x1 x2 = some r → le2 h r := by
  intro h x0 x1 x2 r hm
  rw [m_X3_readsLattice_93] at hm
  obtain ⟨h1, eh1, hm⟩ := bdE hm
  have lh1 := tcv_le eh1
  obtain ⟨v2, ev2, hm⟩ := nmE hm
  exact (lh1.tr (hk30 h1 x0 x1 v2 _ hm))
def m_X3_readsLattice_30 (f : Nat) : Nat → CH → Nat → Int32 → Int32 → Option CH
  | 0, _, _, _, _ => none
  | n30 + 1, h, x0, x1, x2 => if (9 : Int32) ≤ x2 then
    m_X3_readsLattice_104 f h x0
    else bd (oI h 0 15 x0) fun v2 =>
    if ¬ v2 = 0 then
    m_X3_readsLattice_104 f h x0
    else bd (oR h 0 0 x0) fun a4 =>
    bd2 (tcr h x0 (fun z => m_X3_sees f z (6 : Int32))) fun r6 h5 =>
    bd (uI h5 0 a4 (x1 + x2) r6) fun h7 =>
    bd (oI h7 0 15 x0) fun v8 =>
    if ¬ v8 = 0 then
    m_X3_readsLattice_93 f (m_X3_readsLattice_30 f n30) h7 x0 x1 x2
    else if ¬ x2 = (8 : Int32) then
    m_X3_readsLattice_93 f (m_X3_readsLattice_30 f n30) h7 x0 x1 x2
    else bd2 (tcr h7 x0 (fun z => m_X3_detOf f z x1)) fun r12 h11 =>
    bd (m_X3_sized f r12) fun r13 =>
    bd (m_X3_in f r13 (1 : Int64) (60 : Int64)) fun r14 =>
    if ¬ r14 = 0 then
    m_X3_readsLattice_93 f (m_X3_readsLattice_30 f n30) h11 x0 x1 x2
    else bd (tcv h11 x0 (fun z => m_X3_faults f z (2 : Int32))) fun h16 =>
    m_X3_readsLattice_93 f (m_X3_readsLattice_30 f n30) h16 x0 x1 x2
theorem mo_X3_readsLattice_30 {f : Nat} : ∀ (n30 : Nat) (h : CH) (x0 : Nat) (x1 : Int32) (x2 : Int32) (r : CH), m_X3_readsLattice_30 f n30 h x0 x1 x2 = some r → le2 h r := by
  intro n30
  induction n30 with
  | zero => intro h x0 x1 x2 r hm; rw [m_X3_readsLattice_30] at hm; exact noE hm
  | succ n30 ihm =>
    intro h x0 x1 x2 r hm
    rw [m_X3_readsLattice_30] at hm
    by_cases c1 : (9 : Int32) ≤ x2
    · have hm := ifT hm c1
      exact (mo_X3_readsLattice_104  h x0 _ hm)
    · have hm := ifF hm c1
      obtain ⟨v2, ev2, hm⟩ := bdE hm
      by_cases c3 : ¬ v2 = 0
      · have hm := ifT hm c3
        exact (mo_X3_readsLattice_104  h x0 _ hm)
      · have hm := ifF hm c3
        obtain ⟨a4, ea4, hm⟩ := bdE hm
        obtain ⟨r6, h5, er6, hm⟩ := bd2E hm
        have lh5 := tcr_le er6
        obtain ⟨h7, eh7, hm⟩ := bdE hm
        have lh7 := uI_le eh7
        obtain ⟨v8, ev8, hm⟩ := bdE hm
        by_cases c9 : ¬ v8 = 0
        · have hm := ifT hm c9
          exact (lh5.tr (lh7.tr (mo_X3_readsLattice_93 ihm h7 x0 x1 x2 _ hm)))
        · have hm := ifF hm c9
          by_cases c10 : ¬ x2 = (8 : Int32)
          · have hm := ifT hm c10
            exact (lh5.tr (lh7.tr (mo_X3_readsLattice_93 ihm h7 x0 x1 x2 _ hm)))
          · have hm := ifF hm c10
            obtain ⟨r12, h11, er12, hm⟩ := bd2E hm
            have lh11 := tcr_le er12
            obtain ⟨r13, er13, hm⟩ := bdE hm
            obtain ⟨r14, er14, hm⟩ := bdE hm
            by_cases c15 : ¬ r14 = 0
            · have hm := ifT hm c15
              exact (lh5.tr (lh7.tr (lh11.tr (mo_X3_readsLattice_93 ihm h11 x0 x1 x2 _ hm))))
            · have hm := ifF hm c15
              obtain ⟨h16, eh16, hm⟩ := bdE hm
              have lh16 := tcv_le eh16
              exact (lh5.tr (lh7.tr (lh11.tr (lh16.tr (mo_X3_readsLattice_93 ihm h16 x0 x1 x2 _ hm)))))
def m_X3_readsLattice_25 (f : Nat) (h : CH) (x0 : Nat) (y0 : Int32) (y1 : Int32) (y2 : Int32) : Option CH := nmv ((y0 + (y1 * y2)) : Int32) fun v1 =>
    m_X3_readsLattice_30 f f h x0 v1 (0 : Int32)
theorem mo_X3_readsLattice_25 {f : Nat} : ∀ (h : CH) (x0 : Nat) (y0 : Int32) (y1 : Int32) (y2 : Int32) (r : CH), m_X3_readsLattice_25 f h x0 y0 y1 y2 = some r → le2 h r := by
  intro h x0 y0 y1 y2 r hm
  rw [m_X3_readsLattice_25] at hm
  obtain ⟨v1, ev1, hm⟩ := nmE hm
  exact (mo_X3_readsLattice_30  f h x0 v1 (0 : Int32) _ hm)
def m_X3_readsLattice_4 (f : Nat) (h : CH) (x0 : Nat) : Option CH := bd (oI h 0 15 x0) fun v1 =>
    if v1 = 0 then
    bd (oR h 0 0 x0) fun a3 =>
    bd (aI h 0 a3 (0 : Int32)) fun v4 =>
    m_X3_readsLattice_25 f h x0 (28 : Int32) (9 : Int32) v4
    else m_X3_readsLattice_25 f h x0 (28 : Int32) (9 : Int32) (0 : Int32)
theorem mo_X3_readsLattice_4 {f : Nat} : ∀ (h : CH) (x0 : Nat) (r : CH), m_X3_readsLattice_4 f h x0 = some r → le2 h r := by
  intro h x0 r hm
  rw [m_X3_readsLattice_4] at hm
  obtain ⟨v1, ev1, hm⟩ := bdE hm
  by_cases c2 : v1 = 0
  · have hm := ifT hm c2
    obtain ⟨a3, ea3, hm⟩ := bdE hm
    obtain ⟨v4, ev4, hm⟩ := bdE hm
    exact (mo_X3_readsLattice_25  h x0 (28 : Int32) (9 : Int32) v4 _ hm)
  · have hm := ifF hm c2
    exact (mo_X3_readsLattice_25  h x0 (28 : Int32) (9 : Int32) (0 : Int32) _ hm)
def m_X3_readsLattice (f : Nat) (u : CH) (x0 : Nat) : Option CH := gd (isC u x0 0) <|
    bd (m_X3_readsName f u x0) fun h2 =>
    m_X3_readsLattice_4 f h2 x0
theorem mo_X3_readsLattice {f : Nat} {u : CH} {x0 : Nat} {u9 : CH} (hm : m_X3_readsLattice f u x0 = some u9) : le2 u u9 := by
  rw [m_X3_readsLattice] at hm
  obtain ⟨g1, hm⟩ := gdE hm
  obtain ⟨h2, eh2, hm⟩ := bdE hm
  have lh2 := mo_X3_readsName eh2
  exact (lh2.tr (mo_X3_readsLattice_4  h2 x0 _ hm))
abbrev rm_X3_readsLattice (mc ms : Nat) : Room := { frames := 7, cells := mc, slots := ms, locals := 148 }
theorem cw_X3_readsLattice {R : Room} {s : State} {args : Array Value} {own : String} {idx mc ms : Nat} (hts : ∀ w ∈ lw_all, w.before args s = true) (hl : Cond.methodLink own idx yX3_readsLattice ∈ lw_all) (hR : 7 + 1 ≤ R.frames ∧ 8 + (3 + 11) + 148 ≤ R.locals) : CallW R s args own RX3 idx yX3_readsLattice cX3_readsLattice 3 (Option.none : Option Jvm.ClassFile.FieldType) (ws_ yX3_readsLattice cX3_readsLattice 3 (Option.none : Option Jvm.ClassFile.FieldType)) (rm_X3_readsLattice mc ms) mc ms 0 := cwV 0 hts (lw_V hl q1735 qs57 q125 q1736) rfl rfl rfl (by decide +kernel) hR
set_option maxHeartbeats 4000000 in
set_option maxRecDepth 100000 in
theorem w_X3_readsLattice (l : Launch) {D : va_G} {dA : Nat → ClassId} {A : Nat → Prop} {f : Nat} {u u9 : CH} {x0 : Nat} (hm : m_X3_readsLattice f u x0 = some u9) : Met l yX3_readsLattice (ws_ yX3_readsLattice cX3_readsLattice 3 (Option.none : Option Jvm.ClassFile.FieldType)) (rm_X3_readsLattice (u9.1 - u.1) (u9.2.1 - u.2.1)) (va_Pc [.ref x0] (CPre D dA A u)) (va_Qv (fun u => u = u9) (CPost D dA A) A) (u9.1 - u.1) (u9.2.1 - u.2.1) A := by
  refine Met.ofW (cc := cX3_readsLattice) (maxL := 3) (ret := (Option.none : Option Jvm.ClassFile.FieldType)) (by decide) rfl ?_
  intro p e s m args below meth c s₁ B hml hv
  have hx := B.exec
  have hb := B.bytes
  have hr := B.returns
  have hts := atoms_spec (ws := (ws_ yX3_readsLattice cX3_readsLattice 3 (Option.none : Option Jvm.ClassFile.FieldType))) B.pre
  have hts : ∀ w ∈ lw_all, w.before args s = true := fun w h => hts w (List.mem_cons_of_mem _ h)
  have hown : s.vm.findClass RX3 = some m.cls := findClass_of_methodNamed B.named
  have hlocks := B.notSynchronized
  obtain ⟨hav, hv⟩ := hv
  have C : CX p s m args c cX3_readsLattice RX3 D dA := ⟨hx, hb, hown, hts, hv.2⟩
  have hw : CW D dA A s u s.heap [] := hv.1
  have hs0 : s.heap.size = u.1 := hv.1.1
  generalize hQ : MQ below (va_Qv (fun u => u = u9) (CPost D dA A) A) args s (u9.1 - u.1) (u9.2.1 - u.2.1) A = QQ
  have hent := lg_entry_eq m [.ref x0] 3
  rw [← hav] at hent
  rw [hent]
  have hl := lv_entry ([.ref x0]) (n := 3) (Nat.le_of_ble_eq_true rfl)
  generalize (lg_sl ([.ref x0]) ++ List.replicate (3 - (lg_sl ([.ref x0])).length) Slot.unset).toArray = ls at hl ⊢
  have hl : lv_has ls 3 [(0, .ref x0)] := hl
  obtain ⟨cc, ecc⟩ : ∃ z : Nat, z = 0 := ⟨0, rfl⟩
  obtain ⟨ss, ess⟩ : ∃ z : Nat, z = 0 := ⟨0, rfl⟩
  have hcc : cc + u.1 = u.1 := by omega
  have hss : ss + u.2.1 = u.2.1 := by omega
  suffices hgo : W p l e (rm_X3_readsLattice (u9.1 - u.1) (u9.2.1 - u.2.1)) s m args below meth c s.heap [] cc ss QQ (F0 m 0 ls []) by rw [ecc, ess] at hgo; exact hgo
  have ⟨pu, qu, _, _⟩ := mo_X3_readsLattice hm
  have hB135 : ∀ (h : CH) (cc ss : Nat) (H : Heap) (locs : List Loc) (ls : Array Slot), m_X3_readsLattice_135 f h = some u9 → CW D dA A s h H locs → cc + u.1 = h.1 → ss + u.2.1 = h.2.1 → lv_has ls 3 [] → W p l e (rm_X3_readsLattice (u9.1 - u.1) (u9.2.1 - u.2.1)) s m args below meth c H locs cc ss QQ (F0 m 135 ls []) := by
    intro h cc ss H locs ls hm hw hcc hss hl
    have hmo := mo_X3_readsLattice_135  h _ hm
    have sb_ : h.1 ≤ u9.1 := hmo.1
    have tb_ : h.2.1 ≤ u9.2.1 := hmo.2.1
    rw [m_X3_readsLattice_135] at hm
    have eh := ret1 hm
    have ec : cc = u9.1 - u.1 := by rw [← eh]; omega
    have es : ss = u9.2.1 - u.2.1 := by rw [← eh]; omega
    rw [ec, es, ← hQ]
    exact W.vret hx hb hr (fun t ht hW => ⟨⟨h, rfl, eh, ⟨by rw [ht]; exact hw.1, by rw [ht]; exact hw.2.1⟩⟩, hw.2.2.1.F ht⟩) hw.2.2.1.2.2 dX3_readsLattice_135
  have hB104 : ∀ (h : CH) (x0 : Nat) (cc ss : Nat) (H : Heap) (locs : List Loc) (ls : Array Slot), m_X3_readsLattice_104 f h x0 = some u9 → CW D dA A s h H locs → cc + u.1 = h.1 → ss + u.2.1 = h.2.1 → lv_has ls 3 [(0, .ref x0)] → W p l e (rm_X3_readsLattice (u9.1 - u.1) (u9.2.1 - u.2.1)) s m args below meth c H locs cc ss QQ (F0 m 104 ls []) := by
    intro h x0 cc ss H locs ls hm hw hcc hss hl
    have hmo := mo_X3_readsLattice_104  h x0 _ hm
    have sb_ : h.1 ≤ u9.1 := hmo.1
    have tb_ : h.2.1 ≤ u9.2.1 := hmo.2.1
    rw [m_X3_readsLattice_104] at hm
    refine lv_aload_n hx hb dX3_readsLattice_104 rfl (lv_at hl 0 rfl) ?_
    obtain ⟨v1, ev1, hm⟩ := bdE hm
    refine cg_get C hw (oI_E ev1) rfl in_X3 (by decide) q1581 dX3_readsLattice_105 ?_
    refine lv_if_ne (tgt := 135) hx hb dX3_readsLattice_108 (by decide) (fun c2 => ?_) (fun c2 => ?_)
    · have hm := ifT hm c2
      exact hB135 h _ _ _ _ _ hm hw (by omega) (by omega) (lv_sub hl [] rfl)
    · have hm := ifT' hm c2
      refine lv_aload_n hx hb dX3_readsLattice_111 rfl (lv_at hl 0 rfl) ?_
      obtain ⟨a3, ea3, hm⟩ := bdE hm
      refine cg_get C hw (oR_E ea3) rfl in_X3 (by decide) q1566 dX3_readsLattice_112 ?_
      refine lv_iconst (v := 3) hx hb dX3_readsLattice_115 (by decide) ?_
      refine lv_aload_n hx hb dX3_readsLattice_116 rfl (lv_at hl 0 rfl) ?_
      obtain ⟨a4, ea4, hm⟩ := bdE hm
      refine cg_get C hw (oR_E ea4) rfl in_X3 (by decide) q1566 dX3_readsLattice_117 ?_
      refine lv_iconst (v := 0) hx hb dX3_readsLattice_120 (by decide) ?_
      obtain ⟨v5, ev5, hm⟩ := bdE hm
      refine cg_iald C hw ev5 dX3_readsLattice_121 ?_
      refine lv_iadd hx hb dX3_readsLattice_122 ?_
      refine lv_iconst (v := -1) hx hb dX3_readsLattice_123 (by decide) ?_
      obtain ⟨h6, eh6, hm⟩ := bdE hm
      refine cg_iast C hw eh6 dX3_readsLattice_124 (fun H locs hw => ?_)
      have zh6 := uI_sz eh6
      refine lv_aload_n hx hb dX3_readsLattice_125 rfl (lv_at hl 0 rfl) ?_
      obtain ⟨a7, ea7, hm⟩ := bdE hm
      refine cg_get C hw (oR_E ea7) rfl in_X3 (by decide) q1566 dX3_readsLattice_126 ?_
      refine lv_iconst (v := 0) hx hb dX3_readsLattice_129 (by decide) ?_
      refine lv_dup2_11 hx hb dX3_readsLattice_130 rfl rfl ?_
      obtain ⟨v8, ev8, hm⟩ := bdE hm
      refine cg_iald C hw ev8 dX3_readsLattice_131 ?_
      refine lv_iconst (v := 1) hx hb dX3_readsLattice_132 (by decide) ?_
      refine lv_iadd hx hb dX3_readsLattice_133 ?_
      obtain ⟨h9, eh9, hm⟩ := bdE hm
      refine cg_iast C hw eh9 dX3_readsLattice_134 (fun H locs hw => ?_)
      have zh9 := uI_sz eh9
      exact hB135 h9 _ _ _ _ _ hm hw (by omega) (by omega) (lv_sub hl [] rfl)
  have hB30 : ∀ (n30 : Nat), ∀ (h : CH) (x0 : Nat) (x1 : Int32) (x2 : Int32) (cc ss : Nat) (H : Heap) (locs : List Loc) (ls : Array Slot), m_X3_readsLattice_30 f n30 h x0 x1 x2 = some u9 → CW D dA A s h H locs → cc + u.1 = h.1 → ss + u.2.1 = h.2.1 → lv_has ls 3 [(0, .ref x0), (1, .int x1), (2, .int x2)] → W p l e (rm_X3_readsLattice (u9.1 - u.1) (u9.2.1 - u.2.1)) s m args below meth c H locs cc ss QQ (F0 m 30 ls []) := by
    intro n30
    induction n30 with
    | zero => intro h x0 x1 x2 cc ss H locs ls hm hw hcc hss hl; rw [m_X3_readsLattice_30] at hm; exact noE hm
    | succ n30 ih30 =>
      have hB93 : ∀ (h : CH) (x0 : Nat) (x1 : Int32) (x2 : Int32) (cc ss : Nat) (H : Heap) (locs : List Loc) (ls : Array Slot), m_X3_readsLattice_93 f (m_X3_readsLattice_30 f n30) h x0 x1 x2 = some u9 → CW D dA A s h H locs → cc + u.1 = h.1 → ss + u.2.1 = h.2.1 → lv_has ls 3 [(0, .ref x0), (1, .int x1), (2, .int x2)] → W p l e (rm_X3_readsLattice (u9.1 - u.1) (u9.2.1 - u.2.1)) s m args below meth c H locs cc ss QQ (F0 m 93 ls []) := by
        intro h x0 x1 x2 cc ss H locs ls hm hw hcc hss hl
        have hmo := mo_X3_readsLattice_93 (mo_X3_readsLattice_30 n30) h x0 x1 x2 _ hm
        have sb_ : h.1 ≤ u9.1 := hmo.1
        have tb_ : h.2.1 ≤ u9.2.1 := hmo.2.1
        rw [m_X3_readsLattice_93] at hm
        refine lv_aload_n hx hb dX3_readsLattice_93 rfl (lv_at hl 0 rfl) ?_
        refine lv_iconst (v := 1) hx hb dX3_readsLattice_94 (by decide) ?_
        obtain ⟨h1, eh1, hm⟩ := bdE hm
        refine cg_tcv C hw eh1 (show cc + s.heap.size = h.1 by rw [hs0]; omega) (fun _ hk hm9 => va_runV (As := [.int (1 : Int32)]) (rest := []) ⟨hx, hb, hml, hown, hts⟩ (w_X3_passes l hm9) (cw_X3_passes hts q1745 ⟨Nat.le_of_ble_eq_true rfl, Nat.le_of_ble_eq_true rfl⟩) (tb_pre C hw hk _) rfl rfl hl.1 rfl (lv_room (Nat.le_of_ble_eq_true rfl)) dX3_readsLattice_95 ⟨show cc + 0 ≤ u9.1 - u.1 by omega, show ss + 0 ≤ u9.2.1 - u.2.1 by omega⟩) (fun H locs hw => ?_)
        have zh1 := tcv_sz eh1
        obtain ⟨v2, ev2, hm⟩ := nmE hm
        refine lv_iinc (v := v2) (lv' := [(2, .int v2), (0, .ref x0), (1, .int x1)]) hx hb dX3_readsLattice_98 hl (k := 2) rfl (by rw [ev2]; rfl) (by decide) rfl (fun ls hl => ?_)
        refine lv_goto (tgt := 30) hx hb dX3_readsLattice_101 (by decide) ?_
        exact ih30 h1 x0 x1 v2 _ _ _ _ _ hm hw (by omega) (by omega) (lv_sub hl [1, 2, 0] rfl)
      intro h x0 x1 x2 cc ss H locs ls hm hw hcc hss hl
      have hmo := mo_X3_readsLattice_30  (n30 + 1) h x0 x1 x2 _ hm
      have sb_ : h.1 ≤ u9.1 := hmo.1
      have tb_ : h.2.1 ≤ u9.2.1 := hmo.2.1
      rw [m_X3_readsLattice_30] at hm
      refine lv_iload_n hx hb dX3_readsLattice_30 rfl (lv_at hl 2 rfl) ?_
      refine lv_bipush (v := 9) hx hb dX3_readsLattice_31 (by decide) ?_
      refine lv_icmp_ge (tgt := 104) hx hb dX3_readsLattice_33 (by decide) (fun c1 => ?_) (fun c1 => ?_)
      · have hm := ifT hm c1
        exact hB104 h x0 _ _ _ _ _ hm hw (by omega) (by omega) (lv_sub hl [0] rfl)
      · have hm := ifF hm c1
        refine lv_aload_n hx hb dX3_readsLattice_36 rfl (lv_at hl 0 rfl) ?_
        obtain ⟨v2, ev2, hm⟩ := bdE hm
        refine cg_get C hw (oI_E ev2) rfl in_X3 (by decide) q1581 dX3_readsLattice_37 ?_
        refine lv_if_ne (tgt := 104) hx hb dX3_readsLattice_40 (by decide) (fun c3 => ?_) (fun c3 => ?_)
        · have hm := ifT hm c3
          exact hB104 h x0 _ _ _ _ _ hm hw (by omega) (by omega) (lv_sub hl [0] rfl)
        · have hm := ifT' hm c3
          refine lv_aload_n hx hb dX3_readsLattice_43 rfl (lv_at hl 0 rfl) ?_
          obtain ⟨a4, ea4, hm⟩ := bdE hm
          refine cg_get C hw (oR_E ea4) rfl in_X3 (by decide) q1566 dX3_readsLattice_44 ?_
          refine lv_iload_n hx hb dX3_readsLattice_47 rfl (lv_at hl 1 rfl) ?_
          refine lv_iload_n hx hb dX3_readsLattice_48 rfl (lv_at hl 2 rfl) ?_
          refine lv_iadd hx hb dX3_readsLattice_49 ?_
          refine lv_aload_n hx hb dX3_readsLattice_50 rfl (lv_at hl 0 rfl) ?_
          refine lv_bipush (v := 6) hx hb dX3_readsLattice_51 (by decide) ?_
          obtain ⟨r6, h5, er6, hm⟩ := bd2E hm
          refine cg_tci C hw er6 (show cc + s.heap.size = h.1 by rw [hs0]; omega) (fun _ hk hm9 => va_runV (As := [.int (6 : Int32)]) (rest := [.int (x1 + x2), .ref a4]) ⟨hx, hb, hml, hown, hts⟩ (w_X3_sees l hm9) (cw_X3_sees hts q1760 ⟨Nat.le_of_ble_eq_true rfl, Nat.le_of_ble_eq_true rfl⟩) (tb_pre C hw hk _) rfl rfl hl.1 rfl (lv_room (Nat.le_of_ble_eq_true rfl)) dX3_readsLattice_53 ⟨show cc + 0 ≤ u9.1 - u.1 by omega, show ss + 0 ≤ u9.2.1 - u.2.1 by omega⟩) (fun H locs hw => ?_)
          have zh5 := tcr_sz er6
          obtain ⟨h7, eh7, hm⟩ := bdE hm
          refine cg_iast C hw eh7 dX3_readsLattice_56 (fun H locs hw => ?_)
          have zh7 := uI_sz eh7
          refine lv_aload_n hx hb dX3_readsLattice_57 rfl (lv_at hl 0 rfl) ?_
          obtain ⟨v8, ev8, hm⟩ := bdE hm
          refine cg_get C hw (oI_E ev8) rfl in_X3 (by decide) q1581 dX3_readsLattice_58 ?_
          refine lv_if_ne (tgt := 93) hx hb dX3_readsLattice_61 (by decide) (fun c9 => ?_) (fun c9 => ?_)
          · have hm := ifT hm c9
            exact hB93 h7 x0 x1 x2 _ _ _ _ _ hm hw (by omega) (by omega) (lv_sub hl [0, 1, 2] rfl)
          · have hm := ifT' hm c9
            refine lv_iload_n hx hb dX3_readsLattice_64 rfl (lv_at hl 2 rfl) ?_
            refine lv_bipush (v := 8) hx hb dX3_readsLattice_65 (by decide) ?_
            refine lv_icmp_ne (tgt := 93) hx hb dX3_readsLattice_67 (by decide) (fun c10 => ?_) (fun c10 => ?_)
            · have hm := ifT hm c10
              exact hB93 h7 x0 x1 x2 _ _ _ _ _ hm hw (by omega) (by omega) (lv_sub hl [0, 1, 2] rfl)
            · have hm := ifT' hm c10
              refine lv_aload_n hx hb dX3_readsLattice_70 rfl (lv_at hl 0 rfl) ?_
              refine lv_iload_n hx hb dX3_readsLattice_71 rfl (lv_at hl 1 rfl) ?_
              obtain ⟨r12, h11, er12, hm⟩ := bd2E hm
              refine cg_tcl C hw er12 (show cc + s.heap.size = h7.1 by rw [hs0]; omega) (fun _ hk hm9 => va_runV (As := [.int x1]) (rest := []) ⟨hx, hb, hml, hown, hts⟩ (w_X3_detOf l hm9) (cw_X3_detOf hts q1768 ⟨Nat.le_of_ble_eq_true rfl, Nat.le_of_ble_eq_true rfl⟩) (tb_pre C hw hk _) rfl rfl hl.1 rfl (lv_room (Nat.le_of_ble_eq_true rfl)) dX3_readsLattice_72 ⟨show cc + 0 ≤ u9.1 - u.1 by omega, show ss + 0 ≤ u9.2.1 - u.2.1 by omega⟩) (fun H locs hw => ?_)
              have zh11 := tcr_sz er12
              obtain ⟨r13, er13, hm⟩ := bdE hm
              refine scl (va_runS (As := [.long r12]) (rest := []) ⟨hx, hb, hml, hown, hts⟩ (w_X3_sized l er13) (cw_X3_sized hts q1772 ⟨Nat.le_of_ble_eq_true rfl, Nat.le_of_ble_eq_true rfl⟩) (pre_s _) rfl rfl hl.1 rfl (lv_room (Nat.le_of_ble_eq_true rfl)) dX3_readsLattice_75 ⟨show cc + 0 ≤ u9.1 - u.1 by omega, show ss + 0 ≤ u9.2.1 - u.2.1 by omega⟩) ?_
              refine lv_lconst (v := 1) hx hb dX3_readsLattice_78 (by decide) ?_
              refine lv_ldc2 hx hb hown (hts _ q1775) dX3_readsLattice_79 ?_
              obtain ⟨r14, er14, hm⟩ := bdE hm
              refine sci (va_runS (As := [.long r13, .long (1 : Int64), .long (60 : Int64)]) (rest := []) ⟨hx, hb, hml, hown, hts⟩ (w_X3_in l er14) (cw_X3_in hts q1695 ⟨Nat.le_of_ble_eq_true rfl, Nat.le_of_ble_eq_true rfl⟩) (pre_s _) rfl rfl hl.1 rfl (lv_room (Nat.le_of_ble_eq_true rfl)) dX3_readsLattice_82 ⟨show cc + 0 ≤ u9.1 - u.1 by omega, show ss + 0 ≤ u9.2.1 - u.2.1 by omega⟩) ?_
              refine lv_if_ne (tgt := 93) hx hb dX3_readsLattice_85 (by decide) (fun c15 => ?_) (fun c15 => ?_)
              · have hm := ifT hm c15
                exact hB93 h11 x0 x1 x2 _ _ _ _ _ hm hw (by omega) (by omega) (lv_sub hl [0, 1, 2] rfl)
              · have hm := ifT' hm c15
                refine lv_aload_n hx hb dX3_readsLattice_88 rfl (lv_at hl 0 rfl) ?_
                refine lv_iconst (v := 2) hx hb dX3_readsLattice_89 (by decide) ?_
                obtain ⟨h16, eh16, hm⟩ := bdE hm
                refine cg_tcv C hw eh16 (show cc + s.heap.size = h11.1 by rw [hs0]; omega) (fun _ hk hm9 => va_runV (As := [.int (2 : Int32)]) (rest := []) ⟨hx, hb, hml, hown, hts⟩ (w_X3_faults l hm9) (cw_X3_faults hts q1741 ⟨Nat.le_of_ble_eq_true rfl, Nat.le_of_ble_eq_true rfl⟩) (tb_pre C hw hk _) rfl rfl hl.1 rfl (lv_room (Nat.le_of_ble_eq_true rfl)) dX3_readsLattice_90 ⟨show cc + 0 ≤ u9.1 - u.1 by omega, show ss + 0 ≤ u9.2.1 - u.2.1 by omega⟩) (fun H locs hw => ?_)
                have zh16 := tcv_sz eh16
                exact hB93 h16 x0 x1 x2 _ _ _ _ _ hm hw (by omega) (by omega) (lv_sub hl [0, 1, 2] rfl)
  have hB25 : ∀ (h : CH) (x0 : Nat) (y0 : Int32) (y1 : Int32) (y2 : Int32) (cc ss : Nat) (H : Heap) (locs : List Loc) (ls : Array Slot), m_X3_readsLattice_25 f h x0 y0 y1 y2 = some u9 → CW D dA A s h H locs → cc + u.1 = h.1 → ss + u.2.1 = h.2.1 → lv_has ls 3 [(0, .ref x0)] → W p l e (rm_X3_readsLattice (u9.1 - u.1) (u9.2.1 - u.2.1)) s m args below meth c H locs cc ss QQ (F0 m 25 ls [.int y2, .int y1, .int y0]) := by
    intro h x0 y0 y1 y2 cc ss H locs ls hm hw hcc hss hl
    have hmo := mo_X3_readsLattice_25  h x0 y0 y1 y2 _ hm
    have sb_ : h.1 ≤ u9.1 := hmo.1
    have tb_ : h.2.1 ≤ u9.2.1 := hmo.2.1
    rw [m_X3_readsLattice_25] at hm
    refine lv_imul hx hb dX3_readsLattice_25 ?_
    refine lv_iadd hx hb dX3_readsLattice_26 ?_
    refine lv_topi (fun v1 ev1 => ?_)
    have hm := nmK hm ev1
    refine lv_istore_n (lv' := [(1, .int v1), (0, .ref x0)]) hx hb dX3_readsLattice_27 rfl hl (by decide) rfl (fun ls hl => ?_)
    refine lv_iconst (v := 0) hx hb dX3_readsLattice_28 (by decide) ?_
    refine lv_istore_n (lv' := [(2, .int (0 : Int32)), (1, .int v1), (0, .ref x0)]) hx hb dX3_readsLattice_29 rfl hl (by decide) rfl (fun ls hl => ?_)
    exact hB30 f h x0 v1 (0 : Int32) _ _ _ _ _ hm hw (by omega) (by omega) (lv_sub hl [2, 1, 0] rfl)
  have hB4 : ∀ (h : CH) (x0 : Nat) (cc ss : Nat) (H : Heap) (locs : List Loc) (ls : Array Slot), m_X3_readsLattice_4 f h x0 = some u9 → CW D dA A s h H locs → cc + u.1 = h.1 → ss + u.2.1 = h.2.1 → lv_has ls 3 [(0, .ref x0)] → W p l e (rm_X3_readsLattice (u9.1 - u.1) (u9.2.1 - u.2.1)) s m args below meth c H locs cc ss QQ (F0 m 4 ls []) := by
    intro h x0 cc ss H locs ls hm hw hcc hss hl
    have hmo := mo_X3_readsLattice_4  h x0 _ hm
    have sb_ : h.1 ≤ u9.1 := hmo.1
    have tb_ : h.2.1 ≤ u9.2.1 := hmo.2.1
    rw [m_X3_readsLattice_4] at hm
    refine lv_bipush (v := 28) hx hb dX3_readsLattice_4 (by decide) ?_
    refine lv_bipush (v := 9) hx hb dX3_readsLattice_6 (by decide) ?_
    refine lv_aload_n hx hb dX3_readsLattice_8 rfl (lv_at hl 0 rfl) ?_
    obtain ⟨v1, ev1, hm⟩ := bdE hm
    refine cg_get C hw (oI_E ev1) rfl in_X3 (by decide) q1581 dX3_readsLattice_9 ?_
    refine lv_if_eq (tgt := 19) hx hb dX3_readsLattice_12 (by decide) (fun c2 => ?_) (fun c2 => ?_)
    · have hm := ifT hm c2
      refine lv_aload_n hx hb dX3_readsLattice_19 rfl (lv_at hl 0 rfl) ?_
      obtain ⟨a3, ea3, hm⟩ := bdE hm
      refine cg_get C hw (oR_E ea3) rfl in_X3 (by decide) q1566 dX3_readsLattice_20 ?_
      refine lv_iconst (v := 0) hx hb dX3_readsLattice_23 (by decide) ?_
      obtain ⟨v4, ev4, hm⟩ := bdE hm
      refine cg_iald C hw ev4 dX3_readsLattice_24 ?_
      exact hB25 h x0 (28 : Int32) (9 : Int32) v4 _ _ _ _ _ hm hw (by omega) (by omega) (lv_sub hl [0] rfl)
    · have hm := ifF hm c2
      refine lv_iconst (v := 0) hx hb dX3_readsLattice_15 (by decide) ?_
      refine lv_goto (tgt := 25) hx hb dX3_readsLattice_16 (by decide) ?_
      exact hB25 h x0 (28 : Int32) (9 : Int32) (0 : Int32) _ _ _ _ _ hm hw (by omega) (by omega) (lv_sub hl [0] rfl)
  rw [m_X3_readsLattice] at hm
  refine lv_aload_n hx hb dX3_readsLattice_0 rfl (lv_at hl 0 rfl) ?_
  obtain ⟨g1, hm⟩ := gdE hm
  obtain ⟨h2, eh2, hm⟩ := bdE hm
  have lh2 := mo_X3_readsName eh2
  have ph2 : u.1 ≤ h2.1 := lh2.1
  have qh2 : u.2.1 ≤ h2.2.1 := lh2.2.1
  have hmo := mo_X3_readsLattice_4   h2 x0 _ hm
  have sh2 : h2.1 ≤ u9.1 := hmo.1
  have th2 : h2.2.1 ≤ u9.2.1 := hmo.2.1
  refine cg_callv hw lh2 (va_runV (As := []) (rest := []) ⟨hx, hb, hml, hown, hts⟩ (w_X3_readsName l eh2) (cw_X3_readsName hts q1737 ⟨Nat.le_of_ble_eq_true rfl, Nat.le_of_ble_eq_true rfl⟩) (cg_preV C hw g1 rfl _) rfl rfl hl.1 rfl (lv_room (Nat.le_of_ble_eq_true rfl)) dX3_readsLattice_1 ⟨show cc + (h2.1 - u.1) ≤ u9.1 - u.1 by omega, show ss + (h2.2.1 - u.2.1) ≤ u9.2.1 - u.2.1 by omega⟩) (fun H locs hw => ?_)
  exact hB4 h2 x0 _ _ _ _ _ hm hw (by omega) (by omega) (lv_sub hl [0] rfl)
def m_X3_readsTurn_270 (f : Nat) (h : CH) : Option CH := some h
theorem mo_X3_readsTurn_270 {f : Nat} : ∀ (h : CH) (r : CH), m_X3_readsTurn_270 f h = some r → le2 h r := by
  intro h r hm
  rw [m_X3_readsTurn_270] at hm
  cases hm
  exact le2.rf
def m_X3_readsTurn_239 (f : Nat) (h : CH) (x0 : Nat) (x1 : Int32) : Option CH := bd (oI h 0 15 x0) fun v1 =>
    if ¬ v1 = 0 then
    m_X3_readsTurn_270 f h
    else bd (oR h 0 0 x0) fun a3 =>
    bd (oR h 0 0 x0) fun a4 =>
    bd (aI h 0 a4 (0 : Int32)) fun v5 =>
    bd (uI h 0 a3 ((3 : Int32) + v5) x1) fun h6 =>
    bd (oR h6 0 0 x0) fun a7 =>
    bd (aI h6 0 a7 (0 : Int32)) fun v8 =>
    bd (uI h6 0 a7 (0 : Int32) (v8 + (1 : Int32))) fun h9 =>
    m_X3_readsTurn_270 f h9
theorem mo_X3_readsTurn_239 {f : Nat} : ∀ (h : CH) (x0 : Nat) (x1 : Int32) (r : CH), m_X3_readsTurn_239 f h x0 x1 = some r → le2 h r := by
  intro h x0 x1 r hm
  rw [m_X3_readsTurn_239] at hm
  obtain ⟨v1, ev1, hm⟩ := bdE hm
  by_cases c2 : ¬ v1 = 0
  · have hm := ifT hm c2
    exact (mo_X3_readsTurn_270  h _ hm)
  · have hm := ifF hm c2
    obtain ⟨a3, ea3, hm⟩ := bdE hm
    obtain ⟨a4, ea4, hm⟩ := bdE hm
    obtain ⟨v5, ev5, hm⟩ := bdE hm
    obtain ⟨h6, eh6, hm⟩ := bdE hm
    have lh6 := uI_le eh6
    obtain ⟨a7, ea7, hm⟩ := bdE hm
    obtain ⟨v8, ev8, hm⟩ := bdE hm
    obtain ⟨h9, eh9, hm⟩ := bdE hm
    have lh9 := uI_le eh9
    exact (lh6.tr (lh9.tr (mo_X3_readsTurn_270  h9 _ hm)))
def m_X3_readsTurn_228 (f : Nat) (k167 : CH → Nat → Int32 → Int32 → Int32 → Int32 → Option CH) (h : CH) (x0 : Nat) (x1 : Int32) (x2 : Int32) (x3 : Int32) (x4 : Int32) : Option CH := bd (tcv h x0 (fun z => m_X3_passes f z (1 : Int32))) fun h1 =>
    nmv ((x4 + 1) : Int32) fun v2 =>
    k167 h1 x0 x1 x2 x3 v2
theorem mo_X3_readsTurn_228 {f : Nat} {k167 : CH → Nat → Int32 → Int32 → Int32 → Int32 → Option CH} (hk167 : ∀ (h : CH) (x0 : Nat) (x1 : Int32) (x2 : Int32) (x3 : Int32) (x4 : Int32) (r : CH), k167 h x0 x1 x2 x3 x4 = some r → le2 h r) : ∀ (h : CH) (x0 : Nat) (x1 : Int32) (x2 : Int32) (x3 : Int32) (x4 : Int32) (r : CH), m_X3_readsTurn_228 f k167 h x0 x1 x2 x3 x4 = some r → le2 h r := by
  intro h x0 x1 x2 x3 x4 r hm
  rw [m_X3_readsTurn_228] at hm
  obtain ⟨h1, eh1, hm⟩ := bdE hm
  have lh1 := tcv_le eh1
  obtain ⟨v2, ev2, hm⟩ := nmE hm
  exact (lh1.tr (hk167 h1 x0 x1 x2 x3 v2 _ hm))
def m_X3_readsTurn_167 (f : Nat) : Nat → CH → Nat → Int32 → Int32 → Int32 → Int32 → Option CH
  | 0, _, _, _, _, _, _ => none
  | n167 + 1, h, x0, x1, x2, x3, x4 => if (4 : Int32) ≤ x4 then
    m_X3_readsTurn_239 f h x0 x1
    else bd (oI h 0 15 x0) fun v2 =>
    if ¬ v2 = 0 then
    m_X3_readsTurn_239 f h x0 x1
    else bd (oR h 0 0 x0) fun a4 =>
    bd2 (tcr h x0 (fun z => m_X3_sees f z (3 : Int32))) fun r6 h5 =>
    bd (uI h5 0 a4 (x2 + x4) r6) fun h7 =>
    bd (oR h7 0 0 x0) fun a8 =>
    bd (aI h7 0 a8 (x2 + x4)) fun v9 =>
    nmv ((x3 ||| v9) : Int32) fun v10 =>
    bd (oI h7 0 15 x0) fun v11 =>
    if ¬ v11 = 0 then
    m_X3_readsTurn_228 f (m_X3_readsTurn_167 f n167) h7 x0 x1 x2 v10 x4
    else if ¬ x4 = (3 : Int32) then
    m_X3_readsTurn_228 f (m_X3_readsTurn_167 f n167) h7 x0 x1 x2 v10 x4
    else if ¬ v10 = 0 then
    m_X3_readsTurn_228 f (m_X3_readsTurn_167 f n167) h7 x0 x1 x2 v10 x4
    else bd (tcv h7 x0 (fun z => m_X3_faults f z (2 : Int32))) fun h15 =>
    m_X3_readsTurn_228 f (m_X3_readsTurn_167 f n167) h15 x0 x1 x2 v10 x4
theorem mo_X3_readsTurn_167 {f : Nat} : ∀ (n167 : Nat) (h : CH) (x0 : Nat) (x1 : Int32) (x2 : Int32) (x3 : Int32) (x4 : Int32) (r : CH), m_X3_readsTurn_167 f n167 h x0 x1 x2 x3 x4 = some r → le2 h r := by
  intro n167
  induction n167 with
  | zero => intro h x0 x1 x2 x3 x4 r hm; rw [m_X3_readsTurn_167] at hm; exact noE hm
  | succ n167 ihm =>
    intro h x0 x1 x2 x3 x4 r hm
    rw [m_X3_readsTurn_167] at hm
    by_cases c1 : (4 : Int32) ≤ x4
    · have hm := ifT hm c1
      exact (mo_X3_readsTurn_239  h x0 x1 _ hm)
    · have hm := ifF hm c1
      obtain ⟨v2, ev2, hm⟩ := bdE hm
      by_cases c3 : ¬ v2 = 0
      · have hm := ifT hm c3
        exact (mo_X3_readsTurn_239  h x0 x1 _ hm)
      · have hm := ifF hm c3
        obtain ⟨a4, ea4, hm⟩ := bdE hm
        obtain ⟨r6, h5, er6, hm⟩ := bd2E hm
        have lh5 := tcr_le er6
        obtain ⟨h7, eh7, hm⟩ := bdE hm
        have lh7 := uI_le eh7
        obtain ⟨a8, ea8, hm⟩ := bdE hm
        obtain ⟨v9, ev9, hm⟩ := bdE hm
        obtain ⟨v10, ev10, hm⟩ := nmE hm
        obtain ⟨v11, ev11, hm⟩ := bdE hm
        by_cases c12 : ¬ v11 = 0
        · have hm := ifT hm c12
          exact (lh5.tr (lh7.tr (mo_X3_readsTurn_228 ihm h7 x0 x1 x2 v10 x4 _ hm)))
        · have hm := ifF hm c12
          by_cases c13 : ¬ x4 = (3 : Int32)
          · have hm := ifT hm c13
            exact (lh5.tr (lh7.tr (mo_X3_readsTurn_228 ihm h7 x0 x1 x2 v10 x4 _ hm)))
          · have hm := ifF hm c13
            by_cases c14 : ¬ v10 = 0
            · have hm := ifT hm c14
              exact (lh5.tr (lh7.tr (mo_X3_readsTurn_228 ihm h7 x0 x1 x2 v10 x4 _ hm)))
            · have hm := ifF hm c14
              obtain ⟨h15, eh15, hm⟩ := bdE hm
              have lh15 := tcv_le eh15
              exact (lh5.tr (lh7.tr (lh15.tr (mo_X3_readsTurn_228 ihm h15 x0 x1 x2 v10 x4 _ hm))))
def m_X3_readsTurn_159 (f : Nat) (h : CH) (x0 : Nat) (x1 : Int32) (y0 : Int32) (y1 : Int32) (y2 : Int32) : Option CH := nmv ((y0 + (y1 * y2)) : Int32) fun v1 =>
    m_X3_readsTurn_167 f f h x0 x1 v1 (0 : Int32) (0 : Int32)
theorem mo_X3_readsTurn_159 {f : Nat} : ∀ (h : CH) (x0 : Nat) (x1 : Int32) (y0 : Int32) (y1 : Int32) (y2 : Int32) (r : CH), m_X3_readsTurn_159 f h x0 x1 y0 y1 y2 = some r → le2 h r := by
  intro h x0 x1 y0 y1 y2 r hm
  rw [m_X3_readsTurn_159] at hm
  obtain ⟨v1, ev1, hm⟩ := nmE hm
  exact (mo_X3_readsTurn_167  f h x0 x1 v1 (0 : Int32) (0 : Int32) _ hm)
def m_X3_readsTurn_136 (f : Nat) (h : CH) (x0 : Nat) (x1 : Int32) (y0 : Nat) (y1 : Int32) : Option CH := bd (tcv h y0 (fun z => m_X3_passes f z y1)) fun h1 =>
    bd (oI h1 0 15 x0) fun v2 =>
    if v2 = 0 then
    bd (oR h1 0 0 x0) fun a4 =>
    bd (aI h1 0 a4 (0 : Int32)) fun v5 =>
    m_X3_readsTurn_159 f h1 x0 x1 (8 : Int32) (4 : Int32) v5
    else m_X3_readsTurn_159 f h1 x0 x1 (8 : Int32) (4 : Int32) (0 : Int32)
theorem mo_X3_readsTurn_136 {f : Nat} : ∀ (h : CH) (x0 : Nat) (x1 : Int32) (y0 : Nat) (y1 : Int32) (r : CH), m_X3_readsTurn_136 f h x0 x1 y0 y1 = some r → le2 h r := by
  intro h x0 x1 y0 y1 r hm
  rw [m_X3_readsTurn_136] at hm
  obtain ⟨h1, eh1, hm⟩ := bdE hm
  have lh1 := tcv_le eh1
  obtain ⟨v2, ev2, hm⟩ := bdE hm
  by_cases c3 : v2 = 0
  · have hm := ifT hm c3
    obtain ⟨a4, ea4, hm⟩ := bdE hm
    obtain ⟨v5, ev5, hm⟩ := bdE hm
    exact (lh1.tr (mo_X3_readsTurn_159  h1 x0 x1 (8 : Int32) (4 : Int32) v5 _ hm))
  · have hm := ifF hm c3
    exact (lh1.tr (mo_X3_readsTurn_159  h1 x0 x1 (8 : Int32) (4 : Int32) (0 : Int32) _ hm))
def m_X3_readsTurn_131 (f : Nat) (h : CH) (x0 : Nat) (x1 : Int32) (y0 : Nat) : Option CH := m_X3_readsTurn_136 f h x0 x1 y0 (1 : Int32)
theorem mo_X3_readsTurn_131 {f : Nat} : ∀ (h : CH) (x0 : Nat) (x1 : Int32) (y0 : Nat) (r : CH), m_X3_readsTurn_131 f h x0 x1 y0 = some r → le2 h r := by
  intro h x0 x1 y0 r hm
  rw [m_X3_readsTurn_131] at hm
  exact (mo_X3_readsTurn_136  h x0 x1 y0 (1 : Int32) _ hm)
def m_X3_readsTurn_128 (f : Nat) (h : CH) (x0 : Nat) (x1 : Int32) (y0 : Nat) (y1 : Int32) : Option CH := if y1 = 0 then
    m_X3_readsTurn_136 f h x0 x1 y0 (0 : Int32)
    else m_X3_readsTurn_131 f h x0 x1 y0
theorem mo_X3_readsTurn_128 {f : Nat} : ∀ (h : CH) (x0 : Nat) (x1 : Int32) (y0 : Nat) (y1 : Int32) (r : CH), m_X3_readsTurn_128 f h x0 x1 y0 y1 = some r → le2 h r := by
  intro h x0 x1 y0 y1 r hm
  rw [m_X3_readsTurn_128] at hm
  by_cases c1 : y1 = 0
  · have hm := ifT hm c1
    exact (mo_X3_readsTurn_136  h x0 x1 y0 (0 : Int32) _ hm)
  · have hm := ifF hm c1
    exact (mo_X3_readsTurn_131  h x0 x1 y0 _ hm)
def m_X3_readsTurn_111 (f : Nat) (h : CH) (x0 : Nat) (x1 : Int32) (y0 : Nat) (y1 : Int32) : Option CH := bd (tcv h y0 (fun z => m_X3_passes f z y1)) fun h1 =>
    bd (oI h1 0 15 x0) fun v2 =>
    if ¬ v2 = 0 then
    m_X3_readsTurn_131 f h1 x0 x1 x0
    else bd (sR h1 (20 + 9)) fun a4 =>
    gd (isC h1 x0 0) <|
    bd2 (m_X3_isWord f h1 x0 a4) fun r7 h6 =>
    m_X3_readsTurn_128 f h6 x0 x1 x0 r7
theorem mo_X3_readsTurn_111 {f : Nat} : ∀ (h : CH) (x0 : Nat) (x1 : Int32) (y0 : Nat) (y1 : Int32) (r : CH), m_X3_readsTurn_111 f h x0 x1 y0 y1 = some r → le2 h r := by
  intro h x0 x1 y0 y1 r hm
  rw [m_X3_readsTurn_111] at hm
  obtain ⟨h1, eh1, hm⟩ := bdE hm
  have lh1 := tcv_le eh1
  obtain ⟨v2, ev2, hm⟩ := bdE hm
  by_cases c3 : ¬ v2 = 0
  · have hm := ifT hm c3
    exact (lh1.tr (mo_X3_readsTurn_131  h1 x0 x1 x0 _ hm))
  · have hm := ifF hm c3
    obtain ⟨a4, ea4, hm⟩ := bdE hm
    obtain ⟨g5, hm⟩ := gdE hm
    obtain ⟨r7, h6, er7, hm⟩ := bd2E hm
    have lh6 := mo_X3_isWord er7
    exact (lh1.tr (lh6.tr (mo_X3_readsTurn_128  h6 x0 x1 x0 r7 _ hm)))
def m_X3_readsTurn_106 (f : Nat) (h : CH) (x0 : Nat) (x1 : Int32) (y0 : Nat) : Option CH := m_X3_readsTurn_111 f h x0 x1 y0 (1 : Int32)
theorem mo_X3_readsTurn_106 {f : Nat} : ∀ (h : CH) (x0 : Nat) (x1 : Int32) (y0 : Nat) (r : CH), m_X3_readsTurn_106 f h x0 x1 y0 = some r → le2 h r := by
  intro h x0 x1 y0 r hm
  rw [m_X3_readsTurn_106] at hm
  exact (mo_X3_readsTurn_111  h x0 x1 y0 (1 : Int32) _ hm)
def m_X3_readsTurn_90 (f : Nat) (h : CH) (x0 : Nat) (x1 : Int32) : Option CH := bd (oI h 0 15 x0) fun v1 =>
    if ¬ v1 = 0 then
    m_X3_readsTurn_106 f h x0 x1 x0
    else bd (oI h 0 13 x0) fun v3 =>
    if ¬ v3 = (1 : Int32) then
    m_X3_readsTurn_111 f h x0 x1 x0 (0 : Int32)
    else m_X3_readsTurn_106 f h x0 x1 x0
theorem mo_X3_readsTurn_90 {f : Nat} : ∀ (h : CH) (x0 : Nat) (x1 : Int32) (r : CH), m_X3_readsTurn_90 f h x0 x1 = some r → le2 h r := by
  intro h x0 x1 r hm
  rw [m_X3_readsTurn_90] at hm
  obtain ⟨v1, ev1, hm⟩ := bdE hm
  by_cases c2 : ¬ v1 = 0
  · have hm := ifT hm c2
    exact (mo_X3_readsTurn_106  h x0 x1 x0 _ hm)
  · have hm := ifF hm c2
    obtain ⟨v3, ev3, hm⟩ := bdE hm
    by_cases c4 : ¬ v3 = (1 : Int32)
    · have hm := ifT hm c4
      exact (mo_X3_readsTurn_111  h x0 x1 x0 (0 : Int32) _ hm)
    · have hm := ifF hm c4
      exact (mo_X3_readsTurn_106  h x0 x1 x0 _ hm)
def m_X3_readsTurn_85 (f : Nat) (h : CH) (x0 : Nat) (x1 : Int32) : Option CH := bd (tcv h x0 (fun z => m_X3_faults f z (2 : Int32))) fun h1 =>
    m_X3_readsTurn_90 f h1 x0 x1
theorem mo_X3_readsTurn_85 {f : Nat} : ∀ (h : CH) (x0 : Nat) (x1 : Int32) (r : CH), m_X3_readsTurn_85 f h x0 x1 = some r → le2 h r := by
  intro h x0 x1 r hm
  rw [m_X3_readsTurn_85] at hm
  obtain ⟨h1, eh1, hm⟩ := bdE hm
  have lh1 := tcv_le eh1
  exact (lh1.tr (mo_X3_readsTurn_90  h1 x0 x1 _ hm))
def m_X3_readsTurn_52 (f : Nat) (h : CH) (x0 : Nat) (y0 : Int32) : Option CH := bd (oI h 0 15 x0) fun v1 =>
    if ¬ v1 = 0 then
    m_X3_readsTurn_90 f h x0 y0
    else bd (oI h 0 13 x0) fun v3 =>
    if ¬ v3 = (1 : Int32) then
    m_X3_readsTurn_90 f h x0 y0
    else if y0 = (-1 : Int32) then
    m_X3_readsTurn_85 f h x0 y0
    else bd (oR h 0 0 x0) fun a6 =>
    bd (aI h 0 a6 ((3 : Int32) + y0)) fun v7 =>
    if v7 = (-1 : Int32) then
    m_X3_readsTurn_90 f h x0 y0
    else m_X3_readsTurn_85 f h x0 y0
theorem mo_X3_readsTurn_52 {f : Nat} : ∀ (h : CH) (x0 : Nat) (y0 : Int32) (r : CH), m_X3_readsTurn_52 f h x0 y0 = some r → le2 h r := by
  intro h x0 y0 r hm
  rw [m_X3_readsTurn_52] at hm
  obtain ⟨v1, ev1, hm⟩ := bdE hm
  by_cases c2 : ¬ v1 = 0
  · have hm := ifT hm c2
    exact (mo_X3_readsTurn_90  h x0 y0 _ hm)
  · have hm := ifF hm c2
    obtain ⟨v3, ev3, hm⟩ := bdE hm
    by_cases c4 : ¬ v3 = (1 : Int32)
    · have hm := ifT hm c4
      exact (mo_X3_readsTurn_90  h x0 y0 _ hm)
    · have hm := ifF hm c4
      by_cases c5 : y0 = (-1 : Int32)
      · have hm := ifT hm c5
        exact (mo_X3_readsTurn_85  h x0 y0 _ hm)
      · have hm := ifF hm c5
        obtain ⟨a6, ea6, hm⟩ := bdE hm
        obtain ⟨v7, ev7, hm⟩ := bdE hm
        by_cases c8 : v7 = (-1 : Int32)
        · have hm := ifT hm c8
          exact (mo_X3_readsTurn_90  h x0 y0 _ hm)
        · have hm := ifF hm c8
          exact (mo_X3_readsTurn_85  h x0 y0 _ hm)
def m_X3_readsTurn_44 (f : Nat) (h : CH) (x0 : Nat) : Option CH := m_X3_readsTurn_52 f h x0 (-1 : Int32)
theorem mo_X3_readsTurn_44 {f : Nat} : ∀ (h : CH) (x0 : Nat) (r : CH), m_X3_readsTurn_44 f h x0 = some r → le2 h r := by
  intro h x0 r hm
  rw [m_X3_readsTurn_44] at hm
  exact (mo_X3_readsTurn_52  h x0 (-1 : Int32) _ hm)
def m_X3_readsTurn_26 (f : Nat) (h : CH) (x0 : Nat) (y0 : Nat) (y1 : Int32) : Option CH := bd (tcv h y0 (fun z => m_X3_passes f z y1)) fun h1 =>
    bd (oI h1 0 15 x0) fun v2 =>
    if ¬ v2 = 0 then
    m_X3_readsTurn_44 f h1 x0
    else bd (oI h1 0 13 x0) fun v4 =>
    if v4 = (1 : Int32) then
    bd2 (tcr h1 x0 (fun z => m_X3_named f z)) fun r7 h6 =>
    m_X3_readsTurn_52 f h6 x0 r7
    else m_X3_readsTurn_44 f h1 x0
theorem mo_X3_readsTurn_26 {f : Nat} : ∀ (h : CH) (x0 : Nat) (y0 : Nat) (y1 : Int32) (r : CH), m_X3_readsTurn_26 f h x0 y0 y1 = some r → le2 h r := by
  intro h x0 y0 y1 r hm
  rw [m_X3_readsTurn_26] at hm
  obtain ⟨h1, eh1, hm⟩ := bdE hm
  have lh1 := tcv_le eh1
  obtain ⟨v2, ev2, hm⟩ := bdE hm
  by_cases c3 : ¬ v2 = 0
  · have hm := ifT hm c3
    exact (lh1.tr (mo_X3_readsTurn_44  h1 x0 _ hm))
  · have hm := ifF hm c3
    obtain ⟨v4, ev4, hm⟩ := bdE hm
    by_cases c5 : v4 = (1 : Int32)
    · have hm := ifT hm c5
      obtain ⟨r7, h6, er7, hm⟩ := bd2E hm
      have lh6 := tcr_le er7
      exact (lh1.tr (lh6.tr (mo_X3_readsTurn_52  h6 x0 r7 _ hm)))
    · have hm := ifF hm c5
      exact (lh1.tr (mo_X3_readsTurn_44  h1 x0 _ hm))
def m_X3_readsTurn_21 (f : Nat) (h : CH) (x0 : Nat) (y0 : Nat) : Option CH := m_X3_readsTurn_26 f h x0 y0 (1 : Int32)
theorem mo_X3_readsTurn_21 {f : Nat} : ∀ (h : CH) (x0 : Nat) (y0 : Nat) (r : CH), m_X3_readsTurn_21 f h x0 y0 = some r → le2 h r := by
  intro h x0 y0 r hm
  rw [m_X3_readsTurn_21] at hm
  exact (mo_X3_readsTurn_26  h x0 y0 (1 : Int32) _ hm)
def m_X3_readsTurn_18 (f : Nat) (h : CH) (x0 : Nat) (y0 : Nat) (y1 : Int32) : Option CH := if y1 = 0 then
    m_X3_readsTurn_26 f h x0 y0 (0 : Int32)
    else m_X3_readsTurn_21 f h x0 y0
theorem mo_X3_readsTurn_18 {f : Nat} : ∀ (h : CH) (x0 : Nat) (y0 : Nat) (y1 : Int32) (r : CH), m_X3_readsTurn_18 f h x0 y0 y1 = some r → le2 h r := by
  intro h x0 y0 y1 r hm
  rw [m_X3_readsTurn_18] at hm
  by_cases c1 : y1 = 0
  · have hm := ifT hm c1
    exact (mo_X3_readsTurn_26  h x0 y0 (0 : Int32) _ hm)
  · have hm := ifF hm c1
    exact (mo_X3_readsTurn_21  h x0 y0 _ hm)
def m_X3_readsTurn_4 (f : Nat) (h : CH) (x0 : Nat) : Option CH := bd (oI h 0 15 x0) fun v1 =>
    if ¬ v1 = 0 then
    m_X3_readsTurn_21 f h x0 x0
    else bd (sR h (20 + 8)) fun a3 =>
    gd (isC h x0 0) <|
    bd2 (m_X3_isWord f h x0 a3) fun r6 h5 =>
    m_X3_readsTurn_18 f h5 x0 x0 r6
theorem mo_X3_readsTurn_4 {f : Nat} : ∀ (h : CH) (x0 : Nat) (r : CH), m_X3_readsTurn_4 f h x0 = some r → le2 h r := by
  intro h x0 r hm
  rw [m_X3_readsTurn_4] at hm
  obtain ⟨v1, ev1, hm⟩ := bdE hm
  by_cases c2 : ¬ v1 = 0
  · have hm := ifT hm c2
    exact (mo_X3_readsTurn_21  h x0 x0 _ hm)
  · have hm := ifF hm c2
    obtain ⟨a3, ea3, hm⟩ := bdE hm
    obtain ⟨g4, hm⟩ := gdE hm
    obtain ⟨r6, h5, er6, hm⟩ := bd2E hm
    have lh5 := mo_X3_isWord er6
    exact (lh5.tr (mo_X3_readsTurn_18  h5 x0 x0 r6 _ hm))
def m_X3_readsTurn (f : Nat) (u : CH) (x0 : Nat) : Option CH := gd (isC u x0 0) <|
    bd (m_X3_readsName f u x0) fun h2 =>
    m_X3_readsTurn_4 f h2 x0
theorem mo_X3_readsTurn {f : Nat} {u : CH} {x0 : Nat} {u9 : CH} (hm : m_X3_readsTurn f u x0 = some u9) : le2 u u9 := by
  rw [m_X3_readsTurn] at hm
  obtain ⟨g1, hm⟩ := gdE hm
  obtain ⟨h2, eh2, hm⟩ := bdE hm
  have lh2 := mo_X3_readsName eh2
  exact (lh2.tr (mo_X3_readsTurn_4  h2 x0 _ hm))
abbrev rm_X3_readsTurn (mc ms : Nat) : Room := { frames := 7, cells := mc, slots := ms, locals := 148 }
theorem cw_X3_readsTurn {R : Room} {s : State} {args : Array Value} {own : String} {idx mc ms : Nat} (hts : ∀ w ∈ lw_all, w.before args s = true) (hl : Cond.methodLink own idx yX3_readsTurn ∈ lw_all) (hR : 7 + 1 ≤ R.frames ∧ 8 + (5 + 11) + 148 ≤ R.locals) : CallW R s args own RX3 idx yX3_readsTurn cX3_readsTurn 5 (Option.none : Option Jvm.ClassFile.FieldType) (ws_ yX3_readsTurn cX3_readsTurn 5 (Option.none : Option Jvm.ClassFile.FieldType)) (rm_X3_readsTurn mc ms) mc ms 0 := cwV 0 hts (lw_V hl q1778 qs66 q125 q1779) rfl rfl rfl (by decide +kernel) hR
set_option maxHeartbeats 4000000 in
set_option maxRecDepth 100000 in
theorem w_X3_readsTurn (l : Launch) {D : va_G} {dA : Nat → ClassId} {A : Nat → Prop} {f : Nat} {u u9 : CH} {x0 : Nat} (hm : m_X3_readsTurn f u x0 = some u9) : Met l yX3_readsTurn (ws_ yX3_readsTurn cX3_readsTurn 5 (Option.none : Option Jvm.ClassFile.FieldType)) (rm_X3_readsTurn (u9.1 - u.1) (u9.2.1 - u.2.1)) (va_Pc [.ref x0] (CPre D dA A u)) (va_Qv (fun u => u = u9) (CPost D dA A) A) (u9.1 - u.1) (u9.2.1 - u.2.1) A := by
  refine Met.ofW (cc := cX3_readsTurn) (maxL := 5) (ret := (Option.none : Option Jvm.ClassFile.FieldType)) (by decide) rfl ?_
  intro p e s m args below meth c s₁ B hml hv
  have hx := B.exec
  have hb := B.bytes
  have hr := B.returns
  have hts := atoms_spec (ws := (ws_ yX3_readsTurn cX3_readsTurn 5 (Option.none : Option Jvm.ClassFile.FieldType))) B.pre
  have hts : ∀ w ∈ lw_all, w.before args s = true := fun w h => hts w (List.mem_cons_of_mem _ h)
  have hown : s.vm.findClass RX3 = some m.cls := findClass_of_methodNamed B.named
  have hlocks := B.notSynchronized
  obtain ⟨hav, hv⟩ := hv
  have C : CX p s m args c cX3_readsTurn RX3 D dA := ⟨hx, hb, hown, hts, hv.2⟩
  have hw : CW D dA A s u s.heap [] := hv.1
  have hs0 : s.heap.size = u.1 := hv.1.1
  generalize hQ : MQ below (va_Qv (fun u => u = u9) (CPost D dA A) A) args s (u9.1 - u.1) (u9.2.1 - u.2.1) A = QQ
  have hent := lg_entry_eq m [.ref x0] 5
  rw [← hav] at hent
  rw [hent]
  have hl := lv_entry ([.ref x0]) (n := 5) (Nat.le_of_ble_eq_true rfl)
  generalize (lg_sl ([.ref x0]) ++ List.replicate (5 - (lg_sl ([.ref x0])).length) Slot.unset).toArray = ls at hl ⊢
  have hl : lv_has ls 5 [(0, .ref x0)] := hl
  obtain ⟨cc, ecc⟩ : ∃ z : Nat, z = 0 := ⟨0, rfl⟩
  obtain ⟨ss, ess⟩ : ∃ z : Nat, z = 0 := ⟨0, rfl⟩
  have hcc : cc + u.1 = u.1 := by omega
  have hss : ss + u.2.1 = u.2.1 := by omega
  suffices hgo : W p l e (rm_X3_readsTurn (u9.1 - u.1) (u9.2.1 - u.2.1)) s m args below meth c s.heap [] cc ss QQ (F0 m 0 ls []) by rw [ecc, ess] at hgo; exact hgo
  have ⟨pu, qu, _, _⟩ := mo_X3_readsTurn hm
  have hB270 : ∀ (h : CH) (cc ss : Nat) (H : Heap) (locs : List Loc) (ls : Array Slot), m_X3_readsTurn_270 f h = some u9 → CW D dA A s h H locs → cc + u.1 = h.1 → ss + u.2.1 = h.2.1 → lv_has ls 5 [] → W p l e (rm_X3_readsTurn (u9.1 - u.1) (u9.2.1 - u.2.1)) s m args below meth c H locs cc ss QQ (F0 m 270 ls []) := by
    intro h cc ss H locs ls hm hw hcc hss hl
    have hmo := mo_X3_readsTurn_270  h _ hm
    have sb_ : h.1 ≤ u9.1 := hmo.1
    have tb_ : h.2.1 ≤ u9.2.1 := hmo.2.1
    rw [m_X3_readsTurn_270] at hm
    have eh := ret1 hm
    have ec : cc = u9.1 - u.1 := by rw [← eh]; omega
    have es : ss = u9.2.1 - u.2.1 := by rw [← eh]; omega
    rw [ec, es, ← hQ]
    exact W.vret hx hb hr (fun t ht hW => ⟨⟨h, rfl, eh, ⟨by rw [ht]; exact hw.1, by rw [ht]; exact hw.2.1⟩⟩, hw.2.2.1.F ht⟩) hw.2.2.1.2.2 dX3_readsTurn_270
  have hB239 : ∀ (h : CH) (x0 : Nat) (x1 : Int32) (cc ss : Nat) (H : Heap) (locs : List Loc) (ls : Array Slot), m_X3_readsTurn_239 f h x0 x1 = some u9 → CW D dA A s h H locs → cc + u.1 = h.1 → ss + u.2.1 = h.2.1 → lv_has ls 5 [(0, .ref x0), (1, .int x1)] → W p l e (rm_X3_readsTurn (u9.1 - u.1) (u9.2.1 - u.2.1)) s m args below meth c H locs cc ss QQ (F0 m 239 ls []) := by
    intro h x0 x1 cc ss H locs ls hm hw hcc hss hl
    have hmo := mo_X3_readsTurn_239  h x0 x1 _ hm
    have sb_ : h.1 ≤ u9.1 := hmo.1
    have tb_ : h.2.1 ≤ u9.2.1 := hmo.2.1
    rw [m_X3_readsTurn_239] at hm
    refine lv_aload_n hx hb dX3_readsTurn_239 rfl (lv_at hl 0 rfl) ?_
    obtain ⟨v1, ev1, hm⟩ := bdE hm
    refine cg_get C hw (oI_E ev1) rfl in_X3 (by decide) q1581 dX3_readsTurn_240 ?_
    refine lv_if_ne (tgt := 270) hx hb dX3_readsTurn_243 (by decide) (fun c2 => ?_) (fun c2 => ?_)
    · have hm := ifT hm c2
      exact hB270 h _ _ _ _ _ hm hw (by omega) (by omega) (lv_sub hl [] rfl)
    · have hm := ifT' hm c2
      refine lv_aload_n hx hb dX3_readsTurn_246 rfl (lv_at hl 0 rfl) ?_
      obtain ⟨a3, ea3, hm⟩ := bdE hm
      refine cg_get C hw (oR_E ea3) rfl in_X3 (by decide) q1566 dX3_readsTurn_247 ?_
      refine lv_iconst (v := 3) hx hb dX3_readsTurn_250 (by decide) ?_
      refine lv_aload_n hx hb dX3_readsTurn_251 rfl (lv_at hl 0 rfl) ?_
      obtain ⟨a4, ea4, hm⟩ := bdE hm
      refine cg_get C hw (oR_E ea4) rfl in_X3 (by decide) q1566 dX3_readsTurn_252 ?_
      refine lv_iconst (v := 0) hx hb dX3_readsTurn_255 (by decide) ?_
      obtain ⟨v5, ev5, hm⟩ := bdE hm
      refine cg_iald C hw ev5 dX3_readsTurn_256 ?_
      refine lv_iadd hx hb dX3_readsTurn_257 ?_
      refine lv_iload_n hx hb dX3_readsTurn_258 rfl (lv_at hl 1 rfl) ?_
      obtain ⟨h6, eh6, hm⟩ := bdE hm
      refine cg_iast C hw eh6 dX3_readsTurn_259 (fun H locs hw => ?_)
      have zh6 := uI_sz eh6
      refine lv_aload_n hx hb dX3_readsTurn_260 rfl (lv_at hl 0 rfl) ?_
      obtain ⟨a7, ea7, hm⟩ := bdE hm
      refine cg_get C hw (oR_E ea7) rfl in_X3 (by decide) q1566 dX3_readsTurn_261 ?_
      refine lv_iconst (v := 0) hx hb dX3_readsTurn_264 (by decide) ?_
      refine lv_dup2_11 hx hb dX3_readsTurn_265 rfl rfl ?_
      obtain ⟨v8, ev8, hm⟩ := bdE hm
      refine cg_iald C hw ev8 dX3_readsTurn_266 ?_
      refine lv_iconst (v := 1) hx hb dX3_readsTurn_267 (by decide) ?_
      refine lv_iadd hx hb dX3_readsTurn_268 ?_
      obtain ⟨h9, eh9, hm⟩ := bdE hm
      refine cg_iast C hw eh9 dX3_readsTurn_269 (fun H locs hw => ?_)
      have zh9 := uI_sz eh9
      exact hB270 h9 _ _ _ _ _ hm hw (by omega) (by omega) (lv_sub hl [] rfl)
  have hB167 : ∀ (n167 : Nat), ∀ (h : CH) (x0 : Nat) (x1 : Int32) (x2 : Int32) (x3 : Int32) (x4 : Int32) (cc ss : Nat) (H : Heap) (locs : List Loc) (ls : Array Slot), m_X3_readsTurn_167 f n167 h x0 x1 x2 x3 x4 = some u9 → CW D dA A s h H locs → cc + u.1 = h.1 → ss + u.2.1 = h.2.1 → lv_has ls 5 [(0, .ref x0), (1, .int x1), (2, .int x2), (3, .int x3), (4, .int x4)] → W p l e (rm_X3_readsTurn (u9.1 - u.1) (u9.2.1 - u.2.1)) s m args below meth c H locs cc ss QQ (F0 m 167 ls []) := by
    intro n167
    induction n167 with
    | zero => intro h x0 x1 x2 x3 x4 cc ss H locs ls hm hw hcc hss hl; rw [m_X3_readsTurn_167] at hm; exact noE hm
    | succ n167 ih167 =>
      have hB228 : ∀ (h : CH) (x0 : Nat) (x1 : Int32) (x2 : Int32) (x3 : Int32) (x4 : Int32) (cc ss : Nat) (H : Heap) (locs : List Loc) (ls : Array Slot), m_X3_readsTurn_228 f (m_X3_readsTurn_167 f n167) h x0 x1 x2 x3 x4 = some u9 → CW D dA A s h H locs → cc + u.1 = h.1 → ss + u.2.1 = h.2.1 → lv_has ls 5 [(0, .ref x0), (1, .int x1), (2, .int x2), (3, .int x3), (4, .int x4)] → W p l e (rm_X3_readsTurn (u9.1 - u.1) (u9.2.1 - u.2.1)) s m args below meth c H locs cc ss QQ (F0 m 228 ls []) := by
        intro h x0 x1 x2 x3 x4 cc ss H locs ls hm hw hcc hss hl
        have hmo := mo_X3_readsTurn_228 (mo_X3_readsTurn_167 n167) h x0 x1 x2 x3 x4 _ hm
        have sb_ : h.1 ≤ u9.1 := hmo.1
        have tb_ : h.2.1 ≤ u9.2.1 := hmo.2.1
        rw [m_X3_readsTurn_228] at hm
        refine lv_aload_n hx hb dX3_readsTurn_228 rfl (lv_at hl 0 rfl) ?_
        refine lv_iconst (v := 1) hx hb dX3_readsTurn_229 (by decide) ?_
        obtain ⟨h1, eh1, hm⟩ := bdE hm
        refine cg_tcv C hw eh1 (show cc + s.heap.size = h.1 by rw [hs0]; omega) (fun _ hk hm9 => va_runV (As := [.int (1 : Int32)]) (rest := []) ⟨hx, hb, hml, hown, hts⟩ (w_X3_passes l hm9) (cw_X3_passes hts q1745 ⟨Nat.le_of_ble_eq_true rfl, Nat.le_of_ble_eq_true rfl⟩) (tb_pre C hw hk _) rfl rfl hl.1 rfl (lv_room (Nat.le_of_ble_eq_true rfl)) dX3_readsTurn_230 ⟨show cc + 0 ≤ u9.1 - u.1 by omega, show ss + 0 ≤ u9.2.1 - u.2.1 by omega⟩) (fun H locs hw => ?_)
        have zh1 := tcv_sz eh1
        obtain ⟨v2, ev2, hm⟩ := nmE hm
        refine lv_iinc (v := v2) (lv' := [(4, .int v2), (0, .ref x0), (1, .int x1), (2, .int x2), (3, .int x3)]) hx hb dX3_readsTurn_233 hl (k := 4) rfl (by rw [ev2]; rfl) (by decide) rfl (fun ls hl => ?_)
        refine lv_goto (tgt := 167) hx hb dX3_readsTurn_236 (by decide) ?_
        exact ih167 h1 x0 x1 x2 x3 v2 _ _ _ _ _ hm hw (by omega) (by omega) (lv_sub hl [1, 2, 3, 4, 0] rfl)
      intro h x0 x1 x2 x3 x4 cc ss H locs ls hm hw hcc hss hl
      have hmo := mo_X3_readsTurn_167  (n167 + 1) h x0 x1 x2 x3 x4 _ hm
      have sb_ : h.1 ≤ u9.1 := hmo.1
      have tb_ : h.2.1 ≤ u9.2.1 := hmo.2.1
      rw [m_X3_readsTurn_167] at hm
      refine lv_iload hx hb dX3_readsTurn_167 (lv_at hl 4 rfl) ?_
      refine lv_iconst (v := 4) hx hb dX3_readsTurn_169 (by decide) ?_
      refine lv_icmp_ge (tgt := 239) hx hb dX3_readsTurn_170 (by decide) (fun c1 => ?_) (fun c1 => ?_)
      · have hm := ifT hm c1
        exact hB239 h x0 x1 _ _ _ _ _ hm hw (by omega) (by omega) (lv_sub hl [0, 1] rfl)
      · have hm := ifF hm c1
        refine lv_aload_n hx hb dX3_readsTurn_173 rfl (lv_at hl 0 rfl) ?_
        obtain ⟨v2, ev2, hm⟩ := bdE hm
        refine cg_get C hw (oI_E ev2) rfl in_X3 (by decide) q1581 dX3_readsTurn_174 ?_
        refine lv_if_ne (tgt := 239) hx hb dX3_readsTurn_177 (by decide) (fun c3 => ?_) (fun c3 => ?_)
        · have hm := ifT hm c3
          exact hB239 h x0 x1 _ _ _ _ _ hm hw (by omega) (by omega) (lv_sub hl [0, 1] rfl)
        · have hm := ifT' hm c3
          refine lv_aload_n hx hb dX3_readsTurn_180 rfl (lv_at hl 0 rfl) ?_
          obtain ⟨a4, ea4, hm⟩ := bdE hm
          refine cg_get C hw (oR_E ea4) rfl in_X3 (by decide) q1566 dX3_readsTurn_181 ?_
          refine lv_iload_n hx hb dX3_readsTurn_184 rfl (lv_at hl 2 rfl) ?_
          refine lv_iload hx hb dX3_readsTurn_185 (lv_at hl 4 rfl) ?_
          refine lv_iadd hx hb dX3_readsTurn_187 ?_
          refine lv_aload_n hx hb dX3_readsTurn_188 rfl (lv_at hl 0 rfl) ?_
          refine lv_iconst (v := 3) hx hb dX3_readsTurn_189 (by decide) ?_
          obtain ⟨r6, h5, er6, hm⟩ := bd2E hm
          refine cg_tci C hw er6 (show cc + s.heap.size = h.1 by rw [hs0]; omega) (fun _ hk hm9 => va_runV (As := [.int (3 : Int32)]) (rest := [.int (x2 + x4), .ref a4]) ⟨hx, hb, hml, hown, hts⟩ (w_X3_sees l hm9) (cw_X3_sees hts q1760 ⟨Nat.le_of_ble_eq_true rfl, Nat.le_of_ble_eq_true rfl⟩) (tb_pre C hw hk _) rfl rfl hl.1 rfl (lv_room (Nat.le_of_ble_eq_true rfl)) dX3_readsTurn_190 ⟨show cc + 0 ≤ u9.1 - u.1 by omega, show ss + 0 ≤ u9.2.1 - u.2.1 by omega⟩) (fun H locs hw => ?_)
          have zh5 := tcr_sz er6
          obtain ⟨h7, eh7, hm⟩ := bdE hm
          refine cg_iast C hw eh7 dX3_readsTurn_193 (fun H locs hw => ?_)
          have zh7 := uI_sz eh7
          refine lv_iload_n hx hb dX3_readsTurn_194 rfl (lv_at hl 3 rfl) ?_
          refine lv_aload_n hx hb dX3_readsTurn_195 rfl (lv_at hl 0 rfl) ?_
          obtain ⟨a8, ea8, hm⟩ := bdE hm
          refine cg_get C hw (oR_E ea8) rfl in_X3 (by decide) q1566 dX3_readsTurn_196 ?_
          refine lv_iload_n hx hb dX3_readsTurn_199 rfl (lv_at hl 2 rfl) ?_
          refine lv_iload hx hb dX3_readsTurn_200 (lv_at hl 4 rfl) ?_
          refine lv_iadd hx hb dX3_readsTurn_202 ?_
          obtain ⟨v9, ev9, hm⟩ := bdE hm
          refine cg_iald C hw ev9 dX3_readsTurn_203 ?_
          refine lv_ior hx hb dX3_readsTurn_204 ?_
          refine lv_topi (fun v10 ev10 => ?_)
          have hm := nmK hm ev10
          refine lv_istore_n (lv' := [(3, .int v10), (0, .ref x0), (1, .int x1), (2, .int x2), (4, .int x4)]) hx hb dX3_readsTurn_205 rfl hl (by decide) rfl (fun ls hl => ?_)
          refine lv_aload_n hx hb dX3_readsTurn_206 rfl (lv_at hl 1 rfl) ?_
          obtain ⟨v11, ev11, hm⟩ := bdE hm
          refine cg_get C hw (oI_E ev11) rfl in_X3 (by decide) q1581 dX3_readsTurn_207 ?_
          refine lv_if_ne (tgt := 228) hx hb dX3_readsTurn_210 (by decide) (fun c12 => ?_) (fun c12 => ?_)
          · have hm := ifT hm c12
            exact hB228 h7 x0 x1 x2 v10 x4 _ _ _ _ _ hm hw (by omega) (by omega) (lv_sub hl [1, 2, 3, 0, 4] rfl)
          · have hm := ifT' hm c12
            refine lv_iload hx hb dX3_readsTurn_213 (lv_at hl 4 rfl) ?_
            refine lv_iconst (v := 3) hx hb dX3_readsTurn_215 (by decide) ?_
            refine lv_icmp_ne (tgt := 228) hx hb dX3_readsTurn_216 (by decide) (fun c13 => ?_) (fun c13 => ?_)
            · have hm := ifT hm c13
              exact hB228 h7 x0 x1 x2 v10 x4 _ _ _ _ _ hm hw (by omega) (by omega) (lv_sub hl [1, 2, 3, 0, 4] rfl)
            · have hm := ifT' hm c13
              refine lv_iload_n hx hb dX3_readsTurn_219 rfl (lv_at hl 0 rfl) ?_
              refine lv_if_ne (tgt := 228) hx hb dX3_readsTurn_220 (by decide) (fun c14 => ?_) (fun c14 => ?_)
              · have hm := ifT hm c14
                exact hB228 h7 x0 x1 x2 v10 x4 _ _ _ _ _ hm hw (by omega) (by omega) (lv_sub hl [1, 2, 3, 0, 4] rfl)
              · have hm := ifT' hm c14
                refine lv_aload_n hx hb dX3_readsTurn_223 rfl (lv_at hl 1 rfl) ?_
                refine lv_iconst (v := 2) hx hb dX3_readsTurn_224 (by decide) ?_
                obtain ⟨h15, eh15, hm⟩ := bdE hm
                refine cg_tcv C hw eh15 (show cc + s.heap.size = h7.1 by rw [hs0]; omega) (fun _ hk hm9 => va_runV (As := [.int (2 : Int32)]) (rest := []) ⟨hx, hb, hml, hown, hts⟩ (w_X3_faults l hm9) (cw_X3_faults hts q1741 ⟨Nat.le_of_ble_eq_true rfl, Nat.le_of_ble_eq_true rfl⟩) (tb_pre C hw hk _) rfl rfl hl.1 rfl (lv_room (Nat.le_of_ble_eq_true rfl)) dX3_readsTurn_225 ⟨show cc + 0 ≤ u9.1 - u.1 by omega, show ss + 0 ≤ u9.2.1 - u.2.1 by omega⟩) (fun H locs hw => ?_)
                have zh15 := tcv_sz eh15
                exact hB228 h15 x0 x1 x2 v10 x4 _ _ _ _ _ hm hw (by omega) (by omega) (lv_sub hl [1, 2, 3, 0, 4] rfl)
  have hB159 : ∀ (h : CH) (x0 : Nat) (x1 : Int32) (y0 : Int32) (y1 : Int32) (y2 : Int32) (cc ss : Nat) (H : Heap) (locs : List Loc) (ls : Array Slot), m_X3_readsTurn_159 f h x0 x1 y0 y1 y2 = some u9 → CW D dA A s h H locs → cc + u.1 = h.1 → ss + u.2.1 = h.2.1 → lv_has ls 5 [(0, .ref x0), (1, .int x1)] → W p l e (rm_X3_readsTurn (u9.1 - u.1) (u9.2.1 - u.2.1)) s m args below meth c H locs cc ss QQ (F0 m 159 ls [.int y2, .int y1, .int y0]) := by
    intro h x0 x1 y0 y1 y2 cc ss H locs ls hm hw hcc hss hl
    have hmo := mo_X3_readsTurn_159  h x0 x1 y0 y1 y2 _ hm
    have sb_ : h.1 ≤ u9.1 := hmo.1
    have tb_ : h.2.1 ≤ u9.2.1 := hmo.2.1
    rw [m_X3_readsTurn_159] at hm
    refine lv_imul hx hb dX3_readsTurn_159 ?_
    refine lv_iadd hx hb dX3_readsTurn_160 ?_
    refine lv_topi (fun v1 ev1 => ?_)
    have hm := nmK hm ev1
    refine lv_istore_n (lv' := [(2, .int v1), (0, .ref x0), (1, .int x1)]) hx hb dX3_readsTurn_161 rfl hl (by decide) rfl (fun ls hl => ?_)
    refine lv_iconst (v := 0) hx hb dX3_readsTurn_162 (by decide) ?_
    refine lv_istore_n (lv' := [(3, .int (0 : Int32)), (2, .int v1), (0, .ref x0), (1, .int x1)]) hx hb dX3_readsTurn_163 rfl hl (by decide) rfl (fun ls hl => ?_)
    refine lv_iconst (v := 0) hx hb dX3_readsTurn_164 (by decide) ?_
    refine lv_istore (lv' := [(4, .int (0 : Int32)), (3, .int (0 : Int32)), (2, .int v1), (0, .ref x0), (1, .int x1)]) hx hb dX3_readsTurn_165 hl (by decide) rfl (fun ls hl => ?_)
    exact hB167 f h x0 x1 v1 (0 : Int32) (0 : Int32) _ _ _ _ _ hm hw (by omega) (by omega) (lv_sub hl [3, 4, 2, 1, 0] rfl)
  have hB136 : ∀ (h : CH) (x0 : Nat) (x1 : Int32) (y0 : Nat) (y1 : Int32) (cc ss : Nat) (H : Heap) (locs : List Loc) (ls : Array Slot), m_X3_readsTurn_136 f h x0 x1 y0 y1 = some u9 → CW D dA A s h H locs → cc + u.1 = h.1 → ss + u.2.1 = h.2.1 → lv_has ls 5 [(0, .ref x0), (1, .int x1)] → W p l e (rm_X3_readsTurn (u9.1 - u.1) (u9.2.1 - u.2.1)) s m args below meth c H locs cc ss QQ (F0 m 136 ls [.int y1, .ref y0]) := by
    intro h x0 x1 y0 y1 cc ss H locs ls hm hw hcc hss hl
    have hmo := mo_X3_readsTurn_136  h x0 x1 y0 y1 _ hm
    have sb_ : h.1 ≤ u9.1 := hmo.1
    have tb_ : h.2.1 ≤ u9.2.1 := hmo.2.1
    rw [m_X3_readsTurn_136] at hm
    obtain ⟨h1, eh1, hm⟩ := bdE hm
    refine cg_tcv C hw eh1 (show cc + s.heap.size = h.1 by rw [hs0]; omega) (fun _ hk hm9 => va_runV (As := [.int y1]) (rest := []) ⟨hx, hb, hml, hown, hts⟩ (w_X3_passes l hm9) (cw_X3_passes hts q1745 ⟨Nat.le_of_ble_eq_true rfl, Nat.le_of_ble_eq_true rfl⟩) (tb_pre C hw hk _) rfl rfl hl.1 rfl (lv_room (Nat.le_of_ble_eq_true rfl)) dX3_readsTurn_136 ⟨show cc + 0 ≤ u9.1 - u.1 by omega, show ss + 0 ≤ u9.2.1 - u.2.1 by omega⟩) (fun H locs hw => ?_)
    have zh1 := tcv_sz eh1
    refine lv_bipush (v := 8) hx hb dX3_readsTurn_139 (by decide) ?_
    refine lv_iconst (v := 4) hx hb dX3_readsTurn_141 (by decide) ?_
    refine lv_aload_n hx hb dX3_readsTurn_142 rfl (lv_at hl 0 rfl) ?_
    obtain ⟨v2, ev2, hm⟩ := bdE hm
    refine cg_get C hw (oI_E ev2) rfl in_X3 (by decide) q1581 dX3_readsTurn_143 ?_
    refine lv_if_eq (tgt := 153) hx hb dX3_readsTurn_146 (by decide) (fun c3 => ?_) (fun c3 => ?_)
    · have hm := ifT hm c3
      refine lv_aload_n hx hb dX3_readsTurn_153 rfl (lv_at hl 0 rfl) ?_
      obtain ⟨a4, ea4, hm⟩ := bdE hm
      refine cg_get C hw (oR_E ea4) rfl in_X3 (by decide) q1566 dX3_readsTurn_154 ?_
      refine lv_iconst (v := 0) hx hb dX3_readsTurn_157 (by decide) ?_
      obtain ⟨v5, ev5, hm⟩ := bdE hm
      refine cg_iald C hw ev5 dX3_readsTurn_158 ?_
      exact hB159 h1 x0 x1 (8 : Int32) (4 : Int32) v5 _ _ _ _ _ hm hw (by omega) (by omega) (lv_sub hl [0, 1] rfl)
    · have hm := ifF hm c3
      refine lv_iconst (v := 0) hx hb dX3_readsTurn_149 (by decide) ?_
      refine lv_goto (tgt := 159) hx hb dX3_readsTurn_150 (by decide) ?_
      exact hB159 h1 x0 x1 (8 : Int32) (4 : Int32) (0 : Int32) _ _ _ _ _ hm hw (by omega) (by omega) (lv_sub hl [0, 1] rfl)
  have hB131 : ∀ (h : CH) (x0 : Nat) (x1 : Int32) (y0 : Nat) (cc ss : Nat) (H : Heap) (locs : List Loc) (ls : Array Slot), m_X3_readsTurn_131 f h x0 x1 y0 = some u9 → CW D dA A s h H locs → cc + u.1 = h.1 → ss + u.2.1 = h.2.1 → lv_has ls 5 [(0, .ref x0), (1, .int x1)] → W p l e (rm_X3_readsTurn (u9.1 - u.1) (u9.2.1 - u.2.1)) s m args below meth c H locs cc ss QQ (F0 m 131 ls [.ref y0]) := by
    intro h x0 x1 y0 cc ss H locs ls hm hw hcc hss hl
    have hmo := mo_X3_readsTurn_131  h x0 x1 y0 _ hm
    have sb_ : h.1 ≤ u9.1 := hmo.1
    have tb_ : h.2.1 ≤ u9.2.1 := hmo.2.1
    rw [m_X3_readsTurn_131] at hm
    refine lv_iconst (v := 1) hx hb dX3_readsTurn_131 (by decide) ?_
    refine lv_goto (tgt := 136) hx hb dX3_readsTurn_132 (by decide) ?_
    exact hB136 h x0 x1 y0 (1 : Int32) _ _ _ _ _ hm hw (by omega) (by omega) (lv_sub hl [0, 1] rfl)
  have hB128 : ∀ (h : CH) (x0 : Nat) (x1 : Int32) (y0 : Nat) (y1 : Int32) (cc ss : Nat) (H : Heap) (locs : List Loc) (ls : Array Slot), m_X3_readsTurn_128 f h x0 x1 y0 y1 = some u9 → CW D dA A s h H locs → cc + u.1 = h.1 → ss + u.2.1 = h.2.1 → lv_has ls 5 [(0, .ref x0), (1, .int x1)] → W p l e (rm_X3_readsTurn (u9.1 - u.1) (u9.2.1 - u.2.1)) s m args below meth c H locs cc ss QQ (F0 m 128 ls [.int y1, .ref y0]) := by
    intro h x0 x1 y0 y1 cc ss H locs ls hm hw hcc hss hl
    have hmo := mo_X3_readsTurn_128  h x0 x1 y0 y1 _ hm
    have sb_ : h.1 ≤ u9.1 := hmo.1
    have tb_ : h.2.1 ≤ u9.2.1 := hmo.2.1
    rw [m_X3_readsTurn_128] at hm
    refine lv_if_eq (tgt := 135) hx hb dX3_readsTurn_128 (by decide) (fun c1 => ?_) (fun c1 => ?_)
    · have hm := ifT hm c1
      refine lv_iconst (v := 0) hx hb dX3_readsTurn_135 (by decide) ?_
      exact hB136 h x0 x1 y0 (0 : Int32) _ _ _ _ _ hm hw (by omega) (by omega) (lv_sub hl [0, 1] rfl)
    · have hm := ifF hm c1
      exact hB131 h x0 x1 y0 _ _ _ _ _ hm hw (by omega) (by omega) (lv_sub hl [0, 1] rfl)
  have hB111 : ∀ (h : CH) (x0 : Nat) (x1 : Int32) (y0 : Nat) (y1 : Int32) (cc ss : Nat) (H : Heap) (locs : List Loc) (ls : Array Slot), m_X3_readsTurn_111 f h x0 x1 y0 y1 = some u9 → CW D dA A s h H locs → cc + u.1 = h.1 → ss + u.2.1 = h.2.1 → lv_has ls 5 [(0, .ref x0), (1, .int x1)] → W p l e (rm_X3_readsTurn (u9.1 - u.1) (u9.2.1 - u.2.1)) s m args below meth c H locs cc ss QQ (F0 m 111 ls [.int y1, .ref y0]) := by
    intro h x0 x1 y0 y1 cc ss H locs ls hm hw hcc hss hl
    have hmo := mo_X3_readsTurn_111  h x0 x1 y0 y1 _ hm
    have sb_ : h.1 ≤ u9.1 := hmo.1
    have tb_ : h.2.1 ≤ u9.2.1 := hmo.2.1
    rw [m_X3_readsTurn_111] at hm
    obtain ⟨h1, eh1, hm⟩ := bdE hm
    refine cg_tcv C hw eh1 (show cc + s.heap.size = h.1 by rw [hs0]; omega) (fun _ hk hm9 => va_runV (As := [.int y1]) (rest := []) ⟨hx, hb, hml, hown, hts⟩ (w_X3_passes l hm9) (cw_X3_passes hts q1745 ⟨Nat.le_of_ble_eq_true rfl, Nat.le_of_ble_eq_true rfl⟩) (tb_pre C hw hk _) rfl rfl hl.1 rfl (lv_room (Nat.le_of_ble_eq_true rfl)) dX3_readsTurn_111 ⟨show cc + 0 ≤ u9.1 - u.1 by omega, show ss + 0 ≤ u9.2.1 - u.2.1 by omega⟩) (fun H locs hw => ?_)
    have zh1 := tcv_sz eh1
    refine lv_aload_n hx hb dX3_readsTurn_114 rfl (lv_at hl 0 rfl) ?_
    refine lv_aload_n hx hb dX3_readsTurn_115 rfl (lv_at hl 0 rfl) ?_
    obtain ⟨v2, ev2, hm⟩ := bdE hm
    refine cg_get C hw (oI_E ev2) rfl in_X3 (by decide) q1581 dX3_readsTurn_116 ?_
    refine lv_if_ne (tgt := 131) hx hb dX3_readsTurn_119 (by decide) (fun c3 => ?_) (fun c3 => ?_)
    · have hm := ifT hm c3
      exact hB131 h1 x0 x1 x0 _ _ _ _ _ hm hw (by omega) (by omega) (lv_sub hl [0, 1] rfl)
    · have hm := ifT' hm c3
      refine lv_aload_n hx hb dX3_readsTurn_122 rfl (lv_at hl 0 rfl) ?_
      obtain ⟨a4, ea4, hm⟩ := bdE hm
      refine cg_ldcs C hw (i := 9) ea4 rfl dX3_readsTurn_123 ?_
      obtain ⟨g5, hm⟩ := gdE hm
      obtain ⟨r7, h6, er7, hm⟩ := bd2E hm
      have lh6 := mo_X3_isWord er7
      have ph6 : h1.1 ≤ h6.1 := lh6.1
      have qh6 : h1.2.1 ≤ h6.2.1 := lh6.2.1
      have hmo := mo_X3_readsTurn_128   h6 x0 x1 x0 r7 _ hm
      have sh6 : h6.1 ≤ u9.1 := hmo.1
      have th6 : h6.2.1 ≤ u9.2.1 := hmo.2.1
      refine cg_calli hw lh6 (va_runV (As := [.ref a4]) (rest := [.ref x0]) ⟨hx, hb, hml, hown, hts⟩ (w_X3_isWord l er7) (cw_X3_isWord hts q1713 ⟨Nat.le_of_ble_eq_true rfl, Nat.le_of_ble_eq_true rfl⟩) (cg_preV C hw g5 rfl _) rfl rfl hl.1 rfl (lv_room (Nat.le_of_ble_eq_true rfl)) dX3_readsTurn_125 ⟨show cc + (h6.1 - h1.1) ≤ u9.1 - u.1 by omega, show ss + (h6.2.1 - h1.2.1) ≤ u9.2.1 - u.2.1 by omega⟩) (fun H locs hw => ?_)
      exact hB128 h6 x0 x1 x0 r7 _ _ _ _ _ hm hw (by omega) (by omega) (lv_sub hl [0, 1] rfl)
  have hB106 : ∀ (h : CH) (x0 : Nat) (x1 : Int32) (y0 : Nat) (cc ss : Nat) (H : Heap) (locs : List Loc) (ls : Array Slot), m_X3_readsTurn_106 f h x0 x1 y0 = some u9 → CW D dA A s h H locs → cc + u.1 = h.1 → ss + u.2.1 = h.2.1 → lv_has ls 5 [(0, .ref x0), (1, .int x1)] → W p l e (rm_X3_readsTurn (u9.1 - u.1) (u9.2.1 - u.2.1)) s m args below meth c H locs cc ss QQ (F0 m 106 ls [.ref y0]) := by
    intro h x0 x1 y0 cc ss H locs ls hm hw hcc hss hl
    have hmo := mo_X3_readsTurn_106  h x0 x1 y0 _ hm
    have sb_ : h.1 ≤ u9.1 := hmo.1
    have tb_ : h.2.1 ≤ u9.2.1 := hmo.2.1
    rw [m_X3_readsTurn_106] at hm
    refine lv_iconst (v := 1) hx hb dX3_readsTurn_106 (by decide) ?_
    refine lv_goto (tgt := 111) hx hb dX3_readsTurn_107 (by decide) ?_
    exact hB111 h x0 x1 y0 (1 : Int32) _ _ _ _ _ hm hw (by omega) (by omega) (lv_sub hl [0, 1] rfl)
  have hB90 : ∀ (h : CH) (x0 : Nat) (x1 : Int32) (cc ss : Nat) (H : Heap) (locs : List Loc) (ls : Array Slot), m_X3_readsTurn_90 f h x0 x1 = some u9 → CW D dA A s h H locs → cc + u.1 = h.1 → ss + u.2.1 = h.2.1 → lv_has ls 5 [(0, .ref x0), (1, .int x1)] → W p l e (rm_X3_readsTurn (u9.1 - u.1) (u9.2.1 - u.2.1)) s m args below meth c H locs cc ss QQ (F0 m 90 ls []) := by
    intro h x0 x1 cc ss H locs ls hm hw hcc hss hl
    have hmo := mo_X3_readsTurn_90  h x0 x1 _ hm
    have sb_ : h.1 ≤ u9.1 := hmo.1
    have tb_ : h.2.1 ≤ u9.2.1 := hmo.2.1
    rw [m_X3_readsTurn_90] at hm
    refine lv_aload_n hx hb dX3_readsTurn_90 rfl (lv_at hl 0 rfl) ?_
    refine lv_aload_n hx hb dX3_readsTurn_91 rfl (lv_at hl 0 rfl) ?_
    obtain ⟨v1, ev1, hm⟩ := bdE hm
    refine cg_get C hw (oI_E ev1) rfl in_X3 (by decide) q1581 dX3_readsTurn_92 ?_
    refine lv_if_ne (tgt := 106) hx hb dX3_readsTurn_95 (by decide) (fun c2 => ?_) (fun c2 => ?_)
    · have hm := ifT hm c2
      exact hB106 h x0 x1 x0 _ _ _ _ _ hm hw (by omega) (by omega) (lv_sub hl [0, 1] rfl)
    · have hm := ifT' hm c2
      refine lv_aload_n hx hb dX3_readsTurn_98 rfl (lv_at hl 0 rfl) ?_
      obtain ⟨v3, ev3, hm⟩ := bdE hm
      refine cg_get C hw (oI_E ev3) rfl in_X3 (by decide) q1579 dX3_readsTurn_99 ?_
      refine lv_iconst (v := 1) hx hb dX3_readsTurn_102 (by decide) ?_
      refine lv_icmp_ne (tgt := 110) hx hb dX3_readsTurn_103 (by decide) (fun c4 => ?_) (fun c4 => ?_)
      · have hm := ifT hm c4
        refine lv_iconst (v := 0) hx hb dX3_readsTurn_110 (by decide) ?_
        exact hB111 h x0 x1 x0 (0 : Int32) _ _ _ _ _ hm hw (by omega) (by omega) (lv_sub hl [0, 1] rfl)
      · have hm := ifT' hm c4
        exact hB106 h x0 x1 x0 _ _ _ _ _ hm hw (by omega) (by omega) (lv_sub hl [0, 1] rfl)
  have hB85 : ∀ (h : CH) (x0 : Nat) (x1 : Int32) (cc ss : Nat) (H : Heap) (locs : List Loc) (ls : Array Slot), m_X3_readsTurn_85 f h x0 x1 = some u9 → CW D dA A s h H locs → cc + u.1 = h.1 → ss + u.2.1 = h.2.1 → lv_has ls 5 [(0, .ref x0), (1, .int x1)] → W p l e (rm_X3_readsTurn (u9.1 - u.1) (u9.2.1 - u.2.1)) s m args below meth c H locs cc ss QQ (F0 m 85 ls []) := by
    intro h x0 x1 cc ss H locs ls hm hw hcc hss hl
    have hmo := mo_X3_readsTurn_85  h x0 x1 _ hm
    have sb_ : h.1 ≤ u9.1 := hmo.1
    have tb_ : h.2.1 ≤ u9.2.1 := hmo.2.1
    rw [m_X3_readsTurn_85] at hm
    refine lv_aload_n hx hb dX3_readsTurn_85 rfl (lv_at hl 0 rfl) ?_
    refine lv_iconst (v := 2) hx hb dX3_readsTurn_86 (by decide) ?_
    obtain ⟨h1, eh1, hm⟩ := bdE hm
    refine cg_tcv C hw eh1 (show cc + s.heap.size = h.1 by rw [hs0]; omega) (fun _ hk hm9 => va_runV (As := [.int (2 : Int32)]) (rest := []) ⟨hx, hb, hml, hown, hts⟩ (w_X3_faults l hm9) (cw_X3_faults hts q1741 ⟨Nat.le_of_ble_eq_true rfl, Nat.le_of_ble_eq_true rfl⟩) (tb_pre C hw hk _) rfl rfl hl.1 rfl (lv_room (Nat.le_of_ble_eq_true rfl)) dX3_readsTurn_87 ⟨show cc + 0 ≤ u9.1 - u.1 by omega, show ss + 0 ≤ u9.2.1 - u.2.1 by omega⟩) (fun H locs hw => ?_)
    have zh1 := tcv_sz eh1
    exact hB90 h1 x0 x1 _ _ _ _ _ hm hw (by omega) (by omega) (lv_sub hl [0, 1] rfl)
  have hB52 : ∀ (h : CH) (x0 : Nat) (y0 : Int32) (cc ss : Nat) (H : Heap) (locs : List Loc) (ls : Array Slot), m_X3_readsTurn_52 f h x0 y0 = some u9 → CW D dA A s h H locs → cc + u.1 = h.1 → ss + u.2.1 = h.2.1 → lv_has ls 5 [(0, .ref x0)] → W p l e (rm_X3_readsTurn (u9.1 - u.1) (u9.2.1 - u.2.1)) s m args below meth c H locs cc ss QQ (F0 m 52 ls [.int y0]) := by
    intro h x0 y0 cc ss H locs ls hm hw hcc hss hl
    have hmo := mo_X3_readsTurn_52  h x0 y0 _ hm
    have sb_ : h.1 ≤ u9.1 := hmo.1
    have tb_ : h.2.1 ≤ u9.2.1 := hmo.2.1
    rw [m_X3_readsTurn_52] at hm
    refine lv_istore_n (lv' := [(1, .int y0), (0, .ref x0)]) hx hb dX3_readsTurn_52 rfl hl (by decide) rfl (fun ls hl => ?_)
    refine lv_aload_n hx hb dX3_readsTurn_53 rfl (lv_at hl 1 rfl) ?_
    obtain ⟨v1, ev1, hm⟩ := bdE hm
    refine cg_get C hw (oI_E ev1) rfl in_X3 (by decide) q1581 dX3_readsTurn_54 ?_
    refine lv_if_ne (tgt := 90) hx hb dX3_readsTurn_57 (by decide) (fun c2 => ?_) (fun c2 => ?_)
    · have hm := ifT hm c2
      exact hB90 h x0 y0 _ _ _ _ _ hm hw (by omega) (by omega) (lv_sub hl [1, 0] rfl)
    · have hm := ifT' hm c2
      refine lv_aload_n hx hb dX3_readsTurn_60 rfl (lv_at hl 1 rfl) ?_
      obtain ⟨v3, ev3, hm⟩ := bdE hm
      refine cg_get C hw (oI_E ev3) rfl in_X3 (by decide) q1579 dX3_readsTurn_61 ?_
      refine lv_iconst (v := 1) hx hb dX3_readsTurn_64 (by decide) ?_
      refine lv_icmp_ne (tgt := 90) hx hb dX3_readsTurn_65 (by decide) (fun c4 => ?_) (fun c4 => ?_)
      · have hm := ifT hm c4
        exact hB90 h x0 y0 _ _ _ _ _ hm hw (by omega) (by omega) (lv_sub hl [1, 0] rfl)
      · have hm := ifT' hm c4
        refine lv_iload_n hx hb dX3_readsTurn_68 rfl (lv_at hl 0 rfl) ?_
        refine lv_iconst (v := -1) hx hb dX3_readsTurn_69 (by decide) ?_
        refine lv_icmp_eq (tgt := 85) hx hb dX3_readsTurn_70 (by decide) (fun c5 => ?_) (fun c5 => ?_)
        · have hm := ifT hm c5
          exact hB85 h x0 y0 _ _ _ _ _ hm hw (by omega) (by omega) (lv_sub hl [1, 0] rfl)
        · have hm := ifF hm c5
          refine lv_aload_n hx hb dX3_readsTurn_73 rfl (lv_at hl 1 rfl) ?_
          obtain ⟨a6, ea6, hm⟩ := bdE hm
          refine cg_get C hw (oR_E ea6) rfl in_X3 (by decide) q1566 dX3_readsTurn_74 ?_
          refine lv_iconst (v := 3) hx hb dX3_readsTurn_77 (by decide) ?_
          refine lv_iload_n hx hb dX3_readsTurn_78 rfl (lv_at hl 0 rfl) ?_
          refine lv_iadd hx hb dX3_readsTurn_79 ?_
          obtain ⟨v7, ev7, hm⟩ := bdE hm
          refine cg_iald C hw ev7 dX3_readsTurn_80 ?_
          refine lv_iconst (v := -1) hx hb dX3_readsTurn_81 (by decide) ?_
          refine lv_icmp_eq (tgt := 90) hx hb dX3_readsTurn_82 (by decide) (fun c8 => ?_) (fun c8 => ?_)
          · have hm := ifT hm c8
            exact hB90 h x0 y0 _ _ _ _ _ hm hw (by omega) (by omega) (lv_sub hl [1, 0] rfl)
          · have hm := ifF hm c8
            exact hB85 h x0 y0 _ _ _ _ _ hm hw (by omega) (by omega) (lv_sub hl [1, 0] rfl)
  have hB44 : ∀ (h : CH) (x0 : Nat) (cc ss : Nat) (H : Heap) (locs : List Loc) (ls : Array Slot), m_X3_readsTurn_44 f h x0 = some u9 → CW D dA A s h H locs → cc + u.1 = h.1 → ss + u.2.1 = h.2.1 → lv_has ls 5 [(0, .ref x0)] → W p l e (rm_X3_readsTurn (u9.1 - u.1) (u9.2.1 - u.2.1)) s m args below meth c H locs cc ss QQ (F0 m 44 ls []) := by
    intro h x0 cc ss H locs ls hm hw hcc hss hl
    have hmo := mo_X3_readsTurn_44  h x0 _ hm
    have sb_ : h.1 ≤ u9.1 := hmo.1
    have tb_ : h.2.1 ≤ u9.2.1 := hmo.2.1
    rw [m_X3_readsTurn_44] at hm
    refine lv_iconst (v := -1) hx hb dX3_readsTurn_44 (by decide) ?_
    refine lv_goto (tgt := 52) hx hb dX3_readsTurn_45 (by decide) ?_
    exact hB52 h x0 (-1 : Int32) _ _ _ _ _ hm hw (by omega) (by omega) (lv_sub hl [0] rfl)
  have hB26 : ∀ (h : CH) (x0 : Nat) (y0 : Nat) (y1 : Int32) (cc ss : Nat) (H : Heap) (locs : List Loc) (ls : Array Slot), m_X3_readsTurn_26 f h x0 y0 y1 = some u9 → CW D dA A s h H locs → cc + u.1 = h.1 → ss + u.2.1 = h.2.1 → lv_has ls 5 [(0, .ref x0)] → W p l e (rm_X3_readsTurn (u9.1 - u.1) (u9.2.1 - u.2.1)) s m args below meth c H locs cc ss QQ (F0 m 26 ls [.int y1, .ref y0]) := by
    intro h x0 y0 y1 cc ss H locs ls hm hw hcc hss hl
    have hmo := mo_X3_readsTurn_26  h x0 y0 y1 _ hm
    have sb_ : h.1 ≤ u9.1 := hmo.1
    have tb_ : h.2.1 ≤ u9.2.1 := hmo.2.1
    rw [m_X3_readsTurn_26] at hm
    obtain ⟨h1, eh1, hm⟩ := bdE hm
    refine cg_tcv C hw eh1 (show cc + s.heap.size = h.1 by rw [hs0]; omega) (fun _ hk hm9 => va_runV (As := [.int y1]) (rest := []) ⟨hx, hb, hml, hown, hts⟩ (w_X3_passes l hm9) (cw_X3_passes hts q1745 ⟨Nat.le_of_ble_eq_true rfl, Nat.le_of_ble_eq_true rfl⟩) (tb_pre C hw hk _) rfl rfl hl.1 rfl (lv_room (Nat.le_of_ble_eq_true rfl)) dX3_readsTurn_26 ⟨show cc + 0 ≤ u9.1 - u.1 by omega, show ss + 0 ≤ u9.2.1 - u.2.1 by omega⟩) (fun H locs hw => ?_)
    have zh1 := tcv_sz eh1
    refine lv_aload_n hx hb dX3_readsTurn_29 rfl (lv_at hl 0 rfl) ?_
    obtain ⟨v2, ev2, hm⟩ := bdE hm
    refine cg_get C hw (oI_E ev2) rfl in_X3 (by decide) q1581 dX3_readsTurn_30 ?_
    refine lv_if_ne (tgt := 44) hx hb dX3_readsTurn_33 (by decide) (fun c3 => ?_) (fun c3 => ?_)
    · have hm := ifT hm c3
      exact hB44 h1 x0 _ _ _ _ _ hm hw (by omega) (by omega) (lv_sub hl [0] rfl)
    · have hm := ifT' hm c3
      refine lv_aload_n hx hb dX3_readsTurn_36 rfl (lv_at hl 0 rfl) ?_
      obtain ⟨v4, ev4, hm⟩ := bdE hm
      refine cg_get C hw (oI_E ev4) rfl in_X3 (by decide) q1579 dX3_readsTurn_37 ?_
      refine lv_iconst (v := 1) hx hb dX3_readsTurn_40 (by decide) ?_
      refine lv_icmp_eq (tgt := 48) hx hb dX3_readsTurn_41 (by decide) (fun c5 => ?_) (fun c5 => ?_)
      · have hm := ifT hm c5
        refine lv_aload_n hx hb dX3_readsTurn_48 rfl (lv_at hl 0 rfl) ?_
        obtain ⟨r7, h6, er7, hm⟩ := bd2E hm
        refine cg_tci C hw er7 (show cc + s.heap.size = h1.1 by rw [hs0]; omega) (fun _ hk hm9 => va_runV (As := []) (rest := []) ⟨hx, hb, hml, hown, hts⟩ (w_X3_named l hm9) (cw_X3_named hts q1756 ⟨Nat.le_of_ble_eq_true rfl, Nat.le_of_ble_eq_true rfl⟩) (tb_pre C hw hk _) rfl rfl hl.1 rfl (lv_room (Nat.le_of_ble_eq_true rfl)) dX3_readsTurn_49 ⟨show cc + 0 ≤ u9.1 - u.1 by omega, show ss + 0 ≤ u9.2.1 - u.2.1 by omega⟩) (fun H locs hw => ?_)
        have zh6 := tcr_sz er7
        exact hB52 h6 x0 r7 _ _ _ _ _ hm hw (by omega) (by omega) (lv_sub hl [0] rfl)
      · have hm := ifF hm c5
        exact hB44 h1 x0 _ _ _ _ _ hm hw (by omega) (by omega) (lv_sub hl [0] rfl)
  have hB21 : ∀ (h : CH) (x0 : Nat) (y0 : Nat) (cc ss : Nat) (H : Heap) (locs : List Loc) (ls : Array Slot), m_X3_readsTurn_21 f h x0 y0 = some u9 → CW D dA A s h H locs → cc + u.1 = h.1 → ss + u.2.1 = h.2.1 → lv_has ls 5 [(0, .ref x0)] → W p l e (rm_X3_readsTurn (u9.1 - u.1) (u9.2.1 - u.2.1)) s m args below meth c H locs cc ss QQ (F0 m 21 ls [.ref y0]) := by
    intro h x0 y0 cc ss H locs ls hm hw hcc hss hl
    have hmo := mo_X3_readsTurn_21  h x0 y0 _ hm
    have sb_ : h.1 ≤ u9.1 := hmo.1
    have tb_ : h.2.1 ≤ u9.2.1 := hmo.2.1
    rw [m_X3_readsTurn_21] at hm
    refine lv_iconst (v := 1) hx hb dX3_readsTurn_21 (by decide) ?_
    refine lv_goto (tgt := 26) hx hb dX3_readsTurn_22 (by decide) ?_
    exact hB26 h x0 y0 (1 : Int32) _ _ _ _ _ hm hw (by omega) (by omega) (lv_sub hl [0] rfl)
  have hB18 : ∀ (h : CH) (x0 : Nat) (y0 : Nat) (y1 : Int32) (cc ss : Nat) (H : Heap) (locs : List Loc) (ls : Array Slot), m_X3_readsTurn_18 f h x0 y0 y1 = some u9 → CW D dA A s h H locs → cc + u.1 = h.1 → ss + u.2.1 = h.2.1 → lv_has ls 5 [(0, .ref x0)] → W p l e (rm_X3_readsTurn (u9.1 - u.1) (u9.2.1 - u.2.1)) s m args below meth c H locs cc ss QQ (F0 m 18 ls [.int y1, .ref y0]) := by
    intro h x0 y0 y1 cc ss H locs ls hm hw hcc hss hl
    have hmo := mo_X3_readsTurn_18  h x0 y0 y1 _ hm
    have sb_ : h.1 ≤ u9.1 := hmo.1
    have tb_ : h.2.1 ≤ u9.2.1 := hmo.2.1
    rw [m_X3_readsTurn_18] at hm
    refine lv_if_eq (tgt := 25) hx hb dX3_readsTurn_18 (by decide) (fun c1 => ?_) (fun c1 => ?_)
    · have hm := ifT hm c1
      refine lv_iconst (v := 0) hx hb dX3_readsTurn_25 (by decide) ?_
      exact hB26 h x0 y0 (0 : Int32) _ _ _ _ _ hm hw (by omega) (by omega) (lv_sub hl [0] rfl)
    · have hm := ifF hm c1
      exact hB21 h x0 y0 _ _ _ _ _ hm hw (by omega) (by omega) (lv_sub hl [0] rfl)
  have hB4 : ∀ (h : CH) (x0 : Nat) (cc ss : Nat) (H : Heap) (locs : List Loc) (ls : Array Slot), m_X3_readsTurn_4 f h x0 = some u9 → CW D dA A s h H locs → cc + u.1 = h.1 → ss + u.2.1 = h.2.1 → lv_has ls 5 [(0, .ref x0)] → W p l e (rm_X3_readsTurn (u9.1 - u.1) (u9.2.1 - u.2.1)) s m args below meth c H locs cc ss QQ (F0 m 4 ls []) := by
    intro h x0 cc ss H locs ls hm hw hcc hss hl
    have hmo := mo_X3_readsTurn_4  h x0 _ hm
    have sb_ : h.1 ≤ u9.1 := hmo.1
    have tb_ : h.2.1 ≤ u9.2.1 := hmo.2.1
    rw [m_X3_readsTurn_4] at hm
    refine lv_aload_n hx hb dX3_readsTurn_4 rfl (lv_at hl 0 rfl) ?_
    refine lv_aload_n hx hb dX3_readsTurn_5 rfl (lv_at hl 0 rfl) ?_
    obtain ⟨v1, ev1, hm⟩ := bdE hm
    refine cg_get C hw (oI_E ev1) rfl in_X3 (by decide) q1581 dX3_readsTurn_6 ?_
    refine lv_if_ne (tgt := 21) hx hb dX3_readsTurn_9 (by decide) (fun c2 => ?_) (fun c2 => ?_)
    · have hm := ifT hm c2
      exact hB21 h x0 x0 _ _ _ _ _ hm hw (by omega) (by omega) (lv_sub hl [0] rfl)
    · have hm := ifT' hm c2
      refine lv_aload_n hx hb dX3_readsTurn_12 rfl (lv_at hl 0 rfl) ?_
      obtain ⟨a3, ea3, hm⟩ := bdE hm
      refine cg_ldcs C hw (i := 8) ea3 rfl dX3_readsTurn_13 ?_
      obtain ⟨g4, hm⟩ := gdE hm
      obtain ⟨r6, h5, er6, hm⟩ := bd2E hm
      have lh5 := mo_X3_isWord er6
      have ph5 : h.1 ≤ h5.1 := lh5.1
      have qh5 : h.2.1 ≤ h5.2.1 := lh5.2.1
      have hmo := mo_X3_readsTurn_18   h5 x0 x0 r6 _ hm
      have sh5 : h5.1 ≤ u9.1 := hmo.1
      have th5 : h5.2.1 ≤ u9.2.1 := hmo.2.1
      refine cg_calli hw lh5 (va_runV (As := [.ref a3]) (rest := [.ref x0]) ⟨hx, hb, hml, hown, hts⟩ (w_X3_isWord l er6) (cw_X3_isWord hts q1713 ⟨Nat.le_of_ble_eq_true rfl, Nat.le_of_ble_eq_true rfl⟩) (cg_preV C hw g4 rfl _) rfl rfl hl.1 rfl (lv_room (Nat.le_of_ble_eq_true rfl)) dX3_readsTurn_15 ⟨show cc + (h5.1 - h.1) ≤ u9.1 - u.1 by omega, show ss + (h5.2.1 - h.2.1) ≤ u9.2.1 - u.2.1 by omega⟩) (fun H locs hw => ?_)
      exact hB18 h5 x0 x0 r6 _ _ _ _ _ hm hw (by omega) (by omega) (lv_sub hl [0] rfl)
  rw [m_X3_readsTurn] at hm
  refine lv_aload_n hx hb dX3_readsTurn_0 rfl (lv_at hl 0 rfl) ?_
  obtain ⟨g1, hm⟩ := gdE hm
  obtain ⟨h2, eh2, hm⟩ := bdE hm
  have lh2 := mo_X3_readsName eh2
  have ph2 : u.1 ≤ h2.1 := lh2.1
  have qh2 : u.2.1 ≤ h2.2.1 := lh2.2.1
  have hmo := mo_X3_readsTurn_4   h2 x0 _ hm
  have sh2 : h2.1 ≤ u9.1 := hmo.1
  have th2 : h2.2.1 ≤ u9.2.1 := hmo.2.1
  refine cg_callv hw lh2 (va_runV (As := []) (rest := []) ⟨hx, hb, hml, hown, hts⟩ (w_X3_readsName l eh2) (cw_X3_readsName hts q1737 ⟨Nat.le_of_ble_eq_true rfl, Nat.le_of_ble_eq_true rfl⟩) (cg_preV C hw g1 rfl _) rfl rfl hl.1 rfl (lv_room (Nat.le_of_ble_eq_true rfl)) dX3_readsTurn_1 ⟨show cc + (h2.1 - u.1) ≤ u9.1 - u.1 by omega, show ss + (h2.2.1 - u.2.1) ≤ u9.2.1 - u.2.1 by omega⟩) (fun H locs hw => ?_)
  exact hB4 h2 x0 _ _ _ _ _ hm hw (by omega) (by omega) (lv_sub hl [0] rfl)
def m_X3_lattices_184 (f : Nat) (h : CH) : Option (Int32 × CH) := some ((-4 : Int32), h)
theorem mo_X3_lattices_184 {f : Nat} : ∀ (h : CH) (r : (Int32 × CH)), m_X3_lattices_184 f h = some r → le2 h r.2 := by
  intro h r hm
  rw [m_X3_lattices_184] at hm
  cases hm
  exact le2.rf
def m_X3_lattices_160 (f : Nat) : Nat → CH → Nat → Int32 → Option (Int32 × CH)
  | 0, _, _, _ => none
  | n160 + 1, h, x0, x1 => if (73 : Int32) ≤ x1 then
    m_X3_lattices_184 f h
    else bd (oR h 0 0 x0) fun a2 =>
    bd (oR h 0 1 x0) fun a3 =>
    bd (aI h 0 a3 x1) fun v4 =>
    bd (uI h 0 a2 x1 v4) fun h5 =>
    nmv ((x1 + 1) : Int32) fun v6 =>
    m_X3_lattices_160 f n160 h5 x0 v6
theorem mo_X3_lattices_160 {f : Nat} : ∀ (n160 : Nat) (h : CH) (x0 : Nat) (x1 : Int32) (r : (Int32 × CH)), m_X3_lattices_160 f n160 h x0 x1 = some r → le2 h r.2 := by
  intro n160
  induction n160 with
  | zero => intro h x0 x1 r hm; rw [m_X3_lattices_160] at hm; exact noE hm
  | succ n160 ihm =>
    intro h x0 x1 r hm
    rw [m_X3_lattices_160] at hm
    by_cases c1 : (73 : Int32) ≤ x1
    · have hm := ifT hm c1
      exact (mo_X3_lattices_184  h _ hm)
    · have hm := ifF hm c1
      obtain ⟨a2, ea2, hm⟩ := bdE hm
      obtain ⟨a3, ea3, hm⟩ := bdE hm
      obtain ⟨v4, ev4, hm⟩ := bdE hm
      obtain ⟨h5, eh5, hm⟩ := bdE hm
      have lh5 := uI_le eh5
      obtain ⟨v6, ev6, hm⟩ := nmE hm
      exact (lh5.tr (ihm h5 x0 v6 _ hm))
def m_X3_lattices_146 (f : Nat) (h : CH) (x0 : Nat) : Option (Int32 × CH) := bd (pF h 0 4 x0 (.int (0 : Int32))) fun h1 =>
    bd (oI h1 0 15 x0) fun v2 =>
    if v2 = 0 then
    bd (pF h1 0 7 x0 (.int (0 : Int32))) fun h4 =>
    bd (oR h4 0 0 x0) fun a5 =>
    bd (aI h4 0 a5 (1 : Int32)) fun v6 =>
    some (v6, h4)
    else m_X3_lattices_160 f f h1 x0 (0 : Int32)
theorem mo_X3_lattices_146 {f : Nat} : ∀ (h : CH) (x0 : Nat) (r : (Int32 × CH)), m_X3_lattices_146 f h x0 = some r → le2 h r.2 := by
  intro h x0 r hm
  rw [m_X3_lattices_146] at hm
  obtain ⟨h1, eh1, hm⟩ := bdE hm
  have lh1 := pF_le eh1
  obtain ⟨v2, ev2, hm⟩ := bdE hm
  by_cases c3 : v2 = 0
  · have hm := ifT hm c3
    obtain ⟨h4, eh4, hm⟩ := bdE hm
    have lh4 := pF_le eh4
    obtain ⟨a5, ea5, hm⟩ := bdE hm
    obtain ⟨v6, ev6, hm⟩ := bdE hm
    cases hm
    exact (lh1.tr (lh4.tr le2.rf))
  · have hm := ifF hm c3
    exact (lh1.tr (mo_X3_lattices_160  f h1 x0 (0 : Int32) _ hm))
def m_X3_lattices_130 (f : Nat) (k57 : CH → Nat → Option (Int32 × CH)) (h : CH) (x0 : Nat) (y0 : Nat) (y1 : Int32) : Option (Int32 × CH) := bd (tcv h y0 (fun z => m_X3_passes f z y1)) fun h1 =>
    bd (oR h1 0 0 x0) fun a2 =>
    bd (aI h1 0 a2 (1 : Int32)) fun v3 =>
    bd (uI h1 0 a2 (1 : Int32) (v3 + (1 : Int32))) fun h4 =>
    k57 h4 x0
theorem mo_X3_lattices_130 {f : Nat} {k57 : CH → Nat → Option (Int32 × CH)} (hk57 : ∀ (h : CH) (x0 : Nat) (r : (Int32 × CH)), k57 h x0 = some r → le2 h r.2) : ∀ (h : CH) (x0 : Nat) (y0 : Nat) (y1 : Int32) (r : (Int32 × CH)), m_X3_lattices_130 f k57 h x0 y0 y1 = some r → le2 h r.2 := by
  intro h x0 y0 y1 r hm
  rw [m_X3_lattices_130] at hm
  obtain ⟨h1, eh1, hm⟩ := bdE hm
  have lh1 := tcv_le eh1
  obtain ⟨a2, ea2, hm⟩ := bdE hm
  obtain ⟨v3, ev3, hm⟩ := bdE hm
  obtain ⟨h4, eh4, hm⟩ := bdE hm
  have lh4 := uI_le eh4
  exact (lh1.tr (lh4.tr (hk57 h4 x0 _ hm)))
def m_X3_lattices_125 (f : Nat) (k57 : CH → Nat → Option (Int32 × CH)) (h : CH) (x0 : Nat) (y0 : Nat) : Option (Int32 × CH) := m_X3_lattices_130 f k57 h x0 y0 (1 : Int32)
theorem mo_X3_lattices_125 {f : Nat} {k57 : CH → Nat → Option (Int32 × CH)} (hk57 : ∀ (h : CH) (x0 : Nat) (r : (Int32 × CH)), k57 h x0 = some r → le2 h r.2) : ∀ (h : CH) (x0 : Nat) (y0 : Nat) (r : (Int32 × CH)), m_X3_lattices_125 f k57 h x0 y0 = some r → le2 h r.2 := by
  intro h x0 y0 r hm
  rw [m_X3_lattices_125] at hm
  exact (mo_X3_lattices_130 hk57 h x0 y0 (1 : Int32) _ hm)
def m_X3_lattices_108 (f : Nat) (k57 : CH → Nat → Option (Int32 × CH)) (h : CH) (x0 : Nat) : Option (Int32 × CH) := bd (oI h 0 15 x0) fun v1 =>
    if ¬ v1 = 0 then
    m_X3_lattices_125 f k57 h x0 x0
    else bd2 (tcr h x0 (fun z => m_X3_isSign f z (59 : Int32))) fun r4 h3 =>
    if r4 = 0 then
    m_X3_lattices_130 f k57 h3 x0 x0 (0 : Int32)
    else m_X3_lattices_125 f k57 h3 x0 x0
theorem mo_X3_lattices_108 {f : Nat} {k57 : CH → Nat → Option (Int32 × CH)} (hk57 : ∀ (h : CH) (x0 : Nat) (r : (Int32 × CH)), k57 h x0 = some r → le2 h r.2) : ∀ (h : CH) (x0 : Nat) (r : (Int32 × CH)), m_X3_lattices_108 f k57 h x0 = some r → le2 h r.2 := by
  intro h x0 r hm
  rw [m_X3_lattices_108] at hm
  obtain ⟨v1, ev1, hm⟩ := bdE hm
  by_cases c2 : ¬ v1 = 0
  · have hm := ifT hm c2
    exact (mo_X3_lattices_125 hk57 h x0 x0 _ hm)
  · have hm := ifF hm c2
    obtain ⟨r4, h3, er4, hm⟩ := bd2E hm
    have lh3 := tcr_le er4
    by_cases c5 : r4 = 0
    · have hm := ifT hm c5
      exact (lh3.tr (mo_X3_lattices_130 hk57 h3 x0 x0 (0 : Int32) _ hm))
    · have hm := ifF hm c5
      exact (lh3.tr (mo_X3_lattices_125 hk57 h3 x0 x0 _ hm))
def m_X3_lattices_100 (f : Nat) (k57 : CH → Nat → Option (Int32 × CH)) (h : CH) (x0 : Nat) : Option (Int32 × CH) := m_X3_lattices_108 f k57 h x0
theorem mo_X3_lattices_100 {f : Nat} {k57 : CH → Nat → Option (Int32 × CH)} (hk57 : ∀ (h : CH) (x0 : Nat) (r : (Int32 × CH)), k57 h x0 = some r → le2 h r.2) : ∀ (h : CH) (x0 : Nat) (r : (Int32 × CH)), m_X3_lattices_100 f k57 h x0 = some r → le2 h r.2 := by
  intro h x0 r hm
  rw [m_X3_lattices_100] at hm
  exact (mo_X3_lattices_108 hk57 h x0 _ hm)
def m_X3_lattices_93 (f : Nat) (k57 : CH → Nat → Option (Int32 × CH)) (h : CH) (x0 : Nat) (y0 : Int32) : Option (Int32 × CH) := if y0 = 0 then
    bd (tcv h x0 (fun z => m_X3_faults f z (1 : Int32))) fun h2 =>
    m_X3_lattices_108 f k57 h2 x0
    else gd (isC h x0 0) <|
    bd (m_X3_readsTurn f h x0) fun h4 =>
    m_X3_lattices_100 f k57 h4 x0
theorem mo_X3_lattices_93 {f : Nat} {k57 : CH → Nat → Option (Int32 × CH)} (hk57 : ∀ (h : CH) (x0 : Nat) (r : (Int32 × CH)), k57 h x0 = some r → le2 h r.2) : ∀ (h : CH) (x0 : Nat) (y0 : Int32) (r : (Int32 × CH)), m_X3_lattices_93 f k57 h x0 y0 = some r → le2 h r.2 := by
  intro h x0 y0 r hm
  rw [m_X3_lattices_93] at hm
  by_cases c1 : y0 = 0
  · have hm := ifT hm c1
    obtain ⟨h2, eh2, hm⟩ := bdE hm
    have lh2 := tcv_le eh2
    exact (lh2.tr (mo_X3_lattices_108 hk57 h2 x0 _ hm))
  · have hm := ifF hm c1
    obtain ⟨g3, hm⟩ := gdE hm
    obtain ⟨h4, eh4, hm⟩ := bdE hm
    have lh4 := mo_X3_readsTurn eh4
    exact (lh4.tr (mo_X3_lattices_100 hk57 h4 x0 _ hm))
def m_X3_lattices_84 (f : Nat) (k57 : CH → Nat → Option (Int32 × CH)) (h : CH) (x0 : Nat) : Option (Int32 × CH) := m_X3_lattices_108 f k57 h x0
theorem mo_X3_lattices_84 {f : Nat} {k57 : CH → Nat → Option (Int32 × CH)} (hk57 : ∀ (h : CH) (x0 : Nat) (r : (Int32 × CH)), k57 h x0 = some r → le2 h r.2) : ∀ (h : CH) (x0 : Nat) (r : (Int32 × CH)), m_X3_lattices_84 f k57 h x0 = some r → le2 h r.2 := by
  intro h x0 r hm
  rw [m_X3_lattices_84] at hm
  exact (mo_X3_lattices_108 hk57 h x0 _ hm)
def m_X3_lattices_77 (f : Nat) (k57 : CH → Nat → Option (Int32 × CH)) (h : CH) (x0 : Nat) (y0 : Int32) : Option (Int32 × CH) := if y0 = 0 then
    bd (sR h (20 + 7)) fun a2 =>
    gd (isC h x0 0) <|
    bd2 (m_X3_isWord f h x0 a2) fun r5 h4 =>
    m_X3_lattices_93 f k57 h4 x0 r5
    else gd (isC h x0 0) <|
    bd (m_X3_readsLattice f h x0) fun h7 =>
    m_X3_lattices_84 f k57 h7 x0
theorem mo_X3_lattices_77 {f : Nat} {k57 : CH → Nat → Option (Int32 × CH)} (hk57 : ∀ (h : CH) (x0 : Nat) (r : (Int32 × CH)), k57 h x0 = some r → le2 h r.2) : ∀ (h : CH) (x0 : Nat) (y0 : Int32) (r : (Int32 × CH)), m_X3_lattices_77 f k57 h x0 y0 = some r → le2 h r.2 := by
  intro h x0 y0 r hm
  rw [m_X3_lattices_77] at hm
  by_cases c1 : y0 = 0
  · have hm := ifT hm c1
    obtain ⟨a2, ea2, hm⟩ := bdE hm
    obtain ⟨g3, hm⟩ := gdE hm
    obtain ⟨r5, h4, er5, hm⟩ := bd2E hm
    have lh4 := mo_X3_isWord er5
    exact (lh4.tr (mo_X3_lattices_93 hk57 h4 x0 r5 _ hm))
  · have hm := ifF hm c1
    obtain ⟨g6, hm⟩ := gdE hm
    obtain ⟨h7, eh7, hm⟩ := bdE hm
    have lh7 := mo_X3_readsLattice eh7
    exact (lh7.tr (mo_X3_lattices_84 hk57 h7 x0 _ hm))
def m_X3_lattices_57 (f : Nat) : Nat → CH → Nat → Option (Int32 × CH)
  | 0, _, _ => none
  | n57 + 1, h, x0 => bd (oI h 0 15 x0) fun v1 =>
    if ¬ v1 = 0 then
    m_X3_lattices_146 f h x0
    else bd (oI h 0 13 x0) fun v3 =>
    if v3 = 0 then
    m_X3_lattices_146 f h x0
    else bd (sR h (20 + 6)) fun a5 =>
    gd (isC h x0 0) <|
    bd2 (m_X3_isWord f h x0 a5) fun r8 h7 =>
    m_X3_lattices_77 f (m_X3_lattices_57 f n57) h7 x0 r8
theorem mo_X3_lattices_57 {f : Nat} : ∀ (n57 : Nat) (h : CH) (x0 : Nat) (r : (Int32 × CH)), m_X3_lattices_57 f n57 h x0 = some r → le2 h r.2 := by
  intro n57
  induction n57 with
  | zero => intro h x0 r hm; rw [m_X3_lattices_57] at hm; exact noE hm
  | succ n57 ihm =>
    intro h x0 r hm
    rw [m_X3_lattices_57] at hm
    obtain ⟨v1, ev1, hm⟩ := bdE hm
    by_cases c2 : ¬ v1 = 0
    · have hm := ifT hm c2
      exact (mo_X3_lattices_146  h x0 _ hm)
    · have hm := ifF hm c2
      obtain ⟨v3, ev3, hm⟩ := bdE hm
      by_cases c4 : v3 = 0
      · have hm := ifT hm c4
        exact (mo_X3_lattices_146  h x0 _ hm)
      · have hm := ifF hm c4
        obtain ⟨a5, ea5, hm⟩ := bdE hm
        obtain ⟨g6, hm⟩ := gdE hm
        obtain ⟨r8, h7, er8, hm⟩ := bd2E hm
        have lh7 := mo_X3_isWord er8
        exact (lh7.tr (mo_X3_lattices_77 ihm h7 x0 r8 _ hm))
def m_X3_lattices_33 (f : Nat) (h : CH) (x0 : Nat) : Option (Int32 × CH) := bd (pF h 0 11 x0 (.int (0 : Int32))) fun h1 =>
    bd (pF h1 0 15 x0 (.int (0 : Int32))) fun h2 =>
    bd (pF h2 0 5 x0 (.int (0 : Int32))) fun h3 =>
    bd (pF h3 0 6 x0 (.int (-1 : Int32))) fun h4 =>
    bd (tcv h4 x0 (fun z => m_X3_next f z)) fun h5 =>
    m_X3_lattices_57 f f h5 x0
theorem mo_X3_lattices_33 {f : Nat} : ∀ (h : CH) (x0 : Nat) (r : (Int32 × CH)), m_X3_lattices_33 f h x0 = some r → le2 h r.2 := by
  intro h x0 r hm
  rw [m_X3_lattices_33] at hm
  obtain ⟨h1, eh1, hm⟩ := bdE hm
  have lh1 := pF_le eh1
  obtain ⟨h2, eh2, hm⟩ := bdE hm
  have lh2 := pF_le eh2
  obtain ⟨h3, eh3, hm⟩ := bdE hm
  have lh3 := pF_le eh3
  obtain ⟨h4, eh4, hm⟩ := bdE hm
  have lh4 := pF_le eh4
  obtain ⟨h5, eh5, hm⟩ := bdE hm
  have lh5 := tcv_le eh5
  exact (lh1.tr (lh2.tr (lh3.tr (lh4.tr (lh5.tr (mo_X3_lattices_57  f h5 x0 _ hm))))))
def m_X3_lattices_2 (f : Nat) : Nat → CH → Nat → Int32 → Option (Int32 × CH)
  | 0, _, _, _ => none
  | n2 + 1, h, x0, x1 => if (73 : Int32) ≤ x1 then
    m_X3_lattices_33 f h x0
    else bd (oR h 0 1 x0) fun a2 =>
    bd (oR h 0 0 x0) fun a3 =>
    bd (aI h 0 a3 x1) fun v4 =>
    bd (uI h 0 a2 x1 v4) fun h5 =>
    bd (oR h5 0 0 x0) fun a6 =>
    bd (uI h5 0 a6 x1 (0 : Int32)) fun h7 =>
    nmv ((x1 + 1) : Int32) fun v8 =>
    m_X3_lattices_2 f n2 h7 x0 v8
theorem mo_X3_lattices_2 {f : Nat} : ∀ (n2 : Nat) (h : CH) (x0 : Nat) (x1 : Int32) (r : (Int32 × CH)), m_X3_lattices_2 f n2 h x0 x1 = some r → le2 h r.2 := by
  intro n2
  induction n2 with
  | zero => intro h x0 x1 r hm; rw [m_X3_lattices_2] at hm; exact noE hm
  | succ n2 ihm =>
    intro h x0 x1 r hm
    rw [m_X3_lattices_2] at hm
    by_cases c1 : (73 : Int32) ≤ x1
    · have hm := ifT hm c1
      exact (mo_X3_lattices_33  h x0 _ hm)
    · have hm := ifF hm c1
      obtain ⟨a2, ea2, hm⟩ := bdE hm
      obtain ⟨a3, ea3, hm⟩ := bdE hm
      obtain ⟨v4, ev4, hm⟩ := bdE hm
      obtain ⟨h5, eh5, hm⟩ := bdE hm
      have lh5 := uI_le eh5
      obtain ⟨a6, ea6, hm⟩ := bdE hm
      obtain ⟨h7, eh7, hm⟩ := bdE hm
      have lh7 := uI_le eh7
      obtain ⟨v8, ev8, hm⟩ := nmE hm
      exact (lh5.tr (lh7.tr (ihm h7 x0 v8 _ hm)))
def m_X3_lattices (f : Nat) (u : CH) (x0 : Nat) : Option (Int32 × CH) := m_X3_lattices_2 f f u x0 (0 : Int32)
theorem mo_X3_lattices {f : Nat} {u : CH} {x0 : Nat} {r0 : Int32} {u9 : CH} (hm : m_X3_lattices f u x0 = some (r0, u9)) : le2 u u9 := by
  rw [m_X3_lattices] at hm
  exact (mo_X3_lattices_2  f u x0 (0 : Int32) _ hm)
abbrev rm_X3_lattices (mc ms : Nat) : Room := { frames := 8, cells := mc, slots := ms, locals := 172 }
theorem cw_X3_lattices {R : Room} {s : State} {args : Array Value} {own : String} {idx mc ms : Nat} (hts : ∀ w ∈ lw_all, w.before args s = true) (hl : Cond.methodLink own idx yX3_lattices ∈ lw_all) (hR : 8 + 1 ≤ R.frames ∧ 8 + (2 + 11) + 172 ≤ R.locals) : CallW R s args own RX3 idx yX3_lattices cX3_lattices 2 (Option.some Jvm.ClassFile.FieldType.int) (ws_ yX3_lattices cX3_lattices 2 (Option.some Jvm.ClassFile.FieldType.int)) (rm_X3_lattices mc ms) mc ms 0 := cwV 0 hts (lw_V hl q1699 q1700 q125 q1701) rfl rfl rfl (by decide +kernel) hR
set_option maxHeartbeats 4000000 in
set_option maxRecDepth 100000 in
theorem w_X3_lattices (l : Launch) {D : va_G} {dA : Nat → ClassId} {A : Nat → Prop} {f : Nat} {u u9 : CH} {r0 : Int32} {x0 : Nat} (hm : m_X3_lattices f u x0 = some (r0, u9)) : Met l yX3_lattices (ws_ yX3_lattices cX3_lattices 2 (Option.some Jvm.ClassFile.FieldType.int)) (rm_X3_lattices (u9.1 - u.1) (u9.2.1 - u.2.1)) (va_Pc [.ref x0] (CPre D dA A u)) (va_Qi (fun r u => r = r0 ∧ u = u9) (CPost D dA A) A) (u9.1 - u.1) (u9.2.1 - u.2.1) A := by
  refine Met.ofW (cc := cX3_lattices) (maxL := 2) (ret := (Option.some Jvm.ClassFile.FieldType.int)) (by decide) rfl ?_
  intro p e s m args below meth c s₁ B hml hv
  have hx := B.exec
  have hb := B.bytes
  have hr := B.returns
  have hts := atoms_spec (ws := (ws_ yX3_lattices cX3_lattices 2 (Option.some Jvm.ClassFile.FieldType.int))) B.pre
  have hts : ∀ w ∈ lw_all, w.before args s = true := fun w h => hts w (List.mem_cons_of_mem _ h)
  have hown : s.vm.findClass RX3 = some m.cls := findClass_of_methodNamed B.named
  have hlocks := B.notSynchronized
  obtain ⟨hav, hv⟩ := hv
  have C : CX p s m args c cX3_lattices RX3 D dA := ⟨hx, hb, hown, hts, hv.2⟩
  have hw : CW D dA A s u s.heap [] := hv.1
  have hs0 : s.heap.size = u.1 := hv.1.1
  generalize hQ : MQ below (va_Qi (fun r u => r = r0 ∧ u = u9) (CPost D dA A) A) args s (u9.1 - u.1) (u9.2.1 - u.2.1) A = QQ
  have hent := lg_entry_eq m [.ref x0] 2
  rw [← hav] at hent
  rw [hent]
  have hl := lv_entry ([.ref x0]) (n := 2) (Nat.le_of_ble_eq_true rfl)
  generalize (lg_sl ([.ref x0]) ++ List.replicate (2 - (lg_sl ([.ref x0])).length) Slot.unset).toArray = ls at hl ⊢
  have hl : lv_has ls 2 [(0, .ref x0)] := hl
  obtain ⟨cc, ecc⟩ : ∃ z : Nat, z = 0 := ⟨0, rfl⟩
  obtain ⟨ss, ess⟩ : ∃ z : Nat, z = 0 := ⟨0, rfl⟩
  have hcc : cc + u.1 = u.1 := by omega
  have hss : ss + u.2.1 = u.2.1 := by omega
  suffices hgo : W p l e (rm_X3_lattices (u9.1 - u.1) (u9.2.1 - u.2.1)) s m args below meth c s.heap [] cc ss QQ (F0 m 0 ls []) by rw [ecc, ess] at hgo; exact hgo
  have ⟨pu, qu, _, _⟩ := mo_X3_lattices hm
  have hB184 : ∀ (h : CH) (cc ss : Nat) (H : Heap) (locs : List Loc) (ls : Array Slot), m_X3_lattices_184 f h = some (r0, u9) → CW D dA A s h H locs → cc + u.1 = h.1 → ss + u.2.1 = h.2.1 → lv_has ls 2 [] → W p l e (rm_X3_lattices (u9.1 - u.1) (u9.2.1 - u.2.1)) s m args below meth c H locs cc ss QQ (F0 m 184 ls []) := by
    intro h cc ss H locs ls hm hw hcc hss hl
    have hmo := mo_X3_lattices_184  h _ hm
    have sb_ : h.1 ≤ u9.1 := hmo.1
    have tb_ : h.2.1 ≤ u9.2.1 := hmo.2.1
    rw [m_X3_lattices_184] at hm
    refine lv_bipush (v := -4) hx hb dX3_lattices_184 (by decide) ?_
    obtain ⟨er, eh⟩ := retE hm
    have ec : cc = u9.1 - u.1 := by rw [← eh]; omega
    have es : ss = u9.2.1 - u.2.1 := by rw [← eh]; omega
    rw [ec, es, ← hQ]
    exact W.iret (v := (-4 : Int32)) hx hb hr (fun t ht hW => ⟨⟨(-4 : Int32), h, rfl, ⟨er, eh⟩, ⟨by rw [ht]; exact hw.1, by rw [ht]; exact hw.2.1⟩⟩, hw.2.2.1.F ht⟩) hw.2.2.1.2.2 dX3_lattices_186
  have hB160 : ∀ (n160 : Nat), ∀ (h : CH) (x0 : Nat) (x1 : Int32) (cc ss : Nat) (H : Heap) (locs : List Loc) (ls : Array Slot), m_X3_lattices_160 f n160 h x0 x1 = some (r0, u9) → CW D dA A s h H locs → cc + u.1 = h.1 → ss + u.2.1 = h.2.1 → lv_has ls 2 [(0, .ref x0), (1, .int x1)] → W p l e (rm_X3_lattices (u9.1 - u.1) (u9.2.1 - u.2.1)) s m args below meth c H locs cc ss QQ (F0 m 160 ls []) := by
    intro n160
    induction n160 with
    | zero => intro h x0 x1 cc ss H locs ls hm hw hcc hss hl; rw [m_X3_lattices_160] at hm; exact noE hm
    | succ n160 ih160 =>
      intro h x0 x1 cc ss H locs ls hm hw hcc hss hl
      have hmo := mo_X3_lattices_160  (n160 + 1) h x0 x1 _ hm
      have sb_ : h.1 ≤ u9.1 := hmo.1
      have tb_ : h.2.1 ≤ u9.2.1 := hmo.2.1
      rw [m_X3_lattices_160] at hm
      refine lv_iload_n hx hb dX3_lattices_160 rfl (lv_at hl 1 rfl) ?_
      refine lv_bipush (v := 73) hx hb dX3_lattices_161 (by decide) ?_
      refine lv_icmp_ge (tgt := 184) hx hb dX3_lattices_163 (by decide) (fun c1 => ?_) (fun c1 => ?_)
      · have hm := ifT hm c1
        exact hB184 h _ _ _ _ _ hm hw (by omega) (by omega) (lv_sub hl [] rfl)
      · have hm := ifF hm c1
        refine lv_aload_n hx hb dX3_lattices_166 rfl (lv_at hl 0 rfl) ?_
        obtain ⟨a2, ea2, hm⟩ := bdE hm
        refine cg_get C hw (oR_E ea2) rfl in_X3 (by decide) q1566 dX3_lattices_167 ?_
        refine lv_iload_n hx hb dX3_lattices_170 rfl (lv_at hl 1 rfl) ?_
        refine lv_aload_n hx hb dX3_lattices_171 rfl (lv_at hl 0 rfl) ?_
        obtain ⟨a3, ea3, hm⟩ := bdE hm
        refine cg_get C hw (oR_E ea3) rfl in_X3 (by decide) q1567 dX3_lattices_172 ?_
        refine lv_iload_n hx hb dX3_lattices_175 rfl (lv_at hl 1 rfl) ?_
        obtain ⟨v4, ev4, hm⟩ := bdE hm
        refine cg_iald C hw ev4 dX3_lattices_176 ?_
        obtain ⟨h5, eh5, hm⟩ := bdE hm
        refine cg_iast C hw eh5 dX3_lattices_177 (fun H locs hw => ?_)
        have zh5 := uI_sz eh5
        obtain ⟨v6, ev6, hm⟩ := nmE hm
        refine lv_iinc (v := v6) (lv' := [(1, .int v6), (0, .ref x0)]) hx hb dX3_lattices_178 hl (k := 1) rfl (by rw [ev6]; rfl) (by decide) rfl (fun ls hl => ?_)
        refine lv_goto (tgt := 160) hx hb dX3_lattices_181 (by decide) ?_
        exact ih160 h5 x0 v6 _ _ _ _ _ hm hw (by omega) (by omega) (lv_sub hl [1, 0] rfl)
  have hB146 : ∀ (h : CH) (x0 : Nat) (cc ss : Nat) (H : Heap) (locs : List Loc) (ls : Array Slot), m_X3_lattices_146 f h x0 = some (r0, u9) → CW D dA A s h H locs → cc + u.1 = h.1 → ss + u.2.1 = h.2.1 → lv_has ls 2 [(0, .ref x0)] → W p l e (rm_X3_lattices (u9.1 - u.1) (u9.2.1 - u.2.1)) s m args below meth c H locs cc ss QQ (F0 m 146 ls []) := by
    intro h x0 cc ss H locs ls hm hw hcc hss hl
    have hmo := mo_X3_lattices_146  h x0 _ hm
    have sb_ : h.1 ≤ u9.1 := hmo.1
    have tb_ : h.2.1 ≤ u9.2.1 := hmo.2.1
    rw [m_X3_lattices_146] at hm
    refine lv_aload_n hx hb dX3_lattices_146 rfl (lv_at hl 0 rfl) ?_
    refine lv_iconst (v := 0) hx hb dX3_lattices_147 (by decide) ?_
    obtain ⟨h1, eh1, hm⟩ := bdE hm
    refine cg_put C hw eh1 rfl in_X3 tyX3 tyX3_ok nmX3 (by decide) q1570 rfl rfl rfl dX3_lattices_148 (fun H locs hw => ?_)
    have zh1 := pF_sz eh1
    refine lv_aload_n hx hb dX3_lattices_151 rfl (lv_at hl 0 rfl) ?_
    obtain ⟨v2, ev2, hm⟩ := bdE hm
    refine cg_get C hw (oI_E ev2) rfl in_X3 (by decide) q1581 dX3_lattices_152 ?_
    refine lv_if_eq (tgt := 187) hx hb dX3_lattices_155 (by decide) (fun c3 => ?_) (fun c3 => ?_)
    · have hm := ifT hm c3
      refine lv_aload_n hx hb dX3_lattices_187 rfl (lv_at hl 0 rfl) ?_
      refine lv_iconst (v := 0) hx hb dX3_lattices_188 (by decide) ?_
      obtain ⟨h4, eh4, hm⟩ := bdE hm
      refine cg_put C hw eh4 rfl in_X3 tyX3 tyX3_ok nmX3 (by decide) q1573 rfl rfl rfl dX3_lattices_189 (fun H locs hw => ?_)
      have zh4 := pF_sz eh4
      refine lv_aload_n hx hb dX3_lattices_192 rfl (lv_at hl 0 rfl) ?_
      obtain ⟨a5, ea5, hm⟩ := bdE hm
      refine cg_get C hw (oR_E ea5) rfl in_X3 (by decide) q1566 dX3_lattices_193 ?_
      refine lv_iconst (v := 1) hx hb dX3_lattices_196 (by decide) ?_
      obtain ⟨v6, ev6, hm⟩ := bdE hm
      refine cg_iald C hw ev6 dX3_lattices_197 ?_
      obtain ⟨er, eh⟩ := retE hm
      have ec : cc = u9.1 - u.1 := by rw [← eh]; omega
      have es : ss = u9.2.1 - u.2.1 := by rw [← eh]; omega
      rw [ec, es, ← hQ]
      exact W.iret (v := v6) hx hb hr (fun t ht hW => ⟨⟨v6, h4, rfl, ⟨er, eh⟩, ⟨by rw [ht]; exact hw.1, by rw [ht]; exact hw.2.1⟩⟩, hw.2.2.1.F ht⟩) hw.2.2.1.2.2 dX3_lattices_198
    · have hm := ifF hm c3
      refine lv_iconst (v := 0) hx hb dX3_lattices_158 (by decide) ?_
      refine lv_istore_n (lv' := [(1, .int (0 : Int32)), (0, .ref x0)]) hx hb dX3_lattices_159 rfl hl (by decide) rfl (fun ls hl => ?_)
      exact hB160 f h1 x0 (0 : Int32) _ _ _ _ _ hm hw (by omega) (by omega) (lv_sub hl [1, 0] rfl)
  have hB57 : ∀ (n57 : Nat), ∀ (h : CH) (x0 : Nat) (cc ss : Nat) (H : Heap) (locs : List Loc) (ls : Array Slot), m_X3_lattices_57 f n57 h x0 = some (r0, u9) → CW D dA A s h H locs → cc + u.1 = h.1 → ss + u.2.1 = h.2.1 → lv_has ls 2 [(0, .ref x0)] → W p l e (rm_X3_lattices (u9.1 - u.1) (u9.2.1 - u.2.1)) s m args below meth c H locs cc ss QQ (F0 m 57 ls []) := by
    intro n57
    induction n57 with
    | zero => intro h x0 cc ss H locs ls hm hw hcc hss hl; rw [m_X3_lattices_57] at hm; exact noE hm
    | succ n57 ih57 =>
      have hB130 : ∀ (h : CH) (x0 : Nat) (y0 : Nat) (y1 : Int32) (cc ss : Nat) (H : Heap) (locs : List Loc) (ls : Array Slot), m_X3_lattices_130 f (m_X3_lattices_57 f n57) h x0 y0 y1 = some (r0, u9) → CW D dA A s h H locs → cc + u.1 = h.1 → ss + u.2.1 = h.2.1 → lv_has ls 2 [(0, .ref x0)] → W p l e (rm_X3_lattices (u9.1 - u.1) (u9.2.1 - u.2.1)) s m args below meth c H locs cc ss QQ (F0 m 130 ls [.int y1, .ref y0]) := by
        intro h x0 y0 y1 cc ss H locs ls hm hw hcc hss hl
        have hmo := mo_X3_lattices_130 (mo_X3_lattices_57 n57) h x0 y0 y1 _ hm
        have sb_ : h.1 ≤ u9.1 := hmo.1
        have tb_ : h.2.1 ≤ u9.2.1 := hmo.2.1
        rw [m_X3_lattices_130] at hm
        obtain ⟨h1, eh1, hm⟩ := bdE hm
        refine cg_tcv C hw eh1 (show cc + s.heap.size = h.1 by rw [hs0]; omega) (fun _ hk hm9 => va_runV (As := [.int y1]) (rest := []) ⟨hx, hb, hml, hown, hts⟩ (w_X3_passes l hm9) (cw_X3_passes hts q1745 ⟨Nat.le_of_ble_eq_true rfl, Nat.le_of_ble_eq_true rfl⟩) (tb_pre C hw hk _) rfl rfl hl.1 rfl (lv_room (Nat.le_of_ble_eq_true rfl)) dX3_lattices_130 ⟨show cc + 0 ≤ u9.1 - u.1 by omega, show ss + 0 ≤ u9.2.1 - u.2.1 by omega⟩) (fun H locs hw => ?_)
        have zh1 := tcv_sz eh1
        refine lv_aload_n hx hb dX3_lattices_133 rfl (lv_at hl 0 rfl) ?_
        obtain ⟨a2, ea2, hm⟩ := bdE hm
        refine cg_get C hw (oR_E ea2) rfl in_X3 (by decide) q1566 dX3_lattices_134 ?_
        refine lv_iconst (v := 1) hx hb dX3_lattices_137 (by decide) ?_
        refine lv_dup2_11 hx hb dX3_lattices_138 rfl rfl ?_
        obtain ⟨v3, ev3, hm⟩ := bdE hm
        refine cg_iald C hw ev3 dX3_lattices_139 ?_
        refine lv_iconst (v := 1) hx hb dX3_lattices_140 (by decide) ?_
        refine lv_iadd hx hb dX3_lattices_141 ?_
        obtain ⟨h4, eh4, hm⟩ := bdE hm
        refine cg_iast C hw eh4 dX3_lattices_142 (fun H locs hw => ?_)
        have zh4 := uI_sz eh4
        refine lv_goto (tgt := 57) hx hb dX3_lattices_143 (by decide) ?_
        exact ih57 h4 x0 _ _ _ _ _ hm hw (by omega) (by omega) (lv_sub hl [0] rfl)
      have hB125 : ∀ (h : CH) (x0 : Nat) (y0 : Nat) (cc ss : Nat) (H : Heap) (locs : List Loc) (ls : Array Slot), m_X3_lattices_125 f (m_X3_lattices_57 f n57) h x0 y0 = some (r0, u9) → CW D dA A s h H locs → cc + u.1 = h.1 → ss + u.2.1 = h.2.1 → lv_has ls 2 [(0, .ref x0)] → W p l e (rm_X3_lattices (u9.1 - u.1) (u9.2.1 - u.2.1)) s m args below meth c H locs cc ss QQ (F0 m 125 ls [.ref y0]) := by
        intro h x0 y0 cc ss H locs ls hm hw hcc hss hl
        have hmo := mo_X3_lattices_125 (mo_X3_lattices_57 n57) h x0 y0 _ hm
        have sb_ : h.1 ≤ u9.1 := hmo.1
        have tb_ : h.2.1 ≤ u9.2.1 := hmo.2.1
        rw [m_X3_lattices_125] at hm
        refine lv_iconst (v := 1) hx hb dX3_lattices_125 (by decide) ?_
        refine lv_goto (tgt := 130) hx hb dX3_lattices_126 (by decide) ?_
        exact hB130 h x0 y0 (1 : Int32) _ _ _ _ _ hm hw (by omega) (by omega) (lv_sub hl [0] rfl)
      have hB108 : ∀ (h : CH) (x0 : Nat) (cc ss : Nat) (H : Heap) (locs : List Loc) (ls : Array Slot), m_X3_lattices_108 f (m_X3_lattices_57 f n57) h x0 = some (r0, u9) → CW D dA A s h H locs → cc + u.1 = h.1 → ss + u.2.1 = h.2.1 → lv_has ls 2 [(0, .ref x0)] → W p l e (rm_X3_lattices (u9.1 - u.1) (u9.2.1 - u.2.1)) s m args below meth c H locs cc ss QQ (F0 m 108 ls []) := by
        intro h x0 cc ss H locs ls hm hw hcc hss hl
        have hmo := mo_X3_lattices_108 (mo_X3_lattices_57 n57) h x0 _ hm
        have sb_ : h.1 ≤ u9.1 := hmo.1
        have tb_ : h.2.1 ≤ u9.2.1 := hmo.2.1
        rw [m_X3_lattices_108] at hm
        refine lv_aload_n hx hb dX3_lattices_108 rfl (lv_at hl 0 rfl) ?_
        refine lv_aload_n hx hb dX3_lattices_109 rfl (lv_at hl 0 rfl) ?_
        obtain ⟨v1, ev1, hm⟩ := bdE hm
        refine cg_get C hw (oI_E ev1) rfl in_X3 (by decide) q1581 dX3_lattices_110 ?_
        refine lv_if_ne (tgt := 125) hx hb dX3_lattices_113 (by decide) (fun c2 => ?_) (fun c2 => ?_)
        · have hm := ifT hm c2
          exact hB125 h x0 x0 _ _ _ _ _ hm hw (by omega) (by omega) (lv_sub hl [0] rfl)
        · have hm := ifT' hm c2
          refine lv_aload_n hx hb dX3_lattices_116 rfl (lv_at hl 0 rfl) ?_
          refine lv_bipush (v := 59) hx hb dX3_lattices_117 (by decide) ?_
          obtain ⟨r4, h3, er4, hm⟩ := bd2E hm
          refine cg_tci C hw er4 (show cc + s.heap.size = h.1 by rw [hs0]; omega) (fun _ hk hm9 => va_runV (As := [.int (59 : Int32)]) (rest := [.ref x0]) ⟨hx, hb, hml, hown, hts⟩ (w_X3_isSign l hm9) (cw_X3_isSign hts q1764 ⟨Nat.le_of_ble_eq_true rfl, Nat.le_of_ble_eq_true rfl⟩) (tb_pre C hw hk _) rfl rfl hl.1 rfl (lv_room (Nat.le_of_ble_eq_true rfl)) dX3_lattices_119 ⟨show cc + 0 ≤ u9.1 - u.1 by omega, show ss + 0 ≤ u9.2.1 - u.2.1 by omega⟩) (fun H locs hw => ?_)
          have zh3 := tcr_sz er4
          refine lv_if_eq (tgt := 129) hx hb dX3_lattices_122 (by decide) (fun c5 => ?_) (fun c5 => ?_)
          · have hm := ifT hm c5
            refine lv_iconst (v := 0) hx hb dX3_lattices_129 (by decide) ?_
            exact hB130 h3 x0 x0 (0 : Int32) _ _ _ _ _ hm hw (by omega) (by omega) (lv_sub hl [0] rfl)
          · have hm := ifF hm c5
            exact hB125 h3 x0 x0 _ _ _ _ _ hm hw (by omega) (by omega) (lv_sub hl [0] rfl)
      have hB100 : ∀ (h : CH) (x0 : Nat) (cc ss : Nat) (H : Heap) (locs : List Loc) (ls : Array Slot), m_X3_lattices_100 f (m_X3_lattices_57 f n57) h x0 = some (r0, u9) → CW D dA A s h H locs → cc + u.1 = h.1 → ss + u.2.1 = h.2.1 → lv_has ls 2 [(0, .ref x0)] → W p l e (rm_X3_lattices (u9.1 - u.1) (u9.2.1 - u.2.1)) s m args below meth c H locs cc ss QQ (F0 m 100 ls []) := by
        intro h x0 cc ss H locs ls hm hw hcc hss hl
        have hmo := mo_X3_lattices_100 (mo_X3_lattices_57 n57) h x0 _ hm
        have sb_ : h.1 ≤ u9.1 := hmo.1
        have tb_ : h.2.1 ≤ u9.2.1 := hmo.2.1
        rw [m_X3_lattices_100] at hm
        refine lv_goto (tgt := 108) hx hb dX3_lattices_100 (by decide) ?_
        exact hB108 h x0 _ _ _ _ _ hm hw (by omega) (by omega) (lv_sub hl [0] rfl)
      have hB93 : ∀ (h : CH) (x0 : Nat) (y0 : Int32) (cc ss : Nat) (H : Heap) (locs : List Loc) (ls : Array Slot), m_X3_lattices_93 f (m_X3_lattices_57 f n57) h x0 y0 = some (r0, u9) → CW D dA A s h H locs → cc + u.1 = h.1 → ss + u.2.1 = h.2.1 → lv_has ls 2 [(0, .ref x0)] → W p l e (rm_X3_lattices (u9.1 - u.1) (u9.2.1 - u.2.1)) s m args below meth c H locs cc ss QQ (F0 m 93 ls [.int y0]) := by
        intro h x0 y0 cc ss H locs ls hm hw hcc hss hl
        have hmo := mo_X3_lattices_93 (mo_X3_lattices_57 n57) h x0 y0 _ hm
        have sb_ : h.1 ≤ u9.1 := hmo.1
        have tb_ : h.2.1 ≤ u9.2.1 := hmo.2.1
        rw [m_X3_lattices_93] at hm
        refine lv_if_eq (tgt := 103) hx hb dX3_lattices_93 (by decide) (fun c1 => ?_) (fun c1 => ?_)
        · have hm := ifT hm c1
          refine lv_aload_n hx hb dX3_lattices_103 rfl (lv_at hl 0 rfl) ?_
          refine lv_iconst (v := 1) hx hb dX3_lattices_104 (by decide) ?_
          obtain ⟨h2, eh2, hm⟩ := bdE hm
          refine cg_tcv C hw eh2 (show cc + s.heap.size = h.1 by rw [hs0]; omega) (fun _ hk hm9 => va_runV (As := [.int (1 : Int32)]) (rest := []) ⟨hx, hb, hml, hown, hts⟩ (w_X3_faults l hm9) (cw_X3_faults hts q1741 ⟨Nat.le_of_ble_eq_true rfl, Nat.le_of_ble_eq_true rfl⟩) (tb_pre C hw hk _) rfl rfl hl.1 rfl (lv_room (Nat.le_of_ble_eq_true rfl)) dX3_lattices_105 ⟨show cc + 0 ≤ u9.1 - u.1 by omega, show ss + 0 ≤ u9.2.1 - u.2.1 by omega⟩) (fun H locs hw => ?_)
          have zh2 := tcv_sz eh2
          exact hB108 h2 x0 _ _ _ _ _ hm hw (by omega) (by omega) (lv_sub hl [0] rfl)
        · have hm := ifF hm c1
          refine lv_aload_n hx hb dX3_lattices_96 rfl (lv_at hl 0 rfl) ?_
          obtain ⟨g3, hm⟩ := gdE hm
          obtain ⟨h4, eh4, hm⟩ := bdE hm
          have lh4 := mo_X3_readsTurn eh4
          have ph4 : h.1 ≤ h4.1 := lh4.1
          have qh4 : h.2.1 ≤ h4.2.1 := lh4.2.1
          have hmo := mo_X3_lattices_100 (mo_X3_lattices_57 n57)  h4 x0 _ hm
          have sh4 : h4.1 ≤ u9.1 := hmo.1
          have th4 : h4.2.1 ≤ u9.2.1 := hmo.2.1
          refine cg_callv hw lh4 (va_runV (As := []) (rest := []) ⟨hx, hb, hml, hown, hts⟩ (w_X3_readsTurn l eh4) (cw_X3_readsTurn hts q1776 ⟨Nat.le_of_ble_eq_true rfl, Nat.le_of_ble_eq_true rfl⟩) (cg_preV C hw g3 rfl _) rfl rfl hl.1 rfl (lv_room (Nat.le_of_ble_eq_true rfl)) dX3_lattices_97 ⟨show cc + (h4.1 - h.1) ≤ u9.1 - u.1 by omega, show ss + (h4.2.1 - h.2.1) ≤ u9.2.1 - u.2.1 by omega⟩) (fun H locs hw => ?_)
          exact hB100 h4 x0 _ _ _ _ _ hm hw (by omega) (by omega) (lv_sub hl [0] rfl)
      have hB84 : ∀ (h : CH) (x0 : Nat) (cc ss : Nat) (H : Heap) (locs : List Loc) (ls : Array Slot), m_X3_lattices_84 f (m_X3_lattices_57 f n57) h x0 = some (r0, u9) → CW D dA A s h H locs → cc + u.1 = h.1 → ss + u.2.1 = h.2.1 → lv_has ls 2 [(0, .ref x0)] → W p l e (rm_X3_lattices (u9.1 - u.1) (u9.2.1 - u.2.1)) s m args below meth c H locs cc ss QQ (F0 m 84 ls []) := by
        intro h x0 cc ss H locs ls hm hw hcc hss hl
        have hmo := mo_X3_lattices_84 (mo_X3_lattices_57 n57) h x0 _ hm
        have sb_ : h.1 ≤ u9.1 := hmo.1
        have tb_ : h.2.1 ≤ u9.2.1 := hmo.2.1
        rw [m_X3_lattices_84] at hm
        refine lv_goto (tgt := 108) hx hb dX3_lattices_84 (by decide) ?_
        exact hB108 h x0 _ _ _ _ _ hm hw (by omega) (by omega) (lv_sub hl [0] rfl)
      have hB77 : ∀ (h : CH) (x0 : Nat) (y0 : Int32) (cc ss : Nat) (H : Heap) (locs : List Loc) (ls : Array Slot), m_X3_lattices_77 f (m_X3_lattices_57 f n57) h x0 y0 = some (r0, u9) → CW D dA A s h H locs → cc + u.1 = h.1 → ss + u.2.1 = h.2.1 → lv_has ls 2 [(0, .ref x0)] → W p l e (rm_X3_lattices (u9.1 - u.1) (u9.2.1 - u.2.1)) s m args below meth c H locs cc ss QQ (F0 m 77 ls [.int y0]) := by
        intro h x0 y0 cc ss H locs ls hm hw hcc hss hl
        have hmo := mo_X3_lattices_77 (mo_X3_lattices_57 n57) h x0 y0 _ hm
        have sb_ : h.1 ≤ u9.1 := hmo.1
        have tb_ : h.2.1 ≤ u9.2.1 := hmo.2.1
        rw [m_X3_lattices_77] at hm
        refine lv_if_eq (tgt := 87) hx hb dX3_lattices_77 (by decide) (fun c1 => ?_) (fun c1 => ?_)
        · have hm := ifT hm c1
          refine lv_aload_n hx hb dX3_lattices_87 rfl (lv_at hl 0 rfl) ?_
          obtain ⟨a2, ea2, hm⟩ := bdE hm
          refine cg_ldcs C hw (i := 7) ea2 rfl dX3_lattices_88 ?_
          obtain ⟨g3, hm⟩ := gdE hm
          obtain ⟨r5, h4, er5, hm⟩ := bd2E hm
          have lh4 := mo_X3_isWord er5
          have ph4 : h.1 ≤ h4.1 := lh4.1
          have qh4 : h.2.1 ≤ h4.2.1 := lh4.2.1
          have hmo := mo_X3_lattices_93 (mo_X3_lattices_57 n57)  h4 x0 r5 _ hm
          have sh4 : h4.1 ≤ u9.1 := hmo.1
          have th4 : h4.2.1 ≤ u9.2.1 := hmo.2.1
          refine cg_calli hw lh4 (va_runV (As := [.ref a2]) (rest := []) ⟨hx, hb, hml, hown, hts⟩ (w_X3_isWord l er5) (cw_X3_isWord hts q1713 ⟨Nat.le_of_ble_eq_true rfl, Nat.le_of_ble_eq_true rfl⟩) (cg_preV C hw g3 rfl _) rfl rfl hl.1 rfl (lv_room (Nat.le_of_ble_eq_true rfl)) dX3_lattices_90 ⟨show cc + (h4.1 - h.1) ≤ u9.1 - u.1 by omega, show ss + (h4.2.1 - h.2.1) ≤ u9.2.1 - u.2.1 by omega⟩) (fun H locs hw => ?_)
          exact hB93 h4 x0 r5 _ _ _ _ _ hm hw (by omega) (by omega) (lv_sub hl [0] rfl)
        · have hm := ifF hm c1
          refine lv_aload_n hx hb dX3_lattices_80 rfl (lv_at hl 0 rfl) ?_
          obtain ⟨g6, hm⟩ := gdE hm
          obtain ⟨h7, eh7, hm⟩ := bdE hm
          have lh7 := mo_X3_readsLattice eh7
          have ph7 : h.1 ≤ h7.1 := lh7.1
          have qh7 : h.2.1 ≤ h7.2.1 := lh7.2.1
          have hmo := mo_X3_lattices_84 (mo_X3_lattices_57 n57)  h7 x0 _ hm
          have sh7 : h7.1 ≤ u9.1 := hmo.1
          have th7 : h7.2.1 ≤ u9.2.1 := hmo.2.1
          refine cg_callv hw lh7 (va_runV (As := []) (rest := []) ⟨hx, hb, hml, hown, hts⟩ (w_X3_readsLattice l eh7) (cw_X3_readsLattice hts q1733 ⟨Nat.le_of_ble_eq_true rfl, Nat.le_of_ble_eq_true rfl⟩) (cg_preV C hw g6 rfl _) rfl rfl hl.1 rfl (lv_room (Nat.le_of_ble_eq_true rfl)) dX3_lattices_81 ⟨show cc + (h7.1 - h.1) ≤ u9.1 - u.1 by omega, show ss + (h7.2.1 - h.2.1) ≤ u9.2.1 - u.2.1 by omega⟩) (fun H locs hw => ?_)
          exact hB84 h7 x0 _ _ _ _ _ hm hw (by omega) (by omega) (lv_sub hl [0] rfl)
      intro h x0 cc ss H locs ls hm hw hcc hss hl
      have hmo := mo_X3_lattices_57  (n57 + 1) h x0 _ hm
      have sb_ : h.1 ≤ u9.1 := hmo.1
      have tb_ : h.2.1 ≤ u9.2.1 := hmo.2.1
      rw [m_X3_lattices_57] at hm
      refine lv_aload_n hx hb dX3_lattices_57 rfl (lv_at hl 0 rfl) ?_
      obtain ⟨v1, ev1, hm⟩ := bdE hm
      refine cg_get C hw (oI_E ev1) rfl in_X3 (by decide) q1581 dX3_lattices_58 ?_
      refine lv_if_ne (tgt := 146) hx hb dX3_lattices_61 (by decide) (fun c2 => ?_) (fun c2 => ?_)
      · have hm := ifT hm c2
        exact hB146 h x0 _ _ _ _ _ hm hw (by omega) (by omega) (lv_sub hl [0] rfl)
      · have hm := ifT' hm c2
        refine lv_aload_n hx hb dX3_lattices_64 rfl (lv_at hl 0 rfl) ?_
        obtain ⟨v3, ev3, hm⟩ := bdE hm
        refine cg_get C hw (oI_E ev3) rfl in_X3 (by decide) q1579 dX3_lattices_65 ?_
        refine lv_if_eq (tgt := 146) hx hb dX3_lattices_68 (by decide) (fun c4 => ?_) (fun c4 => ?_)
        · have hm := ifT hm c4
          exact hB146 h x0 _ _ _ _ _ hm hw (by omega) (by omega) (lv_sub hl [0] rfl)
        · have hm := ifF hm c4
          refine lv_aload_n hx hb dX3_lattices_71 rfl (lv_at hl 0 rfl) ?_
          obtain ⟨a5, ea5, hm⟩ := bdE hm
          refine cg_ldcs C hw (i := 6) ea5 rfl dX3_lattices_72 ?_
          obtain ⟨g6, hm⟩ := gdE hm
          obtain ⟨r8, h7, er8, hm⟩ := bd2E hm
          have lh7 := mo_X3_isWord er8
          have ph7 : h.1 ≤ h7.1 := lh7.1
          have qh7 : h.2.1 ≤ h7.2.1 := lh7.2.1
          have hmo := mo_X3_lattices_77 (mo_X3_lattices_57 n57)  h7 x0 r8 _ hm
          have sh7 : h7.1 ≤ u9.1 := hmo.1
          have th7 : h7.2.1 ≤ u9.2.1 := hmo.2.1
          refine cg_calli hw lh7 (va_runV (As := [.ref a5]) (rest := []) ⟨hx, hb, hml, hown, hts⟩ (w_X3_isWord l er8) (cw_X3_isWord hts q1713 ⟨Nat.le_of_ble_eq_true rfl, Nat.le_of_ble_eq_true rfl⟩) (cg_preV C hw g6 rfl _) rfl rfl hl.1 rfl (lv_room (Nat.le_of_ble_eq_true rfl)) dX3_lattices_74 ⟨show cc + (h7.1 - h.1) ≤ u9.1 - u.1 by omega, show ss + (h7.2.1 - h.2.1) ≤ u9.2.1 - u.2.1 by omega⟩) (fun H locs hw => ?_)
          exact hB77 h7 x0 r8 _ _ _ _ _ hm hw (by omega) (by omega) (lv_sub hl [0] rfl)
  have hB33 : ∀ (h : CH) (x0 : Nat) (cc ss : Nat) (H : Heap) (locs : List Loc) (ls : Array Slot), m_X3_lattices_33 f h x0 = some (r0, u9) → CW D dA A s h H locs → cc + u.1 = h.1 → ss + u.2.1 = h.2.1 → lv_has ls 2 [(0, .ref x0)] → W p l e (rm_X3_lattices (u9.1 - u.1) (u9.2.1 - u.2.1)) s m args below meth c H locs cc ss QQ (F0 m 33 ls []) := by
    intro h x0 cc ss H locs ls hm hw hcc hss hl
    have hmo := mo_X3_lattices_33  h x0 _ hm
    have sb_ : h.1 ≤ u9.1 := hmo.1
    have tb_ : h.2.1 ≤ u9.2.1 := hmo.2.1
    rw [m_X3_lattices_33] at hm
    refine lv_aload_n hx hb dX3_lattices_33 rfl (lv_at hl 0 rfl) ?_
    refine lv_iconst (v := 0) hx hb dX3_lattices_34 (by decide) ?_
    obtain ⟨h1, eh1, hm⟩ := bdE hm
    refine cg_put C hw eh1 rfl in_X3 tyX3 tyX3_ok nmX3 (by decide) q1577 rfl rfl rfl dX3_lattices_35 (fun H locs hw => ?_)
    have zh1 := pF_sz eh1
    refine lv_aload_n hx hb dX3_lattices_38 rfl (lv_at hl 0 rfl) ?_
    refine lv_iconst (v := 0) hx hb dX3_lattices_39 (by decide) ?_
    obtain ⟨h2, eh2, hm⟩ := bdE hm
    refine cg_put C hw eh2 rfl in_X3 tyX3 tyX3_ok nmX3 (by decide) q1581 rfl rfl rfl dX3_lattices_40 (fun H locs hw => ?_)
    have zh2 := pF_sz eh2
    refine lv_aload_n hx hb dX3_lattices_43 rfl (lv_at hl 0 rfl) ?_
    refine lv_iconst (v := 0) hx hb dX3_lattices_44 (by decide) ?_
    obtain ⟨h3, eh3, hm⟩ := bdE hm
    refine cg_put C hw eh3 rfl in_X3 tyX3 tyX3_ok nmX3 (by decide) q1571 rfl rfl rfl dX3_lattices_45 (fun H locs hw => ?_)
    have zh3 := pF_sz eh3
    refine lv_aload_n hx hb dX3_lattices_48 rfl (lv_at hl 0 rfl) ?_
    refine lv_iconst (v := -1) hx hb dX3_lattices_49 (by decide) ?_
    obtain ⟨h4, eh4, hm⟩ := bdE hm
    refine cg_put C hw eh4 rfl in_X3 tyX3 tyX3_ok nmX3 (by decide) q1572 rfl rfl rfl dX3_lattices_50 (fun H locs hw => ?_)
    have zh4 := pF_sz eh4
    refine lv_aload_n hx hb dX3_lattices_53 rfl (lv_at hl 0 rfl) ?_
    obtain ⟨h5, eh5, hm⟩ := bdE hm
    refine cg_tcv C hw eh5 (show cc + s.heap.size = h4.1 by rw [hs0]; omega) (fun _ hk hm9 => va_runV (As := []) (rest := []) ⟨hx, hb, hml, hown, hts⟩ (w_X3_next l hm9) (cw_X3_next hts q1702 ⟨Nat.le_of_ble_eq_true rfl, Nat.le_of_ble_eq_true rfl⟩) (tb_pre C hw hk _) rfl rfl hl.1 rfl (lv_room (Nat.le_of_ble_eq_true rfl)) dX3_lattices_54 ⟨show cc + 0 ≤ u9.1 - u.1 by omega, show ss + 0 ≤ u9.2.1 - u.2.1 by omega⟩) (fun H locs hw => ?_)
    have zh5 := tcv_sz eh5
    exact hB57 f h5 x0 _ _ _ _ _ hm hw (by omega) (by omega) (lv_sub hl [0] rfl)
  have hB2 : ∀ (n2 : Nat), ∀ (h : CH) (x0 : Nat) (x1 : Int32) (cc ss : Nat) (H : Heap) (locs : List Loc) (ls : Array Slot), m_X3_lattices_2 f n2 h x0 x1 = some (r0, u9) → CW D dA A s h H locs → cc + u.1 = h.1 → ss + u.2.1 = h.2.1 → lv_has ls 2 [(0, .ref x0), (1, .int x1)] → W p l e (rm_X3_lattices (u9.1 - u.1) (u9.2.1 - u.2.1)) s m args below meth c H locs cc ss QQ (F0 m 2 ls []) := by
    intro n2
    induction n2 with
    | zero => intro h x0 x1 cc ss H locs ls hm hw hcc hss hl; rw [m_X3_lattices_2] at hm; exact noE hm
    | succ n2 ih2 =>
      intro h x0 x1 cc ss H locs ls hm hw hcc hss hl
      have hmo := mo_X3_lattices_2  (n2 + 1) h x0 x1 _ hm
      have sb_ : h.1 ≤ u9.1 := hmo.1
      have tb_ : h.2.1 ≤ u9.2.1 := hmo.2.1
      rw [m_X3_lattices_2] at hm
      refine lv_iload_n hx hb dX3_lattices_2 rfl (lv_at hl 1 rfl) ?_
      refine lv_bipush (v := 73) hx hb dX3_lattices_3 (by decide) ?_
      refine lv_icmp_ge (tgt := 33) hx hb dX3_lattices_5 (by decide) (fun c1 => ?_) (fun c1 => ?_)
      · have hm := ifT hm c1
        exact hB33 h x0 _ _ _ _ _ hm hw (by omega) (by omega) (lv_sub hl [0] rfl)
      · have hm := ifF hm c1
        refine lv_aload_n hx hb dX3_lattices_8 rfl (lv_at hl 0 rfl) ?_
        obtain ⟨a2, ea2, hm⟩ := bdE hm
        refine cg_get C hw (oR_E ea2) rfl in_X3 (by decide) q1567 dX3_lattices_9 ?_
        refine lv_iload_n hx hb dX3_lattices_12 rfl (lv_at hl 1 rfl) ?_
        refine lv_aload_n hx hb dX3_lattices_13 rfl (lv_at hl 0 rfl) ?_
        obtain ⟨a3, ea3, hm⟩ := bdE hm
        refine cg_get C hw (oR_E ea3) rfl in_X3 (by decide) q1566 dX3_lattices_14 ?_
        refine lv_iload_n hx hb dX3_lattices_17 rfl (lv_at hl 1 rfl) ?_
        obtain ⟨v4, ev4, hm⟩ := bdE hm
        refine cg_iald C hw ev4 dX3_lattices_18 ?_
        obtain ⟨h5, eh5, hm⟩ := bdE hm
        refine cg_iast C hw eh5 dX3_lattices_19 (fun H locs hw => ?_)
        have zh5 := uI_sz eh5
        refine lv_aload_n hx hb dX3_lattices_20 rfl (lv_at hl 0 rfl) ?_
        obtain ⟨a6, ea6, hm⟩ := bdE hm
        refine cg_get C hw (oR_E ea6) rfl in_X3 (by decide) q1566 dX3_lattices_21 ?_
        refine lv_iload_n hx hb dX3_lattices_24 rfl (lv_at hl 1 rfl) ?_
        refine lv_iconst (v := 0) hx hb dX3_lattices_25 (by decide) ?_
        obtain ⟨h7, eh7, hm⟩ := bdE hm
        refine cg_iast C hw eh7 dX3_lattices_26 (fun H locs hw => ?_)
        have zh7 := uI_sz eh7
        obtain ⟨v8, ev8, hm⟩ := nmE hm
        refine lv_iinc (v := v8) (lv' := [(1, .int v8), (0, .ref x0)]) hx hb dX3_lattices_27 hl (k := 1) rfl (by rw [ev8]; rfl) (by decide) rfl (fun ls hl => ?_)
        refine lv_goto (tgt := 2) hx hb dX3_lattices_30 (by decide) ?_
        exact ih2 h7 x0 v8 _ _ _ _ _ hm hw (by omega) (by omega) (lv_sub hl [1, 0] rfl)
  rw [m_X3_lattices] at hm
  refine lv_iconst (v := 0) hx hb dX3_lattices_0 (by decide) ?_
  refine lv_istore_n (lv' := [(1, .int (0 : Int32)), (0, .ref x0)]) hx hb dX3_lattices_1 rfl hl (by decide) rfl (fun ls hl => ?_)
  exact hB2 f u x0 (0 : Int32) _ _ _ _ _ hm hw (by omega) (by omega) (lv_sub hl [1, 0] rfl)
def m_X3_goesBy_184 (f : Nat) (h : CH) : Option (Int32 × CH) := some ((1 : Int32), h)
theorem mo_X3_goesBy_184 {f : Nat} : ∀ (h : CH) (r : (Int32 × CH)), m_X3_goesBy_184 f h = some r → le2 h r.2 := by
  intro h r hm
  rw [m_X3_goesBy_184] at hm
  cases hm
  exact le2.rf
def m_X3_goesBy_176 (f : Nat) (h : CH) : Option (Int32 × CH) := some ((0 : Int32), h)
theorem mo_X3_goesBy_176 {f : Nat} : ∀ (h : CH) (r : (Int32 × CH)), m_X3_goesBy_176 f h = some r → le2 h r.2 := by
  intro h r hm
  rw [m_X3_goesBy_176] at hm
  cases hm
  exact le2.rf
def m_X3_goesBy_155 (f : Nat) (k76 : CH → Nat → Int32 → Int64 → Nat → Int32 → Option (Int32 × CH)) (h : CH) (x0 : Nat) (x1 : Int32) (x6 : Int64) (x8 : Nat) (x9 : Int32) : Option (Int32 × CH) := bd (aL h 1 x8 (0 : Int32)) fun v1 =>
    bd (aL h 1 x8 (1 : Int32)) fun v2 =>
    bd (aL h 1 x8 (2 : Int32)) fun v3 =>
    bd2 (tcr h x0 (fun z => m_X3_hasPoint f z v1 v2 v3 x6)) fun r5 h4 =>
    if ¬ r5 = 0 then
    nmv ((x9 + 1) : Int32) fun v7 =>
    k76 h4 x0 x1 x6 x8 v7
    else m_X3_goesBy_176 f h4
theorem mo_X3_goesBy_155 {f : Nat} {k76 : CH → Nat → Int32 → Int64 → Nat → Int32 → Option (Int32 × CH)} (hk76 : ∀ (h : CH) (x0 : Nat) (x1 : Int32) (x6 : Int64) (x8 : Nat) (x9 : Int32) (r : (Int32 × CH)), k76 h x0 x1 x6 x8 x9 = some r → le2 h r.2) : ∀ (h : CH) (x0 : Nat) (x1 : Int32) (x6 : Int64) (x8 : Nat) (x9 : Int32) (r : (Int32 × CH)), m_X3_goesBy_155 f k76 h x0 x1 x6 x8 x9 = some r → le2 h r.2 := by
  intro h x0 x1 x6 x8 x9 r hm
  rw [m_X3_goesBy_155] at hm
  obtain ⟨v1, ev1, hm⟩ := bdE hm
  obtain ⟨v2, ev2, hm⟩ := bdE hm
  obtain ⟨v3, ev3, hm⟩ := bdE hm
  obtain ⟨r5, h4, er5, hm⟩ := bd2E hm
  have lh4 := tcr_le er5
  by_cases c6 : ¬ r5 = 0
  · have hm := ifT hm c6
    obtain ⟨v7, ev7, hm⟩ := nmE hm
    exact (lh4.tr (hk76 h4 x0 x1 x6 x8 v7 _ hm))
  · have hm := ifF hm c6
    exact (lh4.tr (mo_X3_goesBy_176  h4 _ hm))
def m_X3_goesBy_148 (f : Nat) (k76 : CH → Nat → Int32 → Int64 → Nat → Int32 → Option (Int32 × CH)) (k85 : CH → Nat → Int32 → Int64 → Nat → Int32 → Int32 → Option (Int32 × CH)) (h : CH) (x0 : Nat) (x1 : Int32) (x6 : Int64) (x8 : Nat) (x9 : Int32) (x10 : Int32) (y0 : Nat) (y1 : Int32) (y2 : Int64) : Option (Int32 × CH) := bd (uL h 1 y0 y1 y2) fun h1 =>
    nmv ((x10 + 1) : Int32) fun v2 =>
    k85 h1 x0 x1 x6 x8 x9 v2
theorem mo_X3_goesBy_148 {f : Nat} {k76 : CH → Nat → Int32 → Int64 → Nat → Int32 → Option (Int32 × CH)} (hk76 : ∀ (h : CH) (x0 : Nat) (x1 : Int32) (x6 : Int64) (x8 : Nat) (x9 : Int32) (r : (Int32 × CH)), k76 h x0 x1 x6 x8 x9 = some r → le2 h r.2) {k85 : CH → Nat → Int32 → Int64 → Nat → Int32 → Int32 → Option (Int32 × CH)} (hk85 : ∀ (h : CH) (x0 : Nat) (x1 : Int32) (x6 : Int64) (x8 : Nat) (x9 : Int32) (x10 : Int32) (r : (Int32 × CH)), k85 h x0 x1 x6 x8 x9 x10 = some r → le2 h r.2) : ∀ (h : CH) (x0 : Nat) (x1 : Int32) (x6 : Int64) (x8 : Nat) (x9 : Int32) (x10 : Int32) (y0 : Nat) (y1 : Int32) (y2 : Int64) (r : (Int32 × CH)), m_X3_goesBy_148 f k76 k85 h x0 x1 x6 x8 x9 x10 y0 y1 y2 = some r → le2 h r.2 := by
  intro h x0 x1 x6 x8 x9 x10 y0 y1 y2 r hm
  rw [m_X3_goesBy_148] at hm
  obtain ⟨h1, eh1, hm⟩ := bdE hm
  have lh1 := uL_le eh1
  obtain ⟨v2, ev2, hm⟩ := nmE hm
  exact (lh1.tr (hk85 h1 x0 x1 x6 x8 x9 v2 _ hm))
def m_X3_goesBy_114 (f : Nat) (k76 : CH → Nat → Int32 → Int64 → Nat → Int32 → Option (Int32 × CH)) (k85 : CH → Nat → Int32 → Int64 → Nat → Int32 → Int32 → Option (Int32 × CH)) (h : CH) (x0 : Nat) (x1 : Int32) (x6 : Int64) (x8 : Nat) (x9 : Int32) (x10 : Int32) (y0 : Nat) (y1 : Int32) (y2 : Int32) : Option (Int32 × CH) := bd (aL h 1 y0 ((y1 + y2) - (48 : Int32))) fun v1 =>
    if ¬ (((rmI x1 (8 : Int32)) >>> (((2 : Int32) - x10) &&& 31)) &&& (1 : Int32)) = (1 : Int32) then
    m_X3_goesBy_148 f k76 k85 h x0 x1 x6 x8 x9 x10 x8 x10 v1
    else m_X3_goesBy_148 f k76 k85 h x0 x1 x6 x8 x9 x10 x8 x10 (-v1)
theorem mo_X3_goesBy_114 {f : Nat} {k76 : CH → Nat → Int32 → Int64 → Nat → Int32 → Option (Int32 × CH)} (hk76 : ∀ (h : CH) (x0 : Nat) (x1 : Int32) (x6 : Int64) (x8 : Nat) (x9 : Int32) (r : (Int32 × CH)), k76 h x0 x1 x6 x8 x9 = some r → le2 h r.2) {k85 : CH → Nat → Int32 → Int64 → Nat → Int32 → Int32 → Option (Int32 × CH)} (hk85 : ∀ (h : CH) (x0 : Nat) (x1 : Int32) (x6 : Int64) (x8 : Nat) (x9 : Int32) (x10 : Int32) (r : (Int32 × CH)), k85 h x0 x1 x6 x8 x9 x10 = some r → le2 h r.2) : ∀ (h : CH) (x0 : Nat) (x1 : Int32) (x6 : Int64) (x8 : Nat) (x9 : Int32) (x10 : Int32) (y0 : Nat) (y1 : Int32) (y2 : Int32) (r : (Int32 × CH)), m_X3_goesBy_114 f k76 k85 h x0 x1 x6 x8 x9 x10 y0 y1 y2 = some r → le2 h r.2 := by
  intro h x0 x1 x6 x8 x9 x10 y0 y1 y2 r hm
  rw [m_X3_goesBy_114] at hm
  obtain ⟨v1, ev1, hm⟩ := bdE hm
  by_cases c2 : ¬ (((rmI x1 (8 : Int32)) >>> (((2 : Int32) - x10) &&& 31)) &&& (1 : Int32)) = (1 : Int32)
  · have hm := ifT hm c2
    exact (mo_X3_goesBy_148 hk76 hk85 h x0 x1 x6 x8 x9 x10 x8 x10 v1 _ hm)
  · have hm := ifF hm c2
    exact (mo_X3_goesBy_148 hk76 hk85 h x0 x1 x6 x8 x9 x10 x8 x10 (-v1) _ hm)
def m_X3_goesBy_85 (f : Nat) (k76 : CH → Nat → Int32 → Int64 → Nat → Int32 → Option (Int32 × CH)) : Nat → CH → Nat → Int32 → Int64 → Nat → Int32 → Int32 → Option (Int32 × CH)
  | 0, _, _, _, _, _, _, _ => none
  | n85 + 1, h, x0, x1, x6, x8, x9, x10 => if (3 : Int32) ≤ x10 then
    m_X3_goesBy_155 f k76 h x0 x1 x6 x8 x9
    else bd (oR h 0 27 x0) fun a2 =>
    bd (sR h (20 + 10)) fun a3 =>
    gd (isC h a3 19) <|
    bd2 (m_J6_charAt f h a3 (((3 : Int32) * (x1 / (8 : Int32))) + x10)) fun r6 h5 =>
    m_X3_goesBy_114 f k76 (m_X3_goesBy_85 f k76 n85) h5 x0 x1 x6 x8 x9 x10 a2 ((3 : Int32) * x9) r6
theorem mo_X3_goesBy_85 {f : Nat} {k76 : CH → Nat → Int32 → Int64 → Nat → Int32 → Option (Int32 × CH)} (hk76 : ∀ (h : CH) (x0 : Nat) (x1 : Int32) (x6 : Int64) (x8 : Nat) (x9 : Int32) (r : (Int32 × CH)), k76 h x0 x1 x6 x8 x9 = some r → le2 h r.2) : ∀ (n85 : Nat) (h : CH) (x0 : Nat) (x1 : Int32) (x6 : Int64) (x8 : Nat) (x9 : Int32) (x10 : Int32) (r : (Int32 × CH)), m_X3_goesBy_85 f k76 n85 h x0 x1 x6 x8 x9 x10 = some r → le2 h r.2 := by
  intro n85
  induction n85 with
  | zero => intro h x0 x1 x6 x8 x9 x10 r hm; rw [m_X3_goesBy_85] at hm; exact noE hm
  | succ n85 ihm =>
    intro h x0 x1 x6 x8 x9 x10 r hm
    rw [m_X3_goesBy_85] at hm
    by_cases c1 : (3 : Int32) ≤ x10
    · have hm := ifT hm c1
      exact (mo_X3_goesBy_155 hk76 h x0 x1 x6 x8 x9 _ hm)
    · have hm := ifF hm c1
      obtain ⟨a2, ea2, hm⟩ := bdE hm
      obtain ⟨a3, ea3, hm⟩ := bdE hm
      obtain ⟨g4, hm⟩ := gdE hm
      obtain ⟨r6, h5, er6, hm⟩ := bd2E hm
      have lh5 := mo_J6_charAt er6
      exact (lh5.tr (mo_X3_goesBy_114 hk76 ihm h5 x0 x1 x6 x8 x9 x10 a2 ((3 : Int32) * x9) r6 _ hm))
def m_X3_goesBy_76 (f : Nat) : Nat → CH → Nat → Int32 → Int64 → Nat → Int32 → Option (Int32 × CH)
  | 0, _, _, _, _, _, _ => none
  | n76 + 1, h, x0, x1, x6, x8, x9 => if (3 : Int32) ≤ x9 then
    m_X3_goesBy_184 f h
    else m_X3_goesBy_85 f (m_X3_goesBy_76 f n76) f h x0 x1 x6 x8 x9 (0 : Int32)
theorem mo_X3_goesBy_76 {f : Nat} : ∀ (n76 : Nat) (h : CH) (x0 : Nat) (x1 : Int32) (x6 : Int64) (x8 : Nat) (x9 : Int32) (r : (Int32 × CH)), m_X3_goesBy_76 f n76 h x0 x1 x6 x8 x9 = some r → le2 h r.2 := by
  intro n76
  induction n76 with
  | zero => intro h x0 x1 x6 x8 x9 r hm; rw [m_X3_goesBy_76] at hm; exact noE hm
  | succ n76 ihm =>
    intro h x0 x1 x6 x8 x9 r hm
    rw [m_X3_goesBy_76] at hm
    by_cases c1 : (3 : Int32) ≤ x9
    · have hm := ifT hm c1
      exact (mo_X3_goesBy_184  h _ hm)
    · have hm := ifF hm c1
      exact (mo_X3_goesBy_85 ihm f h x0 x1 x6 x8 x9 (0 : Int32) _ hm)
def m_X3_goesBy_71 (f : Nat) (h : CH) (x0 : Nat) (x1 : Int32) (x6 : Int64) (y0 : Nat) : Option (Int32 × CH) := m_X3_goesBy_76 f f h x0 x1 x6 y0 (0 : Int32)
theorem mo_X3_goesBy_71 {f : Nat} : ∀ (h : CH) (x0 : Nat) (x1 : Int32) (x6 : Int64) (y0 : Nat) (r : (Int32 × CH)), m_X3_goesBy_71 f h x0 x1 x6 y0 = some r → le2 h r.2 := by
  intro h x0 x1 x6 y0 r hm
  rw [m_X3_goesBy_71] at hm
  exact (mo_X3_goesBy_76  f h x0 x1 x6 y0 (0 : Int32) _ hm)
def m_X3_goesBy (f : Nat) (u : CH) (x0 : Nat) (x1 : Int32) (x2 : Int32) (x3 : Int32) : Option (Int32 × CH) := bd (tcv u x0 (fun z => m_X3_laysFirst f z x2)) fun h1 =>
    bd2 (tcr h1 x0 (fun z => m_X3_det f z)) fun r3 h2 =>
    bd (m_X3_sized f r3) fun r4 =>
    bd (oL h2 0 19 x0) fun v5 =>
    bd (tcv h2 x0 (fun z => m_X3_lays f z x3)) fun h6 =>
    bd (oL h6 0 19 x0) fun v7 =>
    bd (oL h6 0 19 x0) fun v8 =>
    bd (oL h6 0 19 x0) fun v9 =>
    bd2 (tcr h6 x0 (fun z => m_X3_det f z)) fun r11 h10 =>
    bd (m_X3_sized f r11) fun r12 =>
    if (((r4 * v7) * v8) * v9) = (((r12 * v5) * v5) * v5) then
    bd (tcv h10 x0 (fun z => m_X3_forms f z)) fun h14 =>
    nmv (cn h14 3 (.inr (1, 3, .inr (.inl (fun _ => 0))))) fun h15 =>
    nmv (h14.1 : Nat) fun a16 =>
    m_X3_goesBy_71 f h15 x0 x1 v5 a16
    else some ((0 : Int32), h10)
theorem mo_X3_goesBy {f : Nat} {u : CH} {x0 : Nat} {x1 : Int32} {x2 : Int32} {x3 : Int32} {r0 : Int32} {u9 : CH} (hm : m_X3_goesBy f u x0 x1 x2 x3 = some (r0, u9)) : le2 u u9 := by
  rw [m_X3_goesBy] at hm
  obtain ⟨h1, eh1, hm⟩ := bdE hm
  have lh1 := tcv_le eh1
  obtain ⟨r3, h2, er3, hm⟩ := bd2E hm
  have lh2 := tcr_le er3
  obtain ⟨r4, er4, hm⟩ := bdE hm
  obtain ⟨v5, ev5, hm⟩ := bdE hm
  obtain ⟨h6, eh6, hm⟩ := bdE hm
  have lh6 := tcv_le eh6
  obtain ⟨v7, ev7, hm⟩ := bdE hm
  obtain ⟨v8, ev8, hm⟩ := bdE hm
  obtain ⟨v9, ev9, hm⟩ := bdE hm
  obtain ⟨r11, h10, er11, hm⟩ := bd2E hm
  have lh10 := tcr_le er11
  obtain ⟨r12, er12, hm⟩ := bdE hm
  by_cases c13 : (((r4 * v7) * v8) * v9) = (((r12 * v5) * v5) * v5)
  · have hm := ifT hm c13
    obtain ⟨h14, eh14, hm⟩ := bdE hm
    have lh14 := tcv_le eh14
    obtain ⟨h15, eh15, hm⟩ := nmE hm
    have lh15 := cn_le eh15
    obtain ⟨a16, ea16, hm⟩ := nmE hm
    exact (lh1.tr (lh2.tr (lh6.tr (lh10.tr (lh14.tr (lh15.tr (mo_X3_goesBy_71  h15 x0 x1 v5 a16 _ hm)))))))
  · have hm := ifF hm c13
    cases hm
    exact (lh1.tr (lh2.tr (lh6.tr (lh10.tr le2.rf))))
abbrev rm_X3_goesBy (mc ms : Nat) : Room := { frames := 6, cells := mc, slots := ms, locals := 146 }
theorem cw_X3_goesBy {R : Room} {s : State} {args : Array Value} {own : String} {idx mc ms : Nat} (hts : ∀ w ∈ lw_all, w.before args s = true) (hl : Cond.methodLink own idx yX3_goesBy ∈ lw_all) (hR : 6 + 1 ≤ R.frames ∧ 8 + (13 + 11) + 146 ≤ R.locals) : CallW R s args own RX3 idx yX3_goesBy cX3_goesBy 13 (Option.some Jvm.ClassFile.FieldType.boolean) (ws_ yX3_goesBy cX3_goesBy 13 (Option.some Jvm.ClassFile.FieldType.boolean)) (rm_X3_goesBy mc ms) mc ms 3 := cwV 3 hts (lw_V hl q2032 qs100 q125 q2033) rfl rfl rfl (by decide +kernel) hR
set_option maxHeartbeats 4000000 in
set_option maxRecDepth 100000 in
theorem w_X3_goesBy (l : Launch) {D : va_G} {dA : Nat → ClassId} {A : Nat → Prop} {f : Nat} {u u9 : CH} {r0 : Int32} {x0 : Nat} {x1 : Int32} {x2 : Int32} {x3 : Int32} (hm : m_X3_goesBy f u x0 x1 x2 x3 = some (r0, u9)) : Met l yX3_goesBy (ws_ yX3_goesBy cX3_goesBy 13 (Option.some Jvm.ClassFile.FieldType.boolean)) (rm_X3_goesBy (u9.1 - u.1) (u9.2.1 - u.2.1)) (va_Pc [.ref x0, .int x1, .int x2, .int x3] (CPre D dA A u)) (va_Qi (fun r u => r = r0 ∧ u = u9) (CPost D dA A) A) (u9.1 - u.1) (u9.2.1 - u.2.1) A := by
  refine Met.ofW (cc := cX3_goesBy) (maxL := 13) (ret := (Option.some Jvm.ClassFile.FieldType.boolean)) (by decide) rfl ?_
  intro p e s m args below meth c s₁ B hml hv
  have hx := B.exec
  have hb := B.bytes
  have hr := B.returns
  have hts := atoms_spec (ws := (ws_ yX3_goesBy cX3_goesBy 13 (Option.some Jvm.ClassFile.FieldType.boolean))) B.pre
  have hts : ∀ w ∈ lw_all, w.before args s = true := fun w h => hts w (List.mem_cons_of_mem _ h)
  have hown : s.vm.findClass RX3 = some m.cls := findClass_of_methodNamed B.named
  have hlocks := B.notSynchronized
  obtain ⟨hav, hv⟩ := hv
  have C : CX p s m args c cX3_goesBy RX3 D dA := ⟨hx, hb, hown, hts, hv.2⟩
  have hw : CW D dA A s u s.heap [] := hv.1
  have hs0 : s.heap.size = u.1 := hv.1.1
  generalize hQ : MQ below (va_Qi (fun r u => r = r0 ∧ u = u9) (CPost D dA A) A) args s (u9.1 - u.1) (u9.2.1 - u.2.1) A = QQ
  have hent := lg_entry_eq m [.ref x0, .int x1, .int x2, .int x3] 13
  rw [← hav] at hent
  rw [hent]
  have hl := lv_entry ([.ref x0, .int x1, .int x2, .int x3]) (n := 13) (Nat.le_of_ble_eq_true rfl)
  generalize (lg_sl ([.ref x0, .int x1, .int x2, .int x3]) ++ List.replicate (13 - (lg_sl ([.ref x0, .int x1, .int x2, .int x3])).length) Slot.unset).toArray = ls at hl ⊢
  have hl : lv_has ls 13 [(0, .ref x0), (1, .int x1), (2, .int x2), (3, .int x3)] := hl
  obtain ⟨cc, ecc⟩ : ∃ z : Nat, z = 0 := ⟨0, rfl⟩
  obtain ⟨ss, ess⟩ : ∃ z : Nat, z = 0 := ⟨0, rfl⟩
  have hcc : cc + u.1 = u.1 := by omega
  have hss : ss + u.2.1 = u.2.1 := by omega
  suffices hgo : W p l e (rm_X3_goesBy (u9.1 - u.1) (u9.2.1 - u.2.1)) s m args below meth c s.heap [] cc ss QQ (F0 m 0 ls []) by rw [ecc, ess] at hgo; exact hgo
  have ⟨pu, qu, _, _⟩ := mo_X3_goesBy hm
  have hB184 : ∀ (h : CH) (cc ss : Nat) (H : Heap) (locs : List Loc) (ls : Array Slot), m_X3_goesBy_184 f h = some (r0, u9) → CW D dA A s h H locs → cc + u.1 = h.1 → ss + u.2.1 = h.2.1 → lv_has ls 13 [] → W p l e (rm_X3_goesBy (u9.1 - u.1) (u9.2.1 - u.2.1)) s m args below meth c H locs cc ss QQ (F0 m 184 ls []) := by
    intro h cc ss H locs ls hm hw hcc hss hl
    have hmo := mo_X3_goesBy_184  h _ hm
    have sb_ : h.1 ≤ u9.1 := hmo.1
    have tb_ : h.2.1 ≤ u9.2.1 := hmo.2.1
    rw [m_X3_goesBy_184] at hm
    refine lv_iconst (v := 1) hx hb dX3_goesBy_184 (by decide) ?_
    obtain ⟨er, eh⟩ := retE hm
    have ec : cc = u9.1 - u.1 := by rw [← eh]; omega
    have es : ss = u9.2.1 - u.2.1 := by rw [← eh]; omega
    rw [ec, es, ← hQ]
    exact W.zret (v := (1 : Int32)) hx hb hr rfl (fun t ht hW => ⟨⟨(1 : Int32), h, rfl, ⟨er, eh⟩, ⟨by rw [ht]; exact hw.1, by rw [ht]; exact hw.2.1⟩⟩, hw.2.2.1.F ht⟩) hw.2.2.1.2.2 dX3_goesBy_185
  have hB176 : ∀ (h : CH) (cc ss : Nat) (H : Heap) (locs : List Loc) (ls : Array Slot), m_X3_goesBy_176 f h = some (r0, u9) → CW D dA A s h H locs → cc + u.1 = h.1 → ss + u.2.1 = h.2.1 → lv_has ls 13 [] → W p l e (rm_X3_goesBy (u9.1 - u.1) (u9.2.1 - u.2.1)) s m args below meth c H locs cc ss QQ (F0 m 176 ls []) := by
    intro h cc ss H locs ls hm hw hcc hss hl
    have hmo := mo_X3_goesBy_176  h _ hm
    have sb_ : h.1 ≤ u9.1 := hmo.1
    have tb_ : h.2.1 ≤ u9.2.1 := hmo.2.1
    rw [m_X3_goesBy_176] at hm
    refine lv_iconst (v := 0) hx hb dX3_goesBy_176 (by decide) ?_
    obtain ⟨er, eh⟩ := retE hm
    have ec : cc = u9.1 - u.1 := by rw [← eh]; omega
    have es : ss = u9.2.1 - u.2.1 := by rw [← eh]; omega
    rw [ec, es, ← hQ]
    exact W.zret (v := (0 : Int32)) hx hb hr rfl (fun t ht hW => ⟨⟨(0 : Int32), h, rfl, ⟨er, eh⟩, ⟨by rw [ht]; exact hw.1, by rw [ht]; exact hw.2.1⟩⟩, hw.2.2.1.F ht⟩) hw.2.2.1.2.2 dX3_goesBy_177
  have hB76 : ∀ (n76 : Nat), ∀ (h : CH) (x0 : Nat) (x1 : Int32) (x6 : Int64) (x8 : Nat) (x9 : Int32) (cc ss : Nat) (H : Heap) (locs : List Loc) (ls : Array Slot), m_X3_goesBy_76 f n76 h x0 x1 x6 x8 x9 = some (r0, u9) → CW D dA A s h H locs → cc + u.1 = h.1 → ss + u.2.1 = h.2.1 → lv_has ls 13 [(0, .ref x0), (1, .int x1), (6, .long x6), (8, .ref x8), (9, .int x9)] → W p l e (rm_X3_goesBy (u9.1 - u.1) (u9.2.1 - u.2.1)) s m args below meth c H locs cc ss QQ (F0 m 76 ls []) := by
    intro n76
    induction n76 with
    | zero => intro h x0 x1 x6 x8 x9 cc ss H locs ls hm hw hcc hss hl; rw [m_X3_goesBy_76] at hm; exact noE hm
    | succ n76 ih76 =>
      have hB155 : ∀ (h : CH) (x0 : Nat) (x1 : Int32) (x6 : Int64) (x8 : Nat) (x9 : Int32) (cc ss : Nat) (H : Heap) (locs : List Loc) (ls : Array Slot), m_X3_goesBy_155 f (m_X3_goesBy_76 f n76) h x0 x1 x6 x8 x9 = some (r0, u9) → CW D dA A s h H locs → cc + u.1 = h.1 → ss + u.2.1 = h.2.1 → lv_has ls 13 [(0, .ref x0), (1, .int x1), (6, .long x6), (8, .ref x8), (9, .int x9)] → W p l e (rm_X3_goesBy (u9.1 - u.1) (u9.2.1 - u.2.1)) s m args below meth c H locs cc ss QQ (F0 m 155 ls []) := by
        intro h x0 x1 x6 x8 x9 cc ss H locs ls hm hw hcc hss hl
        have hmo := mo_X3_goesBy_155 (mo_X3_goesBy_76 n76) h x0 x1 x6 x8 x9 _ hm
        have sb_ : h.1 ≤ u9.1 := hmo.1
        have tb_ : h.2.1 ≤ u9.2.1 := hmo.2.1
        rw [m_X3_goesBy_155] at hm
        refine lv_aload_n hx hb dX3_goesBy_155 rfl (lv_at hl 0 rfl) ?_
        refine lv_aload hx hb dX3_goesBy_156 (lv_at hl 3 rfl) ?_
        refine lv_iconst (v := 0) hx hb dX3_goesBy_158 (by decide) ?_
        obtain ⟨v1, ev1, hm⟩ := bdE hm
        refine cg_lald C hw ev1 dX3_goesBy_159 ?_
        refine lv_aload hx hb dX3_goesBy_160 (lv_at hl 3 rfl) ?_
        refine lv_iconst (v := 1) hx hb dX3_goesBy_162 (by decide) ?_
        obtain ⟨v2, ev2, hm⟩ := bdE hm
        refine cg_lald C hw ev2 dX3_goesBy_163 ?_
        refine lv_aload hx hb dX3_goesBy_164 (lv_at hl 3 rfl) ?_
        refine lv_iconst (v := 2) hx hb dX3_goesBy_166 (by decide) ?_
        obtain ⟨v3, ev3, hm⟩ := bdE hm
        refine cg_lald C hw ev3 dX3_goesBy_167 ?_
        refine lv_lload hx hb dX3_goesBy_168 (lv_at hl 2 rfl) ?_
        obtain ⟨r5, h4, er5, hm⟩ := bd2E hm
        refine cg_tci C hw er5 (show cc + s.heap.size = h.1 by rw [hs0]; omega) (fun _ hk hm9 => va_runV (As := [.long v1, .long v2, .long v3, .long x6]) (rest := []) ⟨hx, hb, hml, hown, hts⟩ (w_X3_hasPoint l hm9) (cw_X3_hasPoint hts q1901 ⟨Nat.le_of_ble_eq_true rfl, Nat.le_of_ble_eq_true rfl⟩) (tb_pre C hw hk _) rfl rfl hl.1 rfl (lv_room (Nat.le_of_ble_eq_true rfl)) dX3_goesBy_170 ⟨show cc + 0 ≤ u9.1 - u.1 by omega, show ss + 0 ≤ u9.2.1 - u.2.1 by omega⟩) (fun H locs hw => ?_)
        have zh4 := tcr_sz er5
        refine lv_if_ne (tgt := 178) hx hb dX3_goesBy_173 (by decide) (fun c6 => ?_) (fun c6 => ?_)
        · have hm := ifT hm c6
          obtain ⟨v7, ev7, hm⟩ := nmE hm
          refine lv_iinc (v := v7) (lv' := [(9, .int v7), (0, .ref x0), (1, .int x1), (6, .long x6), (8, .ref x8)]) hx hb dX3_goesBy_178 hl (k := 4) rfl (by rw [ev7]; rfl) (by decide) rfl (fun ls hl => ?_)
          refine lv_goto (tgt := 76) hx hb dX3_goesBy_181 (by decide) ?_
          exact ih76 h4 x0 x1 x6 x8 v7 _ _ _ _ _ hm hw (by omega) (by omega) (lv_sub hl [1, 2, 3, 4, 0] rfl)
        · have hm := ifT' hm c6
          exact hB176 h4 _ _ _ _ _ hm hw (by omega) (by omega) (lv_sub hl [] rfl)
      have hB85 : ∀ (n85 : Nat), ∀ (h : CH) (x0 : Nat) (x1 : Int32) (x6 : Int64) (x8 : Nat) (x9 : Int32) (x10 : Int32) (cc ss : Nat) (H : Heap) (locs : List Loc) (ls : Array Slot), m_X3_goesBy_85 f (m_X3_goesBy_76 f n76) n85 h x0 x1 x6 x8 x9 x10 = some (r0, u9) → CW D dA A s h H locs → cc + u.1 = h.1 → ss + u.2.1 = h.2.1 → lv_has ls 13 [(0, .ref x0), (1, .int x1), (6, .long x6), (8, .ref x8), (9, .int x9), (10, .int x10)] → W p l e (rm_X3_goesBy (u9.1 - u.1) (u9.2.1 - u.2.1)) s m args below meth c H locs cc ss QQ (F0 m 85 ls []) := by
        intro n85
        induction n85 with
        | zero => intro h x0 x1 x6 x8 x9 x10 cc ss H locs ls hm hw hcc hss hl; rw [m_X3_goesBy_85] at hm; exact noE hm
        | succ n85 ih85 =>
          have hB148 : ∀ (h : CH) (x0 : Nat) (x1 : Int32) (x6 : Int64) (x8 : Nat) (x9 : Int32) (x10 : Int32) (y0 : Nat) (y1 : Int32) (y2 : Int64) (cc ss : Nat) (H : Heap) (locs : List Loc) (ls : Array Slot), m_X3_goesBy_148 f (m_X3_goesBy_76 f n76) (m_X3_goesBy_85 f (m_X3_goesBy_76 f n76) n85) h x0 x1 x6 x8 x9 x10 y0 y1 y2 = some (r0, u9) → CW D dA A s h H locs → cc + u.1 = h.1 → ss + u.2.1 = h.2.1 → lv_has ls 13 [(0, .ref x0), (1, .int x1), (6, .long x6), (8, .ref x8), (9, .int x9), (10, .int x10)] → W p l e (rm_X3_goesBy (u9.1 - u.1) (u9.2.1 - u.2.1)) s m args below meth c H locs cc ss QQ (F0 m 148 ls [.long y2, .int y1, .ref y0]) := by
            intro h x0 x1 x6 x8 x9 x10 y0 y1 y2 cc ss H locs ls hm hw hcc hss hl
            have hmo := mo_X3_goesBy_148 (mo_X3_goesBy_76 n76) (mo_X3_goesBy_85 (mo_X3_goesBy_76 n76) n85) h x0 x1 x6 x8 x9 x10 y0 y1 y2 _ hm
            have sb_ : h.1 ≤ u9.1 := hmo.1
            have tb_ : h.2.1 ≤ u9.2.1 := hmo.2.1
            rw [m_X3_goesBy_148] at hm
            obtain ⟨h1, eh1, hm⟩ := bdE hm
            refine cg_last C hw eh1 dX3_goesBy_148 (fun H locs hw => ?_)
            have zh1 := uL_sz eh1
            obtain ⟨v2, ev2, hm⟩ := nmE hm
            refine lv_iinc (v := v2) (lv' := [(10, .int v2), (0, .ref x0), (1, .int x1), (6, .long x6), (8, .ref x8), (9, .int x9)]) hx hb dX3_goesBy_149 hl (k := 5) rfl (by rw [ev2]; rfl) (by decide) rfl (fun ls hl => ?_)
            refine lv_goto (tgt := 85) hx hb dX3_goesBy_152 (by decide) ?_
            exact ih85 h1 x0 x1 x6 x8 x9 v2 _ _ _ _ _ hm hw (by omega) (by omega) (lv_sub hl [1, 2, 3, 4, 5, 0] rfl)
          have hB114 : ∀ (h : CH) (x0 : Nat) (x1 : Int32) (x6 : Int64) (x8 : Nat) (x9 : Int32) (x10 : Int32) (y0 : Nat) (y1 : Int32) (y2 : Int32) (cc ss : Nat) (H : Heap) (locs : List Loc) (ls : Array Slot), m_X3_goesBy_114 f (m_X3_goesBy_76 f n76) (m_X3_goesBy_85 f (m_X3_goesBy_76 f n76) n85) h x0 x1 x6 x8 x9 x10 y0 y1 y2 = some (r0, u9) → CW D dA A s h H locs → cc + u.1 = h.1 → ss + u.2.1 = h.2.1 → lv_has ls 13 [(0, .ref x0), (1, .int x1), (6, .long x6), (8, .ref x8), (9, .int x9), (10, .int x10)] → W p l e (rm_X3_goesBy (u9.1 - u.1) (u9.2.1 - u.2.1)) s m args below meth c H locs cc ss QQ (F0 m 114 ls [.int y2, .int y1, .ref y0]) := by
            intro h x0 x1 x6 x8 x9 x10 y0 y1 y2 cc ss H locs ls hm hw hcc hss hl
            have hmo := mo_X3_goesBy_114 (mo_X3_goesBy_76 n76) (mo_X3_goesBy_85 (mo_X3_goesBy_76 n76) n85) h x0 x1 x6 x8 x9 x10 y0 y1 y2 _ hm
            have sb_ : h.1 ≤ u9.1 := hmo.1
            have tb_ : h.2.1 ≤ u9.2.1 := hmo.2.1
            rw [m_X3_goesBy_114] at hm
            refine lv_iadd hx hb dX3_goesBy_114 ?_
            refine lv_bipush (v := 48) hx hb dX3_goesBy_115 (by decide) ?_
            refine lv_isub hx hb dX3_goesBy_117 ?_
            obtain ⟨v1, ev1, hm⟩ := bdE hm
            refine cg_lald C hw ev1 dX3_goesBy_118 ?_
            refine lv_lstore (lv' := [(11, .long v1), (0, .ref x0), (1, .int x1), (6, .long x6), (8, .ref x8), (9, .int x9), (10, .int x10)]) hx hb dX3_goesBy_119 hl (by decide) rfl (fun ls hl => ?_)
            refine lv_aload hx hb dX3_goesBy_121 (lv_at hl 4 rfl) ?_
            refine lv_iload hx hb dX3_goesBy_123 (lv_at hl 6 rfl) ?_
            refine lv_iload_n hx hb dX3_goesBy_125 rfl (lv_at hl 2 rfl) ?_
            refine lv_bipush (v := 8) hx hb dX3_goesBy_126 (by decide) ?_
            refine w_irem hx hb dX3_goesBy_128 (by decide) ?_
            refine lv_iconst (v := 2) hx hb dX3_goesBy_129 (by decide) ?_
            refine lv_iload hx hb dX3_goesBy_130 (lv_at hl 6 rfl) ?_
            refine lv_isub hx hb dX3_goesBy_132 ?_
            refine lv_ishr hx hb dX3_goesBy_133 ?_
            refine lv_iconst (v := 1) hx hb dX3_goesBy_134 (by decide) ?_
            refine lv_iand hx hb dX3_goesBy_135 ?_
            refine lv_iconst (v := 1) hx hb dX3_goesBy_136 (by decide) ?_
            refine lv_icmp_ne (tgt := 146) hx hb dX3_goesBy_137 (by decide) (fun c2 => ?_) (fun c2 => ?_)
            · have hm := ifT hm c2
              refine lv_lload hx hb dX3_goesBy_146 (lv_at hl 0 rfl) ?_
              exact hB148 h x0 x1 x6 x8 x9 x10 x8 x10 v1 _ _ _ _ _ hm hw (by omega) (by omega) (lv_sub hl [1, 2, 3, 4, 5, 6] rfl)
            · have hm := ifT' hm c2
              refine lv_lload hx hb dX3_goesBy_140 (lv_at hl 0 rfl) ?_
              refine lv_lneg hx hb dX3_goesBy_142 ?_
              refine lv_goto (tgt := 148) hx hb dX3_goesBy_143 (by decide) ?_
              exact hB148 h x0 x1 x6 x8 x9 x10 x8 x10 (-v1) _ _ _ _ _ hm hw (by omega) (by omega) (lv_sub hl [1, 2, 3, 4, 5, 6] rfl)
          intro h x0 x1 x6 x8 x9 x10 cc ss H locs ls hm hw hcc hss hl
          have hmo := mo_X3_goesBy_85 (mo_X3_goesBy_76 n76) (n85 + 1) h x0 x1 x6 x8 x9 x10 _ hm
          have sb_ : h.1 ≤ u9.1 := hmo.1
          have tb_ : h.2.1 ≤ u9.2.1 := hmo.2.1
          rw [m_X3_goesBy_85] at hm
          refine lv_iload hx hb dX3_goesBy_85 (lv_at hl 5 rfl) ?_
          refine lv_iconst (v := 3) hx hb dX3_goesBy_87 (by decide) ?_
          refine lv_icmp_ge (tgt := 155) hx hb dX3_goesBy_88 (by decide) (fun c1 => ?_) (fun c1 => ?_)
          · have hm := ifT hm c1
            exact hB155 h x0 x1 x6 x8 x9 _ _ _ _ _ hm hw (by omega) (by omega) (lv_sub hl [0, 1, 2, 3, 4] rfl)
          · have hm := ifF hm c1
            refine lv_aload_n hx hb dX3_goesBy_91 rfl (lv_at hl 0 rfl) ?_
            obtain ⟨a2, ea2, hm⟩ := bdE hm
            refine cg_get C hw (oR_E ea2) rfl in_X3 (by decide) q1593 dX3_goesBy_92 ?_
            refine lv_iconst (v := 3) hx hb dX3_goesBy_95 (by decide) ?_
            refine lv_iload hx hb dX3_goesBy_96 (lv_at hl 4 rfl) ?_
            refine lv_imul hx hb dX3_goesBy_98 ?_
            obtain ⟨a3, ea3, hm⟩ := bdE hm
            refine cg_ldcsW C hw (i := 10) ea3 rfl dX3_goesBy_99 ?_
            refine lv_iconst (v := 3) hx hb dX3_goesBy_102 (by decide) ?_
            refine lv_iload_n hx hb dX3_goesBy_103 rfl (lv_at hl 1 rfl) ?_
            refine lv_bipush (v := 8) hx hb dX3_goesBy_104 (by decide) ?_
            refine lv_idiv hx hb dX3_goesBy_106 (by decide) ?_
            refine lv_imul hx hb dX3_goesBy_107 ?_
            refine lv_iload hx hb dX3_goesBy_108 (lv_at hl 5 rfl) ?_
            refine lv_iadd hx hb dX3_goesBy_110 ?_
            obtain ⟨g4, hm⟩ := gdE hm
            obtain ⟨r6, h5, er6, hm⟩ := bd2E hm
            have lh5 := mo_J6_charAt er6
            have ph5 : h.1 ≤ h5.1 := lh5.1
            have qh5 : h.2.1 ≤ h5.2.1 := lh5.2.1
            have hmo := mo_X3_goesBy_114 (mo_X3_goesBy_76 n76) (mo_X3_goesBy_85 (mo_X3_goesBy_76 n76) n85)  h5 x0 x1 x6 x8 x9 x10 a2 ((3 : Int32) * x9) r6 _ hm
            have sh5 : h5.1 ≤ u9.1 := hmo.1
            have th5 : h5.2.1 ≤ u9.2.1 := hmo.2.1
            refine cg_calli hw lh5 (va_runV (As := [.int (((3 : Int32) * (x1 / (8 : Int32))) + x10)]) (rest := [.int ((3 : Int32) * x9), .ref a2]) ⟨hx, hb, hml, hown, hts⟩ (w_J6_charAt l er6) (cw_J6_charAt hts q1718 ⟨Nat.le_of_ble_eq_true rfl, Nat.le_of_ble_eq_true rfl⟩) (cg_preV C hw g4 rfl _) rfl rfl hl.1 rfl (lv_room (Nat.le_of_ble_eq_true rfl)) dX3_goesBy_111 ⟨show cc + (h5.1 - h.1) ≤ u9.1 - u.1 by omega, show ss + (h5.2.1 - h.2.1) ≤ u9.2.1 - u.2.1 by omega⟩) (fun H locs hw => ?_)
            exact hB114 h5 x0 x1 x6 x8 x9 x10 a2 ((3 : Int32) * x9) r6 _ _ _ _ _ hm hw (by omega) (by omega) (lv_sub hl [0, 1, 2, 3, 4, 5] rfl)
      intro h x0 x1 x6 x8 x9 cc ss H locs ls hm hw hcc hss hl
      have hmo := mo_X3_goesBy_76  (n76 + 1) h x0 x1 x6 x8 x9 _ hm
      have sb_ : h.1 ≤ u9.1 := hmo.1
      have tb_ : h.2.1 ≤ u9.2.1 := hmo.2.1
      rw [m_X3_goesBy_76] at hm
      refine lv_iload hx hb dX3_goesBy_76 (lv_at hl 4 rfl) ?_
      refine lv_iconst (v := 3) hx hb dX3_goesBy_78 (by decide) ?_
      refine lv_icmp_ge (tgt := 184) hx hb dX3_goesBy_79 (by decide) (fun c1 => ?_) (fun c1 => ?_)
      · have hm := ifT hm c1
        exact hB184 h _ _ _ _ _ hm hw (by omega) (by omega) (lv_sub hl [] rfl)
      · have hm := ifF hm c1
        refine lv_iconst (v := 0) hx hb dX3_goesBy_82 (by decide) ?_
        refine lv_istore (lv' := [(10, .int (0 : Int32)), (0, .ref x0), (1, .int x1), (6, .long x6), (8, .ref x8), (9, .int x9)]) hx hb dX3_goesBy_83 hl (by decide) rfl (fun ls hl => ?_)
        exact hB85 f h x0 x1 x6 x8 x9 (0 : Int32) _ _ _ _ _ hm hw (by omega) (by omega) (lv_sub hl [1, 2, 3, 4, 5, 0] rfl)
  have hB71 : ∀ (h : CH) (x0 : Nat) (x1 : Int32) (x6 : Int64) (y0 : Nat) (cc ss : Nat) (H : Heap) (locs : List Loc) (ls : Array Slot), m_X3_goesBy_71 f h x0 x1 x6 y0 = some (r0, u9) → CW D dA A s h H locs → cc + u.1 = h.1 → ss + u.2.1 = h.2.1 → lv_has ls 13 [(0, .ref x0), (1, .int x1), (6, .long x6)] → W p l e (rm_X3_goesBy (u9.1 - u.1) (u9.2.1 - u.2.1)) s m args below meth c H locs cc ss QQ (F0 m 71 ls [.ref y0]) := by
    intro h x0 x1 x6 y0 cc ss H locs ls hm hw hcc hss hl
    have hmo := mo_X3_goesBy_71  h x0 x1 x6 y0 _ hm
    have sb_ : h.1 ≤ u9.1 := hmo.1
    have tb_ : h.2.1 ≤ u9.2.1 := hmo.2.1
    rw [m_X3_goesBy_71] at hm
    refine lv_astore (lv' := [(8, .ref y0), (0, .ref x0), (1, .int x1), (6, .long x6)]) hx hb dX3_goesBy_71 hl (by decide) rfl (fun ls hl => ?_)
    refine lv_iconst (v := 0) hx hb dX3_goesBy_73 (by decide) ?_
    refine lv_istore (lv' := [(9, .int (0 : Int32)), (8, .ref y0), (0, .ref x0), (1, .int x1), (6, .long x6)]) hx hb dX3_goesBy_74 hl (by decide) rfl (fun ls hl => ?_)
    exact hB76 f h x0 x1 x6 y0 (0 : Int32) _ _ _ _ _ hm hw (by omega) (by omega) (lv_sub hl [2, 3, 4, 1, 0] rfl)
  rw [m_X3_goesBy] at hm
  refine lv_aload_n hx hb dX3_goesBy_0 rfl (lv_at hl 0 rfl) ?_
  refine lv_iload_n hx hb dX3_goesBy_1 rfl (lv_at hl 2 rfl) ?_
  obtain ⟨h1, eh1, hm⟩ := bdE hm
  refine cg_tcv C hw eh1 (show cc + s.heap.size = u.1 by rw [hs0]; omega) (fun _ hk hm9 => va_runV (As := [.int x2]) (rest := []) ⟨hx, hb, hml, hown, hts⟩ (w_X3_laysFirst l hm9) (cw_X3_laysFirst hts q1917 ⟨Nat.le_of_ble_eq_true rfl, Nat.le_of_ble_eq_true rfl⟩) (tb_pre C hw hk _) rfl rfl hl.1 rfl (lv_room (Nat.le_of_ble_eq_true rfl)) dX3_goesBy_2 ⟨show cc + 0 ≤ u9.1 - u.1 by omega, show ss + 0 ≤ u9.2.1 - u.2.1 by omega⟩) (fun H locs hw => ?_)
  have zh1 := tcv_sz eh1
  refine lv_aload_n hx hb dX3_goesBy_5 rfl (lv_at hl 0 rfl) ?_
  obtain ⟨r3, h2, er3, hm⟩ := bd2E hm
  refine cg_tcl C hw er3 (show cc + s.heap.size = h1.1 by rw [hs0]; omega) (fun _ hk hm9 => va_runV (As := []) (rest := []) ⟨hx, hb, hml, hown, hts⟩ (w_X3_det l hm9) (cw_X3_det hts q1872 ⟨Nat.le_of_ble_eq_true rfl, Nat.le_of_ble_eq_true rfl⟩) (tb_pre C hw hk _) rfl rfl hl.1 rfl (lv_room (Nat.le_of_ble_eq_true rfl)) dX3_goesBy_6 ⟨show cc + 0 ≤ u9.1 - u.1 by omega, show ss + 0 ≤ u9.2.1 - u.2.1 by omega⟩) (fun H locs hw => ?_)
  have zh2 := tcr_sz er3
  obtain ⟨r4, er4, hm⟩ := bdE hm
  refine scl (va_runS (As := [.long r3]) (rest := []) ⟨hx, hb, hml, hown, hts⟩ (w_X3_sized l er4) (cw_X3_sized hts q1772 ⟨Nat.le_of_ble_eq_true rfl, Nat.le_of_ble_eq_true rfl⟩) (pre_s _) rfl rfl hl.1 rfl (lv_room (Nat.le_of_ble_eq_true rfl)) dX3_goesBy_9 ⟨show cc + 0 ≤ u9.1 - u.1 by omega, show ss + 0 ≤ u9.2.1 - u.2.1 by omega⟩) ?_
  refine lv_lstore (lv' := [(4, .long r4), (0, .ref x0), (1, .int x1), (2, .int x2), (3, .int x3)]) hx hb dX3_goesBy_12 hl (by decide) rfl (fun ls hl => ?_)
  refine lv_aload_n hx hb dX3_goesBy_14 rfl (lv_at hl 1 rfl) ?_
  obtain ⟨v5, ev5, hm⟩ := bdE hm
  refine cg_get C hw (oL_E ev5) rfl in_X3 (by decide) q1585 dX3_goesBy_15 ?_
  refine lv_lstore (lv' := [(6, .long v5), (4, .long r4), (0, .ref x0), (1, .int x1), (2, .int x2), (3, .int x3)]) hx hb dX3_goesBy_18 hl (by decide) rfl (fun ls hl => ?_)
  refine lv_aload_n hx hb dX3_goesBy_20 rfl (lv_at hl 2 rfl) ?_
  refine lv_iload_n hx hb dX3_goesBy_21 rfl (lv_at hl 5 rfl) ?_
  obtain ⟨h6, eh6, hm⟩ := bdE hm
  refine cg_tcv C hw eh6 (show cc + s.heap.size = h2.1 by rw [hs0]; omega) (fun _ hk hm9 => va_runV (As := [.int x3]) (rest := []) ⟨hx, hb, hml, hown, hts⟩ (w_X3_lays l hm9) (cw_X3_lays hts q1804 ⟨Nat.le_of_ble_eq_true rfl, Nat.le_of_ble_eq_true rfl⟩) (tb_pre C hw hk _) rfl rfl hl.1 rfl (lv_room (Nat.le_of_ble_eq_true rfl)) dX3_goesBy_22 ⟨show cc + 0 ≤ u9.1 - u.1 by omega, show ss + 0 ≤ u9.2.1 - u.2.1 by omega⟩) (fun H locs hw => ?_)
  have zh6 := tcv_sz eh6
  refine lv_lload hx hb dX3_goesBy_25 (lv_at hl 1 rfl) ?_
  refine lv_aload_n hx hb dX3_goesBy_27 rfl (lv_at hl 2 rfl) ?_
  obtain ⟨v7, ev7, hm⟩ := bdE hm
  refine cg_get C hw (oL_E ev7) rfl in_X3 (by decide) q1585 dX3_goesBy_28 ?_
  refine lv_lmul hx hb dX3_goesBy_31 ?_
  refine lv_aload_n hx hb dX3_goesBy_32 rfl (lv_at hl 2 rfl) ?_
  obtain ⟨v8, ev8, hm⟩ := bdE hm
  refine cg_get C hw (oL_E ev8) rfl in_X3 (by decide) q1585 dX3_goesBy_33 ?_
  refine lv_lmul hx hb dX3_goesBy_36 ?_
  refine lv_aload_n hx hb dX3_goesBy_37 rfl (lv_at hl 2 rfl) ?_
  obtain ⟨v9, ev9, hm⟩ := bdE hm
  refine cg_get C hw (oL_E ev9) rfl in_X3 (by decide) q1585 dX3_goesBy_38 ?_
  refine lv_lmul hx hb dX3_goesBy_41 ?_
  refine lv_aload_n hx hb dX3_goesBy_42 rfl (lv_at hl 2 rfl) ?_
  obtain ⟨r11, h10, er11, hm⟩ := bd2E hm
  refine cg_tcl C hw er11 (show cc + s.heap.size = h6.1 by rw [hs0]; omega) (fun _ hk hm9 => va_runV (As := []) (rest := [.long (((r4 * v7) * v8) * v9)]) ⟨hx, hb, hml, hown, hts⟩ (w_X3_det l hm9) (cw_X3_det hts q1872 ⟨Nat.le_of_ble_eq_true rfl, Nat.le_of_ble_eq_true rfl⟩) (tb_pre C hw hk _) rfl rfl hl.1 rfl (lv_room (Nat.le_of_ble_eq_true rfl)) dX3_goesBy_43 ⟨show cc + 0 ≤ u9.1 - u.1 by omega, show ss + 0 ≤ u9.2.1 - u.2.1 by omega⟩) (fun H locs hw => ?_)
  have zh10 := tcr_sz er11
  obtain ⟨r12, er12, hm⟩ := bdE hm
  refine scl (va_runS (As := [.long r11]) (rest := [.long (((r4 * v7) * v8) * v9)]) ⟨hx, hb, hml, hown, hts⟩ (w_X3_sized l er12) (cw_X3_sized hts q1772 ⟨Nat.le_of_ble_eq_true rfl, Nat.le_of_ble_eq_true rfl⟩) (pre_s _) rfl rfl hl.1 rfl (lv_room (Nat.le_of_ble_eq_true rfl)) dX3_goesBy_46 ⟨show cc + 0 ≤ u9.1 - u.1 by omega, show ss + 0 ≤ u9.2.1 - u.2.1 by omega⟩) ?_
  refine lv_lload hx hb dX3_goesBy_49 (lv_at hl 0 rfl) ?_
  refine lv_lmul hx hb dX3_goesBy_51 ?_
  refine lv_lload hx hb dX3_goesBy_52 (lv_at hl 0 rfl) ?_
  refine lv_lmul hx hb dX3_goesBy_54 ?_
  refine lv_lload hx hb dX3_goesBy_55 (lv_at hl 0 rfl) ?_
  refine lv_lmul hx hb dX3_goesBy_57 ?_
  refine lc_eq (tgt := 64) hx hb dX3_goesBy_58 dX3_goesBy_59 (by decide) (fun c13 => ?_) (fun c13 => ?_)
  · have hm := ifT hm c13
    refine lv_aload_n hx hb dX3_goesBy_64 rfl (lv_at hl 2 rfl) ?_
    obtain ⟨h14, eh14, hm⟩ := bdE hm
    refine cg_tcv C hw eh14 (show cc + s.heap.size = h10.1 by rw [hs0]; omega) (fun _ hk hm9 => va_runV (As := []) (rest := []) ⟨hx, hb, hml, hown, hts⟩ (w_X3_forms l hm9) (cw_X3_forms hts q1832 ⟨Nat.le_of_ble_eq_true rfl, Nat.le_of_ble_eq_true rfl⟩) (tb_pre C hw hk _) rfl rfl hl.1 rfl (lv_room (Nat.le_of_ble_eq_true rfl)) dX3_goesBy_65 ⟨show cc + 0 ≤ u9.1 - u.1 by omega, show ss + 0 ≤ u9.2.1 - u.2.1 by omega⟩) (fun H locs hw => ?_)
    have zh14 := tcv_sz eh14
    refine lv_iconst (v := 3) hx hb dX3_goesBy_68 (by decide) ?_
    obtain ⟨h15, eh15, hm⟩ := nmE hm
    obtain ⟨_, _, hmq⟩ := nmE hm
    have hmo := mo_X3_goesBy_71   h15 x0 x1 v5 _ _ hmq
    have sh15 : h15.1 ≤ u9.1 := hmo.1
    have th15 : h15.2.1 ≤ u9.2.1 := hmo.2.1
    have zh15 := cn_sz eh15
    refine cg_newJ (C0 := C) hw (N := 3) (by decide) (by decide) (by decide) (show cc + 1 ≤ u9.1 - u.1 by omega) (show ss + 3 ≤ u9.2.1 - u.2.1 by omega) dX3_goesBy_69 (fun H hw => ?_)
    rw [← eh15] at hw
    refine lv_topr (fun a16 ea16 => ?_)
    have hm := nmK hm ea16
    exact hB71 h15 x0 x1 v5 a16 _ _ _ _ _ hm hw (by omega) (by omega) (lv_sub hl [2, 3, 0] rfl)
  · have hm := ifF hm c13
    refine lv_iconst (v := 0) hx hb dX3_goesBy_62 (by decide) ?_
    obtain ⟨er, eh⟩ := retE hm
    have ec : cc = u9.1 - u.1 := by rw [← eh]; omega
    have es : ss = u9.2.1 - u.2.1 := by rw [← eh]; omega
    rw [ec, es, ← hQ]
    exact W.zret (v := (0 : Int32)) hx hb hr rfl (fun t ht hW => ⟨⟨(0 : Int32), h10, rfl, ⟨er, eh⟩, ⟨by rw [ht]; exact hw.1, by rw [ht]; exact hw.2.1⟩⟩, hw.2.2.1.F ht⟩) hw.2.2.1.2.2 dX3_goesBy_63
def m_X3_symmetries_45 (f : Nat) (h : CH) (x2 : Int32) : Option (Int32 × CH) := some (x2, h)
theorem mo_X3_symmetries_45 {f : Nat} : ∀ (h : CH) (x2 : Int32) (r : (Int32 × CH)), m_X3_symmetries_45 f h x2 = some r → le2 h r.2 := by
  intro h x2 r hm
  rw [m_X3_symmetries_45] at hm
  cases hm
  exact le2.rf
def m_X3_symmetries_37 (f : Nat) (k15 : CH → Nat → Int32 → Int32 → Int32 → Option (Int32 × CH)) (h : CH) (x0 : Nat) (x1 : Int32) (x3 : Int32) (y0 : Int32) (y1 : Int32) : Option (Int32 × CH) := nmv ((y0 + y1) : Int32) fun v1 =>
    nmv ((x3 + 1) : Int32) fun v2 =>
    k15 h x0 x1 v1 v2
theorem mo_X3_symmetries_37 {f : Nat} {k15 : CH → Nat → Int32 → Int32 → Int32 → Option (Int32 × CH)} (hk15 : ∀ (h : CH) (x0 : Nat) (x1 : Int32) (x2 : Int32) (x3 : Int32) (r : (Int32 × CH)), k15 h x0 x1 x2 x3 = some r → le2 h r.2) : ∀ (h : CH) (x0 : Nat) (x1 : Int32) (x3 : Int32) (y0 : Int32) (y1 : Int32) (r : (Int32 × CH)), m_X3_symmetries_37 f k15 h x0 x1 x3 y0 y1 = some r → le2 h r.2 := by
  intro h x0 x1 x3 y0 y1 r hm
  rw [m_X3_symmetries_37] at hm
  obtain ⟨v1, ev1, hm⟩ := nmE hm
  obtain ⟨v2, ev2, hm⟩ := nmE hm
  exact (hk15 h x0 x1 v1 v2 _ hm)
def m_X3_symmetries_29 (f : Nat) (k15 : CH → Nat → Int32 → Int32 → Int32 → Option (Int32 × CH)) (h : CH) (x0 : Nat) (x1 : Int32) (x3 : Int32) (y0 : Int32) (y1 : Int32) : Option (Int32 × CH) := if y1 = 0 then
    m_X3_symmetries_37 f k15 h x0 x1 x3 y0 (0 : Int32)
    else m_X3_symmetries_37 f k15 h x0 x1 x3 y0 (1 : Int32)
theorem mo_X3_symmetries_29 {f : Nat} {k15 : CH → Nat → Int32 → Int32 → Int32 → Option (Int32 × CH)} (hk15 : ∀ (h : CH) (x0 : Nat) (x1 : Int32) (x2 : Int32) (x3 : Int32) (r : (Int32 × CH)), k15 h x0 x1 x2 x3 = some r → le2 h r.2) : ∀ (h : CH) (x0 : Nat) (x1 : Int32) (x3 : Int32) (y0 : Int32) (y1 : Int32) (r : (Int32 × CH)), m_X3_symmetries_29 f k15 h x0 x1 x3 y0 y1 = some r → le2 h r.2 := by
  intro h x0 x1 x3 y0 y1 r hm
  rw [m_X3_symmetries_29] at hm
  by_cases c1 : y1 = 0
  · have hm := ifT hm c1
    exact (mo_X3_symmetries_37 hk15 h x0 x1 x3 y0 (0 : Int32) _ hm)
  · have hm := ifF hm c1
    exact (mo_X3_symmetries_37 hk15 h x0 x1 x3 y0 (1 : Int32) _ hm)
def m_X3_symmetries_15 (f : Nat) : Nat → CH → Nat → Int32 → Int32 → Int32 → Option (Int32 × CH)
  | 0, _, _, _, _, _ => none
  | n15 + 1, h, x0, x1, x2, x3 => if (48 : Int32) ≤ x3 then
    m_X3_symmetries_45 f h x2
    else gd (isC h x0 0) <|
    bd2 (m_X3_goesBy f h x0 x3 x1 x1) fun r4 h3 =>
    m_X3_symmetries_29 f (m_X3_symmetries_15 f n15) h3 x0 x1 x3 x2 r4
theorem mo_X3_symmetries_15 {f : Nat} : ∀ (n15 : Nat) (h : CH) (x0 : Nat) (x1 : Int32) (x2 : Int32) (x3 : Int32) (r : (Int32 × CH)), m_X3_symmetries_15 f n15 h x0 x1 x2 x3 = some r → le2 h r.2 := by
  intro n15
  induction n15 with
  | zero => intro h x0 x1 x2 x3 r hm; rw [m_X3_symmetries_15] at hm; exact noE hm
  | succ n15 ihm =>
    intro h x0 x1 x2 x3 r hm
    rw [m_X3_symmetries_15] at hm
    by_cases c1 : (48 : Int32) ≤ x3
    · have hm := ifT hm c1
      exact (mo_X3_symmetries_45  h x2 _ hm)
    · have hm := ifF hm c1
      obtain ⟨g2, hm⟩ := gdE hm
      obtain ⟨r4, h3, er4, hm⟩ := bd2E hm
      have lh3 := mo_X3_goesBy er4
      exact (lh3.tr (mo_X3_symmetries_29 ihm h3 x0 x1 x3 x2 r4 _ hm))
def m_X3_symmetries (f : Nat) (u : CH) (x0 : Nat) (x1 : Int32) : Option (Int32 × CH) := bd2 (tcr u x0 (fun z => m_X3_isLattice f z x1)) fun r2 h1 =>
    if ¬ r2 = 0 then
    m_X3_symmetries_15 f f h1 x0 x1 (0 : Int32) (0 : Int32)
    else some ((-2 : Int32), h1)
theorem mo_X3_symmetries {f : Nat} {u : CH} {x0 : Nat} {x1 : Int32} {r0 : Int32} {u9 : CH} (hm : m_X3_symmetries f u x0 x1 = some (r0, u9)) : le2 u u9 := by
  rw [m_X3_symmetries] at hm
  obtain ⟨r2, h1, er2, hm⟩ := bd2E hm
  have lh1 := tcr_le er2
  by_cases c3 : ¬ r2 = 0
  · have hm := ifT hm c3
    exact (lh1.tr (mo_X3_symmetries_15  f h1 x0 x1 (0 : Int32) (0 : Int32) _ hm))
  · have hm := ifF hm c3
    cases hm
    exact (lh1.tr le2.rf)
abbrev rm_X3_symmetries (mc ms : Nat) : Room := { frames := 7, cells := mc, slots := ms, locals := 178 }
theorem cw_X3_symmetries {R : Room} {s : State} {args : Array Value} {own : String} {idx mc ms : Nat} (hts : ∀ w ∈ lw_all, w.before args s = true) (hl : Cond.methodLink own idx yX3_symmetries ∈ lw_all) (hR : 7 + 1 ≤ R.frames ∧ 8 + (4 + 11) + 178 ≤ R.locals) : CallW R s args own RX3 idx yX3_symmetries cX3_symmetries 4 (Option.some Jvm.ClassFile.FieldType.int) (ws_ yX3_symmetries cX3_symmetries 4 (Option.some Jvm.ClassFile.FieldType.int)) (rm_X3_symmetries mc ms) mc ms 1 := cwV 1 hts (lw_V hl q2027 q2028 q125 q2029) rfl rfl rfl (by decide +kernel) hR
set_option maxHeartbeats 4000000 in
set_option maxRecDepth 100000 in
theorem w_X3_symmetries (l : Launch) {D : va_G} {dA : Nat → ClassId} {A : Nat → Prop} {f : Nat} {u u9 : CH} {r0 : Int32} {x0 : Nat} {x1 : Int32} (hm : m_X3_symmetries f u x0 x1 = some (r0, u9)) : Met l yX3_symmetries (ws_ yX3_symmetries cX3_symmetries 4 (Option.some Jvm.ClassFile.FieldType.int)) (rm_X3_symmetries (u9.1 - u.1) (u9.2.1 - u.2.1)) (va_Pc [.ref x0, .int x1] (CPre D dA A u)) (va_Qi (fun r u => r = r0 ∧ u = u9) (CPost D dA A) A) (u9.1 - u.1) (u9.2.1 - u.2.1) A := by
  refine Met.ofW (cc := cX3_symmetries) (maxL := 4) (ret := (Option.some Jvm.ClassFile.FieldType.int)) (by decide) rfl ?_
  intro p e s m args below meth c s₁ B hml hv
  have hx := B.exec
  have hb := B.bytes
  have hr := B.returns
  have hts := atoms_spec (ws := (ws_ yX3_symmetries cX3_symmetries 4 (Option.some Jvm.ClassFile.FieldType.int))) B.pre
  have hts : ∀ w ∈ lw_all, w.before args s = true := fun w h => hts w (List.mem_cons_of_mem _ h)
  have hown : s.vm.findClass RX3 = some m.cls := findClass_of_methodNamed B.named
  have hlocks := B.notSynchronized
  obtain ⟨hav, hv⟩ := hv
  have C : CX p s m args c cX3_symmetries RX3 D dA := ⟨hx, hb, hown, hts, hv.2⟩
  have hw : CW D dA A s u s.heap [] := hv.1
  have hs0 : s.heap.size = u.1 := hv.1.1
  generalize hQ : MQ below (va_Qi (fun r u => r = r0 ∧ u = u9) (CPost D dA A) A) args s (u9.1 - u.1) (u9.2.1 - u.2.1) A = QQ
  have hent := lg_entry_eq m [.ref x0, .int x1] 4
  rw [← hav] at hent
  rw [hent]
  have hl := lv_entry ([.ref x0, .int x1]) (n := 4) (Nat.le_of_ble_eq_true rfl)
  generalize (lg_sl ([.ref x0, .int x1]) ++ List.replicate (4 - (lg_sl ([.ref x0, .int x1])).length) Slot.unset).toArray = ls at hl ⊢
  have hl : lv_has ls 4 [(0, .ref x0), (1, .int x1)] := hl
  obtain ⟨cc, ecc⟩ : ∃ z : Nat, z = 0 := ⟨0, rfl⟩
  obtain ⟨ss, ess⟩ : ∃ z : Nat, z = 0 := ⟨0, rfl⟩
  have hcc : cc + u.1 = u.1 := by omega
  have hss : ss + u.2.1 = u.2.1 := by omega
  suffices hgo : W p l e (rm_X3_symmetries (u9.1 - u.1) (u9.2.1 - u.2.1)) s m args below meth c s.heap [] cc ss QQ (F0 m 0 ls []) by rw [ecc, ess] at hgo; exact hgo
  have ⟨pu, qu, _, _⟩ := mo_X3_symmetries hm
  have hB45 : ∀ (h : CH) (x2 : Int32) (cc ss : Nat) (H : Heap) (locs : List Loc) (ls : Array Slot), m_X3_symmetries_45 f h x2 = some (r0, u9) → CW D dA A s h H locs → cc + u.1 = h.1 → ss + u.2.1 = h.2.1 → lv_has ls 4 [(2, .int x2)] → W p l e (rm_X3_symmetries (u9.1 - u.1) (u9.2.1 - u.2.1)) s m args below meth c H locs cc ss QQ (F0 m 45 ls []) := by
    intro h x2 cc ss H locs ls hm hw hcc hss hl
    have hmo := mo_X3_symmetries_45  h x2 _ hm
    have sb_ : h.1 ≤ u9.1 := hmo.1
    have tb_ : h.2.1 ≤ u9.2.1 := hmo.2.1
    rw [m_X3_symmetries_45] at hm
    refine lv_iload_n hx hb dX3_symmetries_45 rfl (lv_at hl 0 rfl) ?_
    obtain ⟨er, eh⟩ := retE hm
    have ec : cc = u9.1 - u.1 := by rw [← eh]; omega
    have es : ss = u9.2.1 - u.2.1 := by rw [← eh]; omega
    rw [ec, es, ← hQ]
    exact W.iret (v := x2) hx hb hr (fun t ht hW => ⟨⟨x2, h, rfl, ⟨er, eh⟩, ⟨by rw [ht]; exact hw.1, by rw [ht]; exact hw.2.1⟩⟩, hw.2.2.1.F ht⟩) hw.2.2.1.2.2 dX3_symmetries_46
  have hB15 : ∀ (n15 : Nat), ∀ (h : CH) (x0 : Nat) (x1 : Int32) (x2 : Int32) (x3 : Int32) (cc ss : Nat) (H : Heap) (locs : List Loc) (ls : Array Slot), m_X3_symmetries_15 f n15 h x0 x1 x2 x3 = some (r0, u9) → CW D dA A s h H locs → cc + u.1 = h.1 → ss + u.2.1 = h.2.1 → lv_has ls 4 [(0, .ref x0), (1, .int x1), (2, .int x2), (3, .int x3)] → W p l e (rm_X3_symmetries (u9.1 - u.1) (u9.2.1 - u.2.1)) s m args below meth c H locs cc ss QQ (F0 m 15 ls []) := by
    intro n15
    induction n15 with
    | zero => intro h x0 x1 x2 x3 cc ss H locs ls hm hw hcc hss hl; rw [m_X3_symmetries_15] at hm; exact noE hm
    | succ n15 ih15 =>
      have hB37 : ∀ (h : CH) (x0 : Nat) (x1 : Int32) (x3 : Int32) (y0 : Int32) (y1 : Int32) (cc ss : Nat) (H : Heap) (locs : List Loc) (ls : Array Slot), m_X3_symmetries_37 f (m_X3_symmetries_15 f n15) h x0 x1 x3 y0 y1 = some (r0, u9) → CW D dA A s h H locs → cc + u.1 = h.1 → ss + u.2.1 = h.2.1 → lv_has ls 4 [(0, .ref x0), (1, .int x1), (3, .int x3)] → W p l e (rm_X3_symmetries (u9.1 - u.1) (u9.2.1 - u.2.1)) s m args below meth c H locs cc ss QQ (F0 m 37 ls [.int y1, .int y0]) := by
        intro h x0 x1 x3 y0 y1 cc ss H locs ls hm hw hcc hss hl
        have hmo := mo_X3_symmetries_37 (mo_X3_symmetries_15 n15) h x0 x1 x3 y0 y1 _ hm
        have sb_ : h.1 ≤ u9.1 := hmo.1
        have tb_ : h.2.1 ≤ u9.2.1 := hmo.2.1
        rw [m_X3_symmetries_37] at hm
        refine lv_iadd hx hb dX3_symmetries_37 ?_
        refine lv_topi (fun v1 ev1 => ?_)
        have hm := nmK hm ev1
        refine lv_istore_n (lv' := [(2, .int v1), (0, .ref x0), (1, .int x1), (3, .int x3)]) hx hb dX3_symmetries_38 rfl hl (by decide) rfl (fun ls hl => ?_)
        obtain ⟨v2, ev2, hm⟩ := nmE hm
        refine lv_iinc (v := v2) (lv' := [(3, .int v2), (2, .int v1), (0, .ref x0), (1, .int x1)]) hx hb dX3_symmetries_39 hl (k := 3) rfl (by rw [ev2]; rfl) (by decide) rfl (fun ls hl => ?_)
        refine lv_goto (tgt := 15) hx hb dX3_symmetries_42 (by decide) ?_
        exact ih15 h x0 x1 v1 v2 _ _ _ _ _ hm hw (by omega) (by omega) (lv_sub hl [2, 3, 1, 0] rfl)
      have hB29 : ∀ (h : CH) (x0 : Nat) (x1 : Int32) (x3 : Int32) (y0 : Int32) (y1 : Int32) (cc ss : Nat) (H : Heap) (locs : List Loc) (ls : Array Slot), m_X3_symmetries_29 f (m_X3_symmetries_15 f n15) h x0 x1 x3 y0 y1 = some (r0, u9) → CW D dA A s h H locs → cc + u.1 = h.1 → ss + u.2.1 = h.2.1 → lv_has ls 4 [(0, .ref x0), (1, .int x1), (3, .int x3)] → W p l e (rm_X3_symmetries (u9.1 - u.1) (u9.2.1 - u.2.1)) s m args below meth c H locs cc ss QQ (F0 m 29 ls [.int y1, .int y0]) := by
        intro h x0 x1 x3 y0 y1 cc ss H locs ls hm hw hcc hss hl
        have hmo := mo_X3_symmetries_29 (mo_X3_symmetries_15 n15) h x0 x1 x3 y0 y1 _ hm
        have sb_ : h.1 ≤ u9.1 := hmo.1
        have tb_ : h.2.1 ≤ u9.2.1 := hmo.2.1
        rw [m_X3_symmetries_29] at hm
        refine lv_if_eq (tgt := 36) hx hb dX3_symmetries_29 (by decide) (fun c1 => ?_) (fun c1 => ?_)
        · have hm := ifT hm c1
          refine lv_iconst (v := 0) hx hb dX3_symmetries_36 (by decide) ?_
          exact hB37 h x0 x1 x3 y0 (0 : Int32) _ _ _ _ _ hm hw (by omega) (by omega) (lv_sub hl [0, 1, 2] rfl)
        · have hm := ifF hm c1
          refine lv_iconst (v := 1) hx hb dX3_symmetries_32 (by decide) ?_
          refine lv_goto (tgt := 37) hx hb dX3_symmetries_33 (by decide) ?_
          exact hB37 h x0 x1 x3 y0 (1 : Int32) _ _ _ _ _ hm hw (by omega) (by omega) (lv_sub hl [0, 1, 2] rfl)
      intro h x0 x1 x2 x3 cc ss H locs ls hm hw hcc hss hl
      have hmo := mo_X3_symmetries_15  (n15 + 1) h x0 x1 x2 x3 _ hm
      have sb_ : h.1 ≤ u9.1 := hmo.1
      have tb_ : h.2.1 ≤ u9.2.1 := hmo.2.1
      rw [m_X3_symmetries_15] at hm
      refine lv_iload_n hx hb dX3_symmetries_15 rfl (lv_at hl 3 rfl) ?_
      refine lv_bipush (v := 48) hx hb dX3_symmetries_16 (by decide) ?_
      refine lv_icmp_ge (tgt := 45) hx hb dX3_symmetries_18 (by decide) (fun c1 => ?_) (fun c1 => ?_)
      · have hm := ifT hm c1
        exact hB45 h x2 _ _ _ _ _ hm hw (by omega) (by omega) (lv_sub hl [2] rfl)
      · have hm := ifF hm c1
        refine lv_iload_n hx hb dX3_symmetries_21 rfl (lv_at hl 2 rfl) ?_
        refine lv_aload_n hx hb dX3_symmetries_22 rfl (lv_at hl 0 rfl) ?_
        refine lv_iload_n hx hb dX3_symmetries_23 rfl (lv_at hl 3 rfl) ?_
        refine lv_iload_n hx hb dX3_symmetries_24 rfl (lv_at hl 1 rfl) ?_
        refine lv_iload_n hx hb dX3_symmetries_25 rfl (lv_at hl 1 rfl) ?_
        obtain ⟨g2, hm⟩ := gdE hm
        obtain ⟨r4, h3, er4, hm⟩ := bd2E hm
        have lh3 := mo_X3_goesBy er4
        have ph3 : h.1 ≤ h3.1 := lh3.1
        have qh3 : h.2.1 ≤ h3.2.1 := lh3.2.1
        have hmo := mo_X3_symmetries_29 (mo_X3_symmetries_15 n15)  h3 x0 x1 x3 x2 r4 _ hm
        have sh3 : h3.1 ≤ u9.1 := hmo.1
        have th3 : h3.2.1 ≤ u9.2.1 := hmo.2.1
        refine cg_calli hw lh3 (va_runV (As := [.int x3, .int x1, .int x1]) (rest := [.int x2]) ⟨hx, hb, hml, hown, hts⟩ (w_X3_goesBy l er4) (cw_X3_goesBy hts q2030 ⟨Nat.le_of_ble_eq_true rfl, Nat.le_of_ble_eq_true rfl⟩) (cg_preV C hw g2 rfl _) rfl rfl hl.1 rfl (lv_room (Nat.le_of_ble_eq_true rfl)) dX3_symmetries_26 ⟨show cc + (h3.1 - h.1) ≤ u9.1 - u.1 by omega, show ss + (h3.2.1 - h.2.1) ≤ u9.2.1 - u.2.1 by omega⟩) (fun H locs hw => ?_)
        exact hB29 h3 x0 x1 x3 x2 r4 _ _ _ _ _ hm hw (by omega) (by omega) (lv_sub hl [0, 1, 3] rfl)
  rw [m_X3_symmetries] at hm
  refine lv_aload_n hx hb dX3_symmetries_0 rfl (lv_at hl 0 rfl) ?_
  refine lv_iload_n hx hb dX3_symmetries_1 rfl (lv_at hl 1 rfl) ?_
  obtain ⟨r2, h1, er2, hm⟩ := bd2E hm
  refine cg_tci C hw er2 (show cc + s.heap.size = u.1 by rw [hs0]; omega) (fun _ hk hm9 => va_runV (As := [.int x1]) (rest := []) ⟨hx, hb, hml, hown, hts⟩ (w_X3_isLattice l hm9) (cw_X3_isLattice hts q1796 ⟨Nat.le_of_ble_eq_true rfl, Nat.le_of_ble_eq_true rfl⟩) (tb_pre C hw hk _) rfl rfl hl.1 rfl (lv_room (Nat.le_of_ble_eq_true rfl)) dX3_symmetries_2 ⟨show cc + 0 ≤ u9.1 - u.1 by omega, show ss + 0 ≤ u9.2.1 - u.2.1 by omega⟩) (fun H locs hw => ?_)
  have zh1 := tcr_sz er2
  refine lv_if_ne (tgt := 11) hx hb dX3_symmetries_5 (by decide) (fun c3 => ?_) (fun c3 => ?_)
  · have hm := ifT hm c3
    refine lv_iconst (v := 0) hx hb dX3_symmetries_11 (by decide) ?_
    refine lv_istore_n (lv' := [(2, .int (0 : Int32)), (0, .ref x0), (1, .int x1)]) hx hb dX3_symmetries_12 rfl hl (by decide) rfl (fun ls hl => ?_)
    refine lv_iconst (v := 0) hx hb dX3_symmetries_13 (by decide) ?_
    refine lv_istore_n (lv' := [(3, .int (0 : Int32)), (2, .int (0 : Int32)), (0, .ref x0), (1, .int x1)]) hx hb dX3_symmetries_14 rfl hl (by decide) rfl (fun ls hl => ?_)
    exact hB15 f h1 x0 x1 (0 : Int32) (0 : Int32) _ _ _ _ _ hm hw (by omega) (by omega) (lv_sub hl [2, 3, 1, 0] rfl)
  · have hm := ifT' hm c3
    refine lv_bipush (v := -2) hx hb dX3_symmetries_8 (by decide) ?_
    obtain ⟨er, eh⟩ := retE hm
    have ec : cc = u9.1 - u.1 := by rw [← eh]; omega
    have es : ss = u9.2.1 - u.2.1 := by rw [← eh]; omega
    rw [ec, es, ← hQ]
    exact W.iret (v := (-2 : Int32)) hx hb hr (fun t ht hW => ⟨⟨(-2 : Int32), h1, rfl, ⟨er, eh⟩, ⟨by rw [ht]; exact hw.1, by rw [ht]; exact hw.2.1⟩⟩, hw.2.2.1.F ht⟩) hw.2.2.1.2.2 dX3_symmetries_10
end
