/-! acts: what hinders, what is refused -/
set_option maxRecDepth 100000
theorem pF_on {h : CH} {a ci k : Nat} {fs : List Value} (hc : cm h a = some (.inl (ci, fs))) (w : wfh h) (hk : k < fs.length) (v : Value) : ∃ h', pF h ci k a v = some h' ∧ cm h' a = some (.inl (ci, fs.set k v)) ∧ Mod (· = a) 0 0 h h' ∧ (∀ i, sR h' i = sR h i) := ⟨_, pF_c hc w hk v, cm_cs_s _ _ _, Mod.cs w hc rfl, fun _ => rfl⟩
theorem X13_new {f : Nat} {h : CH} (w : wfh h) : ∃ h', m_X13_init f (cn h 7 (.inl (12, [.int 0, .null, .null, .null, .null, .null, .int 0]))) h.1 = some h' ∧ (∃ gs, cm h' h.1 = some (.inl (12, gs)) ∧ gs[0]? = some (.int (-1 : Int32))) ∧ Ext 1 7 h h' := by
  have e1 : Ext 1 7 h (cn h 7 (.inl (12, [.int 0, .null, .null, .null, .null, .null, .int 0]))) := Mod.cn w
  have c1 := cm_cn_s h 7 (.inl (12, [.int 0, .null, .null, .null, .null, .null, .int 0]))
  generalize cn h 7 (.inl (12, [.int 0, .null, .null, .null, .null, .null, .int 0])) = h1 at e1 c1 ⊢
  unfold m_X13_init m_X12_init_X13 m_J14_init_X13 m_J13_init_X13 m_J14_init_X13_4 m_X12_init_X13_4 m_X13_init_5
  obtain ⟨h2, p2, c2, m2, s2⟩ := pF_on (k := 1) c1 e1.wf (by simp) (.ref h.1)
  obtain ⟨h3, p3', c3', m3', s3⟩ := pF_on (k := 2) c2 m2.wf (by simp) (va_rf (sR h2 8))
  obtain ⟨h4, p4, c4, m4, s4⟩ := pF_on (k := 3) c3' m3'.wf (by simp) (va_rf (sR h3 9))
  obtain ⟨h5, p5, c5, m5, s5⟩ := pF_on (k := 0) c4 m4.wf (by simp) (.int (-1 : Int32))
  have fl : flk h4 12 2 5 h.1 = true := by
    unfold flk
    have o1 : oF h4 12 2 h.1 = some (va_rf (sR h2 8)) := by unfold oF; rw [c4]; rfl
    have o4 : oF h4 12 5 h.1 = some .null := by unfold oF; rw [c4]; rfl
    rw [o1, o4, s4, s3, decide_eq_true (rfl : some (va_rf (sR h2 8)) = some (va_rf (sR h2 8))), decide_eq_true (rfl : (some Value.null : Option Value) = some .null), decide_eq_true (m4.wf.1 _ _ c4).1]; rfl
  rw [p2, bd_some, p3', bd_some, p4, bd_some, gd_of fl, bd_some, bd_some, p5, bd_some, bd_some]
  have g : ∀ q, (fun z => z = h.1) q → h.1 ≤ q := fun q hq => by have e' : q = h.1 := hq; omega
  exact ⟨h5, rfl, ⟨_, c5, rfl⟩, (Ext.trn (Ext.trn (Ext.trn (Ext.trn e1 m2 g) m3' g) m4 g) m5 g).up (by omega) (by omega)⟩
theorem X14_new {f : Nat} {h : CH} (w : wfh h) (r : Int32) : ∃ h', m_X14_init f (cn h 7 (.inl (13, [.int 0, .null, .null, .null, .null, .null, .int 0]))) h.1 r = some h' ∧ (∃ gs, cm h' h.1 = some (.inl (13, gs)) ∧ gs[0]? = some (.int r)) ∧ Ext 1 7 h h' := by
  have e1 : Ext 1 7 h (cn h 7 (.inl (13, [.int 0, .null, .null, .null, .null, .null, .int 0]))) := Mod.cn w
  have c1 := cm_cn_s h 7 (.inl (13, [.int 0, .null, .null, .null, .null, .null, .int 0]))
  generalize cn h 7 (.inl (13, [.int 0, .null, .null, .null, .null, .null, .int 0])) = h1 at e1 c1 ⊢
  unfold m_X14_init m_X12_init_X14 m_J14_init_X14 m_J13_init_X14 m_J14_init_X14_4 m_X12_init_X14_4 m_X14_init_5
  obtain ⟨h2, p2, c2, m2, s2⟩ := pF_on (k := 1) c1 e1.wf (by simp) (.ref h.1)
  obtain ⟨h3, p3', c3', m3', s3⟩ := pF_on (k := 2) c2 m2.wf (by simp) (va_rf (sR h2 8))
  obtain ⟨h4, p4, c4, m4, s4⟩ := pF_on (k := 3) c3' m3'.wf (by simp) (va_rf (sR h3 9))
  obtain ⟨h5, p5, c5, m5, s5⟩ := pF_on (k := 0) c4 m4.wf (by simp) (.int r)
  have fl : flk h4 13 2 5 h.1 = true := by
    unfold flk
    have o1 : oF h4 13 2 h.1 = some (va_rf (sR h2 8)) := by unfold oF; rw [c4]; rfl
    have o4 : oF h4 13 5 h.1 = some .null := by unfold oF; rw [c4]; rfl
    rw [o1, o4, s4, s3, decide_eq_true (rfl : some (va_rf (sR h2 8)) = some (va_rf (sR h2 8))), decide_eq_true (rfl : (some Value.null : Option Value) = some .null), decide_eq_true (m4.wf.1 _ _ c4).1]; rfl
  rw [p2, bd_some, p3', bd_some, p4, bd_some, gd_of fl, bd_some, bd_some, p5, bd_some, bd_some]
  have g : ∀ q, (fun z => z = h.1) q → h.1 ≤ q := fun q hq => by have e' : q = h.1 := hq; omega
  exact ⟨h5, rfl, ⟨_, c5, rfl⟩, (Ext.trn (Ext.trn (Ext.trn (Ext.trn e1 m2 g) m3' g) m4 g) m5 g).up (by omega) (by omega)⟩
theorem X15_new {f : Nat} {h : CH} (w : wfh h) (r : Int32) : ∃ h', m_X15_init f (cn h 7 (.inl (14, [.int 0, .null, .null, .null, .null, .null, .int 0]))) h.1 r = some h' ∧ (∃ gs, cm h' h.1 = some (.inl (14, gs)) ∧ gs[0]? = some (.int r)) ∧ Ext 1 7 h h' := by
  have e1 : Ext 1 7 h (cn h 7 (.inl (14, [.int 0, .null, .null, .null, .null, .null, .int 0]))) := Mod.cn w
  have c1 := cm_cn_s h 7 (.inl (14, [.int 0, .null, .null, .null, .null, .null, .int 0]))
  generalize cn h 7 (.inl (14, [.int 0, .null, .null, .null, .null, .null, .int 0])) = h1 at e1 c1 ⊢
  unfold m_X15_init m_X12_init_X15 m_J14_init_X15 m_J13_init_X15 m_J14_init_X15_4 m_X12_init_X15_4 m_X15_init_5
  obtain ⟨h2, p2, c2, m2, s2⟩ := pF_on (k := 1) c1 e1.wf (by simp) (.ref h.1)
  obtain ⟨h3, p3', c3', m3', s3⟩ := pF_on (k := 2) c2 m2.wf (by simp) (va_rf (sR h2 8))
  obtain ⟨h4, p4, c4, m4, s4⟩ := pF_on (k := 3) c3' m3'.wf (by simp) (va_rf (sR h3 9))
  obtain ⟨h5, p5, c5, m5, s5⟩ := pF_on (k := 0) c4 m4.wf (by simp) (.int r)
  have fl : flk h4 14 2 5 h.1 = true := by
    unfold flk
    have o1 : oF h4 14 2 h.1 = some (va_rf (sR h2 8)) := by unfold oF; rw [c4]; rfl
    have o4 : oF h4 14 5 h.1 = some .null := by unfold oF; rw [c4]; rfl
    rw [o1, o4, s4, s3, decide_eq_true (rfl : some (va_rf (sR h2 8)) = some (va_rf (sR h2 8))), decide_eq_true (rfl : (some Value.null : Option Value) = some .null), decide_eq_true (m4.wf.1 _ _ c4).1]; rfl
  rw [p2, bd_some, p3', bd_some, p4, bd_some, gd_of fl, bd_some, bd_some, p5, bd_some, bd_some]
  have g : ∀ q, (fun z => z = h.1) q → h.1 ≤ q := fun q hq => by have e' : q = h.1 := hq; omega
  exact ⟨h5, rfl, ⟨_, c5, rfl⟩, (Ext.trn (Ext.trn (Ext.trn (Ext.trn e1 m2 g) m3' g) m4 g) m5 g).up (by omega) (by omega)⟩
theorem X17_new {f : Nat} {h : CH} (w : wfh h) (kf0 : kf h) (a l : Int32) (c : Nat) : ∃ h', m_X17_init f (cn h 8 (.inl (16, [.null, .null, .null, .null, .null, .int 0, .int 0, .int 0]))) h.1 a l c = some h' ∧ (∃ fs, cm h' h.1 = some (.inl (16, fs)) ∧ fs[0]? = some (.ref c) ∧ fs[6]? = some (.int a) ∧ fs[7]? = some (.int l)) ∧ Ext 1 8 h h' := by
  have e1 : Ext 1 8 h (cn h 8 (.inl (16, [.null, .null, .null, .null, .null, .int 0, .int 0, .int 0]))) := Mod.cn w
  have c1 := cm_cn_s h 8 (.inl (16, [.null, .null, .null, .null, .null, .int 0, .int 0, .int 0]))
  obtain ⟨st, k1, _⟩ := K_str w kf0 (i := 0) (by decide)
  have k1' : sR (cn h 8 (.inl (16, [.null, .null, .null, .null, .null, .int 0, .int 0, .int 0]))) (20 + 0) = some st := k1
  generalize cn h 8 (.inl (16, [.null, .null, .null, .null, .null, .int 0, .int 0, .int 0])) = h1 at e1 c1 k1' ⊢
  unfold m_X17_init m_J14_init_2_X17 m_J13_init_2_X17 m_J14_init_2_X17_6 m_X17_init_7
  obtain ⟨h2, p2, c2, m2, s2⟩ := pF_on (k := 0) c1 e1.wf (by simp) (.ref h.1)
  obtain ⟨h3, p3', c3', m3', s3⟩ := pF_on (k := 1) c2 m2.wf (by simp) (va_rf (sR h2 8))
  obtain ⟨h4, p4, c4, m4, s4⟩ := pF_on (k := 2) c3' m3'.wf (by simp) (va_rf (sR h3 9))
  obtain ⟨h5, p5, c5, m5, s5⟩ := pF_on (k := 3) c4 m4.wf (by simp) (.ref st)
  obtain ⟨h6, p6, c6, m6, s6⟩ := pF_on (k := 0) c5 m5.wf (by simp) (.ref c)
  obtain ⟨h7, p7, c7, m7, s7⟩ := pF_on (k := 6) c6 m6.wf (by simp) (.int a)
  obtain ⟨h8, p8, c8, m8, s8⟩ := pF_on (k := 7) c7 m7.wf (by simp) (.int l)
  have fl : flk h4 16 1 4 h.1 = true := by
    unfold flk
    have o1 : oF h4 16 1 h.1 = some (va_rf (sR h2 8)) := by unfold oF; rw [c4]; rfl
    have o4 : oF h4 16 4 h.1 = some .null := by unfold oF; rw [c4]; rfl
    rw [o1, o4, s4, s3, decide_eq_true (rfl : some (va_rf (sR h2 8)) = some (va_rf (sR h2 8))), decide_eq_true (rfl : (some Value.null : Option Value) = some .null), decide_eq_true (m4.wf.1 _ _ c4).1]; rfl
  rw [k1', bd_some, p2, bd_some, p3', bd_some, p4, bd_some, gd_of fl, p5, bd_some, p6, bd_some, bd_some, bd_some, p7, bd_some, p8, bd_some]
  have g : ∀ q, (fun z => z = h.1) q → h.1 ≤ q := fun q hq => by have e' : q = h.1 := hq; omega
  exact ⟨h8, rfl, ⟨_, c8, rfl, rfl, rfl⟩, (Ext.trn (Ext.trn (Ext.trn (Ext.trn (Ext.trn (Ext.trn (Ext.trn e1 m2 g) m3' g) m4 g) m5 g) m6 g) m7 g) m8 g).up (by omega) (by omega)⟩
