/-! acts: changes -/
set_option maxRecDepth 100000
theorem X16_new {f : Nat} {h : CH} (w : wfh h) (l : Int32) (r : Nat) : ∃ h', m_X16_init f (cn h 2 (.inl (15, [.int 0, .null]))) h.1 l r = some h' ∧ cm h' h.1 = some (.inl (15, [.int l, .ref r])) ∧ Ext 1 2 h h' := by
  have e1 : Ext 1 2 h (cn h 2 (.inl (15, [.int 0, .null]))) := Mod.cn w
  have c1 := cm_cn_s h 2 (.inl (15, [.int 0, .null]))
  generalize cn h 2 (.inl (15, [.int 0, .null])) = h1 at e1 c1 ⊢
  obtain ⟨h2, p2, c2, m2, s2⟩ := pF_on (k := 0) c1 e1.wf (by simp) (.int l)
  obtain ⟨h3, p3', c3', m3', s3⟩ := pF_on (k := 1) c2 m2.wf (by simp) (.ref r)
  unfold m_X16_init
  rw [p2, bd_some, p3', bd_some]
  have g : ∀ q, (fun z => z = h.1) q → h.1 ≤ q := fun q hq => by have e' : q = h.1 := hq; omega
  exact ⟨h3, rfl, c3', (Ext.trn (Ext.trn e1 m2 g) m3' g).up (by omega) (by omega)⟩
theorem X0_chg_y {f : Nat} (hf : 4 ≤ f) {h : CH} {A : Nat → Nat} {lo : Nat} {al : List Nat} (O : AOk A lo al) {b : Nat → Nat} {n : Nat} {fk fp : Int32} {ts : List It} {W : Nat → Mi} {acts : List Act} {wy : Why} (C : CIv h A lo b n fk fp ts W acts wy) {k i : Nat} (hk : k < ts.length) (ho : (ts.getD k ([], none)).2 = none) {R : RA} {M : Mi} (hR : isN h R M) (nR : nwO lo R) (hi : i < 3) (h2 : ∀ r c, r < 3 → c < 3 → (M r c).natAbs ≤ 2000) (ha : acts.length < 20) (hz : knd M i = 0) (a : Int32) : ∃ h1 q, m_X0_changes f h (A 23) a (ni k) R.1 (ni i) = some (.inl (), h1) ∧ CIv h1 A lo b n fk fp ts (updW W k M) (acts ++ [(k, W)]) wy ∧ Mod (aS A q) 1 2 h h1 ∧ lo ≤ q := by
  have C' := C
  obtain ⟨w, kf0, l0, n5, ⟨t1, t2, rf, c1, cw⟩, X, ⟨tf, c2, c3'⟩, ⟨fl, L⟩, acl, AC'⟩ := C'
  have lt : ∀ i, i < 30 → i ≠ 24 → A i < lo := fun i hi h4 => (O.2.1 _ (fA_i hi h4)).1
  have d1 := lt 21 (by decide) (by decide)
  have d2 := lt 22 (by decide) (by decide)
  have d3 := lt 23 (by decide) (by decide)
  obtain ⟨mc, cA⟩ := AC'.1.1
  obtain ⟨q, f1, f2, f3, f4⟩ := CL_at (f := f) L c1 rfl hk
  unfold cLt at f3
  rw [ho] at f3
  obtain ⟨R0, o1, o2⟩ := f3
  obtain ⟨h4, p1, p2, e4⟩ := X16_new (f := f) w (ni k) R0.1
  have C4 := C.ext e4
  obtain ⟨w4, kf4, l4, _, ⟨t1', t2', rf', c1', cw'⟩, X4, ⟨tf', c2', c3''⟩, ⟨fl', L4'⟩, _⟩ := C4
  have L4 : CL h4 A lo fl ts W := L.nw e4 w kf0.kok (fun q hq => hq.elim) id id (fun q hq => hq.elim)
  have AC4 : CA h4 A lo acl acts := AC'.nw e4 w kf0.kok (fun q hq => hq.elim) id id (fun q hq => hq.elim)
  have o14 := e4.at w o1.1 id
  obtain ⟨h5, a1, a2, a3, a4⟩ := J2_add (f := f) w4 kf4.kok AC4.1 (by rw [AC4.2.1]; exact ha) (x := h.1) (isO_c p2 (by decide))
  have nlS : ∀ {z}, lo ≤ z → ¬ lS (A 21) (A 22) z := fun {z} hz e => by rcases e with e | e <;> omega
  have c15 : cm h5 (A 23) = some (xC A (ni ts.length) (ni n) fk fp t1' t2' rf') := a3.at w4 c1' (fun e => by
    rcases e with e | e
    · exact O.ne (i := 23) (j := 21) (by decide) (by decide) (by decide) (by decide) (by decide) e
    · exact O.ne (i := 23) (j := 22) (by decide) (by decide) (by decide) (by decide) (by decide) e)
  have o15 := a3.at w4 o14 (nlS f2)
  have L5 : isL h5 (A 0) (A 1) 5 fl := by
    refine L4.1.mod a3 w4 kf4.kok (fun e => ?_) (fun e => ?_) (fun z hz ci fs hc => ?_)
    · rcases e with e | e
      · exact O.ne (i := 0) (j := 21) (by decide) (by decide) (by decide) (by decide) (by decide) e
      · exact O.ne (i := 0) (j := 22) (by decide) (by decide) (by decide) (by decide) (by decide) e
    · rcases e with e | e
      · exact O.ne (i := 1) (j := 21) (by decide) (by decide) (by decide) (by decide) (by decide) e
      · exact O.ne (i := 1) (j := 22) (by decide) (by decide) (by decide) (by decide) (by decide) e
    · rcases hz with rfl | rfl
      · have e := isL_obj AC4.1 hc
        obtain ⟨mc, e1⟩ := a2.1
        rw [e]; exact ⟨_, e1⟩
      · exact (isL_arr AC4.1 hc).elim
  have at5 : m_X0_at f h5 (A 23) (ni k) = some (q, h5) := by
    unfold m_X0_at m_X0_at_8
    obtain ⟨mc0, cL0⟩ := L5.1
    rw [oR_c (k := 0) (x := A 0) c15 rfl, bd_some, gd_of (isC_c cL0), J2_get L5 f1, bd2_some, if_pos (isC_c o15)]
  obtain ⟨h6, b1, b2, b3, b4⟩ := pF_on (k := 0) o15 a3.wf (by simp) (.ref R.1)
  have m46 : Mod (aS A q) 0 0 h4 h6 := (a3.mono (T := aS A q) (fun z _ hz => by rcases hz with e | e; exact .inl e; exact .inr (.inl e)) (Nat.le_refl _) (Nat.le_refl _)).tr b3 (fun z _ hz => .inr (.inr hz))
  have R4 := hR.ext e4 w
  have R04 := o1.2.ext e4 w
  have hR6 : isN h6 R M := isN.ct (mc := 0) (E := .null) (z := .null) m46 w4 o14 d1 d2 R4 nR
  have ew5 : wfh h5 := a3.wf
  have h1q : lo ≤ h.1 := l0
  have p6 : cm h6 h.1 = some (.inl (15, [.int (ni k), .ref R0.1])) := ct_at m46 w4 o14 d1 d2 p2 l0 (by decide)
  have L6 : isL h6 (A 21) (A 22) 20 (acl ++ [h.1]) := by
    refine a2.mod b3 ew5 (kf4.mod a3).kok (fun e => ?_) (fun e => ?_) (fun z hz ci fs hc => ?_)
    · have e' : A 21 = q := e; omega
    · have e' : A 22 = q := e; omega
    · have e' : z = q := hz
      subst e'
      rw [o15] at hc; cases hc; exact ⟨_, b2⟩
  have CA6 : CA h6 A lo (acl ++ [h.1]) (acts ++ [(k, W)]) := by
    refine ⟨L6, by rw [List.length_append, List.length_append, AC4.2.1]; rfl, fun z l Wk hz => ?_⟩
    by_cases hza : z < acts.length
    · rw [List.getElem?_append_left hza] at hz
      obtain ⟨az, Rz, z1', z2', z3', z4', z5⟩ := AC4.2.2 z l Wk hz
      exact ⟨az, Rz, by rw [List.getElem?_append_left (by rw [AC4.2.1]; exact hza)]; exact z1', z2', ct_at m46 w4 o14 d1 d2 z3' z2' (by decide), isN.ct (mc := 0) (E := .null) (z := .null) m46 w4 o14 d1 d2 z4' z5, z5⟩
    · have hzz : z = acts.length := by
        have := (List.getElem?_eq_some_iff.mp hz).1
        rw [List.length_append] at this
        have e1 : ([(k, W)] : List Act).length = 1 := rfl
        omega
      subst hzz
      rw [List.getElem?_append_right (Nat.le_refl _), Nat.sub_self] at hz
      cases hz
      exact ⟨h.1, R0, by rw [← AC4.2.1, List.getElem?_append_right (Nat.le_refl _), Nat.sub_self]; rfl, l0, p6, isN.ct (mc := 0) (E := .null) (z := .null) m46 w4 o14 d1 d2 R04 o2, o2⟩
  refine ⟨h6, q, ?_, CIv.act (acts := acts) O w4 kf4 l4 n5 c1' cw' X4 c2' c3'' L4 AC4.1 m46 hk ho f1 f2 o14 b2 hR6 nR CA6, ((e4.mono (T := aS A q) (fun _ _ h => h.elim) (Nat.le_refl _) (Nat.le_refl _)).tr m46 (fun _ _ h => h)), f2⟩
  have n20 : ¬ ni acl.length = (20 : Int32) := fun hh => by have := (ni_inj (k := 20) (by have := AC'.2.1; omega) (by decide)).mp hh; have := AC'.2.1; omega
  have c1n : cm (cn h 2 (.inl (15, [.int 0, .null]))) (A 23) = some (xC A (ni ts.length) (ni n) fk fp t1 t2 rf) := (Mod.cn (S := fun _ => False) w).at w c1 id
  have Ln : CL (cn h 2 (.inl (15, [.int 0, .null]))) A lo fl ts W := L.nw (S := fun _ => False) (Mod.cn w) w kf0.kok (fun q hq => hq.elim) id id (fun q hq => hq.elim)
  have atn : m_X0_at f (cn h 2 (.inl (15, [.int 0, .null]))) (A 23) (ni k) = some (q, cn h 2 (.inl (15, [.int 0, .null]))) := by
    obtain ⟨q', g1, _, _, g4⟩ := CL_at (f := f) Ln c1n rfl hk
    rw [f1] at g1; cases g1; exact g4
  have o1n : cm (cn h 2 (.inl (15, [.int 0, .null]))) q = some (.inl (6, [.ref R0.1])) := (Mod.cn (S := fun _ => False) w).at w o1.1 id
  have icA4 : isC h4 (A 21) 17 = true := by obtain ⟨mc, e⟩ := AC4.1.1; exact isC_c e
  unfold m_X0_changes m_X0_changes_7
  rw [oR_c (k := 14) (x := A 21) c1 rfl, bd_some, gd_of (isC_c cA), J2_size AC'.1, bd2_some, if_pos n20, (X0_checks hf w hR hi h2).1 hz, bx_l]
  unfold m_X0_changes_26
  rw [oR_c (k := 14) (x := A 21) c1 rfl, bd_some, nmv_eq, nmv_eq]
  unfold m_X0_changes_33
  rw [gd_of (isC_c c1n), atn, bd2_some]
  unfold m_X0_changes_40
  rw [oR_c (k := 0) o1n rfl, bd_some, p1, bd_some]
  unfold m_X0_changes_46
  rw [gd_of icA4, a1, bd2_some]
  unfold m_X0_changes_49
  rw [gd_of (isC_c c15), at5, bd2_some]
  unfold m_X0_changes_55
  rw [b1, bd_some]
theorem X0_chg_n {f : Nat} (hf : 4 ≤ f) {h : CH} {A : Nat → Nat} {lo : Nat} {b : Nat → Nat} {n : Nat} {fk fp : Int32} {ts : List It} {W : Nat → Mi} {acts : List Act} {wy : Why} (C : CIv h A lo b n fk fp ts W acts wy) {k i : Nat} {R : RA} {M : Mi} (hR : isN h R M) (hi : i < 3) (h2 : ∀ r c, r < 3 → c < 3 → (M r c).natAbs ≤ 2000) (ha : acts.length ≤ 20) (hz : ¬ (acts.length < 20 ∧ knd M i = 0)) (a : Int32) : ∃ h1 q wy', m_X0_changes f h (A 23) a (ni k) R.1 (ni i) = some (.inr q, h1) ∧ out W acts wy a k i M = (-5, W, acts, wy') ∧ CWy h1 lo (.ref q) wy' ∧ isC h1 q 16 = true ∧ Ext 2 15 h h1 := by
  obtain ⟨w, kf0, l0, n5, ⟨t1, t2, rf, c1, cw⟩, X, _, _, acl, AC'⟩ := C
  obtain ⟨mc, cA⟩ := AC'.1.1
  have e20 : ni acl.length = (20 : Int32) ↔ acts.length = 20 := by
    rw [← AC'.2.1]; exact ni_inj (k := 20) (by have := AC'.2.1; omega) (by decide)
  unfold m_X0_changes m_X0_changes_7 out
  rw [oR_c (k := 14) (x := A 21) c1 rfl, bd_some, gd_of (isC_c cA), J2_size AC'.1, bd2_some]
  by_cases h20 : acts.length = 20
  · rw [if_pos h20, if_neg (fun hh => hh (e20.mpr h20)), nmv_eq, nmv_eq]
    obtain ⟨h3, p1, ⟨gs, p2, p3'⟩, p4⟩ := X13_new (f := f) w
    obtain ⟨h4, r1, ⟨fs, r2, r3, r4, r5⟩, r6⟩ := X17_new (f := f) p4.wf (kf0.mod p4) a (ni k) h.1
    have lt := (p4.wf.1 _ _ p2).2
    refine ⟨h4, h3.1, _, ?_, rfl, ⟨h3.1, h.1, fs, gs, rfl, by omega, l0, by omega, r2, r3, r4, r5, r6.at p4.wf p2 id, p3', .inr (.inr rfl)⟩, isC_c r2, (p4.tr r6 (fun _ _ => id)).up (by omega) (by omega)⟩
    unfold m_X0_changes_15 m_X0_changes_19 m_X0_changes_76 m_X0_changes_81 m_X0_changes_89
    rw [p1, bd_some, gd_of (isC_c p2), nmv_eq, nmv_eq, r1, bd_some, gd_of (isC_c r2)]
  · have hk0 : knd M i ≠ 0 := fun e => hz ⟨by omega, e⟩
    rw [if_neg h20, if_neg hk0, if_pos (fun hh => h20 (e20.mp hh))]
    obtain ⟨h3, gs, p1, p2, p3', p4⟩ := (X0_checks hf w hR hi h2).2 hk0
    obtain ⟨h4, r1, ⟨fs, r2, r3, r4, r5⟩, r6⟩ := X17_new (f := f) p4.wf (kf0.mod p4) a (ni k) h.1
    have lt := (p4.wf.1 _ _ p2).2
    have k12 : ni (knd M i) = (1 : Int32) ∨ ni (knd M i) = (2 : Int32) ∨ ni (knd M i) = (3 : Int32) := by
      have := knd_lt M i
      rcases (show knd M i = 1 ∨ knd M i = 2 by omega) with e | e
      · rw [e]; exact .inl rfl
      · rw [e]; exact .inr (.inl rfl)
    have fin : m_X0_changes_62 f h3 a (ni k) h.1 = some (.inr h3.1, h4) := by
      unfold m_X0_changes_62 m_X0_changes_67 m_X0_changes_75
      rw [nmv_eq, nmv_eq, r1, bd_some, gd_of (isC_c r2)]
    refine ⟨h4, h3.1, _, ?_, rfl, ⟨h3.1, h.1, fs, gs, rfl, by omega, l0, by omega, r2, r3, r4, r5, r6.at p4.wf p2 id, p3', k12⟩, isC_c r2, (p4.tr r6 (fun _ _ => id)).up (by omega) (by omega)⟩
    rw [p1, bx_r]
    by_cases h13 : isC h3 h.1 13 = true
    · rw [if_pos h13]; exact fin
    · rw [if_neg h13]
      have e14 : isC h3 h.1 14 = true := by
        have := knd_lt M i
        rcases (show knd M i = 1 ∨ knd M i = 2 by omega) with e | e
        · rw [e] at p2; exact absurd (isC_c (ci := 13) p2) h13
        · rw [e] at p2; exact isC_c (ci := 14) p2
      rw [gd_of e14]; exact fin
