/-! lattices: their rows, over what -/
set_option maxRecDepth 100000
def ltg (A T : Mi) (ov : Int) : Nat := Int.gcd (g9 (pmul A T) 3) ov
/-- a lattice at a: its own rows are R's, or it is another one (at b), turned -/
def isOw (h : CH) (a : Nat) (R : RA) (N : Mi) : Prop := cm h a = some (.inl (6, [.ref R.1])) ∧ isN h R N
def isTn (h : CH) (a b : Nat) (T : RA) (Tm : Mi) (ov up : Int) : Prop := ∃ r0, cm h a = some (.inl (7, [.ref r0, .ref b, .ref T.1, .long (li ov), .long (li up)])) ∧ isN h T Tm
def tnOk (A T : Mi) (ov : Int) : Prop := (∀ i j, i < 3 → j < 3 → (pmul A T i j).natAbs < 2 ^ 48) ∧ ov.natAbs < 2 ^ 48 ∧ ov ≠ 0
theorem ltg_pos {A T : Mi} {ov : Int} (h : tnOk A T ov) : ltg A T ov ≠ 0 := by
  intro e
  have := Int.gcd_eq_zero_iff.mp e
  exact h.2.2 this.2
theorem ltg_rg {A T : Mi} {ov : Int} (h : tnOk A T ov) : rg (ltg A T ov : Int) := by
  have h1 : ltg A T ov < 2 ^ 48 := gcd_lt (by simpa using g9_lt (by decide) 3 h.1) h.2.1
  exact rg_abs (k := 2 ^ 48) (by simpa using h1) (by decide)
theorem X7_whole {f : Nat} (hf : 4 ≤ f) {h : CH} (w : wfh h) {a b : Nat} {B T : RA} {A Tm : Mi} {ov up : Int} (hT : isTn h a b T Tm ov up) (hB : isOw h b B A) : ∃ h', m_X7_whole f h a = some (h.1, h') ∧ isN h' (nwR h) (pmul A Tm) ∧ Ext 5 13 h h' ∧ h'.1 = h.1 + 5 := by
  obtain ⟨r0, c1, hT⟩ := hT
  obtain ⟨c2, hB⟩ := hB
  unfold m_X7_whole m_X6_rows
  rw [oR_c (k := 1) (x := b) c1 rfl, bd_some, gd_of (isC_c c2), oR_c (k := 0) (x := B.1) c2 rfl, bd_some, bd2_some]
  unfold m_X7_whole_7 m_X7_whole_14
  obtain ⟨h', e1, e2, e3, e4⟩ := X2_times hf w hB hT
  rw [oR_c (k := 2) (x := T.1) c1 rfl, bd_some, gd_of (isC_R hB), e1, bd2_some]
  exact ⟨h', rfl, e2, e3, e4⟩
theorem isTn.ext {k n : Nat} {h h1 : CH} (m : Ext k n h h1) (w : wfh h) {a b : Nat} {T : RA} {Tm : Mi} {ov up : Int} (hT : isTn h a b T Tm ov up) : isTn h1 a b T Tm ov up := by
  obtain ⟨r0, c1, hT⟩ := hT
  exact ⟨r0, m.at w c1 id, hT.ext m w⟩
theorem isOw.ext {k n : Nat} {h h1 : CH} (m : Ext k n h h1) (w : wfh h) {a : Nat} {R : RA} {N : Mi} (hO : isOw h a R N) : isOw h1 a R N := ⟨m.at w hO.1 id, hO.2.ext m w⟩
theorem X7_part {f : Nat} (hf : 4 ≤ f) {h : CH} (w : wfh h) {a b : Nat} {B T : RA} {A Tm : Mi} {ov up : Int} (hT : isTn h a b T Tm ov up) (hB : isOw h b B A) (hk : tnOk A Tm ov) : ∃ h', m_X7_part f h a = some (li (ltg A Tm ov), h') ∧ Ext 5 13 h h' := by
  obtain ⟨h1, e1, e2, e3, e4⟩ := X7_whole hf w hT hB
  obtain ⟨r0, c1, _⟩ := hT.ext e3 w
  have c0 := hT
  obtain ⟨r1, c2, _⟩ := c0
  unfold m_X7_part
  rw [gd_of (isC_c c2), e1, bd2_some]
  unfold m_X7_part_4
  rw [gd_of (show isC h1 h.1 3 = true from isC_R e2), show m_X2_common f h1 h.1 = _ from X2_common hf e2 hk.1, bd2_some]
  unfold m_X7_part_7
  have h9 : g9 (pmul A Tm) 3 < 2 ^ 48 := g9_lt (by decide) 3 hk.1
  rw [oL_c (k := 3) (x := li ov) c1 rfl, bd_some, divisor_li (rg_abs (k := 2 ^ 48) (by simpa using h9) (by decide)) hk.2.1, bd_some]
  exact ⟨h1, rfl, e3⟩
theorem X7_rows {f : Nat} (hf : 4 ≤ f) {h : CH} (w : wfh h) {a b : Nat} {B T : RA} {A Tm : Mi} {ov up : Int} (hT : isTn h a b T Tm ov up) (hB : isOw h b B A) (hk : tnOk A Tm ov) : ∃ R h', m_X7_rows f h a = some (R.1, h') ∧ isN h' R (fun i j => (pmul A Tm i j).tdiv (ltg A Tm ov)) ∧ Ext 15 39 h h' := by
  obtain ⟨h1, e1, e2, e3, e4⟩ := X7_whole hf w hT hB
  have w1 := e3.2.2.2.2.2.2.2
  have hT1 := hT.ext e3 w
  have hB1 := hB.ext e3 w
  obtain ⟨h2, p1, p2⟩ := X7_part hf w1 hT1 hB1 hk
  have w2 := p2.2.2.2.2.2.2.2
  have r2 := e2.ext p2 w1
  obtain ⟨h3, q1, q2, q3, q4⟩ := X2_by hf w2 r2 (ltg_rg hk) (fun e => ltg_pos hk (by omega)) (fun i j hi hj => rg_abs (k := 2 ^ 48) (hk.1 i j hi hj) (by decide))
  obtain ⟨r0, c0, _⟩ := hT
  obtain ⟨r1, c1, _⟩ := hT1
  unfold m_X7_rows
  rw [gd_of (isC_c c0), e1, bd2_some]
  unfold m_X7_rows_4
  rw [gd_of (isC_c c1), p1, bd2_some]
  unfold m_X7_rows_8 m_X7_rows_11
  rw [gd_of (show isC h2 h.1 3 = true from isC_R r2), show m_X2_by f h2 h.1 _ = _ from q1, bd2_some]
  exact ⟨nwR h2, h3, rfl, q2, ((e3.tr p2 (fun _ _ => id)).tr q3 (fun _ _ => id)).mono (fun _ _ => id) (by omega) (by omega)⟩
theorem X7_over {f : Nat} (hf : 4 ≤ f) {h : CH} (w : wfh h) {a b : Nat} {B T : RA} {A Tm : Mi} {ov up : Int} (hT : isTn h a b T Tm ov up) (hB : isOw h b B A) (hk : tnOk A Tm ov) : ∃ h', m_X7_over f h a = some (li (ov.tdiv (ltg A Tm ov)), h') ∧ Ext 5 13 h h' := by
  obtain ⟨h1, p1, p2⟩ := X7_part hf w hT hB hk
  obtain ⟨r0, c0, _⟩ := hT
  unfold m_X7_over
  rw [oL_c (k := 3) (x := li ov) c0 rfl, bd_some, gd_of (isC_c c0), p1, bd2_some]
  unfold m_X7_over_8
  rw [gd_of (nzL_li (ltg_rg hk) (fun e => ltg_pos hk (by omega))), li_div (rg_abs (k := 2 ^ 48) hk.2.1 (by decide)) (ltg_rg hk)]
  exact ⟨h1, rfl, p2⟩
/-- any lattice: its rows M over n -/
def isLt (h : CH) (a : Nat) (M : Mi) (n : Int) (tn : Bool) : Prop := (tn = false ∧ n = 1 ∧ ∃ R, isOw h a R M) ∨ (tn = true ∧ ∃ b B T A Tm ov up, isTn h a b T Tm ov up ∧ isOw h b B A ∧ tnOk A Tm ov ∧ M = (fun i j => (pmul A Tm i j).tdiv (ltg A Tm ov)) ∧ n = ov.tdiv (ltg A Tm ov))
theorem isLt.ext {k n : Nat} {h h1 : CH} (m : Ext k n h h1) (w : wfh h) {a : Nat} {M : Mi} {o : Int} {tn : Bool} (hL : isLt h a M o tn) : isLt h1 a M o tn := by
  rcases hL with ⟨e, e2, R, hO⟩ | ⟨e, b, B, T, A, Tm, ov, up, h1, h2, h3⟩
  · exact .inl ⟨e, e2, R, hO.ext m w⟩
  · exact .inr ⟨e, b, B, T, A, Tm, ov, up, h1.ext m w, h2.ext m w, h3⟩
theorem isC_n {h : CH} {a ci cj : Nat} {fs : List Value} (hc : cm h a = some (.inl (ci, fs))) (hn : ci ≠ cj) : isC h a cj = false := by unfold isC; rw [hc]; simp [hn]
theorem L_rows {f : Nat} (hf : 4 ≤ f) {h : CH} (w : wfh h) {a : Nat} {M : Mi} {o : Int} {tn : Bool} (hL : isLt h a M o tn) : ∃ R h', isN h' R M ∧ Ext 15 39 h h' ∧ ∀ {γ : Type} (K : Nat → CH → Option γ), (if isC h a 6 = true then bd2 (m_X6_rows f h a) K else gd (isC h a 7) (bd2 (m_X7_rows f h a) K)) = K R.1 h' := by
  rcases hL with ⟨_, _, R, hO⟩ | ⟨_, b, B, T, A, Tm, ov, up, h1, h2, h3, rfl, _⟩
  · refine ⟨R, h, hO.2, (Mod.rf w).mono (fun _ _ => id) (by omega) (by omega), fun K => ?_⟩
    rw [if_pos (isC_c hO.1)]
    unfold m_X6_rows
    rw [oR_c (k := 0) (x := R.1) hO.1 rfl, bd_some, bd2_some]
  · obtain ⟨R, h', e1, e2, e3⟩ := X7_rows hf w h1 h2 h3
    refine ⟨R, h', e2, e3, fun K => ?_⟩
    obtain ⟨r0, c0, _⟩ := h1
    rw [isC_n c0 (by decide), if_neg (by decide), gd_of (isC_c c0), e1, bd2_some]
theorem L_over {f : Nat} (hf : 4 ≤ f) {h : CH} (w : wfh h) {a : Nat} {M : Mi} {o : Int} {tn : Bool} (hL : isLt h a M o tn) : ∃ h', Ext 5 13 h h' ∧ ∀ {γ : Type} (K : Int64 → CH → Option γ), (if isC h a 6 = true then bd2 (m_X6_over f h a) K else gd (isC h a 7) (bd2 (m_X7_over f h a) K)) = K (li o) h' := by
  rcases hL with ⟨_, e0, R, hO⟩ | ⟨_, b, B, T, A, Tm, ov, up, h1, h2, h3, _, rfl⟩
  · refine ⟨h, (Mod.rf w).mono (fun _ _ => id) (by omega) (by omega), fun K => ?_⟩
    rw [if_pos (isC_c hO.1), e0]
    rfl
  · obtain ⟨h', e1, e2⟩ := X7_over hf w h1 h2 h3
    refine ⟨h', e2, fun K => ?_⟩
    obtain ⟨r0, c0, _⟩ := h1
    rw [isC_n c0 (by decide), if_neg (by decide), gd_of (isC_c c0), e1, bd2_some]
theorem L_isT {f : Nat} {h : CH} {a : Nat} {M : Mi} {o : Int} {tn : Bool} (hL : isLt h a M o tn) {γ : Type} (K : Int32 → CH → Option γ) : (if isC h a 6 = true then bd2 (m_X6_isTurned f h a) K else gd (isC h a 7) (bd2 (m_X7_isTurned f h a) K)) = K (if tn = true then 1 else 0) h := by
  rcases hL with ⟨e, e0, R, hO⟩ | ⟨e, b, B, T, A, Tm, ov, up, h1, h2, h3, _, _⟩
  · rw [if_pos (isC_c hO.1), e]; rfl
  · obtain ⟨r0, c0, _⟩ := h1
    rw [isC_n c0 (by decide), if_neg (by decide), gd_of (isC_c c0), e]; rfl
