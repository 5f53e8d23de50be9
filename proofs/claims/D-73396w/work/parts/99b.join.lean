/-! the component: sums of points of both, points of both -/
set_option maxRecDepth 100000
/-- a Small made since hb -/
def Sm (hb h : CH) (a : Nat) (m : Int) (F : Mi) : Prop := ∃ R V v, isSm h a R V m F v ∧ hb.1 ≤ a ∧ (∀ i, i < 3 → hb.1 ≤ R.2.2 i) ∧ hb.1 ≤ V
theorem Sm.ext {hb h h1 : CH} {a : Nat} {m : Int} {F : Mi} {k n : Nat} (S : Sm hb h a m F) (M : Ext k n h h1) (w : wfh h) : Sm hb h1 a m F := by
  obtain ⟨R, V, v, s1, s2, s3, s4⟩ := S
  exact ⟨R, V, v, s1.ext M w, s2, s3, s4⟩
theorem Sm.isC {hb h : CH} {a : Nat} {m : Int} {F : Mi} (S : Sm hb h a m F) : isC h a 2 = true := by
  obtain ⟨R, V, v, s1, _⟩ := S
  exact isC_c s1.1
theorem Sm_new {f : Nat} (hf : 4 ≤ f) {hb h : CH} (w : wfh h) (hge : hb.1 ≤ h.1) (m : Int) : ∃ h', m_X1_init f (cn h 3 (.inl (2, [.null, .null, .long 0]))) h.1 (li m) = some h' ∧ Sm hb h' h.1 m (dgm m) ∧ Ext 7 19 h h' := by
  have e1 : Ext 1 3 h (cn h 3 (.inl (2, [.null, .null, .long 0]))) := Mod.cn w
  obtain ⟨h', R, V, v, a1, a2, a3, a4, a5⟩ := X1_new (f := f) hf e1.wf (cm_cn_s h 3 (.inl (2, [.null, .null, .long 0]))) m
  have hg : (cn h 3 (.inl (2, [.null, .null, .long 0]))).1 = h.1 + 1 := rfl
  refine ⟨h', a1, ⟨R, V, v, a2, hge, fun i hi => ?_, ?_⟩, (Ext.trn e1 a3 (fun q hq => by omega)).up (by omega) (by omega)⟩
  · have := a4 i hi; rw [hg] at this; omega
  · rw [hg] at a5; omega
theorem Sm.takes {f : Nat} (hf : 4 ≤ f) {hb h : CH} (w : wfh h) {a : Nat} {m : Int} {F : Mi} (S : Sm hb h a m F) (gm : rg m) (hm : 0 < m) {k : Nat} (hk : k < f) (x : Nat → Int) (hok : tkOk m k F x) : ∃ h', m_X1_takes f h a (li (x 0)) (li (x 1)) (li (x 2)) = some h' ∧ Sm hb h' a m (tkF m k F x) ∧ Mod (fun q => hb.1 ≤ q) 0 0 h h' := by
  obtain ⟨R, V, v, s1, s2, s3, s4⟩ := S
  obtain ⟨h', v', a1, a2, a3⟩ := X1_takes hf gm hm hk w s1 x hok
  refine ⟨h', a1, ⟨R, V, v', a2, s2, s3, s4⟩, a3.mono (fun q _ hq => ?_) (Nat.le_refl _) (Nat.le_refl _)⟩
  rcases hq with ⟨i, hi, rfl⟩ | rfl
  · exact s3 i hi
  · exact s4
theorem Sm.takesAll {f : Nat} (hf : 4 ≤ f) {hb h : CH} (w : wfh h) {a : Nat} {m : Int} {F : Mi} (S : Sm hb h a m F) (gm : rg m) (hm : 0 < m) {k : Nat} (hk : k < f) {B : RA} {b : Mi} (hB : isN h B b) (hd : ∀ i, i < 3 → B.2.2 i < hb.1) (hok : taOk m k F b) : ∃ h', m_X1_takesAll f h a B.1 = some h' ∧ Sm hb h' a m (tkA m k F b 3) ∧ Mod (fun q => hb.1 ≤ q) 0 0 h h' := by
  obtain ⟨R, V, v, s1, s2, s3, s4⟩ := S
  obtain ⟨h', v', a1, a2, a3, _⟩ := X1_takesAll hf gm hm hk w s1 hB (fun i hi hs => by
    have := hd i hi
    rcases hs with ⟨j, hj, e⟩ | e
    · have := s3 j hj; omega
    · omega) hok
  refine ⟨h', a1, ⟨R, V, v', a2, s2, s3, s4⟩, a3.mono (fun q _ hq => ?_) (Nat.le_refl _) (Nat.le_refl _)⟩
  rcases hq with ⟨i, hi, rfl⟩ | rfl
  · exact s3 i hi
  · exact s4
theorem isN.lt {h : CH} (w : wfh h) {R : RA} {N : Mi} (hR : isN h R N) : R.1 < h.1 ∧ R.2.1 < h.1 ∧ ∀ i, i < 3 → R.2.2 i < h.1 := ⟨(w.1 _ _ hR.1).2, (w.1 _ _ hR.2.1).2, fun i hi => (w.1 _ _ (hR.2.2.1 i hi)).2⟩
/-- the Small's rows -/
theorem Sm.form {hb h : CH} {a : Nat} {m : Int} {F : Mi} (S : Sm hb h a m F) : ∃ R, oR h 2 0 a = some R.1 ∧ isN h R F := by
  obtain ⟨R, V, v, s1, _⟩ := S
  exact ⟨R, oR_c (k := 0) s1.1 rfl, s1.2.1⟩
/-- rows over a divisor at a: R, o -/
def isBt (h : CH) (a : Nat) (G : Mi) (o : Int) : Prop := ∃ R : RA, cm h a = some (.inl (10, [.ref R.1, .long (li o)])) ∧ isN h R G
theorem isBt.ext {h h1 : CH} {a : Nat} {G : Mi} {o : Int} {k n : Nat} (B : isBt h a G o) (M : Ext k n h h1) (w : wfh h) : isBt h1 a G o := by
  obtain ⟨R, b1, b2⟩ := B
  exact ⟨R, M.at w b1 id, b2.ext M w⟩
def lsG (F : Mi) (o : Int) : Mi := fun i j => (F i j).tdiv (btg F o)
def lsO (F : Mi) (o : Int) : Int := o.tdiv (btg F o)
/-- the end of both: rows over a divisor made of a Small's form -/
theorem Bt_new {f : Nat} (hf : 4 ≤ f) {hb h : CH} (w : wfh h) {s : Nat} {m : Int} {F : Mi} (S : Sm hb h s m F) {o : Int} (hF : ∀ i j, i < 3 → j < 3 → (F i j).natAbs < 2 ^ 48) (ho : o.natAbs < 2 ^ 48) (hz : o ≠ 0) : ∃ R h', oR (cn h 2 (.inl (10, [.null, .long 0]))) 2 0 s = some R ∧ m_X10_init f (cn h 2 (.inl (10, [.null, .long 0]))) h.1 R (li o) = some h' ∧ isBt h' h.1 (lsG F o) (lsO F o) ∧ Ext 6 15 h h' := by
  have e1 : Ext 1 2 h (cn h 2 (.inl (10, [.null, .long 0]))) := Mod.cn w
  obtain ⟨R, a1, a2⟩ := (S.ext e1 w).form
  obtain ⟨R', h', b1, b2, b3, b4⟩ := X10_new hf e1.wf (cm_cn_s h 2 (.inl (10, [.null, .long 0]))) a2 hF ho hz
  exact ⟨R.1, h', a1, b1, ⟨R', b2, b3⟩, (Ext.trn e1 b4 (fun q hq => by omega)).up (by omega) (by omega)⟩
theorem CV.cn {h : CH} {x : Nat} {LS : LSt} (H : CV h x LS) (w : wfh h) (kk : kok h) (n : Nat) (e : AC) : CV (cn h n e) x LS := H.ext (Mod.cn w) w kk
/-- numbers of rows that are small enough -/
def smO (a : Mi) : Prop := (∀ i j, i < 3 → j < 3 → (a i j).natAbs < 2 ^ 48) ∧ (∀ i j, i < 3 → j < 3 → (mnr a i j).natAbs < 2 ^ 48) ∧ rg (dtf a) ∧ g9 a 3 ≠ 0 ∧ g9 (mnr a) 3 ≠ 0
theorem X2_smith2 {f : Nat} (hf : 4 ≤ f) {h : CH} {A : RA} {a : Mi} (hA : isN h A a) (ho : smO a) : m_X2_smith f h A.1 2 = some (li (smt a 2), h) := X2_smith hf hA ho.1 ho.2.1 ho.2.2.1 ho.2.2.2.1 ho.2.2.2.2 (i := 2) (by decide)
def jnOk (P Q : Mi) : Prop := smO P ∧ 0 < smt P 2 ∧ smt P 2 < 2 ^ 31 ∧ taOk (smt P 2) kB (dgm (smt P 2)) P ∧ taOk (smt P 2) kB (tkA (smt P 2) kB (dgm (smt P 2)) P 3) Q ∧ ∀ i j, i < 3 → j < 3 → (tkA (smt P 2) kB (tkA (smt P 2) kB (dgm (smt P 2)) P 3) Q 3 i j).natAbs < 2 ^ 48
def jnF' (P Q : Mi) : Mi := tkA (smt P 2) kB (tkA (smt P 2) kB (dgm (smt P 2)) P 3) Q 3
theorem X0_joinOf {f : Nat} (hf : 2 ^ 33 ≤ f) {h : CH} (w : wfh h) (kk : kok h) {x : Nat} {LS : LSt} (H : CV h x LS) {l m : Nat} {M1 M2 P Q : Mi} {n1 n2 : Int} {t1 t2 : Bool} (h1 : LS[l]? = some (M1, n1, t1)) (h2 : LS[m]? = some (M2, n2, t2)) (g1 : n1.natAbs < 2 ^ 48) (g2 : n2.natAbs < 2 ^ 48) (z1' : n1 ≠ 0) (z2' : n2 ≠ 0) (gb : (btw n1 n2).natAbs < 2 ^ 48) (hb : btw n1 n2 ≠ 0) (eP : P = fun i j => (btw n1 n2).tdiv n1 * M1 i j) (eQ : Q = fun i j => (btw n1 n2).tdiv n2 * M2 i j) (hok : jnOk P Q) : ∃ a h', m_X0_joinOf f h x (ni l) (ni m) = some (a, h') ∧ isBt h' a (lsG (jnF' P Q) (btw n1 n2)) (lsO (jnF' P Q) (btw n1 n2)) ∧ Ext 80 200 h h' := by
  have f4 : 4 ≤ f := by omega
  obtain ⟨k1, k2, k3, k4, k5, k6⟩ := hok
  have r1 : rg n1 := rg_abs (k := 2 ^ 48) g1 (by decide)
  have r2 : rg n2 := rg_abs (k := 2 ^ 48) g2 (by decide)
  have rb : rg (btw n1 n2) := rg_abs (k := 2 ^ 48) gb (by decide)
  have hz : Int.gcd n1 n2 ≠ 0 := fun e => z1' (Int.gcd_eq_zero_iff.mp e).1
  unfold m_X0_joinOf
  obtain ⟨h3, a1, a2⟩ := X0_overBoth (f := f) f4 w kk H h1 h2 r1 g2 hz
  have H3 := H.ext a2 w kk
  rw [gd_of H.isC, a1, bd2_some]
  unfold m_X0_joinOf_6
  have kk3 := kk.mod a2
  obtain ⟨R1, h4, b1, b2, b3, b4, b5, b6⟩ := X0_rowsBy (f := f) f4 a2.wf kk3 H3 h1 r1 z1' rb
  rw [← eP] at b2
  have H4 := H3.ext b3 a2.wf kk3
  have kk4 := kk3.mod b3
  rw [gd_of H3.isC, b1, bd2_some]
  unfold m_X0_joinOf_13 m_X0_joinOf_18
  simp only [nmv_eq]
  have ec : Ext 1 3 h4 (cn h4 3 (.inl (2, [.null, .null, .long 0]))) := Mod.cn b3.wf
  have b2c := b2.ext ec b3.wf
  rw [gd_of (isC_R b2c), X2_smith2 f4 b2c k1, bd2_some]
  unfold m_X0_joinOf_25
  obtain ⟨h5, c1, c2, c3'⟩ := Sm_new (f := f) f4 (hb := h4) b3.wf (Nat.le_refl _) (smt P 2)
  rw [c1, bd_some]
  unfold m_X0_joinOf_28
  have gm : rg ((smt P 2 : Nat) : Int) := ⟨by omega, by omega⟩
  have hm : (0 : Int) < ((smt P 2 : Nat) : Int) := by omega
  have kf : kB < f := by unfold kB; omega
  obtain ⟨h6, d1, d2, d3⟩ := c2.takesAll f4 c3'.wf gm hm kf (b2.ext c3' b3.wf) (b2.lt b3.wf).2.2 k4
  rw [gd_of c2.isC, d1, bd_some]
  have e46 : Ext 7 19 h4 h6 := (Ext.trn c3' d3 (fun q hq => hq)).up (by omega) (by omega)
  have H6 := H4.ext e46 b3.wf kk4
  have kk6 := kk4.mod e46
  unfold m_X0_joinOf_37
  obtain ⟨R2, h7, p1, p2, p3, p4, p5, p6⟩ := X0_rowsBy (f := f) f4 d3.wf kk6 H6 h2 r2 z2' rb
  rw [← eQ] at p2
  rw [gd_of H6.isC, p1, bd2_some]
  unfold m_X0_joinOf_45
  have S7 := d2.ext p3 d3.wf
  obtain ⟨R, V, v, s1, s2, s3, s4⟩ := S7
  -- the other rows are newer than the Small
  have sl := s1.lt p3.wf
  have old : ∀ q, (∃ e, cm h6 q = some e) → q < h6.1 := fun q ⟨e, he⟩ => (d3.wf.1 q e he).2
  obtain ⟨R0, V0, v0, t1', t2', t3', t4'⟩ := d2
  have tl := t1'.lt d3.wf
  have eqc : R.1 = R0.1 ∧ V = V0 := by
    have q1 := p3.at d3.wf t1'.1 id
    rw [s1.1] at q1
    injection q1 with q1; injection q1 with q1; injection q1 with q1 q2; injection q2 with q2 q3; injection q3 with q3 q4
    exact ⟨by injection q2, by injection q3⟩
  have eqr : ∀ i, i < 3 → R.2.2 i = R0.2.2 i := by
    have q1 := p3.at d3.wf t1'.2.1.1 id
    rw [← eqc.1, s1.2.1.1] at q1
    have q2 : R.2.1 = R0.2.1 := by injection q1 with q1; injection q1 with q1; injection q1 with q1 q2; injection q2 with q2 q3; injection q2
    have q3 := p3.at d3.wf t1'.2.1.2.1 id
    rw [← q2, s1.2.1.2.1] at q3
    intro i hi
    injection q3 with q3; injection q3 with q3; injection q3 with q3 q4; injection q4 with q4 q5; injection q5 with q5; injection q5 with q5
    have := congrFun q5 i
    simp only [hi, if_true] at this
    injection this
  obtain ⟨h8, v8, u1, u2, u3, _⟩ := X1_takesAll f4 gm hm kf p3.wf s1 p2 (fun i hi hs => by
    have hq := p6 i hi
    rcases hs with ⟨j, hj, e⟩ | e
    · rw [e, eqr j hj] at hq; have := tl.2.2.2.1 j hj; omega
    · rw [e, eqc.2] at hq; have := tl.2.2.2.2; omega) k5
  rw [gd_of (isC_c s1.1), u1, bd_some]
  unfold m_X0_joinOf_48 m_X0_joinOf_51 m_X0_joinOf_61
  simp only [nmv_eq]
  have S8 : Sm h4 h8 h4.1 (smt P 2 : Nat) (jnF' P Q) := ⟨R, V, v8, u2, s2, s3, s4⟩
  have M8 : Mod (fun q => h4.1 ≤ q) 0 0 h7 h8 := u3.mono (fun q _ hq => by
    rcases hq with ⟨i, hi, rfl⟩ | rfl
    · exact s3 i hi
    · exact s4) (Nat.le_refl _) (Nat.le_refl _)
  obtain ⟨RB', h9, y1, y2, y3, y4⟩ := Bt_new (f := f) f4 M8.wf S8 k6 gb hb
  rw [y1, bd_some, y2, bd_some]
  refine ⟨h8.1, h9, rfl, y3, ?_⟩
  have e47 : Ext 32 84 h4 h7 := (e46.tr p3 (fun _ _ => id)).up (by omega) (by omega)
  have e48 : Ext 32 84 h4 h8 := (Ext.trn e47 M8 (fun q hq => hq)).up (by omega) (by omega)
  exact (((a2.tr b3 (fun _ _ => id)).tr e48 (fun _ _ => id)).tr y4 (fun _ _ => id)).up (by omega) (by omega)
