/-! the component: points of both -/
set_option maxRecDepth 100000
def SmB (lo hi : Nat) (h : CH) (a : Nat) (m : Int) (F : Mi) : Prop := ∃ R V v, isSm h a R V m F v ∧ lo ≤ a ∧ (∀ i, i < 3 → lo ≤ R.2.2 i ∧ R.2.2 i < hi) ∧ lo ≤ V ∧ V < hi
theorem Sm.toB {hb h : CH} {a : Nat} {m : Int} {F : Mi} (w : wfh h) (S : Sm hb h a m F) : SmB hb.1 h.1 h a m F := by
  obtain ⟨R, V, v, s1, s2, s3, s4⟩ := S
  have l := s1.lt w
  exact ⟨R, V, v, s1, s2, fun i hi => ⟨s3 i hi, l.2.2.2.1 i hi⟩, s4, l.2.2.2.2⟩
theorem SmB.ext {lo hi : Nat} {h h1 : CH} {a : Nat} {m : Int} {F : Mi} {k n : Nat} (S : SmB lo hi h a m F) (M : Ext k n h h1) (w : wfh h) : SmB lo hi h1 a m F := by
  obtain ⟨R, V, v, s1, s2, s3, s4⟩ := S
  exact ⟨R, V, v, s1.ext M w, s2, s3, s4⟩
theorem SmB.isC {lo hi : Nat} {h : CH} {a : Nat} {m : Int} {F : Mi} (S : SmB lo hi h a m F) : isC h a 2 = true := by
  obtain ⟨R, V, v, s1, _⟩ := S
  exact isC_c s1.1
theorem SmB.takesAll {f : Nat} (hf : 4 ≤ f) {lo hi : Nat} {h : CH} (w : wfh h) {a : Nat} {m : Int} {F : Mi} (S : SmB lo hi h a m F) (gm : rg m) (hm : 0 < m) {k : Nat} (hk : k < f) {B : RA} {b : Mi} (hB : isN h B b) (hd : ∀ i, i < 3 → hi ≤ B.2.2 i) (hok : taOk m k F b) : ∃ h', m_X1_takesAll f h a B.1 = some h' ∧ SmB lo hi h' a m (tkA m k F b 3) ∧ Mod (fun q => lo ≤ q) 0 0 h h' := by
  obtain ⟨R, V, v, s1, s2, s3, s4, s5⟩ := S
  obtain ⟨h', v', a1, a2, a3, _⟩ := X1_takesAll hf gm hm hk w s1 hB (fun i hi' hs => by
    have := hd i hi'
    rcases hs with ⟨j, hj, e⟩ | e
    · have := (s3 j hj).2; omega
    · omega) hok
  refine ⟨h', a1, ⟨R, V, v', a2, s2, s3, s4, s5⟩, a3.mono (fun q _ hq => ?_) (Nat.le_refl _) (Nat.le_refl _)⟩
  rcases hq with ⟨i, hi', rfl⟩ | rfl
  · exact (s3 i hi').1
  · exact s4
theorem isN.md {hb : Nat} {h h1 : CH} {R : RA} {N : Mi} {k n : Nat} (hR : isN h R N) (M : Mod (fun q => hb ≤ q) k n h h1) (w : wfh h) (l1 : R.1 < hb) (l2 : R.2.1 < hb) (l3 : ∀ i, i < 3 → R.2.2 i < hb) : isN h1 R N := hR.mod M w (by omega) (by omega) (fun i hi => by have := l3 i hi; omega)
/-- columns taken, one behind the other -/
theorem X0_mt59 {f : Nat} (hf : 4 ≤ f) {hb h9 : CH} (w9 : wfh h9) {s : Nat} {m : Int} {T : RA} {N : Mi} {k : Nat} (S9 : Sm hb h9 s m (dgm m)) (gm : rg m) (hm : 0 < m) (hk : k < f) (hT : isN h9 T N) (l1 : T.1 < hb.1) (l2 : T.2.1 < hb.1) (l3 : ∀ i, i < 3 → T.2.2 i < hb.1) (hok : taOk m k (dgm m) (tN N)) (x3 : Int64) (x5 x6 : Nat) (x7 : Int64) : ∃ h', m_X0_meetOf_59 f f h9 x3 x5 x6 x7 T.1 s 0 = m_X0_meetOf_106 f h' x3 x5 x6 x7 s ∧ Sm hb h' s m (tkA m k (dgm m) (tN N) 3) ∧ Mod (fun q => hb.1 ≤ q) 0 0 h9 h' := by
  obtain ⟨h2, p2, e2⟩ := loop3 (fun n h y => m_X0_meetOf_59 f n h x3 x5 x6 x7 T.1 s y) (fun h => m_X0_meetOf_106 f h x3 x5 x6 x7 s) (fun j h => Sm hb h s m (tkA m k (dgm m) (tN N) j) ∧ Mod (fun q => hb.1 ≤ q) 0 0 h9 h)
    (fun n h _ => by rw [m_X0_meetOf_59, if_pos le33])
    (fun n h j hj p => by
      obtain ⟨a1, a2⟩ := p
      have hT' := hT.md a2 w9 l1 l2 l3
      obtain ⟨h', b1, b2, b3⟩ := a1.takes hf a2.wf gm hm hk (tN N j) (hok j hj)
      refine ⟨h', ?_, b2, (a2.tr b3 (fun _ _ hq => hq))⟩
      rw [m_X0_meetOf_59, if_neg (le3 hj), z0, z1, z2]
      rw [oR_R hT', bd_some, aR_R hT' (by decide), bd_some, aL_R hT' (by decide) hj, bd_some, bd_some, aR_R hT' (by decide), bd_some, aL_R hT' (by decide) hj, bd_some, bd_some, aR_R hT' (by decide), bd_some, aL_R hT' (by decide) hj, bd_some, gd_of a1.isC]
      have b1' : m_X1_takes f h s (lM N 0 j) (lM N 1 j) (lM N 2 j) = _ := b1
      rw [b1', bd_some]
      unfold m_X0_meetOf_100
      rw [nmv_eq, ni_succ])
    hf ⟨S9, Mod.rf w9⟩
  exact ⟨h2, e2, p2⟩
theorem X0_mt127 {f : Nat} (hf : 4 ≤ f) {hb h9 : CH} (w9 : wfh h9) {s : Nat} {m : Int} {T : RA} {N : Mi} {k : Nat} (S9 : Sm hb h9 s m (dgm m)) (gm : rg m) (hm : 0 < m) (hk : k < f) (hT : isN h9 T N) (l1 : T.1 < hb.1) (l2 : T.2.1 < hb.1) (l3 : ∀ i, i < 3 → T.2.2 i < hb.1) (hok : taOk m k (dgm m) (tN N)) (x3 : Int64) (x5 x6 : Nat) : ∃ h', m_X0_meetOf_127 f f h9 x3 x5 x6 T.1 s 0 = m_X0_meetOf_174 f h' x3 x5 x6 s ∧ Sm hb h' s m (tkA m k (dgm m) (tN N) 3) ∧ Mod (fun q => hb.1 ≤ q) 0 0 h9 h' := by
  obtain ⟨h2, p2, e2⟩ := loop3 (fun n h y => m_X0_meetOf_127 f n h x3 x5 x6 T.1 s y) (fun h => m_X0_meetOf_174 f h x3 x5 x6 s) (fun j h => Sm hb h s m (tkA m k (dgm m) (tN N) j) ∧ Mod (fun q => hb.1 ≤ q) 0 0 h9 h)
    (fun n h _ => by rw [m_X0_meetOf_127, if_pos le33])
    (fun n h j hj p => by
      obtain ⟨a1, a2⟩ := p
      have hT' := hT.md a2 w9 l1 l2 l3
      obtain ⟨h', b1, b2, b3⟩ := a1.takes hf a2.wf gm hm hk (tN N j) (hok j hj)
      refine ⟨h', ?_, b2, (a2.tr b3 (fun _ _ hq => hq))⟩
      rw [m_X0_meetOf_127, if_neg (le3 hj), z0, z1, z2]
      rw [oR_R hT', bd_some, aR_R hT' (by decide), bd_some, aL_R hT' (by decide) hj, bd_some, bd_some, aR_R hT' (by decide), bd_some, aL_R hT' (by decide) hj, bd_some, bd_some, aR_R hT' (by decide), bd_some, aL_R hT' (by decide) hj, bd_some, gd_of a1.isC]
      have b1' : m_X1_takes f h s (lM N 0 j) (lM N 1 j) (lM N 2 j) = _ := b1
      rw [b1', bd_some]
      unfold m_X0_meetOf_168
      rw [nmv_eq, ni_succ])
    hf ⟨S9, Mod.rf w9⟩
  exact ⟨h2, e2, p2⟩
abbrev dQ (Q : Mi) : Int := ((dtf Q).natAbs : Int)
def mtC (P Q : Mi) : Mi := tkA (mE P Q) kB (dgm (mE P Q)) (pmul (sF P Q (dQ Q) kB) P) 3
def mcOk (P Q : Mi) : Prop := smO P ∧ smO Q ∧ dtf Q ≠ 0 ∧ (dtf Q).natAbs < 2 ^ 31 ∧ taOk (dQ Q) kB (dgm (dQ Q)) (tN (nN P Q)) ∧ dulOk (dQ Q) (cF P Q (dQ Q) kB) ∧ taOk (dQ Q) kB (dgm (dQ Q)) (tN (dul (dQ Q) (cF P Q (dQ Q) kB))) ∧ smt P 2 < 2 ^ 31 ∧ smt Q 2 < 2 ^ 31 ∧ Int.gcd (smt P 2 : Nat) (smt Q 2 : Nat) ≠ 0 ∧ 0 < mE P Q ∧ mE P Q < 2 ^ 40 ∧ taOk (mE P Q) kB (dgm (mE P Q)) (pmul (sF P Q (dQ Q) kB) P) ∧ ∀ i j, i < 3 → j < 3 → (mtC P Q i j).natAbs < 2 ^ 48
theorem X0_meetOf {f : Nat} (hf : 2 ^ 33 ≤ f) {h : CH} (w : wfh h) (kk : kok h) {x : Nat} {LS : LSt} (H : CV h x LS) {l m : Nat} {M1 M2 P Q : Mi} {n1 n2 : Int} {t1 t2 : Bool} (h1 : LS[l]? = some (M1, n1, t1)) (h2 : LS[m]? = some (M2, n2, t2)) (g1 : n1.natAbs < 2 ^ 48) (g2 : n2.natAbs < 2 ^ 48) (z1' : n1 ≠ 0) (z2' : n2 ≠ 0) (gb : (btw n1 n2).natAbs < 2 ^ 48) (hb : btw n1 n2 ≠ 0) (eP : P = fun i j => (btw n1 n2).tdiv n1 * M1 i j) (eQ : Q = fun i j => (btw n1 n2).tdiv n2 * M2 i j) (hok : mcOk P Q) : ∃ a h', m_X0_meetOf f h x (ni l) (ni m) = some (a, h') ∧ isBt h' a (lsG (mtC P Q) (btw n1 n2)) (lsO (mtC P Q) (btw n1 n2)) ∧ Ext 120 320 h h' := by
  have f4 : 4 ≤ f := by omega
  obtain ⟨k1, k2, k3, k4, k5, k6, k7, k8, k9, k10, k11, k12, k13, k14⟩ := hok
  have r1 : rg n1 := rg_abs (k := 2 ^ 48) g1 (by decide)
  have r2 : rg n2 := rg_abs (k := 2 ^ 48) g2 (by decide)
  have rb : rg (btw n1 n2) := rg_abs (k := 2 ^ 48) gb (by decide)
  have hz : Int.gcd n1 n2 ≠ 0 := fun e => z1' (Int.gcd_eq_zero_iff.mp e).1
  have kf : kB < f := by unfold kB; omega
  have gm : rg (dQ Q) := ⟨by show -2 ^ 63 < ((dtf Q).natAbs : Int); omega, by show ((dtf Q).natAbs : Int) < 2 ^ 63; omega⟩
  have hm : 0 < dQ Q := by show (0 : Int) < ((dtf Q).natAbs : Int); omega
  unfold m_X0_meetOf
  obtain ⟨h3, a1, a2⟩ := X0_overBoth (f := f) f4 w kk H h1 h2 r1 g2 hz
  have H3 := H.ext a2 w kk
  rw [gd_of H.isC, a1, bd2_some]
  unfold m_X0_meetOf_6
  have kk3 := kk.mod a2
  obtain ⟨R1, h4, b1, b2, b3, _⟩ := X0_rowsBy (f := f) f4 a2.wf kk3 H3 h1 r1 z1' rb
  rw [← eP] at b2
  have H4 := H3.ext b3 a2.wf kk3
  have kk4 := kk3.mod b3
  rw [gd_of H3.isC, b1, bd2_some]
  unfold m_X0_meetOf_13
  obtain ⟨R2, h5, c1, c2, c3', _⟩ := X0_rowsBy (f := f) f4 b3.wf kk4 H4 h2 r2 z2' rb
  rw [← eQ] at c2
  rw [gd_of H4.isC, c1, bd2_some]
  have one5 := b2.ext c3' b3.wf
  have w5 := c3'.wf
  unfold m_X0_meetOf_21
  rw [gd_of (isC_R c2), X2_determinant c2, bd2_some]
  unfold m_X0_meetOf_28
  obtain ⟨h6, d1, d2, d3, _⟩ := X2_adjoint f4 w5 c2
  rw [abs_li (f := f) k2.2.2.1, bd_some, gd_of (isC_R c2), d1, bd2_some]
  have one6 := one5.ext d3 w5
  unfold m_X0_meetOf_40
  obtain ⟨h7, p1, p2, p3, p4⟩ := X2_times f4 d3.wf one6 d2
  rw [gd_of (isC_R one6)]
  have p1' : m_X2_times f h6 R1.1 h5.1 = _ := p1
  rw [p1', bd2_some]
  have w7 := p3.wf
  have e57 : Ext 10 26 h5 h7 := (d3.tr p3 (fun _ _ => id)).up (by omega) (by omega)
  have one7 := one5.ext e57 w5
  have oth7 := c2.ext e57 w5
  have told7 : isN h7 (nwR h6) (nN P Q) := p2
  unfold m_X0_meetOf_43 m_X0_meetOf_48
  simp only [nmv_eq]
  -- the columns
  obtain ⟨h9, q1, q2, q3⟩ := Sm_new (f := f) f4 (hb := h7) w7 (Nat.le_refl _) (dQ Q)
  have q1' : m_X1_init f (cn h7 3 (.inl (2, [.null, .null, .long 0]))) h7.1 (li (dtf Q).natAbs) = _ := q1
  rw [q1', bd_some]
  unfold m_X0_meetOf_54
  have tl := told7.lt w7
  obtain ⟨h10, s1, s2, s3⟩ := X0_mt59 (f := f) f4 q3.wf q2 gm hm kf (told7.ext q3 w7) tl.1 tl.2.1 tl.2.2 k5 (li (btw n1 n2)) R1.1 R2.1 (li (dtf Q).natAbs)
  have s1' : m_X0_meetOf_59 f f h9 (li (btw n1 n2)) R1.1 R2.1 (li (dtf Q).natAbs) h6.1 h7.1 0 = _ := s1
  rw [s1']
  have e710 : Ext 7 19 h7 h10 := (Ext.trn q3 s3 (fun q hq => hq)).up (by omega) (by omega)
  have w10 := s3.wf
  -- its dual
  unfold m_X0_meetOf_106
  obtain ⟨RC, VC, vC, sC, _⟩ := s2
  obtain ⟨h11, t1', t2', t3', t4'⟩ := X1_dual (f := f) (by omega) w10 sC k6
  rw [gd_of (isC_c sC.1), t1', bd2_some]
  have w11 := t3'.wf
  have e711 : Ext 12 32 h7 h11 := (e710.tr t3' (fun _ _ => id)).up (by omega) (by omega)
  unfold m_X0_meetOf_111 m_X0_meetOf_116
  simp only [nmv_eq]
  obtain ⟨h13, u1, u2, u3⟩ := Sm_new (f := f) f4 (hb := h11) w11 (Nat.le_refl _) (dQ Q)
  have u1' : m_X1_init f (cn h11 3 (.inl (2, [.null, .null, .long 0]))) h11.1 (li (dtf Q).natAbs) = _ := u1
  rw [u1', bd_some]
  unfold m_X0_meetOf_122
  have dl := t2'.lt w11
  obtain ⟨h14, v1, v2, v3⟩ := X0_mt127 (f := f) f4 u3.wf u2 gm hm kf (t2'.ext u3 w11) dl.1 dl.2.1 dl.2.2 k7 (li (btw n1 n2)) R1.1 R2.1
  have v1' : m_X0_meetOf_127 f f h13 (li (btw n1 n2)) R1.1 R2.1 h10.1 h11.1 0 = _ := v1
  rw [v1']
  have v2' : Sm h11 h14 h11.1 (dQ Q) (sF P Q (dQ Q) kB) := v2
  have e1114 : Ext 7 19 h11 h14 := (Ext.trn u3 v3 (fun q hq => hq)).up (by omega) (by omega)
  have e714 : Ext 19 51 h7 h14 := (e711.tr e1114 (fun _ _ => id)).up (by omega) (by omega)
  have w14 := v3.wf
  -- all
  unfold m_X0_meetOf_174 m_X0_meetOf_177
  simp only [nmv_eq]
  have ec : Ext 1 3 h14 (cn h14 3 (.inl (2, [.null, .null, .long 0]))) := Mod.cn w14
  have one14 := one7.ext e714 w7
  have oth14 := oth7.ext e714 w7
  have one15 := one14.ext ec w14
  have oth15 := oth14.ext ec w14
  rw [gd_of (isC_R one15), X2_smith2 f4 one15 k1, bd2_some]
  unfold m_X0_meetOf_184
  rw [gd_of (isC_R oth15), X2_smith2 f4 oth15 k2, bd2_some]
  unfold m_X0_meetOf_190
  rw [multiple_li (show rg ((smt P 2 : Nat) : Int) from ⟨by omega, by omega⟩) (show ((smt Q 2 : Nat) : Int).natAbs < 2 ^ 48 by omega) k10, bd_some]
  obtain ⟨h16, y1, y2, y3⟩ := Sm_new (f := f) f4 (hb := h14) w14 (Nat.le_refl _) (mE P Q)
  have y1' : m_X1_init f (cn h14 3 (.inl (2, [.null, .null, .long 0]))) h14.1 (li (((smt P 2 : Nat) : Int).tdiv (Int.gcd (smt P 2 : Nat) (smt Q 2 : Nat)) * ((smt Q 2 : Nat) : Int))) = _ := y1
  rw [y1', bd_some]
  have w16 := y3.wf
  unfold m_X0_meetOf_196
  obtain ⟨RS, x1', x2'⟩ := (v2'.ext y3 w14).form
  have one16 := one14.ext y3 w14
  obtain ⟨h17, o1, o2, o3, _⟩ := X2_times f4 w16 x2' one16
  rw [x1', bd_some, gd_of (isC_R x2'), o1, bd2_some]
  unfold m_X0_meetOf_210
  have SB := (y2.toB w16).ext o3 w16
  obtain ⟨h18, i1, i2, i3⟩ := SB.takesAll (f := f) f4 o3.wf (show rg (mE P Q) from ⟨by omega, by omega⟩) k11 kf o2 (fun i hi => by show h16.1 ≤ h16.1 + 1 + 1 + i; omega) k13
  have i1' : m_X1_takesAll f h17 h14.1 h16.1 = _ := i1
  rw [gd_of SB.isC, i1', bd_some]
  unfold m_X0_meetOf_213 m_X0_meetOf_216 m_X0_meetOf_226
  simp only [nmv_eq]
  have S18 : Sm h14 h18 h14.1 (mE P Q) (mtC P Q) := by
    obtain ⟨R, V, v, s1, s2, s3, s4, _⟩ := i2
    exact ⟨R, V, v, s1, s2, fun i hi => (s3 i hi).1, s4⟩
  obtain ⟨RB', h19, j1, j2, j3, j4⟩ := Bt_new (f := f) f4 i3.wf S18 k14 gb hb
  rw [j1, bd_some, j2, bd_some]
  refine ⟨h18.1, h19, rfl, j3, ?_⟩
  have e1417 : Ext 12 32 h14 h17 := (y3.tr o3 (fun _ _ => id)).up (by omega) (by omega)
  have e1418 : Ext 12 32 h14 h18 := (Ext.trn e1417 i3 (fun q hq => hq)).up (by omega) (by omega)
  exact ((((((a2.tr b3 (fun _ _ => id)).tr c3' (fun _ _ => id)).tr e57 (fun _ _ => id)).tr e714 (fun _ _ => id)).tr e1418 (fun _ _ => id)).tr j4 (fun _ _ => id)).up (by omega) (by omega)
