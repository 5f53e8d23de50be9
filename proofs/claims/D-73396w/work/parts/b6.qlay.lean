/-! layers, planar: both -/
set_option maxRecDepth 100000
theorem isLI_of {LS : LSt} {k : Nat} {z : Mi × Int × Bool} (hl : LS[k]? = some z) (h5 : LS.length ≤ 5) : isLI LS (ni k) = true := by
  have hk : k < LS.length := (List.getElem?_eq_some_iff.mp hl).1
  unfold isLI inI
  rw [ni_toInt (by omega)]
  exact decide_eq_true (by omega)
theorem ask_ok {f : Nat} {h : CH} {x : Nat} {u : TS} {LS : LSt} (E : QE h x u LS) {k1 k2 : Nat} {M1 M2 : Mi} {n1 n2 : Int} {t1 t2 : Bool} (hl1 : LS[k1]? = some (M1, n1, t1)) (hl2 : LS[k2]? = some (M2, n2, t2)) (ht : ¬ (t1 = true ∧ t2 = true)) : m_X0_asks f h x (ni k1) (ni k2) = some (0, h) ∧ m_X3_whyNot f u (ni k1) (ni k2) = some (0, u) := by
  obtain ⟨w, kf0, C, T, L⟩ := E
  have h1 := isLI_of hl1 T.2.1
  have h2 := isLI_of hl2 T.2.1
  have hk1 : k1 < 5 := by have := (List.getElem?_eq_some_iff.mp hl1).1; have := T.2.1; omega
  have hk2 : k2 < 5 := by have := (List.getElem?_eq_some_iff.mp hl2).1; have := T.2.1; omega
  obtain ⟨a, a1, a2⟩ := X0_at (f := f) C hl1
  obtain ⟨b, b1, b2⟩ := X0_at (f := f) C hl2
  have e1 := (T.2.2 k1 M1 n1 t1 hl1).2
  have e2 := (T.2.2 k2 M2 n2 t2 hl2).2
  constructor
  · unfold m_X0_asks m_X0_asks_5 m_X0_asks_13
    rw [gd_of C.isC, X0_isLattice C, bd2_some, gd_of C.isC, X0_isLattice C, bd2_some, h1, h2, ift1, nift1, gd_of C.isC, a1, bd2_some]
    unfold m_X0_asks_24
    rw [L_isT a2 (fun r3 h2 => m_X0_asks_27 f h2 x (ni k2) r3)]
    unfold m_X0_asks_27
    rw [gd_of C.isC, b1, bd2_some]
    unfold m_X0_asks_35
    rw [L_isT b2 (fun r3 h2 => m_X0_asks_38 f h2 r3)]
    cases t1 with
    | false => rfl
    | true =>
      cases t2 with
      | false => rfl
      | true => exact absurd ⟨rfl, rfl⟩ ht
  · unfold m_X3_whyNot
    rw [X3_isLattice T, bd2_some, X3_isLattice T, bd2_some, h1, h2, ift1, nift1, X3_isTurned hk1, bd2_some, X3_isTurned hk2, bd2_some]
    cases t1 with
    | false =>
      rw [if_pos (show tA u 0 (3 + k1) = -1 from e1.mpr rfl)]
      rfl
    | true =>
      rw [if_neg (show ¬ tA u 0 (3 + k1) = -1 from fun h => by cases e1.mp h)]
      cases t2 with
      | false =>
        rw [if_pos (show tA u 0 (3 + k2) = -1 from e2.mpr rfl)]
        rfl
      | true => exact absurd ⟨rfl, rfl⟩ ht
/-- the index, as a number -/
theorem idx_CT {f : Nat} (hf : 2 ^ 63 ≤ f) {h : CH} {x : Nat} {u : TS} {LS : LSt} (E : QE h x u LS) {k1 k2 : Nat} {M1 M2 : Mi} {n1 n2 : Int} {t1 t2 : Bool} (hl1 : LS[k1]? = some (M1, n1, t1)) (hl2 : LS[k2]? = some (M2, n2, t2)) (ht : ¬ (t1 = true ∧ t2 = true)) {P Q : Mi} {b : Int} (eP : P = mscl (b.tdiv n1) M1) (eQ : Q = mscl (b.tdiv n2) M2) (eb : b = btw n1 n2) : ∃ h' u', m_X0_index f h x (ni k1) (ni k2) = some (li ((dtf (sF P Q (dQ Q) kB)).natAbs : Int), h') ∧ m_X3_index f u (ni k1) (ni k2) = some (li ((dtf (sF P Q (dQ Q) kB)).natAbs : Int), u') ∧ Ext 170 450 h h' ∧ Fr mtF u u' := by
  have E' := E
  obtain ⟨w, kf0, C, T, L⟩ := E
  obtain ⟨a1, a2⟩ := ask_ok (f := f) E' hl1 hl2 ht
  obtain ⟨P', Q', X, b', eP', eQ', eb', pq, x1, x2, x3, x4, x5, x6, R, h', c1, c2, c3'⟩ := X0_toldBy (f := f) hf E' hl1 hl2 ht
  have ebb : b' = b := by rw [eb', eb]
  subst ebb
  have ePP : P' = P := by rw [eP', eP]
  have eQQ : Q' = Q := by rw [eQ', eQ]
  subst ePP eQQ
  obtain ⟨u', d1, d2, d3⟩ := X3_laysTold' (f := f) hf E' hl1 hl2 eP eQ eb pq
  have ed := dtf_eqL x2
  refine ⟨h', u', ?_, ?_, c3', d3⟩
  · unfold m_X0_index
    rw [gd_of C.isC, a1, bd2_some]
    unfold m_X0_index_6
    rw [z_z, gd_of C.isC, c1, bd2_some]
    unfold m_X0_index_22
    rw [gd_of (isC_R c2), X2_determinant c2, bd2_some]
    unfold m_X0_index_25
    rw [abs_li (rg_nat.mpr (by omega)), bd_some, ← ed]
    rfl
  · unfold m_X3_index
    rw [a2, bd2_some, z_z, d1, bd_some, X3_det (f := f) (by omega) d2, bd2_some, sized_li (rg_nat.mpr (by omega)), bd_some]
/-- whether a plane can be asked for -/
theorem askL_cases {f : Nat} (hf : 2 ^ 63 ≤ f) {h : CH} {x PL : Nat} {u : TS} {LS : LSt} (E : QE h x u LS) (P : QP h x PL LS) (l m a b c : Int32) : (∃ r h', m_X0_asksPlane f h x l m a b c = some (r, h') ∧ m_X3_whyNoPlane f u l m a b c = some (r, u) ∧ ¬ 0 ≤ r ∧ Mod (· = PL) 0 0 h h' ∧ ∃ p : Nat → Int32, cm h' PL = some (.inr (0, 3, .inl p))) ∨ ∃ k1 k2 M1 n1 t1 M2 n2 t2 h' p, l = ni k1 ∧ m = ni k2 ∧ k1 < 5 ∧ k2 < 5 ∧ LS[k1]? = some (M1, n1, t1) ∧ LS[k2]? = some (M2, n2, t2) ∧ ¬ (t1 = true ∧ t2 = true) ∧ isPl a b c = true ∧ m_X0_asksPlane f h x l m a b c = some (0, h') ∧ m_X3_whyNoPlane f u l m a b c = some (0, u) ∧ Mod (· = PL) 0 0 h h' ∧ cm h' PL = some (.inr (0, 3, .inl p)) ∧ p 0 = a ∧ p 1 = b ∧ p 2 = c := by
  have E' := E
  obtain ⟨w, kf0, C, T, L⟩ := E
  unfold m_X0_asksPlane m_X3_whyNoPlane m_X0_asksPlane_6
  rw [gd_of C.isC]
  rcases ask_cases (f := f) E' l m with ⟨e1, e2⟩ | ⟨k1, k2, M1, n1, t1, M2, n2, t2, rfl, rfl, hk1, hk2, hl1, hl2, ⟨e1, e2⟩ | ⟨e1, e2, ht⟩⟩
  · rw [e1, e2]
    exact .inl ⟨-2, h, rfl, rfl, by decide, Mod.rf w, P.2.1⟩
  · obtain ⟨hp1, p, i1, i2, i3, i4, i5, i6⟩ := X0_isPlane (f := f) P w a b c
    rw [e1, e2, bd2_some, bd2_some, m3_2, m3_2, gd_of C.isC, i1, bd2_some, X3_isPlane, bd_some]
    cases h2 : isPl a b c with
    | false => exact .inl ⟨-2, hp1, rfl, rfl, by decide, i2, _, i3⟩
    | true => exact .inl ⟨-3, hp1, rfl, rfl, by decide, i2, _, i3⟩
  · obtain ⟨hp1, p, i1, i2, i3, i4, i5, i6⟩ := X0_isPlane (f := f) P w a b c
    rw [e1, e2, bd2_some, bd2_some, z_2, z_2, gd_of C.isC, i1, bd2_some, X3_isPlane, bd_some]
    cases h2 : isPl a b c with
    | false => exact .inl ⟨-2, hp1, rfl, rfl, by decide, i2, _, i3⟩
    | true => exact .inr ⟨k1, k2, M1, n1, t1, M2, n2, t2, hp1, p, rfl, rfl, hk1, hk2, hl1, hl2, ht, rfl, rfl, rfl, i2, i3, i4, i5, i6⟩
theorem QE.md {h h1 : CH} {x PL : Nat} {u : TS} {LS : LSt} (E : QE h x u LS) (P : QP h x PL LS) {k n : Nat} (m : Mod (· = PL) k n h h1) {p : Nat → Int32} (cp : cm h1 PL = some (.inr (0, 3, .inl p))) : QE h1 x u LS ∧ QP h1 x PL LS := by
  obtain ⟨P1, C1⟩ := P.md m E.1 E.2.1.kok cp
  exact ⟨⟨m.wf, E.2.1.mod m, C1, E.2.2.2.1, E.2.2.2.2⟩, P1⟩
theorem QP.ext {k n : Nat} {h h1 : CH} {x PL : Nat} {LS : LSt} (P : QP h x PL LS) (m : Ext k n h h1) (w : wfh h) (kk : kok h) : QP h1 x PL LS := by
  obtain ⟨p, c3'⟩ := P.2.1
  exact (P.md (m.mono (fun _ _ hh => hh.elim) (Nat.le_refl _) (Nat.le_refl _)) w kk (m.at w c3' id)).1
theorem q_layers {f : Nat} (hf : 2 ^ 63 ≤ f) {h : CH} {x PL : Nat} {u : TS} {LS : LSt} (E : QE h x u LS) (P : QP h x PL LS) (l m a b c : Int32) : QM (· = PL) (m_X0_layers f h x l m a b c) (m_X3_layers f u l m a b c) h u := by
  have E' := E
  obtain ⟨w, kf0, C, T, L⟩ := E
  unfold m_X0_layers m_X3_layers m_X0_layers_11
  rw [gd_of C.isC]
  rcases askL_cases (f := f) hf E' P l m a b c with ⟨r, h', e1, e2, e3, e4, e5⟩ | ⟨k1, k2, M1, n1, t1, M2, n2, t2, h', p, rfl, rfl, hk1, hk2, hl1, hl2, ht, hP, e1, e2, e4, cp, p0, p1, p2⟩
  · rw [e1, e2, bd2_some, bd2_some, if_neg e3, if_neg e3]
    exact QM.mk (l := []) rfl rfl e4 (by omega) (by omega) Fr.rf (by decide) (fun q hq => by have e : q = PL := hq; rw [e]; exact e5)
  · obtain ⟨E1, P1⟩ := E'.md P e4 cp
    obtain ⟨pb, pz⟩ := isPl_ok hP p0 p1 p2
    have LO1 := L k1 M1 n1 t1 hl1
    have LO2 := L k2 M2 n2 t2 hl2
    obtain ⟨pq, _⟩ := pairPQ LO1 LO2 ht
    obtain ⟨D, Ln, lp⟩ := lay_pure pq (by have := LO1.n; omega) btw_dvd.1 rfl pz
    have lp' : LPl _ _ M1 (btw n1 n2) n1 p D Ln := lp
    obtain ⟨h2, g1, g2⟩ := X0_layersOf (f := f) hf E1 P1 cp pb hl1 hl2 ht rfl rfl rfl lp'
    obtain ⟨u2, s1, s2⟩ := X3_planarOf (f := f) hf E1 p0 p1 p2 hP hl1 hl2 ht rfl rfl rfl lp'
    obtain ⟨h3, u3, _, q2, _, q4⟩ := idx_CT (f := f) hf (E1.st (Ext.rf E1.1) s2 (by decide)) hl1 hl2 ht (P := mscl ((btw n1 n2).tdiv n1) M1) (Q := mscl ((btw n1 n2).tdiv n2) M2) rfl rfl rfl
    obtain ⟨d0, d1, d2, l1, ⟨N, hN⟩, _⟩ := lp
    have N0 : 0 < N := Nat.pos_of_ne_zero (fun e => by subst e; omega)
    rw [e1, e2, bd2_some, bd2_some, z_z, z_z, gd_of E1.2.2.1.isC, g1, bd2_some, s1, bd2_some, q2, bd2_some, ← d0]
    have DL : D / Ln = N := by rw [hN, Nat.mul_div_cancel_left _ l1]
    have NL : N ≤ D := by rw [hN]; exact Nat.le_mul_of_pos_left _ l1
    rw [DL]
    have rN : rg ((N : Nat) : Int) := ⟨by omega, by omega⟩
    have rD : rg ((D : Nat) : Int) := ⟨by omega, by omega⟩
    rw [gd_of (nzL_li rN (by omega)), li_div rD rN, tdiv_nat, hN, Nat.mul_div_cancel _ N0]
    exact QM.mk (l := QF) rfl rfl (e4.tr g2 (fun _ _ hh => hh.elim)) (by omega) (by omega) (s2.tr (q4.mono (by decide))) (fun _ h => h) (fun q hq => by have e : q = PL := hq; rw [e]; exact ⟨_, g2.at E1.1 cp id⟩)
theorem q_planar {f : Nat} (hf : 2 ^ 63 ≤ f) {h : CH} {x PL : Nat} {u : TS} {LS : LSt} (E : QE h x u LS) (P : QP h x PL LS) (l m a b c : Int32) : QM (· = PL) (m_X0_planar f h x l m a b c) (m_X3_planar f u l m a b c) h u := by
  have E' := E
  obtain ⟨w, kf0, C, T, L⟩ := E
  unfold m_X0_planar m_X3_planar m_X0_planar_11
  rw [gd_of C.isC]
  rcases askL_cases (f := f) hf E' P l m a b c with ⟨r, h', e1, e2, e3, e4, e5⟩ | ⟨k1, k2, M1, n1, t1, M2, n2, t2, h', p, rfl, rfl, hk1, hk2, hl1, hl2, ht, hP, e1, e2, e4, cp, p0, p1, p2⟩
  · rw [e1, e2, bd2_some, bd2_some, if_neg e3, if_neg e3]
    exact QM.mk (l := []) rfl rfl e4 (by omega) (by omega) Fr.rf (by decide) (fun q hq => by have e : q = PL := hq; rw [e]; exact e5)
  · obtain ⟨E1, P1⟩ := E'.md P e4 cp
    obtain ⟨pb, pz⟩ := isPl_ok hP p0 p1 p2
    have LO1 := L k1 M1 n1 t1 hl1
    have LO2 := L k2 M2 n2 t2 hl2
    obtain ⟨pq, _⟩ := pairPQ LO1 LO2 ht
    obtain ⟨D, Ln, lp⟩ := lay_pure pq (by have := LO1.n; omega) btw_dvd.1 rfl pz
    have lp' : LPl _ _ M1 (btw n1 n2) n1 p D Ln := lp
    obtain ⟨h3, u3, q1, _, q3, _⟩ := idx_CT (f := f) hf E1 hl1 hl2 ht (P := mscl ((btw n1 n2).tdiv n1) M1) (Q := mscl ((btw n1 n2).tdiv n2) M2) rfl rfl rfl
    have E3 := E1.st q3 (Fr.rf (u := u) (l := [])) (by decide)
    have P3 := P1.ext q3 E1.1 E1.2.1.kok
    obtain ⟨h2, g1, g2⟩ := X0_layersOf (f := f) hf E3 P3 (q3.at E1.1 cp id) pb hl1 hl2 ht rfl rfl rfl lp'
    obtain ⟨u2, s1, s2⟩ := X3_planarOf (f := f) hf E1 p0 p1 p2 hP hl1 hl2 ht rfl rfl rfl lp'
    obtain ⟨d0, d1, d2, l1, ⟨N, hN⟩, _⟩ := lp
    have N0 : 0 < N := Nat.pos_of_ne_zero (fun e => by subst e; omega)
    have LD : Ln ≤ D := by rw [hN]; exact Nat.le_mul_of_pos_right _ N0
    rw [e1, e2, bd2_some, bd2_some, z_z, z_z, gd_of E1.2.2.1.isC, q1, bd2_some, s1, bd2_some, ← d0]
    unfold m_X0_planar_30
    rw [gd_of E3.2.2.1.isC, g1, bd2_some]
    unfold m_X0_planar_36
    have rN : rg ((Ln : Nat) : Int) := ⟨by omega, by omega⟩
    have rD : rg ((D : Nat) : Int) := ⟨by omega, by omega⟩
    rw [gd_of (nzL_li rN (by omega)), li_div rD rN, tdiv_nat]
    exact QM.mk (l := QF) rfl rfl ((e4.tr q3 (fun _ _ hh => hh.elim)).tr g2 (fun _ _ hh => hh.elim)) (by omega) (by omega) s2 (fun _ h => h) (fun q hq => by have e : q = PL := hq; rw [e]; exact ⟨_, g2.at E3.1 (q3.at E1.1 cp id) id⟩)
