/-! layers: the component's, the twin's -/
set_option maxRecDepth 100000
theorem mtC_ent {P Q : Mi} {b : Int} (pq : PQ (m3 P) (m3 Q) b) : (∀ i j, i < 3 → j < 3 → (lsG (mtC P Q) b i j).natAbs ≤ 170000000) ∧ shOk (lsG (mtC P Q) b) := by
  obtain ⟨_, _, _, _, m5, _, _, _, _, m10, m11⟩ := pq.mt
  have ent := SF_ent m11 m5
  have entG : ∀ i j, i < 3 → j < 3 → (lsG (mtC P Q) b i j).natAbs ≤ 170000000 := fun i j hi hj => by
    have h1 := ent i j hi hj
    exact Nat.le_trans (Int.natAbs_tdiv_le_natAbs _ _) (by omega)
  exact ⟨entG, shOk_of entG⟩
/-- what the layers are, told by both -/
def LPl (P Q M1 : Mi) (b n1 : Int) (p : Nat → Int32) (D L : Nat) : Prop := D = (dtf (sF P Q (dQ Q) kB)).natAbs ∧ 1 ≤ D ∧ D ≤ 2160 ∧ 1 ≤ L ∧ L ∣ D ∧ gp (mscl ((mlt (lsO (mtC P Q) b) n1).tdiv (lsO (mtC P Q) b)) (lsG (mtC P Q) b)) p = L * gp (mscl ((mlt (lsO (mtC P Q) b) n1).tdiv n1) M1) p ∧ 0 < gp (mscl ((mlt (lsO (mtC P Q) b) n1).tdiv n1) M1) p ∧ dtf (lsG (mtC P Q) b) ≠ 0 ∧ dtf M1 ≠ 0 ∧ ((dtf (lsG (mtC P Q) b)).natAbs : Int) * (n1 * n1) * L * gp M1 p = D * (dtf M1).natAbs * (lsO (mtC P Q) b * lsO (mtC P Q) b) * gp (lsG (mtC P Q) b) p ∧ (dtf (lsG (mtC P Q) b)).natAbs ≤ 2160 * 2799360
theorem X0_layersOf {f : Nat} (hf : 2 ^ 63 ≤ f) {h : CH} {x PL : Nat} {u : TS} {LS : LSt} (E : QE h x u LS) (QPh : QP h x PL LS) {p : Nat → Int32} (cp : cm h PL = some (.inr (0, 3, .inl p))) (pb : ∀ j, j < 3 → (p j).toInt.natAbs ≤ 9) {k1 k2 : Nat} {M1 M2 : Mi} {n1 n2 : Int} {t1 t2 : Bool} (hl1 : LS[k1]? = some (M1, n1, t1)) (hl2 : LS[k2]? = some (M2, n2, t2)) (ht : ¬ (t1 = true ∧ t2 = true)) {P Q : Mi} {b : Int} (eP : P = mscl (b.tdiv n1) M1) (eQ : Q = mscl (b.tdiv n2) M2) (eb : b = btw n1 n2) {D L : Nat} (lp : LPl P Q M1 b n1 p D L) : ∃ h', m_X0_layersOf f h x (ni k1) (ni k2) = some (li L, h') ∧ Ext 200 500 h h' := by
  have E' := E
  obtain ⟨w, kf0, C, T, Lv⟩ := E
  obtain ⟨P', Q', b', eP', eQ', eb', pq, b1, b2, ⟨a, h2, c1, ⟨R0, c2, c3'⟩, c4'⟩, _⟩ := meet_CT (f := f) hf E' hl1 hl2 ht
  have ebb : b' = b := by rw [eb', eb]
  subst ebb
  have ePP : P' = P := by rw [eP', eP]
  have eQQ : Q' = Q := by rw [eQ', eQ]
  subst ePP eQQ
  have LO1 := Lv k1 M1 n1 t1 hl1
  have nn := LO1.n
  obtain ⟨X, _, _, _, _, _, _, y1, y2, y3, y4, y5, y6, _⟩ := told_div (n1 := n1) pq (by omega) (by rw [eb]; exact btw_dvd.1) eP
  obtain ⟨entG, _⟩ := mtC_ent pq
  obtain ⟨Qx, pqx⟩ := LO1.pq
  obtain ⟨ent1, _⟩ := pqx.ent
  obtain ⟨_, _, d3, l1, l2, l3, l4, _⟩ := lp
  obtain ⟨⟨fs, x1, x2⟩, _, _⟩ := QPh
  unfold m_X0_layersOf
  rw [gd_of C.isC, c1, bd2_some]
  have C2 := C.ext c4' w kf0.kok
  have kf2 := kf0.mod c4'
  unfold m_X0_layersOf_6
  obtain ⟨a', a1', a2'⟩ := X0_at (f := f) C2 hl1
  rw [oL_c (k := 1) (x := li (lsO (mtC P' Q') b')) c2 rfl, bd_some, gd_of C2.isC, a1', bd2_some]
  unfold m_X0_layersOf_16
  obtain ⟨h3, d1, d2⟩ := L_over (f := f) (by omega) c4'.wf a2'
  rw [d2 (fun r3 h2 => m_X0_layersOf_19 f h2 x (ni k1) a (li (lsO (mtC P' Q') b')) r3)]
  have C3 := C2.ext d1 c4'.wf kf2.kok
  have kf3 := kf2.mod d1
  unfold m_X0_layersOf_19
  have gz : Int.gcd (lsO (mtC P' Q') b') n1 ≠ 0 := fun e => by have := (Int.gcd_eq_zero_iff.mp e).1; omega
  have em : m_X0_multiple f (li (lsO (mtC P' Q') b')) (li n1) = some (li (mlt (lsO (mtC P' Q') b') n1)) := multiple_li ⟨by omega, by omega⟩ (by omega) gz
  rw [em, bd_some]
  generalize hF : mtC P' Q' = F at *
  generalize hmo : lsO F b' = mo at *
  generalize hG : lsG F b' = G at *
  generalize hov : mlt mo n1 = ov at *
  have c2' := d1.at c4'.wf c2 id
  have c3'' := c3'.ext d1 c4'.wf
  have gm : rg mo := ⟨by omega, by omega⟩
  have go : rg ov := ⟨by omega, by omega⟩
  rw [oR_c (k := 0) (x := R0.1) c2' rfl, bd_some, oL_c (k := 1) (x := li mo) c2' rfl, bd_some, gd_of (nzL_li gm (by omega)), gd_of (isC_R c3''), li_div go gm]
  obtain ⟨h5, q1, q2, q3, _⟩ := X2_times_2 (f := f) (by omega) d1.wf c3'' (ov.tdiv mo)
  rw [q1, bd2_some]
  have q2' : isN h5 (nwR h3) (mscl (ov.tdiv mo) G) := q2
  have e05 : Ext 130 346 h h5 := ((c4'.tr d1 (fun _ _ => id)).tr q3 (fun _ _ => id)).up (by omega) (by omega)
  have cp5 := e05.at w cp id
  have x5 := e05.at w x1 id
  have tb : ∀ {y : Int}, 0 < y → (ov.tdiv y).natAbs ≤ 36 := fun {y} hy => Nat.le_trans (Int.natAbs_tdiv_le_natAbs _ _) (by omega)
  have en2 : ∀ {N : Mi} {y : Int} {B : Nat}, 0 < y → (∀ i j, i < 3 → j < 3 → (N i j).natAbs ≤ B) → ∀ i j, i < 3 → j < 3 → (mscl (ov.tdiv y) N i j).natAbs ≤ 36 * B := fun {N y B} hy hN i j hi hj => by
    unfold mscl; rw [Int.natAbs_mul]; exact Nat.mul_le_mul (tb hy) (hN i j hi hj)
  unfold m_X0_layersOf_38
  have ac1 : m_X2_across f h5 h3.1 PL = some (li (gp (mscl (ov.tdiv mo) G) p : Nat), h5) := X2_across (f := f) (by omega) q2' cp5 (fun i hi => Nat.lt_of_le_of_lt (acr_le (en2 y1 entG) pb hi) (by decide))
  rw [oR_c (k := 6) (x := PL) x5 x2, bd_some, gd_of (show isC h5 h3.1 3 = true from isC_R q2'), ac1, bd2_some]
  unfold m_X0_layersOf_45
  have C5 := C3.ext q3 d1.wf kf3.kok
  have kf5 := kf3.mod q3
  obtain ⟨R1, h6, p1, p2, p3', _⟩ := X0_rowsBy (f := f) (by omega) q3.wf kf5.kok C5 hl1 (show rg n1 from ⟨by omega, by omega⟩) (by omega) go
  rw [gd_of C5.isC, p1, bd2_some]
  have p2' : isN h6 R1 (mscl (ov.tdiv n1) M1) := p2
  unfold m_X0_layersOf_52
  have cp6 := p3'.at q3.wf cp5 id
  have x6 := p3'.at q3.wf x5 id
  have e1247 : ∀ i j, i < 3 → j < 3 → (M1 i j).natAbs ≤ 1247 := fun i j hi hj => bdM_at ent1 hi hj
  have ac2 : m_X2_across f h6 R1.1 PL = some (li (gp (mscl (ov.tdiv n1) M1) p : Nat), h6) := X2_across (f := f) (by omega) p2' cp6 (fun i hi => Nat.lt_of_le_of_lt (acr_le (en2 (by omega) e1247) pb hi) (by decide))
  rw [oR_c (k := 6) (x := PL) x6 x2, bd_some, gd_of (isC_R p2'), ac2, bd2_some]
  unfold m_X0_layersOf_59
  have g1 := gp_le (en2 (show 0 < mo from y1) entG) pb
  have g2 := gp_le (en2 (show 0 < n1 by omega) e1247) pb
  have r1 : rg ((gp (mscl (ov.tdiv mo) G) p : Nat) : Int) := rg_nat.mpr (by rw [Int.natAbs_natCast]; omega)
  have r2 : rg ((gp (mscl (ov.tdiv n1) M1) p : Nat) : Int) := rg_nat.mpr (by rw [Int.natAbs_natCast]; omega)
  rw [gd_of (nzL_li r2 (by omega)), li_div r1 r2, tdiv_nat, l3, Nat.mul_div_cancel _ l4]
  exact ⟨h6, rfl, (e05.tr p3' (fun _ _ => id)).up (by omega) (by omega)⟩
/-- the first place where a number is not 0 -/
theorem X3_p17 {f : Nat} {x1 x2 a b c : Int32} {u : TS} {c' : Nat → Int} (h38 : ∀ j, j < 3 → tB u 38 j = li (c' j)) (gc : ∀ j, j < 3 → rg (c' j)) {z : Nat} (hz : z < 3) (h0 : c' z ≠ 0) : ∀ k j n, j + k = z → k < n → ∃ y, y < 3 ∧ c' y ≠ 0 ∧ m_X3_planarOf_17 f n u x1 x2 a b c (ni j) = m_X3_planarOf_35 f u x1 x2 a b c (ni y) := by
  intro k
  induction k with
  | zero =>
    intro j n hj hn
    obtain ⟨n, rfl⟩ : ∃ z, n = z + 1 := ⟨n - 1, by omega⟩
    have : j = z := by omega
    subst this
    refine ⟨j, hz, h0, ?_⟩
    rw [m_X3_planarOf_17, gd_of (ix_ni hz (by decide)), ni_clamp (by omega), h38 j hz, if_pos (show ¬ li (c' j) = 0 from fun e => h0 ((li_inj (gc j hz) rg_0).mp e))]
  | succ k ih =>
    intro j n hj hn
    obtain ⟨n, rfl⟩ : ∃ z, n = z + 1 := ⟨n - 1, by omega⟩
    have j3 : j < 3 := by omega
    rw [m_X3_planarOf_17, gd_of (ix_ni j3 (by decide)), ni_clamp (by omega), h38 j j3]
    by_cases e : c' j = 0
    · rw [if_neg (show ¬ ¬ li (c' j) = 0 from fun h => h (by rw [e]; rfl)), nmv_eq, ni_succ]
      exact ih (j + 1) n (by omega) (by omega)
    · rw [if_pos (show ¬ li (c' j) = 0 from fun h => e ((li_inj (gc j j3) rg_0).mp h))]
      exact ⟨j, j3, e, rfl⟩
theorem crs_rg {e D c : Int} {P : Int} {d : Nat} (h : e * c = D * P) (he : e ≠ 0) (hP : P.natAbs ≤ 9) (hD : D.natAbs ≤ d) : c.natAbs ≤ d * 9 := by
  have := congrArg Int.natAbs h
  rw [Int.natAbs_mul, Int.natAbs_mul] at this
  have h1 : c.natAbs ≤ e.natAbs * c.natAbs := Nat.le_mul_of_pos_left _ (by omega)
  rw [this] at h1
  exact Nat.le_trans h1 (Nat.mul_le_mul hD hP)

theorem X3_planarOf {f : Nat} (hf : 2 ^ 63 ≤ f) {h : CH} {x : Nat} {u : TS} {LS : LSt} (E : QE h x u LS) {a b c : Int32} {p : Nat → Int32} (e0 : p 0 = a) (e1 : p 1 = b) (e2 : p 2 = c) (hp : isPl a b c = true) {k1 k2 : Nat} {M1 M2 : Mi} {n1 n2 : Int} {t1 t2 : Bool} (hl1 : LS[k1]? = some (M1, n1, t1)) (hl2 : LS[k2]? = some (M2, n2, t2)) (ht : ¬ (t1 = true ∧ t2 = true)) {P Q : Mi} {b' : Int} (eP : P = mscl (b'.tdiv n1) M1) (eQ : Q = mscl (b'.tdiv n2) M2) (eb : b' = btw n1 n2) {D L : Nat} (lp : LPl P Q M1 b' n1 p D L) : ∃ u', m_X3_planarOf f u (ni k1) (ni k2) a b c = some (li (D / L : Nat), u') ∧ Fr QF u u' := by
  obtain ⟨w, kf0, C, T, Lv⟩ := E
  have LO1 := Lv k1 M1 n1 t1 hl1
  have nn := LO1.n
  obtain ⟨pb, pz⟩ := isPl_ok hp e0 e1 e2
  obtain ⟨u1, b1, b2, b3, b4, b5⟩ := X3_laysShort (f := f) hf T hl1 LO1
  obtain ⟨u2, e, D1, c', y1, y2, y3, y4, y5, y6⟩ := X3_crossShort (f := f) hf (herm_sh LO1) (herm_nz LO1) b2 e0 e1 e2 hp
  have hrL := LO1.run.2.2.1
  have y4' : D1.natAbs = (dtf M1).natAbs := by rw [y4]; exact (dtf_eqL hrL).symm
  have y5' : e.natAbs = gp M1 p := by rw [y5]; exact (gp_eqL hrL p).symm
  obtain ⟨Qx, pqx⟩ := LO1.pq
  have dl := pqx.det_le
  rw [det_m3] at dl
  have gpos := gp_pos pqx.nz pz
  have ez : e ≠ 0 := by omega
  have cb : ∀ j, j < 3 → (c' j).natAbs ≤ 2799360 * 9 := fun j hj => crs_rg (y3 j hj) ez (pb j hj) (by omega)
  have gc : ∀ j, j < 3 → rg (c' j) := fun j hj => rg_nat.mpr (by have := cb j hj; omega)
  obtain ⟨z, z3, zz⟩ := pz
  have cz : c' z ≠ 0 := fun e9 => by
    have := y3 z z3
    rw [e9, Int.mul_zero] at this
    rcases Int.mul_eq_zero.mp this.symm with h | h
    · have := dl.1; omega
    · exact zz h
  obtain ⟨y, yl, yn, q17⟩ := X3_p17 (f := f) (x1 := ni k1) (x2 := ni k2) (a := a) (b := b) (c := c) y2 gc z3 cz z 0 f (by omega) (by omega)
  have F2 : Fr [18, 19, 20, 21, 22, 23, 24, 25, 35, 36, 37, 38, 39] u u2 := (b5.mono (by decide)).tr (y6.mono (by decide))
  have E2 : QE h x u2 LS := ⟨w, kf0, C, T.fr F2 (by decide), Lv⟩
  obtain ⟨P', Q', b'', eP', eQ', eb', pq, bb1, bb2, _, u3, d1, d2, d3, d4⟩ := meet_CT (f := f) hf E2 hl1 hl2 ht
  have ebb : b'' = b' := by rw [eb', eb]
  subst ebb
  have ePP : P' = P := by rw [eP', eP]
  have eQQ : Q' = Q := by rw [eQ', eQ]
  subst ePP eQQ
  obtain ⟨entG, sO⟩ := mtC_ent pq
  obtain ⟨g, g0, g1, g2, g3, g4⟩ := ls_ok (F := mtC P' Q') (o := b'') (by omega)
  have mob : lsO (mtC P' Q') b'' ≤ b'' := by
    have := Int.mul_le_mul_of_nonneg_right (show (1 : Int) ≤ g by omega) (show 0 ≤ lsO (mtC P' Q') b'' by omega)
    omega
  obtain ⟨_, x2, x3, l1, l2, _, _, nzG, nzM, law, dG⟩ := lp
  generalize hmo : lsO (mtC P' Q') b'' = mo at *
  generalize hG : lsG (mtC P' Q') b'' = G at *
  have sO' := sO
  obtain ⟨B, s1', s2, s3⟩ := sO
  obtain ⟨u4, t1', t2', t3', t4'⟩ := X3_shortens (f := f) (k := rK) (by rw [rK_eq]; omega) s1' s2 s3 nzG d2
  have t2'' : tR 18 u4 (rdN G) := t2'
  have o19 : tL u4 19 = li mo := by rw [(t4' 19 (by decide)).2.1]; exact d3
  obtain ⟨u5, e', D2, c2, w1, w2, w3, w4, w5, w6⟩ := X3_crossShort (f := f) hf sO' nzG t2'' e0 e1 e2 hp
  have gpos2 := gp_pos nzG ⟨z, z3, zz⟩
  have cb2 : (c2 y).natAbs ≤ 2160 * 2799360 * 9 := crs_rg (w3 y yl) (by omega) (pb y yl) (by omega)
  have gc2 : rg (c2 y) := rg_nat.mpr (by omega)
  have o19' : tL u5 19 = li mo := by rw [(w6 19 (by decide)).2.1]; exact o19
  have nn2 := n2_le nn
  have mm := n2_le (n := mo) ⟨by omega, by omega⟩
  have py : (p y).toInt ≠ 0 := fun e9 => by
    have := y3 y yl
    rw [e9, Int.mul_zero] at this
    rcases Int.mul_eq_zero.mp this with h | h
    · exact ez h
    · exact yn h
  -- the numbers
  have A1 : ((e.natAbs * (c' y).natAbs : Nat) : Int) = ((dtf M1).natAbs * (p y).toInt.natAbs : Nat) := by
    have := congrArg Int.natAbs (y3 y yl)
    rw [Int.natAbs_mul, Int.natAbs_mul, y4'] at this
    rw [this]
  have A2 : ((e'.natAbs * (c2 y).natAbs : Nat) : Int) = ((dtf G).natAbs * (p y).toInt.natAbs : Nat) := by
    have := congrArg Int.natAbs (w3 y yl)
    rw [Int.natAbs_mul, Int.natAbs_mul, w4] at this
    rw [this]
  rw [y5'] at A1
  rw [w5] at A2
  simp only [Int.natCast_mul] at A1 A2
  have key : ((c2 y).natAbs : Int) * (n1 * n1) * L = D * (((c' y).natAbs : Int) * mo * mo) := by
    have zq : ((gp M1 p : Nat) : Int) * ((gp G p : Nat) : Int) ≠ 0 := Int.mul_ne_zero (by omega) (by omega)
    refine Int.eq_of_mul_eq_mul_right zq ?_
    generalize ((dtf G).natAbs : Int) = dG' at *
    generalize ((dtf M1).natAbs : Int) = dM at *
    generalize ((gp G p : Nat) : Int) = gG at *
    generalize ((gp M1 p : Nat) : Int) = gM at *
    generalize ((c2 y).natAbs : Int) = C2 at *
    generalize ((c' y).natAbs : Int) = C1 at *
    generalize ((p y).toInt.natAbs : Int) = py' at *
    generalize (L : Int) = l at *
    generalize (D : Int) = DD at *
    calc C2 * (n1 * n1) * l * (gM * gG) = (gG * C2) * (n1 * n1) * l * gM := by grind
      _ = (dG' * (n1 * n1) * l * gM) * py' := by rw [A2]; grind
      _ = (DD * dM * (mo * mo) * gG) * py' := by rw [law]
      _ = DD * (mo * mo) * gG * (dM * py') := by grind
      _ = DD * (mo * mo) * gG * (gM * C1) := by rw [A1]
      _ = DD * (C1 * mo * mo) * (gM * gG) := by grind
  obtain ⟨N, hN⟩ := l2
  have L0 : (L : Int) ≠ 0 := by omega
  have key2 : ((c2 y).natAbs : Int) * (n1 * n1) = N * (((c' y).natAbs : Int) * mo * mo) := by
    refine Int.eq_of_mul_eq_mul_right L0 ?_
    rw [key, hN, Int.natCast_mul]; grind
  have DL : D / L = N := by rw [hN, Nat.mul_div_cancel_left _ l1]
  have b1' : ((c2 y).natAbs : Int) * (n1 * n1) ≤ (2160 * 2799360 * 9 : Nat) * 1296 := Int.mul_le_mul (by omega) nn2.2 (by omega) (by omega)
  have b0' : 0 ≤ ((c2 y).natAbs : Int) * (n1 * n1) := Int.mul_nonneg (by omega) (by omega)
  have b2' : ((c' y).natAbs : Int) * mo * mo ≤ (2799360 * 9 : Nat) * 1296 := by
    rw [Int.mul_assoc]; exact Int.mul_le_mul (by have := cb y yl; omega) mm.2 (by omega) (by omega)
  have b3' : 0 < ((c' y).natAbs : Int) * mo * mo := by
    rw [Int.mul_assoc]; exact Int.mul_pos (by omega) (by omega)
  refine ⟨u5, ?_, ((F2.mono (by decide)).tr (d4.mono (by decide))).tr ((t4'.mono (by decide)).tr (w6.mono (by decide)))⟩
  unfold m_X3_planarOf
  have q17' : m_X3_planarOf_17 f f u2 (ni k1) (ni k2) a b c 0 = _ := q17
  rw [b1, bd_some, y1, bd_some, q17']
  unfold m_X3_planarOf_35
  have sc1 : m_X3_someCrossed f u2 (ni y) = some (li ((c' y).natAbs : Int), u2) := by
    unfold m_X3_someCrossed
    rw [gd_of (ix_ni yl (by decide)), ni_clamp (by omega), y2 y yl, sized_li (gc y yl), bd_some]
  have sc2 : m_X3_someCrossed f u5 (ni y) = some (li ((c2 y).natAbs : Int), u5) := by
    unfold m_X3_someCrossed
    rw [gd_of (ix_ni yl (by decide)), ni_clamp (by omega), w2 y yl, sized_li gc2, bd_some]
  have o19'' : tL u2 19 = li n1 := by rw [(y6 19 (by decide)).2.1]; exact b4
  rw [sc1, bd2_some, nmv_eq, o19'', li_mul, d1, bd_some, t1', bd_some, w1, bd_some, sc2, bd2_some, nmv_eq, nmv_eq, o19', li_mul, li_mul, li_mul]
  have ra : rg (((c2 y).natAbs : Int) * (n1 * n1)) := ⟨by omega, by omega⟩
  have rb : rg (((c' y).natAbs : Int) * mo * mo) := ⟨by omega, by omega⟩
  rw [gd_of (nzL_li rb (by omega)), li_div ra rb, key2, Int.mul_tdiv_cancel _ (by omega), DL]
