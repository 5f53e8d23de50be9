/-! questions asked of two: the index, the group -/
set_option maxRecDepth 100000
/-- the component's rows that tell -/
theorem X0_toldBy {f : Nat} (hf : 2 ^ 63 ≤ f) {h : CH} {x : Nat} {u : TS} {LS : LSt} (E : QE h x u LS) {k1 k2 : Nat} {M1 M2 : Mi} {n1 n2 : Int} {t1 t2 : Bool} (hl1 : LS[k1]? = some (M1, n1, t1)) (hl2 : LS[k2]? = some (M2, n2, t2)) (ht : ¬ (t1 = true ∧ t2 = true)) : ∃ (P Q X : Mi) (b : Int), P = mscl (b.tdiv n1) M1 ∧ Q = mscl (b.tdiv n2) M2 ∧ b = btw n1 n2 ∧ PQ (m3 P) (m3 Q) b ∧ mmul (m3 X) (m3 P) = m3 (mtC P Q) ∧ eqL (m3 X) (m3 (sF P Q (dQ Q) kB)) ∧ smO X ∧ bdM 8100000 (adjM (m3 X)) ∧ 1 ≤ (dtf X).natAbs ∧ (dtf X).natAbs ≤ 2160 ∧ ∃ R h', m_X0_toldBy f h x (ni k1) (ni k2) = some (R.1, h') ∧ isN h' R X ∧ Ext 170 450 h h' := by
  have E' := E
  obtain ⟨w, kf0, C, T, L⟩ := E
  obtain ⟨P, Q, b, eP, eQ, eb, pq, b1, b2, ⟨a, h2, c1, ⟨R0, c2, c3'⟩, c4'⟩, _⟩ := meet_CT (f := f) hf E' hl1 hl2 ht
  have LO1 := L k1 M1 n1 t1 hl1
  have nn := LO1.n
  obtain ⟨X, x1, x2, x3, x4, x5, x6, y1, y2, y3, y4, y5, y6, y7, y8, y9⟩ := told_div (n1 := n1) pq (by omega) (by rw [eb]; exact btw_dvd.1) eP
  refine ⟨P, Q, X, b, eP, eQ, eb, pq, x1, x2, x3, x4, x5, x6, ?_⟩
  unfold m_X0_toldBy
  rw [gd_of C.isC, c1, bd2_some]
  have C2 := C.ext c4' w kf0.kok
  have kf2 := kf0.mod c4'
  unfold m_X0_toldBy_6
  obtain ⟨a', a1', a2'⟩ := X0_at (f := f) C2 hl1
  rw [oL_c (k := 1) (x := li (lsO (mtC P Q) b)) c2 rfl, bd_some, gd_of C2.isC, a1', bd2_some]
  unfold m_X0_toldBy_16
  obtain ⟨h3, d1, d2⟩ := L_over (f := f) (by omega) c4'.wf a2'
  rw [d2 (fun r3 h2 => m_X0_toldBy_19 f h2 x (ni k1) a (li (lsO (mtC P Q) b)) r3)]
  have C3 := C2.ext d1 c4'.wf kf2.kok
  have kf3 := kf2.mod d1
  unfold m_X0_toldBy_19
  have gz : Int.gcd (lsO (mtC P Q) b) n1 ≠ 0 := fun e => by have := (Int.gcd_eq_zero_iff.mp e).1; omega
  have em : m_X0_multiple f (li (lsO (mtC P Q) b)) (li n1) = some (li (mlt (lsO (mtC P Q) b) n1)) := multiple_li ⟨by omega, by omega⟩ (by omega) gz
  rw [em, bd_some]
  generalize hF : mtC P Q = F at *
  generalize hmo : lsO F b = mo at *
  generalize hG : lsG F b = G at *
  generalize hov : mlt mo n1 = ov at *
  obtain ⟨R1, h4, p1, p2, p3', _⟩ := X0_rowsBy (f := f) (by omega) d1.wf kf3.kok C3 hl1 (show rg n1 from ⟨by omega, by omega⟩) (by omega) (show rg ov from ⟨by omega, by omega⟩)
  rw [gd_of C3.isC, p1, bd2_some]
  have p2' : isN h4 R1 (mscl (ov.tdiv n1) M1) := p2
  have e24 : Ext 30 78 h2 h4 := (d1.tr p3' (fun _ _ => id)).up (by omega) (by omega)
  have c2' := e24.at c4'.wf c2 id
  have c3'' := c3'.ext e24 c4'.wf
  unfold m_X0_toldBy_31
  have gm : rg mo := ⟨by omega, by omega⟩
  rw [oR_c (k := 0) (x := R0.1) c2' rfl, bd_some, oL_c (k := 1) (x := li mo) c2' rfl, bd_some, gd_of (nzL_li gm (by omega)), gd_of (isC_R c3''), li_div (show rg ov from ⟨by omega, by omega⟩) gm]
  obtain ⟨h5, q1, q2, q3, _⟩ := X2_times_2 (f := f) (by omega) p3'.wf c3'' (ov.tdiv mo)
  rw [q1, bd2_some]
  have q2' : isN h5 (nwR h4) (mscl (ov.tdiv mo) G) := q2
  have p2'' := p2'.ext q3 p3'.wf
  unfold m_X0_toldBy_47
  obtain ⟨h6, s1, s2, s3, _⟩ := X2_adjoint (f := f) (by omega) q3.wf p2''
  rw [gd_of (isC_R p2''), s1, bd2_some]
  unfold m_X0_toldBy_52
  have q6 := q2'.ext s3 q3.wf
  obtain ⟨h7, v1, v2, v3, _⟩ := X2_times (f := f) (by omega) s3.wf q6 s2
  have v1' : m_X2_times f h6 h4.1 h5.1 = _ := v1
  rw [gd_of (show isC h6 h4.1 3 = true from isC_R q6), v1', bd2_some]
  unfold m_X0_toldBy_55
  have one7 := (p2''.ext s3 q3.wf).ext v3 s3.wf
  rw [gd_of (isC_R one7), X2_determinant one7, bd2_some]
  unfold m_X0_toldBy_60
  have ent : ∀ i j, i < 3 → j < 3 → rg (pmul (mscl (ov.tdiv mo) G) (fun i j => mnr (mscl (ov.tdiv n1) M1) j i) i j) := fun i j hi hj => by
    rw [y9 i j hi hj, rg_nat, Int.natAbs_mul]
    obtain ⟨X', w1, w2, w3, _⟩ := told_X pq
    have ex : m3 X = X' := by
      have hz : det (m3 P) ≠ 0 := by rw [det_m3]; exact pq.nz
      refine smM_inj hz ?_
      have k : ∀ Z, smM (det (m3 P)) Z = mmul (mmul Z (m3 P)) (adjM (m3 P)) := fun Z => by rw [mmul_as, mmul_adj, mmul_sm2, mmul_id]
      rw [k, k, x1, w1, hF]
    have bX := bdM_at (N := X) (by rw [ex]; exact w3) hi hj
    exact Nat.lt_of_le_of_lt (Nat.mul_le_mul y7 bX) (by decide)
  obtain ⟨h8, z1', z2', z3', _⟩ := X2_by (f := f) (by omega) v3.wf v2 (show rg (dtf (mscl (ov.tdiv n1) M1)) from rg_nat.mpr (by omega)) y8 ent
  have z1'' : m_X2_by f h7 h6.1 (li (dtf (mscl (ov.tdiv n1) M1))) = _ := z1'
  rw [gd_of (show isC h7 h6.1 3 = true from isC_R v2), z1'', bd2_some]
  refine ⟨nwR h7, h8, rfl, z2'.congr (fun i j hi hj => ?_), (((((c4'.tr e24 (fun _ _ => id)).tr q3 (fun _ _ => id)).tr s3 (fun _ _ => id)).tr v3 (fun _ _ => id)).tr z3' (fun _ _ => id)).up (by omega) (by omega)⟩
  show li ((pmul (mscl (ov.tdiv mo) G) (fun i j => mnr (mscl (ov.tdiv n1) M1) j i) i j).tdiv (dtf (mscl (ov.tdiv n1) M1))) = li (X i j)
  rw [y9 i j hi hj, Int.mul_tdiv_cancel_left _ y8]
/-- the twin's rows that tell, at hand -/
theorem X3_laysTold {f : Nat} (hf : 2 ^ 63 ≤ f) {h : CH} {x : Nat} {u : TS} {LS : LSt} (E : QE h x u LS) {k1 k2 : Nat} {M1 M2 P Q : Mi} {n1 n2 b : Int} {t1 t2 : Bool} (hl1 : LS[k1]? = some (M1, n1, t1)) (hl2 : LS[k2]? = some (M2, n2, t2)) (eP : P = mscl (b.tdiv n1) M1) (eQ : Q = mscl (b.tdiv n2) M2) (eb : b = btw n1 n2) (pq : PQ (m3 P) (m3 Q) b) : ∃ u1 u', m_X3_laysBoth f u (ni k1) (ni k2) = some u1 ∧ m_X3_tells f u1 = some u' ∧ tR 32 u' (tel P Q (dQ Q) 3) ∧ Fr mtF u u' := by
  obtain ⟨w, kf0, C, T, L⟩ := E
  have b1 := (L k1 M1 n1 t1 hl1).n
  have b2 := (L k2 M2 n2 t2 hl2).n
  have hb := pq.n
  obtain ⟨v1, s1, s2, s3, s4, s5, s6, s7⟩ := X3_laysBoth (f := f) hf (T.2.2 k1 M1 n1 t1 hl1).1 (T.2.2 k2 M2 n2 t2 hl2).1 (show rg n1 from ⟨by omega, by omega⟩) (show rg n2 from ⟨by omega, by omega⟩) (by omega) (by omega) (show rg (btw n1 n2) by rw [← eb]; exact ⟨by omega, by omega⟩)
  rw [← eb] at s2 s3
  have s2' : tR 27 v1 P := by rw [eP]; exact s2.congr (fun i j _ _ => Int.mul_comm _ _)
  have s3' : tR 29 v1 Q := by rw [eQ]; exact s3.congr (fun i j _ _ => Int.mul_comm _ _)
  obtain ⟨_, m2, _⟩ := pq.mt
  obtain ⟨v2, t1', t2', t3'⟩ := X3_tells (f := f) hf s2' s3' m2.1 m2.2.1 m2.2.2.1 m2.2.2.2
  exact ⟨v1, v2, s1, t1', t2', (s7.mono (by decide)).tr (t3'.mono (by decide))⟩
theorem X3_laysTold' {f : Nat} (hf : 2 ^ 63 ≤ f) {h : CH} {x : Nat} {u : TS} {LS : LSt} (E : QE h x u LS) {k1 k2 : Nat} {M1 M2 P Q : Mi} {n1 n2 b : Int} {t1 t2 : Bool} (hl1 : LS[k1]? = some (M1, n1, t1)) (hl2 : LS[k2]? = some (M2, n2, t2)) (eP : P = mscl (b.tdiv n1) M1) (eQ : Q = mscl (b.tdiv n2) M2) (eb : b = btw n1 n2) (pq : PQ (m3 P) (m3 Q) b) : ∃ u', m_X3_laysTold f u (ni k1) (ni k2) = some u' ∧ tR 18 u' (sF P Q (dQ Q) kB) ∧ Fr mtF u u' := by
  obtain ⟨u1, u2, a1, a2, a3, a4⟩ := X3_laysTold (f := f) hf E hl1 hl2 eP eQ eb pq
  unfold m_X3_laysTold
  rw [a1, bd_some, a2, bd_some]
  obtain ⟨u3, e2, r2, f2⟩ := cpy9 (fun n u x => m_X3_laysTold_12 f n u x) (fun u => some u) (a := 32) (b := 18) (by decide)
    (fun n v => by rw [m_X3_laysTold_12, if_pos le99]; rfl)
    (fun n v k hk => by rw [m_X3_laysTold_12, if_neg (le9 hk), gd_of (ix_ni hk (by decide)), gd_of (ix_ni hk (by decide)), nmv_eq, nmv_eq, ni_clamp (by omega), ni_succ]) (show 12 < f by omega) a3
  obtain ⟨_, _, _, _, _, m6, _⟩ := pq.mt
  exact ⟨u3, e2, r2.congr (m3_at m6), a4.tr (f2.mono (by decide))⟩
theorem q_index {f : Nat} (hf : 2 ^ 63 ≤ f) {h : CH} {x : Nat} {u : TS} {LS : LSt} (E : QE h x u LS) (l m : Int32) : QA (m_X0_index f h x l m) (m_X3_index f u l m) h u := by
  have E' := E
  obtain ⟨w, kf0, C, T, L⟩ := E
  unfold m_X0_index m_X3_index
  rw [gd_of C.isC]
  rcases ask_cases (f := f) E' l m with ⟨e1, e2⟩ | ⟨k1, k2, M1, n1, t1, M2, n2, t2, rfl, rfl, hk1, hk2, hl1, hl2, ⟨e1, e2⟩ | ⟨e1, e2, ht⟩⟩
  · rw [e1, e2, bd2_some, bd2_some]
    exact QA.mk (l := []) rfl rfl (Ext.rf w) (by omega) (by omega) Fr.rf (by decide)
  · rw [e1, e2, bd2_some, bd2_some]
    exact QA.mk (l := []) rfl rfl (Ext.rf w) (by omega) (by omega) Fr.rf (by decide)
  · rw [e1, e2, bd2_some, bd2_some, z_z]
    unfold m_X0_index_6
    rw [z_z]
    obtain ⟨P, Q, X, b, eP, eQ, eb, pq, x1, x2, x3, x4, x5, x6, R, h', c1, c2, c3'⟩ := X0_toldBy (f := f) hf E' hl1 hl2 ht
    obtain ⟨u', d1, d2, d3⟩ := X3_laysTold' (f := f) hf E' hl1 hl2 eP eQ eb pq
    have ed := dtf_eqL x2
    refine QA.mk (r := li ((dtf X).natAbs : Int)) (h' := h') (u' := u') ?_ ?_ c3' (by omega) (by omega) d3 (by decide)
    · rw [gd_of C.isC, c1, bd2_some]
      unfold m_X0_index_22
      rw [gd_of (isC_R c2), X2_determinant c2, bd2_some]
      unfold m_X0_index_25
      rw [abs_li (rg_nat.mpr (by omega)), bd_some]
      rfl
    · rw [d1, bd_some, X3_det (f := f) (by omega) d2, bd2_some, sized_li (rg_nat.mpr (by omega)), bd_some, ← ed]
theorem q_group {f : Nat} (hf : 2 ^ 63 ≤ f) {h : CH} {x : Nat} {u : TS} {LS : LSt} (E : QE h x u LS) (l m j : Int32) : QA (m_X0_group f h x l m j) (m_X3_group f u l m j) h u := by
  have E' := E
  obtain ⟨w, kf0, C, T, L⟩ := E
  unfold m_X0_group m_X3_group
  rw [gd_of C.isC]
  rcases ask_cases (f := f) E' l m with ⟨e1, e2⟩ | ⟨k1, k2, M1, n1, t1, M2, n2, t2, rfl, rfl, hk1, hk2, hl1, hl2, ⟨e1, e2⟩ | ⟨e1, e2, ht⟩⟩
  · rw [e1, e2, bd2_some, bd2_some]
    exact QA.mk (l := []) rfl rfl (Ext.rf w) (by omega) (by omega) Fr.rf (by decide)
  · rw [e1, e2, bd2_some, bd2_some]
    unfold m_X0_group_6
    rw [m3_2, m3_2, X0_isSide, in3_li j (a := 2) (hi := 2) rfl (rg_sm (by omega) (by omega))]
    cases s1 : inI j.toInt 0 2 with
    | false => exact QA.mk (l := []) rfl rfl (Ext.rf w) (by omega) (by omega) Fr.rf (by decide)
    | true =>
      rw [bd_some, nift1, z_m3, bd_some, nift1, z_m3]
      exact QA.mk (l := []) rfl rfl (Ext.rf w) (by omega) (by omega) Fr.rf (by decide)
  · rw [e1, e2, bd2_some, bd2_some]
    unfold m_X0_group_6
    rw [z_2, z_2, X0_isSide, in3_li j (a := 2) (hi := 2) rfl (rg_sm (by omega) (by omega))]
    cases s1 : inI j.toInt 0 2 with
    | false => exact QA.mk (l := []) rfl rfl (Ext.rf w) (by omega) (by omega) Fr.rf (by decide)
    | true =>
      obtain ⟨j, rfl, hj⟩ := side_ni s1
      rw [bd_some, nift1, z_z, bd_some, nift1, z_z]
      obtain ⟨P, Q, X, b, eP, eQ, eb, pq, x1, x2, x3, x4, x5, x6, R, h', c1, c2, c3'⟩ := X0_toldBy (f := f) hf E' hl1 hl2 ht
      obtain ⟨u', d1, d2, d3⟩ := X3_laysTold' (f := f) hf E' hl1 hl2 eP eQ eb pq
      have ed := dtf_eqL x2
      obtain ⟨_, _, _, _, _, _, m7, m8, _⟩ := pq.mt
      have dp := H_pos m7
      have bS : bdM 2160 (m3 (sF P Q (dQ Q) kB)) := bdM_of (fun i j hi hj => by have := H_ent m7 i j hi hj; omega)
      have aS := (H_adj m7).mono m8
      have nzS : dtf (sF P Q (dQ Q) kB) ≠ 0 := by rw [← det_m3]; omega
      obtain ⟨g1, g2⟩ := g9_nz nzS
      refine QA.mk (r := li (smt X j)) (h' := h') (u' := u') ?_ ?_ c3' (by omega) (by omega) d3 (by decide)
      · rw [gd_of C.isC, c1, bd2_some]
        unfold m_X0_group_43
        rw [gd_of (isC_R c2), X2_smith (f := f) (by omega) c2 x3.1 x3.2.1 x3.2.2.1 x3.2.2.2.1 x3.2.2.2.2 hj, bd2_some]
        rfl
      · rw [d1, bd_some, X3_smithOf (f := f) hf d2 (fun i j hi hj => rg_nat.mpr (by have := bdM_at bS hi hj; omega)) (fun i j hi hj => rg_nat.mpr (by have := bd_mnr aS hi hj; omega)) (rg_nat.mpr (by omega)) g1 g2 hj, bd2_some, smt_eqL x2]
