/-! points; questions asked of two lattices -/
set_option maxRecDepth 100000
def isPI (x y z d : Int32) : Bool := inI x.toInt (-999) 999 && (inI y.toInt (-999) 999 && (inI z.toInt (-999) 999 && inI d.toInt 1 36))
theorem X0_isPoint {f : Nat} (x y z d : Int32) : m_X0_isPoint f x y z d = some (if isPI x y z d = true then 1 else 0) := by
  unfold m_X0_isPoint m_X0_isPoint_58 m_X0_isPoint_59 isPI
  have g1 : rg (-999) := ⟨by decide, by decide⟩
  have g2 : rg 999 := ⟨by decide, by decide⟩
  have g3 : rg 36 := ⟨by decide, by decide⟩
  rw [toL, toL, toL, toL, show (-999 : Int64) = li (-999) from rfl, show (999 : Int64) = li 999 from rfl, show (1 : Int64) = li 1 from rfl, show (36 : Int64) = li 36 from rfl, isIn_li (i32_rg x) g1 g2, isIn_li (i32_rg y) g1 g2, isIn_li (i32_rg z) g1 g2, isIn_li (i32_rg d) rg_1 g3]
  cases inI x.toInt (-999) 999 <;> cases inI y.toInt (-999) 999 <;> cases inI z.toInt (-999) 999 <;> cases inI d.toInt 1 36 <;> rfl
theorem X3_isPoint {f : Nat} (x y z d : Int32) : m_X3_isPoint f x y z d = some (if isPI x y z d = true then 1 else 0) := by
  unfold m_X3_isPoint m_X3_isPoint_58 m_X3_isPoint_59 isPI
  have g1 : rg (-999) := ⟨by decide, by decide⟩
  have g2 : rg 999 := ⟨by decide, by decide⟩
  have g3 : rg 36 := ⟨by decide, by decide⟩
  rw [toL, toL, toL, toL, show (-999 : Int64) = li (-999) from rfl, show (999 : Int64) = li 999 from rfl, show (1 : Int64) = li 1 from rfl, show (36 : Int64) = li 36 from rfl, in_li (i32_rg x) g1 g2, in_li (i32_rg y) g1 g2, in_li (i32_rg z) g1 g2, in_li (i32_rg d) rg_1 g3]
  cases inI x.toInt (-999) 999 <;> cases inI y.toInt (-999) 999 <;> cases inI z.toInt (-999) 999 <;> cases inI d.toInt 1 36 <;> rfl
def p3 (x y z : Int) : Nat → Int := fun j => if j = 0 then x else if j = 1 then y else z
theorem isPI_ok {x y z d : Int32} (h : isPI x y z d = true) : (∀ j, j < 3 → (p3 x.toInt y.toInt z.toInt j).natAbs ≤ 999) ∧ 1 ≤ d.toInt ∧ d.toInt ≤ 36 := by
  unfold isPI at h
  obtain ⟨h1, h⟩ := Bool.and_eq_true_iff.mp h
  obtain ⟨h2, h⟩ := Bool.and_eq_true_iff.mp h
  obtain ⟨h3, h4⟩ := Bool.and_eq_true_iff.mp h
  have a1 := of_decide_eq_true h1
  have a2 := of_decide_eq_true h2
  have a3 := of_decide_eq_true h3
  have a4 := of_decide_eq_true h4
  refine ⟨fun j hj => ?_, a4.1, a4.2⟩
  rcases c3 hj with rfl | rfl | rfl
  · show x.toInt.natAbs ≤ 999; omega
  · show y.toInt.natAbs ≤ 999; omega
  · show z.toInt.natAbs ≤ 999; omega
/-- have and hasPoint answer alike: a point p (so great at most) over d of a lattice M over n -/
theorem have_C {f : Nat} (hf : 4 ≤ f) {h : CH} (w : wfh h) {R : RA} {M : Mi} {n : Int} {tn : Bool} (LO : LatOk M n tn) (hR : isN h R M) {p : Nat → Int} (hp : ∀ j, j < 3 → (p j).natAbs ≤ 50000) {d : Int} (hd : 1 ≤ d ∧ d ≤ 36) : ∃ (b : Bool) (h' : CH), m_X0_have f h R.1 (li n) (li (p 0)) (li (p 1)) (li (p 2)) (li d) = some (if b = true then 1 else 0, h') ∧ (b = true ↔ hasP (m3 M) n (v3 p) d) ∧ Ext 5 13 h h' := by
  obtain ⟨Q, pq⟩ := LO.pq
  have dl := pq.det_le
  rw [det_m3] at dl
  have n0 := LO.n
  obtain ⟨_, am⟩ := pq.ent
  have dd : (d * dtf M).natAbs ≤ 36 * 2799360 := by rw [Int.natAbs_mul]; exact Nat.mul_le_mul (by omega) dl.2
  have hz : d * dtf M ≠ 0 := fun e => by rcases Int.mul_eq_zero.mp e with e | e; omega; exact pq.nz e
  obtain ⟨b, h', e1, e2, e3⟩ := X0_have (f := f) hf w hR (o := n) (d := d) (x := p) (rg_nat.mpr (by omega)) hz (fun j hj => by
    unfold hvs
    rw [rg_nat, Int.natAbs_mul]
    have s := ab3 (hp 0 (by decide)) (hp 1 (by decide)) (hp 2 (by decide)) (bd_mnr am hj (show 0 < 3 by decide)) (bd_mnr am hj (show 1 < 3 by decide)) (bd_mnr am hj (show 2 < 3 by decide))
    exact Nat.lt_of_le_of_lt (Nat.mul_le_mul s (show n.natAbs ≤ 36 by omega)) (by decide))
  exact ⟨b, h', e1, e2.trans (hav_iff pq.nz (by omega) p), e3⟩
theorem has_T {f : Nat} (hf : 4 ≤ f) {u : TS} {M : Mi} {n : Int} {tn : Bool} (LO : LatOk M n tn) (hR : tR 18 u (hrun 100 (M, [])).1) (ho : tL u 19 = li n) {p : Nat → Int} {X : Nat} (hX : X ≤ 3000000) (hp : ∀ j, j < 3 → (p j).natAbs ≤ X) {d : Int} (hd : 1 ≤ d ∧ d ≤ 36) : ∃ (b : Bool) (u' : TS), m_X3_hasPoint f u (li (p 0)) (li (p 1)) (li (p 2)) (li d) = some (if b = true then 1 else 0, u') ∧ (b = true ↔ hasP (m3 M) n (v3 p) d) ∧ Fr [26] u u' := by
  obtain ⟨r1, r2, r3, r4⟩ := LO.run
  have n0 := LO.n
  have po : ∀ j, j < 3 → (p j * n).natAbs ≤ 108000000 := fun j hj => by
    rw [Int.natAbs_mul]
    exact Nat.le_trans (Nat.mul_le_mul (Nat.le_trans (hp j hj) hX) (show n.natAbs ≤ 36 by omega)) (by decide)
  obtain ⟨u', e1, e2⟩ := X3_hasPoint (f := f) hf hR ho (x := p) (d := d) ⟨by omega, by omega⟩ (by omega) (fun j hj => rg_nat.mpr (by have := po j hj; omega)) (hptOk_of r2 (D := 2799360) (X := 108000000) (fun i j hi hj => by have := r4 i j hi hj; omega) (fun j hj => Nat.le_trans (Int.natAbs_tdiv_le_natAbs _ _) (po j hj)) (by decide) (by decide))
  exact ⟨_, u', e1, (hpA_iff r2 (by omega) p).trans (hasP_eqL r3.sy), e2⟩
theorem bool_iff {b c : Bool} {P : Prop} (h1 : b = true ↔ P) (h2 : c = true ↔ P) : b = c := by
  cases b <;> cases c <;> simp_all
theorem toL3 (x y z : Int32) : Int32.toInt64 x = li (p3 x.toInt y.toInt z.toInt 0) ∧ Int32.toInt64 y = li (p3 x.toInt y.toInt z.toInt 1) ∧ Int32.toInt64 z = li (p3 x.toInt y.toInt z.toInt 2) := ⟨toL x, toL y, toL z⟩
/-- the twin's: a lattice has a point -/
theorem X3_latticeHas {f : Nat} (hf : 2 ^ 63 ≤ f) {u : TS} {LS : LSt} (T : TV u LS) {k : Nat} {M : Mi} {n : Int} {tn : Bool} (hl : LS[k]? = some (M, n, tn)) (LO : LatOk M n tn) {p : Nat → Int} (hp : ∀ j, j < 3 → (p j).natAbs ≤ 50000) {d : Int} (hd : 1 ≤ d ∧ d ≤ 36) : ∃ (b : Bool) (u' : TS), m_X3_latticeHas f u (ni k) (li (p 0)) (li (p 1)) (li (p 2)) (li d) = some (if b = true then 1 else 0, u') ∧ (b = true ↔ hasP (m3 M) n (v3 p) d) ∧ Fr [18, 19, 20, 21, 22, 23, 24, 25, 26] u u' := by
  obtain ⟨r1, _⟩ := LO.run
  obtain ⟨v, v2, t1, t5, t6, t8, t7⟩ := herm_T (f := f) hf T hl r1
  obtain ⟨b, u', e1, e2, e3⟩ := has_T (f := f) (by omega) LO t6.1 t8 (X := 50000) (by decide) hp hd
  refine ⟨b, u', ?_, e2, (t7.mono (by decide)).tr (e3.mono (by decide))⟩
  unfold m_X3_latticeHas
  rw [t1, bd_some, t5, bd_some, e1, bd2_some]
  cases b <;> rfl
/-- the component's: a lattice has a point -/
theorem C_has {f : Nat} (hf : 2 ^ 63 ≤ f) {h : CH} {x : Nat} {LS : LSt} (w : wfh h) (kf0 : kf h) (C : CV h x LS) {k : Nat} {M : Mi} {n : Int} {tn : Bool} (hl : LS[k]? = some (M, n, tn)) (LO : LatOk M n tn) {a b c d : Int32} (hP : isPI a b c d = true) : ∃ (r : Bool) (h' : CH), m_X0_has f h x (ni k) a b c d = some (if r = true then 1 else 0, h') ∧ (r = true ↔ hasP (m3 M) n (v3 (p3 a.toInt b.toInt c.toInt)) d.toInt) ∧ Ext 30 80 h h' := by
  obtain ⟨q1, q2⟩ := isPI_ok hP
  obtain ⟨a0, a1, a2⟩ := X0_at (f := f) C hl
  obtain ⟨R, h3, b1, b2, b3⟩ := L_rows (f := f) (by omega) w a2
  have C3 := C.ext b2 w kf0.kok
  obtain ⟨a0', a1', a2'⟩ := X0_at (f := f) C3 hl
  obtain ⟨h4, c1, c2⟩ := L_over (f := f) (by omega) b2.wf a2'
  obtain ⟨r, h5, d1, d2, d3⟩ := have_C (f := f) (by omega) c1.wf LO (b1.ext c1 b2.wf) (fun j hj => Nat.le_trans (q1 j hj) (by decide)) q2
  refine ⟨r, h5, ?_, d2, ((b2.tr c1 (fun _ _ => id)).tr d3 (fun _ _ => id)).up (by omega) (by omega)⟩
  have hLI : isLI LS (ni k) = true := by
    have h5 := C
    obtain ⟨_, _, _, _, xs, _, _, _, _, l5, _⟩ := h5
    have hk : k < LS.length := (List.getElem?_eq_some_iff.mp hl).1
    unfold isLI inI
    rw [ni_toInt (by omega)]
    exact decide_eq_true (by omega)
  unfold m_X0_has
  rw [gd_of C.isC, X0_isLattice C, bd2_some, hLI]
  unfold m_X0_has_5
  rw [ift1, X0_isPoint, hP, bd_some, nift1, gd_of C.isC, a1, bd2_some]
  unfold m_X0_has_28
  rw [b3 (fun a3 h2 => m_X0_has_31 f h2 x (ni k) a b c d a3)]
  unfold m_X0_has_31
  rw [gd_of C3.isC, a1', bd2_some]
  unfold m_X0_has_36
  rw [c2 (fun r3 h2 => m_X0_has_39 f h2 a b c d R.1 r3)]
  unfold m_X0_has_39
  obtain ⟨l1, l2, l3⟩ := toL3 a b c
  rw [l1, l2, l3, toL d, d1, bd2_some]
  unfold m_X0_has_52 m_X0_has_60
  cases r <;> rfl
theorem q_has {f : Nat} (hf : 2 ^ 63 ≤ f) {h : CH} {x : Nat} {u : TS} {LS : LSt} (E : QE h x u LS) (l a b c d : Int32) : QA (m_X0_has f h x l a b c d) (m_X3_has f u l a b c d) h u := by
  obtain ⟨w, kf0, C, T, L⟩ := E
  unfold m_X3_has m_X3_has_20
  rw [X3_isLattice T, bd2_some, X3_isPoint]
  cases h1 : isLI LS l with
  | false =>
    refine QA.mk (l := []) (r := -2) (h' := h) (u' := u) ?_ rfl (Ext.rf w) (by omega) (by omega) Fr.rf (by decide)
    unfold m_X0_has
    rw [gd_of C.isC, X0_isLattice C, bd2_some, h1]; rfl
  | true =>
    rw [ift1, bd_some]
    cases h2 : isPI a b c d with
    | false =>
      refine QA.mk (l := []) (r := -2) (h' := h) (u' := u) ?_ rfl (Ext.rf w) (by omega) (by omega) Fr.rf (by decide)
      unfold m_X0_has m_X0_has_5
      rw [gd_of C.isC, X0_isLattice C, bd2_some, h1, X0_isPoint, h2]; rfl
    | true =>
      obtain ⟨k, M, n, tn, rfl, hk, hl⟩ := isLI_ni T.2.1 h1
      have LO := L k M n tn hl
      obtain ⟨q1, q2⟩ := isPI_ok h2
      obtain ⟨r, h', e1, e2, e3⟩ := C_has (f := f) hf w kf0 C hl LO h2
      obtain ⟨r', u', g1, g2, g3⟩ := X3_latticeHas (f := f) hf T hl LO (fun j hj => Nat.le_trans (q1 j hj) (by decide)) q2
      have er := bool_iff e2 g2
      subst er
      refine QA.mk e1 ?_ e3 (by omega) (by omega) g3 (by decide)
      obtain ⟨l1, l2, l3⟩ := toL3 a b c
      rw [nift1, l1, l2, l3, toL d, g1, bd2_some]
      unfold m_X3_has_46
      cases r <;> rfl
/-! two lattices -/
/-- what two can be asked for, on both sides -/
theorem ask_cases {f : Nat} {h : CH} {x : Nat} {u : TS} {LS : LSt} (E : QE h x u LS) (l m : Int32) : (m_X0_asks f h x l m = some (-2, h) ∧ m_X3_whyNot f u l m = some (-2, u)) ∨ ∃ k1 k2 M1 n1 t1 M2 n2 t2, l = ni k1 ∧ m = ni k2 ∧ k1 < 5 ∧ k2 < 5 ∧ LS[k1]? = some (M1, n1, t1) ∧ LS[k2]? = some (M2, n2, t2) ∧ ((m_X0_asks f h x l m = some (-3, h) ∧ m_X3_whyNot f u l m = some (-3, u)) ∨ (m_X0_asks f h x l m = some (0, h) ∧ m_X3_whyNot f u l m = some (0, u) ∧ ¬ (t1 = true ∧ t2 = true))) := by
  obtain ⟨w, kf0, C, T, L⟩ := E
  have eC : m_X0_asks f h x l m = m_X0_asks_5 f h x l m (if isLI LS l = true then 1 else 0) := by
    unfold m_X0_asks
    rw [gd_of C.isC, X0_isLattice C, bd2_some]
  rw [eC]
  unfold m_X3_whyNot m_X0_asks_5
  rw [X3_isLattice T, bd2_some, X3_isLattice T, bd2_some, gd_of C.isC, X0_isLattice C, bd2_some]
  cases h1 : isLI LS l with
  | false => exact .inl ⟨rfl, rfl⟩
  | true =>
    rw [ift1, ift1]
    unfold m_X0_asks_13
    cases h2 : isLI LS m with
    | false => exact .inl ⟨rfl, rfl⟩
    | true =>
      rw [nift1, nift1]
      obtain ⟨k1, M1, n1, t1, rfl, hk1, hl1⟩ := isLI_ni T.2.1 h1
      obtain ⟨k2, M2, n2, t2, rfl, hk2, hl2⟩ := isLI_ni T.2.1 h2
      refine .inr ⟨k1, k2, M1, n1, t1, M2, n2, t2, rfl, rfl, hk1, hk2, hl1, hl2, ?_⟩
      obtain ⟨a, a1, a2⟩ := X0_at (f := f) C hl1
      obtain ⟨b, b1, b2⟩ := X0_at (f := f) C hl2
      rw [gd_of C.isC, a1, bd2_some, X3_isTurned hk1, bd2_some, X3_isTurned hk2, bd2_some]
      have e1 := (T.2.2 k1 M1 n1 t1 hl1).2
      have e2 := (T.2.2 k2 M2 n2 t2 hl2).2
      unfold m_X0_asks_24
      rw [L_isT a2 (fun r3 h2 => m_X0_asks_27 f h2 x (ni k2) r3)]
      unfold m_X0_asks_27
      rw [gd_of C.isC, b1, bd2_some]
      unfold m_X0_asks_35
      rw [L_isT b2 (fun r3 h2 => m_X0_asks_38 f h2 r3)]
      cases t1 with
      | false =>
        rw [if_pos (show tA u 0 (3 + k1) = -1 from e1.mpr rfl)]
        exact .inr ⟨rfl, rfl, fun h => by cases h.1⟩
      | true =>
        rw [if_neg (show ¬ tA u 0 (3 + k1) = -1 from fun h => by cases e1.mp h)]
        cases t2 with
        | false =>
          rw [if_pos (show tA u 0 (3 + k2) = -1 from e2.mpr rfl)]
          exact .inr ⟨rfl, rfl, fun h => by cases h.2⟩
        | true =>
          rw [if_neg (show ¬ tA u 0 (3 + k2) = -1 from fun h => by cases e2.mp h)]
          exact .inl ⟨rfl, rfl⟩
/-- the meet of two, on both sides -/
theorem meet_CT {f : Nat} (hf : 2 ^ 63 ≤ f) {h : CH} {x : Nat} {u : TS} {LS : LSt} (E : QE h x u LS) {k1 k2 : Nat} {M1 M2 : Mi} {n1 n2 : Int} {t1 t2 : Bool} (hl1 : LS[k1]? = some (M1, n1, t1)) (hl2 : LS[k2]? = some (M2, n2, t2)) (ht : ¬ (t1 = true ∧ t2 = true)) : ∃ P Q b, P = mscl (b.tdiv n1) M1 ∧ Q = mscl (b.tdiv n2) M2 ∧ b = btw n1 n2 ∧ PQ (m3 P) (m3 Q) b ∧ 1 ≤ b ∧ b ≤ 36 ∧ (∃ a h', m_X0_meetOf f h x (ni k1) (ni k2) = some (a, h') ∧ isBt h' a (lsG (mtC P Q) b) (lsO (mtC P Q) b) ∧ Ext 120 320 h h') ∧ ∃ u', m_X3_meets f u (ni k1) (ni k2) = some u' ∧ tR 18 u' (lsG (mtC P Q) b) ∧ tL u' 19 = li (lsO (mtC P Q) b) ∧ Fr mtF u u' := by
  obtain ⟨w, kf0, C, T, L⟩ := E
  have LO1 := L k1 M1 n1 t1 hl1
  have LO2 := L k2 M2 n2 t2 hl2
  have b1 := LO1.n
  have b2 := LO2.n
  obtain ⟨pq, p1, p2⟩ := pairPQ LO1 LO2 ht
  refine ⟨_, _, _, rfl, rfl, rfl, pq, p1, p2, ?_, ?_⟩
  · obtain ⟨m1, _⟩ := pq.mt
    exact X0_meetOf (f := f) (by omega) w kf0.kok C hl1 hl2 (by omega) (by omega) (by omega) (by omega) (by omega) (by omega) rfl rfl m1
  · obtain ⟨_, m2, m3', m4, m5, _, _, _, _, m6, m7⟩ := pq.mt
    have ee := m3_at m4
    have ent := SF_ent m7 m5
    have cm1 : mscl ((btw n1 n2).tdiv n1) M1 = fun i j => M1 i j * (btw n1 n2).tdiv n1 := by funext i j; exact Int.mul_comm _ _
    have cm2 : mscl ((btw n1 n2).tdiv n2) M2 = fun i j => M2 i j * (btw n1 n2).tdiv n2 := by funext i j; exact Int.mul_comm _ _
    have lg := lsd_btg (o := btw n1 n2) ee
    obtain ⟨u', q1, q2, q3, q4⟩ := X3_meets (f := f) hf (T.2.2 k1 M1 n1 t1 hl1).1 (T.2.2 k2 M2 n2 t2 hl2).1 ⟨by omega, by omega⟩ ⟨by omega, by omega⟩ (by omega) (by omega) ⟨by omega, by omega⟩ (by omega) cm1 cm2 m2 m3' (fun i j hi hj => by rw [ee i j hi hj]; have := ent i j hi hj; exact ⟨by omega, by omega⟩) (by rw [lg]; exact btg_nz (by omega))
    refine ⟨u', q1, ?_, ?_, q4⟩
    · rw [lg] at q2
      exact q2.congr (fun i j hi hj => by unfold lsG; rw [ee i j hi hj])
    · rw [lg] at q3; exact q3
theorem join_CT {f : Nat} (hf : 2 ^ 63 ≤ f) {h : CH} {x : Nat} {u : TS} {LS : LSt} (E : QE h x u LS) {k1 k2 : Nat} {M1 M2 : Mi} {n1 n2 : Int} {t1 t2 : Bool} (hl1 : LS[k1]? = some (M1, n1, t1)) (hl2 : LS[k2]? = some (M2, n2, t2)) (ht : ¬ (t1 = true ∧ t2 = true)) : ∃ P Q b, (∃ a h', m_X0_joinOf f h x (ni k1) (ni k2) = some (a, h') ∧ isBt h' a (lsG (jnF' P Q) b) (lsO (jnF' P Q) b) ∧ Ext 80 200 h h') ∧ ∃ u', m_X3_joins f u (ni k1) (ni k2) = some u' ∧ tR 18 u' (lsG (jnF' P Q) b) ∧ tL u' 19 = li (lsO (jnF' P Q) b) ∧ Fr jnF u u' := by
  obtain ⟨w, kf0, C, T, L⟩ := E
  have LO1 := L k1 M1 n1 t1 hl1
  have LO2 := L k2 M2 n2 t2 hl2
  have b1 := LO1.n
  have b2 := LO2.n
  obtain ⟨pq, p1, p2⟩ := pairPQ LO1 LO2 ht
  obtain ⟨j1, j2, j3, _⟩ := pq.jn
  refine ⟨_, _, btw n1 n2, X0_joinOf (f := f) (by omega) w kf0.kok C hl1 hl2 (by omega) (by omega) (by omega) (by omega) (by omega) (by omega) rfl rfl j1, ?_⟩
  obtain ⟨o0, o1, o2, o3, _⟩ := join_ok pq
  have ee := m3_at j3
  have ent := SF_ent (by have := j1.2.1; omega) j2
  have lt := j1.2.2.1
  have cm1 : mscl ((btw n1 n2).tdiv n1) M1 = fun i j => M1 i j * (btw n1 n2).tdiv n1 := by funext i j; exact Int.mul_comm _ _
  have cm2 : mscl ((btw n1 n2).tdiv n2) M2 = fun i j => M2 i j * (btw n1 n2).tdiv n2 := by funext i j; exact Int.mul_comm _ _
  have lg := lsd_btg (o := btw n1 n2) ee
  obtain ⟨u', q1, q2, q3, q4⟩ := X3_joins (f := f) hf (T.2.2 k1 M1 n1 t1 hl1).1 (T.2.2 k2 M2 n2 t2 hl2).1 ⟨by omega, by omega⟩ ⟨by omega, by omega⟩ (by omega) (by omega) ⟨by omega, by omega⟩ (by omega) cm1 cm2 o0 o1 o2 o3 (fun i j hi hj => by rw [ee i j hi hj]; have := ent i j hi hj; exact ⟨by omega, by omega⟩) (by rw [lg]; exact btg_nz (by omega))
  refine ⟨u', q1, ?_, ?_, q4⟩
  · rw [lg] at q2
    exact q2.congr (fun i j hi hj => by unfold lsG; rw [ee i j hi hj]; rfl)
  · rw [lg] at q3; exact q3
