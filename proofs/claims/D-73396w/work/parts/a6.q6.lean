/-! questions about short rows -/
set_option maxRecDepth 100000
theorem rK_ex : ∃ n : Nat, n = 2 ^ 62 := ⟨_, rfl⟩
noncomputable def rK : Nat := Classical.choose rK_ex
theorem rK_eq : rK = 2 ^ 62 := Classical.choose_spec rK_ex
noncomputable def rdN (N : Mi) : Mi := flp (rdg rK N 0).1
noncomputable def rdc (N : Mi) : Nat := (rdg rK N 0).2
theorem RB_of {N : Mi} {X : Nat} (h : ∀ i j, i < 3 → j < 3 → (N i j).natAbs ≤ X) : RB (3 * (X * X : Nat)) N := fun i hi => by
  have k : ∀ j, j < 3 → N i j * N i j ≤ ((X * X : Nat) : Int) := fun j hj => by
    have h1 := Nat.mul_le_mul (h i j hi hj) (h i j hi hj)
    have h2 : ((N i j).natAbs * (N i j).natAbs : Nat) = ((N i j).natAbs * (N i j).natAbs : Nat) := rfl
    have h3 : (((N i j).natAbs * (N i j).natAbs : Nat) : Int) = N i j * N i j := by rw [Int.natCast_mul, Int.natAbs_mul_self']
    omega
  have k0 := k 0 (by decide)
  have k1 := k 1 (by decide)
  have k2 := k 2 (by decide)
  unfold sqr
  omega
/-- rows small enough to be made short -/
def shOk (N : Mi) : Prop := ∃ B : Int, 9 * B < 2 ^ 63 ∧ RB B N ∧ sgm N < rK
theorem shOk_of {N : Mi} (h : ∀ i j, i < 3 → j < 3 → (N i j).natAbs ≤ 170000000) : shOk N := by
  have r := RB_of h
  have e : (3 * ((170000000 * 170000000 : Nat) : Int)) = 86700000000000000 := rfl
  rw [e] at r
  refine ⟨86700000000000000, by decide, r, ?_⟩
  have h0 := r 0 (by decide)
  have h1 := r 1 (by decide)
  have h2 := r 2 (by decide)
  rw [rK_eq]
  unfold sgm; omega
/-- what is known of rows made short -/
theorem rdN_ok {N : Mi} (h : shOk N) : eqL (m3 N) (m3 (rdN N)) ∧ (∃ B : Int, 9 * B < 2 ^ 63 ∧ RB B (rdN N)) ∧ ∀ {a b c : Int}, (a = -1 ∨ a = 0 ∨ a = 1) → (b = -1 ∨ b = 0 ∨ b = 1) → (c = -1 ∨ c = 0 ∨ c = 1) → (sq27 (rdN N) a b c = 0 ∧ a = 0 ∧ b = 0 ∧ c = 0 ∨ sqr (rdN N) 0 ≤ sq27 (rdN N) a b c) := by
  obtain ⟨B, h1, h2, h3⟩ := h
  obtain ⟨q1, q2, q3⟩ := rdg_ok rK N 0 h2 h3
  refine ⟨q2.tr (flp_eqL _), ⟨B, h1, fun i hi => ?_⟩, fun ha hb hc => short_27 q3 ha hb hc⟩
  unfold rdN
  rw [flp_sqr _ hi]; exact q1 i hi
theorem C_new11 {f : Nat} (hf : 2 ^ 63 ≤ f) {h : CH} (w : wfh h) {x : Nat} (cx : cm h x = some (.inl (11, [.null, .int 0]))) {A : RA} {N : Mi} (hA : isN h A N) (hs : shOk N) : ∃ R h', m_X11_init f h x A.1 = some h' ∧ isRd h' x R (rdN N) (rdc N) ∧ Mod (fun q => q = x) 5 13 h h' := by
  obtain ⟨B, h1, h2, h3⟩ := hs
  obtain ⟨R, h', e1, e2, e3, _⟩ := X11_new (f := f) w cx hA (k := rK) (by rw [rK_eq]; omega) h1 h2 h3
  exact ⟨R, h', e1, e2, e3⟩
theorem herm_sh {M : Mi} {n : Int} {tn : Bool} (LO : LatOk M n tn) : shOk (hrun 100 (M, [])).1 := shOk_of (fun i j hi hj => by have := LO.run.2.2.2 i j hi hj; omega)
/-- short rows of a lattice: the component's -/
theorem X0_reducedOf {f : Nat} (hf : 2 ^ 63 ≤ f) {h : CH} {x : Nat} {LS : LSt} (w : wfh h) (kf0 : kf h) (C : CV h x LS) {k : Nat} {M : Mi} {n : Int} {tn : Bool} (hl : LS[k]? = some (M, n, tn)) (LO : LatOk M n tn) : ∃ R h', m_X0_reducedOf f h x (ni k) = some (h.1, h') ∧ isRd h' h.1 R (rdN (hrun 100 (M, [])).1) (rdc (hrun 100 (M, [])).1) ∧ Ext 840 4100 h h' := by
  obtain ⟨r1, _⟩ := LO.run
  unfold m_X0_reducedOf m_X0_reducedOf_3
  simp only [nmv_eq]
  have e1 : Ext 1 2 h (cn h 2 (.inl (11, [.null, .int 0]))) := Mod.cn w
  have C1 := C.ext e1 w kf0.kok
  obtain ⟨a, R, h3, h4, La, R', k40, C2, a1, b3, d1, d2⟩ := herm_C (f := f) (by omega) e1.wf (kf0.mod e1) C1 hl r1
  have dE := d2.ext (run_len r1)
  unfold m_X0_reducedOf_7
  have a1' : m_X0_at f (cn (cn h 2 (.inl (11, [.null, .int 0]))) 2 (.inl (8, [.null, .null]))) x (ni k) = _ := a1
  rw [gd_of C2.isC, a1', bd2_some]
  unfold m_X0_reducedOf_13
  rw [b3 (fun a3 h2 => m_X0_reducedOf_16 f h2 h.1 h.1 (cn h 2 (.inl (11, [.null, .int 0]))).1 (cn h 2 (.inl (11, [.null, .int 0]))).1 a3)]
  unfold m_X0_reducedOf_16
  rw [d1, bd_some]
  unfold m_X0_reducedOf_19
  obtain ⟨⟨_, q1, q2, _⟩, _⟩ := d2
  rw [oR_c (k := 0) (x := R'.1) q1 rfl, bd_some]
  have c4 : cm h4 h.1 = some (.inl (11, [.null, .int 0])) := dE.at e1.wf (cm_cn_s h 2 _) id
  obtain ⟨R2, h5, g1, g2, g3⟩ := C_new11 (f := f) hf dE.wf c4 q2 (herm_sh LO)
  rw [g1, bd_some]
  refine ⟨R2, h5, rfl, g2, ?_⟩
  have e14 : Ext 823 4059 h h4 := (e1.tr dE (fun _ _ => id)).up (by omega) (by omega)
  exact (Ext.trn e14 g3 (fun q hq => by omega)).up (by omega) (by omega)
/-- short rows of a lattice: the twin's -/
theorem X3_laysShort {f : Nat} (hf : 2 ^ 63 ≤ f) {u : TS} {LS : LSt} (T : TV u LS) {k : Nat} {M : Mi} {n : Int} {tn : Bool} (hl : LS[k]? = some (M, n, tn)) (LO : LatOk M n tn) : ∃ u', m_X3_laysShort f u (ni k) = some u' ∧ tR 18 u' (rdN (hrun 100 (M, [])).1) ∧ tI u' 35 = ni (rdc (hrun 100 (M, [])).1) ∧ tL u' 19 = li n ∧ Fr [18, 19, 20, 21, 22, 23, 24, 25, 35, 36, 37] u u' := by
  obtain ⟨r1, r2, r3, _⟩ := LO.run
  obtain ⟨v, v2, t1, t5, t6, t8, t7⟩ := herm_T (f := f) hf T hl r1
  obtain ⟨B, s1, s2, s3⟩ := herm_sh LO
  obtain ⟨Q, pq⟩ := LO.pq
  have nz : dtf (hrun 100 (M, [])).1 ≠ 0 := by rw [← det_m3]; have := H_pos r2; omega
  obtain ⟨u', e1, e2, e3, e4⟩ := X3_shortens (f := f) (k := rK) (by rw [rK_eq]; omega) s1 s2 s3 nz t6.1
  unfold m_X3_laysShort
  rw [t1, bd_some, t5, bd_some, e1, bd_some]
  exact ⟨u', rfl, e2, e3, by rw [(e4 19 (by decide)).2.1]; exact t8, (t7.mono (by decide)).tr (e4.mono (by decide))⟩
theorem q_reduced {f : Nat} (hf : 2 ^ 63 ≤ f) {h : CH} {x : Nat} {u : TS} {LS : LSt} (E : QE h x u LS) (l i j : Int32) : QA (m_X0_reduced f h x l i j) (m_X3_reduced f u l i j) h u := by
  obtain ⟨w, kf0, C, T, L⟩ := E
  unfold m_X0_reduced m_X3_reduced m_X0_reduced_7 m_X0_reduced_31 m_X3_reduced_16
  rw [gd_of C.isC, X0_isAt C, bd2_some, X3_isLattice T, bd2_some, X3_isAt2]
  cases h1 : isLI LS l with
  | false =>
    have e : isAI LS l i j = false := by unfold isAI; rw [h1]; rfl
    rw [e]
    exact QA.mk (l := []) rfl rfl (Ext.rf w) (by omega) (by omega) Fr.rf (by decide)
  | true =>
    have e : isAI LS l i j = (inI i.toInt 0 2 && inI j.toInt 0 2) := by unfold isAI; rw [h1]; rfl
    rw [e]
    cases h2 : (inI i.toInt 0 2 && inI j.toInt 0 2) with
    | false => exact QA.mk (l := []) rfl rfl (Ext.rf w) (by omega) (by omega) Fr.rf (by decide)
    | true =>
      obtain ⟨k, M, n, tn, rfl, hk, hl⟩ := isLI_ni T.2.1 h1
      obtain ⟨s1, s2⟩ := Bool.and_eq_true_iff.mp h2
      obtain ⟨i, rfl, hi⟩ := side_ni s1
      obtain ⟨j, rfl, hj⟩ := side_ni s2
      have LO := L k M n tn hl
      obtain ⟨R, h', a1, a2, a3⟩ := X0_reducedOf (f := f) hf w kf0 C hl LO
      obtain ⟨u', b1, b2, b3, b4, b5⟩ := X3_laysShort (f := f) hf T hl LO
      refine QA.mk (r := Int64.toInt32 (li (rdN (hrun 100 (M, [])).1 i j))) (h' := h') (u' := u') ?_ ?_ a3 (by omega) (by omega) b5 (by decide)
      · rw [ift1, gd_of C.isC, a1, bd2_some]
        unfold m_X0_reduced_15
        rw [oR_c (k := 0) (x := R.1) a2.1 rfl, bd_some, oR_R a2.2, bd_some, aR_R a2.2 hi, bd_some, aL_R a2.2 hi hj, bd_some]
        rfl
      · rw [ift1, bd_some, nift1, b1, bd_some, gd_of (i3x hi hj), i3c hi hj, b2 i j hi hj]
theorem q_bettered {f : Nat} (hf : 2 ^ 63 ≤ f) {h : CH} {x : Nat} {u : TS} {LS : LSt} (E : QE h x u LS) (l : Int32) : QA (m_X0_bettered f h x l) (m_X3_bettered f u l) h u := by
  obtain ⟨w, kf0, C, T, L⟩ := E
  unfold m_X0_bettered m_X3_bettered m_X0_bettered_5 m_X0_bettered_21
  rw [gd_of C.isC, X0_isLattice C, bd2_some, X3_isLattice T, bd2_some]
  cases h1 : isLI LS l with
  | false => exact QA.mk (l := []) rfl rfl (Ext.rf w) (by omega) (by omega) Fr.rf (by decide)
  | true =>
    obtain ⟨k, M, n, tn, rfl, hk, hl⟩ := isLI_ni T.2.1 h1
    have LO := L k M n tn hl
    obtain ⟨R, h', a1, a2, a3⟩ := X0_reducedOf (f := f) hf w kf0 C hl LO
    obtain ⟨u', b1, b2, b3, b4, b5⟩ := X3_laysShort (f := f) hf T hl LO
    refine QA.mk (r := ni (rdc (hrun 100 (M, [])).1)) (h' := h') (u' := u') ?_ ?_ a3 (by omega) (by omega) b5 (by decide)
    · rw [ift1, gd_of C.isC, a1, bd2_some]
      unfold m_X0_bettered_13
      rw [oI_c (k := 1) (x := ni (rdc (hrun 100 (M, [])).1)) a2.1 rfl, bd_some]
      rfl
    · rw [nift1, b1, bd_some, b3]
theorem n2_le {n : Int} (h : 1 ≤ n ∧ n ≤ 36) : 1 ≤ n * n ∧ n * n ≤ 1296 := by
  have a1 : n * n ≤ 36 * 36 := Int.mul_le_mul h.2 h.2 (by omega) (by decide)
  have a0 : 0 < n * n := Int.mul_pos (by omega) (by omega)
  omega
theorem q_length {f : Nat} (hf : 2 ^ 63 ≤ f) {h : CH} {x : Nat} {u : TS} {LS : LSt} (E : QE h x u LS) (l i j : Int32) : QA (m_X0_length f h x l i j) (m_X3_length f u l i j) h u := by
  obtain ⟨w, kf0, C, T, L⟩ := E
  unfold m_X0_length m_X3_length m_X0_length_5 m_X0_length_22 m_X3_length_30
  rw [gd_of C.isC, X0_isLattice C, bd2_some, X3_isLattice T, bd2_some, X0_isSide, X0_isPart, in3_li i (a := 2) (hi := 2) rfl (rg_sm (by omega) (by omega)), in3_li j (a := 1) (hi := 1) rfl rg_1]
  cases h1 : isLI LS l with
  | false => exact QA.mk (l := []) rfl rfl (Ext.rf w) (by omega) (by omega) Fr.rf (by decide)
  | true =>
    cases h2 : inI i.toInt 0 2 with
    | false => exact QA.mk (l := []) rfl rfl (Ext.rf w) (by omega) (by omega) Fr.rf (by decide)
    | true =>
      cases h3 : inI j.toInt 0 1 with
      | false => exact QA.mk (l := []) rfl rfl (Ext.rf w) (by omega) (by omega) Fr.rf (by decide)
      | true =>
        obtain ⟨k, M, n, tn, rfl, hk, hl⟩ := isLI_ni T.2.1 h1
        obtain ⟨i, rfl, hi⟩ := side_ni h2
        obtain ⟨j, rfl, hj⟩ := part_ni h3
        have LO := L k M n tn hl
        have n2 := n2_le LO.n
        obtain ⟨a, p1, p2⟩ := X0_at (f := f) C hl
        obtain ⟨h3', q1, q2⟩ := L_over (f := f) (by omega) w p2
        obtain ⟨R, h', a1, a2, a3⟩ := X0_reducedOf (f := f) hf q1.wf (kf0.mod q1) (C.ext q1 w kf0.kok) hl LO
        obtain ⟨u', b1, b2, b3, b4, b5⟩ := X3_laysShort (f := f) hf T hl LO
        obtain ⟨_, ⟨B, s1, s2⟩, _⟩ := rdN_ok (herm_sh LO)
        have z1 := s2 i hi
        have z2 := sqr_nn (rdN (hrun 100 (M, [])).1) i
        have rs : rg (sqr (rdN (hrun 100 (M, [])).1) i) := ⟨by omega, by omega⟩
        have r2 : rg (n * n) := ⟨by omega, by omega⟩
        have hz : Int.gcd (sqr (rdN (hrun 100 (M, [])).1) i) (n * n) ≠ 0 := fun e => by have := (Int.gcd_eq_zero_iff.mp e).2; omega
        refine QA.mk (r := li ((if j = 0 then sqr (rdN (hrun 100 (M, [])).1) i else n * n).tdiv (Int.gcd (sqr (rdN (hrun 100 (M, [])).1) i) (n * n)))) (h' := h') (u' := u') ?_ ?_ (q1.tr a3 (fun _ _ => id)) (by omega) (by omega) b5 (by decide)
        · rw [ift1, bd_some, ift1, bd_some, nift1, gd_of C.isC, p1, bd2_some]
          unfold m_X0_length_31
          rw [q2 (fun r3 h2 => m_X0_length_34 f h2 x (ni k) (ni i) (ni j) r3)]
          unfold m_X0_length_34
          rw [gd_of (C.ext q1 w kf0.kok).isC, a1, bd2_some]
          unfold m_X0_length_41
          rw [oR_c (k := 0) (x := R.1) a2.1 rfl, bd_some, gd_of (isC_R a2.2), X2_square a2.2 hi, bd2_some]
          unfold m_X0_length_48
          rw [li_mul, X0_partr rs r2 hz hj, bd_some]
        · rw [ift1, bd_some, ift1, bd_some, nift1, b1, bd_some, X3_lengthOf b2 hi, bd2_some, b4, li_mul, X3_part (f := f) hf rs r2 hz hj, bd_some]
/-! sums of three rows -/
def k27 (c : Nat) : Int × Int × Int := ((c / 9 : Nat) - 1, (c / 3 % 3 : Nat) - 1, (c % 3 : Nat) - 1)
def sc (N : Mi) (c : Nat) : Int := sq27 N (k27 c).1 (k27 c).2.1 (k27 c).2.2
theorem cd27 : ∀ c, c < 27 → ((ni c / 9) - 1).toInt = (k27 c).1 ∧ (rmI (ni c / 3) 3 - 1).toInt = (k27 c).2.1 ∧ (rmI (ni c) 3 - 1).toInt = (k27 c).2.2 := by decide
theorem k27_r {c : Nat} (hc : c < 27) : ((k27 c).1 = -1 ∨ (k27 c).1 = 0 ∨ (k27 c).1 = 1) ∧ ((k27 c).2.1 = -1 ∨ (k27 c).2.1 = 0 ∨ (k27 c).2.1 = 1) ∧ ((k27 c).2.2 = -1 ∨ (k27 c).2.2 = 0 ∨ (k27 c).2.2 = 1) := by
  unfold k27; dsimp only; omega
def p27 (N : Mi) (a b c : Int) : Nat → Int
  | 0 => 0
  | j + 1 => p27 N a b c j + (a * N 0 j + b * N 1 j + c * N 2 j) * (a * N 0 j + b * N 1 j + c * N 2 j)
theorem X3_sumLength {f : Nat} (hf : 4 ≤ f) {u : TS} {N : Mi} (hR : tR 18 u N) {c : Nat} (hc : c < 27) : m_X3_sumLength f u (ni c) = some (li (sc N c), u) := by
  obtain ⟨e1, e2, e3⟩ := cd27 c hc
  unfold m_X3_sumLength
  obtain ⟨v2, p2, q2⟩ := loop3v (fun n v x => m_X3_sumLength_5 f n u (ni c) v x) (fun v => some (v, u)) (fun j v => v = li (p27 N (k27 c).1 (k27 c).2.1 (k27 c).2.2 j))
    (fun n v _ => by rw [m_X3_sumLength_5, if_pos le33]; rfl)
    (fun n v j hj p => by
      refine ⟨_, ?_, rfl⟩
      have r0 := hR 0 j (by decide) hj
      rw [Nat.mul_zero, Nat.zero_add] at r0
      rw [m_X3_sumLength_5, if_neg (le3 hj), show (3 : Int32) + ni j = ni (3 * 1 + j) from aN_ni 3 j, show (6 : Int32) + ni j = ni (3 * 2 + j) from aN_ni 6 j, gd_of (ix_ni (show j < 9 by omega) (by decide)), gd_of (ix_ni (by omega) (by decide)), gd_of (ix_ni (by omega) (by decide))]
      simp only [nmv_eq]
      rw [ni_clamp (show j < 2 ^ 31 by omega), ni_clamp (show 3 * 1 + j < 2 ^ 31 by omega), ni_clamp (show 3 * 2 + j < 2 ^ 31 by omega), r0, hR 1 j (by decide) hj, hR 2 j (by decide) hj, toL, toL, toL, e1, e2, e3, li_mul, li_mul, li_mul, li_add, li_add, li_mul, p, li_add, ni_succ]
      rfl)
    hf (v := 0) rfl
  have e4 : m_X3_sumLength_5 f f u (ni c) 0 0 = _ := q2
  rw [e4, p2]
  rfl
/-- rows, of which no sum but nothing is shorter than the first; in range -/
def shr (N : Mi) : Prop := 0 < sqr N 0 ∧ (∀ c, c < 27 → sc N c = 0 ∨ sqr N 0 ≤ sc N c) ∧ ∀ c, c < 27 → 0 ≤ sc N c ∧ rg (sc N c)
theorem sq27_le {B : Int} {N : Mi} (h : RB B N) {a b c : Int} (ha : a = -1 ∨ a = 0 ∨ a = 1) (hb : b = -1 ∨ b = 0 ∨ b = 1) (hc : c = -1 ∨ c = 0 ∨ c = 1) : 0 ≤ sq27 N a b c ∧ sq27 N a b c ≤ 9 * B := by
  have r0 := h 0 (by decide)
  have r1 := h 1 (by decide)
  have r2 := h 2 (by decide)
  unfold sqr at r0 r1 r2
  have k : ∀ j, (a * N 0 j + b * N 1 j + c * N 2 j) * (a * N 0 j + b * N 1 j + c * N 2 j) ≤ 3 * (N 0 j * N 0 j) + 3 * (N 1 j * N 1 j) + 3 * (N 2 j * N 2 j) := fun j => by
    have h1 := sum3 (a * N 0 j) (b * N 1 j) (c * N 2 j)
    have h2 := one_sq ha (N 0 j)
    have h3 := one_sq hb (N 1 j)
    have h4 := one_sq hc (N 2 j)
    omega
  have k0 := k 0
  have k1 := k 1
  have k2 := k 2
  have n0 := sq_nonneg (a * N 0 0 + b * N 1 0 + c * N 2 0)
  have n1 := sq_nonneg (a * N 0 1 + b * N 1 1 + c * N 2 1)
  have n2 := sq_nonneg (a * N 0 2 + b * N 1 2 + c * N 2 2)
  unfold sq27
  omega
theorem rdN_shr {N : Mi} (h : shOk N) (hz : dtf N ≠ 0) : shr (rdN N) := by
  obtain ⟨q1, ⟨B, q2, q3⟩, q4⟩ := rdN_ok h
  have nz : dtf (rdN N) ≠ 0 := fun e => hz (by have := dtf_eqL q1; rw [e] at this; simpa using this)
  have rz := row_nz nz (show 0 < 3 by decide)
  refine ⟨?_, fun c hc => ?_, fun c hc => ?_⟩
  · have n0 := sq_nonneg (rdN N 0 0)
    have n1 := sq_nonneg (rdN N 0 1)
    have n2 := sq_nonneg (rdN N 0 2)
    have s := sqr_nn (rdN N) 0
    rcases Int.lt_or_le 0 (sqr (rdN N) 0) with h | h
    · exact h
    · exfalso
      unfold sqr at h s
      refine rz ⟨?_, ?_, ?_⟩
      · have : rdN N 0 0 * rdN N 0 0 = 0 := by omega
        rcases Int.mul_eq_zero.mp this with h | h <;> exact h
      · have : rdN N 0 1 * rdN N 0 1 = 0 := by omega
        rcases Int.mul_eq_zero.mp this with h | h <;> exact h
      · have : rdN N 0 2 * rdN N 0 2 = 0 := by omega
        rcases Int.mul_eq_zero.mp this with h | h <;> exact h
  · obtain ⟨r1, r2, r3⟩ := k27_r hc
    rcases q4 r1 r2 r3 with h | h
    · exact .inl h.1
    · exact .inr h
  · obtain ⟨r1, r2, r3⟩ := k27_r hc
    have := sq27_le q3 r1 r2 r3
    exact ⟨this.1, by unfold sc; exact ⟨by omega, by omega⟩⟩
theorem X3_leastLength {f : Nat} (hf : 30 ≤ f) {u : TS} {N : Mi} (hR : tR 18 u N) (hs : shr N) : m_X3_leastLength f u = some (li (sqr N 0), u) := by
  obtain ⟨s1, s2, s3⟩ := hs
  have e22 : sc N 22 = sqr N 0 := by
    show sq27 N 1 0 0 = sqr N 0
    unfold sq27 sqr; grind
  have g22 := (s3 22 (by decide)).2
  rw [e22] at g22
  unfold m_X3_leastLength
  obtain ⟨v2, p2, q2⟩ := loopn (fun n v x => m_X3_leastLength_4 f n u v x) (fun v => some (v, u)) (fun k v => ∃ lk : Int, v = li lk ∧ rg lk ∧ (lk = 0 ∨ sqr N 0 ≤ lk) ∧ ∀ c, c < k → 0 < sc N c → lk ≠ 0 ∧ lk ≤ sc N c) 27
    (fun n v _ => by rw [m_X3_leastLength_4, if_pos (show (27 : Int32) ≤ ni 27 from lekk 27)]; rfl)
    (fun n v c hc p => by
      obtain ⟨lk, rfl, g, k1, k2⟩ := p
      obtain ⟨n0, gc⟩ := s3 c hc
      have sC := s2 c hc
      rw [m_X3_leastLength_4, if_neg (show ¬ (27 : Int32) ≤ ni c from lek (by decide) hc), X3_sumLength (by omega) hR hc, bd2_some]
      unfold m_X3_leastLength_42 m_X3_leastLength_37 m_X3_leastLength_43
      simp only [nmv_eq, ni_succ]
      rw [li_0]
      by_cases h0 : sc N c ≤ 0
      · rw [if_pos ((li_le gc rg_0).mpr h0)]
        refine ⟨li lk, rfl, lk, rfl, g, k1, fun c' hc' hp => ?_⟩
        by_cases e : c' = c
        · subst e; omega
        · exact k2 c' (by omega) hp
      · rw [if_neg (fun e => h0 ((li_le gc rg_0).mp e))]
        have big : sqr N 0 ≤ sc N c := by rcases sC with h | h; omega; exact h
        by_cases h1 : lk = 0
        · rw [if_pos (show li lk = li 0 by rw [h1])]
          refine ⟨li (sc N c), rfl, sc N c, rfl, gc, .inr big, fun c' hc' hp => ?_⟩
          by_cases e : c' = c
          · subst e; omega
          · have := k2 c' (by omega) hp; omega
        · rw [if_neg (fun e => h1 ((li_inj g rg_0).mp e))]
          by_cases h2 : lk ≤ sc N c
          · rw [if_pos ((li_le g gc).mpr h2)]
            refine ⟨li lk, rfl, lk, rfl, g, k1, fun c' hc' hp => ?_⟩
            by_cases e : c' = c
            · subst e; exact ⟨h1, h2⟩
            · exact k2 c' (by omega) hp
          · rw [if_neg (fun e => h2 ((li_le g gc).mp e))]
            refine ⟨li (sc N c), rfl, sc N c, rfl, gc, .inr big, fun c' hc' hp => ?_⟩
            by_cases e : c' = c
            · subst e; omega
            · have := k2 c' (by omega) hp; omega)
    27 f 0 0 rfl (by omega) ⟨0, rfl, rg_0, .inl rfl, fun c hc => by omega⟩
  have e4 : m_X3_leastLength_4 f f u 0 0 = _ := q2
  obtain ⟨lk, rfl, g, k1, k2⟩ := p2
  rw [e4]
  have h22 := k2 22 (by decide) (by omega)
  have : lk = sqr N 0 := by omega
  rw [this]
