set_option maxRecDepth 100000
/-! duals; how many of the one's points are left -/
theorem dul_ok {m : Int} {F : Mi} (hm : 0 < m) (hM : m ≤ 2 ^ 30) (h : SF m F) : dulOk m F ∧ mmul (m3 (dul m F)) (m3 F) = smM m idM ∧ ∀ i j, i < 3 → j < 3 → rg (dul m F i j) := by
  obtain ⟨g0, g1, g2⟩ := SF_dg h
  obtain ⟨⟨a, b, c, d, e, f, ⟨q0, q1⟩, ⟨r0, r1⟩, ⟨t0, t1⟩⟩, hmm⟩ := h
  have a' : F 1 0 = 0 := a
  have b' : F 2 0 = 0 := b
  have c' : F 2 1 = 0 := c
  have d' : 0 < F 0 0 := d
  have e' : 0 < F 1 1 := e
  have f' : 0 < F 2 2 := f
  have q0' : 0 ≤ F 0 1 := q0
  have q1' : F 0 1 < F 1 1 := q1
  have r0' : 0 ≤ F 0 2 := r0
  have r1' : F 0 2 < F 2 2 := r1
  have t0' : 0 ≤ F 1 2 := t0
  have t1' : F 1 2 < F 2 2 := t1
  have l0 := Int.le_of_dvd hm g0
  have l1 := Int.le_of_dvd hm g1
  have l2 := Int.le_of_dvd hm g2
  obtain ⟨x0, y0, z0, h0⟩ := hmm 0 (by decide)
  obtain ⟨x1, y1, z1, h1⟩ := hmm 1 (by decide)
  simp [ev, lc, m3, a', b', c'] at h0 h1
  have k1 : x1 = 0 := zm h1.1 d'
  subst k1
  simp at h1
  have u00 : du00 m F = x0 := by unfold du00; rw [h0.1]; exact Int.mul_tdiv_cancel _ (by omega)
  have u11 : du11 m F = y1 := by unfold du11; rw [h1.1]; exact Int.mul_tdiv_cancel _ (by omega)
  have u22 : du22 m F * F 2 2 = m := Int.tdiv_mul_cancel g2
  have u01 : du01 m F = y0 := by
    unfold du01
    rw [u00, show -(0 + x0 * F 0 1) = y0 * F 1 1 by omega]
    exact Int.mul_tdiv_cancel _ (by omega)
  have u02 : du02 m F = z0 := by
    unfold du02
    rw [u00, u01, show -(0 + x0 * F 0 2 + y0 * F 1 2) = z0 * F 2 2 by omega]
    exact Int.mul_tdiv_cancel _ (by omega)
  have u12 : du12 m F = z1 := by
    unfold du12
    rw [u11, show -(0 + y1 * F 1 2) = z1 * F 2 2 by omega]
    exact Int.mul_tdiv_cancel _ (by omega)
  have px : 0 < x0 := by
    rcases Int.lt_or_le 0 x0 with h | h
    · exact h
    · have := Int.mul_nonpos_of_nonpos_of_nonneg h (show 0 ≤ F 0 0 by omega); omega
  have py : 0 < y1 := by
    rcases Int.lt_or_le 0 y1 with h | h
    · exact h
    · have := Int.mul_nonpos_of_nonpos_of_nonneg h (show 0 ≤ F 1 1 by omega); omega
  have lx : x0 ≤ m := by rw [h0.1]; have := Int.mul_le_mul_of_nonneg_left (show 1 ≤ F 0 0 by omega) (show 0 ≤ x0 by omega); omega
  have ly : y1 ≤ m := by rw [h1.1]; have := Int.mul_le_mul_of_nonneg_left (show 1 ≤ F 1 1 by omega) (show 0 ≤ y1 by omega); omega
  -- y0 is no greater than x0
  have ny : y0 ≤ 0 := by
    rcases Int.lt_or_le 0 y0 with h | h
    · have p1 := Int.mul_nonneg (show 0 ≤ x0 by omega) q0'
      have p2 := Int.mul_pos h e'
      omega
    · exact h
  have ny2 : -x0 ≤ y0 := by
    rcases Int.lt_or_le y0 (-x0) with h | h
    · have p1 := Int.mul_le_mul_of_nonneg_left (show F 0 1 ≤ F 1 1 by omega) (show 0 ≤ x0 by omega)
      have p2 := Int.mul_lt_mul_of_pos_right h e'
      rw [Int.neg_mul] at p2
      omega
    · exact h
  have b02 := Int.mul_le_mul lx (show F 0 2 ≤ m by omega) r0' (by omega)
  have b02' := Int.mul_nonneg (show 0 ≤ x0 by omega) r0'
  have b12 := Int.mul_le_mul (show -y0 ≤ m by omega) (show F 1 2 ≤ m by omega) t0' (by omega)
  have b12' := Int.mul_nonneg (show 0 ≤ -y0 by omega) t0'
  rw [Int.neg_mul] at b12 b12'
  have b01 := Int.mul_le_mul lx (show F 0 1 ≤ m by omega) q0' (by omega)
  have b01' := Int.mul_nonneg (show 0 ≤ x0 by omega) q0'
  have c12 := Int.mul_le_mul ly (show F 1 2 ≤ m by omega) t0' (by omega)
  have c12' := Int.mul_nonneg (show 0 ≤ y1 by omega) t0'
  have mm : m * m ≤ 2 ^ 30 * 2 ^ 30 := Int.mul_le_mul hM hM (by omega) (by decide)
  have z0b : z0.natAbs ≤ (z0 * F 2 2).natAbs := by rw [Int.natAbs_mul]; exact Nat.le_mul_of_pos_right _ (by omega)
  have z1b : z1.natAbs ≤ (z1 * F 2 2).natAbs := by rw [Int.natAbs_mul]; exact Nat.le_mul_of_pos_right _ (by omega)
  have u22b : (du22 m F).natAbs ≤ m.natAbs := by unfold du22; exact Int.natAbs_tdiv_le_natAbs _ _
  refine ⟨⟨⟨by omega, by omega⟩, fun i hi => ?_, ?_, ?_, ?_⟩, ?_, fun i j hi hj => ?_⟩
  · rcases c3 hi with rfl | rfl | rfl
    · exact ⟨⟨by omega, by omega⟩, by omega⟩
    · exact ⟨⟨by omega, by omega⟩, by omega⟩
    · exact ⟨⟨by omega, by omega⟩, by omega⟩
  · rw [u00]; exact ⟨by omega, by omega⟩
  · rw [u00, u01]; exact ⟨by omega, by omega⟩
  · rw [u11]; exact ⟨by omega, by omega⟩
  · simp [m3, dul, mmul, lc, smM, vsm, idM, a', b', c', u00, u01, u02, u11, u12]
    refine ⟨⟨h0.1.symm, ?_, ?_⟩, ⟨h1.1.symm, ?_⟩, u22⟩ <;> omega
  · have r0 : rg 0 := rg_0
    rcases c3 hi with rfl | rfl | rfl <;> rcases c3 hj with rfl | rfl | rfl
    · show rg (du00 m F); rw [u00]; exact ⟨by omega, by omega⟩
    · show rg (du01 m F); rw [u01]; exact ⟨by omega, by omega⟩
    · show rg (du02 m F); rw [u02]; exact rg_nat.mpr (by omega)
    · exact r0
    · show rg (du11 m F); rw [u11]; exact ⟨by omega, by omega⟩
    · show rg (du12 m F); rw [u12]; exact rg_nat.mpr (by omega)
    · exact r0
    · exact r0
    · show rg (du22 m F); exact rg_nat.mpr (by omega)
/-- all three are multiples -/
def dv3 (m : Int) (v : V3) : Prop := m ∣ v.1 ∧ m ∣ v.2.1 ∧ m ∣ v.2.2
theorem dv3_iff {m : Int} {v : V3} : dv3 m v ↔ ∃ u, v = vsm m u := by
  constructor
  · rintro ⟨⟨a, ha⟩, ⟨b, hb⟩, ⟨c, hc⟩⟩
    obtain ⟨v1, v2, v3⟩ := v
    exact ⟨(a, b, c), by simp only [vsm, Prod.mk.injEq]; exact ⟨ha, hb, hc⟩⟩
  · rintro ⟨u, rfl⟩; exact ⟨⟨_, rfl⟩, ⟨_, rfl⟩, ⟨_, rfl⟩⟩
theorem dv3_add {m : Int} {u v : V3} (h : dv3 m u) (h' : dv3 m v) : dv3 m (vad u v) := ⟨Int.dvd_add h.1 h'.1, Int.dvd_add h.2.1 h'.2.1, Int.dvd_add h.2.2 h'.2.2⟩
/-- sums of the first one's rows that are of the other one -/
theorem in_other {P Q : M3} (hQ : det Q ≠ 0) (x : V3) : inL Q (vm x P) ↔ dv3 (det Q) (vm x (mmul P (adjM Q))) := by
  rw [dv3_iff]
  constructor
  · intro h
    obtain ⟨y, hy⟩ := in_vm h
    refine ⟨y, ?_⟩
    rw [← vm_mmul, hy, vm_mmul, mmul_adj, vm_sm, vm_id]
  · rintro ⟨u, hu⟩
    have h1 : vsm (det Q) (vm x P) = vsm (det Q) (vm u Q) := by
      have := congrArg (fun z => vm z Q) hu
      simp only [vm_mmul, mmul_as, adj_mmul, mmul_sm2, mmul_id, vm_sm, vm_vsm] at this
      exact this
    rw [vsm_inj hQ h1]; exact vm_in u Q
def dot (u v : V3) : Int := u.1 * v.1 + u.2.1 * v.2.1 + u.2.2 * v.2.2
theorem dot_lc (a b c : Int) (M : M3) (x : V3) : dot (lc a b c M) x = a * dot M.1 x + b * dot M.2.1 x + c * dot M.2.2 x := by
  simp only [dot, lc]; grind
theorem dot_vad (u v x : V3) : dot (vad u v) x = dot u x + dot v x := by simp only [dot, vad]; grind
/-- x by rows, as the columns say it -/
theorem vm_dot (x : V3) (A : M3) : vm x A = (dot (trM A).1 x, dot (trM A).2.1 x, dot (trM A).2.2 x) := by
  simp only [vm, lc, dot, trM, Prod.mk.injEq]
  refine ⟨?_, ?_, ?_⟩ <;> grind
theorem dv_lc {m : Int} {M : M3} {x : V3} (h : m ∣ dot M.1 x ∧ m ∣ dot M.2.1 x ∧ m ∣ dot M.2.2 x) {w : V3} (hw : inL M w) : m ∣ dot w x := by
  obtain ⟨a, b, c, rfl⟩ := hw
  rw [dot_lc]
  exact Int.dvd_add (Int.dvd_add (Int.dvd_trans h.1 (Int.dvd_mul_left _ _)) (Int.dvd_trans h.2.1 (Int.dvd_mul_left _ _))) (Int.dvd_trans h.2.2 (Int.dvd_mul_left _ _))
theorem dot_ev (m : Int) {j : Nat} (hj : j < 3) (x : V3) : m ∣ dot (ev m j) x := by
  rcases c3 hj with rfl | rfl | rfl
  · exact ⟨x.1, by simp [dot, ev]⟩
  · exact ⟨x.2.1, by simp [dot, ev]⟩
  · exact ⟨x.2.2, by simp [dot, ev]⟩
/-- the columns' form F, its dual K: what K's columns make is what N leaves no rest of -/
theorem dual_in {m : Int} {F K : M3} {N : M3} (hF : det F ≠ 0) (hm : m ≠ 0) (hK : mmul K F = smM m idM) (hL : ∀ w, inL F w ↔ inY (m3 (dgm m)) (trM N) w) (x : V3) : inL (trM K) x ↔ dv3 m (vm x N) := by
  have hFK := inv_lr hK hF
  have fx : ∀ y, dot F.1 y = (vm y (trM F)).1 ∧ dot F.2.1 y = (vm y (trM F)).2.1 ∧ dot F.2.2 y = (vm y (trM F)).2.2 := fun y => by rw [vm_dot]; exact ⟨rfl, rfl, rfl⟩
  have s1 : dv3 m (vm x N) ↔ dv3 m (vm x (trM F)) := by
    rw [vm_dot x N, vm_dot x (trM F), tr_tr]
    constructor
    · intro h
      have all : ∀ w, inL F w → m ∣ dot w x := fun w hw => by
        obtain ⟨u, v, ⟨a, b, c, hu⟩, hv, rfl⟩ := (hL w).mp hw
        rw [dot_vad]
        refine Int.dvd_add ?_ (dv_lc h hv)
        rw [hu, dot_lc]
        have e0 := dot_ev m (show 0 < 3 by decide) x
        have e1 := dot_ev m (show 1 < 3 by decide) x
        have e2 := dot_ev m (show 2 < 3 by decide) x
        exact Int.dvd_add (Int.dvd_add (Int.dvd_trans e0 (Int.dvd_mul_left _ _)) (Int.dvd_trans e1 (Int.dvd_mul_left _ _))) (Int.dvd_trans e2 (Int.dvd_mul_left _ _))
      exact ⟨all _ (inL_0 F), all _ (inL_1 F), all _ (inL_2 F)⟩
    · intro h
      exact ⟨dv_lc h ((hL _).mpr (inY_r (inL_0 (trM N)))), dv_lc h ((hL _).mpr (inY_r (inL_1 (trM N)))), dv_lc h ((hL _).mpr (inY_r (inL_2 (trM N))))⟩
  rw [s1, dv3_iff]
  have hKF : mmul (trM F) (trM K) = smM m idM := by rw [← tr_mmul, hK]; rfl
  have hFK' : mmul (trM K) (trM F) = smM m idM := by rw [← tr_mmul, hFK]; rfl
  constructor
  · intro h
    obtain ⟨y, rfl⟩ := in_vm h
    refine ⟨y, ?_⟩
    rw [vm_mmul, hFK', vm_sm, vm_id]
  · rintro ⟨u, hu⟩
    have h1 : vsm m x = vsm m (vm u (trM K)) := by
      have := congrArg (fun z => vm z (trM K)) hu
      simp only [vm_mmul, hKF, vm_sm, vm_id, vm_vsm] at this
      exact this
    rw [vsm_inj hm h1]; exact vm_in u _
/-! the divisor of all determinants of N's rows and multiples of m -/
def dvA (d m : Int) (N : M3) : Prop := d ∣ det N ∧ (∀ v, v = (adjM N).1 ∨ v = (adjM N).2.1 ∨ v = (adjM N).2.2 → dv3 d (vsm m v)) ∧ (∀ v, v = N.1 ∨ v = N.2.1 ∨ v = N.2.2 → dv3 d (vsm (m * m) v)) ∧ d ∣ m * m * m
theorem det3_dvd {F : M3} {u v w : V3} (hu : inL F u) (hv : inL F v) (hw : inL F w) : det F ∣ dt u v w := det_dvd (A := (u, v, w)) (fun z hz => inL_lc (N := (u, v, w)) hu hv hw hz)
theorem dvA_det {m : Int} {F N : M3} (hL : ∀ w, inL F w ↔ inY (m3 (dgm m)) N w) : dvA (det F) m N := by
  have n0 := (hL _).mpr (inY_r (A := m3 (dgm m)) (inL_0 N))
  have n1 := (hL _).mpr (inY_r (A := m3 (dgm m)) (inL_1 N))
  have n2 := (hL _).mpr (inY_r (A := m3 (dgm m)) (inL_2 N))
  have e0 : inL F (m, 0, 0) := (hL _).mpr (inY_l (B := N) (inL_0 (m3 (dgm m))))
  have e1 : inL F (0, m, 0) := (hL _).mpr (inY_l (B := N) (inL_1 (m3 (dgm m))))
  have e2 : inL F (0, 0, m) := (hL _).mpr (inY_l (B := N) (inL_2 (m3 (dgm m))))
  have go : ∀ {u v w : V3} {k : Int}, inL F u → inL F v → inL F w → dt u v w = k → det F ∣ k := fun hu hv hw e => by rw [← e]; exact det3_dvd hu hv hw
  refine ⟨go n0 n1 n2 rfl, ?_, ?_, go e0 e1 e2 (by simp [dt]; grind)⟩
  · rintro v (rfl | rfl | rfl)
    · exact ⟨go n1 n2 e0 (by simp only [dt, vsm, adjM]; grind), go n2 n0 e0 (by simp only [dt, vsm, adjM]; grind), go n0 n1 e0 (by simp only [dt, vsm, adjM]; grind)⟩
    · exact ⟨go n1 n2 e1 (by simp only [dt, vsm, adjM]; grind), go n2 n0 e1 (by simp only [dt, vsm, adjM]; grind), go n0 n1 e1 (by simp only [dt, vsm, adjM]; grind)⟩
    · exact ⟨go n1 n2 e2 (by simp only [dt, vsm, adjM]; grind), go n2 n0 e2 (by simp only [dt, vsm, adjM]; grind), go n0 n1 e2 (by simp only [dt, vsm, adjM]; grind)⟩
  · rintro v (rfl | rfl | rfl)
    · exact ⟨go n0 e1 e2 (by simp only [dt, vsm]; grind), go n0 e2 e0 (by simp only [dt, vsm]; grind), go n0 e0 e1 (by simp only [dt, vsm]; grind)⟩
    · exact ⟨go n1 e1 e2 (by simp only [dt, vsm]; grind), go n1 e2 e0 (by simp only [dt, vsm]; grind), go n1 e0 e1 (by simp only [dt, vsm]; grind)⟩
    · exact ⟨go n2 e1 e2 (by simp only [dt, vsm]; grind), go n2 e2 e0 (by simp only [dt, vsm]; grind), go n2 e0 e1 (by simp only [dt, vsm]; grind)⟩
theorem dvA_tr {d m : Int} {N : M3} (h : dvA d m N) : dvA d m (trM N) := by
  obtain ⟨h1, h2, h3, h4⟩ := h
  obtain ⟨a1, a2, a3⟩ := h2 _ (.inl rfl)
  obtain ⟨b1, b2, b3⟩ := h2 _ (.inr (.inl rfl))
  obtain ⟨c1, c2, c3⟩ := h2 _ (.inr (.inr rfl))
  obtain ⟨p1, p2, p3⟩ := h3 _ (.inl rfl)
  obtain ⟨q1, q2, q3⟩ := h3 _ (.inr (.inl rfl))
  obtain ⟨r1, r2, r3⟩ := h3 _ (.inr (.inr rfl))
  have et : adjM (trM N) = trM (adjM N) := by
    simp only [adjM, trM, Prod.mk.injEq]
    refine ⟨⟨?_, ?_, ?_⟩, ⟨?_, ?_, ?_⟩, ?_, ?_, ?_⟩ <;> grind
  refine ⟨by rw [det_tr]; exact h1, ?_, ?_, h4⟩
  · rw [et]
    rintro v (rfl | rfl | rfl)
    · exact ⟨a1, b1, c1⟩
    · exact ⟨a2, b2, c2⟩
    · exact ⟨a3, b3, c3⟩
  · rintro v (rfl | rfl | rfl)
    · exact ⟨p1, q1, r1⟩
    · exact ⟨p2, q2, r2⟩
    · exact ⟨p3, q3, r3⟩
