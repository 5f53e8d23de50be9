set_option maxRecDepth 100000
/-! sums of the first one's rows that are of the other one: the component's way; bounds of two lattices over one divisor -/
def nN (P Q : Mi) : Mi := fun i j => P i 0 * mnr Q j 0 + P i 1 * mnr Q j 1 + P i 2 * mnr Q j 2
def tN (N : Mi) : Mi := fun i j => N j i
theorem m3_nN (P Q : Mi) : m3 (nN P Q) = mmul (m3 P) (adjM (m3 Q)) := by
  simp only [m3, nN, mmul, adjM, lc, mnr, Prod.mk.injEq]
  refine ⟨⟨?_, ?_, ?_⟩, ⟨?_, ?_, ?_⟩, ?_, ?_, ?_⟩ <;> grind
theorem m3_tN (N : Mi) : m3 (tN N) = trM (m3 N) := rfl
/-- the columns' form -/
def cF (P Q : Mi) (m : Int) (k : Nat) : Mi := tkA m k (dgm m) (tN (nN P Q)) 3
/-- sums -/
def sF (P Q : Mi) (m : Int) (k : Nat) : Mi := tkA m k (dgm m) (tN (dul m (cF P Q m k))) 3
def kB : Nat := 2 ^ 32
theorem sums_ok {P Q : Mi} (hQ : dtf Q ≠ 0) (hM : (dtf Q).natAbs ≤ 2 ^ 30) (hN : ∀ i j, i < 3 → j < 3 → rg (nN P Q i j)) : taOk (dtf Q).natAbs kB (dgm (dtf Q).natAbs) (tN (nN P Q)) ∧ dulOk (dtf Q).natAbs (cF P Q (dtf Q).natAbs kB) ∧ taOk (dtf Q).natAbs kB (dgm (dtf Q).natAbs) (tN (dul (dtf Q).natAbs (cF P Q (dtf Q).natAbs kB))) ∧ SF (dtf Q).natAbs (sF P Q (dtf Q).natAbs kB) ∧ (∀ x, inL (m3 (sF P Q (dtf Q).natAbs kB)) x ↔ inL (m3 Q) (vm x (m3 P))) ∧ ∀ J, (∀ w, inL J w ↔ inY (m3 P) (m3 Q) w) → (det (m3 (sF P Q (dtf Q).natAbs kB))).natAbs * (det J).natAbs = (dtf Q).natAbs := by
  have m0 : (0 : Int) < ((dtf Q).natAbs : Int) := by omega
  have m1 : (((dtf Q).natAbs : Nat) : Int) ≤ 2 ^ 31 := by omega
  have m2 : (((dtf Q).natAbs : Nat) : Int) ≤ 2 ^ 30 := by omega
  have kb : 2 ^ 31 ≤ kB := by decide
  obtain ⟨a1, a2, a3⟩ := tkA_ok (b := tN (nN P Q)) m0 m1 (SF_dgm m0) (fun i j hi hj => hN j i hj hi) kb
  obtain ⟨d1, d2, d3⟩ := dul_ok m0 m2 a2
  have aF : ∀ w, inL (m3 (cF P Q (dtf Q).natAbs kB)) w ↔ inY (m3 (dgm (dtf Q).natAbs)) (trM (mmul (m3 P) (adjM (m3 Q)))) w := fun w => by
    rw [← m3_nN, ← m3_tN]; exact a3 w
  have hF0 : det (m3 (cF P Q (dtf Q).natAbs kB)) ≠ 0 := by have := H_pos a2.1; unfold cF; omega
  have mK : mul_in ((dtf Q).natAbs : Int) (trM (m3 (dul (dtf Q).natAbs (cF P Q (dtf Q).natAbs kB)))) := by
    refine mul_of (X := trM (m3 (cF P Q (dtf Q).natAbs kB))) ?_
    rw [← tr_mmul, show mmul (m3 (dul (dtf Q).natAbs (cF P Q (dtf Q).natAbs kB))) (m3 (cF P Q (dtf Q).natAbs kB)) = _ from d2]; rfl
  obtain ⟨s1, s2, s3⟩ := tkA_all (b := tN (dul (dtf Q).natAbs (cF P Q (dtf Q).natAbs kB))) m0 m1 (fun i j hi hj => d3 j i hj hi) kb mK
  have hS : ∀ x, inL (m3 (sF P Q (dtf Q).natAbs kB)) x ↔ inL (m3 Q) (vm x (m3 P)) := fun x => by
    rw [in_other (by rw [det_m3]; exact hQ), dv3_abs, det_m3, ← dual_in hF0 (by omega) d2 aF x]
    exact s3 x
  refine ⟨a1, d1, s1, s2, hS, fun J hJ => ?_⟩
  exact idx_thm (P := m3 P) (Q := m3 Q) (by rw [det_m3]; exact hQ) d2 aF hS hJ
/-! two lattices over one divisor, one of which is not turned -/
def PQ (P Q : M3) (n : Int) : Prop := ∃ M A T ov g B, LQ M n A T ov g ∧ LA B ∧ ((P = smM n B ∧ Q = M) ∨ (P = M ∧ Q = smM n B))
theorem PQ.sw {P Q : M3} {n : Int} (h : PQ P Q n) : PQ Q P n := by
  obtain ⟨M, A, T, ov, g, B, h1, h2, h3⟩ := h
  exact ⟨M, A, T, ov, g, B, h1, h2, h3.symm.imp (fun h => ⟨h.2, h.1⟩) (fun h => ⟨h.2, h.1⟩)⟩
theorem sq_abs {x S : Int} {B : Nat} (h : x * x ≤ S) (hS : S < ((B + 1) * (B + 1) : Nat)) : x.natAbs ≤ B := by
  rcases Nat.lt_or_ge B x.natAbs with h1 | h1
  · have h2 : (B + 1) * (B + 1) ≤ x.natAbs * x.natAbs := Nat.mul_le_mul h1 h1
    have h3 : ((x.natAbs * x.natAbs : Nat) : Int) = x * x := by rw [Int.natCast_mul, Int.natAbs_mul_self']
    omega
  · exact h1
theorem sq_nonneg (x : Int) : 0 ≤ x * x := by
  rcases Int.le_total 0 x with h | h
  · exact Int.mul_nonneg h h
  · exact Int.mul_nonneg_of_nonpos_of_nonpos h h
/-- numbers, and what two rows tell, of rows whose squares are small -/
def sm3 (S : Int) (M : M3) : Prop := sq3 M.1 ≤ S ∧ sq3 M.2.1 ≤ S ∧ sq3 M.2.2 ≤ S
theorem sq3_ab {v : V3} {S : Int} (h : sq3 v ≤ S) : v.1 * v.1 ≤ S ∧ v.2.1 * v.2.1 ≤ S ∧ v.2.2 * v.2.2 ≤ S := by
  have h1 := sq_nonneg v.1
  have h2 := sq_nonneg v.2.1
  have h3 := sq_nonneg v.2.2
  unfold sq3 at h
  omega
theorem sm3_at {S : Int} {N : Mi} (h : sm3 S (m3 N)) {i j : Nat} (hi : i < 3) (hj : j < 3) : N i j * N i j ≤ S := by
  obtain ⟨a, b, c⟩ := h
  have a' := sq3_ab a
  have b' := sq3_ab b
  have c' := sq3_ab c
  rcases c3 hi with rfl | rfl | rfl <;> rcases c3 hj with rfl | rfl | rfl
  · exact a'.1
  · exact a'.2.1
  · exact a'.2.2
  · exact b'.1
  · exact b'.2.1
  · exact b'.2.2
  · exact c'.1
  · exact c'.2.1
  · exact c'.2.2
theorem LA_sm {n : Int} {B : M3} (hB : LA B) : sm3 (1200 * (n * n)) (smM n B) := by
  have key : ∀ v, sq3 v ≤ 1200 → sq3 (vsm n v) ≤ 1200 * (n * n) := fun v hv => by
    rw [sq_vsm, Int.mul_comm 1200]; exact Int.mul_le_mul_of_nonneg_left hv (sq_nonneg n)
  exact ⟨key _ hB.1, key _ hB.2.1, key _ hB.2.2.1⟩
theorem PQ.n {P Q : M3} {n : Int} (h : PQ P Q n) : 1 ≤ n ∧ n ≤ 36 := by
  obtain ⟨M, A, T, ov, g, B, h1, _⟩ := h
  have := LQ_n h1; omega
theorem PQ.sm {P Q : M3} {n : Int} (h : PQ P Q n) : sm3 (1200 * (n * n)) P := by
  obtain ⟨M, A, T, ov, g, B, h1, h2, ⟨rfl, rfl⟩ | ⟨rfl, rfl⟩⟩ := h
  · exact LA_sm h2
  · exact LQ_sq h1
theorem PQ.dtc {P Q : M3} {n : Int} (h : PQ P Q n) : ∃ c : Nat, 1 ≤ c ∧ c ≤ 60 ∧ (((det P).natAbs : Nat) : Int) = n * n * n * c := by
  have hn := h.n
  have n3 : 0 < n * n * n := Int.mul_pos (Int.mul_pos (by omega) (by omega)) (by omega)
  obtain ⟨M, A, T, ov, g, B, h1, h2, ⟨rfl, rfl⟩ | ⟨rfl, rfl⟩⟩ := h
  · refine ⟨(det B).natAbs, h2.2.2.2.1, h2.2.2.2.2, ?_⟩
    rw [det_sm, Int.natAbs_mul, Int.natCast_mul]
    congr 1; omega
  · refine ⟨(det A).natAbs, h1.2.2.2.2.2.2.2.2.2.2.2.2.1, h1.2.2.2.2.2.2.2.2.2.2.2.2.2, ?_⟩
    rw [LQ_det h1, Int.natAbs_mul, Int.natCast_mul]
    congr 1; omega
theorem PQ.det_le {P Q : M3} {n : Int} (h : PQ P Q n) : 1 ≤ (det P).natAbs ∧ (det P).natAbs ≤ 2799360 := by
  obtain ⟨c, c1, c2, e⟩ := h.dtc
  have hn := h.n
  have a1 : n * n ≤ 36 * 36 := Int.mul_le_mul hn.2 hn.2 (by omega) (by decide)
  have a0 : 0 < n * n := Int.mul_pos (by omega) (by omega)
  have a2 : n * n * n ≤ 36 * 36 * 36 := Int.mul_le_mul a1 hn.2 (by omega) (by decide)
  have a3 : 0 < n * n * n := Int.mul_pos a0 (by omega)
  have a4 : n * n * n * (c : Int) ≤ 36 * 36 * 36 * 60 := Int.mul_le_mul a2 (by omega) (by omega) (by decide)
  have a5 : 0 < n * n * n * (c : Int) := Int.mul_pos a3 (by omega)
  omega
theorem PQ.mul {P Q : M3} {n : Int} (h : PQ P Q n) : ∃ E : Int, 0 < E ∧ mul_in E P ∧ ((E ≤ 2160 ∧ Q ≠ Q → False) ∨ True) ∧ E ≤ 77760 := by
  have hn := h.n
  obtain ⟨M, A, T, ov, g, B, h1, h2, ⟨rfl, rfl⟩ | ⟨rfl, rfl⟩⟩ := h
  · refine ⟨n * ((det B).natAbs : Int), Int.mul_pos (by omega) (by have := h2.2.2.2.1; omega), mul_sm (mul_dvd (mul_adj B) (Int.dvd_natAbs.mpr (Int.dvd_refl _))), .inr trivial, ?_⟩
    have := Int.mul_le_mul hn.2 (show ((det B).natAbs : Int) ≤ 60 by have := h2.2.2.2.2; omega) (by omega) (by decide)
    omega
  · have ha := h1.2.2.2.2.2.2.2.2.2.2.2.2
    have ho := h1.2.2.2.1
    have hn2 := LQ_n h1
    refine ⟨((det A).natAbs : Int) * ov * n, Int.mul_pos (Int.mul_pos (by omega) (by omega)) (by omega), LQ_mul h1, .inr trivial, ?_⟩
    have e1 := Int.mul_le_mul (show ((det A).natAbs : Int) ≤ 60 by omega) ho (by omega) (by decide)
    have e2 := Int.mul_le_mul e1 hn.2 (by omega) (by decide)
    omega
/-- a number all of whose multiples both have -/
theorem PQ.mul2 {P Q : M3} {n : Int} (h : PQ P Q n) : ∃ E1 E2 : Int, 0 < E1 ∧ 0 < E2 ∧ mul_in E1 P ∧ mul_in E2 Q ∧ E1 ≤ 77760 ∧ E2 ≤ 77760 ∧ E1 * E2 ≤ 167961600 := by
  have hn := h.n
  obtain ⟨M, A, T, ov, g, B, h1, h2, h3⟩ := h
  have ha := h1.2.2.2.2.2.2.2.2.2.2.2.2
  have ho := h1.2.2.2.1
  have hn2 := LQ_n h1
  have p1 : 0 < n * ((det B).natAbs : Int) := Int.mul_pos (by omega) (by have := h2.2.2.2.1; omega)
  have p2 : 0 < ((det A).natAbs : Int) * ov * n := Int.mul_pos (Int.mul_pos (by omega) (by omega)) (by omega)
  have l1 := Int.mul_le_mul hn.2 (show ((det B).natAbs : Int) ≤ 60 by have := h2.2.2.2.2; omega) (by omega) (by decide)
  have e1 := Int.mul_le_mul (show ((det A).natAbs : Int) ≤ 60 by omega) ho (by omega) (by decide)
  have l2 := Int.mul_le_mul e1 hn.2 (by omega) (by decide)
  have l3 := Int.mul_le_mul l1 l2 (by omega) (by decide)
  have q1 : mul_in (n * ((det B).natAbs : Int)) (smM n B) := mul_sm (mul_dvd (mul_adj B) (Int.dvd_natAbs.mpr (Int.dvd_refl _)))
  have q2 := LQ_mul h1
  rcases h3 with ⟨rfl, rfl⟩ | ⟨rfl, rfl⟩
  · exact ⟨_, _, p1, p2, q1, q2, by omega, by omega, by omega⟩
  · exact ⟨_, _, p2, p1, q2, q1, by omega, by omega, by rw [Int.mul_comm]; omega⟩
theorem PQ.D {P Q J : M3} {n : Int} {D : Nat} (h : PQ P Q n) (hJ : ∀ w, inL J w ↔ inY P Q w) (hD : D * (det J).natAbs = (det Q).natAbs) : D ≤ 2160 := by
  have hq := h.sw.det_le
  have hn := h.n
  obtain ⟨M, A, T, ov, g, B, h1, h2, h3⟩ := h
  have hn2 := LQ_n h1
  have hg := h1.1
  have ho := h1.2.2.2.1
  have ha := h1.2.2.2.2.2.2.2.2.2.2.2.2
  have hgn := h1.2.2.1
  have hJ' : ∀ w, inL J w → inY (smM n B) M w := fun w hw => by
    obtain ⟨u, v, hu, hv, e⟩ := (hJ w).mp hw
    rcases h3 with ⟨rfl, rfl⟩ | ⟨rfl, rfl⟩
    · exact ⟨u, v, hu, hv, e⟩
    · exact ⟨v, u, hv, hu, by rw [e]; simp only [vad, Prod.mk.injEq]; omega⟩
  have k := Int.natAbs_dvd_natAbs.mpr (LQ_join h1 hJ')
  rw [Int.natAbs_mul, Int.natAbs_mul, Int.natAbs_mul, Int.natAbs_mul] at k
  have nov : (ov.natAbs : Int) = ov := by omega
  have ng : (g.natAbs : Int) = g := by omega
  have nn : (n.natAbs : Int) = n := by omega
  have en : ov.natAbs = g.natAbs * n.natAbs := by rw [← Int.natAbs_mul, hgn]
  have main : ∀ c0 : Nat, c0 ≤ 60 → (det Q).natAbs = n.natAbs * n.natAbs * n.natAbs * c0 → D ≤ 2160 := fun c0 hc e => by
    refine D_le hD k (c0 := c0) ?_ (by omega) (by omega) (by omega) hc (by omega)
    rw [e, en]; grind
  rcases h3 with ⟨rfl, rfl⟩ | ⟨rfl, rfl⟩
  · exact main _ ha.2 (by rw [LQ_det h1, Int.natAbs_mul, Int.natAbs_mul, Int.natAbs_mul])
  · exact main _ h2.2.2.2.2 (by rw [det_sm, Int.natAbs_mul, Int.natAbs_mul, Int.natAbs_mul])
