/-! two lattices: all that is asked of them holds -/
set_option maxRecDepth 100000
def LatOk (M : Mi) (n : Int) (tn : Bool) : Prop := (∃ A T ov g, LQ (m3 M) n A T ov g) ∧ (tn = false → n = 1 ∧ LA (m3 M))
def mscl (k : Int) (M : Mi) : Mi := fun i j => k * M i j
theorem m3_mscl (k : Int) (M : Mi) : m3 (mscl k M) = smM k (m3 M) := rfl
theorem smM_1 (A : M3) : smM 1 A = A := by simp [smM, vsm]
theorem LatOk.n {M : Mi} {n : Int} {tn : Bool} (h : LatOk M n tn) : 1 ≤ n ∧ n ≤ 36 := by
  obtain ⟨⟨A, T, ov, g, h1⟩, _⟩ := h
  have := LQ_n h1; omega
theorem btw_1r (n : Int) : btw n 1 = n := by unfold btw; rw [Int.gcd_one_right]; simp
theorem btw_1l (n : Int) : btw 1 n = n := by unfold btw; rw [Int.gcd_one_left]; simp
/-- two over one divisor -/
theorem pairPQ {M1 M2 : Mi} {n1 n2 : Int} {t1 t2 : Bool} (h1 : LatOk M1 n1 t1) (h2 : LatOk M2 n2 t2) (ht : ¬ (t1 = true ∧ t2 = true)) : PQ (m3 (mscl ((btw n1 n2).tdiv n1) M1)) (m3 (mscl ((btw n1 n2).tdiv n2) M2)) (btw n1 n2) ∧ 1 ≤ btw n1 n2 ∧ btw n1 n2 ≤ 36 := by
  have b1 := h1.n
  have b2 := h2.n
  rcases t2 with _ | _
  · obtain ⟨e2, l2⟩ := h2.2 rfl
    subst e2
    obtain ⟨A, T, ov, g, q⟩ := h1.1
    rw [btw_1r, Int.tdiv_self (by omega), Int.tdiv_one, m3_mscl, m3_mscl, smM_1]
    exact ⟨⟨m3 M1, A, T, ov, g, m3 M2, q, l2, .inr ⟨rfl, rfl⟩⟩, b1.1, b1.2⟩
  · have e1 : t1 = false := by cases t1 with
      | false => rfl
      | true => exact absurd ⟨rfl, rfl⟩ ht
    obtain ⟨e2, l1⟩ := h1.2 e1
    subst e2
    obtain ⟨A, T, ov, g, q⟩ := h2.1
    rw [btw_1l, Int.tdiv_self (by omega), Int.tdiv_one, m3_mscl, m3_mscl, smM_1]
    exact ⟨⟨m3 M2, A, T, ov, g, m3 M1, q, l1, .inl ⟨rfl, rfl⟩⟩, b2.1, b2.2⟩
theorem g9_nz {N : Mi} (hz : dtf N ≠ 0) : g9 N 3 ≠ 0 ∧ g9 (mnr N) 3 ≠ 0 := by
  constructor
  · intro e
    have h : 0 ∣ g9 N 3 := by rw [e]; exact Nat.dvd_refl 0
    have k := (g9_dvd 3).mp h
    refine hz ?_
    unfold dtf
    rw [Int.zero_dvd.mp (k 0 0 (by decide) (by decide)), Int.zero_dvd.mp (k 0 1 (by decide) (by decide)), Int.zero_dvd.mp (k 0 2 (by decide) (by decide))]
    simp
  · intro e
    have h := g9m_det (N := N)
    rw [e] at h
    have := Nat.zero_dvd.mp h
    omega
theorem bd_mnr {N : Mi} {B : Nat} (h : bdM B (adjM (m3 N))) {i j : Nat} (hi : i < 3) (hj : j < 3) : (mnr N i j).natAbs ≤ B := by
  rw [m3_adj] at h
  exact bdM_at (N := fun i j => mnr N j i) h hj hi
theorem PQ.nz {P : Mi} {Q : M3} {n : Int} (h : PQ (m3 P) Q n) : dtf P ≠ 0 := by
  have := h.det_le
  rw [← det_m3]; intro e; rw [e] at this; simp at this
theorem PQ.ent {P : Mi} {Q : M3} {n : Int} (h : PQ (m3 P) Q n) : bdM 1247 (m3 P) ∧ bdM 1555200 (adjM (m3 P)) := by
  have hn := h.n
  have nn : n * n ≤ 36 * 36 := Int.mul_le_mul hn.2 hn.2 (by omega) (by decide)
  have nn0 : 0 < n * n := Int.mul_pos (by omega) (by omega)
  exact ⟨sm3_bd h.sm (by omega), (sm3_adj h.sm).mono (by omega)⟩
theorem PQ.smO {P : Mi} {Q : M3} {n : Int} (h : PQ (m3 P) Q n) : smO P := by
  obtain ⟨e1, e2⟩ := h.ent
  have d := h.det_le
  rw [det_m3] at d
  obtain ⟨g1, g2⟩ := g9_nz h.nz
  exact ⟨fun i j hi hj => by have := bdM_at e1 hi hj; omega, fun i j hi hj => by have := bd_mnr e2 hi hj; omega, rg_nat.mpr (by omega), g1, g2⟩
theorem SF_ent {m : Int} {F : Mi} (hm : 0 < m) (h : SF m F) : ∀ i j, i < 3 → j < 3 → 0 ≤ F i j ∧ F i j ≤ m := fun i j hi hj => by
  have k := SF_SI hm h (fun _ => 0)
  by_cases e : i ≤ j
  · exact k.2.2.2.2.1 i j e hj
  · rw [k.1 i j (by omega) hi]; omega
/-- sums of both -/
theorem PQ.jn {P Q : Mi} {n : Int} (h : PQ (m3 P) (m3 Q) n) : jnOk P Q ∧ SF (smt P 2 : Nat) (jnF' P Q) ∧ m3 (hrun 100 (six3 P Q, [])).1 = m3 (jnF' P Q) ∧ ∀ w, inL (m3 (jnF' P Q)) w ↔ inY (m3 P) (m3 Q) w := by
  obtain ⟨e1, _⟩ := h.ent
  obtain ⟨e2, _⟩ := h.sw.ent
  obtain ⟨_, _, _, _, m5, _⟩ := mE_ok h
  obtain ⟨p1, p2, p3⟩ := smt2_mul h.nz
  obtain ⟨t1, t2, t3, t4⟩ := tkA_join (m := ((smt P 2 : Nat) : Int)) (a := P) (b := Q) (k := kB) (by omega) (by omega) (fun i j hi hj => rg_nat.mpr (by have := bdM_at e1 hi hj; omega)) (fun i j hi hj => rg_nat.mpr (by have := bdM_at e2 hi hj; omega)) (by decide) p2
  obtain ⟨_, _, _, _, j5, j6⟩ := join_ok h
  refine ⟨⟨h.smO, p1, by omega, t1, t2, fun i j hi hj => ?_⟩, t3, ?_, t4⟩
  · have := SF_ent (by omega) t3 i j hi hj; omega
  · exact H_unique j5 t3.1 (fun w => (j6 w).trans (t4 w).symm)
/-- points of both -/
theorem PQ.mt {P Q : Mi} {n : Int} (h : PQ (m3 P) (m3 Q) n) : mcOk P Q ∧ mtOk P Q ∧ runOk 100 (pmul (tel P Q (dQ Q) 3) P, []) ∧ m3 (hrun 100 (pmul (tel P Q (dQ Q) 3) P, [])).1 = m3 (mtC P Q) ∧ SF (mE P Q) (mtC P Q) ∧ m3 (tel P Q (dQ Q) 3) = m3 (sF P Q (dQ Q) kB) ∧ isH (m3 (sF P Q (dQ Q) kB)) ∧ (det (m3 (sF P Q (dQ Q) kB))).natAbs ≤ 2160 ∧ (∀ x, inL (m3 (sF P Q (dQ Q) kB)) x ↔ inL (m3 Q) (vm x (m3 P))) ∧ mE P Q ≤ 167961600 ∧ 0 < mE P Q := by
  obtain ⟨e1, a1⟩ := h.ent
  obtain ⟨e2, a2⟩ := h.sw.ent
  have hQ := h.sw.nz
  have dq := h.sw.det_le
  rw [det_m3] at dq
  obtain ⟨m1, m2, m3', m4, m5, m6⟩ := mE_ok h
  obtain ⟨q1, q2, q3, q4, q5, q6, q7, q8, q9, _⟩ := meet_all h
  have bN := bdM_mul e1 a2
  rw [← m3_nN] at bN
  obtain ⟨s1, s2, s3, _⟩ := sums_ok (P := P) hQ (by omega) (fun i j hi hj => rg_nat.mpr (by have := bdM_at bN hi hj; omega))
  obtain ⟨p1, _⟩ := smt2_mul h.nz
  refine ⟨⟨h.smO, h.sw.smO, hQ, by omega, s1, s2, s3, by omega, by omega, fun e => ?_, m1, by omega, q6, fun i j hi hj => ?_⟩, ⟨hQ, by omega, fun i k j hi hk hj => ?_, fun j hj => ⟨(q5 j hj).2.1, fun r i hr hi => ?_⟩⟩, q9, q8, q7, q4, q2, q1, q3, m2, m1⟩
  · have := (Int.gcd_eq_zero_iff.mp e).1; omega
  · have := SF_ent m1 q7 i j hi hj
    have e : mtC P Q i j = tkA (mE P Q) kB (dgm (mE P Q)) (pmul (sF P Q (dtf Q).natAbs kB) P) 3 i j := rfl
    rw [e]; omega
  · have x1 := bdM_at e1 hi hk
    have x2 := bd_mnr a2 hj hk
    rw [rg_nat, Int.natAbs_mul]
    exact Nat.lt_of_le_of_lt (Nat.mul_le_mul x1 x2) (by decide)
  · have x1 := H_ent (q5 j hj).1 r i hr hi
    have x2 := (q5 j hj).2.2
    exact rg_nat.mpr (by omega)
/-! the divisor that all have, told in two ways -/
theorem gk_dvd {d : Nat} {N : Mi} {g : Nat} : ∀ k, d ∣ gk N g k ↔ (d ∣ g ∧ ∀ j, j < k → (d : Int) ∣ N (j / 3) (j % 3))
  | 0 => by simp [gk]
  | k + 1 => by
    have ih := gk_dvd (d := d) (N := N) (g := g) k
    unfold gk
    rw [Int.gcd_eq_natAbs_gcd_natAbs, Nat.dvd_gcd_iff, Int.natAbs_natCast, ih]
    constructor
    · rintro ⟨⟨h1, h2⟩, h3⟩
      refine ⟨h1, fun j hj => ?_⟩
      by_cases e : j = k
      · subst e; exact Int.dvd_natAbs.mp (Int.natCast_dvd_natCast.mpr h3)
      · exact h2 j (by omega)
    · rintro ⟨h1, h2⟩
      refine ⟨⟨h1, fun j hj => h2 j (by omega)⟩, nd_abs (h2 k (by omega))⟩
theorem lsd_btg {H F : Mi} {o : Int} (he : ∀ i j, i < 3 → j < 3 → H i j = F i j) : lsd H o = btg F o := by
  have key : ∀ d : Nat, d ∣ lsd H o ↔ d ∣ btg F o := fun d => by
    unfold lsd btg
    rw [gk_dvd 9, Int.gcd_eq_natAbs_gcd_natAbs, Nat.dvd_gcd_iff, Int.natAbs_natCast, g9_dvd 3]
    constructor
    · rintro ⟨h1, h2⟩
      refine ⟨fun a b ha hb => ?_, h1⟩
      have := h2 (3 * a + b) (by omega)
      rw [show (3 * a + b) / 3 = a by omega, show (3 * a + b) % 3 = b by omega] at this
      rw [← he a b ha hb]; exact this
    · rintro ⟨h1, h2⟩
      exact ⟨h2, fun j hj => by rw [he _ _ (by omega) (by omega)]; exact h1 _ _ (by omega) (by omega)⟩
  exact Nat.dvd_antisymm ((key _).mp (Nat.dvd_refl _)) ((key _).mpr (Nat.dvd_refl _))
theorem m3_at {A B : Mi} (h : m3 A = m3 B) : ∀ i j, i < 3 → j < 3 → A i j = B i j := fun i j hi hj => by
  unfold m3 at h
  simp only [Prod.mk.injEq] at h
  obtain ⟨⟨a, b, c⟩, ⟨d, e, f⟩, g, x, k⟩ := h
  rcases c3 hi with rfl | rfl | rfl <;> rcases c3 hj with rfl | rfl | rfl <;> assumption
theorem btg_nz {F : Mi} {o : Int} (h : o ≠ 0) : btg F o ≠ 0 := fun e => h (Int.gcd_eq_zero_iff.mp e).2
theorem LatOk.pq {M : Mi} {n : Int} {tn : Bool} (h : LatOk M n tn) : ∃ Q, PQ (m3 M) Q n := by
  obtain ⟨⟨A, T, ov, g, q⟩, _⟩ := h
  exact ⟨smM n A, m3 M, A, T, ov, g, A, q, q.2.2.2.2.2.2.2.2.2, .inr ⟨rfl, rfl⟩⟩
/-- a lattice's own form -/
theorem LatOk.run {M : Mi} {n : Int} {tn : Bool} (h : LatOk M n tn) : runOk 100 (M, []) ∧ isH (m3 (hrun 100 (M, [])).1) ∧ eqL (m3 M) (m3 (hrun 100 (M, [])).1) ∧ (∀ i j, i < 3 → j < 3 → 0 ≤ (hrun 100 (M, [])).1 i j ∧ (hrun 100 (M, [])).1 i j ≤ 2799360) := by
  obtain ⟨Q, pq⟩ := h.pq
  obtain ⟨e1, _⟩ := pq.ent
  have d := pq.det_le
  obtain ⟨r1, r2, r3⟩ := hrun_small (N := M) (B := 1247) (by decide) (fun i j hi hj => bdM_at e1 hi hj) pq.nz (by rw [← det_m3]; omega)
  refine ⟨r1, r2, r3, fun i j hi hj => ?_⟩
  have k := H_ent r2 i j hi hj
  have e := eqL_det r3
  have p := H_pos r2
  omega
