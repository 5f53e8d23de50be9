/-! rows that tell, bounded well: their form can be made -/
set_option maxRecDepth 100000
theorem PQ.E {P Q : M3} {n : Int} (h : PQ P Q n) : ∃ E : Int, 0 < E ∧ E ≤ 129600 * n ∧ mul_in E P ∧ mul_in E Q := by
  obtain ⟨M, A, T, ov, g, B, lq, lb, hc⟩ := h
  have ln := LQ_n lq
  have la := lq.2.2.2.2.2.2.2.2.2
  have a1 := la.2.2.2.1
  have a2 := la.2.2.2.2
  have b1 := lb.2.2.2.1
  have b2 := lb.2.2.2.2
  have m1 := LQ_mul lq
  have m2 : mul_in (n * ((det B).natAbs : Int)) (smM n B) := mul_sm (mul_dvd (mul_adj B) (Int.dvd_natAbs.mpr (Int.dvd_refl _)))
  have o36 := lq.2.2.2.1
  have o0 : 0 < ov := by have := lq.2.2.1; have := Int.mul_pos lq.1 lq.2.1; omega
  have aa : 1 ≤ ((det A).natAbs : Int) ∧ ((det A).natAbs : Int) ≤ 60 := by omega
  have bb : 1 ≤ ((det B).natAbs : Int) ∧ ((det B).natAbs : Int) ≤ 60 := by omega
  generalize ((det A).natAbs : Int) = a at *
  generalize ((det B).natAbs : Int) = b at *
  have hE1 : a * ov * n ∣ n * b * (a * ov) := ⟨b, by grind⟩
  have hE2 : n * b ∣ n * b * (a * ov) := Int.dvd_mul_right _ _
  have ao : a * ov ≤ 60 * 36 := Int.mul_le_mul aa.2 o36 (by omega) (by omega)
  have ao0 : 0 < a * ov := Int.mul_pos (by omega) o0
  have bao : b * (a * ov) ≤ 60 * (60 * 36) := Int.mul_le_mul bb.2 ao (by omega) (by omega)
  have bao0 : 0 < b * (a * ov) := Int.mul_pos (by omega) ao0
  have e3 : n * b * (a * ov) = n * (b * (a * ov)) := by grind
  have E0 : 0 < n * b * (a * ov) := by rw [e3]; exact Int.mul_pos (by omega) bao0
  have E1 : n * b * (a * ov) ≤ 129600 * n := by
    rw [e3, Int.mul_comm n]
    exact Int.mul_le_mul_of_nonneg_right (by omega) (by omega)
  rcases hc with ⟨rfl, rfl⟩ | ⟨rfl, rfl⟩
  · exact ⟨_, E0, E1, mul_dvd m2 hE2, mul_dvd m1 hE1⟩
  · exact ⟨_, E0, E1, mul_dvd m1 hE1, mul_dvd m2 hE2⟩
theorem told_small {P Q X : Mi} {b : Int} (pq : PQ (m3 P) (m3 Q) b) (hX : mmul (m3 X) (m3 P) = m3 (mtC P Q)) (hL : eqL (m3 X) (m3 (sF P Q (dQ Q) kB))) : bdM 466560000 (m3 X) := by
  obtain ⟨_, _, _, _, m5, m6, m7, m8, m9, _⟩ := pq.mt
  obtain ⟨E, e0, e1, e2, e3⟩ := pq.E
  have hn := pq.n
  have inF : ∀ w, inL (m3 (mtC P Q)) w ↔ inL (m3 P) w ∧ inL (m3 Q) w := fun w => by
    rw [← hX]
    exact meet_in (fun x => (hL x).trans (m9 x)) w
  have SE : SF E (mtC P Q) := ⟨m5.1, fun j hj => (inF _).mpr ⟨e2 j hj, e3 j hj⟩⟩
  have ent := SF_ent e0 SE
  have bF : bdM E.toNat (m3 (mtC P Q)) := bdM_of (fun i j hi hj => by have := ent i j hi hj; omega)
  have bA := sm3_adj pq.sm
  have zP : det (m3 P) ≠ 0 := by rw [det_m3]; exact pq.nz
  obtain ⟨c, c1, c2, c3'⟩ := pq.dtc
  refine bdM_div (k := det (m3 P)) (C := 3 * (E.toNat * (1200 * (b * b)).toNat)) ?_ ?_ zP
  · have e : smM (det (m3 P)) (m3 X) = mmul (m3 (mtC P Q)) (adjM (m3 P)) := by rw [← hX, mmul_as, mmul_adj, mmul_sm2, mmul_id]
    rw [e]
    exact bdM_mul bF bA
  · have bb : 0 < b * b := Int.mul_pos (by omega) (by omega)
    have hE : (E.toNat : Int) = E := by omega
    have hS : ((1200 * (b * b)).toNat : Int) = 1200 * (b * b) := by omega
    have key : ((3 * (E.toNat * (1200 * (b * b)).toNat) : Nat) : Int) ≤ ((466560000 * (det (m3 P)).natAbs : Nat) : Int) := by
      simp only [Int.natCast_mul]
      rw [hE, hS, c3']
      have h1 : E * (1200 * (b * b)) ≤ 129600 * b * (1200 * (b * b)) := Int.mul_le_mul_of_nonneg_right e1 (by omega)
      have h2 : (b * b * b) * 1 ≤ (b * b * b) * (c : Int) := Int.mul_le_mul_of_nonneg_left (by omega) (by have := Int.mul_pos bb (show 0 < b by omega); omega)
      have h3 : 129600 * b * (1200 * (b * b)) = 155520000 * (b * b * b) := by grind
      rw [h3] at h1
      omega
    exact_mod_cast key
/-- the form of the rows that tell -/
theorem told_run {P Q X : Mi} {b : Int} (pq : PQ (m3 P) (m3 Q) b) (hX : mmul (m3 X) (m3 P) = m3 (mtC P Q)) (hL : eqL (m3 X) (m3 (sF P Q (dQ Q) kB))) (hA : bdM 8100000 (adjM (m3 X))) (hz : dtf X ≠ 0) (hD : (dtf X).natAbs ≤ 2160) : runOk 100 (X, []) ∧ m3 (hrun 100 (X, [])).1 = m3 (sF P Q (dQ Q) kB) := by
  have bX := told_small pq hX hL
  obtain ⟨_, _, _, _, _, _, m7, _⟩ := pq.mt
  obtain ⟨r1, r2, r3⟩ := hrun_ok (sc := 1) (X := 2 ^ 31) (N := X) (by decide) (by decide) ⟨fun i j _ hi _ hj => ⟨by have := bdM_at bX hi hj; omega, Int.one_dvd _⟩, fun i k j _ hi _ hk hj0 hj => Nat.le_trans (W_adj hA i k j hi hk (by omega) hj) (by decide)⟩ (by omega) hz
  exact ⟨r1, H_unique r2 m7 (r3.sy.tr hL)⟩
