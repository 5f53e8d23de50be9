set_option maxRecDepth 100000
/-! the whole way to the one form -/
theorem hred_fst (c : Nat) : ∀ k r s, r + k = c → ∀ a b, (hred c k r s).1 a b = if r ≤ a ∧ a < c then s.1 a b - (s.1 a c / s.1 c c) * s.1 c b else s.1 a b := by
  intro k
  induction k with
  | zero => intro r s hr a b; rw [if_neg (by omega)]; rfl
  | succ k ih =>
    intro r s hr a b
    rw [hred, ih (r + 1) _ (by omega)]
    by_cases hz : -(s.1 r c / s.1 c c) = 0
    · simp only [hz, if_true]
      by_cases e : a = r
      · subst e
        have hz' : s.1 a c / s.1 c c = 0 := by omega
        rw [if_neg (by omega), if_pos ⟨Nat.le_refl _, by omega⟩, hz', Int.zero_mul, Int.sub_zero]
      · have e' : (r + 1 ≤ a ∧ a < c) ↔ (r ≤ a ∧ a < c) := by omega
        simp only [e']
    · simp only [if_neg hz]
      have hc : (hadd s r c (-(s.1 r c / s.1 c c))).1 c = s.1 c := by funext z; unfold hadd addR; simp; intro e; omega
      rw [hc]
      by_cases e : a = r
      · subst e
        rw [if_neg (by omega), if_pos ⟨Nat.le_refl _, by omega⟩]
        show addR s.1 a c (-(s.1 a c / s.1 c c)) a b = _
        unfold addR
        rw [if_pos rfl]
        grind
      · have ha : (hadd s r c (-(s.1 r c / s.1 c c))).1 a = s.1 a := by funext z; unfold hadd addR; simp [e]
        rw [ha]
        have e' : (r + 1 ≤ a ∧ a < c) ↔ (r ≤ a ∧ a < c) := by omega
        simp only [e']
theorem hred_eqL {c : Nat} (hc : c < 3) : ∀ k r s, r + k = c → eqL (m3 s.1) (m3 (hred c k r s).1) ∧ (hred c k r s).2.length ≤ s.2.length + k := by
  intro k
  induction k with
  | zero => intro r s _; exact ⟨eqL.rf _, Nat.le_refl _⟩
  | succ k ih =>
    intro r s hr
    rw [hred]
    split
    · obtain ⟨h1, h2⟩ := ih (r + 1) s (by omega); exact ⟨h1, by omega⟩
    · obtain ⟨h1, h2⟩ := ih (r + 1) (hadd s r c (-(s.1 r c / s.1 c c))) (by omega)
      have l1 : (hadd s r c (-(s.1 r c / s.1 c c))).2.length = s.2.length + 1 := by simp [hadd]
      exact ⟨(eqL_add s.1 (by omega) hc (by omega) _).tr h1, by omega⟩
theorem hneg_fst (c : Nat) (s : HS) (a b : Nat) : (hneg c s).1 a b = if s.1 c c < 0 ∧ a = c then - s.1 a b else s.1 a b := by
  unfold hneg
  by_cases h : s.1 c c < 0
  · rw [if_pos h]; show ovrR s.1 c a b = _; unfold ovrR; simp [h]
  · rw [if_neg h]; simp [h]
theorem hneg_eqL {c : Nat} (hc : c < 3) (s : HS) : eqL (m3 s.1) (m3 (hneg c s).1) ∧ (hneg c s).2.length ≤ s.2.length + 1 := by
  unfold hneg
  split
  · exact ⟨eqL_ovr s.1 hc, by simp [hovr]⟩
  · exact ⟨eqL.rf _, by omega⟩
theorem hneg_abs (c : Nat) (s : HS) (a b : Nat) : ((hneg c s).1 a b).natAbs = (s.1 a b).natAbs := by
  rw [hneg_fst]; split
  · rw [Int.natAbs_neg]
  · rfl
theorem hneg_pos {c : Nat} {s : HS} (h : s.1 c c ≠ 0) : 0 < (hneg c s).1 c c := by
  rw [hneg_fst]; split <;> omega
theorem hneg_row {c : Nat} {s : HS} {a : Nat} (h : a ≠ c) (b : Nat) : (hneg c s).1 a b = s.1 a b := by
  rw [hneg_fst, if_neg (fun e => h e.2)]
theorem dtf_eqL {A B : Mi} (h : eqL (m3 A) (m3 B)) : (dtf A).natAbs = (dtf B).natAbs := eqL_det h
theorem dtf_up {N : Mi} (h1 : N 1 0 = 0) (h2 : N 2 0 = 0) : dtf N = N 0 0 * (N 1 1 * N 2 2 - N 1 2 * N 2 1) := by
  show N 0 0 * (N 1 1 * N 2 2 - N 1 2 * N 2 1) + N 0 1 * (N 1 2 * N 2 0 - N 1 0 * N 2 2) + N 0 2 * (N 1 0 * N 2 1 - N 1 1 * N 2 0) = _
  rw [h1, h2]; simp
theorem ediv_ab {x h : Int} (hh : 0 < h) : (x / h).natAbs ≤ x.natAbs := by
  rcases Int.le_total 0 x with hx | hx
  · have h1 : 0 ≤ x / h := Int.ediv_nonneg hx (by omega)
    have h2 : x / h ≤ x := Int.ediv_le_self _ hx
    omega
  · have h1 : x ≤ x / h := by
      rw [Int.le_ediv_iff_mul_le hh]
      have : x * h ≤ x * 1 := Int.mul_le_mul_of_nonpos_left hx (by omega)
      omega
    have h2 : x / h ≤ 0 := by
      have := Int.ediv_le_ediv hh hx
      simpa using this
    omega
theorem hrun_ok {sc X : Nat} {N : Mi} (hs : 0 < sc) (hX : X ≤ 2 ^ 31) (hB : Bnd 0 sc X N) (hD : (dtf N).natAbs ≤ sc * sc * X) (hz : dtf N ≠ 0) : runOk 100 (N, []) ∧ isH (m3 (hrun 100 (N, [])).1) ∧ eqL (m3 N) (m3 (hrun 100 (N, [])).1) := by
  have hX63 : X < 2 ^ 63 := by omega
  have hX32 : X < 2 ^ 32 := by omega
  have nz : ∀ B, eqL (m3 N) (m3 B) → dtf B ≠ 0 := fun B h e => by have := dtf_eqL h; rw [e] at this; simp at this; exact hz this
  -- column 0
  have i0 : HIv 0 sc X N (N, []) := ⟨eqL.rf _, hB, fun i j h => by omega, fun i j _ _ h => by omega⟩
  have z0 : zz 0 (N, []) ≤ 1 := by unfold zz; split <;> omega
  obtain ⟨a1, a2, a3, a4⟩ := heu_ok (T := 193) (by decide) hX63 (by decide) 100 (N, []) (fun _ => 32) i0 (fun i h1 h2 => Nat.lt_of_le_of_lt (hB.1 i 0 h1 h2 (by omega) (by decide)).1 hX32) (by show 32 + 32 + 32 + _ ≤ 100; omega) (by show 2 * (32 + 32 + 32) + _ + 0 ≤ 193; omega)
  generalize hs1 : heu 0 100 (N, []) = s1 at *
  have d1 : dtf s1.1 = s1.1 0 0 * (s1.1 1 1 * s1.1 2 2 - s1.1 1 2 * s1.1 2 1) := dtf_up (a3 1 (by decide) (by decide)) (a3 2 (by decide) (by decide))
  have p1 : s1.1 0 0 ≠ 0 := fun e => nz s1.1 a2.1 (by rw [d1, e]; simp)
  obtain ⟨n1, n2⟩ := hneg_eqL (c := 0) (by decide) s1
  have n3 := hneg_pos p1
  have ok0 : clrOk 0 100 (N, []) := by
    unfold clrOk
    rw [hs1]
    refine ⟨a1, by omega, n3, rg_nat.mpr ?_, fun r h => by omega⟩
    rw [hneg_abs]; exact Nat.lt_of_le_of_lt (a2.2.1.1 0 0 (by decide) (by decide) (by decide) (by decide)).1 hX63
  have e0 : hclr 0 100 (N, []) = hneg 0 s1 := by unfold hclr; rw [hs1]; rfl
  have b0 : ∀ i j, i < 3 → j < 3 → ((hneg 0 s1).1 i j).natAbs ≤ X ∧ (sc : Int) ∣ (hneg 0 s1).1 i j := fun i j hi hj => by
    have := a2.2.1.1 i j (by omega) hi (by omega) hj
    refine ⟨by rw [hneg_abs]; exact this.1, ?_⟩
    rw [hneg_fst]; split
    · exact Int.dvd_neg.mpr this.2
    · exact this.2
  have c10 : (hneg 0 s1).1 1 0 = 0 := by rw [hneg_row (by decide)]; exact a3 1 (by decide) (by decide)
  have c20 : (hneg 0 s1).1 2 0 = 0 := by rw [hneg_row (by decide)]; exact a3 2 (by decide) (by decide)
  have q0 : eqL (m3 N) (m3 (hneg 0 s1).1) := a2.1.tr n1
  have l0 : (hneg 0 s1).2.length ≤ 194 := by omega
  generalize hs2 : hneg 0 s1 = s2 at *
  -- column 1
  have d2 : dtf s2.1 = s2.1 0 0 * (s2.1 1 1 * s2.1 2 2 - s2.1 1 2 * s2.1 2 1) := dtf_up c10 c20
  have w2 : (s2.1 1 1 * s2.1 2 2 - s2.1 1 2 * s2.1 2 1).natAbs ≤ sc * X := by
    have h1 : (dtf s2.1).natAbs ≤ sc * sc * X := by rw [← dtf_eqL q0]; exact hD
    rw [d2, Int.natAbs_mul] at h1
    have h2 : sc ≤ (s2.1 0 0).natAbs := Nat.le_of_dvd (by omega) (nd_abs (b0 0 0 (by decide) (by decide)).2)
    have h3 := Nat.mul_le_mul_right (s2.1 1 1 * s2.1 2 2 - s2.1 1 2 * s2.1 2 1).natAbs h2
    have h4 : sc * (s2.1 1 1 * s2.1 2 2 - s2.1 1 2 * s2.1 2 1).natAbs ≤ sc * (sc * X) := by rw [← Nat.mul_assoc]; exact Nat.le_trans h3 h1
    exact Nat.le_of_mul_le_mul_left h4 hs
  have i1 : HIv 1 sc X s2.1 s2 := by
    refine ⟨eqL.rf _, ⟨fun i j h1 h2 h3 h4 => b0 i j h2 h4, fun i k j h1 h2 h3 h4 h5 h6 => ?_⟩, fun i j h => rfl, fun i j h1 h2 h3 => ?_⟩
    · have : j = 2 := by omega
      subst this
      rcases (show i = 1 ∨ i = 2 by omega) with rfl | rfl <;> rcases (show k = 1 ∨ k = 2 by omega) with rfl | rfl
      · rw [Int.sub_self]; simp
      · have e : s2.1 1 2 * s2.1 2 1 - s2.1 2 2 * s2.1 1 1 = -(s2.1 1 1 * s2.1 2 2 - s2.1 1 2 * s2.1 2 1) := by grind
        rw [e, Int.natAbs_neg]; exact w2
      · have e : s2.1 2 2 * s2.1 1 1 - s2.1 1 2 * s2.1 2 1 = s2.1 1 1 * s2.1 2 2 - s2.1 1 2 * s2.1 2 1 := by grind
        rw [e]; exact w2
      · rw [Int.sub_self]; simp
    · have : j = 0 := by omega
      subst this
      rcases (show i = 1 ∨ i = 2 by omega) with rfl | rfl
      · exact c10
      · exact c20
  have z1 : zz 1 s2 ≤ 1 := by unfold zz; split <;> omega
  obtain ⟨f1, f2, f3, f4⟩ := heu_ok (T := 323) (by decide) hX63 (by decide) 100 s2 (fun i => if i = 0 then 0 else 32) i1 (fun i h1 h2 => by simp only [if_neg (show i ≠ 0 by omega)]; exact Nat.lt_of_le_of_lt (b0 i 1 h2 (by decide)).1 hX32) (by show 0 + 32 + 32 + _ ≤ 100; omega) (by show 2 * (0 + 32 + 32) + _ + _ ≤ 323; omega)
  generalize hs3 : heu 1 100 s2 = s3 at *
  have r0 : ∀ j, s3.1 0 j = s2.1 0 j := fun j => f2.2.2.1 0 j (by decide)
  have g10 : s3.1 1 0 = 0 := f2.2.2.2 1 0 (by decide) (by decide) (by decide)
  have g20 : s3.1 2 0 = 0 := f2.2.2.2 2 0 (by decide) (by decide) (by decide)
  have g21 : s3.1 2 1 = 0 := f3 2 (by decide) (by decide)
  have q3 : eqL (m3 N) (m3 s3.1) := q0.tr f2.1
  have d3 : dtf s3.1 = s3.1 0 0 * (s3.1 1 1 * s3.1 2 2) := by rw [dtf_up g10 g20, g21]; simp
  have p3 : s3.1 1 1 ≠ 0 := fun e => nz s3.1 q3 (by rw [d3, e]; simp)
  have p4 : s3.1 2 2 ≠ 0 := fun e => nz s3.1 q3 (by rw [d3, e]; simp)
  obtain ⟨m1, m2⟩ := hneg_eqL (c := 1) (by decide) s3
  have m3' := hneg_pos p3
  have o11 : ((hneg 1 s3).1 1 1).natAbs ≤ X := by rw [hneg_abs]; exact (f2.2.1.1 1 1 (by decide) (by decide) (by decide) (by decide)).1
  have o12 : ((hneg 1 s3).1 1 2).natAbs ≤ X := by rw [hneg_abs]; exact (f2.2.1.1 1 2 (by decide) (by decide) (by decide) (by decide)).1
  have o22 : ((hneg 1 s3).1 2 2).natAbs ≤ X := by rw [hneg_abs]; exact (f2.2.1.1 2 2 (by decide) (by decide) (by decide) (by decide)).1
  have o0 : ∀ j, (hneg 1 s3).1 0 j = s2.1 0 j := fun j => by rw [hneg_row (by decide)]; exact r0 j
  have h10 : (hneg 1 s3).1 1 0 = 0 := by rw [hneg_fst, g10]; simp
  have h20 : (hneg 1 s3).1 2 0 = 0 := by rw [hneg_row (by decide)]; exact g20
  have h21 : (hneg 1 s3).1 2 1 = 0 := by rw [hneg_row (by decide)]; exact g21
  have h22 : (hneg 1 s3).1 2 2 ≠ 0 := by rw [hneg_row (by decide)]; exact p4
  have ok1 : clrOk 1 100 (hclr 0 100 (N, [])) := by
    rw [e0]
    unfold clrOk
    rw [hs3]
    refine ⟨f1, by omega, m3', rg_nat.mpr (by omega), fun r h => rg_nat.mpr ?_⟩
    have : r = 0 := by omega
    subst this
    rw [o0]; exact Nat.lt_of_le_of_lt (b0 0 1 (by decide) (by decide)).1 hX63
  have e1 : hclr 1 100 (hclr 0 100 (N, [])) = hred 1 1 0 (hneg 1 s3) := by rw [e0]; unfold hclr; rw [hs3]
  have q4 : eqL (m3 N) (m3 (hneg 1 s3).1) := q3.tr m1
  have l4 : (hneg 1 s3).2.length ≤ 324 := by omega
  generalize hs4 : hneg 1 s3 = s4 at *
  obtain ⟨t1, t2⟩ := hred_eqL (c := 1) (by decide) 1 0 s4 (by decide)
  have t3 := hred_fst 1 1 0 s4 (by decide)
  have u1 : ∀ i j, 1 ≤ i → (hred 1 1 0 s4).1 i j = s4.1 i j := fun i j h => by rw [t3, if_neg (by omega)]
  have u0 : ∀ j, (hred 1 1 0 s4).1 0 j = s2.1 0 j - (s2.1 0 1 / s4.1 1 1) * s4.1 1 j := fun j => by rw [t3, if_pos (by decide), o0, o0]
  have u02 : ((hred 1 1 0 s4).1 0 2).natAbs < 2 ^ 63 := by
    rw [u0]
    have k1 := (b0 0 2 (by decide) (by decide)).1
    have k2 : (s2.1 0 1 / s4.1 1 1).natAbs ≤ X := Nat.le_trans (ediv_ab m3') (b0 0 1 (by decide) (by decide)).1
    have k3 : ((s2.1 0 1 / s4.1 1 1) * s4.1 1 2).natAbs ≤ 2 ^ 31 * 2 ^ 31 := by rw [Int.natAbs_mul]; exact Nat.mul_le_mul (Nat.le_trans k2 hX) (Nat.le_trans o12 hX)
    omega
  have q5 : eqL (m3 N) (m3 (hred 1 1 0 s4).1) := q4.tr t1
  have l5 : (hred 1 1 0 s4).2.length ≤ 325 := by omega
  have v01 : (hred 1 1 0 s4).1 0 1 = s2.1 0 1 % s4.1 1 1 := by rw [u0, Int.emod_def, Int.mul_comm]
  have v00 : (hred 1 1 0 s4).1 0 0 = s2.1 0 0 := by rw [u0, h10]; simp
  generalize hs5 : hred 1 1 0 s4 = s5 at *
  -- column 2
  have hb2 : bel s5.1 2 (2 - 2) (2 + 1) = false := rfl
  have e2 : heu 2 100 s5 = s5 := by rw [show 100 = 99 + 1 from rfl, heu, hb2]; simp
  have w22 : s5.1 2 2 ≠ 0 := by rw [u1 2 2 (by decide)]; exact h22
  obtain ⟨x1, x2⟩ := hneg_eqL (c := 2) (by decide) s5
  have x3 := hneg_pos w22
  have y22 : ((hneg 2 s5).1 2 2).natAbs ≤ X := by rw [hneg_abs, u1 2 2 (by decide)]; exact o22
  have ok2 : clrOk 2 100 (hclr 1 100 (hclr 0 100 (N, []))) := by
    rw [e1]
    unfold clrOk
    rw [e2]
    refine ⟨⟨fun r h1 h2 => rg_nat.mpr ?_, .inl hb2⟩, by omega, x3, rg_nat.mpr (by omega), fun r h => rg_nat.mpr ?_⟩
    · have : r = 2 := by omega
      subst this
      rw [u1 2 2 (by decide)]; omega
    · rw [hneg_row (by omega)]
      rcases (show r = 0 ∨ r = 1 by omega) with rfl | rfl
      · exact u02
      · rw [u1 1 2 (by decide)]; omega
  have e3 : hrun 100 (N, []) = hred 2 2 0 (hneg 2 s5) := by unfold hrun; rw [e1]; unfold hclr; rw [e2]
  obtain ⟨y1, y2⟩ := hred_eqL (c := 2) (by decide) 2 0 (hneg 2 s5) (by decide)
  have y3 := hred_fst 2 2 0 (hneg 2 s5) (by decide)
  rw [e3]
  refine ⟨⟨ok0, ok1, ok2⟩, ?_, q5.tr (x1.tr y1)⟩
  have j2 : ∀ j, (hred 2 2 0 (hneg 2 s5)).1 2 j = (hneg 2 s5).1 2 j := fun j => by rw [y3, if_neg (by decide)]
  have z20 : (hneg 2 s5).1 2 0 = 0 := by rw [hneg_fst, u1 2 0 (by decide), h20]; simp
  have z21 : (hneg 2 s5).1 2 1 = 0 := by rw [hneg_fst, u1 2 1 (by decide), h21]; simp
  have j1 : ∀ j, (hred 2 2 0 (hneg 2 s5)).1 1 j = s4.1 1 j - (s4.1 1 2 / (hneg 2 s5).1 2 2) * (hneg 2 s5).1 2 j := fun j => by rw [y3, if_pos (by decide), hneg_row (a := 1) (by decide), hneg_row (a := 1) (by decide), u1 1 _ (by decide), u1 1 _ (by decide)]
  have j0 : ∀ j, (hred 2 2 0 (hneg 2 s5)).1 0 j = s5.1 0 j - (s5.1 0 2 / (hneg 2 s5).1 2 2) * (hneg 2 s5).1 2 j := fun j => by rw [y3, if_pos (by decide), hneg_row (a := 0) (by decide), hneg_row (a := 0) (by decide)]
  unfold isH m3
  dsimp only
  have k00 : (hred 2 2 0 (hneg 2 s5)).1 0 0 = s2.1 0 0 := by rw [j0, z20, v00]; simp
  have k01 : (hred 2 2 0 (hneg 2 s5)).1 0 1 = s2.1 0 1 % s4.1 1 1 := by rw [j0, z21, v01]; simp
  have k02 : (hred 2 2 0 (hneg 2 s5)).1 0 2 = s5.1 0 2 % (hneg 2 s5).1 2 2 := by rw [j0, Int.emod_def, Int.mul_comm]
  have k10 : (hred 2 2 0 (hneg 2 s5)).1 1 0 = 0 := by rw [j1, z20, h10]; simp
  have k11 : (hred 2 2 0 (hneg 2 s5)).1 1 1 = s4.1 1 1 := by rw [j1, z21]; simp
  have k12 : (hred 2 2 0 (hneg 2 s5)).1 1 2 = s4.1 1 2 % (hneg 2 s5).1 2 2 := by rw [j1, Int.emod_def, Int.mul_comm]
  have k20 : (hred 2 2 0 (hneg 2 s5)).1 2 0 = 0 := by rw [j2, z20]
  have k21 : (hred 2 2 0 (hneg 2 s5)).1 2 1 = 0 := by rw [j2, z21]
  have k22 : (hred 2 2 0 (hneg 2 s5)).1 2 2 = (hneg 2 s5).1 2 2 := j2 2
  rw [k00, k01, k02, k10, k11, k12, k20, k21, k22]
  have np : (hneg 2 s5).1 2 2 ≠ 0 := by omega
  have np1 : s4.1 1 1 ≠ 0 := by omega
  exact ⟨rfl, rfl, rfl, n3, m3', x3, ⟨Int.emod_nonneg _ np1, Int.emod_lt_of_pos _ m3'⟩, ⟨Int.emod_nonneg _ np, Int.emod_lt_of_pos _ x3⟩, ⟨Int.emod_nonneg _ np, Int.emod_lt_of_pos _ x3⟩⟩
