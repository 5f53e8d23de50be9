set_option maxRecDepth 100000
/-! sums of points of both: six rows, one form -/
theorem heu_no {c k : Nat} {s : HS} (h : bel s.1 c (2 - c) (c + 1) = false) : heu c (k + 1) s = s := by rw [heu, if_neg (by rw [h]; decide)]
theorem hrun_tri {N : Mi} {X Y : Nat} (h10 : N 1 0 = 0) (h20 : N 2 0 = 0) (h21 : N 2 1 = 0) (p0 : N 0 0 ≠ 0) (p1 : N 1 1 ≠ 0) (p2 : N 2 2 ≠ 0) (b0 : ∀ j, j < 3 → (N 0 j).natAbs ≤ X) (b11 : (N 1 1).natAbs ≤ Y) (b12 : (N 1 2).natAbs ≤ Y) (b22 : (N 2 2).natAbs ≤ Y) (hY : Y < 2 ^ 63) (hXY : X + X * Y < 2 ^ 63) : runOk 100 (N, []) ∧ isH (m3 (hrun 100 (N, [])).1) ∧ eqL (m3 N) (m3 (hrun 100 (N, [])).1) := by
  have hX : X < 2 ^ 63 := by omega
  have e0 : heu 0 100 (N, []) = (N, []) := heu_no (k := 99) (by show bel N 0 2 1 = false; unfold bel bel bel; rw [if_pos h10, if_pos h20])
  obtain ⟨n1, n2⟩ := hneg_eqL (c := 0) (by decide) (N, [])
  have n3 := hneg_pos (c := 0) (s := (N, [])) p0
  have na : ∀ a b, ((hneg 0 (N, [])).1 a b).natAbs = (N a b).natAbs := fun a b => hneg_abs 0 (N, []) a b
  have nr : ∀ a, a ≠ 0 → ∀ b, (hneg 0 (N, [])).1 a b = N a b := fun a h b => hneg_row (s := (N, [])) h b
  have ok0 : clrOk 0 100 (N, []) := by
    unfold clrOk
    rw [e0]
    refine ⟨⟨fun r h1 h2 => ?_, .inl (by show bel N 0 2 1 = false; unfold bel bel bel; rw [if_pos h10, if_pos h20])⟩, by show 0 ≤ 390; omega, n3, rg_nat.mpr (by rw [na]; have := b0 0 (by decide); omega), fun r h => by omega⟩
    rcases c3 h2 with rfl | rfl | rfl
    · exact rg_nat.mpr (by have := b0 0 (by decide); show (N 0 0).natAbs < _; omega)
    · show rg (N 1 0); rw [h10]; exact rg_0
    · show rg (N 2 0); rw [h20]; exact rg_0
  have c0 : hclr 0 100 (N, []) = hneg 0 (N, []) := by unfold hclr; rw [e0]; rfl
  have l0 : (hneg 0 (N, [])).2.length ≤ 1 := by simpa using n2
  generalize hs2 : hneg 0 (N, []) = s2 at *
  have k10 : s2.1 1 0 = 0 := by rw [nr 1 (by decide)]; exact h10
  have k20 : s2.1 2 0 = 0 := by rw [nr 2 (by decide)]; exact h20
  have k21 : s2.1 2 1 = 0 := by rw [nr 2 (by decide)]; exact h21
  have bl1 : bel s2.1 1 (2 - 1) (1 + 1) = false := by show bel s2.1 1 1 2 = false; unfold bel bel; rw [if_pos k21]
  have e1 : heu 1 100 s2 = s2 := heu_no (k := 99) bl1
  have q11 : s2.1 1 1 ≠ 0 := by rw [nr 1 (by decide)]; exact p1
  obtain ⟨m1, m2⟩ := hneg_eqL (c := 1) (by decide) s2
  have m3' := hneg_pos q11
  have ma : ∀ a b, ((hneg 1 s2).1 a b).natAbs = (N a b).natAbs := fun a b => by rw [hneg_abs, na]
  have mr : ∀ a, a ≠ 1 → ∀ b, (hneg 1 s2).1 a b = s2.1 a b := fun a h b => hneg_row h b
  have mz : (hneg 1 s2).1 1 0 = 0 := by have := ma 1 0; rw [h10] at this; simpa using this
  have ok1 : clrOk 1 100 (hclr 0 100 (N, [])) := by
    rw [c0]
    unfold clrOk
    rw [e1]
    refine ⟨⟨fun r h1 h2 => rg_nat.mpr ?_, .inl bl1⟩, by omega, m3', rg_nat.mpr (by rw [ma]; omega), fun r h => rg_nat.mpr ?_⟩
    · rw [na]
      rcases (show r = 1 ∨ r = 2 by omega) with rfl | rfl
      · omega
      · rw [h21]; simp
    · have : r = 0 := by omega
      subst this
      rw [ma]; have := b0 1 (by decide); omega
  have c1 : hclr 1 100 (hclr 0 100 (N, [])) = hred 1 1 0 (hneg 1 s2) := by rw [c0]; unfold hclr; rw [e1]
  have l1 : (hneg 1 s2).2.length ≤ 2 := by omega
  generalize hs4 : hneg 1 s2 = s4 at *
  obtain ⟨t1, t2⟩ := hred_eqL (c := 1) (by decide) 1 0 s4 (by decide)
  have t3 := hred_fst 1 1 0 s4 (by decide)
  have u1 : ∀ i j, 1 ≤ i → (hred 1 1 0 s4).1 i j = s4.1 i j := fun i j h => by rw [t3, if_neg (by omega)]
  have u0 : ∀ j, (hred 1 1 0 s4).1 0 j = s4.1 0 j - (s4.1 0 1 / s4.1 1 1) * s4.1 1 j := fun j => by rw [t3, if_pos (by decide)]
  have u02 : ((hred 1 1 0 s4).1 0 2).natAbs < 2 ^ 63 := by
    rw [u0]
    have g1 : (s4.1 0 2).natAbs ≤ X := by rw [ma]; exact b0 2 (by decide)
    have g2 : (s4.1 0 1 / s4.1 1 1).natAbs ≤ X := Nat.le_trans (ediv_ab m3') (by rw [ma]; exact b0 1 (by decide))
    have g3 : ((s4.1 0 1 / s4.1 1 1) * s4.1 1 2).natAbs ≤ X * Y := by rw [Int.natAbs_mul]; exact Nat.mul_le_mul g2 (by rw [ma]; exact b12)
    omega
  have v01 : (hred 1 1 0 s4).1 0 1 = s4.1 0 1 % s4.1 1 1 := by rw [u0, Int.emod_def, Int.mul_comm]
  have v00 : (hred 1 1 0 s4).1 0 0 = s4.1 0 0 := by rw [u0, mz]; simp
  have z20 : s4.1 2 0 = 0 := by rw [mr 2 (by decide)]; exact k20
  have z21 : s4.1 2 1 = 0 := by rw [mr 2 (by decide)]; exact k21
  have z22 : s4.1 2 2 ≠ 0 := by have := ma 2 2; intro e; rw [e] at this; simp at this; omega
  have l5 : (hred 1 1 0 s4).2.length ≤ 3 := by omega
  generalize hs5 : hred 1 1 0 s4 = s5 at *
  have hb2 : bel s5.1 2 (2 - 2) (2 + 1) = false := rfl
  have e2 : heu 2 100 s5 = s5 := heu_no (k := 99) hb2
  have w22 : s5.1 2 2 ≠ 0 := by rw [u1 2 2 (by decide)]; exact z22
  obtain ⟨x1, x2⟩ := hneg_eqL (c := 2) (by decide) s5
  have x3 := hneg_pos w22
  have y22 : ((hneg 2 s5).1 2 2).natAbs ≤ Y := by rw [hneg_abs, u1 2 2 (by decide), ma]; exact b22
  have ok2 : clrOk 2 100 (hclr 1 100 (hclr 0 100 (N, []))) := by
    rw [c1]
    unfold clrOk
    rw [e2]
    refine ⟨⟨fun r h1 h2 => rg_nat.mpr ?_, .inl hb2⟩, by omega, x3, rg_nat.mpr (by omega), fun r h => rg_nat.mpr ?_⟩
    · have : r = 2 := by omega
      subst this
      rw [u1 2 2 (by decide), ma]; omega
    · rw [hneg_row (by omega)]
      rcases (show r = 0 ∨ r = 1 by omega) with rfl | rfl
      · exact u02
      · rw [u1 1 2 (by decide), ma]; omega
  have e3 : hrun 100 (N, []) = hred 2 2 0 (hneg 2 s5) := by unfold hrun; rw [c1]; unfold hclr; rw [e2]
  obtain ⟨y1, y2⟩ := hred_eqL (c := 2) (by decide) 2 0 (hneg 2 s5) (by decide)
  have y3 := hred_fst 2 2 0 (hneg 2 s5) (by decide)
  rw [e3]
  have qN : eqL (m3 N) (m3 s2.1) := n1
  refine ⟨⟨ok0, ok1, ok2⟩, ?_, ((qN.tr m1).tr t1).tr (x1.tr y1)⟩
  have j2 : ∀ j, (hred 2 2 0 (hneg 2 s5)).1 2 j = (hneg 2 s5).1 2 j := fun j => by rw [y3, if_neg (by decide)]
  have z20' : (hneg 2 s5).1 2 0 = 0 := by rw [hneg_fst, u1 2 0 (by decide), z20]; simp
  have z21' : (hneg 2 s5).1 2 1 = 0 := by rw [hneg_fst, u1 2 1 (by decide), z21]; simp
  have j1 : ∀ j, (hred 2 2 0 (hneg 2 s5)).1 1 j = s4.1 1 j - (s4.1 1 2 / (hneg 2 s5).1 2 2) * (hneg 2 s5).1 2 j := fun j => by rw [y3, if_pos (by decide), hneg_row (a := 1) (by decide), hneg_row (a := 1) (by decide), u1 1 _ (by decide), u1 1 _ (by decide)]
  have j0 : ∀ j, (hred 2 2 0 (hneg 2 s5)).1 0 j = s5.1 0 j - (s5.1 0 2 / (hneg 2 s5).1 2 2) * (hneg 2 s5).1 2 j := fun j => by rw [y3, if_pos (by decide), hneg_row (a := 0) (by decide), hneg_row (a := 0) (by decide)]
  unfold isH m3
  dsimp only
  have r00 : (hred 2 2 0 (hneg 2 s5)).1 0 0 = s2.1 0 0 := by rw [j0, z20', v00, mr 0 (by decide)]; simp
  have r01 : (hred 2 2 0 (hneg 2 s5)).1 0 1 = s4.1 0 1 % s4.1 1 1 := by rw [j0, z21', v01]; simp
  have r02 : (hred 2 2 0 (hneg 2 s5)).1 0 2 = s5.1 0 2 % (hneg 2 s5).1 2 2 := by rw [j0, Int.emod_def, Int.mul_comm]
  have r10 : (hred 2 2 0 (hneg 2 s5)).1 1 0 = 0 := by rw [j1, z20', mz]; simp
  have r11 : (hred 2 2 0 (hneg 2 s5)).1 1 1 = s4.1 1 1 := by rw [j1, z21']; simp
  have r12 : (hred 2 2 0 (hneg 2 s5)).1 1 2 = s4.1 1 2 % (hneg 2 s5).1 2 2 := by rw [j1, Int.emod_def, Int.mul_comm]
  have r20 : (hred 2 2 0 (hneg 2 s5)).1 2 0 = 0 := by rw [j2, z20']
  have r21 : (hred 2 2 0 (hneg 2 s5)).1 2 1 = 0 := by rw [j2, z21']
  have r22 : (hred 2 2 0 (hneg 2 s5)).1 2 2 = (hneg 2 s5).1 2 2 := j2 2
  rw [r00, r01, r02, r10, r11, r12, r20, r21, r22]
  have np : (hneg 2 s5).1 2 2 ≠ 0 := by omega
  have np1 : s4.1 1 1 ≠ 0 := by omega
  exact ⟨rfl, rfl, rfl, n3, m3', x3, ⟨Int.emod_nonneg _ np1, Int.emod_lt_of_pos _ m3'⟩, ⟨Int.emod_nonneg _ np, Int.emod_lt_of_pos _ x3⟩, ⟨Int.emod_nonneg _ np, Int.emod_lt_of_pos _ x3⟩⟩
def sixR (P Q : Mi) : Mi := fun r j => if r < 3 then P r j else Q (r - 3) j
def gB : Nat := 2 ^ 44
def six1 (P Q : Mi) : Mi := ggo 0 gB (sixR P Q)
def six2 (P Q : Mi) : Mi := ggo 1 gB (six1 P Q)
def six3 (P Q : Mi) : Mi := ggo 2 gB (six2 P Q)
theorem sp_six {P Q : Mi} (w : V3) : sp 6 (sixR P Q) w ↔ inY (m3 P) (m3 Q) w := by
  have r1 : ∀ i, i < 3 → rw3 (sixR P Q) i = rw3 P i := fun i hi => by unfold rw3 sixR; simp [hi]
  have r2 : ∀ i, 3 ≤ i → rw3 (sixR P Q) i = rw3 Q (i - 3) := fun i hi => by unfold rw3 sixR; simp [show ¬ i < 3 by omega]
  constructor
  · intro h
    refine h _ ⟨(0, 0, 0), (0, 0, 0), inL_z _, inL_z _, by simp [vad]⟩ ?_ ?_ (fun i hi => ?_)
    · rintro u v ⟨a, b, ha, hb, rfl⟩ ⟨c, d, hc, hd, rfl⟩
      exact ⟨vad a c, vad b d, inL_add ha hc, inL_add hb hd, by simp only [vad, Prod.mk.injEq]; refine ⟨?_, ?_, ?_⟩ <;> omega⟩
    · rintro k u ⟨a, b, ha, hb, rfl⟩
      exact ⟨vsm k a, vsm k b, inL_sm k ha, inL_sm k hb, by simp only [vad, vsm, Prod.mk.injEq]; refine ⟨?_, ?_, ?_⟩ <;> grind⟩
    · by_cases h3 : i < 3
      · rw [r1 i h3]; exact inY_l (inL_row P h3)
      · rw [r2 i (by omega)]; exact inY_r (inL_row Q (by omega))
  · rintro ⟨u, v, hu, hv, rfl⟩
    refine sp_add (sp_sub (fun i hi => ?_) (sp_3.mpr hu)) (sp_sub (fun i hi => ?_) (sp_3.mpr hv))
    · rw [← r1 i hi]; exact sp_row (by omega)
    · have := r2 (i + 3) (by omega)
      rw [Nat.add_sub_cancel] at this
      rw [← this]; exact sp_row (by omega)
theorem join_ok {P Q : Mi} {n : Int} (h : PQ (m3 P) (m3 Q) n) : ggOk 0 gB (sixR P Q) ∧ ggOk 1 gB (six1 P Q) ∧ ggOk 2 gB (six2 P Q) ∧ runOk 100 (six3 P Q, []) ∧ isH (m3 (hrun 100 (six3 P Q, [])).1) ∧ ∀ w, inL (m3 (hrun 100 (six3 P Q, [])).1) w ↔ inY (m3 P) (m3 Q) w := by
  have hn := h.n
  have nn : n * n ≤ 36 * 36 := Int.mul_le_mul hn.2 hn.2 (by omega) (by decide)
  have nn0 : 0 < n * n := Int.mul_pos (by omega) (by omega)
  have bP : bdM 1247 (m3 P) := sm3_bd h.sm (by omega)
  have bQ : bdM 1247 (m3 Q) := sm3_bd h.sw.sm (by omega)
  have hsq : ∀ r, r < 6 → sq3 (rw3 (sixR P Q) r) ≤ 1555200 := fun r hr => by
    obtain ⟨a1, a2, a3⟩ := h.sm
    obtain ⟨b1, b2, b3⟩ := h.sw.sm
    have k : ∀ v, sq3 v ≤ 1200 * (n * n) → sq3 v ≤ 1555200 := fun v hv => by omega
    rcases (show r = 0 ∨ r = 1 ∨ r = 2 ∨ r = 3 ∨ r = 4 ∨ r = 5 by omega) with rfl | rfl | rfl | rfl | rfl | rfl
    · exact k _ a1
    · exact k _ a2
    · exact k _ a3
    · exact k _ b1
    · exact k _ b2
    · exact k _ b3
  have e6 : ∀ r j, r < 6 → j < 3 → (sixR P Q r j).natAbs ≤ 1247 := fun r j hr hj => by
    unfold sixR
    split
    · rename_i h3; exact bdM_at bP h3 hj
    · exact bdM_at bQ (by omega) hj
  have G0 : GI 0 1555200 (sixR P Q) := by
    refine ⟨fun i j _ hi hj => by have := e6 i j hi hj; omega, fun i k j _ hi _ hk hj => ?_⟩
    have q1 := hsq i hi
    have q2 := hsq k hk
    unfold sq3 rw3 at q1 q2
    dsimp only at q1 q2
    have a0 := sq_nonneg (sixR P Q i 0)
    have a1 := sq_nonneg (sixR P Q i 1)
    have a2 := sq_nonneg (sixR P Q i 2)
    have b0 := sq_nonneg (sixR P Q k 0)
    have b1 := sq_nonneg (sixR P Q k 1)
    have b2 := sq_nonneg (sixR P Q k 2)
    rcases c3 hj with rfl | rfl | rfl
    · rw [Int.mul_comm, Int.sub_self]; simp
    · have := lag (x1 := sixR P Q i 1) (x2 := sixR P Q i 0) (y1 := sixR P Q k 1) (y2 := sixR P Q k 0) (S := 1555200) (by omega) (by omega)
      rw [Int.mul_comm (sixR P Q k 1)]; exact this
    · have := lag (x1 := sixR P Q i 2) (x2 := sixR P Q i 0) (y1 := sixR P Q k 2) (y2 := sixR P Q k 0) (S := 1555200) (by omega) (by omega)
      rw [Int.mul_comm (sixR P Q k 2)]; exact this
  obtain ⟨E, _, e1, _, i1, _⟩ := h.mul2
  have sE : ∀ j, j < 3 → sp 6 (sixR P Q) (ev E j) := fun j hj => (sp_six _).mpr (inY_l (i1 j hj))
  -- column 0
  have x0 : ∃ b, b < 6 ∧ sixR P Q b 0 ≠ 0 := by
    rcases Classical.em (∃ b, b < 6 ∧ sixR P Q b 0 ≠ 0) with h | h
    · exact h
    · exfalso
      have := sE 0 (by decide) (fun w => w.1 = 0) rfl (fun u v hu hv => by show u.1 + v.1 = 0; omega) (fun k u hu => by show k * u.1 = 0; rw [hu]; simp) (fun i hi => Classical.byContradiction (fun hh => h ⟨i, hi, hh⟩))
      have e : E = 0 := this
      omega
  obtain ⟨b0, hb0, hz0⟩ := x0
  obtain ⟨g1, g2, g3, g4, g5, g6, g7⟩ := ggo_ok (c := 0) (X := 1555200) (by decide) (by decide) gB (sixR P Q) b0 G0 (fun i j _ _ hj => by omega) (by omega) hb0 hz0 (Nat.le_trans (e6 b0 0 hb0 (by decide)) (by decide))
  change GI 0 1555200 (six1 P Q) at g2
  change ∀ i, 0 < i → i < 6 → six1 P Q i 0 = 0 at g4
  change six1 P Q 0 0 ≠ 0 at g6
  change ∀ w, sp 6 (six1 P Q) w ↔ sp 6 (sixR P Q) w at g7
  -- column 1
  have x1 : ∃ b, 1 ≤ b ∧ b < 6 ∧ six1 P Q b 1 ≠ 0 := by
    rcases Classical.em (∃ b, 1 ≤ b ∧ b < 6 ∧ six1 P Q b 1 ≠ 0) with h | h
    · exact h
    · exfalso
      have := (g7 _).mpr (sE 1 (by decide)) (fun w => six1 P Q 0 0 * w.2.1 = w.1 * six1 P Q 0 1) (by simp) (fun u v hu hv => by show _ * (u.2.1 + v.2.1) = (u.1 + v.1) * _; rw [Int.mul_add, Int.add_mul, hu, hv]) (fun k u hu => by show _ * (k * u.2.1) = k * u.1 * _; rw [Int.mul_left_comm, hu, Int.mul_assoc]) (fun i hi => by
        by_cases e : i = 0
        · subst e; rfl
        · show _ * six1 P Q i 1 = six1 P Q i 0 * _
          rw [g4 i (by omega) hi, Classical.byContradiction (fun hh => h ⟨i, by omega, hi, hh⟩)]; simp)
      have e : six1 P Q 0 0 * E = 0 * six1 P Q 0 1 := this
      rw [Int.zero_mul] at e
      rcases Int.mul_eq_zero.mp e with e | e
      · exact g6 e
      · omega
  obtain ⟨b1, hb1, hb1', hz1⟩ := x1
  have G1 : GI 1 4837294080000 (six1 P Q) := by
    refine ⟨fun i j h1 hi hj => by have := g2.1 i j (by omega) hi hj; omega, fun i k j h1 hi h2 hk hj => ?_⟩
    have q1 := g2.1 i j (by omega) hi hj
    have q2 := g2.1 k 1 (by omega) hk (by decide)
    have q3 := g2.1 k j (by omega) hk hj
    have q4 := g2.1 i 1 (by omega) hi (by decide)
    have p1 : (six1 P Q i j * six1 P Q k 1).natAbs ≤ 1555200 * 1555200 := by rw [Int.natAbs_mul]; exact Nat.mul_le_mul q1 q2
    have p2 : (six1 P Q k j * six1 P Q i 1).natAbs ≤ 1555200 * 1555200 := by rw [Int.natAbs_mul]; exact Nat.mul_le_mul q3 q4
    omega
  obtain ⟨k1, k2, k3, k4, k5, k6, k7⟩ := ggo_ok (c := 1) (X := 4837294080000) (by decide) (by decide) gB (six1 P Q) b1 G1 (fun i j h1 h2 hj => by rw [show j = 0 by omega]; exact g4 i (by omega) h2) hb1 hb1' hz1 (Nat.le_trans (G1.1 b1 1 hb1 hb1' (by decide)) (by decide))
  change GI 1 4837294080000 (six2 P Q) at k2
  change ∀ i j, 1 ≤ i → i < 6 → j < 1 → six2 P Q i j = 0 at k3
  change ∀ i, 1 < i → i < 6 → six2 P Q i 1 = 0 at k4
  change ∀ i, i < 1 → ∀ j, six2 P Q i j = six1 P Q i j at k5
  change six2 P Q 1 1 ≠ 0 at k6
  change ∀ w, sp 6 (six2 P Q) w ↔ sp 6 (six1 P Q) w at k7
  -- column 2
  have x2 : ∃ b, 2 ≤ b ∧ b < 6 ∧ six2 P Q b 2 ≠ 0 := by
    rcases Classical.em (∃ b, 2 ≤ b ∧ b < 6 ∧ six2 P Q b 2 ≠ 0) with h | h
    · exact h
    · exfalso
      have := (k7 _).mpr ((g7 _).mpr (sE 2 (by decide))) (fun w => dt (rw3 (six2 P Q) 0) (rw3 (six2 P Q) 1) w = 0) (by simp [dt]) (fun u v hu hv => by
          have e : dt (rw3 (six2 P Q) 0) (rw3 (six2 P Q) 1) (vad u v) = dt (rw3 (six2 P Q) 0) (rw3 (six2 P Q) 1) u + dt (rw3 (six2 P Q) 0) (rw3 (six2 P Q) 1) v := by simp only [dt, vad]; grind
          show dt _ _ (vad u v) = 0
          rw [e, hu, hv]; rfl) (fun k u hu => by
          have e : dt (rw3 (six2 P Q) 0) (rw3 (six2 P Q) 1) (vsm k u) = k * dt (rw3 (six2 P Q) 0) (rw3 (six2 P Q) 1) u := by simp only [dt, vsm]; grind
          show dt _ _ (vsm k u) = 0
          rw [e, hu]; simp) (fun i hi => by
          by_cases e0 : i = 0
          · subst e0; simp only [dt]; grind
          · by_cases e1 : i = 1
            · subst e1; simp only [dt]; grind
            · have z0 := k3 i 0 (by omega) hi (by decide)
              have z1 := k4 i (by omega) hi
              have z2 := Classical.byContradiction (fun hh => h ⟨i, by omega, hi, hh⟩)
              simp [dt, rw3, z0, z1, z2])
      have e : dt (rw3 (six2 P Q) 0) (rw3 (six2 P Q) 1) (ev E 2) = 0 := this
      have e2 : dt (rw3 (six2 P Q) 0) (rw3 (six2 P Q) 1) (ev E 2) = E * (six2 P Q 0 0 * six2 P Q 1 1) := by
        simp [dt, rw3, ev, k3 1 0 (by decide) (by decide) (by decide)]; grind
      rw [e2, k5 0 (by decide)] at e
      rcases Int.mul_eq_zero.mp e with e | e
      · omega
      · rcases Int.mul_eq_zero.mp e with e | e
        · exact g6 e
        · exact k6 e
  obtain ⟨b2, hb2, hb2', hz2⟩ := x2
  have G2 : GI 2 4837294080000 (six2 P Q) := by
    refine ⟨fun i j h1 hi hj => k2.1 i j (by omega) hi hj, fun i k j h1 hi h2 hk hj => ?_⟩
    rcases c3 hj with rfl | rfl | rfl
    · rw [k3 i 0 (by omega) hi (by decide), k3 k 0 (by omega) hk (by decide)]; simp
    · rw [k4 i (by omega) hi, k4 k (by omega) hk]; simp
    · rw [Int.mul_comm, Int.sub_self]; simp
  obtain ⟨q1, q2, q3, q4, q5, q6, q7⟩ := ggo_ok (c := 2) (X := 4837294080000) (by decide) (by decide) gB (six2 P Q) b2 G2 (fun i j h1 h2 hj => by
      rcases (show j = 0 ∨ j = 1 by omega) with rfl | rfl
      · exact k3 i 0 (by omega) h2 (by decide)
      · exact k4 i (by omega) h2) hb2 hb2' hz2 (Nat.le_trans (G2.1 b2 2 hb2 hb2' (by decide)) (by decide))
  change GI 2 4837294080000 (six3 P Q) at q2
  change ∀ i j, 2 ≤ i → i < 6 → j < 2 → six3 P Q i j = 0 at q3
  change ∀ i, 2 < i → i < 6 → six3 P Q i 2 = 0 at q4
  change ∀ i, i < 2 → ∀ j, six3 P Q i j = six2 P Q i j at q5
  change six3 P Q 2 2 ≠ 0 at q6
  change ∀ w, sp 6 (six3 P Q) w ↔ sp 6 (six2 P Q) w at q7
  have r0 : ∀ j, six3 P Q 0 j = six1 P Q 0 j := fun j => by rw [q5 0 (by decide), k5 0 (by decide)]
  have r1 : ∀ j, six3 P Q 1 j = six2 P Q 1 j := fun j => q5 1 (by decide) j
  obtain ⟨t1, t2, t3⟩ := hrun_tri (N := six3 P Q) (X := 1555200) (Y := 4837294080000) (by rw [r1]; exact k3 1 0 (by decide) (by decide) (by decide)) (q3 2 0 (by decide) (by decide) (by decide)) (q3 2 1 (by decide) (by decide) (by decide)) (by rw [r0]; exact g6) (by rw [r1]; exact k6) q6 (fun j hj => by rw [r0]; exact g2.1 0 j (by decide) (by decide) hj) (by rw [r1]; exact k2.1 1 1 (by decide) (by decide) (by decide)) (by rw [r1]; exact k2.1 1 2 (by decide) (by decide) (by decide)) (q2.1 2 2 (by decide) (by decide) (by decide)) (by decide) (by decide)
  refine ⟨g1, k1, q1, t1, t2, fun w => ?_⟩
  rw [← t3 w, ← sp_3, ← sp_six, ← g7, ← k7, ← q7]
  constructor
  · exact sp_sub (fun i hi => sp_row (by omega))
  · refine sp_sub (fun i hi => ?_)
    by_cases h3 : i < 3
    · exact sp_row h3
    · have e : rw3 (six3 P Q) i = (0, 0, 0) := by
        unfold rw3
        rw [q3 i 0 (by omega) hi (by decide), q3 i 1 (by omega) hi (by decide), q4 i (by omega) hi]
      rw [e]; exact sp_0
