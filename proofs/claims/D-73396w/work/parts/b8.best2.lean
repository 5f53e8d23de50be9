/-! the best plane: the component's loops, the twin's -/
set_option maxRecDepth 100000
def LfN (N1 N2 : Mi) (A B C : Nat) : Nat := gp N2 (pJ A B C) / gp N1 (pJ A B C)
def BC (LS : LSt) (x PL : Nat) (R1 R2 : RA) (N1 N2 : Mi) (h : CH) : Prop := wfh h ∧ kok h ∧ QP h x PL LS ∧ isN h R1 N1 ∧ isN h R2 N2
theorem isN.pl {h h1 : CH} {PL k n : Nat} {R : RA} {N : Mi} (hR : isN h R N) {p : Nat → Int32} (cp : cm h PL = some (.inr (0, 3, .inl p))) (m : Mod (· = PL) k n h h1) (w : wfh h) : isN h1 R N := hR.mod m w (fun e => by have h1 := hR.1; have e' : R.1 = PL := e; rw [e', cp] at h1; cases h1) (fun e => by have h1 := hR.2.1; have e' : R.2.1 = PL := e; rw [e', cp] at h1; cases h1) (fun i hi e => by have h1 := hR.2.2.1 i hi; have e' : R.2.2 i = PL := e; rw [e', cp] at h1; cases h1)
theorem X0_b96 {f : Nat} (hf : 4 ≤ f) {LS : LSt} {x PL : Nat} {R1 R2 : RA} {N1 N2 : Mi} {b1 b2 : Nat} (e1 : ∀ i j, i < 3 → j < 3 → (N1 i j).natAbs ≤ b1) (e2 : ∀ i j, i < 3 → j < 3 → (N2 i j).natAbs ≤ b2) (l1 : 27 * b1 < 2 ^ 48) (l2 : 27 * b2 < 2 ^ 48) (z1 : ∀ A B C, A < 7 → B < 7 → C < 7 → nrB A B C = true → 0 < gp N1 (pJ A B C)) {k76 : CH → Nat → Nat → Nat → Int64 → Int32 → Int32 → Option (Int32 × CH)} {k86 : CH → Nat → Nat → Nat → Int64 → Int32 → Int32 → Int32 → Option (Int32 × CH)} {A B : Nat} (hA : A < 7) (hB : B < 7) : ∀ k n C h s, C + k = 7 → k < n → BC LS x PL R1 R2 N1 N2 h → s.1 < 2 ^ 48 → ∃ h', m_X0_best_96 f k76 k86 n h x R1.1 R2.1 (li (s.1 : Nat)) s.2 (vJ A) (vJ B) (vJ C) = m_X0_best_194 f k76 k86 h' x R1.1 R2.1 (li ((brn (LfN N1 N2) k (49 * A + 7 * B + C) s).1 : Nat)) (brn (LfN N1 N2) k (49 * A + 7 * B + C) s).2 (vJ A) (vJ B) ∧ BC LS x PL R1 R2 N1 N2 h' ∧ Mod (· = PL) 0 0 h h' ∧ (brn (LfN N1 N2) k (49 * A + 7 * B + C) s).1 < 2 ^ 48 := by
  intro k
  induction k with
  | zero =>
    intro n C h s hC hn H hs
    obtain ⟨n, rfl⟩ : ∃ z, n = z + 1 := ⟨n - 1, by omega⟩
    have : C = 7 := by omega
    subst this
    refine ⟨h, ?_, H, Mod.rf H.1, hs⟩
    rw [m_X0_best_96, if_pos vJ_7]
    rfl
  | succ k ih =>
    intro n C h s hC hn H hs
    obtain ⟨n, rfl⟩ : ∃ z, n = z + 1 := ⟨n - 1, by omega⟩
    have C7 : C < 7 := by omega
    have H' := H
    obtain ⟨w, kk, P, r1, r2⟩ := H
    have Cv := P.cv w kk
    rw [m_X0_best_96, if_neg (vJ_lt C C7), X0_isNormal hA hB C7, bd_some]
    have eb : brn (LfN N1 N2) (k + 1) (49 * A + 7 * B + C) s = brn (LfN N1 N2) k (49 * A + 7 * B + (C + 1)) (bpl (LfN N1 N2) (49 * A + 7 * B + C) s) := rfl
    rw [eb, bpl_abc hB C7]
    have go : ∀ h2 s2, BC LS x PL R1 R2 N1 N2 h2 → s2.1 < 2 ^ 48 → Mod (· = PL) 0 0 h h2 → ∃ h', m_X0_best_188 f k76 k86 (m_X0_best_96 f k76 k86 n) h2 x R1.1 R2.1 (li (s2.1 : Nat)) s2.2 (vJ A) (vJ B) (vJ C) = m_X0_best_194 f k76 k86 h' x R1.1 R2.1 (li ((brn (LfN N1 N2) k (49 * A + 7 * B + (C + 1)) s2).1 : Nat)) (brn (LfN N1 N2) k (49 * A + 7 * B + (C + 1)) s2).2 (vJ A) (vJ B) ∧ BC LS x PL R1 R2 N1 N2 h' ∧ Mod (· = PL) 0 0 h h' ∧ (brn (LfN N1 N2) k (49 * A + 7 * B + (C + 1)) s2).1 < 2 ^ 48 := fun h2 s2 H2 hs2 m2 => by
      obtain ⟨h', g1, g2, g3, g4⟩ := ih n (C + 1) h2 s2 (by omega) (by omega) H2 hs2
      refine ⟨h', ?_, g2, m2.tr g3 (fun _ _ => id), g4⟩
      unfold m_X0_best_188
      rw [nmv_eq, vJ_s]
      exact g1
    cases hN : nrB A B C with
    | false =>
      rw [iff0, if_neg (by decide)]
      exact go h s H' hs (Mod.rf w)
    | true =>
      obtain ⟨h5, p, i1, i2, i3, i4, i5, i6⟩ := X0_isPlane (f := f) P w (vJ A) (vJ B) (vJ C)
      have hp := nrB_pl hA hB C7 hN
      rw [hp] at i1
      obtain ⟨pb, pz⟩ := isPl_ok hp i4 i5 i6
      obtain ⟨p0, cp0⟩ := P.2.1
      obtain ⟨P5, C5⟩ := P.md i2 w kk i3
      have q1 := r1.pl cp0 i2 w
      have q2 := r2.pl cp0 i2 w
      have H5 : BC LS x PL R1 R2 N1 N2 h5 := ⟨i2.wf, kok.mod i2 kk, P5, q1, q2⟩
      rw [ift1, gd_of Cv.isC, i1, bd2_some]
      obtain ⟨⟨fs, x1, x2⟩, _, _⟩ := P5
      unfold m_X0_best_124
      have ac2 : m_X2_across f h5 R2.1 PL = some (li (gp N2 p : Nat), h5) := X2_across (f := f) (by omega) q2 i3 (fun i hi => Nat.lt_of_le_of_lt (acr_le e2 pb hi) l2)
      have ac1 : m_X2_across f h5 R1.1 PL = some (li (gp N1 p : Nat), h5) := X2_across (f := f) (by omega) q1 i3 (fun i hi => Nat.lt_of_le_of_lt (acr_le e1 pb hi) l1)
      rw [nift1, oR_c (k := 6) (x := PL) x1 x2, bd_some, gd_of (isC_R q2), ac2, bd2_some]
      unfold m_X0_best_139
      rw [oR_c (k := 6) (x := PL) x1 x2, bd_some, gd_of (isC_R q1), ac1, bd2_some]
      unfold m_X0_best_148
      have gp1 : gp N1 p = gp N1 (pJ A B C) := gp_p N1 i4 i5 i6
      have gp2 : gp N2 p = gp N2 (pJ A B C) := gp_p N2 i4 i5 i6
      have g1' := gp_le e1 pb
      have g2' := gp_le e2 pb
      have g0 := z1 A B C hA hB C7 hN
      rw [gp1] at g1' ⊢
      rw [gp2] at g2' ⊢
      have rg1 : rg ((gp N1 (pJ A B C) : Nat) : Int) := rg_nat.mpr (by rw [Int.natAbs_natCast]; omega)
      have rg2 : rg ((gp N2 (pJ A B C) : Nat) : Int) := rg_nat.mpr (by rw [Int.natAbs_natCast]; omega)
      rw [gd_of (nzL_li rg1 (by omega)), nmv_eq, li_div rg2 rg1, tdiv_nat]
      have Lb : LfN N1 N2 A B C < 2 ^ 48 := Nat.lt_of_le_of_lt (Nat.div_le_self _ _) (by omega)
      show ∃ h', (if li (s.1 : Nat) < li (LfN N1 N2 A B C : Nat) then _ else _) = _ ∧ _
      have rs : rg ((s.1 : Nat) : Int) := ⟨by omega, by omega⟩
      have rL : rg ((LfN N1 N2 A B C : Nat) : Int) := ⟨by omega, by omega⟩
      rw [if_pos (rfl : true = true)]
      by_cases hlt : s.1 < LfN N1 N2 A B C
      · rw [if_pos ((li_lt rs rL).mpr (by omega)), nmv_eq, if_pos hlt]
        exact go h5 (LfN N1 N2 A B C, cdJ A B C) H5 Lb i2
      · rw [if_neg (fun e => hlt (by have := (li_lt rs rL).mp e; omega)), if_neg hlt]
        exact go h5 s H5 hs i2
theorem X0_b86 {f : Nat} (hf : 10 ≤ f) {LS : LSt} {x PL : Nat} {R1 R2 : RA} {N1 N2 : Mi} {b1 b2 : Nat} (e1 : ∀ i j, i < 3 → j < 3 → (N1 i j).natAbs ≤ b1) (e2 : ∀ i j, i < 3 → j < 3 → (N2 i j).natAbs ≤ b2) (l1 : 27 * b1 < 2 ^ 48) (l2 : 27 * b2 < 2 ^ 48) (z1 : ∀ A B C, A < 7 → B < 7 → C < 7 → nrB A B C = true → 0 < gp N1 (pJ A B C)) {k76 : CH → Nat → Nat → Nat → Int64 → Int32 → Int32 → Option (Int32 × CH)} {A : Nat} (hA : A < 7) : ∀ k n B h s, B + k = 7 → k < n → BC LS x PL R1 R2 N1 N2 h → s.1 < 2 ^ 48 → ∃ h', m_X0_best_86 f k76 n h x R1.1 R2.1 (li (s.1 : Nat)) s.2 (vJ A) (vJ B) = m_X0_best_200 f k76 h' x R1.1 R2.1 (li ((brn (LfN N1 N2) (7 * k) (49 * A + 7 * B) s).1 : Nat)) (brn (LfN N1 N2) (7 * k) (49 * A + 7 * B) s).2 (vJ A) ∧ BC LS x PL R1 R2 N1 N2 h' ∧ Mod (· = PL) 0 0 h h' ∧ (brn (LfN N1 N2) (7 * k) (49 * A + 7 * B) s).1 < 2 ^ 48 := by
  intro k
  induction k with
  | zero =>
    intro n B h s hB hn H hs
    obtain ⟨n, rfl⟩ : ∃ z, n = z + 1 := ⟨n - 1, by omega⟩
    have : B = 7 := by omega
    subst this
    refine ⟨h, ?_, H, Mod.rf H.1, hs⟩
    rw [m_X0_best_86, if_pos vJ_7]
    rfl
  | succ k ih =>
    intro n B h s hB hn H hs
    obtain ⟨n, rfl⟩ : ∃ z, n = z + 1 := ⟨n - 1, by omega⟩
    have B7 : B < 7 := by omega
    rw [m_X0_best_86, if_neg (vJ_lt B B7)]
    obtain ⟨h2, g1, g2, g3, g4⟩ := X0_b96 (f := f) (by omega) e1 e2 l1 l2 z1 (k76 := k76) (k86 := m_X0_best_86 f k76 n) hA B7 7 f 0 h s rfl (by omega) H hs
    have g1' : m_X0_best_96 f k76 (m_X0_best_86 f k76 n) f h x R1.1 R2.1 (li (s.1 : Nat)) s.2 (vJ A) (vJ B) (-3) = _ := g1
    rw [g1']
    unfold m_X0_best_194
    rw [nmv_eq, vJ_s]
    obtain ⟨h3, q1, q2, q3, q4⟩ := ih n (B + 1) h2 (brn (LfN N1 N2) 7 (49 * A + 7 * B + 0) s) (by omega) (by omega) g2 g4
    have eb : brn (LfN N1 N2) (7 * (k + 1)) (49 * A + 7 * B) s = brn (LfN N1 N2) (7 * k) (49 * A + 7 * (B + 1)) (brn (LfN N1 N2) 7 (49 * A + 7 * B + 0) s) := by
      rw [show 7 * (k + 1) = 7 + 7 * k by omega, brn_add, show 49 * A + 7 * B + 7 = 49 * A + 7 * (B + 1) by omega]
      rfl
    rw [eb]
    exact ⟨h3, q1, q2, g3.tr q3 (fun _ _ => id), q4⟩
theorem X0_b76 {f : Nat} (hf : 10 ≤ f) {LS : LSt} {x PL : Nat} {R1 R2 : RA} {N1 N2 : Mi} {b1 b2 : Nat} (e1 : ∀ i j, i < 3 → j < 3 → (N1 i j).natAbs ≤ b1) (e2 : ∀ i j, i < 3 → j < 3 → (N2 i j).natAbs ≤ b2) (l1 : 27 * b1 < 2 ^ 48) (l2 : 27 * b2 < 2 ^ 48) (z1 : ∀ A B C, A < 7 → B < 7 → C < 7 → nrB A B C = true → 0 < gp N1 (pJ A B C)) : ∀ k n A h s, A + k = 7 → k < n → BC LS x PL R1 R2 N1 N2 h → s.1 < 2 ^ 48 → ∃ h', m_X0_best_76 f n h x R1.1 R2.1 (li (s.1 : Nat)) s.2 (vJ A) = some ((brn (LfN N1 N2) (49 * k) (49 * A) s).2, h') ∧ Mod (· = PL) 0 0 h h' ∧ ∃ p : Nat → Int32, cm h' PL = some (.inr (0, 3, .inl p)) := by
  intro k
  induction k with
  | zero =>
    intro n A h s hA hn H hs
    obtain ⟨n, rfl⟩ : ∃ z, n = z + 1 := ⟨n - 1, by omega⟩
    have : A = 7 := by omega
    subst this
    refine ⟨h, ?_, Mod.rf H.1, H.2.2.1.2.1⟩
    rw [m_X0_best_76, if_pos vJ_7]
    rfl
  | succ k ih =>
    intro n A h s hA hn H hs
    obtain ⟨n, rfl⟩ : ∃ z, n = z + 1 := ⟨n - 1, by omega⟩
    have A7 : A < 7 := by omega
    rw [m_X0_best_76, if_neg (vJ_lt A A7)]
    obtain ⟨h2, g1, g2, g3, g4⟩ := X0_b86 (f := f) hf e1 e2 l1 l2 z1 (k76 := m_X0_best_76 f n) A7 7 f 0 h s rfl (by omega) H hs
    have g1' : m_X0_best_86 f (m_X0_best_76 f n) f h x R1.1 R2.1 (li (s.1 : Nat)) s.2 (vJ A) (-3) = _ := g1
    rw [g1']
    unfold m_X0_best_200
    rw [nmv_eq, vJ_s]
    obtain ⟨h3, q1, q2, q3⟩ := ih n (A + 1) h2 (brn (LfN N1 N2) (7 * 7) (49 * A + 7 * 0) s) (by omega) (by omega) g2 g4
    have eb : brn (LfN N1 N2) (49 * (k + 1)) (49 * A) s = brn (LfN N1 N2) (49 * k) (49 * (A + 1)) (brn (LfN N1 N2) (7 * 7) (49 * A + 7 * 0) s) := by
      rw [show 49 * (k + 1) = 49 + 49 * k by omega, brn_add, show 49 * A + 49 = 49 * (A + 1) by omega]
      rfl
    rw [eb]
    exact ⟨h3, q1, g3.tr q2 (fun _ _ => id), q3⟩
