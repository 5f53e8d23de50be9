set_option maxRecDepth 100000
/-! Small: what it keeps is the one form of all that it took -/
theorem zm {x y : Int} (h : 0 = x * y) (hy : 0 < y) : x = 0 := by rcases Int.mul_eq_zero.mp h.symm with h | h <;> omega
def SF (m : Int) (F : Mi) : Prop := isH (m3 F) ∧ ∀ j, j < 3 → inL (m3 F) (ev m j)
theorem SF_dg {m : Int} {F : Mi} (h : SF m F) : F 0 0 ∣ m ∧ F 1 1 ∣ m ∧ F 2 2 ∣ m := by
  obtain ⟨⟨a, b, c, d, e, f, _⟩, hm⟩ := h
  have a' : F 1 0 = 0 := a
  have b' : F 2 0 = 0 := b
  have c' : F 2 1 = 0 := c
  have d' : 0 < F 0 0 := d
  have e' : 0 < F 1 1 := e
  obtain ⟨x0, y0, z0, h0⟩ := hm 0 (by decide)
  obtain ⟨x1, y1, z1, h1⟩ := hm 1 (by decide)
  obtain ⟨x2, y2, z2, h2⟩ := hm 2 (by decide)
  simp [ev, lc, m3, a', b', c'] at h0 h1 h2
  have k1 : x1 = 0 := zm h1.1 d'
  have k2 : x2 = 0 := zm h2.1 d'
  subst k1 k2
  simp at h1 h2
  have k3 : y2 = 0 := zm h2.1 e'
  subst k3
  simp at h2
  exact ⟨⟨x0, by rw [h0.1, Int.mul_comm]⟩, ⟨y1, by rw [h1.1, Int.mul_comm]⟩, ⟨z2, by rw [h2, Int.mul_comm]⟩⟩
theorem SF_SI {m : Int} {F : Mi} (hm : 0 < m) (h : SF m F) (x : Nat → Int) : SI 0 m F (tkv m x) := by
  obtain ⟨g0, g1, g2⟩ := SF_dg h
  obtain ⟨⟨a, b, c, d, e, f, ⟨q0, q1⟩, ⟨r0, r1⟩, ⟨t0, t1⟩⟩, hmm⟩ := h
  have a' : F 1 0 = 0 := a
  have b' : F 2 0 = 0 := b
  have c' : F 2 1 = 0 := c
  have d' : 0 < F 0 0 := d
  have e' : 0 < F 1 1 := e
  have f' : 0 < F 2 2 := f
  have q0' : 0 ≤ F 0 1 := q0
  have q1' : F 0 1 < F 1 1 := q1
  have r0' : 0 ≤ F 0 2 := r0
  have r1' : F 0 2 < F 2 2 := r1
  have t0' : 0 ≤ F 1 2 := t0
  have t1' : F 1 2 < F 2 2 := t1
  have l0 := Int.le_of_dvd hm g0
  have l1 := Int.le_of_dvd hm g1
  have l2 := Int.le_of_dvd hm g2
  refine ⟨fun i j hj hi => ?_, fun i hi => ?_, fun j hj => by omega, fun j _ _ => ⟨Int.emod_nonneg _ (by omega), Int.emod_lt_of_pos _ hm⟩, fun i j hij hj => ?_, fun cc _ j hj hj3 => ?_⟩
  · rcases c3 hi with rfl | rfl | rfl
    · omega
    · have : j = 0 := by omega
      subst this; exact a'
    · rcases (show j = 0 ∨ j = 1 by omega) with rfl | rfl
      · exact b'
      · exact c'
  · rcases c3 hi with rfl | rfl | rfl
    · exact d'
    · exact e'
    · exact f'
  · rcases c3 hj with rfl | rfl | rfl
    · have : i = 0 := by omega
      subst this; omega
    · rcases (show i = 0 ∨ i = 1 by omega) with rfl | rfl <;> omega
    · rcases (show i = 0 ∨ i = 1 ∨ i = 2 by omega) with rfl | rfl | rfl <;> omega
  · obtain ⟨x, y, z, hh⟩ := hmm j hj3
    have hh' := hh
    simp [ev, lc, m3, a', b', c', show j ≠ 0 by omega] at hh'
    have x0 : x = 0 := zm hh'.1 d'
    refine ⟨x, y, z, x0, fun h1 => ?_, fun h2 => by omega, hh⟩
    have : j = 2 := by omega
    subst this
    subst x0
    simp at hh'
    exact zm hh'.1 e'
theorem SI_next {c : Nat} {m : Int} {F : Mi} {v : Nat → Int} (h : SI c m F v) (hz : v c = 0) : SI (c + 1) m F v := by
  obtain ⟨h1, h2, h3, h4, h5, h6⟩ := h
  exact ⟨h1, h2, fun j hj => by by_cases e : j = c; subst e; exact hz; exact h3 j (by omega), fun j hj hj3 => h4 j (by omega) hj3, h5, fun c' hc' => h6 c' (by omega)⟩
theorem sork_eqL {c r : Nat} {F : Mi} (hr : r < c) (hc : c < 3) (hF : ∀ j, j < c → F c j = 0) : eqL (m3 F) (m3 (sork c r 3 F)) := by
  have h := eqL_add F (r := r) (o := c) (by omega) hc (by omega) (-sot c r F)
  have e : m3 (addR F r c (-sot c r F)) = m3 (sork c r 3 F) := by
    have ee : ∀ a b, b < 3 → addR F r c (-sot c r F) a b = sork c r 3 F a b := fun a b hb => by
      unfold addR sork
      by_cases h1 : a = r
      · rw [if_pos h1]
        by_cases h2 : c ≤ b
        · rw [if_pos ⟨h1, h2, hb⟩]; grind
        · rw [if_neg (by omega), hF b (by omega)]; simp
      · rw [if_neg h1, if_neg (fun h => h1 h.1)]
    unfold m3
    simp only [ee _ _ (show 0 < 3 by decide), ee _ _ (show 1 < 3 by decide), ee _ _ (show 2 < 3 by decide)]
  rw [e] at h; exact h
theorem sord_ok {m : Int} {F : Mi} {v : Nat → Int} {c : Nat} (hM : m ≤ 2 ^ 31) (h : SI c m F v) : ordOk F ∧ isH (m3 (sord F)) ∧ eqL (m3 F) (m3 (sord F)) := by
  obtain ⟨h1, h2, _, _, h5, _⟩ := h
  have a' := h1 1 0 (by decide) (by decide)
  have b' := h1 2 0 (by decide) (by decide)
  have c' := h1 2 1 (by decide) (by decide)
  have d' := h2 0 (by decide)
  have e' := h2 1 (by decide)
  have f' := h2 2 (by decide)
  have k01 := h5 0 1 (by decide) (by decide)
  have k02 := h5 0 2 (by decide) (by decide)
  have k12 := h5 1 2 (by decide) (by decide)
  have k11 := h5 1 1 (by decide) (by decide)
  have k22 := h5 2 2 (by decide) (by decide)
  have s0 : sorr 1 1 0 F = sork 1 0 3 F := rfl
  generalize hG : sork 1 0 3 F = G
  have Gr : ∀ a b, a ≠ 0 → G a b = F a b := fun a b ha => by rw [← hG]; unfold sork; rw [if_neg (fun h => ha h.1)]
  have G00 : G 0 0 = F 0 0 := by rw [← hG]; unfold sork; rw [if_neg (by omega)]
  have G0 : ∀ b, 1 ≤ b → b < 3 → G 0 b = F 0 b - F 0 1 / F 1 1 * F 1 b := fun b hb hb3 => by rw [← hG]; unfold sork sot; rw [if_pos ⟨rfl, hb, hb3⟩]
  have s1 : sord F = sork 2 1 3 (sork 2 0 3 G) := by unfold sord; rw [s0, hG]; rfl
  generalize hK : sork 2 0 3 G = K
  have Kr : ∀ a b, a ≠ 0 → K a b = G a b := fun a b ha => by rw [← hK]; unfold sork; rw [if_neg (fun h => ha h.1)]
  have K0 : ∀ b, b < 2 → K 0 b = G 0 b := fun b hb => by rw [← hK]; unfold sork; rw [if_neg (by omega)]
  have K02 : K 0 2 = G 0 2 % F 2 2 := by rw [← hK]; unfold sork sot; rw [if_pos (by decide), Gr 2 2 (by decide), Int.emod_def, Int.mul_comm]
  generalize hR : sork 2 1 3 K = R
  have Rr : ∀ a b, a ≠ 1 → R a b = K a b := fun a b ha => by rw [← hR]; unfold sork; rw [if_neg (fun h => ha h.1)]
  have R1 : ∀ b, b < 2 → R 1 b = K 1 b := fun b hb => by rw [← hR]; unfold sork; rw [if_neg (by omega)]
  have R12 : R 1 2 = F 1 2 % F 2 2 := by rw [← hR]; unfold sork sot; rw [if_pos (by decide), Kr 2 2 (by decide), Kr 1 2 (by decide), Gr 2 2 (by decide), Gr 1 2 (by decide), Int.emod_def, Int.mul_comm]
  have q0 : 0 ≤ F 0 1 / F 1 1 := Int.ediv_nonneg k01.1 (by omega)
  have q1 : F 0 1 / F 1 1 ≤ 2 ^ 31 := Int.le_trans (Int.ediv_le_self _ k01.1) (by omega)
  have p0 : 0 ≤ F 0 1 / F 1 1 * F 1 2 := Int.mul_nonneg q0 k12.1
  have p1 : F 0 1 / F 1 1 * F 1 2 ≤ 2 ^ 31 * 2 ^ 31 := Int.mul_le_mul q1 (by omega) k12.1 (by decide)
  have G02 := G0 2 (by decide) (by decide)
  have E1 : eqL (m3 F) (m3 G) := by rw [← hG]; exact sork_eqL (by decide) (by decide) (fun j hj => by rw [show j = 0 by omega]; exact a')
  have E2 : eqL (m3 G) (m3 K) := by
    rw [← hK]; exact sork_eqL (by decide) (by decide) (fun j hj => by
      rw [Gr 2 j (by decide)]
      rcases (show j = 0 ∨ j = 1 by omega) with rfl | rfl
      · exact b'
      · exact c')
  have E3 : eqL (m3 K) (m3 R) := by
    rw [← hR]; exact sork_eqL (by decide) (by decide) (fun j hj => by
      rw [Kr 2 j (by decide), Gr 2 j (by decide)]
      rcases (show j = 0 ∨ j = 1 by omega) with rfl | rfl
      · exact b'
      · exact c')
  have R00 : R 0 0 = F 0 0 := by rw [Rr 0 0 (by decide), K0 0 (by decide), G00]
  have R01 : R 0 1 = F 0 1 % F 1 1 := by rw [Rr 0 1 (by decide), K0 1 (by decide), G0 1 (by decide) (by decide), Int.emod_def, Int.mul_comm]
  have R02 : R 0 2 = G 0 2 % F 2 2 := by rw [Rr 0 2 (by decide), K02]
  have R10 : R 1 0 = 0 := by rw [R1 0 (by decide), Kr 1 0 (by decide), Gr 1 0 (by decide), a']
  have R11 : R 1 1 = F 1 1 := by rw [R1 1 (by decide), Kr 1 1 (by decide), Gr 1 1 (by decide)]
  have R2 : ∀ b, R 2 b = F 2 b := fun b => by rw [Rr 2 b (by decide), Kr 2 b (by decide), Gr 2 b (by decide)]
  refine ⟨⟨⟨⟨by omega, by omega⟩, ⟨by omega, by omega⟩, e', trivial⟩, ?_⟩, ?_, ?_⟩
  · rw [s0, hG]
    refine ⟨⟨by rw [G02]; omega, by rw [G02]; omega⟩, by rw [Gr 2 2 (by decide)]; exact ⟨by omega, by omega⟩, by rw [Gr 2 2 (by decide)]; exact f', ?_⟩
    rw [hK]
    refine ⟨?_, ?_, ?_, trivial⟩
    · show rg (K 1 2); rw [Kr 1 2 (by decide), Gr 1 2 (by decide)]; exact ⟨by omega, by omega⟩
    · rw [Kr 2 2 (by decide), Gr 2 2 (by decide)]; exact ⟨by omega, by omega⟩
    · rw [Kr 2 2 (by decide), Gr 2 2 (by decide)]; exact f'
  · rw [s1, hK, hR]
    unfold isH m3
    dsimp only
    rw [R00, R01, R02, R10, R11, R12, R2, R2, R2]
    exact ⟨rfl, b', c', d', e', f', ⟨Int.emod_nonneg _ (by omega), Int.emod_lt_of_pos _ e'⟩, ⟨Int.emod_nonneg _ (by omega), Int.emod_lt_of_pos _ f'⟩, ⟨Int.emod_nonneg _ (by omega), Int.emod_lt_of_pos _ f'⟩⟩
  · rw [s1, hK, hR]; exact E1.tr (E2.tr E3)
theorem inX_0 {F : Mi} {v : Nat → Int} (hv : v3 v = (0, 0, 0)) (w : V3) : inX F v w ↔ inL (m3 F) w := by
  have e : ∀ t, vad w (vsm t (v3 v)) = w := fun t => by rw [hv]; simp [vad, vsm]
  constructor
  · rintro ⟨t, h⟩; rw [e] at h; exact h
  · intro h; exact ⟨0, by rw [e]; exact h⟩
theorem inX_mod {m : Int} {F : Mi} {x : Nat → Int} (h : ∀ j, j < 3 → inL (m3 F) (ev m j)) (w : V3) : inX F (tkv m x) w ↔ inX F x w := by
  have hd := inL_add (inL_add (inL_sm (x 0 / m) (h 0 (by decide))) (inL_sm (x 1 / m) (h 1 (by decide)))) (inL_sm (x 2 / m) (h 2 (by decide)))
  have e : v3 x = vad (v3 (tkv m x)) (vad (vad (vsm (x 0 / m) (ev m 0)) (vsm (x 1 / m) (ev m 1))) (vsm (x 2 / m) (ev m 2))) := by
    have em : ∀ y : Int, y % m = y - m * (y / m) := fun y => Int.emod_def y m
    simp [v3, tkv, vad, vsm, ev, em]
    refine ⟨?_, ?_, ?_⟩ <;> grind
  generalize vad (vad (vsm (x 0 / m) (ev m 0)) (vsm (x 1 / m) (ev m 1))) (vsm (x 2 / m) (ev m 2)) = d at hd e
  constructor
  · refine inX_of (fun i hi => inX_row hi) ?_
    rw [vad_sub e]
    exact inX_add inX_v (inX_sm _ (inX_in hd))
  · refine inX_of (fun i hi => inX_row hi) ?_
    rw [e]
    exact inX_add inX_v (inX_in hd)
theorem tk_ok {m : Int} {F : Mi} {x : Nat → Int} {k : Nat} (hm : 0 < m) (hM : m ≤ 2 ^ 31) (h : SF m F) (hx : ∀ j, j < 3 → rg (x j)) (hk : 2 ^ 31 ≤ k) : tkOk m k F x ∧ SF m (tkF m k F x) ∧ ∀ w, inL (m3 (tkF m k F x)) w ↔ inX F x w := by
  have i0 := SF_SI hm h x
  have lk : ∀ c F v, c < 3 → SI c m F v → (v c).toNat ≤ k := fun c F v hc hi => by have := hi.2.2.2.1 c (Nat.le_refl _) hc; omega
  obtain ⟨a1, a2, a3, a4⟩ := sj_stage (by decide) hm hM k F (tkv m x) i0 (lk 0 _ _ (by decide) i0)
  have i1 := SI_next a2 a3
  obtain ⟨b1, b2, b3, b4⟩ := sj_stage (by decide) hm hM k _ _ i1 (lk 1 _ _ (by decide) i1)
  have i2 := SI_next b2 b3
  obtain ⟨c1, c2, c3', c4⟩ := sj_stage (by decide) hm hM k _ _ i2 (lk 2 _ _ (by decide) i2)
  have i3 := SI_next c2 c3'
  have ev0 : v3 (sjn m 2 k (sjn m 1 k (sjn m 0 k F (tkv m x)).1 (sjn m 0 k F (tkv m x)).2).1 (sjn m 1 k (sjn m 0 k F (tkv m x)).1 (sjn m 0 k F (tkv m x)).2).2).2 = (0, 0, 0) := by
    unfold v3; rw [i3.2.2.1 0 (by decide), i3.2.2.1 1 (by decide), i3.2.2.1 2 (by decide)]
  obtain ⟨d1, d2, d3⟩ := sord_ok hM i3
  have eqv : ∀ w, inL (m3 (tkF m k F x)) w ↔ inX F x w := fun w => by
    rw [← inX_mod h.2 w, a4, b4, c4, inX_0 ev0]
    exact (d3 w).symm
  refine ⟨⟨hx, fun c hc => ?_, d1⟩, ⟨d2, fun j hj => (eqv _).mpr (inX_in (h.2 j hj))⟩, eqv⟩
  rcases c3 hc with rfl | rfl | rfl
  · exact a1
  · exact b1
  · exact c1
