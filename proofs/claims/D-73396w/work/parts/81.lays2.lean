/-! the twin: a lattice laid out of what is kept -/
set_option maxRecDepth 100000
/-- what the twin keeps of lattice l: own rows A; or the rows A of b, turned by q -/
def tOwn (u : TS) (l : Nat) (A : Mi) : Prop := tA u 0 (3 + l) = -1 ∧ ∀ k, k < 9 → (tA u 0 (28 + 9 * l + k)).toInt = A (k / 3) (k % 3)
def tTrn (u : TS) (l b : Nat) (A : Mi) (q : Nat → Int) : Prop := b < 5 ∧ tA u 0 (3 + l) = ni b ∧ (∀ k, k < 9 → (tA u 0 (28 + 9 * b + k)).toInt = A (k / 3) (k % 3)) ∧ ∀ k, k < 4 → (tA u 0 (8 + 4 * l + k)).toInt = q k
theorem ni_m1' {b : Nat} (hb : b < 5) : ¬ ni b = (-1 : Int32) := by
  rcases (show b = 0 ∨ b = 1 ∨ b = 2 ∨ b = 3 ∨ b = 4 by omega) with rfl | rfl | rfl | rfl | rfl <;> decide
theorem X3_isTurned {f : Nat} {u : TS} {l : Nat} (hl : l < 5) : m_X3_isTurned f u (ni l) = some (if tA u 0 (3 + l) = -1 then 0 else 1, u) := by
  unfold m_X3_isTurned m_X3_isTurned_17
  rw [show (3 : Int32) + ni l = ni (3 + l) from aN_ni 3 l, gd_of (ix_ni (by omega) (by decide)), ni_clamp (by omega)]
  by_cases h : tA u 0 (3 + l) = -1
  · rw [if_pos h, if_pos h]; rfl
  · rw [if_neg h, if_neg h]; rfl
theorem X3_l23 {f : Nat} (hf : 12 < f) {u : TS} {l b : Nat} (hb : b < 5) {A : Mi} (hA : ∀ k, k < 9 → (tA u 0 (28 + 9 * b + k)).toInt = A (k / 3) (k % 3)) : ∃ u', m_X3_lays_23 f f u (ni l) (ni b) 0 = m_X3_lays_56 f u' (ni l) ∧ tR 18 u' A ∧ Fr [18] u u' := by
  obtain ⟨u2, p2, e2⟩ := loopn (fun n u x => m_X3_lays_23 f n u (ni l) (ni b) x) (fun u => m_X3_lays_56 f u (ni l)) (fun k v => (∀ j, j < k → tB v 18 j = li (A (j / 3) (j % 3))) ∧ Fr [18] u v) 9
    (fun n v _ => by rw [m_X3_lays_23, if_pos le99])
    (fun n v k hk p => by
      obtain ⟨a1, a2⟩ := p
      have e1 : (28 : Int32) + (9 : Int32) * ni b + ni k = ni (28 + 9 * b + k) := by
        rw [show (9 : Int32) * ni b = ni (9 * b) from (Int32.ofNat_mul 9 b).symm, show (28 : Int32) + ni (9 * b) = ni (28 + 9 * b) from aN_ni 28 _, aN_ni]
      refine ⟨sB v 18 k (Int32.toInt64 (tA v 0 (28 + 9 * b + k))), ?_, fun j hj => ?_, a2.tr (Fr.sB (by decide))⟩
      · rw [m_X3_lays_23, if_neg (le9 hk), e1, gd_of (ix_ni (by omega) (by decide)), gd_of (ix_ni hk (by decide)), nmv_eq, nmv_eq, ni_clamp (by omega), ni_clamp (by omega), ni_succ]
      · rw [tB_sB]
        by_cases e : j = k
        · subst e
          rw [if_pos ⟨rfl, rfl⟩, toL, (a2 0 (by decide)).2.2.1, hA j hk]
        · rw [if_neg (fun h => e h.2)]; exact a1 j (by omega))
    9 f u 0 rfl (by omega) ⟨fun j hj => by omega, Fr.rf⟩
  refine ⟨u2, e2, fun i j hi hj => ?_, p2.2⟩
  rw [p2.1 (3 * i + j) (by omega), show (3 * i + j) / 3 = i by omega, show (3 * i + j) % 3 = j by omega]
theorem X3_lays_own {f : Nat} (hf : 2 ^ 63 ≤ f) {u : TS} {l : Nat} (hl : l < 5) {A : Mi} (h : tOwn u l A) : ∃ u', m_X3_lays f u (ni l) = some u' ∧ tR 18 u' A ∧ tL u' 19 = li 1 ∧ Fr [18, 19, 20] u u' := by
  have f12 : 12 < f := Nat.lt_of_lt_of_le (by decide) hf
  unfold m_X3_lays m_X3_lays_20
  rw [X3_isTurned hl, bd2_some, if_pos h.1, if_pos rfl]
  obtain ⟨u1, e1, e2, e3⟩ := X3_l23 (f := f) f12 (l := l) hl h.2
  rw [e1]
  unfold m_X3_lays_56 m_X3_lays_131
  have h1 : tA (sL u1 19 1) 0 (3 + l) = -1 := by rw [tA_sL, (e3 0 (by decide)).2.2.1]; exact h.1
  rw [nmv_eq, X3_isTurned hl, bd2_some, if_pos h1, if_pos rfl]
  exact ⟨_, rfl, e2.fr (l := [19]) (Fr.sL (by decide)) (by decide), rfl, (e3.mono (by decide)).tr (Fr.sL (by decide))⟩
theorem X3_lays_trn {f : Nat} (hf : 2 ^ 63 ≤ f) {u : TS} {l b : Nat} (hl : l < 5) {A : Mi} {q : Nat → Int} (h : tTrn u l b A q) (hp : 0 < ovQ q) (go : rg (ovQ q)) (gN : ∀ i j, i < 3 → j < 3 → rg (tnP A (byM q) i j)) (hz : lsd (tnP A (byM q)) (ovQ q) ≠ 0) : ∃ u', m_X3_lays f u (ni l) = some u' ∧ tR 18 u' (fun i j => (tnP A (byM q) i j).tdiv (lsd (tnP A (byM q)) (ovQ q))) ∧ tL u' 19 = li ((ovQ q).tdiv (lsd (tnP A (byM q)) (ovQ q))) ∧ Fr [18, 19, 20] u u' := by
  have f12 : 12 < f := Nat.lt_of_lt_of_le (by decide) hf
  obtain ⟨hb, hof, hA, hq⟩ := h
  have hne : ¬ tA u 0 (3 + l) = -1 := by rw [hof]; exact ni_m1' hb
  unfold m_X3_lays m_X3_lays_20
  rw [X3_isTurned hl, bd2_some, if_neg hne, if_neg (by decide), show (3 : Int32) + ni l = ni (3 + l) from aN_ni 3 l, gd_of (ix_ni (by omega) (by decide)), ni_clamp (by omega), hof]
  obtain ⟨u1, e1, e2, e3⟩ := X3_l23 (f := f) f12 (l := l) hb hA
  rw [e1]
  unfold m_X3_lays_56 m_X3_lays_131
  have h1 : ¬ tA (sL u1 19 1) 0 (3 + l) = -1 := by rw [tA_sL, (e3 0 (by decide)).2.2.1]; exact hne
  have i0 : (8 : Int32) + (4 : Int32) * ni l = ni (8 + 4 * l) := by
    rw [show (4 : Int32) * ni l = ni (4 * l) from (Int32.ofNat_mul 4 l).symm, show (8 : Int32) + ni (4 * l) = ni (8 + 4 * l) from aN_ni 8 _]
  have i1 : ni (8 + 4 * l) + (1 : Int32) = ni (8 + 4 * l + 1) := aN_ni _ 1
  have i2 : ni (8 + 4 * l) + (2 : Int32) = ni (8 + 4 * l + 2) := aN_ni _ 2
  have i3' : ni (8 + 4 * l) + (3 : Int32) = ni (8 + 4 * l + 3) := aN_ni _ 3
  have m0 : ∀ k, k < 4 → Int32.toInt64 (tA (sL u1 19 1) 0 (8 + 4 * l + k)) = li (q k) := fun k hk => by rw [toL, tA_sL, (e3 0 (by decide)).2.2.1, hq k hk]
  rw [nmv_eq, X3_isTurned hl, bd2_some, if_neg h1, if_neg (by decide), i0, i1, i2, i3', gd_of (ix_ni (by omega) (by decide)), gd_of (ix_ni (by omega) (by decide)), gd_of (ix_ni (by omega) (by decide)), gd_of (ix_ni (by omega) (by decide)), ni_clamp (by omega), ni_clamp (by omega), ni_clamp (by omega), ni_clamp (by omega), show tA (sL u1 19 1) 0 (8 + 4 * l) = tA (sL u1 19 1) 0 (8 + 4 * l + 0) from rfl, m0 0 (by decide), m0 1 (by decide), m0 2 (by decide), m0 3 (by decide)]
  obtain ⟨u4, q1, q2, q3, q4⟩ := X3_laysTurn (f := f) (u := sL u1 19 1) q
  rw [q1, bd_some]
  have e2' : tR 18 u4 A := (e2.fr (l := [19]) (v := sL u1 19 1) (Fr.sL (by decide)) (by decide)).fr q4 (by decide)
  obtain ⟨u5, g1, g2, g3, g4⟩ := X3_turns hf e2' q2 q3 hp go gN hz
  rw [g1, bd_some]
  refine ⟨u5, rfl, g2, g3, ?_⟩
  have t1 : Fr [18, 19, 20] u (sL u1 19 1) := (e3.mono (by decide)).tr (Fr.sL (by decide))
  exact (t1.tr (q4.mono (by decide))).tr (g4.mono (by decide))
