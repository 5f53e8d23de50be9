/-! the twin: rows copied, brought to their form, the other one's determinant -/
set_option maxRecDepth 100000
/-- nine places copied from field a to field b -/
theorem cpy9 {γ : Type} (G : Nat → TS → Int32 → Option γ) (K : TS → Option γ) {a b : Nat} (hab : a ≠ b) (hend : ∀ n v, G (n + 1) v (ni 9) = K v) (hstep : ∀ n v k, k < 9 → G (n + 1) v (ni k) = G n (sB v b k (tB v a k)) (ni (k + 1))) {n : Nat} (hn : 12 < n) {u : TS} {N : Mi} (hR : tR a u N) : ∃ u', G n u (ni 0) = K u' ∧ tR b u' N ∧ Fr [b] u u' := by
  obtain ⟨u2, p2, e2⟩ := loopn G K (fun k v => (∀ j, j < k → tB v b j = li (N (j / 3) (j % 3))) ∧ Fr [b] u v) 9
    (fun n v _ => hend n v)
    (fun n v k hk p => by
      obtain ⟨a1, a2⟩ := p
      refine ⟨_, hstep n v k hk, fun j hj => ?_, a2.tr (Fr.sB (by simp))⟩
      rw [tB_sB]
      by_cases e : j = k
      · subst e
        rw [if_pos ⟨rfl, rfl⟩, (a2 a (by simpa using hab)).2.2.2, hR.at9 hk]
      · rw [if_neg (fun h => e h.2)]; exact a1 j (by omega))
    9 n u 0 rfl (by omega) ⟨fun j hj => by omega, Fr.rf⟩
  refine ⟨u2, e2, fun i j hi hj => ?_, p2.2⟩
  rw [p2.1 (3 * i + j) (by omega), show (3 * i + j) / 3 = i by omega, show (3 * i + j) % 3 = j by omega]
theorem X3_smallens {f : Nat} (hf : 12 < f) {u : TS} {N : Mi} {k : Nat} (hk : k < f) (hR : tR 32 u N) (hok : runOk k (N, [])) : ∃ u', m_X3_smallens f u = some u' ∧ tR 32 u' (hrun k (N, [])).1 ∧ Fr [18, 21, 22, 23, 24, 25, 32] u u' := by
  unfold m_X3_smallens
  obtain ⟨u1, e1, r1, f1⟩ := cpy9 (fun n u x => m_X3_smallens_2 f n u x) (fun u => m_X3_smallens_26 f u) (a := 32) (b := 18) (by decide)
    (fun n v => by rw [m_X3_smallens_2, if_pos le99])
    (fun n v k hk => by rw [m_X3_smallens_2, if_neg (le9 hk), gd_of (ix_ni hk (by decide)), gd_of (ix_ni hk (by decide)), nmv_eq, nmv_eq, ni_clamp (by omega), ni_succ]) hf hR
  have e1' : m_X3_smallens_2 f f u 0 = _ := e1
  rw [e1']
  unfold m_X3_smallens_26
  obtain ⟨u2, e2, t2⟩ := X3_forms (f := f) (by omega) hk r1 hok
  rw [e2, bd_some]
  obtain ⟨u3, e3, r3, f3⟩ := cpy9 (fun n u x => m_X3_smallens_32 f n u x) (fun u => some u) (a := 18) (b := 32) (by decide)
    (fun n v => by rw [m_X3_smallens_32, if_pos le99]; rfl)
    (fun n v k hk => by rw [m_X3_smallens_32, if_neg (le9 hk), gd_of (ix_ni hk (by decide)), gd_of (ix_ni hk (by decide)), nmv_eq, nmv_eq, ni_clamp (by omega), ni_succ]) hf t2.1
  have e3' : m_X3_smallens_32 f f u2 0 = _ := e3
  rw [e3']
  exact ⟨u3, rfl, r3, ((f1.mono (by decide)).tr (t2.2.2.mono (by decide))).tr (f3.mono (by decide))⟩
theorem X3_adjugate {f : Nat} {u : TS} {N : Mi} (hR : tR 29 u N) {i j : Nat} (hi : i < 3) (hj : j < 3) : m_X3_adjugate f u (ni i) (ni j) = some (li (mnr N j i), u) := by
  unfold m_X3_adjugate
  have m1 := md3 (i + 1)
  have m2 := md3 (i + 2)
  have m3 := md3 (j + 1)
  have m4 := md3 (j + 2)
  simp only [nmv_eq, rm1 hi, rm2 hi, rm1 hj, rm2 hj]
  rw [gd_of (i3x m3 m1), gd_of (i3x m4 m2), gd_of (i3x m3 m2), gd_of (i3x m4 m1), i3c m3 m1, i3c m4 m2, i3c m3 m2, i3c m4 m1, hR _ _ m3 m1, hR _ _ m4 m2, hR _ _ m3 m2, hR _ _ m4 m1, li_mul, li_mul, li_sub]
  rfl
