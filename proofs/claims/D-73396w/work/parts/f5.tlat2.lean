/-! reading: the twin, whole -/
set_option maxRecDepth 100000
theorem lt_73 {k : Nat} (h : k < 73) : ¬ (73 : Int32) ≤ ni k := by
  rw [show (73 : Int32) = ni 73 from rfl, ni_le (by omega) (by omega)]; omega
/-- mem is kept, and cleared -/
theorem X3_l2 {f : Nat} {y : Nat} {al : List Nat} {h0 : CH} {u0 : TS} : ∀ j k m h u, k + j = 73 → j < m → Pst h0 y al u0 [0, 1] h u → (∀ i, tA u 0 i = if i < k then 0 else tA u0 0 i) → (∀ i, i < k → tA u 1 i = tA u0 0 i) → ∃ h' u', m_X3_lattices_2 f m h y (ni k) = m_X3_lattices_33 f h' y ∧ Pst h0 y al u0 [0, 1] h' u' ∧ (∀ i, i < 73 → tA u' 0 i = 0) ∧ ∀ i, i < 73 → tA u' 1 i = tA u0 0 i := by
  intro j
  induction j with
  | zero =>
    intro k m h u hk hm P h1 h2
    obtain ⟨m, rfl⟩ : ∃ z, m = z + 1 := ⟨m - 1, by omega⟩
    have : k = 73 := by omega
    subst this
    rw [m_X3_lattices_2, if_pos (show (73 : Int32) ≤ ni 73 from lekk 73)]
    exact ⟨h, u, rfl, P, fun i hi => by rw [h1, if_pos hi], h2⟩
  | succ j ih =>
    intro k m h u hk hm P h1 h2
    obtain ⟨m, rfl⟩ : ∃ z, m = z + 1 := ⟨m - 1, by omega⟩
    have k73 : k < 73 := by omega
    have H := P.1
    obtain ⟨h3, d1, d2, d3⟩ := H.u1 (i := k) k73 (tA u 0 k)
    obtain ⟨h4, e1, e2, e3⟩ := d2.u0 (i := k) k73 0
    rw [m_X3_lattices_2, if_neg (lt_73 k73), H.r1, bd_some, H.r0, bd_some, H.a0 k73, bd_some, d1, bd_some, d2.r0, bd_some, e1, bd_some, nmv_eq, ni_succ]
    have F : Fr [0, 1] u (sA (sA u 1 k (tA u 0 k)) 0 k 0) := (Fr.sA (by decide)).tr (Fr.sA (by decide))
    refine ih (k + 1) m h4 _ (by omega) (by omega) (P.tr ⟨e2, F.rF, d3.tr e3 (fun _ _ => id)⟩) (fun i => ?_) (fun i hi => ?_)
    · rw [tA_sA, tA_sA]
      by_cases hi : i = k
      · rw [if_pos ⟨rfl, hi⟩, if_pos (by omega)]
      · rw [if_neg (fun hh => hi hh.2), if_neg (fun hh => by have := hh.1; omega), h1]
        by_cases h5 : i < k
        · rw [if_pos h5, if_pos (by omega)]
        · rw [if_neg h5, if_neg (by omega)]
    · rw [tA_sA, if_neg (fun hh => by have := hh.1; omega), tA_sA]
      by_cases hik : i = k
      · rw [if_pos ⟨rfl, hik⟩, h1, if_neg (by omega), hik]
      · rw [if_neg (fun hh => hik hh.2)]; exact h2 i (by omega)
theorem X3_l160 {f : Nat} {y : Nat} {al : List Nat} {h0 : CH} {u0 : TS} : ∀ j k m h u, k + j = 73 → j < m → Pst h0 y al u0 [0] h u → (∀ i, i < k → tA u 0 i = tA u0 1 i) → ∃ h' u', m_X3_lattices_160 f m h y (ni k) = some (-4, h') ∧ Pst h0 y al u0 [0] h' u' ∧ ∀ i, i < 73 → tA u' 0 i = tA u0 1 i := by
  intro j
  induction j with
  | zero =>
    intro k m h u hk hm P h1
    obtain ⟨m, rfl⟩ : ∃ z, m = z + 1 := ⟨m - 1, by omega⟩
    have : k = 73 := by omega
    subst this
    rw [m_X3_lattices_160, if_pos (show (73 : Int32) ≤ ni 73 from lekk 73)]
    exact ⟨h, u, rfl, P, h1⟩
  | succ j ih =>
    intro k m h u hk hm P h1
    obtain ⟨m, rfl⟩ : ∃ z, m = z + 1 := ⟨m - 1, by omega⟩
    have k73 : k < 73 := by omega
    have H := P.1
    obtain ⟨h4, e1, e2, e3⟩ := H.u0 (i := k) k73 (tA u 1 k)
    rw [m_X3_lattices_160, if_neg (lt_73 k73), H.r0, bd_some, H.r1, bd_some, H.a1 k73, bd_some, e1, bd_some, nmv_eq, ni_succ]
    have F : Fr [0] u (sA u 0 k (tA u 1 k)) := Fr.sA (by decide)
    refine ih (k + 1) m h4 _ (by omega) (by omega) (P.tr ⟨e2, F.rF, e3⟩) (fun i hi => ?_)
    rw [tA_sA]
    by_cases hik : i = k
    · rw [if_pos ⟨rfl, hik⟩, P.2.1.2.2.1 1 (by decide) (by decide), hik]
    · rw [if_neg (fun hh => hik hh.2)]; exact h1 i (by omega)
abbrev LTl : List Nat := [0, 1, 4, 5, 6, 7, 11, 12, 13, 14, 15, 16, 17]
/-- all is read: it went wrong, then all is as it was; or it is told -/
def tAll (u u' : TS) (r : Int32) : Rs (List It) → Prop
  | .inl e => r = -4 ∧ tI u' 5 = ni e.1 ∧ tI u' 6 = ni e.2 ∧ tI u' 7 = tI u 7 ∧ ∀ i, i < 73 → tA u' 0 i = tA u 0 i
  | .inr ts => r = ni ts.length ∧ tI u' 5 = 0 ∧ tI u' 6 = -1 ∧ tI u' 7 = 0 ∧ tIts u' ts
theorem X3_lattices {f : Nat} (hf : 1000 < f) {h : CH} (kf0 : kf h) {y : Nat} {al : List Nat} {u : TS} (H : HT h y al u) {b : Nat → Nat} {n : Nat} (T : tTp u b n) : ∃ h' u' r, m_X3_lattices f h y = some (r, h') ∧ tAll u u' r (pAll b n) ∧ tI u' 4 = 0 ∧ Pst h y al u LTl h' u' := by
  unfold m_X3_lattices
  obtain ⟨h1, u1, c1, p1, z1', z2'⟩ := X3_l2 (f := f) (y := y) (al := al) (h0 := h) (u0 := u) 73 0 f h u rfl (by omega) (Pst.rf H) (fun i => by rw [if_neg (by omega)]) (fun i hi => by omega)
  have c1' : m_X3_lattices_2 f f h y 0 = m_X3_lattices_33 f h1 y := c1
  rw [c1']
  unfold m_X3_lattices_33
  obtain ⟨h2, d1, d2, d3⟩ := p1.1.pi11 0
  obtain ⟨h3, e1, e2, e3⟩ := d2.pi15 0
  obtain ⟨h4, f1, f2, f3⟩ := e2.pi5 0
  obtain ⟨h5, g1, g2, g3⟩ := f2.pi6 (-1)
  rw [d1, bd_some, e1, bd_some, f1, bd_some, g1, bd_some]
  have F5 : Fr [5, 6, 11, 15] u1 (sI (sI (sI (sI u1 11 0) 15 0) 5 0) 6 (-1)) := (((Fr.sI (by decide)).tr (Fr.sI (by decide))).tr (Fr.sI (by decide))).tr (Fr.sI (by decide))
  have P5 : Pst h y al u LTl h5 (sI (sI (sI (sI u1 11 0) 15 0) 5 0) 6 (-1)) := (p1.up (by decide)).tr ⟨g2, (F5.mono (by decide)).rF, ((d3.tr e3 (fun _ _ => id)).tr f3 (fun _ _ => id)).tr g3 (fun _ _ => id)⟩
  have T5 : tTp (sI (sI (sI (sI u1 11 0) 15 0) 5 0) 6 (-1)) b n := (T.rf p1.2.1 (by decide) (by decide)).fr F5 (by decide) (by decide)
  have i11 : tI (sI (sI (sI (sI u1 11 0) 15 0) 5 0) 6 (-1)) 11 = 0 := rfl
  have i15 : tI (sI (sI (sI (sI u1 11 0) 15 0) 5 0) 6 (-1)) 15 = 0 := rfl
  have i5 : tI (sI (sI (sI (sI u1 11 0) 15 0) 5 0) 6 (-1)) 5 = 0 := rfl
  have i6 : tI (sI (sI (sI (sI u1 11 0) 15 0) 5 0) 6 (-1)) 6 = -1 := rfl
  have i7 : tI (sI (sI (sI (sI u1 11 0) 15 0) 5 0) 6 (-1)) 7 = tI u 7 := p1.2.1.1 7 (by decide) (by decide)
  have m0 : ∀ i, i < 73 → tA (sI (sI (sI (sI u1 11 0) 15 0) 5 0) 6 (-1)) 0 i = 0 := z1'
  have m1 : ∀ i, i < 73 → tA (sI (sI (sI (sI u1 11 0) 15 0) 5 0) 6 (-1)) 1 i = tA u 0 i := z2'
  generalize sI (sI (sI (sI u1 11 0) 15 0) 5 0) 6 (-1) = u5 at g2 P5 T5 i11 i15 i5 i6 i7 m0 m1
  have A5 := g2.agr
  obtain ⟨u6, n1, n2, n3⟩ := X3_next (f := f) (by omega) (T5.rf (A5.rF (l := [])) (by decide) (by decide)) (p := 0) (by rw [A5.I (by decide)]; exact i11) (Nat.zero_le _)
  obtain ⟨h6, c6, p6⟩ := g2.cv (mf := fun z => m_X3_next f z) n1 n3
  rw [c6, bd_some]
  have r6 := p6.2.1
  have G6 : tGd u6 b n (nx b n 0) := ⟨by rw [r6.1 15 (by decide) (by decide)]; exact i15, T5.rf r6 (by decide) (by decide), n2, (nx_ok (Nat.zero_le _)).1, by rw [r6.1 5 (by decide) (by decide)]; exact i5, by rw [r6.1 6 (by decide) (by decide)]; exact i6⟩
  have P6 := P5.tr (p6.up (by decide))
  have e6 : ∀ i, i < 73 → tA u6 0 i = 0 := fun i hi => by rw [r6.2.2.1 0 (by decide) (by decide)]; exact m0 i hi
  have n500 := T.2.1
  obtain ⟨h7, u7, c7, t7, p7⟩ := X3_l57 (f := f) (by omega) (y := y) (al := al) (b := b) (n := n) (h0 := h6) (kf0.mod P6.2.2) (u0 := u6) 501 f h6 u6 [] [] (nx b n 0) (by omega) (by omega) (Pst.rf p6.1) G6 ⟨by decide, fun k w hk => by cases hk⟩ ⟨e6 0 (by decide), e6 1 (by decide), e6 2 (by decide), fun k hk => by cases hk⟩ rfl ⟨Nat.zero_le _, fun k hk => by cases hk⟩
  rw [c7]
  have P7 := P6.tr (p7.up (by decide))
  unfold m_X3_lattices_146
  obtain ⟨h8, q1, q2, q3⟩ := p7.1.pi4 0
  have i15' : tI (sI u7 4 0) 15 = tI u7 15 := rfl
  rw [q1, bd_some, q2.i15, bd_some, i15']
  have P8 : Pst h y al u LTl h8 (sI u7 4 0) := P7.tr ⟨q2, (Fr.sI (l := LTl) (by decide)).rF, q3⟩
  unfold pAll
  cases hr : pRead b n 501 [] [] (nx b n 0) with
  | inr ts =>
    rw [hr] at t7
    obtain ⟨t1, t2, t3, t4⟩ := t7
    rw [t1, if_pos rfl]
    obtain ⟨h9, x1, x2, x3⟩ := q2.pi7 0
    have a1 : aI h9 0 (al.getD 1 0) 1 = some (tA u7 0 1) := x2.a0 (i := 1) (by decide)
    rw [x1, bd_some, x2.r0, bd_some, a1, bd_some]
    exact ⟨h9, sI (sI u7 4 0) 7 0, _, rfl, ⟨t2.2.1, t3, t4, rfl, t2⟩, rfl, P8.tr ⟨x2, (Fr.sI (l := LTl) (by decide)).rF, x3⟩⟩
  | inl e =>
    rw [hr] at t7
    have B : tBd u7 e := t7
    rw [B.1, if_neg (by decide)]
    obtain ⟨h9, u9, x1, x2, x3⟩ := X3_l160 (f := f) (y := y) (al := al) (h0 := h8) (u0 := sI u7 4 0) 73 0 f h8 (sI u7 4 0) rfl (by omega) (Pst.rf q2) (fun i hi => by omega)
    have x1' : m_X3_lattices_160 f f h8 y 0 = some (-4, h9) := x1
    rw [x1']
    refine ⟨h9, u9, _, rfl, ⟨rfl, ?_, ?_, ?_, fun i hi => ?_⟩, ?_, P8.tr (x2.up (by decide))⟩
    · rw [x2.2.1.1 5 (by decide) (by decide)]; exact B.2.1
    · rw [x2.2.1.1 6 (by decide) (by decide)]; exact B.2.2
    · rw [x2.2.1.1 7 (by decide) (by decide)]
      show tI u7 7 = tI u 7
      rw [p7.2.1.1 7 (by decide) (by decide), r6.1 7 (by decide) (by decide)]
      exact i7
    · rw [x3 i hi]
      show tA u7 1 i = tA u 0 i
      rw [p7.2.1.2.2.1 1 (by decide) (by decide), r6.2.2.1 1 (by decide) (by decide)]
      exact m1 i hi
    · rw [x2.2.1.1 4 (by decide) (by decide)]; rfl
