/-! whether a point is met, and its order -/
set_option maxRecDepth 100000
abbrev F1 : List Nat := [18, 19, 20, 21, 22, 23, 24, 25, 26]
theorem askP_cases {f : Nat} (hf : 2 ^ 63 ≤ f) {h : CH} {x : Nat} {u : TS} {LS : LSt} (E : QE h x u LS) (l m a b c d : Int32) : (∃ r h' u', m_X0_asksPoint f h x l m a b c d = some (r, h') ∧ m_X3_whyNoPoint f u l m a b c d = some (r, u') ∧ ¬ 0 ≤ r ∧ Ext 30 80 h h' ∧ Fr F1 u u') ∨ ∃ k1 k2 M1 n1 t1 M2 n2 t2 h' u', l = ni k1 ∧ m = ni k2 ∧ k1 < 5 ∧ k2 < 5 ∧ LS[k1]? = some (M1, n1, t1) ∧ LS[k2]? = some (M2, n2, t2) ∧ ¬ (t1 = true ∧ t2 = true) ∧ isPI a b c d = true ∧ hasP (m3 M1) n1 (v3 (p3 a.toInt b.toInt c.toInt)) d.toInt ∧ m_X0_asksPoint f h x l m a b c d = some (0, h') ∧ m_X3_whyNoPoint f u l m a b c d = some (0, u') ∧ Ext 30 80 h h' ∧ Fr F1 u u' := by
  have E' := E
  obtain ⟨w, kf0, C, T, L⟩ := E
  unfold m_X0_asksPoint m_X3_whyNoPoint m_X0_asksPoint_6
  rw [gd_of C.isC]
  rcases ask_cases (f := f) E' l m with ⟨e1, e2⟩ | ⟨k1, k2, M1, n1, t1, M2, n2, t2, rfl, rfl, hk1, hk2, hl1, hl2, ⟨e1, e2⟩ | ⟨e1, e2, ht⟩⟩
  · rw [e1, e2]
    exact .inl ⟨-2, h, u, rfl, rfl, by decide, (Ext.rf w).up (by omega) (by omega), Fr.rf⟩
  · rw [e1, e2, bd2_some, bd2_some, m3_2, m3_2, X0_isPoint, X3_isPoint, bd_some, bd_some]
    cases h2 : isPI a b c d with
    | false => exact .inl ⟨-2, h, u, rfl, rfl, by decide, (Ext.rf w).up (by omega) (by omega), Fr.rf⟩
    | true => exact .inl ⟨-3, h, u, rfl, rfl, by decide, (Ext.rf w).up (by omega) (by omega), Fr.rf⟩
  · rw [e1, e2, bd2_some, bd2_some, z_2, z_2, X0_isPoint, X3_isPoint, bd_some, bd_some]
    cases h2 : isPI a b c d with
    | false => exact .inl ⟨-2, h, u, rfl, rfl, by decide, (Ext.rf w).up (by omega) (by omega), Fr.rf⟩
    | true =>
      have LO := L k1 M1 n1 t1 hl1
      obtain ⟨q1, q2⟩ := isPI_ok h2
      obtain ⟨r, h', c1, c2, c3'⟩ := C_has (f := f) hf w kf0 C hl1 LO h2
      obtain ⟨r', u', g1, g2, g3⟩ := X3_latticeHas (f := f) hf T hl1 LO (fun j hj => Nat.le_trans (q1 j hj) (by decide)) q2
      have er := bool_iff c2 g2
      subst er
      obtain ⟨l1, l2, l3⟩ := toL3 a b c
      rw [nift1, nift1, z_z, z_z, gd_of C.isC, c1, bd2_some, l1, l2, l3, toL d, g1, bd2_some]
      cases r with
      | false => exact .inl ⟨-2, h', u', rfl, rfl, by decide, c3', g3⟩
      | true => exact .inr ⟨k1, k2, M1, n1, t1, M2, n2, t2, h', u', rfl, rfl, hk1, hk2, hl1, hl2, ht, rfl, c2.mp rfl, rfl, rfl, c3', g3⟩
theorem vsm_1 (v : V3) : vsm 1 v = v := by simp [vsm]
theorem q_met {f : Nat} (hf : 2 ^ 63 ≤ f) {h : CH} {x : Nat} {u : TS} {LS : LSt} (E : QE h x u LS) (l m a b c d : Int32) : QA (m_X0_met f h x l m a b c d) (m_X3_met f u l m a b c d) h u := by
  have E' := E
  obtain ⟨w, kf0, C, T, L⟩ := E
  unfold m_X0_met m_X3_met m_X0_met_13
  rw [gd_of C.isC]
  rcases askP_cases (f := f) hf E' l m a b c d with ⟨r, h', u', e1, e2, e3, e4, e5⟩ | ⟨k1, k2, M1, n1, t1, M2, n2, t2, h', u', rfl, rfl, hk1, hk2, hl1, hl2, ht, hP, hh, e1, e2, e4, e5⟩
  · rw [e1, e2, bd2_some, bd2_some, if_neg e3, if_neg e3]
    exact QA.mk rfl rfl e4 (by omega) (by omega) e5 (by decide)
  · have E1 := E'.st e4 e5 (by decide)
    obtain ⟨q1, q2⟩ := isPI_ok hP
    obtain ⟨N, h2, o1, o2, o3, o4, o5⟩ := X0_orderOf (f := f) hf E1 hl1 hl2 ht hP hh
    obtain ⟨r', u2, g1, g2, g3⟩ := X3_latticeHas (f := f) hf E1.2.2.2.1 hl2 (L k2 M2 n2 t2 hl2) (fun j hj => Nat.le_trans (q1 j hj) (by decide)) q2
    have o41 := o4 1
    rw [show ((1 : Nat) : Int) = 1 from rfl, vsm_1, ← g2] at o41
    obtain ⟨l1, l2, l3⟩ := toL3 a b c
    rw [e1, e2, bd2_some, bd2_some, z_z, z_z, gd_of E1.2.2.1.isC, o1, bd2_some, l1, l2, l3, toL d, g1, bd2_some]
    refine QA.mk (r := if r' = true then 1 else 0) (h' := h2) (u' := u2) ?_ ?_ (e4.tr o5 (fun _ _ => id)) (by omega) (by omega) ((e5.mono (by decide)).tr g3) (by decide)
    · unfold m_X0_met_38 m_X0_met_47
      cases r' with
      | false =>
        have : ¬ N = 1 := fun e => by have := o41.mpr (by rw [e]; exact Nat.dvd_refl 1); cases this
        rw [if_pos (show ¬ ni N = 1 from fun e => this ((ni_inj (by omega) (by omega)).mp (show ni N = ni 1 from e)))]
        rfl
      | true =>
        have : N = 1 := Nat.dvd_one.mp (o41.mp rfl)
        subst this
        rw [if_neg (show ¬ ¬ ni 1 = 1 from fun h => h rfl)]
        rfl
    · cases r' <;> rfl
theorem X3_o35 {f : Nat} (hf : 4 ≤ f) {M : Mi} {n : Int} {tn : Bool} (LO : LatOk M n tn) {a b c d : Int32} (hP : isPI a b c d = true) {N : Nat} (hN : 1 ≤ N ∧ N ≤ 2160) (hk : ∀ k : Nat, hasP (m3 M) n (vsm k (v3 (p3 a.toInt b.toInt c.toInt))) d.toInt ↔ N ∣ k) : ∀ j k m u, k + j = N → 1 ≤ k → j < m → tR 18 u (hrun 100 (M, [])).1 → tL u 19 = li n → ∃ u', m_X3_order_35 f m u a b c d (ni k) = some (ni N, u') ∧ Fr [26] u u' := by
  obtain ⟨q1, q2⟩ := isPI_ok hP
  obtain ⟨l1, l2, l3⟩ := toL3 a b c
  intro j
  induction j with
  | zero =>
    intro k m u hj h1 hm t1 t2
    obtain ⟨m, rfl⟩ : ∃ z, m = z + 1 := ⟨m - 1, by omega⟩
    have : k = N := by omega
    subst this
    obtain ⟨r, u', e1, e2, e3⟩ := has_T (f := f) hf LO t1 t2 (p := fun j => (k : Int) * p3 a.toInt b.toInt c.toInt j) (X := 3000000) (by decide) (fun j hj => by rw [Int.natAbs_mul, Int.natAbs_natCast]; exact Nat.le_trans (Nat.mul_le_mul hN.2 (q1 j hj)) (by decide)) q2
    have hr : r = true := e2.mpr ((hk k).mpr (Nat.dvd_refl k))
    subst hr
    rw [m_X3_order_35, l1, l2, l3, toL d, toL (ni k), ni_toInt (by omega), li_mul, li_mul, li_mul, e1, bd2_some]
    exact ⟨u', rfl, e3⟩
  | succ j ih =>
    intro k m u hj h1 hm t1 t2
    obtain ⟨m, rfl⟩ : ∃ z, m = z + 1 := ⟨m - 1, by omega⟩
    obtain ⟨r, u', e1, e2, e3⟩ := has_T (f := f) hf LO t1 t2 (p := fun j => (k : Int) * p3 a.toInt b.toInt c.toInt j) (X := 3000000) (by decide) (fun j hj => by rw [Int.natAbs_mul, Int.natAbs_natCast]; exact Nat.le_trans (Nat.mul_le_mul (show k ≤ 2160 by omega) (q1 j hj)) (by decide)) q2
    have hr : r = false := by
      cases r with
      | false => rfl
      | true => have := Nat.le_of_dvd (by omega) ((hk k).mp (e2.mp rfl)); omega
    subst hr
    obtain ⟨u2, i1, i2⟩ := ih (k + 1) m u' (by omega) (by omega) (by omega) (t1.fr e3 (by decide)) (by rw [(e3 19 (by decide)).2.1]; exact t2)
    rw [m_X3_order_35, l1, l2, l3, toL d, toL (ni k), ni_toInt (by omega), li_mul, li_mul, li_mul, e1, bd2_some]
    refine ⟨u2, ?_, e3.tr i2⟩
    show m_X3_order_35 f m u' a b c d (ni k + 1) = _
    rw [ni_succ]; exact i1
theorem q_order {f : Nat} (hf : 2 ^ 63 ≤ f) {h : CH} {x : Nat} {u : TS} {LS : LSt} (E : QE h x u LS) (l m a b c d : Int32) : QA (m_X0_order f h x l m a b c d) (m_X3_order f u l m a b c d) h u := by
  have E' := E
  obtain ⟨w, kf0, C, T, L⟩ := E
  unfold m_X0_order m_X3_order m_X0_order_13
  rw [gd_of C.isC]
  rcases askP_cases (f := f) hf E' l m a b c d with ⟨r, h', u', e1, e2, e3, e4, e5⟩ | ⟨k1, k2, M1, n1, t1, M2, n2, t2, h', u', rfl, rfl, hk1, hk2, hl1, hl2, ht, hP, hh, e1, e2, e4, e5⟩
  · rw [e1, e2, bd2_some, bd2_some, if_neg e3, if_neg e3]
    exact QA.mk rfl rfl e4 (by omega) (by omega) e5 (by decide)
  · have E1 := E'.st e4 e5 (by decide)
    have LO2 := L k2 M2 n2 t2 hl2
    obtain ⟨N, h2, o1, o2, o3, o4, o5⟩ := X0_orderOf (f := f) hf E1 hl1 hl2 ht hP hh
    obtain ⟨v, v2, t1', t5, t6, t8, t7⟩ := herm_T (f := f) hf E1.2.2.2.1 hl2 LO2.run.1
    obtain ⟨u2, i1, i2⟩ := X3_o35 (f := f) (by omega) LO2 hP ⟨o2, o3⟩ o4 (N - 1) 1 f v2 (by omega) (by omega) (by omega) t6.1 t8
    rw [e1, e2, bd2_some, bd2_some, z_z, z_z, gd_of E1.2.2.1.isC, o1, bd2_some, t1', bd_some, t5, bd_some]
    exact QA.mk (r := ni N) (l := F1) rfl i1 (e4.tr o5 (fun _ _ => id)) (by omega) (by omega) (((e5.mono (by decide)).tr (t7.mono (by decide))).tr (i2.mono (by decide))) (by decide)
