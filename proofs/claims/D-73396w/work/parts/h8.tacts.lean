/-! acts: the twin -/
set_option maxRecDepth 100000
theorem lt_45 {k : Nat} (h : k < 45) : ¬ (45 : Int32) ≤ ni k := by
  rw [show (45 : Int32) = ni 45 from rfl, ni_le (by omega) (by omega)]; omega
theorem X3_keeps {f : Nat} (hf : 100 < f) {u : TS} {b : Nat → Nat} {n : Nat} {fk fp : Int32} {ts : List It} {W : Nat → Mi} {acts : List Act} {wy : Why} (T : TI u b n fk fp ts W acts wy) (ha : acts.length < 20) (l : Nat) : ∃ u1, m_X3_keeps f u = some u1 ∧ TI u1 b n fk fp ts W (acts ++ [(l, W)]) wy := by
  obtain ⟨t0, t1, t2, t3, t4, t5, t6, t7, t8, t9⟩ := T
  have ea : ∀ x y : Nat, (ni x : Int32) + ni y = ni (x + y) := fun x y => (Int32.ofNat_add x y).symm
  have em : ∀ x y : Nat, (ni x : Int32) * ni y = ni (x * y) := fun x y => (Int32.ofNat_mul x y).symm
  have key : ∀ j k m v, k + j = 45 → j < m → Fr [2] u v → (∀ i, i < 45 * acts.length → tA v 2 i = tA u 2 i) → (∀ i, i < k → tA v 2 (45 * acts.length + i) = tA u 0 (28 + i)) → ∃ v', m_X3_keeps_2 f m v (ni k) = m_X3_keeps_39 f v' ∧ Fr [2] u v' ∧ (∀ i, i < 45 * acts.length → tA v' 2 i = tA u 2 i) ∧ ∀ i, i < 45 → tA v' 2 (45 * acts.length + i) = tA u 0 (28 + i) := by
    intro j
    induction j with
    | zero =>
      intro k m v hk hm F e1 e2
      obtain ⟨m, rfl⟩ : ∃ z, m = z + 1 := ⟨m - 1, by omega⟩
      have : k = 45 := by omega
      subst this
      rw [m_X3_keeps_2, if_pos (show (45 : Int32) ≤ ni 45 from lekk 45)]
      exact ⟨v, rfl, F, e1, e2⟩
    | succ j ih =>
      intro k m v hk hm F e1 e2
      obtain ⟨m, rfl⟩ : ∃ z, m = z + 1 := ⟨m - 1, by omega⟩
      have k45 : k < 45 := by omega
      have f0 : ∀ x, tA v 0 x = tA u 0 x := (F 0 (by decide)).2.2.1
      rw [m_X3_keeps_2, if_neg (lt_45 k45), show Int32.toNatClampNeg (2 : Int32) = 2 from rfl, f0 2, t5, show (28 : Int32) = ni 28 from rfl, show (45 : Int32) = ni 45 from rfl, em, ea, ea, gd_of (ix_ni (by omega) (by decide)), gd_of (ix_ni (by omega) (by decide)), nmv_eq, nmv_eq, ni_succ, ni_clamp (by omega), ni_clamp (by omega), f0]
      refine ih (k + 1) m _ (by omega) (by omega) (F.tr (Fr.sA (by decide))) (fun i hi => ?_) (fun i hi => ?_)
      · rw [tA_sA, if_neg (fun hh => by have := hh.2; omega)]; exact e1 i hi
      · rw [tA_sA]
        by_cases e : i = k
        · rw [if_pos ⟨rfl, by omega⟩, e]
        · rw [if_neg (fun hh => by have := hh.2; omega)]; exact e2 i (by omega)
  obtain ⟨v, k1, k2, k3, k4⟩ := key 45 0 f u rfl (by omega) Fr.rf (fun _ _ => rfl) (fun i hi => by omega)
  have k1' : m_X3_keeps_2 f f u 0 = m_X3_keeps_39 f v := k1
  have f0 : ∀ x, tA v 0 x = tA u 0 x := (k2 0 (by decide)).2.2.1
  refine ⟨sA v 0 2 (ni (acts.length + 1)), ?_, ?_⟩
  · unfold m_X3_keeps
    rw [k1']
    unfold m_X3_keeps_39
    rw [nmv_eq, show Int32.toNatClampNeg (2 : Int32) = 2 from rfl, f0 2, t5, ni_succ]
  · have g0 : ∀ x, x ≠ 2 → tA (sA v 0 2 (ni (acts.length + 1))) 0 x = tA u 0 x := fun x hx => by rw [tA_sA, if_neg (fun hh => hx hh.2)]; exact f0 x
    have g2 : ∀ x, tA (sA v 0 2 (ni (acts.length + 1))) 2 x = tA v 2 x := fun x => by rw [tA_sA, if_neg (fun hh => by have := hh.1; omega)]
    have gI : ∀ k, k ≠ 2 → tI (sA v 0 2 (ni (acts.length + 1))) k = tI u k := fun k hk => (k2 k (by simpa using hk)).1
    have g3 : ∀ x, tA (sA v 0 2 (ni (acts.length + 1))) 3 x = tA u 3 x := fun x => by rw [tA_sA, if_neg (fun hh => by have := hh.1; omega)]; exact (k2 3 (by decide)).2.2.1 x
    refine ⟨⟨by rw [gI 4 (by decide)]; exact t0.1, t0.2.1, fun i hi => ⟨(t0.2.2 i hi).1, by rw [g3]; exact (t0.2.2 i hi).2⟩⟩, by rw [gI 5 (by decide)]; exact t1, by rw [gI 6 (by decide)]; exact t2, by rw [g0 0 (by decide)]; exact t3, by rw [g0 1 (by decide)]; exact t4, ?_, fun k hk => ?_, fun l i hl hi => by rw [g0 _ (by omega)]; exact t7 l i hl hi, fun k l' Wk hk l2 i hl2 hi => ?_, ?_⟩
    · rw [tA_sA, if_pos ⟨rfl, rfl⟩, List.length_append]; rfl
    · have := t6 k hk
      cases hq : (ts.getD k ([], none)).2 with
      | none => rw [hq] at this; show tA _ 0 (3 + k) = -1; rw [g0 _ (by omega)]; exact this
      | some j => rw [hq] at this; exact ⟨by rw [g0 _ (by omega)]; exact this.1, fun i hi => by rw [g0 _ (by omega)]; exact this.2 i hi⟩
    · rw [g2]
      by_cases hka : k < acts.length
      · rw [List.getElem?_append_left hka] at hk
        rw [k3 _ (by omega)]; exact t8 k l' Wk hk l2 i hl2 hi
      · rw [List.getElem?_append_right (by omega)] at hk
        have hk0 : k - acts.length = 0 := by
          cases hd : k - acts.length with
          | zero => rfl
          | succ z => rw [hd] at hk; cases hk
        rw [hk0] at hk
        have hkk : k = acts.length := by omega
        subst hkk
        cases hk
        rw [show 45 * acts.length + 9 * l2 + i = 45 * acts.length + (9 * l2 + i) by omega, k4 _ (by omega), show 28 + (9 * l2 + i) = 28 + 9 * l2 + i by omega]
        exact t7 l2 i hl2 hi
    · cases wy with
      | none => show tI _ 7 = 0; rw [gI 7 (by decide)]; exact t9
      | some z =>
        obtain ⟨a, k, l, r⟩ := z
        exact ⟨by rw [gI 7 (by decide)]; exact t9.1, t9.2.1, by rw [gI 8 (by decide)]; exact t9.2.2.1, by rw [gI 9 (by decide)]; exact t9.2.2.2.1, by rw [gI 10 (by decide)]; exact t9.2.2.2.2⟩
theorem X3_goesBack {f : Nat} (hf : 100 < f) {u : TS} {b : Nat → Nat} {n : Nat} {fk fp : Int32} {ts : List It} {W : Nat → Mi} {acts : List Act} {wy : Why} (T : TI u b n fk fp ts W acts wy) (ha : acts.length ≤ 20) (h5 : ts.length ≤ 5) {j l : Nat} {Wj : Nat → Mi} (hj : acts[j]? = some (l, Wj)) : ∃ u1, m_X3_goesBack f u (ni j) = some u1 ∧ TI u1 b n fk fp ts Wj (acts.take j) wy := by
  obtain ⟨t0, t1, t2, t3, t4, t5, t6, t7, t8, t9⟩ := T
  have jl : j < acts.length := (List.getElem?_eq_some_iff.mp hj).1
  have ea : ∀ x y : Nat, (ni x : Int32) + ni y = ni (x + y) := fun x y => (Int32.ofNat_add x y).symm
  have em : ∀ x y : Nat, (ni x : Int32) * ni y = ni (x * y) := fun x y => (Int32.ofNat_mul x y).symm
  have key : ∀ i k m v, k + i = 45 → i < m → Fr [0] u v → (∀ x, x < 28 → x ≠ 2 → tA v 0 x = tA u 0 x) → tA v 0 2 = ni j → (∀ x, x < k → tA v 0 (28 + x) = tA u 2 (45 * j + x)) → ∃ v', m_X3_goesBack_9 f m v (ni j) (ni k) = some v' ∧ Fr [0] u v' ∧ (∀ x, x < 28 → x ≠ 2 → tA v' 0 x = tA u 0 x) ∧ tA v' 0 2 = ni j ∧ ∀ x, x < 45 → tA v' 0 (28 + x) = tA u 2 (45 * j + x) := by
    intro i
    induction i with
    | zero =>
      intro k m v hk hm F e1 e2 e3
      obtain ⟨m, rfl⟩ : ∃ z, m = z + 1 := ⟨m - 1, by omega⟩
      have : k = 45 := by omega
      subst this
      rw [m_X3_goesBack_9, if_pos (show (45 : Int32) ≤ ni 45 from lekk 45)]
      exact ⟨v, rfl, F, e1, e2, e3⟩
    | succ i ih =>
      intro k m v hk hm F e1 e2 e3
      obtain ⟨m, rfl⟩ : ∃ z, m = z + 1 := ⟨m - 1, by omega⟩
      have k45 : k < 45 := by omega
      have f2 : ∀ x, tA v 2 x = tA u 2 x := (F 2 (by decide)).2.2.1
      rw [m_X3_goesBack_9, if_neg (lt_45 k45), show (28 : Int32) = ni 28 from rfl, show (45 : Int32) = ni 45 from rfl, em, ea, ea, gd_of (ix_ni (by omega) (by decide)), gd_of (ix_ni (by omega) (by decide)), nmv_eq, nmv_eq, ni_succ, ni_clamp (by omega), ni_clamp (by omega), f2]
      refine ih (k + 1) m _ (by omega) (by omega) (F.tr (Fr.sA (by decide))) (fun x hx h2 => ?_) ?_ (fun x hx => ?_)
      · rw [tA_sA, if_neg (fun hh => by have := hh.2; omega)]; exact e1 x hx h2
      · rw [tA_sA, if_neg (fun hh => by have := hh.2; omega)]; exact e2
      · rw [tA_sA]
        by_cases e : x = k
        · rw [if_pos ⟨rfl, by omega⟩, e]
        · rw [if_neg (fun hh => by have := hh.2; omega)]; exact e3 x (by omega)
  obtain ⟨v, k1, k2, k3, k4, k5⟩ := key 45 0 f (sA u 0 2 (ni j)) rfl (by omega) (Fr.sA (by decide)) (fun x hx h2 => by rw [tA_sA, if_neg (fun hh => h2 hh.2)]) (by rw [tA_sA, if_pos ⟨rfl, rfl⟩]) (fun x hx => by omega)
  have k1' : m_X3_goesBack_9 f f (sA u 0 2 (ni j)) (ni j) 0 = some v := k1
  refine ⟨v, ?_, ?_⟩
  · unfold m_X3_goesBack
    rw [nmv_eq, show Int32.toNatClampNeg (2 : Int32) = 2 from rfl, k1']
  · have gI : ∀ k, k ≠ 0 → tI v k = tI u k := fun k hk => (k2 k (by simpa using hk)).1
    have g3 : ∀ x, tA v 3 x = tA u 3 x := (k2 3 (by decide)).2.2.1
    have g2 : ∀ x, tA v 2 x = tA u 2 x := (k2 2 (by decide)).2.2.1
    have jt : (acts.take j).length = j := by rw [List.length_take]; omega
    refine ⟨⟨by rw [gI 4 (by decide)]; exact t0.1, t0.2.1, fun i hi => ⟨(t0.2.2 i hi).1, by rw [g3]; exact (t0.2.2 i hi).2⟩⟩, by rw [gI 5 (by decide)]; exact t1, by rw [gI 6 (by decide)]; exact t2, by rw [k3 0 (by decide) (by decide)]; exact t3, by rw [k3 1 (by decide) (by decide)]; exact t4, by rw [k4, jt], fun k hk => ?_, fun l2 i hl hi => ?_, fun k l' Wk hk l2 i hl2 hi => ?_, ?_⟩
    · have := t6 k hk
      cases hq : (ts.getD k ([], none)).2 with
      | none => rw [hq] at this; show tA v 0 (3 + k) = -1; rw [k3 _ (by omega) (by omega)]; exact this
      | some j' => rw [hq] at this; exact ⟨by rw [k3 _ (by omega) (by omega)]; exact this.1, fun i hi => by rw [k3 _ (by omega) (by omega)]; exact this.2 i hi⟩
    · rw [show 28 + 9 * l2 + i = 28 + (9 * l2 + i) by omega, k5 _ (by omega), show 45 * j + (9 * l2 + i) = 45 * j + 9 * l2 + i by omega]
      exact t8 j l Wj hj l2 i hl hi
    · have hkj : k < j := by have := (List.getElem?_eq_some_iff.mp hk).1; omega
      rw [List.getElem?_take_of_lt hkj] at hk
      rw [g2]; exact t8 k l' Wk hk l2 i hl2 hi
    · cases wy with
      | none => show tI _ 7 = 0; rw [gI 7 (by decide)]; exact t9
      | some z =>
        obtain ⟨a, k, l, r⟩ := z
        exact ⟨by rw [gI 7 (by decide)]; exact t9.1, t9.2.1, by rw [gI 8 (by decide)]; exact t9.2.2.1, by rw [gI 9 (by decide)]; exact t9.2.2.2.1, by rw [gI 10 (by decide)]; exact t9.2.2.2.2⟩
