/-! acts: the twin's rows -/
set_option maxRecDepth 100000
def updW (W : Nat → Mi) (l : Nat) (M : Mi) : Nat → Mi := fun k => if k = l then M else W k
/-- why rows of which one was changed are refused -/
def knd (M : Mi) (i : Nat) : Nat := if 20 < (M i 0).natAbs ∨ 20 < (M i 1).natAbs ∨ 20 < (M i 2).natAbs then 1 else if 1 ≤ (dtf M).natAbs ∧ (dtf M).natAbs ≤ 60 then 0 else 2
theorem knd_lt (M : Mi) (i : Nat) : knd M i < 3 := by
  unfold knd
  split
  · omega
  · split <;> omega
/-- what comes of an act -/
def out (W : Nat → Mi) (acts : List Act) (wy : Why) (a : Int32) (k i : Nat) (M : Mi) : Int32 × (Nat → Mi) × List Act × Why := if acts.length = 20 then (-5, W, acts, some (a, 3, ni k, -1)) else if knd M i = 0 then (0, updW W k M, acts ++ [(k, W)], wy) else (-5, W, acts, some (a, ni (knd M i), ni k, ni i))
def ownB (ts : List It) (l : Int32) : Bool := inI l.toInt 0 ((ts.length : Int) - 1) && (ts.getD l.toInt.toNat ([], none)).2.isNone
theorem ownB_ni {ts : List It} {l : Int32} (h : ownB ts l = true) : ∃ k, l = ni k ∧ k < ts.length ∧ (ts.getD k ([], none)).2 = none := by
  unfold ownB inI at h
  obtain ⟨h1, h2⟩ := Bool.and_eq_true_iff.mp h
  have h1 := of_decide_eq_true h1
  refine ⟨l.toInt.toNat, ?_, by omega, Option.isNone_iff_eq_none.mp h2⟩
  have e := i_of l
  rw [show l.toInt = ((l.toInt.toNat : Nat) : Int) by omega] at e
  rw [e]
  show _ = Int32.ofNat _
  rw [← e, show Int32.ofNat l.toInt.toNat = Int32.ofInt (l.toInt.toNat : Nat) from (Int32.ofInt_eq_ofNat).symm, ← e]
theorem TI.rows {u u1 : TS} {b : Nat → Nat} {n : Nat} {fk fp : Int32} {ts : List It} {W W1 : Nat → Mi} {acts : List Act} {wy : Why} (T : TI u b n fk fp ts W acts wy) (h5 : ts.length ≤ 5) (F : Fr [0] u u1) (e : ∀ x, x < 28 → tA u1 0 x = tA u 0 x) (e1 : ∀ l i, l < 5 → i < 9 → (tA u1 0 (28 + 9 * l + i)).toInt = W1 l (i / 3) (i % 3)) : TI u1 b n fk fp ts W1 acts wy := by
  obtain ⟨t0, t1, t2, t3, t4, t5, t6, t7, t8, t9⟩ := T
  have gI : ∀ k, k ≠ 0 → tI u1 k = tI u k := fun k hk => (F k (by simpa using hk)).1
  have g3 : ∀ x, tA u1 3 x = tA u 3 x := (F 3 (by decide)).2.2.1
  have g2 : ∀ x, tA u1 2 x = tA u 2 x := (F 2 (by decide)).2.2.1
  refine ⟨⟨by rw [gI 4 (by decide)]; exact t0.1, t0.2.1, fun i hi => ⟨(t0.2.2 i hi).1, by rw [g3]; exact (t0.2.2 i hi).2⟩⟩, by rw [gI 5 (by decide)]; exact t1, by rw [gI 6 (by decide)]; exact t2, by rw [e 0 (by decide)]; exact t3, by rw [e 1 (by decide)]; exact t4, by rw [e 2 (by decide)]; exact t5, fun k hk => ?_, e1, fun k l' Wk hk l2 i hl2 hi => by rw [g2]; exact t8 k l' Wk hk l2 i hl2 hi, ?_⟩
  · have := t6 k hk
    cases hq : (ts.getD k ([], none)).2 with
    | none => rw [hq] at this; show tA u1 0 (3 + k) = -1; rw [e _ (by omega)]; exact this
    | some j' => rw [hq] at this; exact ⟨by rw [e _ (by omega)]; exact this.1, fun i hi => by rw [e _ (by omega)]; exact this.2 i hi⟩
  · cases wy with
    | none => show tI _ 7 = 0; rw [gI 7 (by decide)]; exact t9
    | some z =>
      obtain ⟨a, k, l, r⟩ := z
      exact ⟨by rw [gI 7 (by decide)]; exact t9.1, t9.2.1, by rw [gI 8 (by decide)]; exact t9.2.2.1, by rw [gI 9 (by decide)]; exact t9.2.2.2.1, by rw [gI 10 (by decide)]; exact t9.2.2.2.2⟩
theorem TI.why {u u1 : TS} {b : Nat → Nat} {n : Nat} {fk fp : Int32} {ts : List It} {W : Nat → Mi} {acts : List Act} {wy : Why} (T : TI u b n fk fp ts W acts wy) (F : Fr [7, 8, 9, 10] u u1) {a k l r : Int32} (ha : a ≠ 0) (e7 : tI u1 7 = a) (e8 : tI u1 8 = k) (e9 : tI u1 9 = l) (e10 : tI u1 10 = r) : TI u1 b n fk fp ts W acts (some (a, k, l, r)) := by
  obtain ⟨t0, t1, t2, t3, t4, t5, t6, t7, t8, t9⟩ := T
  have e0 : tA u1 0 = tA u 0 := funext (F 0 (by decide)).2.2.1
  have e2 : tA u1 2 = tA u 2 := funext (F 2 (by decide)).2.2.1
  have e3 : tA u1 3 = tA u 3 := funext (F 3 (by decide)).2.2.1
  exact ⟨⟨by rw [(F 4 (by decide)).1]; exact t0.1, t0.2.1, fun i hi => ⟨(t0.2.2 i hi).1, by rw [e3]; exact (t0.2.2 i hi).2⟩⟩, by rw [(F 5 (by decide)).1]; exact t1, by rw [(F 6 (by decide)).1]; exact t2, by rw [e0]; exact t3, by rw [e0]; exact t4, by rw [e0]; exact t5, by rw [e0]; exact t6, by rw [e0]; exact t7, by rw [e2]; exact t8, e7, ha, e8, e9, e10⟩
theorem X3_refuses {f : Nat} {u : TS} {b : Nat → Nat} {n : Nat} {fk fp : Int32} {ts : List It} {W : Nat → Mi} {acts : List Act} {wy : Why} (T : TI u b n fk fp ts W acts wy) {a k l r : Int32} (ha : a ≠ 0) : ∃ u1, m_X3_refuses f u a k l r = some (-5, u1) ∧ TI u1 b n fk fp ts W acts (some (a, k, l, if k = 3 then -1 else r)) := by
  have F : ∀ v, Fr [7, 8, 9, 10] u (sI (sI (sI (sI u 7 a) 8 k) 9 l) 10 v) := fun v => (((Fr.sI (by decide)).tr (Fr.sI (by decide))).tr (Fr.sI (by decide))).tr (Fr.sI (by decide))
  unfold m_X3_refuses m_X3_refuses_27
  simp only [nmv_eq]
  by_cases h3 : k = 3
  · rw [if_neg (fun hh => hh h3), if_pos h3]
    exact ⟨_, rfl, T.why (F _) ha rfl rfl rfl rfl⟩
  · rw [if_pos h3, if_neg h3]
    exact ⟨_, rfl, T.why (F _) ha rfl rfl rfl rfl⟩
theorem dtf_rg {M : Mi} {B : Nat} (hB : B ≤ 2000) (hb : ∀ i j, i < 3 → j < 3 → (M i j).natAbs ≤ B) : (dtf M).natAbs < 2 ^ 40 := by
  have p : ∀ a b c : Int, a.natAbs ≤ B → b.natAbs ≤ B → c.natAbs ≤ B → (a * (b * c)).natAbs ≤ 8000000000 := fun a b c h1 h2 h3 => by
    rw [Int.natAbs_mul, Int.natAbs_mul]
    exact Nat.le_trans (Nat.mul_le_mul (Nat.le_trans h1 hB) (Nat.mul_le_mul (Nat.le_trans h2 hB) (Nat.le_trans h3 hB))) (by decide)
  have q : ∀ i j, i < 3 → j < 3 → (M i j).natAbs ≤ B := hb
  unfold dtf mnr
  simp only [Int.mul_sub]
  have a1 := p _ _ _ (q 0 0 (by decide) (by decide)) (q ((0 + 1) % 3) ((0 + 1) % 3) (by decide) (by decide)) (q ((0 + 2) % 3) ((0 + 2) % 3) (by decide) (by decide))
  have a2 := p _ _ _ (q 0 0 (by decide) (by decide)) (q ((0 + 1) % 3) ((0 + 2) % 3) (by decide) (by decide)) (q ((0 + 2) % 3) ((0 + 1) % 3) (by decide) (by decide))
  have a3 := p _ _ _ (q 0 1 (by decide) (by decide)) (q ((0 + 1) % 3) ((1 + 1) % 3) (by decide) (by decide)) (q ((0 + 2) % 3) ((1 + 2) % 3) (by decide) (by decide))
  have a4 := p _ _ _ (q 0 1 (by decide) (by decide)) (q ((0 + 1) % 3) ((1 + 2) % 3) (by decide) (by decide)) (q ((0 + 2) % 3) ((1 + 1) % 3) (by decide) (by decide))
  have a5 := p _ _ _ (q 0 2 (by decide) (by decide)) (q ((0 + 1) % 3) ((2 + 1) % 3) (by decide) (by decide)) (q ((0 + 2) % 3) ((2 + 2) % 3) (by decide) (by decide))
  have a6 := p _ _ _ (q 0 2 (by decide) (by decide)) (q ((0 + 1) % 3) ((2 + 2) % 3) (by decide) (by decide)) (q ((0 + 2) % 3) ((2 + 1) % 3) (by decide) (by decide))
  omega
theorem X3_stays {f : Nat} (hf : 100 < f) {u : TS} {b : Nat → Nat} {n : Nat} {fk fp : Int32} {ts : List It} {W : Nat → Mi} {acts : List Act} {wy : Why} {l i : Nat} {M : Mi} (T : TI u b n fk fp ts (updW W l M) (acts ++ [(l, W)]) wy) (ha : acts.length < 20) (h5 : ts.length ≤ 5) (hl : l < 5) (hi : i < 3) (h1 : ∀ r c, r < 3 → c < 3 → r ≠ i → (M r c).natAbs ≤ 20) (h2 : ∀ r c, r < 3 → c < 3 → (M r c).natAbs ≤ 2000) {a : Int32} (hz : a ≠ 0) : ∃ u1, m_X3_stays f u a (ni l) (ni i) = some ((out W acts wy a l i M).1, u1) ∧ TI u1 b n fk fp ts (out W acts wy a l i M).2.1 (out W acts wy a l i M).2.2.1 (out W acts wy a l i M).2.2.2 := by
  have ea : ∀ x y : Nat, (ni x : Int32) + ni y = ni (x + y) := fun x y => (Int32.ofNat_add x y).symm
  have em : ∀ x y : Nat, (ni x : Int32) * ni y = ni (x * y) := fun x y => (Int32.ofNat_mul x y).symm
  have T7 : ∀ k, k < 9 → (tA u 0 (28 + 9 * l + k)).toInt = M (k / 3) (k % 3) := fun k hk => by
    have := T.2.2.2.2.2.2.2.1 l k hl hk
    unfold updW at this
    rw [if_pos rfl] at this; exact this
  have key : ∀ j k m fl, k + j = 9 → j < m → ((fl = 0 ∧ ∀ z, z < k → (M (z / 3) (z % 3)).natAbs ≤ 20) ∨ (fl = 1 ∧ ∃ z, z < k ∧ 20 < (M (z / 3) (z % 3)).natAbs)) → ∃ fl' : Int32, m_X3_stays_6 f m u a (ni l) (ni i) fl (ni k) = m_X3_stays_59 f u a (ni l) (ni i) fl' ∧ ((fl' = 0 ∧ ∀ z, z < 9 → (M (z / 3) (z % 3)).natAbs ≤ 20) ∨ (fl' = 1 ∧ ∃ z, z < 9 ∧ 20 < (M (z / 3) (z % 3)).natAbs)) := by
    intro j
    induction j with
    | zero =>
      intro k m fl hk hm hf'
      obtain ⟨m, rfl⟩ : ∃ z, m = z + 1 := ⟨m - 1, by omega⟩
      have : k = 9 := by omega
      subst this
      rw [m_X3_stays_6, if_pos (show (9 : Int32) ≤ ni 9 from lekk 9)]
      exact ⟨fl, rfl, hf'⟩
    | succ j ih =>
      intro k m fl hk hm hf'
      obtain ⟨m, rfl⟩ : ∃ z, m = z + 1 := ⟨m - 1, by omega⟩
      have k9 : k < 9 := by omega
      have n9 : ¬ (9 : Int32) ≤ ni k := fun hh => by have := (ni_le (n := 9) (by decide) (by omega)).mp hh; omega
      rw [m_X3_stays_6, if_neg n9]
      unfold m_X3_stays_46 m_X3_stays_51
      simp only [nmv_eq, ni_succ]
      rcases hf' with ⟨rfl, hz0⟩ | ⟨rfl, z, hz1, hz2⟩
      · have vk := T7 k k9
        rw [if_neg (fun hh => hh rfl), show (28 : Int32) = ni 28 from rfl, show (9 : Int32) = ni 9 from rfl, em, ea, ea, gd_of (ix_ni (by omega) (by decide)), ni_clamp (by omega), toL, vk, show (-20 : Int64) = li (-20) from rfl, show (20 : Int64) = li 20 from rfl, in_li (by have := h2 (k / 3) (k % 3) (by omega) (by omega); exact rg_nat.mpr (by omega)) (rg_sm (by omega) (by omega)) (rg_sm (by omega) (by omega)), bd_some]
        by_cases hs : inI (M (k / 3) (k % 3)) (-20) 20 = true
        · rw [if_pos hs, if_pos (show ¬ (1 : Int32) = 0 by decide)]
          have := of_decide_eq_true hs
          exact ih (k + 1) m 0 (by omega) (by omega) (.inl ⟨rfl, fun z hz => by
            by_cases e : z = k
            · subst e; omega
            · exact hz0 z (by omega)⟩)
        · rw [if_neg hs, if_neg (fun hh => hh rfl)]
          exact ih (k + 1) m 1 (by omega) (by omega) (.inr ⟨rfl, k, by omega, by
            refine Decidable.byContradiction fun hc => hs (decide_eq_true ?_)
            omega⟩)
      · rw [if_pos (show ¬ (1 : Int32) = 0 by decide)]
        exact ih (k + 1) m 1 (by omega) (by omega) (.inr ⟨rfl, z, by omega, hz2⟩)
  obtain ⟨fl, k1, k2⟩ := key 9 0 f 0 rfl (by omega) (.inl ⟨rfl, fun z hz => by omega⟩)
  have k1' : m_X3_stays f u a (ni l) (ni i) = m_X3_stays_59 f u a (ni l) (ni i) fl := k1
  have n20 : ¬ acts.length = 20 := by omega
  have back : ∀ w : Nat, w < 3 → w ≠ 0 → ∃ u1, m_X3_stays_97 f u a (ni l) (ni i) (ni w) = some (-5, u1) ∧ TI u1 b n fk fp ts W acts (some (a, ni w, ni l, ni i)) := fun w hw hw0 => by
    obtain ⟨u2, g1, g2⟩ := X3_goesBack (f := f) hf T (by rw [List.length_append]; show acts.length + 1 ≤ 20; omega) h5 (j := acts.length) (l := l) (Wj := W) (by rw [List.getElem?_append_right (by omega), Nat.sub_self]; rfl)
    rw [List.take_left' rfl] at g2
    obtain ⟨u3, g3, g4⟩ := X3_refuses (f := f) g2 (k := ni w) (l := ni l) (r := ni i) hz
    have w3 : ¬ ni w = (3 : Int32) := fun hh => by have := (ni_inj (k := 3) (by omega) (by decide)).mp hh; omega
    rw [if_neg w3] at g4
    have t5 : tA u 0 2 = ni (acts.length + 1) := by have := T.2.2.2.2.2.1; rw [List.length_append] at this; exact this
    refine ⟨u3, ?_, g4⟩
    unfold m_X3_stays_97
    rw [if_pos (show ¬ ni w = (0 : Int32) from fun hh => by have := (ni_inj (k := 0) (by omega) (by decide)).mp hh; omega), show Int32.toNatClampNeg (2 : Int32) = 2 from rfl, t5, show ni (acts.length + 1) - (1 : Int32) = ni acts.length by rw [← ni_succ, Int32.add_sub_cancel], g1, bd_some, g3, bd2_some]
  rw [k1']
  unfold out
  rw [if_neg n20]
  unfold m_X3_stays_59
  rcases k2 with ⟨rfl, w1⟩ | ⟨rfl, z, z1', z2'⟩
  · have nw : ¬ (20 < (M i 0).natAbs ∨ 20 < (M i 1).natAbs ∨ 20 < (M i 2).natAbs) := fun hh => by
      have e0 := w1 (3 * i) (by omega); have e1 := w1 (3 * i + 1) (by omega); have e2 := w1 (3 * i + 2) (by omega)
      rw [show 3 * i / 3 = i by omega, show 3 * i % 3 = 0 by omega] at e0
      rw [show (3 * i + 1) / 3 = i by omega, show (3 * i + 1) % 3 = 1 by omega] at e1
      rw [show (3 * i + 2) / 3 = i by omega, show (3 * i + 2) % 3 = 2 by omega] at e2
      omega
    have dr := dtf_rg (Nat.le_refl _) h2
    rw [if_pos rfl, show (28 : Int32) = ni 28 from rfl, show (9 : Int32) = ni 9 from rfl, em, ea, X3_detOf (by omega) (by omega) T7 h2, bd2_some, sized_li (rg_nat.mpr (by omega)), bd_some, show (1 : Int64) = li 1 from rfl, show (60 : Int64) = li 60 from rfl, in_li (rg_nat.mpr (by omega)) (rg_sm (by omega) (by omega)) (rg_sm (by omega) (by omega)), bd_some]
    by_cases hd : 1 ≤ (dtf M).natAbs ∧ (dtf M).natAbs ≤ 60
    · have ek : knd M i = 0 := by unfold knd; rw [if_neg nw, if_pos hd]
      rw [if_pos ek, if_pos (show inI ((dtf M).natAbs : Nat) 1 60 = true from decide_eq_true (by omega)), if_pos (show ¬ (1 : Int32) = 0 by decide)]
      unfold m_X3_stays_97
      rw [if_neg (fun hh => hh rfl)]
      exact ⟨u, rfl, T⟩
    · have ek : knd M i = 2 := by unfold knd; rw [if_neg nw, if_neg hd]
      rw [ek, if_neg (show ¬ (2 : Nat) = 0 by decide), if_neg (show ¬ inI ((dtf M).natAbs : Nat) 1 60 = true from fun hh => hd (by have := of_decide_eq_true hh; omega)), if_neg (fun hh => hh rfl)]
      exact back 2 (by decide) (by decide)
  · have yw : 20 < (M i 0).natAbs ∨ 20 < (M i 1).natAbs ∨ 20 < (M i 2).natAbs := by
      have e : z / 3 = i := Decidable.byContradiction fun hne => by
        have := h1 (z / 3) (z % 3) (by omega) (by omega) hne; omega
      rw [e] at z2'
      rcases (show z % 3 = 0 ∨ z % 3 = 1 ∨ z % 3 = 2 by omega) with e' | e' | e' <;> rw [e'] at z2'
      · exact .inl z2'
      · exact .inr (.inl z2')
      · exact .inr (.inr z2')
    have ek : knd M i = 1 := by unfold knd; rw [if_pos yw]
    rw [ek, if_neg (show ¬ (1 : Nat) = 0 by decide), if_neg (show ¬ (1 : Int32) = 0 by decide)]
    exact back 1 (by decide) (by decide)
