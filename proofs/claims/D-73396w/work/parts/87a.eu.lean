set_option maxRecDepth 100000
/-! Euclid by a pivot: nothing grows -/
theorem ab_mul (x y : Int) : (x * y).natAbs = x.natAbs * y.natAbs := Int.natAbs_mul x y
/-- t y lies between 0 and a y if t lies between 0 and a -/
theorem btw_mul {t a y : Int} (h : (0 ≤ t ∧ t ≤ a) ∨ (a ≤ t ∧ t ≤ 0)) : (0 ≤ t * y ∧ t * y ≤ a * y) ∨ (a * y ≤ t * y ∧ t * y ≤ 0) := by
  rcases Int.le_total 0 y with hy | hy
  · rcases h with ⟨h1, h2⟩ | ⟨h1, h2⟩
    · exact .inl ⟨Int.mul_nonneg h1 hy, Int.mul_le_mul_of_nonneg_right h2 hy⟩
    · exact .inr ⟨Int.mul_le_mul_of_nonneg_right h1 hy, Int.mul_nonpos_of_nonpos_of_nonneg h2 hy⟩
  · rcases h with ⟨h1, h2⟩ | ⟨h1, h2⟩
    · exact .inr ⟨Int.mul_le_mul_of_nonpos_right h2 hy, Int.mul_nonpos_of_nonneg_of_nonpos h1 hy⟩
    · exact .inl ⟨Int.mul_nonneg_of_nonpos_of_nonpos h2 hy, Int.mul_le_mul_of_nonpos_right h1 hy⟩
theorem btw_tdiv (a b : Int) : (0 ≤ a.tdiv b * b ∧ a.tdiv b * b ≤ a) ∨ (a ≤ a.tdiv b * b ∧ a.tdiv b * b ≤ 0) := by
  have h := Int.mul_tdiv_add_tmod a b
  rw [Int.mul_comm] at h
  rcases Int.le_total 0 a with ha | ha
  · have h1 := Int.tmod_nonneg b ha
    have h2 : a.tmod b ≤ a := by
      have h3 : (a.tmod b).natAbs ≤ a.natAbs := by rw [Int.natAbs_tmod]; exact Nat.mod_le _ _
      omega
    exact .inl ⟨by omega, by omega⟩
  · have h1 : a.tmod b ≤ 0 := by have h4 := Int.tmod_nonneg b (show 0 ≤ -a by omega); rw [Int.neg_tmod] at h4; omega
    have h2 : a ≤ a.tmod b := by
      have h3 : (a.tmod b).natAbs ≤ a.natAbs := by rw [Int.natAbs_tmod]; exact Nat.mod_le _ _
      omega
    exact .inr ⟨by omega, by omega⟩
theorem btw_tmod (a b : Int) : (0 ≤ a.tmod b ∧ a.tmod b ≤ a) ∨ (a ≤ a.tmod b ∧ a.tmod b ≤ 0) := by
  have h := Int.mul_tdiv_add_tmod a b
  rw [Int.mul_comm] at h
  have := btw_tdiv a b
  omega
theorem le_of_ab {x b : Int} {X : Nat} (hb : b ≠ 0) (h : (x * b).natAbs ≤ X * b.natAbs) : x.natAbs ≤ X := by
  rw [Int.natAbs_mul] at h
  exact Nat.le_of_mul_le_mul_right h (by omega)
/-- another column stays small -/
theorem eu_col {a b x y : Int} {X : Nat} (hb : b ≠ 0) (hx : x.natAbs ≤ X) (hW : (x * b - y * a).natAbs ≤ X * b.natAbs) : (x - a.tdiv b * y).natAbs ≤ X := by
  refine le_of_ab hb ?_
  have e : (x - a.tdiv b * y) * b = x * b - (a.tdiv b * b) * y := by grind
  have h1 := btw_mul (y := y) (btw_tdiv a b)
  have h2 : (x * b).natAbs ≤ X * b.natAbs := by rw [Int.natAbs_mul]; exact Nat.mul_le_mul_right _ hx
  rw [e]
  rw [Int.mul_comm y a] at hW
  generalize X * b.natAbs = B at *
  omega
/-- what two columns tell of two rows stays small -/
theorem eu_two {a1 a2 b x1 x2 y : Int} {M : Nat} (hb : b ≠ 0) (h1 : (x1 * b - y * a1).natAbs ≤ M) (h2 : (x2 * b - y * a2).natAbs ≤ M) (h3 : (x1 * a2 - x2 * a1).natAbs ≤ M) : ((x1 - a1.tdiv b * y) * (a2.tmod b) - (x2 - a2.tdiv b * y) * (a1.tmod b)).natAbs ≤ M := by
  refine le_of_ab hb ?_
  have m1 := Int.mul_tdiv_add_tmod a1 b
  have m2 := Int.mul_tdiv_add_tmod a2 b
  have e : ((x1 - a1.tdiv b * y) * (a2.tmod b) - (x2 - a2.tdiv b * y) * (a1.tmod b)) * b = a2.tmod b * (x1 * b - y * a1) - a1.tmod b * (x2 * b - y * a2) := by
    rw [Int.tmod_def, Int.tmod_def]; grind
  have e0 : (x1 * a2 - x2 * a1) * b = a2 * (x1 * b - y * a1) - a1 * (x2 * b - y * a2) := by grind
  have g1 := btw_mul (y := x1 * b - y * a1) (btw_tmod a2 b)
  have g2 := btw_mul (y := x2 * b - y * a2) (btw_tmod a1 b)
  have l1 : (a2.tmod b * (x1 * b - y * a1)).natAbs ≤ M * b.natAbs := by
    rw [Int.natAbs_mul, Nat.mul_comm]
    refine Nat.mul_le_mul h1 ?_
    rw [Int.natAbs_tmod]; exact Nat.le_of_lt (Nat.mod_lt _ (by omega))
  have l2 : (a1.tmod b * (x2 * b - y * a2)).natAbs ≤ M * b.natAbs := by
    rw [Int.natAbs_mul, Nat.mul_comm]
    refine Nat.mul_le_mul h2 ?_
    rw [Int.natAbs_tmod]; exact Nat.le_of_lt (Nat.mod_lt _ (by omega))
  have l3 : ((x1 * a2 - x2 * a1) * b).natAbs ≤ M * b.natAbs := by rw [Int.natAbs_mul]; exact Nat.mul_le_mul_right _ h3
  rw [e0] at l3
  rw [e]
  generalize M * b.natAbs = B at *
  omega
theorem half_tmod {a b : Int} {e : Nat} (hb : b ≠ 0) (hab : b.natAbs ≤ a.natAbs) (ha : a.natAbs < 2 ^ e) : 1 ≤ e ∧ (a.tmod b).natAbs < 2 ^ (e - 1) := by
  cases e with
  | zero => simp at ha; omega
  | succ e =>
    refine ⟨by omega, ?_⟩
    rw [Int.natAbs_tmod]
    have h2 := Nat.mod_lt a.natAbs (show b.natAbs > 0 by omega)
    have h3 := Nat.div_add_mod a.natAbs b.natAbs
    have h4 : 1 ≤ a.natAbs / b.natAbs := Nat.div_pos hab (by omega)
    have h5 : b.natAbs * 1 ≤ b.natAbs * (a.natAbs / b.natAbs) := Nat.mul_le_mul_left _ h4
    have h6 : (2 : Nat) ^ (e + 1) = 2 * 2 ^ e := by rw [Nat.pow_succ, Nat.mul_comm]
    show a.natAbs % b.natAbs < 2 ^ e
    omega
