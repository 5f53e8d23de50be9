/-! longs as whole numbers: where nothing is lost; divisors -/
set_option maxRecDepth 100000
abbrev li (x : Int) : Int64 := Int64.ofInt x
def rg (x : Int) : Prop := -2 ^ 63 < x ∧ x < 2 ^ 63
theorem li_toInt {x : Int} (h : rg x) : (li x).toInt = x := Int64.toInt_ofInt_of_le (by have := h.1; omega) h.2
theorem li_inj {x y : Int} (hx : rg x) (hy : rg y) : li x = li y ↔ x = y := ⟨fun h => by rw [← li_toInt hx, ← li_toInt hy, h], fun h => by rw [h]⟩
theorem li_le {x y : Int} (hx : rg x) (hy : rg y) : li x ≤ li y ↔ x ≤ y := by rw [Int64.le_iff_toInt_le, li_toInt hx, li_toInt hy]
theorem li_lt {x y : Int} (hx : rg x) (hy : rg y) : li x < li y ↔ x < y := by rw [Int64.lt_iff_toInt_lt, li_toInt hx, li_toInt hy]
theorem li_0 : (0 : Int64) = li 0 := rfl
theorem li_1 : (1 : Int64) = li 1 := rfl
theorem rg_0 : rg 0 := ⟨by decide, by decide⟩
theorem rg_1 : rg 1 := ⟨by decide, by decide⟩
theorem li_add (x y : Int) : li x + li y = li (x + y) := (Int64.ofInt_add x y).symm
theorem li_sub (x y : Int) : li x - li y = li (x - y) := (Int64.ofInt_sub x y).symm
theorem li_mul (x y : Int) : li x * li y = li (x * y) := (Int64.ofInt_mul x y).symm
theorem li_neg (x : Int) : -li x = li (-x) := (Int64.ofInt_neg x).symm
theorem rg_abs {x : Int} {k : Nat} (h : x.natAbs < k) (hk : k ≤ 2 ^ 63) : rg x := ⟨by omega, by omega⟩
theorem rg_nat {x : Int} : rg x ↔ x.natAbs < 2 ^ 63 := ⟨fun h => by have := h.1; have := h.2; omega, fun h => ⟨by omega, by omega⟩⟩
theorem rg_neg {x : Int} (h : rg x) : rg (-x) := ⟨by have := h.2; omega, by have := h.1; omega⟩
theorem li_div {x y : Int} (hx : rg x) (hy : rg y) : li x / li y = li (x.tdiv y) := (Int64.ofInt_tdiv (by have := hx.1; show -2 ^ 63 ≤ x; omega) (by have := hx.2; show x ≤ 2 ^ 63 - 1; omega) (by have := hy.1; show -2 ^ 63 ≤ y; omega) (by have := hy.2; show y ≤ 2 ^ 63 - 1; omega)).symm
theorem rmL_li {x y : Int} (hx : rg x) (hy : rg y) : rmL (li x) (li y) = li (x.tmod y) := by
  unfold rmL
  rw [li_div hx hy, li_mul, li_sub, Int.tmod_def, Int.mul_comm y]
theorem rg_tdiv {x : Int} (hx : rg x) (y : Int) : rg (x.tdiv y) := rg_nat.mpr (Nat.lt_of_le_of_lt (Int.natAbs_tdiv_le_natAbs x y) (rg_nat.mp hx))
theorem rg_tmod {x y : Int} (hx : rg x) : rg (x.tmod y) := by
  rw [rg_nat, Int.natAbs_tmod]
  exact Nat.lt_of_le_of_lt (Nat.mod_le _ _) (rg_nat.mp hx)
theorem nzL_li {y : Int} (hy : rg y) (h : y ≠ 0) : nzL (li y) = true := by
  unfold nzL
  exact decide_eq_true (fun e => h ((li_inj hy rg_0).mp e))
theorem abs_li {f : Nat} {x : Int} (hx : rg x) : m_J9_abs f (li x) = some (li x.natAbs) := by
  unfold m_J9_abs
  rw [li_0]
  by_cases h : 0 ≤ x
  · rw [if_pos ((li_le rg_0 hx).mpr h)]
    show some (li x) = _
    rw [show (x.natAbs : Int) = x by omega]
  · rw [if_neg (fun e => h ((li_le rg_0 hx).mp e))]
    show some (-li x) = _
    rw [li_neg, show (x.natAbs : Int) = -x by omega]
theorem sized_li {f : Nat} {x : Int} (hx : rg x) : m_X3_sized f (li x) = some (li x.natAbs) := by
  unfold m_X3_sized
  rw [li_0]
  by_cases h : 0 ≤ x
  · rw [if_pos ((li_le rg_0 hx).mpr h)]
    show some (li x) = _
    rw [show (x.natAbs : Int) = x by omega]
  · rw [if_neg (fun e => h ((li_le rg_0 hx).mp e))]
    show some (-li x) = _
    rw [li_neg, show (x.natAbs : Int) = -x by omega]
theorem gcd_step (a b : Int) : Int.gcd b (a.tmod b) = Int.gcd a b := by
  rw [Int.gcd_eq_natAbs_gcd_natAbs, Int.gcd_eq_natAbs_gcd_natAbs, Int.natAbs_tmod, Nat.gcd_comm a.natAbs, Nat.gcd_rec b.natAbs a.natAbs, Nat.gcd_comm]
theorem mod2 {a b : Nat} (hb : 0 < b) (hab : b ≤ a) : 2 * (a % b) < a + 1 := by
  have h1 := Nat.div_add_mod a b
  have h2 := Nat.mod_lt a hb
  have h3 : 1 ≤ a / b := Nat.div_pos hab hb
  have h4 : b * 1 ≤ b * (a / b) := Nat.mul_le_mul_left b h3
  omega
/-- how deep Euclid's way goes -/
theorem dvr_li {f : Nat} : ∀ (k d : Nat) (a b : Int), rg a → b.natAbs < 2 ^ k → k ≤ 62 → 2 * k + 2 ≤ d → dvr f d (li a) (li b) = some (li (Int.gcd a b)) := by
  intro k
  induction k with
  | zero =>
    intro d a b ha hb _ hd
    have : b = 0 := by omega
    subst this
    obtain ⟨d, rfl⟩ : ∃ n, d = n + 1 := ⟨d - 1, by omega⟩
    rw [dvr, if_neg (by intro h; exact h rfl), abs_li ha, bd_some]
    show some _ = _
    rw [Int.gcd_zero_right]
  | succ k ih =>
    intro d a b ha hb hk hd
    obtain ⟨d, rfl⟩ : ∃ n, d = n + 2 := ⟨d - 2, by omega⟩
    have hp : (2 : Nat) ^ (k + 1) ≤ 2 ^ 62 := Nat.pow_le_pow_right (by decide) hk
    have h62 : (2 : Nat) ^ 62 < 2 ^ 63 := by decide
    have rb : rg b := rg_nat.mpr (by omega)
    by_cases hz : b = 0
    · subst hz
      rw [dvr, if_neg (by intro h; exact h rfl), abs_li ha, bd_some]
      show some _ = _
      rw [Int.gcd_zero_right]
    · have e1 : ¬ li b = (0 : Int64) := fun e => hz ((li_inj rb rg_0).mp e)
      rw [dvr, if_pos e1, gd_of (nzL_li rb hz), rmL_li ha rb]
      have rm := rg_tmod (y := b) ha
      by_cases hz2 : a.tmod b = 0
      · rw [hz2, dvr, if_neg (by intro h; exact h rfl), abs_li rb, bd_some]
        show some _ = _
        rw [← gcd_step a b, hz2, Int.gcd_zero_right]
      · have e2 : ¬ li (a.tmod b) = (0 : Int64) := fun e => hz2 ((li_inj rm rg_0).mp e)
        rw [dvr, if_pos e2, gd_of (nzL_li rm hz2), rmL_li rb rm]
        have hs : (b.tmod (a.tmod b)).natAbs < 2 ^ k := by
          rw [Int.natAbs_tmod]
          have h1 : (a.tmod b).natAbs < b.natAbs := by rw [Int.natAbs_tmod]; exact Nat.mod_lt _ (by omega)
          have h2 := mod2 (a := b.natAbs) (b := (a.tmod b).natAbs) (by omega) (by omega)
          have h3 : (2 : Nat) ^ (k + 1) = 2 * 2 ^ k := by rw [Nat.pow_succ, Nat.mul_comm]
          omega
        rw [ih d (a.tmod b) (b.tmod (a.tmod b)) rm hs (by omega) (by omega), bd_some]
        show bd (some _) _ = _
        rw [bd_some]
        show some _ = _
        rw [gcd_step, gcd_step]
theorem divisor_li {f : Nat} {a b : Int} (ha : rg a) (hb : b.natAbs < 2 ^ 48) : m_X0_divisor f (li a) (li b) = some (li (Int.gcd a b)) := dvr_li 48 100 a b ha hb (by decide) (by decide)
theorem com_li {f : Nat} : ∀ (k n : Nat) (a b : Nat), a < 2 ^ 63 → b < 2 ^ 63 → b ≤ k → k < n → m_X3_common_12 f n (li a) (li b) = some (li (Nat.gcd a b)) := by
  intro k
  induction k with
  | zero =>
    intro n a b ha hb hk hn
    obtain ⟨n, rfl⟩ : ∃ z, n = z + 1 := ⟨n - 1, by omega⟩
    have : b = 0 := by omega
    subst this
    rw [m_X3_common_12, if_pos (show li ((0 : Nat) : Int) = (0 : Int64) from rfl)]
    show some _ = _
    rw [Nat.gcd_zero_right]
  | succ k ih =>
    intro n a b ha hb hk hn
    obtain ⟨n, rfl⟩ : ∃ z, n = z + 1 := ⟨n - 1, by omega⟩
    have rb : rg (b : Int) := rg_nat.mpr (by simpa using hb)
    have ra : rg (a : Int) := rg_nat.mpr (by simpa using ha)
    by_cases hz : b = 0
    · subst hz
      rw [m_X3_common_12, if_pos (show li ((0 : Nat) : Int) = (0 : Int64) from rfl)]
      show some _ = _
      rw [Nat.gcd_zero_right]
    · have hz' : (b : Int) ≠ 0 := by omega
      have e1 : ¬ li b = (0 : Int64) := fun e => hz' ((li_inj rb rg_0).mp e)
      rw [m_X3_common_12, if_neg e1, gd_of (nzL_li rb hz'), nmv_eq, rmL_li ra rb]
      have h1 : (a : Int).tmod b = ((a % b : Nat) : Int) := by rw [Int.tmod_eq_emod_of_nonneg (by omega)]; rfl
      have h2 : a % b < b := Nat.mod_lt _ (by omega)
      rw [h1, ih n b (a % b) hb (by omega) (by omega) (by omega), Nat.gcd_comm a b, Nat.gcd_rec b a, Nat.gcd_comm]
theorem common_li {f : Nat} (hf : 2 ^ 63 ≤ f) {a b : Int} (ha : rg a) (hb : rg b) : m_X3_common f (li a) (li b) = some (li (Int.gcd a b)) := by
  unfold m_X3_common
  rw [sized_li ha, bd_some, sized_li hb, bd_some]
  have h1 := rg_nat.mp ha
  have h2 := rg_nat.mp hb
  exact com_li b.natAbs f a.natAbs b.natAbs h1 h2 (Nat.le_refl _) (by omega)
/-! floors -/
theorem msb_li {x : Int} (hx : rg x) : (li x).toBitVec.msb = decide (x < 0) := by
  have h1 : (li x).toBitVec.toInt = x := li_toInt hx
  rw [BitVec.msb_eq_toInt, h1]
theorem xor_li {x y : Int} (hx : rg x) (hy : rg y) : (0 : Int64) ≤ (li x ^^^ li y) ↔ (x < 0 ↔ y < 0) := by
  have h0 : (0 : Int64) ≤ (li x ^^^ li y) ↔ (li x ^^^ li y).toBitVec.msb = false := by
    rw [Int64.le_iff_toInt_le, BitVec.msb_eq_toInt]
    have : (0 : Int64).toInt = 0 := rfl
    rw [this]
    have e : (li x ^^^ li y).toBitVec.toInt = (li x ^^^ li y).toInt := rfl
    rw [e]
    simp
  rw [h0, Int64.toBitVec_xor, BitVec.msb_xor, msb_li hx, msb_li hy]
  by_cases h1 : x < 0 <;> by_cases h2 : y < 0 <;> simp [h1, h2]
theorem floorDiv_li {f : Nat} {x y : Int} (hx : rg x) (hy : rg y) (hp : 0 < y) : m_J9_floorDiv f (li x) (li y) = some (li (x / y)) := by
  unfold m_J9_floorDiv
  rw [gd_of (nzL_li hy (by omega)), nmv_eq, li_div hx hy]
  have hny : ¬ y < 0 := by omega
  by_cases h : x < 0
  · rw [if_neg (fun e => hny (((xor_li hx hy).mp e).mp h)), li_mul]
    have hd : x = y * (x / y) + x % y := (Int.mul_ediv_add_emod x y).symm
    have hm0 := Int.emod_nonneg x (show y ≠ 0 by omega)
    have hm1 := Int.emod_lt_of_pos x hp
    by_cases hz : y ∣ x
    · have e1 : x.tdiv y = x / y := Int.tdiv_eq_ediv_of_dvd hz
      have e2 : x.tdiv y * y = x := by rw [e1]; exact Int.ediv_mul_cancel hz
      rw [e2, if_pos rfl]
      show some _ = _
      rw [e1]
    · have e1 : x.tdiv y = x / y + 1 := by
        rw [Int.tdiv_eq_ediv]
        rw [if_neg (by intro h1; rcases h1 with h1 | h1 <;> first | omega | exact hz h1)]
        rw [Int.sign_eq_one_of_pos hp]
      have hm2 : x % y ≠ 0 := fun e => hz (Int.dvd_of_emod_eq_zero e)
      have rp : rg (x.tdiv y * y) := by
        have h5 : x.tdiv y * y = x + (y - x % y) := by rw [e1, Int.add_mul, Int.one_mul, Int.mul_comm]; omega
        rw [h5]
        have h6 : x + (y - x % y) ≤ 0 := by
          have h7 : (x / y + 1) * y ≤ 0 := by
            have h8 : x / y + 1 ≤ 0 := by
              have := Int.ediv_lt_of_lt_mul hp (show x < 0 * y by omega)
              omega
            have := Int.mul_le_mul_of_nonneg_right h8 (show 0 ≤ y by omega)
            omega
          rw [← e1, h5] at h7
          exact h7
        exact ⟨by have := hx.1; omega, by omega⟩
      have hne : ¬ li (x.tdiv y * y) = li x := by
        intro e
        have h5 := (li_inj rp hx).mp e
        exact hz ⟨x.tdiv y, by rw [Int.mul_comm]; exact h5.symm⟩
      rw [if_neg hne]
      show some (li (x.tdiv y) - li 1) = _
      rw [li_sub, e1, Int.add_sub_cancel]
  · rw [if_pos ((xor_li hx hy).mpr ⟨fun e => absurd e h, fun e => absurd e hny⟩)]
    show some _ = _
    rw [Int.tdiv_eq_ediv_of_nonneg (by omega)]
theorem floorMod_li {f : Nat} {x y : Int} (hx : rg x) (hy : rg y) (hp : 0 < y) : m_J9_floorMod f (li x) (li y) = some (li (x % y)) := by
  unfold m_J9_floorMod
  rw [gd_of (nzL_li hy (by omega)), nmv_eq, rmL_li hx hy]
  have hny : ¬ y < 0 := by omega
  have hm0 := Int.emod_nonneg x (show y ≠ 0 by omega)
  have hm1 := Int.emod_lt_of_pos x hp
  by_cases h : x < 0
  · rw [if_neg (fun e => hny (((xor_li hx hy).mp e).mp h))]
    by_cases hz : y ∣ x
    · have e1 : x.tmod y = 0 := Int.tmod_eq_zero_of_dvd hz
      rw [e1, if_pos (show li 0 = (0 : Int64) from rfl)]
      show some _ = _
      rw [Int.emod_eq_zero_of_dvd hz]
    · have e1 : x.tmod y = x % y - y := by
        rw [Int.tmod_def, Int.tdiv_eq_ediv, if_neg (by intro h1; rcases h1 with h1 | h1 <;> first | omega | exact hz h1), Int.sign_eq_one_of_pos hp, Int.mul_add, Int.mul_one]
        have := Int.mul_ediv_add_emod x y
        omega
      have hne : ¬ li (x.tmod y) = (0 : Int64) := fun e => by
        have h5 := (li_inj (rg_tmod hx) rg_0).mp e
        exact hz (Int.dvd_of_tmod_eq_zero h5)
      rw [if_neg hne, li_add, e1, Int.sub_add_cancel]
  · rw [if_pos ((xor_li hx hy).mpr ⟨fun e => absurd e h, fun e => absurd e hny⟩)]
    show some _ = _
    rw [Int.tmod_eq_emod_of_nonneg (by omega)]
