/-! divisors of all longs: how deep Euclid's way goes at most -/
set_option maxRecDepth 100000
def fb : Nat → Nat
  | 0 => 1
  | 1 => 2
  | n + 2 => fb (n + 1) + fb n
theorem dvr_0 {f d : Nat} {a : Int} (ha : rg a) : dvr f (d + 1) (li a) (li 0) = some (li (Int.gcd a 0)) := by
  rw [dvr, if_neg (by intro h; exact h rfl), abs_li ha, bd_some]
  show some _ = _
  rw [Int.gcd_zero_right]
theorem dvr_s {f d : Nat} {a b : Int} (ha : rg a) (hb : rg b) (hz : b ≠ 0) {g : Nat} (h : dvr f d (li b) (li (a.tmod b)) = some (li g)) : dvr f (d + 1) (li a) (li b) = some (li g) := by
  rw [dvr, if_pos (show ¬ li b = 0 from fun e => hz ((li_inj hb rg_0).mp e)), gd_of (nzL_li hb hz), rmL_li ha hb, h, bd_some]
  rfl
theorem dvr_fb {f : Nat} : ∀ d, (∀ a b, rg a → rg b → b.natAbs < fb d → dvr f (d + 1) (li a) (li b) = some (li (Int.gcd a b))) ∧ (∀ a b, rg a → rg b → b.natAbs < fb (d + 1) → dvr f (d + 2) (li a) (li b) = some (li (Int.gcd a b))) := by
  intro d
  induction d with
  | zero =>
    have p0 : ∀ a b, rg a → rg b → b.natAbs < fb 0 → dvr f (0 + 1) (li a) (li b) = some (li (Int.gcd a b)) := fun a b ha hb h => by
      have : b = 0 := by unfold fb at h; omega
      subst this; exact dvr_0 ha
    refine ⟨p0, fun a b ha hb h => ?_⟩
    by_cases hz : b = 0
    · subst hz; exact dvr_0 ha
    · refine dvr_s ha hb hz ?_
      rw [← gcd_step a b]
      refine p0 b _ hb (rg_tmod ha) ?_
      have h1 : (a.tmod b).natAbs < b.natAbs := by rw [Int.natAbs_tmod]; exact Nat.mod_lt _ (by omega)
      unfold fb at h ⊢; omega
  | succ d ih =>
    obtain ⟨i1, i2⟩ := ih
    refine ⟨i2, fun a b ha hb h => ?_⟩
    by_cases hz : b = 0
    · subst hz; exact dvr_0 ha
    · refine dvr_s ha hb hz ?_
      rw [← gcd_step a b]
      have h1 : (a.tmod b).natAbs < b.natAbs := by rw [Int.natAbs_tmod]; exact Nat.mod_lt _ (by omega)
      have gr := rg_tmod (y := b) ha
      by_cases hs : (a.tmod b).natAbs < fb (d + 1)
      · exact i2 b _ hb gr hs
      · have f1 : 0 < fb (d + 1) := by
          clear h hs i1 i2
          induction d with
          | zero => decide
          | succ d ih => unfold fb; omega
        have rz : a.tmod b ≠ 0 := fun e => by rw [e] at hs; simp at hs; omega
        refine dvr_s hb gr rz ?_
        rw [← gcd_step b (a.tmod b)]
        refine i1 _ _ gr (rg_tmod hb) ?_
        have h2 : fb (d + 1 + 1) = fb (d + 1) + fb d := rfl
        rw [h2] at h
        rw [Int.natAbs_tmod]
        have h3 := Nat.div_add_mod b.natAbs (a.tmod b).natAbs
        have h4 : 1 ≤ b.natAbs / (a.tmod b).natAbs := Nat.div_pos (by omega) (by omega)
        have h5 : (a.tmod b).natAbs * 1 ≤ (a.tmod b).natAbs * (b.natAbs / (a.tmod b).natAbs) := Nat.mul_le_mul_left _ h4
        omega
theorem fb_ge : ∀ n, 2 ^ 63 ≤ fb (91 + n)
  | 0 => by
    have s : ∀ k a b, fb k = a → fb (k + 1) = b → fb (k + 2) = b + a := fun k a b h1 h2 => by unfold fb; rw [h1, h2]
    have e : ∀ k, k ≤ 45 → fb (2 * k) = (Nat.rec (motive := fun _ => Nat × Nat) (1, 2) (fun _ p => (p.1 + p.2, p.1 + p.2 + p.2)) k).1 ∧ fb (2 * k + 1) = (Nat.rec (motive := fun _ => Nat × Nat) (1, 2) (fun _ p => (p.1 + p.2, p.1 + p.2 + p.2)) k).2 := by
      intro k
      induction k with
      | zero => intro _; exact ⟨rfl, rfl⟩
      | succ k ih =>
        intro hk
        obtain ⟨h1, h2⟩ := ih (by omega)
        have h3 := s (2 * k) _ _ h1 h2
        have h4 := s (2 * k + 1) _ _ h2 h3
        refine ⟨?_, ?_⟩
        · show fb (2 * k + 2) = _
          rw [h3, Nat.add_comm]
        · show fb (2 * k + 1 + 2) = _
          rw [h4]
          dsimp only
          omega
    have := (e 45 (by omega)).2
    show 2 ^ 63 ≤ fb (2 * 45 + 1)
    rw [this]
    decide
  | n + 1 => by
    have h := fb_ge n
    have : fb (91 + n) ≤ fb (91 + n + 1) := by
      obtain ⟨m, hm⟩ : ∃ m, 91 + n = m + 1 := ⟨90 + n, by omega⟩
      rw [hm]; show fb (m + 1) ≤ fb (m + 1) + fb m; omega
    show 2 ^ 63 ≤ fb (91 + n + 1)
    omega
theorem divisor_rg {f : Nat} {a b : Int} (ha : rg a) (hb : rg b) : m_X0_divisor f (li a) (li b) = some (li (Int.gcd a b)) := by
  have h := (dvr_fb (f := f) 99).1 a b ha hb (Nat.lt_of_lt_of_le (rg_nat.mp hb) (fb_ge 8))
  exact h
theorem X0_partr {f : Nat} {a b : Int} (ga : rg a) (gb : rg b) (hz : Int.gcd a b ≠ 0) {w : Nat} (hw : w < 2) : m_X0_part f (li a) (li b) (ni w) = some (li ((if w = 0 then a else b).tdiv (Int.gcd a b))) := by
  have g : rg (Int.gcd a b : Int) := by
    have h1 : Int.gcd a b < 2 ^ 63 := gcd_lt (rg_nat.mp ga) (rg_nat.mp gb)
    exact rg_abs (k := 2 ^ 63) (by simpa using h1) (by decide)
  unfold m_X0_part m_X0_part_10
  rw [divisor_rg ga gb, bd_some, bd_some, gd_of (nzL_li g (by omega)), gd_of (nzL_li g (by omega)), li_div ga g, li_div gb g]
  rcases (show w = 0 ∨ w = 1 by omega) with rfl | rfl
  · rw [if_neg (fun e => e rfl)]; rfl
  · rw [if_pos (show ¬ ni 1 = 0 by decide)]; rfl
