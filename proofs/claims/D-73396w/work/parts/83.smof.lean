/-! the twin: numbers of the rows at hand; parts -/
set_option maxRecDepth 100000
theorem X3_part {f : Nat} (hf : 2 ^ 63 ≤ f) {a b : Int} (ga : rg a) (gb : rg b) (hz : Int.gcd a b ≠ 0) {w : Nat} (hw : w < 2) : m_X3_part f (li a) (li b) (ni w) = some (li ((if w = 0 then a else b).tdiv (Int.gcd a b))) := by
  have g : rg (Int.gcd a b : Int) := by
    have h1 : Int.gcd a b < 2 ^ 63 := gcd_lt (rg_nat.mp ga) (rg_nat.mp gb)
    exact rg_abs (k := 2 ^ 63) (by simpa using h1) (by decide)
  unfold m_X3_part m_X3_part_10
  rw [common_li hf ga gb, bd_some, bd_some, gd_of (nzL_li g (by omega)), gd_of (nzL_li g (by omega)), li_div ga g, li_div gb g]
  rcases (show w = 0 ∨ w = 1 by omega) with rfl | rfl
  · rw [if_neg (fun e => e rfl)]; rfl
  · rw [if_pos (show ¬ ni 1 = 0 by decide)]; rfl
theorem d9 : ∀ k, k < 9 → (ni k / (3 : Int32) = ni (k / 3) ∧ rmI (ni k) 3 = ni (k % 3)) := by decide
theorem X3_smithOf {f : Nat} (hf : 2 ^ 63 ≤ f) {u : TS} {N : Mi} (hR : tR 18 u N) (hb : ∀ i j, i < 3 → j < 3 → rg (N i j)) (hm : ∀ i j, i < 3 → j < 3 → rg (mnr N i j)) (hd : rg (dtf N)) (zz1 : g9 N 3 ≠ 0) (zz2 : g9 (mnr N) 3 ≠ 0) {i : Nat} (hi : i < 3) : m_X3_smithOf f u (ni i) = some (li (smt N i), u) := by
  have f12 : 12 < f := Nat.lt_of_lt_of_le (by decide) hf
  have hb' : ∀ i j, i < 3 → j < 3 → (N i j).natAbs < 2 ^ 63 := fun i j hi hj => rg_nat.mp (hb i j hi hj)
  have hm' : ∀ i j, i < 3 → j < 3 → (mnr N i j).natAbs < 2 ^ 63 := fun i j hi hj => rg_nat.mp (hm i j hi hj)
  have r1 : ∀ k, k ≤ 9 → rg (gk N 0 k : Int) := fun k hk => rg_abs (k := 2 ^ 63) (by simpa using gk_lt (by decide) hb' k hk) (by decide)
  have r2 : ∀ k, k ≤ 9 → rg (gk (mnr N) 0 k : Int) := fun k hk => rg_abs (k := 2 ^ 63) (by simpa using gk_lt (by decide) hm' k hk) (by decide)
  unfold m_X3_smithOf
  obtain ⟨v2, p2, e2⟩ := loopn (fun n (v : Int64 × Int64) x => m_X3_smithOf_8 f n u (ni i) v.1 v.2 x) (fun v => m_X3_smithOf_131 f u (ni i) v.1 v.2) (fun k v => v = (li (gk N 0 k), li (gk (mnr N) 0 k))) 9
    (fun n v _ => by rw [m_X3_smithOf_8, if_pos le99])
    (fun n v k hk p => by
      refine ⟨(li (gk N 0 (k + 1)), li (gk (mnr N) 0 (k + 1))), ?_, rfl⟩
      obtain ⟨q1, q2⟩ := d9 k hk
      have h1 : k / 3 < 3 := by omega
      have h2 : k % 3 < 3 := by omega
      have m1 := md3 (k / 3 + 1)
      have m2 := md3 (k / 3 + 2)
      have m3 := md3 (k % 3 + 1)
      have m4 := md3 (k % 3 + 2)
      rw [m_X3_smithOf_8, if_neg (le9 hk), gd_of (ix_ni hk (by decide)), ni_clamp (by omega), hR.at9 hk, p]
      show bd (m_X3_common f (li (gk N 0 k)) (li (N (k / 3) (k % 3)))) _ = _
      rw [common_li hf (r1 k (by omega)) (hb _ _ h1 h2), bd_some, q1, q2]
      simp only [nmv_eq, rm1 h1, rm2 h1, rm1 h2, rm2 h2]
      rw [gd_of (i3x m1 m3), gd_of (i3x m2 m4), gd_of (i3x m1 m4), gd_of (i3x m2 m3), i3c m1 m3, i3c m2 m4, i3c m1 m4, i3c m2 m3, hR _ _ m1 m3, hR _ _ m2 m4, hR _ _ m1 m4, hR _ _ m2 m3, li_mul, li_mul, li_sub]
      show bd (m_X3_common f (li (gk (mnr N) 0 k)) (li (mnr N (k / 3) (k % 3)))) _ = _
      rw [common_li hf (r2 k (by omega)) (hm _ _ h1 h2), bd_some, ni_succ]
      rfl)
    9 f (0, 0) 0 rfl (by omega) rfl
  have e3 : m_X3_smithOf_8 f f u (ni i) 0 0 0 = _ := e2
  rw [e3, p2]
  show m_X3_smithOf_131 f u (ni i) (li (gk N 0 9)) (li (gk (mnr N) 0 9)) = _
  rw [gk_9, gk_9]
  have s1 : rg (g9 N 3 : Int) := r1 9 (by omega)
  have s2 : rg (g9 (mnr N) 3 : Int) := r2 9 (by omega)
  unfold m_X3_smithOf_131 m_X3_smithOf_161
  rcases (show i = 0 ∨ i = 1 ∨ i = 2 by omega) with rfl | rfl | rfl
  · rw [if_neg (fun e => e rfl)]; rfl
  · rw [if_pos (show ¬ ni 1 = 0 by decide), if_neg (fun e => e rfl), gd_of (nzL_li s1 (by omega)), li_div s2 s1]
    rfl
  · rw [if_pos (show ¬ ni 2 = 0 by decide), if_pos (show ¬ ni 2 = 1 by decide), X3_det (Nat.le_trans (by decide) hf) hR, bd2_some, sized_li hd, bd_some, gd_of (nzL_li s2 (by omega)), li_div (rg_abs (k := 2 ^ 63) (by simpa using rg_nat.mp hd) (by decide)) s2]
    rfl
