/-! multiples; whether rows have a point; rows over a divisor -/
set_option maxRecDepth 100000
theorem multiple_li {f : Nat} {a b : Int} (ha : rg a) (hb : b.natAbs < 2 ^ 48) (hz : Int.gcd a b ≠ 0) : m_X0_multiple f (li a) (li b) = some (li (a.tdiv (Int.gcd a b) * b)) := by
  unfold m_X0_multiple
  have g : rg (Int.gcd a b : Int) := by
    have h1 : Int.gcd a b < 2 ^ 63 := gcd_lt (rg_nat.mp ha) (Nat.lt_trans hb (by decide))
    exact rg_abs (k := 2 ^ 63) (by simpa using h1) (by decide)
  rw [divisor_li ha hb, bd_some, gd_of (nzL_li g (by omega)), li_div ha g, li_mul]
def hvs (N : Mi) (o : Int) (x : Nat → Int) (j : Nat) : Int := (x 0 * mnr N j 0 + x 1 * mnr N j 1 + x 2 * mnr N j 2) * o
def hav (N : Mi) (o : Int) (x : Nat → Int) (d : Int) : Prop := ∀ j, j < 3 → d * dtf N ∣ hvs N o x j
theorem X0_hv18 {f : Nat} {h : CH} {K : RA} {N : Mi} (hK : isN h K (fun i j => mnr N j i)) {o d : Int} {x : Nat → Int} (gd0 : rg (d * dtf N)) (hz : d * dtf N ≠ 0) (gs : ∀ j, j < 3 → rg (hvs N o x j)) : ∀ k n j, j + k = 3 → k < n → ∃ b : Bool, m_X0_have_18 f n h (li o) (li (x 0)) (li (x 1)) (li (x 2)) K.1 (li (d * dtf N)) (ni j) = some (if b = true then 1 else 0, h) ∧ (b = true ↔ ∀ i, j ≤ i → i < 3 → d * dtf N ∣ hvs N o x i) := by
  intro k
  induction k with
  | zero =>
    intro n j hj hn
    obtain ⟨n, rfl⟩ : ∃ z, n = z + 1 := ⟨n - 1, by omega⟩
    have : j = 3 := by omega
    subst this
    rw [m_X0_have_18, if_pos le33]
    exact ⟨true, rfl, ⟨fun _ i h1 h2 => (by omega), fun _ => rfl⟩⟩
  | succ k ih =>
    intro n j hj hn
    obtain ⟨n, rfl⟩ : ∃ z, n = z + 1 := ⟨n - 1, by omega⟩
    have j3 : j < 3 := by omega
    rw [m_X0_have_18, if_neg (le3 j3)]
    have a0 := aR_R hK (i := 0) (by decide)
    have a1 := aR_R hK (i := 1) (by decide)
    have a2 := aR_R hK (i := 2) (by decide)
    have l0 := aL_R hK (i := 0) (j := j) (by decide) j3
    have l1 := aL_R hK (i := 1) (j := j) (by decide) j3
    have l2 := aL_R hK (i := 2) (j := j) (by decide) j3
    simp only [z0, z1, z2, oR_R hK, bd_some, a0, a1, a2, l0, l1, l2, gd_of (nzL_li gd0 hz)]
    have es : ((li (x 0) * li (mnr N j 0) + li (x 1) * li (mnr N j 1)) + li (x 2) * li (mnr N j 2)) * li o = li (hvs N o x j) := by
      rw [li_mul, li_mul, li_mul, li_add, li_add, li_mul]; rfl
    rw [es, rmL_li (gs j j3) gd0]
    by_cases hd : d * dtf N ∣ hvs N o x j
    · rw [if_pos (show li ((hvs N o x j).tmod (d * dtf N)) = 0 by rw [Int.tmod_eq_zero_of_dvd hd]; rfl), nmv_eq]
      show ∃ b : Bool, m_X0_have_18 f n h _ _ _ _ _ _ (ni j + 1) = _ ∧ _
      rw [ni_succ]
      obtain ⟨b, e1, e2⟩ := ih n (j + 1) (by omega) (by omega)
      refine ⟨b, e1, e2.trans ⟨fun hh i h1 h2 => ?_, fun hh i h1 h2 => hh i (by omega) h2⟩⟩
      by_cases hij : i = j
      · subst hij; exact hd
      · exact hh i (by omega) h2
    · rw [if_neg (show ¬ li ((hvs N o x j).tmod (d * dtf N)) = 0 from fun e => hd (Int.dvd_of_tmod_eq_zero ((li_inj (rg_tmod (gs j j3)) rg_0).mp e)))]
      exact ⟨false, rfl, ⟨fun e => (by cases e), fun hh => absurd (hh j (Nat.le_refl _) j3) hd⟩⟩
theorem X0_have {f : Nat} (hf : 4 ≤ f) {h : CH} (w : wfh h) {R : RA} {N : Mi} (hR : isN h R N) {o d : Int} {x : Nat → Int} (gd0 : rg (d * dtf N)) (hz : d * dtf N ≠ 0) (gs : ∀ j, j < 3 → rg (hvs N o x j)) : ∃ (b : Bool) (h' : CH), m_X0_have f h R.1 (li o) (li (x 0)) (li (x 1)) (li (x 2)) (li d) = some (if b = true then 1 else 0, h') ∧ (b = true ↔ hav N o x d) ∧ Ext 5 13 h h' := by
  obtain ⟨h1, e1, e2, e3, e4⟩ := X2_adjoint hf w hR
  have hR1 := hR.ext e3 w
  unfold m_X0_have
  rw [gd_of (isC_R hR), e1, bd2_some]
  unfold m_X0_have_4
  rw [gd_of (isC_R hR1), X2_determinant hR1, bd2_some]
  unfold m_X0_have_12
  rw [nmv_eq, li_mul]
  obtain ⟨b, q1, q2⟩ := X0_hv18 (f := f) e2 gd0 hz gs 3 f 0 rfl (by omega)
  exact ⟨b, h1, q1, q2.trans ⟨fun hh j hj => hh j (by omega) hj, fun hh j _ hj => hh j hj⟩, e3⟩
def btg (F : Mi) (o : Int) : Nat := Int.gcd (g9 F 3) o
theorem X10_new {f : Nat} (hf : 4 ≤ f) {h : CH} (w : wfh h) {a : Nat} (c0 : cm h a = some (.inl (10, [.null, .long 0]))) {A : RA} {F : Mi} (hA : isN h A F) {o : Int} (hF : ∀ i j, i < 3 → j < 3 → (F i j).natAbs < 2 ^ 48) (ho : o.natAbs < 2 ^ 48) (hz : o ≠ 0) : ∃ R h', m_X10_init f h a A.1 (li o) = some h' ∧ cm h' a = some (.inl (10, [.ref R.1, .long (li (o.tdiv (btg F o)))])) ∧ isN h' R (fun i j => (F i j).tdiv (btg F o)) ∧ Mod (fun q => q = a) 5 13 h h' := by
  have g1 : btg F o < 2 ^ 48 := gcd_lt (by simpa using g9_lt (by decide) 3 hF) ho
  have g2 : rg (btg F o : Int) := rg_abs (k := 2 ^ 48) (by simpa using g1) (by decide)
  have g3 : (btg F o : Int) ≠ 0 := by
    intro e
    have e' : Int.gcd (g9 F 3) o = 0 := by unfold btg at e; omega
    exact hz (Int.gcd_eq_zero_iff.mp e').2
  have g9l : g9 F 3 < 2 ^ 48 := g9_lt (by decide) 3 hF
  obtain ⟨h1, e1, e2, e3, e4⟩ := X2_by hf w hA g2 g3 (fun i j hi hj => rg_abs (k := 2 ^ 48) (hF i j hi hj) (by decide))
  have w1 := e3.2.2.2.2.2.2.2
  have c1 := e3.at w c0 id
  unfold m_X10_init
  rw [gd_of (isC_R hA), X2_common hf hA hF, bd2_some]
  unfold m_X10_init_8
  rw [divisor_li (rg_abs (k := 2 ^ 48) (by simpa using g9l) (by decide)) ho, bd_some, gd_of (isC_R hA), show m_X2_by f h A.1 (li (Int.gcd (g9 F 3) o)) = _ from e1, bd2_some]
  unfold m_X10_init_21
  rw [pF_c c1 w1 (by simp), bd_some, gd_of (show nzL (li (Int.gcd (g9 F 3) o)) = true from nzL_li g2 g3)]
  have m2 : Mod (fun q => q = a) 0 0 h1 _ := Mod.cs (e := .inl (10, [Value.null, .long 0].set 0 (.ref h.1))) w1 c1 rfl
  have w2 := m2.2.2.2.2.2.2.2
  have c2 := cm_cs_s h1 a (.inl (10, [Value.null, .long 0].set 0 (.ref h.1)))
  rw [pF_c c2 w2 (by simp), bd_some, show li o / li (Int.gcd (g9 F 3) o) = li (o.tdiv (btg F o)) from li_div (rg_abs (k := 2 ^ 48) ho (by decide)) g2]
  have m3 : Mod (fun q => q = a) 0 0 (cs h1 a (.inl (10, [Value.null, .long 0].set 0 (.ref h.1)))) _ := Mod.cs (e := .inl (10, ([Value.null, .long 0].set 0 (.ref h.1)).set 1 (.long (li (o.tdiv (btg F o)))))) w2 c2 rfl
  have ha : a < h.1 := (w.1 a _ c0).2
  have r2 := e2.mod m2 w1 (by show ¬ h.1 = a; omega) (by show ¬ h.1 + 1 = a; omega) (fun i hi => by show ¬ h.1 + 1 + 1 + i = a; omega)
  have r3 := r2.mod m3 w2 (by show ¬ h.1 = a; omega) (by show ¬ h.1 + 1 = a; omega) (fun i hi => by show ¬ h.1 + 1 + 1 + i = a; omega)
  refine ⟨nwR h, _, rfl, cm_cs_s _ _ _, r3, ?_⟩
  have q1 : Mod (fun q => q = a) 5 13 h h1 := e3.mono (fun _ _ hq => hq.elim) (Nat.le_refl _) (Nat.le_refl _)
  exact ((q1.tr m2 (fun q _ hq => hq)).tr m3 (fun q _ hq => hq)).mono (fun _ _ => id) (by omega) (by omega)
