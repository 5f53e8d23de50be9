/-! cosets: the number, and the component's loops -/
set_option maxRecDepth 100000
/-- one step: what is left of the places -/
def csv (F : Mi) (c : Nat) (v : Nat → Int) : Nat → Int := fun j => if c ≤ j then v j - v c / F c c * F c j else v j
def cst (F : Mi) (c : Nat) (s : (Nat → Int) × Int) : (Nat → Int) × Int := (csv F c s.1, s.2 * F c c + csv F c s.1 c)
def crn (F : Mi) (s : Nat → Int) : Nat → (Nat → Int) × Int
  | 0 => (s, 0)
  | c + 1 => cst F c (crn F s c)
theorem ediv_le {a b : Int} {B : Nat} (ha : a.natAbs ≤ B) (hb : 0 < b) : (a / b).natAbs ≤ B := by
  have h1 := Int.mul_ediv_add_emod a b
  have h2 := Int.emod_nonneg a (show b ≠ 0 by omega)
  have h3 := Int.emod_lt_of_pos a hb
  rcases Int.lt_or_le (a / b) 0 with h | h
  · have h4 : 1 * (-(a / b) - 1) ≤ b * (-(a / b) - 1) := Int.mul_le_mul_of_nonneg_right (by omega) (by omega)
    have h5 : b * (-(a / b) - 1) = -(b * (a / b)) - b := by grind
    omega
  · have : 1 * (a / b) ≤ b * (a / b) := Int.mul_le_mul_of_nonneg_right (by omega) h
    omega
theorem csv_le {F : Mi} {D B : Nat} (hF : ∀ i j, i < 3 → j < 3 → (F i j).natAbs ≤ D) {c : Nat} (hc : c < 3) (hp : 0 < F c c) {v : Nat → Int} (hv : ∀ j, j < 3 → (v j).natAbs ≤ B) : ∀ j, j < 3 → (csv F c v j).natAbs ≤ B + B * D := fun j hj => by
  unfold csv
  split
  · have h1 := ediv_le (hv c hc) hp
    have h2 : (v c / F c c * F c j).natAbs ≤ B * D := by rw [Int.natAbs_mul]; exact Nat.mul_le_mul h1 (hF c j hc hj)
    have := hv j hj
    omega
  · have := hv j hj; omega
theorem crn_rg {F : Mi} (hF : ∀ i j, i < 3 → j < 3 → (F i j).natAbs ≤ 2160) (hp : ∀ c, c < 3 → 0 < F c c) {s : Nat → Int} (hs : ∀ j, j < 3 → (s j).natAbs ≤ 168000000000) : ∀ c, c < 3 → ∀ j, j < 3 → rg ((crn F s c).1 j) := by
  have b1 := csv_le hF (c := 0) (by decide) (hp 0 (by decide)) hs
  have b2 := csv_le hF (c := 1) (by decide) (hp 1 (by decide)) b1
  intro c hc j hj
  rw [rg_nat]
  rcases c3 hc with rfl | rfl | rfl
  · exact Nat.lt_of_le_of_lt (hs j hj) (by decide)
  · exact Nat.lt_of_le_of_lt (b1 j hj) (by decide)
  · exact Nat.lt_of_le_of_lt (b2 j hj) (by decide)

theorem X0_c189 {f : Nat} {k158 : CH → Nat → Nat → Int64 → Int32 → Option (Int64 × CH)} {R : RA} {F : Mi} {V : Nat} (hd : ∀ i, i < 3 → R.2.2 i ≠ V) (x13 : Int64) {c : Nat} (hc : c < 3) {v : Nat → Int} {h0 : CH} : ∀ k n j h, j + k = 3 → c ≤ j → k < n → wfh h → isN h R F → cm h V = some (vcl (fun i => if c ≤ i ∧ i < j then csv F c v i else v i)) → Mod (· = V) 0 0 h0 h → ∃ h', m_X0_coset_189 f k158 n h R.1 V x13 (ni c) (li (v c / F c c)) (ni j) = m_X0_coset_223 f k158 h' R.1 V x13 (ni c) ∧ wfh h' ∧ isN h' R F ∧ cm h' V = some (vcl (csv F c v)) ∧ Mod (· = V) 0 0 h0 h' := by
  intro k
  induction k with
  | zero =>
    intro n j h hj hcj hn w hR hV M
    obtain ⟨n, rfl⟩ : ∃ z, n = z + 1 := ⟨n - 1, by omega⟩
    have : j = 3 := by omega
    subst this
    rw [m_X0_coset_189, if_pos le33]
    refine ⟨h, rfl, w, hR, ?_, M⟩
    rw [hV]
    refine congrArg some (vcl_congr (fun i hi => ?_))
    show (if c ≤ i ∧ i < 3 then csv F c v i else v i) = _
    by_cases e : c ≤ i
    · rw [if_pos ⟨e, hi⟩]
    · rw [if_neg (fun hh => e hh.1)]; unfold csv; rw [if_neg e]
  | succ k ih =>
    intro n j h hj hcj hn w hR hV M
    obtain ⟨n, rfl⟩ : ∃ z, n = z + 1 := ⟨n - 1, by omega⟩
    have j3 : j < 3 := by omega
    have vj : aL h 1 V (ni j) = some (li (v j)) := by
      rw [aL_V hV j3]
      show some (li (if c ≤ j ∧ j < j then csv F c v j else v j)) = _
      rw [if_neg (by omega)]
    have m1 : Mod (· = V) 0 0 h (cs h V (vcl (vst (fun i => if c ≤ i ∧ i < j then csv F c v i else v i) j (csv F c v j)))) := Mod.cs w hV rfl
    have hR' := hR.mod m1 w (fun e => by have h1 := hR.1; have e' : R.1 = V := e; rw [e', hV] at h1; cases h1) (fun e => by have h1 := hR.2.1; have e' : R.2.1 = V := e; rw [e', hV] at h1; cases h1) (fun i hi e => hd i hi e)
    obtain ⟨h', g1, g2⟩ := ih n (j + 1) _ (by omega) (by omega) (by omega) m1.wf hR' (by
      rw [cm_cs_s]
      refine congrArg some (vcl_congr (fun i hi => ?_))
      unfold vst
      by_cases e : i = j
      · subst e; rw [if_pos rfl, if_pos ⟨hcj, by omega⟩]
      · rw [if_neg e]
        show (if c ≤ i ∧ i < j then csv F c v i else v i) = _
        by_cases e2 : c ≤ i ∧ i < j
        · rw [if_pos e2, if_pos ⟨e2.1, by omega⟩]
        · rw [if_neg e2, if_neg (fun hh => e2 ⟨hh.1, by have := hh.2; omega⟩)]) (M.tr m1 (fun _ _ => id))
    refine ⟨h', ?_, g2⟩
    rw [← g1, m_X0_coset_189, if_neg (le3 j3), vj, bd_some, oR_R hR, bd_some, aR_R hR hc, bd_some, aL_R hR hc j3, bd_some, li_mul, li_sub]
    have e : v j - v c / F c c * F c j = csv F c v j := by unfold csv; rw [if_pos hcj]
    rw [e, uL_V w hV j3, bd_some, nmv_eq, ni_succ]
theorem X0_c158 {f : Nat} (hf : 4 ≤ f) {R : RA} {F : Mi} {V : Nat} (hd : ∀ i, i < 3 → R.2.2 i ≠ V) (hF : ∀ i j, i < 3 → j < 3 → (F i j).natAbs ≤ 2160) (hp : ∀ c, c < 3 → 0 < F c c) {s : Nat → Int} (hs : ∀ j, j < 3 → (s j).natAbs ≤ 168000000000) {h : CH} (w : wfh h) (hR : isN h R F) (hV : cm h V = some (vcl s)) : ∃ h', m_X0_coset_158 f f h R.1 V 0 0 = some (li (crn F s 3).2, h') ∧ Mod (· = V) 0 0 h h' := by
  have grr := crn_rg hF hp hs
  obtain ⟨v2, ⟨p1, p2, p3', p4, p5⟩, q2⟩ := loop3v (fun n (v : CH × Int64) y => m_X0_coset_158 f n v.1 R.1 V v.2 y) (fun v => some (v.2, v.1)) (fun c v => wfh v.1 ∧ isN v.1 R F ∧ cm v.1 V = some (vcl (crn F s c).1) ∧ v.2 = li (crn F s c).2 ∧ Mod (· = V) 0 0 h v.1)
    (fun n v _ => by rw [m_X0_coset_158, if_pos le33]; rfl)
    (fun n v c hc ⟨p1, p2, p3', p4, p5⟩ => by
      have gF : rg (F c c) := rg_nat.mpr (by have := hF c c hc hc; omega)
      obtain ⟨h', g1, g2, g3, g4, g5⟩ := X0_c189 (f := f) (k158 := m_X0_coset_158 f n) (R := R) (F := F) (V := V) hd v.2 hc (v := (crn F s c).1) (h0 := v.1) (3 - c) f c v.1 (by omega) (Nat.le_refl _) (by omega) p1 p2 (by
        rw [p3']
        refine congrArg some (vcl_congr (fun i hi => ?_))
        show _ = if c ≤ i ∧ i < c then _ else _
        rw [if_neg (by omega)]) (Mod.rf p1)
      refine ⟨(h', li (crn F s (c + 1)).2), ?_, g2, g3, g4, rfl, p5.tr g5 (fun _ _ => id)⟩
      rw [m_X0_coset_158, if_neg (le3 hc), aL_V p3' hc, bd_some, oR_R p2, bd_some, aR_R p2 hc, bd_some, aL_R p2 hc hc, bd_some, floorDiv_li (grr c hc c hc) gF (hp c hc), bd_some, g1]
      unfold m_X0_coset_223
      rw [oR_R g3, bd_some, aR_R g3 hc, bd_some, aL_R g3 hc hc, bd_some, aL_V g4 hc, bd_some, nmv_eq, nmv_eq, p4, li_mul, li_add, ni_succ]
      rfl)
    hf (v := (h, 0)) ⟨w, hR, hV, rfl, Mod.rf w⟩
  have e4 : m_X0_coset_158 f f h R.1 V 0 0 = _ := q2
  refine ⟨v2.1, ?_, p5⟩
  rw [e4, p4]
