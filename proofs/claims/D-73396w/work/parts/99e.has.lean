set_option maxRecDepth 100000
/-! whether a point is there, told in two ways -/
theorem hpt_iff {H : Mi} (hH : isH (m3 H)) (p : Nat → Int) : hpt H 3 0 p = true ↔ inL (m3 H) (p 0, p 1, p 2) := by
  obtain ⟨h1, h2, h3, h4, h5, h6, _⟩ := hH
  have h10 : H 1 0 = 0 := h1
  have h20 : H 2 0 = 0 := h2
  have h21 : H 2 1 = 0 := h3
  have p0 : 0 < H 0 0 := h4
  have p1 : 0 < H 1 1 := h5
  have p2 : 0 < H 2 2 := h6
  have u : hpt H 3 0 p = (if H 0 0 ∣ p 0 then (if H 1 1 ∣ hpn H 0 3 p 1 then (if H 2 2 ∣ hpn H 1 3 (hpn H 0 3 p) 2 then true else false) else false) else false) := by
    unfold hpt hpt hpt hpt; rfl
  have e1 : hpn H 0 3 p 1 = p 1 - (p 0).tdiv (H 0 0) * H 0 1 := by unfold hpn; rw [if_pos (by decide)]
  have e2 : hpn H 0 3 p 2 = p 2 - (p 0).tdiv (H 0 0) * H 0 2 := by unfold hpn; rw [if_pos (by decide)]
  have e3 : hpn H 1 3 (hpn H 0 3 p) 2 = (p 2 - (p 0).tdiv (H 0 0) * H 0 2) - (p 1 - (p 0).tdiv (H 0 0) * H 0 1).tdiv (H 1 1) * H 1 2 := by
    rw [← e1, ← e2]
    show (if 1 ≤ 2 ∧ 2 < 3 then hpn H 0 3 p 2 - (hpn H 0 3 p 1).tdiv (H 1 1) * H 1 2 else hpn H 0 3 p 2) = _
    rw [if_pos (by decide)]
  rw [u, e3, e1]
  constructor
  · intro h
    by_cases a0 : H 0 0 ∣ p 0
    · rw [if_pos a0] at h
      by_cases a1 : H 1 1 ∣ p 1 - (p 0).tdiv (H 0 0) * H 0 1
      · rw [if_pos a1] at h
        by_cases a2 : H 2 2 ∣ (p 2 - (p 0).tdiv (H 0 0) * H 0 2) - (p 1 - (p 0).tdiv (H 0 0) * H 0 1).tdiv (H 1 1) * H 1 2
        · have q0 := Int.tdiv_mul_cancel a0
          have q1 := Int.tdiv_mul_cancel a1
          obtain ⟨t, q2⟩ := a2
          refine ⟨(p 0).tdiv (H 0 0), (p 1 - (p 0).tdiv (H 0 0) * H 0 1).tdiv (H 1 1), t, ?_⟩
          simp only [lc, m3, h10, h20, h21, Prod.mk.injEq]
          refine ⟨by omega, by omega, ?_⟩
          grind
        · rw [if_neg a2] at h; cases h
      · rw [if_neg a1] at h; cases h
    · rw [if_neg a0] at h; cases h
  · rintro ⟨a, b, c, h⟩
    simp only [lc, m3, h10, h20, h21, Prod.mk.injEq, Int.mul_zero, Int.add_zero] at h
    obtain ⟨k0, k1, k2⟩ := h
    have t0 : (p 0).tdiv (H 0 0) = a := by rw [k0]; exact Int.mul_tdiv_cancel _ (by omega)
    rw [if_pos ⟨a, by rw [k0, Int.mul_comm]⟩, t0]
    have r1 : p 1 - a * H 0 1 = b * H 1 1 := by omega
    have t1 : (p 1 - a * H 0 1).tdiv (H 1 1) = b := by rw [r1]; exact Int.mul_tdiv_cancel _ (by omega)
    rw [if_pos ⟨b, by rw [r1, Int.mul_comm]⟩, t1, if_pos ⟨c, by rw [k2]; grind⟩]
theorem hpd_iff {d : Int} {p : Nat → Int} : hpd d 3 0 p = true ↔ d ∣ p 0 ∧ d ∣ p 1 ∧ d ∣ p 2 := by
  have u : hpd d 3 0 p = (if d ∣ p 0 then (if d ∣ p 1 then (if d ∣ p 2 then true else false) else false) else false) := by unfold hpd hpd hpd hpd; rfl
  rw [u]
  by_cases h0 : d ∣ p 0 <;> by_cases h1 : d ∣ p 1 <;> by_cases h2 : d ∣ p 2 <;> simp [h0, h1, h2]
/-- the point x over d is one of M's over o -/
def hasP (M : M3) (o : Int) (x : V3) (d : Int) : Prop := ∃ w, inL M w ∧ vsm o x = vsm d w
theorem hpA_iff {H : Mi} (hH : isH (m3 H)) {o d : Int} (hd : d ≠ 0) (x : Nat → Int) : hpA H o x d = true ↔ hasP (m3 H) o (v3 x) d := by
  unfold hpA
  constructor
  · intro h
    by_cases a : hpd d 3 0 (fun j => x j * o) = true
    · rw [if_pos a] at h
      obtain ⟨d0, d1, d2⟩ := hpd_iff.mp a
      refine ⟨_, (hpt_iff hH _).mp h, ?_⟩
      simp only [vsm, v3, Prod.mk.injEq]
      refine ⟨?_, ?_, ?_⟩
      · rw [Int.mul_tdiv_cancel' d0, Int.mul_comm]
      · rw [Int.mul_tdiv_cancel' d1, Int.mul_comm]
      · rw [Int.mul_tdiv_cancel' d2, Int.mul_comm]
    · rw [if_neg a] at h; cases h
  · rintro ⟨⟨w0, w1, w2⟩, hw, e⟩
    simp only [vsm, v3, Prod.mk.injEq] at e
    obtain ⟨e0, e1, e2⟩ := e
    have k0 : x 0 * o = d * w0 := by rw [Int.mul_comm]; exact e0
    have k1 : x 1 * o = d * w1 := by rw [Int.mul_comm]; exact e1
    have k2 : x 2 * o = d * w2 := by rw [Int.mul_comm]; exact e2
    rw [if_pos (hpd_iff.mpr ⟨⟨w0, k0⟩, ⟨w1, k1⟩, ⟨w2, k2⟩⟩)]
    refine (hpt_iff hH _).mpr ?_
    have t0 : (x 0 * o).tdiv d = w0 := by rw [k0]; exact Int.mul_tdiv_cancel_left _ hd
    have t1 : (x 1 * o).tdiv d = w1 := by rw [k1]; exact Int.mul_tdiv_cancel_left _ hd
    have t2 : (x 2 * o).tdiv d = w2 := by rw [k2]; exact Int.mul_tdiv_cancel_left _ hd
    show inL (m3 H) ((x 0 * o).tdiv d, (x 1 * o).tdiv d, (x 2 * o).tdiv d)
    rw [t0, t1, t2]; exact hw
theorem hvs_vm (N : Mi) (o : Int) (x : Nat → Int) : (hvs N o x 0, hvs N o x 1, hvs N o x 2) = vsm o (vm (v3 x) (adjM (m3 N))) := by
  rw [m3_adj]
  simp only [hvs, vsm, vm, lc, v3, m3, Prod.mk.injEq]
  refine ⟨?_, ?_, ?_⟩ <;> grind
theorem hav_iff {N : Mi} (hz : dtf N ≠ 0) {o d : Int} (hd : d ≠ 0) (x : Nat → Int) : hav N o x d ↔ hasP (m3 N) o (v3 x) d := by
  have k : hav N o x d ↔ dv3 (d * dtf N) (vsm o (vm (v3 x) (adjM (m3 N)))) := by
    rw [← hvs_vm]
    constructor
    · intro h; exact ⟨h 0 (by decide), h 1 (by decide), h 2 (by decide)⟩
    · rintro ⟨h0, h1, h2⟩ j hj
      rcases c3 hj with rfl | rfl | rfl <;> assumption
  rw [k, dv3_iff]
  have hD : det (m3 N) ≠ 0 := by rw [det_m3]; exact hz
  constructor
  · rintro ⟨y, hy⟩
    refine ⟨vm y (m3 N), vm_in _ _, ?_⟩
    have h1 := congrArg (fun z => vm z (m3 N)) hy
    simp only [vm_vsm, vm_mmul, adj_mmul, vm_sm, vm_id] at h1
    rw [← det_m3] at h1
    refine vsm_inj hD ?_
    have e1 : vsm (det (m3 N)) (vsm o (v3 x)) = vsm o (vsm (det (m3 N)) (v3 x)) := by simp only [vsm, Prod.mk.injEq]; refine ⟨?_, ?_, ?_⟩ <;> grind
    have e2 : vsm (det (m3 N)) (vsm d (vm y (m3 N))) = vsm (d * det (m3 N)) (vm y (m3 N)) := by simp only [vsm, Prod.mk.injEq]; refine ⟨?_, ?_, ?_⟩ <;> grind
    rw [e1, e2, h1]
  · rintro ⟨w, hw, e⟩
    obtain ⟨y, rfl⟩ := in_vm hw
    refine ⟨y, ?_⟩
    have h1 := congrArg (fun z => vm z (adjM (m3 N))) e
    simp only [vm_vsm, vm_mmul, mmul_adj, vm_sm, vm_id] at h1
    rw [h1, det_m3]
    simp only [vsm, Prod.mk.injEq]
    refine ⟨?_, ?_, ?_⟩ <;> grind
theorem hasP_eqL {A B : M3} (h : eqL A B) {o d : Int} {x : V3} : hasP A o x d ↔ hasP B o x d := by
  constructor
  · rintro ⟨w, hw, e⟩; exact ⟨w, (h w).mp hw, e⟩
  · rintro ⟨w, hw, e⟩; exact ⟨w, (h w).mpr hw, e⟩
theorem tdiv_le_mul {a b : Int} {k : Nat} (hb : 0 < b) : (a.tdiv b).natAbs ≤ a.natAbs := Int.natAbs_tdiv_le_natAbs a b
/-- while a point is looked for, all stays in range -/
theorem hptOk_of {H : Mi} (hH : isH (m3 H)) {D X : Nat} (hD : ∀ i j, i < 3 → j < 3 → (H i j).natAbs ≤ D) {p : Nat → Int} (hp : ∀ j, j < 3 → (p j).natAbs ≤ X) (hX : X + 3 * (X * D) < 2 ^ 63) (hDD : D < 2 ^ 63) : hptOk H 3 0 p := by
  obtain ⟨h1, h2, h3, h4, h5, h6, ⟨q0, q1⟩, ⟨r0, r1⟩, ⟨t0, t1⟩⟩ := hH
  have p0 : 0 < H 0 0 := h4
  have p1 : 0 < H 1 1 := h5
  have p2 : 0 < H 2 2 := h6
  have q0' : 0 ≤ H 0 1 := q0
  have q1' : H 0 1 < H 1 1 := q1
  have e1 : hpn H 0 3 p 1 = p 1 - (p 0).tdiv (H 0 0) * H 0 1 := by unfold hpn; rw [if_pos (by decide)]
  have e2 : hpn H 0 3 p 2 = p 2 - (p 0).tdiv (H 0 0) * H 0 2 := by unfold hpn; rw [if_pos (by decide)]
  have e3 : hpn H 1 3 (hpn H 0 3 p) 2 = hpn H 0 3 p 2 - (hpn H 0 3 p 1).tdiv (H 1 1) * H 1 2 := by
    show (if 1 ≤ 2 ∧ 2 < 3 then hpn H 0 3 p 2 - (hpn H 0 3 p 1).tdiv (H 1 1) * H 1 2 else hpn H 0 3 p 2) = _
    rw [if_pos (by decide)]
  have b0 := hp 0 (by decide)
  have b1 := hp 1 (by decide)
  have b2 := hp 2 (by decide)
  have t0b : ((p 0).tdiv (H 0 0)).natAbs ≤ X := Nat.le_trans (Int.natAbs_tdiv_le_natAbs _ _) b0
  have m1 : ((p 0).tdiv (H 0 0) * H 0 1).natAbs ≤ X * D := by rw [Int.natAbs_mul]; exact Nat.mul_le_mul t0b (hD 0 1 (by decide) (by decide))
  have m2 : ((p 0).tdiv (H 0 0) * H 0 2).natAbs ≤ X * D := by rw [Int.natAbs_mul]; exact Nat.mul_le_mul t0b (hD 0 2 (by decide) (by decide))
  -- the second quotient
  have t1b : ((hpn H 0 3 p 1).tdiv (H 1 1)).natAbs ≤ 2 * X := by
    rw [Int.natAbs_tdiv]
    have hb1 : (H 1 1).natAbs = (H 1 1).toNat := by omega
    have m3 : ((p 0).tdiv (H 0 0) * H 0 1).natAbs ≤ X * (H 1 1).natAbs := by rw [Int.natAbs_mul]; exact Nat.mul_le_mul t0b (by omega)
    have l1 : (hpn H 0 3 p 1).natAbs ≤ (2 * X) * (H 1 1).natAbs := by
      rw [e1]
      have m4 : X ≤ X * (H 1 1).natAbs := Nat.le_mul_of_pos_right _ (by omega)
      have : (2 * X) * (H 1 1).natAbs = X * (H 1 1).natAbs + X * (H 1 1).natAbs := by rw [Nat.mul_assoc, Nat.two_mul]
      omega
    exact Nat.div_le_of_le_mul (by rw [Nat.mul_comm]; exact l1)
  have m4 : ((hpn H 0 3 p 1).tdiv (H 1 1) * H 1 2).natAbs ≤ 2 * (X * D) := by
    rw [Int.natAbs_mul, ← Nat.mul_assoc]; exact Nat.mul_le_mul t1b (hD 1 2 (by decide) (by decide))
  have gH : ∀ i, i < 3 → rg (H i i) := fun i hi => rg_nat.mpr (Nat.lt_of_le_of_lt (hD i i hi hi) hDD)
  refine ⟨rg_nat.mpr (by omega), gH 0 (by decide), by omega, rg_nat.mpr ?_, gH 1 (by decide), by show H 1 1 ≠ 0; omega, rg_nat.mpr ?_, gH 2 (by decide), by show H 2 2 ≠ 0; omega, trivial⟩
  · show (hpn H 0 3 p 1).natAbs < _
    rw [e1]; omega
  · show (hpn H 1 3 (hpn H 0 3 p) 2).natAbs < _
    rw [e3, e2]; omega
