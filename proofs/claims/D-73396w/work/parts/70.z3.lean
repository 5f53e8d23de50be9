/-! whole numbers: rows of three, what they span, the one form -/
set_option maxRecDepth 100000
abbrev V3 : Type := Int × Int × Int
abbrev M3 : Type := V3 × V3 × V3
def lc (a b c : Int) (M : M3) : V3 := (a * M.1.1 + b * M.2.1.1 + c * M.2.2.1, a * M.1.2.1 + b * M.2.1.2.1 + c * M.2.2.2.1, a * M.1.2.2 + b * M.2.1.2.2 + c * M.2.2.2.2)
/-- a sum of the rows -/
def inL (M : M3) (v : V3) : Prop := ∃ a b c, v = lc a b c M
def vad (u v : V3) : V3 := (u.1 + v.1, u.2.1 + v.2.1, u.2.2 + v.2.2)
def vsm (k : Int) (v : V3) : V3 := (k * v.1, k * v.2.1, k * v.2.2)
theorem inL_add {M : M3} {u v : V3} (h1 : inL M u) (h2 : inL M v) : inL M (vad u v) := by
  obtain ⟨a, b, c, rfl⟩ := h1
  obtain ⟨a', b', c', rfl⟩ := h2
  refine ⟨a + a', b + b', c + c', ?_⟩
  simp only [vad, lc, Prod.mk.injEq]
  refine ⟨?_, ?_, ?_⟩ <;> grind
theorem inL_sm {M : M3} {u : V3} (k : Int) (h1 : inL M u) : inL M (vsm k u) := by
  obtain ⟨a, b, c, rfl⟩ := h1
  refine ⟨k * a, k * b, k * c, ?_⟩
  simp only [vsm, lc, Prod.mk.injEq]
  refine ⟨?_, ?_, ?_⟩ <;> grind
theorem inL_0 (M : M3) : inL M M.1 := ⟨1, 0, 0, by simp [lc]⟩
theorem inL_1 (M : M3) : inL M M.2.1 := ⟨0, 1, 0, by simp [lc]⟩
theorem inL_2 (M : M3) : inL M M.2.2 := ⟨0, 0, 1, by simp [lc]⟩
theorem inL_lc {M : M3} {N : M3} (h0 : inL M N.1) (h1 : inL M N.2.1) (h2 : inL M N.2.2) {v : V3} (hv : inL N v) : inL M v := by
  obtain ⟨a, b, c, rfl⟩ := hv
  have h := inL_add (inL_add (inL_sm a h0) (inL_sm b h1)) (inL_sm c h2)
  exact h
/-- the same sums -/
def eqL (A B : M3) : Prop := ∀ v, inL A v ↔ inL B v
def isH (M : M3) : Prop := M.2.1.1 = 0 ∧ M.2.2.1 = 0 ∧ M.2.2.2.1 = 0 ∧ 0 < M.1.1 ∧ 0 < M.2.1.2.1 ∧ 0 < M.2.2.2.2 ∧ (0 ≤ M.1.2.1 ∧ M.1.2.1 < M.2.1.2.1) ∧ (0 ≤ M.1.2.2 ∧ M.1.2.2 < M.2.2.2.2) ∧ (0 ≤ M.2.1.2.2 ∧ M.2.1.2.2 < M.2.2.2.2)
theorem modeq {t t' u c : Int} (h0 : 0 ≤ t) (h1 : t < u) (h2 : 0 ≤ t') (h3 : t' < u) (h : t = t' + c * u) : t = t' := by
  have e1 : t % u = t := Int.emod_eq_of_lt h0 h1
  have e2 : t' % u = t' := Int.emod_eq_of_lt h2 h3
  rw [← e1, h, Int.add_mul_emod_self_right, e2]
theorem one_of {b s : Int} (hs : 0 < s) (h : s = b * s) : b = 1 := by
  have h1 : (b - 1) * s = 0 := by rw [Int.sub_mul, ← h, Int.one_mul, Int.sub_self]
  rcases Int.mul_eq_zero.mp h1 with h | h <;> omega
theorem H_unique {A B : M3} (hA : isH A) (hB : isH B) (he : eqL A B) : A = B := by
  obtain ⟨⟨p, q, r⟩, ⟨a10, s, t⟩, ⟨a20, a21, u⟩⟩ := A
  obtain ⟨⟨p', q', r'⟩, ⟨b10, s', t'⟩, ⟨b20, b21, u'⟩⟩ := B
  obtain ⟨hA1, hA2, hA3, hp, hs, hu, ⟨hq0, hq1⟩, ⟨hr0, hr1⟩, ⟨ht0, ht1⟩⟩ := hA
  obtain ⟨hB1, hB2, hB3, hp', hs', hu', ⟨hq0', hq1'⟩, ⟨hr0', hr1'⟩, ⟨ht0', ht1'⟩⟩ := hB
  dsimp only at hA1 hA2 hA3 hp hs hu hq0 hq1 hr0 hr1 ht0 ht1 hB1 hB2 hB3 hp' hs' hu' hq0' hq1' hr0' hr1' ht0' ht1'
  subst hA1 hA2 hA3 hB1 hB2 hB3
  obtain ⟨a0, b0, c0, e0⟩ := (he _).mp (inL_0 ((p, q, r), (0, s, t), (0, 0, u)))
  obtain ⟨a1, b1, c1, e1⟩ := (he _).mp (inL_1 ((p, q, r), (0, s, t), (0, 0, u)))
  obtain ⟨a2, b2, c2, e2⟩ := (he _).mp (inL_2 ((p, q, r), (0, s, t), (0, 0, u)))
  obtain ⟨x0, y0, w0, f0⟩ := (he _).mpr (inL_0 ((p', q', r'), (0, s', t'), (0, 0, u')))
  obtain ⟨x1, y1, w1, f1⟩ := (he _).mpr (inL_1 ((p', q', r'), (0, s', t'), (0, 0, u')))
  obtain ⟨x2, y2, w2, f2⟩ := (he _).mpr (inL_2 ((p', q', r'), (0, s', t'), (0, 0, u')))
  simp only [lc, Prod.mk.injEq, Int.mul_zero, Int.add_zero] at e0 e1 e2 f0 f1 f2
  have pp : p = p' := Int.dvd_antisymm (by omega) (by omega) ⟨x0, by rw [f0.1, Int.mul_comm]⟩ ⟨a0, by rw [e0.1, Int.mul_comm]⟩
  subst pp
  have z1 : a1 = 0 := by rcases Int.mul_eq_zero.mp e1.1.symm with h | h <;> omega
  have z1' : x1 = 0 := by rcases Int.mul_eq_zero.mp f1.1.symm with h | h <;> omega
  have z2 : a2 = 0 := by rcases Int.mul_eq_zero.mp e2.1.symm with h | h <;> omega
  have z2' : x2 = 0 := by rcases Int.mul_eq_zero.mp f2.1.symm with h | h <;> omega
  subst z1 z1' z2 z2'
  simp only [Int.zero_mul, Int.zero_add] at e1 e2 f1 f2
  have ss : s = s' := Int.dvd_antisymm (by omega) (by omega) ⟨y1, by rw [f1.2.1, Int.mul_comm]⟩ ⟨b1, by rw [e1.2.1, Int.mul_comm]⟩
  subst ss
  have z3 : b2 = 0 := by rcases Int.mul_eq_zero.mp e2.2.1.symm with h | h <;> omega
  have z3' : y2 = 0 := by rcases Int.mul_eq_zero.mp f2.2.1.symm with h | h <;> omega
  subst z3 z3'
  simp only [Int.zero_mul, Int.zero_add] at e2 f2
  have uu : u = u' := Int.dvd_antisymm (by omega) (by omega) ⟨w2, by rw [f2.2.2, Int.mul_comm]⟩ ⟨c2, by rw [e2.2.2, Int.mul_comm]⟩
  subst uu
  have o1 : b1 = 1 := one_of hs e1.2.1
  have o0 : a0 = 1 := one_of hp e0.1
  subst o1 o0
  simp only [Int.one_mul] at e0 e1
  have tt : t = t' := modeq ht0 ht1 ht0' ht1' e1.2.2
  subst tt
  have qq : q = q' := modeq hq0 hq1 hq0' hq1' e0.2.1
  subst qq
  have ob : b0 = 0 := by
    have h1 : b0 * s = 0 := by have := e0.2.1; omega
    rcases Int.mul_eq_zero.mp h1 with h | h <;> omega
  subst ob
  simp only [Int.zero_mul, Int.add_zero] at e0
  have rr : r = r' := modeq hr0 hr1 hr0' hr1' e0.2.2
  subst rr
  rfl
/-! determinants -/
def dt (u v w : V3) : Int := u.1 * (v.2.1 * w.2.2 - v.2.2 * w.2.1) + u.2.1 * (v.2.2 * w.1 - v.1 * w.2.2) + u.2.2 * (v.1 * w.2.1 - v.2.1 * w.1)
def det (M : M3) : Int := dt M.1 M.2.1 M.2.2
def mmul (A B : M3) : M3 := (lc A.1.1 A.1.2.1 A.1.2.2 B, lc A.2.1.1 A.2.1.2.1 A.2.1.2.2 B, lc A.2.2.1 A.2.2.2.1 A.2.2.2.2 B)
theorem det_mmul (A B : M3) : det (mmul A B) = det A * det B := by
  obtain ⟨⟨a, b, c⟩, ⟨d, e, f⟩, ⟨g, h, i⟩⟩ := A
  obtain ⟨⟨a', b', c'⟩, ⟨d', e', f'⟩, ⟨g', h', i'⟩⟩ := B
  simp only [det, dt, mmul, lc]
  grind
/-- every row of A is a sum of B's -/
theorem sub_mmul {A B : M3} (h : ∀ v, inL A v → inL B v) : ∃ P, A = mmul P B := by
  obtain ⟨a0, b0, c0, e0⟩ := h _ (inL_0 A)
  obtain ⟨a1, b1, c1, e1⟩ := h _ (inL_1 A)
  obtain ⟨a2, b2, c2, e2⟩ := h _ (inL_2 A)
  exact ⟨((a0, b0, c0), (a1, b1, c1), (a2, b2, c2)), by
    obtain ⟨r0, r1, r2⟩ := A
    simp only at e0 e1 e2
    subst e0 e1 e2
    rfl⟩
theorem mmul_in (P B : M3) {v : V3} (h : inL (mmul P B) v) : inL B v := inL_lc ⟨_, _, _, rfl⟩ ⟨_, _, _, rfl⟩ ⟨_, _, _, rfl⟩ h
theorem det_dvd {A B : M3} (h : ∀ v, inL A v → inL B v) : det B ∣ det A := by
  obtain ⟨P, rfl⟩ := sub_mmul h
  rw [det_mmul]
  exact ⟨det P, Int.mul_comm _ _⟩
theorem eqL_det {A B : M3} (h : eqL A B) : (det A).natAbs = (det B).natAbs := by
  have h1 := det_dvd (fun v => (h v).mp)
  have h2 := det_dvd (fun v => (h v).mpr)
  exact Nat.dvd_antisymm (Int.natAbs_dvd_natAbs.mpr h2) (Int.natAbs_dvd_natAbs.mpr h1)
