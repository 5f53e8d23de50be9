set_option maxRecDepth 100000
/-! the meet: one form, told in two ways -/
def bdM (B : Nat) (A : M3) : Prop := (A.1.1.natAbs ≤ B ∧ A.1.2.1.natAbs ≤ B ∧ A.1.2.2.natAbs ≤ B) ∧ (A.2.1.1.natAbs ≤ B ∧ A.2.1.2.1.natAbs ≤ B ∧ A.2.1.2.2.natAbs ≤ B) ∧ (A.2.2.1.natAbs ≤ B ∧ A.2.2.2.1.natAbs ≤ B ∧ A.2.2.2.2.natAbs ≤ B)
theorem bdM.mono {B B' : Nat} {A : M3} (h : bdM B A) (hB : B ≤ B') : bdM B' A := by
  obtain ⟨⟨a1, a2, a3⟩, ⟨a4, a5, a6⟩, ⟨a7, a8, a9⟩⟩ := h
  exact ⟨⟨Nat.le_trans a1 hB, Nat.le_trans a2 hB, Nat.le_trans a3 hB⟩, ⟨Nat.le_trans a4 hB, Nat.le_trans a5 hB, Nat.le_trans a6 hB⟩, ⟨Nat.le_trans a7 hB, Nat.le_trans a8 hB, Nat.le_trans a9 hB⟩⟩
theorem bdM_at {B : Nat} {N : Mi} (h : bdM B (m3 N)) {i j : Nat} (hi : i < 3) (hj : j < 3) : (N i j).natAbs ≤ B := by
  obtain ⟨⟨a, b, c⟩, ⟨d, e, f⟩, ⟨g, x, k⟩⟩ := h
  rcases c3 hi with rfl | rfl | rfl <;> rcases c3 hj with rfl | rfl | rfl <;> assumption
theorem bdM_of {B : Nat} {N : Mi} (h : ∀ i j, i < 3 → j < 3 → (N i j).natAbs ≤ B) : bdM B (m3 N) := ⟨⟨h 0 0 (by decide) (by decide), h 0 1 (by decide) (by decide), h 0 2 (by decide) (by decide)⟩, ⟨h 1 0 (by decide) (by decide), h 1 1 (by decide) (by decide), h 1 2 (by decide) (by decide)⟩, ⟨h 2 0 (by decide) (by decide), h 2 1 (by decide) (by decide), h 2 2 (by decide) (by decide)⟩⟩
theorem ab3 {a b c x y z : Int} {A B : Nat} (ha : a.natAbs ≤ A) (hb : b.natAbs ≤ A) (hc : c.natAbs ≤ A) (hx : x.natAbs ≤ B) (hy : y.natAbs ≤ B) (hz : z.natAbs ≤ B) : (a * x + b * y + c * z).natAbs ≤ 3 * (A * B) := by
  have p1 : (a * x).natAbs ≤ A * B := by rw [Int.natAbs_mul]; exact Nat.mul_le_mul ha hx
  have p2 : (b * y).natAbs ≤ A * B := by rw [Int.natAbs_mul]; exact Nat.mul_le_mul hb hy
  have p3 : (c * z).natAbs ≤ A * B := by rw [Int.natAbs_mul]; exact Nat.mul_le_mul hc hz
  omega
theorem bdM_mul {a b : Nat} {A B : M3} (hA : bdM a A) (hB : bdM b B) : bdM (3 * (a * b)) (mmul A B) := by
  obtain ⟨⟨a1, a2, a3⟩, ⟨a4, a5, a6⟩, ⟨a7, a8, a9⟩⟩ := hA
  obtain ⟨⟨b1, b2, b3⟩, ⟨b4, b5, b6⟩, ⟨b7, b8, b9⟩⟩ := hB
  exact ⟨⟨ab3 a1 a2 a3 b1 b4 b7, ab3 a1 a2 a3 b2 b5 b8, ab3 a1 a2 a3 b3 b6 b9⟩, ⟨ab3 a4 a5 a6 b1 b4 b7, ab3 a4 a5 a6 b2 b5 b8, ab3 a4 a5 a6 b3 b6 b9⟩, ⟨ab3 a7 a8 a9 b1 b4 b7, ab3 a7 a8 a9 b2 b5 b8, ab3 a7 a8 a9 b3 b6 b9⟩⟩
/-- what two rows tell is no more than their squares allow -/
theorem lag {x1 x2 y1 y2 S : Int} (h1 : x1 * x1 + x2 * x2 ≤ S) (h2 : y1 * y1 + y2 * y2 ≤ S) : (x1 * y2 - x2 * y1).natAbs ≤ S.toNat := by
  have n1 := sq_nonneg x1
  have n2 := sq_nonneg x2
  have n3 := sq_nonneg y1
  have n4 := sq_nonneg y2
  have e : (x1 * y2 - x2 * y1) * (x1 * y2 - x2 * y1) + (x1 * y1 + x2 * y2) * (x1 * y1 + x2 * y2) = (x1 * x1 + x2 * x2) * (y1 * y1 + y2 * y2) := by grind
  have p := Int.mul_le_mul h1 h2 (by omega) (by omega)
  have q := sq_nonneg (x1 * y1 + x2 * y2)
  have r : (x1 * y2 - x2 * y1) * (x1 * y2 - x2 * y1) ≤ S * S := by omega
  refine sq_abs r ?_
  have hS : ((S.toNat : Nat) : Int) = S := by omega
  rw [Int.natCast_mul, Int.natCast_add]
  simp only [hS]
  grind
theorem sm3_adj {S : Int} {A : M3} (h : sm3 S A) : bdM S.toNat (adjM A) := by
  obtain ⟨h1, h2, h3⟩ := h
  unfold sq3 at h1 h2 h3
  have a1 := sq_nonneg A.1.1
  have a2 := sq_nonneg A.1.2.1
  have a3 := sq_nonneg A.1.2.2
  have b1 := sq_nonneg A.2.1.1
  have b2 := sq_nonneg A.2.1.2.1
  have b3 := sq_nonneg A.2.1.2.2
  have d1 := sq_nonneg A.2.2.1
  have d2 := sq_nonneg A.2.2.2.1
  have d3 := sq_nonneg A.2.2.2.2
  refine ⟨⟨lag (by omega) (by omega), ?_, lag (by omega) (by omega)⟩, ⟨?_, lag (by omega) (by omega), ?_⟩, ⟨lag (by omega) (by omega), ?_, lag (by omega) (by omega)⟩⟩
  · have := lag (x1 := A.1.2.2) (x2 := A.1.2.1) (y1 := A.2.2.2.2) (y2 := A.2.2.2.1) (S := S) (by omega) (by omega)
    exact this
  · have := lag (x1 := A.2.1.2.2) (x2 := A.2.1.1) (y1 := A.2.2.2.2) (y2 := A.2.2.1) (S := S) (by omega) (by omega)
    exact this
  · have := lag (x1 := A.1.2.2) (x2 := A.1.1) (y1 := A.2.1.2.2) (y2 := A.2.1.1) (S := S) (by omega) (by omega)
    exact this
  · have := lag (x1 := A.1.2.1) (x2 := A.1.1) (y1 := A.2.2.2.1) (y2 := A.2.2.1) (S := S) (by omega) (by omega)
    exact this
theorem sm3_bd {S : Int} {A : M3} {B : Nat} (h : sm3 S A) (hB : S < ((B + 1) * (B + 1) : Nat)) : bdM B A := by
  obtain ⟨h1, h2, h3⟩ := h
  have a := sq3_ab h1
  have b := sq3_ab h2
  have c := sq3_ab h3
  exact ⟨⟨sq_abs a.1 hB, sq_abs a.2.1 hB, sq_abs a.2.2 hB⟩, ⟨sq_abs b.1 hB, sq_abs b.2.1 hB, sq_abs b.2.2 hB⟩, ⟨sq_abs c.1 hB, sq_abs c.2.1 hB, sq_abs c.2.2 hB⟩⟩
/-- what two rows of a form tell is no more than its determinant -/
theorem H_adj {M : M3} (h : isH M) : bdM (det M).natAbs (adjM M) := by
  obtain ⟨⟨p, q, r⟩, ⟨a10, s, t⟩, ⟨a20, a21, u⟩⟩ := M
  obtain ⟨h1, h2, h3, hp, hs, hu, ⟨hq0, hq1⟩, ⟨hr0, hr1⟩, ⟨ht0, ht1⟩⟩ := h
  dsimp only at *
  subst h1 h2 h3
  have ed : det ((p, q, r), (0, s, t), (0, 0, u)) = p * (s * u) := by simp [det, dt]
  have su := Int.mul_pos hs hu
  have l3 : s * u ≤ p * (s * u) := by have := Int.mul_le_mul_of_nonneg_right (show 1 ≤ p by omega) (show 0 ≤ s * u by omega); omega
  have pu : p * u ≤ p * (s * u) := Int.mul_le_mul_of_nonneg_left (by have := Int.mul_le_mul_of_nonneg_right (show 1 ≤ s by omega) (show 0 ≤ u by omega); omega) (by omega)
  have ps : p * s ≤ p * (s * u) := Int.mul_le_mul_of_nonneg_left (by have := Int.mul_le_mul_of_nonneg_left (show 1 ≤ u by omega) (show 0 ≤ s by omega); omega) (by omega)
  have qu : q * u ≤ s * u := Int.mul_le_mul_of_nonneg_right (by omega) (by omega)
  have qu0 := Int.mul_nonneg hq0 (show 0 ≤ u by omega)
  have qt : q * t ≤ s * u := Int.mul_le_mul (by omega) (by omega) ht0 (by omega)
  have qt0 := Int.mul_nonneg hq0 ht0
  have rs : r * s ≤ u * s := Int.mul_le_mul_of_nonneg_right (by omega) (by omega)
  have rs0 := Int.mul_nonneg hr0 (show 0 ≤ s by omega)
  rw [Int.mul_comm u s] at rs
  have pt : p * t ≤ p * u := Int.mul_le_mul_of_nonneg_left (by omega) (by omega)
  have pt0 := Int.mul_nonneg (show 0 ≤ p by omega) ht0
  have pu0 := Int.mul_nonneg (show 0 ≤ p by omega) (show 0 ≤ u by omega)
  have ps0 := Int.mul_nonneg (show 0 ≤ p by omega) (show 0 ≤ s by omega)
  rw [ed]
  simp only [bdM, adjM, Int.mul_zero, Int.zero_mul, Int.sub_zero, Int.zero_sub, Int.natAbs_neg, Int.natAbs_zero]
  omega
theorem W_adj {N : Mi} {B : Nat} (h : bdM B (adjM (m3 N))) : ∀ i k j, i < 3 → k < 3 → 0 < j → j < 3 → (N i j * N k 0 - N k j * N i 0).natAbs ≤ B := by
  intro i k j hi hk hj0 hj
  obtain ⟨⟨a1, a2, a3⟩, ⟨a4, a5, a6⟩, ⟨a7, a8, a9⟩⟩ := h
  simp only [m3, adjM] at a1 a2 a3 a4 a5 a6 a7 a8 a9
  have fl : ∀ x y : Int, x = y ∨ x = -y → y.natAbs ≤ B → x.natAbs ≤ B := fun x y h1 h2 => by rcases h1 with rfl | rfl <;> omega
  rcases (show j = 1 ∨ j = 2 by omega) with rfl | rfl <;> rcases c3 hi with rfl | rfl | rfl <;> rcases c3 hk with rfl | rfl | rfl
  · rw [Int.sub_self]; simp
  · exact fl _ _ (by right; grind) a9
  · exact fl _ _ (by left; grind) a8
  · exact fl _ _ (by left; grind) a9
  · rw [Int.sub_self]; simp
  · exact fl _ _ (by right; grind) a7
  · exact fl _ _ (by right; grind) a8
  · exact fl _ _ (by left; grind) a7
  · rw [Int.sub_self]; simp
  · rw [Int.sub_self]; simp
  · exact fl _ _ (by left; grind) a6
  · exact fl _ _ (by right; grind) a5
  · exact fl _ _ (by right; grind) a6
  · rw [Int.sub_self]; simp
  · exact fl _ _ (by left; grind) a4
  · exact fl _ _ (by left; grind) a5
  · exact fl _ _ (by right; grind) a4
  · rw [Int.sub_self]; simp
theorem m3_pmul (A B : Mi) : m3 (pmul A B) = mmul (m3 A) (m3 B) := rfl
theorem vm_mul_in (T P : M3) (w : V3) : inL (mmul T P) w ↔ ∃ x, inL T x ∧ w = vm x P := by
  constructor
  · intro h
    obtain ⟨v, rfl⟩ := in_vm h
    exact ⟨vm v T, vm_in v T, (vm_mmul v T P).symm⟩
  · rintro ⟨x, hx, rfl⟩
    obtain ⟨v, rfl⟩ := in_vm hx
    rw [vm_mmul]; exact vm_in _ _
/-- rows of what tells, by the first one's: points that both have -/
theorem meet_in {T P Q : M3} (h : ∀ x, inL T x ↔ inL Q (vm x P)) (w : V3) : inL (mmul T P) w ↔ inL P w ∧ inL Q w := by
  rw [vm_mul_in]
  constructor
  · rintro ⟨x, hx, rfl⟩; exact ⟨vm_in x P, (h x).mp hx⟩
  · rintro ⟨h1, h2⟩
    obtain ⟨x, rfl⟩ := in_vm h1
    exact ⟨x, (h x).mpr h2, rfl⟩
theorem inL_smM {n : Int} {B : M3} {w : V3} (h : inL (smM n B) w) : dv3 n w := by
  obtain ⟨v, rfl⟩ := in_vm h
  rw [vm_sm]; exact dv3_iff.mpr ⟨_, rfl⟩
theorem PQ.dv {P Q : M3} {n : Int} (h : PQ P Q n) {w : V3} (h1 : inL P w) (h2 : inL Q w) : dv3 n w := by
  obtain ⟨M, A, T, ov, g, B, _, _, ⟨rfl, rfl⟩ | ⟨rfl, rfl⟩⟩ := h
  · exact inL_smM h1
  · exact inL_smM h2
theorem meet_run {P Q : Mi} {told : Mi} {n : Int} (h : PQ (m3 P) (m3 Q) n) (hT : isH (m3 told)) (hD : (det (m3 told)).natAbs ≤ 2160) (hL : ∀ x, inL (m3 told) x ↔ inL (m3 Q) (vm x (m3 P))) : runOk 100 (pmul told P, []) ∧ isH (m3 (hrun 100 (pmul told P, [])).1) ∧ eqL (m3 (pmul told P)) (m3 (hrun 100 (pmul told P, [])).1) := by
  have hn := h.n
  have hsm := h.sm
  have nn : n * n ≤ 36 * 36 := Int.mul_le_mul hn.2 hn.2 (by omega) (by decide)
  have nn0 : 0 < n * n := Int.mul_pos (by omega) (by omega)
  have bP : bdM 1247 (m3 P) := sm3_bd hsm (by omega)
  have bA := sm3_adj hsm
  have bT : bdM 2160 (m3 told) := bdM_of (fun i j hi hj => by have := H_ent hT i j hi hj; omega)
  have aT := H_adj hT
  have aT' : bdM 2160 (adjM (m3 told)) := aT.mono hD
  have bM : bdM _ (m3 (pmul told P)) := bdM_mul bT bP
  have aM : bdM (3 * ((1200 * (n * n)).toNat * 2160)) (adjM (m3 (pmul told P))) := by rw [m3_pmul, adj_mul]; exact bdM_mul bA aT'
  have dv : dvM n (m3 (pmul told P)) := by
    have all : ∀ w, inL (m3 (pmul told P)) w → dv3 n w := fun w hw => by
      obtain ⟨h1, h2⟩ := (meet_in hL w).mp (by rw [← m3_pmul]; exact hw)
      exact h.dv h1 h2
    exact ⟨all _ (inL_0 _), all _ (inL_1 _), all _ (inL_2 _)⟩
  have dP := h.det_le
  have eD : dtf (pmul told P) = det (m3 told) * det (m3 P) := by rw [← det_m3, m3_pmul, det_mmul]
  have dT := H_pos hT
  have hz : dtf (pmul told P) ≠ 0 := by
    rw [eD]; intro e
    rcases Int.mul_eq_zero.mp e with e | e
    · omega
    · rw [e] at dP; simp at dP
  refine hrun_ok (sc := n.toNat) (X := 2 ^ 31) (by omega) (by decide) ⟨fun i j _ hi _ hj => ⟨?_, ?_⟩, fun i k j _ hi _ hk hj0 hj => ?_⟩ ?_ hz
  · have := bdM_at bM hi hj; omega
  · have := dvM_at dv hi hj
    rwa [show ((n.toNat : Nat) : Int) = n by omega]
  · refine Nat.le_trans (W_adj aM i k j hi hk (by omega) hj) ?_
    have e1 : (1200 * (n * n)).toNat = n.toNat * (1200 * n.toNat) := by
      have : (((1200 * (n * n)).toNat : Nat) : Int) = ((n.toNat * (1200 * n.toNat) : Nat) : Int) := by
        rw [Int.natCast_mul, Int.natCast_mul]
        have e2 : ((n.toNat : Nat) : Int) = n := by omega
        rw [e2]
        have : 0 ≤ 1200 * (n * n) := by omega
        rw [Int.toNat_of_nonneg this]; grind
      exact Int.ofNat_inj.mp this
    rw [e1, show 3 * (n.toNat * (1200 * n.toNat) * 2160) = n.toNat * (7776000 * n.toNat) by grind]
    exact Nat.mul_le_mul_left _ (by omega)
  · obtain ⟨c, c1, c2, e⟩ := h.dtc
    rw [eD, Int.natAbs_mul]
    have e2 : ((n.toNat : Nat) : Int) = n := by omega
    have e3 : (det (m3 P)).natAbs = n.toNat * n.toNat * (n.toNat * c) := by
      have : (((det (m3 P)).natAbs : Nat) : Int) = ((n.toNat * n.toNat * (n.toNat * c) : Nat) : Int) := by
        rw [e, Int.natCast_mul, Int.natCast_mul, Int.natCast_mul, e2]; grind
      exact_mod_cast this
    rw [e3, Nat.mul_left_comm]
    refine Nat.mul_le_mul_left _ ?_
    have l1 : n.toNat * c ≤ 36 * 60 := Nat.mul_le_mul (by omega) c2
    have l2 := Nat.mul_le_mul hD l1
    omega
/-- the least number that both divide, as it is told -/
def mlt (a b : Int) : Int := a.tdiv (Int.gcd a b) * b
theorem mlt_ok {a b : Nat} (ha : 0 < a) (hb : 0 < b) : mlt a b = (Nat.lcm a b : Nat) := by
  unfold mlt
  have e : Int.gcd (a : Int) (b : Int) = Nat.gcd a b := rfl
  rw [e]
  have h : (a : Int).tdiv (Nat.gcd a b : Nat) = ((a / Nat.gcd a b : Nat) : Int) := rfl
  rw [h, ← Int.natCast_mul]
  congr 1
  unfold Nat.lcm
  rw [Nat.mul_comm (a / _) b, ← Nat.mul_div_assoc _ (Nat.gcd_dvd_left a b), Nat.mul_comm]
def mE (P Q : Mi) : Int := mlt (smt P 2 : Nat) (smt Q 2 : Nat)
theorem mE_ok {P Q : Mi} {n : Int} (h : PQ (m3 P) (m3 Q) n) : 0 < mE P Q ∧ mE P Q ≤ 167961600 ∧ mul_in (mE P Q) (m3 P) ∧ mul_in (mE P Q) (m3 Q) ∧ smt P 2 ≤ 77760 ∧ smt Q 2 ≤ 77760 := by
  have dP := h.det_le
  have dQ := h.sw.det_le
  obtain ⟨p1, p2, p3⟩ := smt2_mul (N := P) (by rw [← det_m3]; intro e; rw [e] at dP; simp at dP)
  obtain ⟨q1, q2, q3⟩ := smt2_mul (N := Q) (by rw [← det_m3]; intro e; rw [e] at dQ; simp at dQ)
  obtain ⟨E1, E2, e1, e2, i1, i2, l1, l2, l3⟩ := h.mul2
  have d1 := Int.le_of_dvd e1 (p3 E1 i1)
  have d2 := Int.le_of_dvd e2 (q3 E2 i2)
  have e := mlt_ok p1 q1
  unfold mE
  rw [e]
  have lp : 0 < Nat.lcm (smt P 2) (smt Q 2) := Nat.lcm_pos p1 q1
  have ll : Nat.lcm (smt P 2) (smt Q 2) ≤ smt P 2 * smt Q 2 := Nat.le_of_dvd (Nat.mul_pos p1 q1) (Nat.lcm_dvd_mul _ _)
  have l4 : ((smt P 2 * smt Q 2 : Nat) : Int) ≤ E1 * E2 := by rw [Int.natCast_mul]; exact Int.mul_le_mul d1 d2 (by omega) (by omega)
  exact ⟨by omega, by omega, mul_dvd p2 (Int.natCast_dvd_natCast.mpr (Nat.dvd_lcm_left _ _)), mul_dvd q2 (Int.natCast_dvd_natCast.mpr (Nat.dvd_lcm_right _ _)), by omega, by omega⟩
theorem eqL_isH {A B C : M3} (hA : isH A) (hB : isH B) (h1 : eqL A C) (h2 : eqL B C) : A = B := H_unique hA hB (h1.tr h2.sy)
/-- all that is known of the meet -/
theorem meet_all {P Q : Mi} {n : Int} (h : PQ (m3 P) (m3 Q) n) : (det (m3 (sF P Q (dtf Q).natAbs kB))).natAbs ≤ 2160 ∧ isH (m3 (sF P Q (dtf Q).natAbs kB)) ∧ (∀ x, inL (m3 (sF P Q (dtf Q).natAbs kB)) x ↔ inL (m3 Q) (vm x (m3 P))) ∧ m3 (tel P Q (dtf Q).natAbs 3) = m3 (sF P Q (dtf Q).natAbs kB) ∧ (∀ j, j < 3 → isH (m3 (tel P Q (dtf Q).natAbs j)) ∧ runOk 100 (tlOf P Q (dtf Q).natAbs j, []) ∧ (det (m3 (tel P Q (dtf Q).natAbs j))).natAbs ≤ 2160) ∧ taOk (mE P Q) kB (dgm (mE P Q)) (pmul (sF P Q (dtf Q).natAbs kB) P) ∧ SF (mE P Q) (tkA (mE P Q) kB (dgm (mE P Q)) (pmul (sF P Q (dtf Q).natAbs kB) P) 3) ∧ m3 (hrun 100 (pmul (tel P Q (dtf Q).natAbs 3) P, [])).1 = m3 (tkA (mE P Q) kB (dgm (mE P Q)) (pmul (sF P Q (dtf Q).natAbs kB) P) 3) ∧ runOk 100 (pmul (tel P Q (dtf Q).natAbs 3) P, []) ∧ ∀ J, (∀ w, inL J w ↔ inY (m3 P) (m3 Q) w) → (det (m3 (sF P Q (dtf Q).natAbs kB))).natAbs * (det J).natAbs = (dtf Q).natAbs := by
  have dP := h.det_le
  have dQ := h.sw.det_le
  have hn := h.n
  have nn : n * n ≤ 36 * 36 := Int.mul_le_mul hn.2 hn.2 (by omega) (by decide)
  have bP : bdM 1247 (m3 P) := sm3_bd h.sm (by omega)
  have bQ : bdM 1247 (m3 Q) := sm3_bd h.sw.sm (by omega)
  have aQ := sm3_adj h.sw.sm
  have aQ' : bdM 1555200 (adjM (m3 Q)) := aQ.mono (by omega)
  have hQ : dtf Q ≠ 0 := by rw [← det_m3]; intro e; rw [e] at dQ; simp at dQ
  have hP : dtf P ≠ 0 := by rw [← det_m3]; intro e; rw [e] at dP; simp at dP
  have bN := bdM_mul bP aQ'
  rw [← m3_nN] at bN
  obtain ⟨s1, s2, s3, s4, s5, s6⟩ := sums_ok (P := P) hQ (by rw [← det_m3]; omega) (fun i j hi hj => rg_nat.mpr (by have := bdM_at bN hi hj; omega))
  -- how many times fewer
  obtain ⟨jA, jB, j1, j2⟩ := tkA_join (m := ((dtf P).natAbs : Int)) (a := P) (b := Q) (k := kB) (by omega) (by rw [← det_m3]; omega) (fun i j hi hj => rg_nat.mpr (by have := bdM_at bP hi hj; omega)) (fun i j hi hj => rg_nat.mpr (by have := bdM_at bQ hi hj; omega)) (by decide) (mul_dvd (mul_adj (m3 P)) (by rw [det_m3]; exact Int.dvd_natAbs.mpr (Int.dvd_refl _)))
  have hD : (det (m3 (sF P Q (dtf Q).natAbs kB))).natAbs ≤ 2160 := h.D j2 (by rw [s6 _ j2, det_m3])
  obtain ⟨t1, t2, t3⟩ := tel_ok (P := P) (H := m3 (sF P Q (dtf Q).natAbs kB)) hQ (by rw [← det_m3]; omega) s5 (by have := H_pos s4.1; omega) hD
  have eT : m3 (tel P Q (dtf Q).natAbs 3) = m3 (sF P Q (dtf Q).natAbs kB) := H_unique t2 s4.1 t3
  obtain ⟨m1, m2, m3', m4, _⟩ := mE_ok h
  have bS : bdM 2160 (m3 (sF P Q (dtf Q).natAbs kB)) := bdM_of (fun i j hi hj => by have := H_ent s4.1 i j hi hj; omega)
  have bSP : bdM _ (m3 (pmul (sF P Q (dtf Q).natAbs kB) P)) := bdM_mul bS bP
  have mi : mul_in (mE P Q) (m3 (pmul (sF P Q (dtf Q).natAbs kB) P)) := fun j hj => (meet_in s5 _).mpr ⟨m3' j hj, m4 j hj⟩
  obtain ⟨k1, k2, k3⟩ := tkA_all (b := pmul (sF P Q (dtf Q).natAbs kB) P) (k := kB) m1 (by omega) (fun i j hi hj => rg_nat.mpr (by have := bdM_at bSP hi hj; omega)) (by decide) mi
  have hT : ∀ x, inL (m3 (tel P Q (dtf Q).natAbs 3)) x ↔ inL (m3 Q) (vm x (m3 P)) := fun x => by rw [eT]; exact s5 x
  obtain ⟨r1, r2, r3⟩ := meet_run h t2 (by rw [eT]; exact hD) hT
  refine ⟨hD, s4.1, s5, eT, t1, k1, k2, ?_, r1, s6⟩
  refine eqL_isH r2 k2.1 r3.sy ?_
  have : m3 (pmul (tel P Q (dtf Q).natAbs 3) P) = m3 (pmul (sF P Q (dtf Q).natAbs kB) P) := by rw [m3_pmul, m3_pmul, eT]
  rw [this]; exact k3
