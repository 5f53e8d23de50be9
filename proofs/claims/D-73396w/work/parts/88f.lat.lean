set_option maxRecDepth 100000
/-! lattices as they are told: own rows; rows turned -/
def sq3 (v : V3) : Int := v.1 * v.1 + v.2.1 * v.2.1 + v.2.2 * v.2.2
def LA (A : M3) : Prop := sq3 A.1 ≤ 1200 ∧ sq3 A.2.1 ≤ 1200 ∧ sq3 A.2.2 ≤ 1200 ∧ 1 ≤ (det A).natAbs ∧ (det A).natAbs ≤ 60
/-- M over n: A's rows turned by T (over ov), without the common divisor g -/
def LQ (M : M3) (n : Int) (A T : M3) (ov g : Int) : Prop := 0 < g ∧ 0 < n ∧ g * n = ov ∧ ov ≤ 36 ∧ smM g M = mmul A T ∧ mmul (trM T) T = smM (ov * ov) idM ∧ mmul T (trM T) = smM (ov * ov) idM ∧ adjM T = smM ov (trM T) ∧ det T = ov * ov * ov ∧ LA A
theorem LQ_own {A : M3} (h : LA A) : LQ A 1 A idM 1 1 := by
  refine ⟨by decide, by decide, rfl, by decide, ?_, rfl, rfl, rfl, rfl, h⟩
  rw [mmul_id]; simp [smM, vsm]
/-- the turn by four numbers, for rows -/
def qT (w x y z : Int) : M3 := ((w * w + x * x - y * y - z * z, 2 * (x * y + w * z), 2 * (x * z - w * y)), (2 * (x * y - w * z), w * w - x * x + y * y - z * z, 2 * (y * z + w * x)), (2 * (x * z + w * y), 2 * (y * z - w * x), w * w - x * x - y * y + z * z))
theorem qT_1 (w x y z : Int) : mmul (trM (qT w x y z)) (qT w x y z) = smM ((w * w + x * x + y * y + z * z) * (w * w + x * x + y * y + z * z)) idM := by
  simp only [mmul, lc, trM, qT, smM, vsm, idM, Prod.mk.injEq]
  refine ⟨⟨?_, ?_, ?_⟩, ⟨?_, ?_, ?_⟩, ?_, ?_, ?_⟩ <;> grind
theorem qT_2 (w x y z : Int) : mmul (qT w x y z) (trM (qT w x y z)) = smM ((w * w + x * x + y * y + z * z) * (w * w + x * x + y * y + z * z)) idM := by
  simp only [mmul, lc, trM, qT, smM, vsm, idM, Prod.mk.injEq]
  refine ⟨⟨?_, ?_, ?_⟩, ⟨?_, ?_, ?_⟩, ?_, ?_, ?_⟩ <;> grind
theorem qT_3 (w x y z : Int) : adjM (qT w x y z) = smM (w * w + x * x + y * y + z * z) (trM (qT w x y z)) := by
  simp only [adjM, trM, qT, smM, vsm, Prod.mk.injEq]
  refine ⟨⟨?_, ?_, ?_⟩, ⟨?_, ?_, ?_⟩, ?_, ?_, ?_⟩ <;> grind
theorem qT_4 (w x y z : Int) : det (qT w x y z) = (w * w + x * x + y * y + z * z) * (w * w + x * x + y * y + z * z) * (w * w + x * x + y * y + z * z) := by
  simp only [det, dt, qT]; grind
theorem LQ_det {M A T : M3} {n ov g : Int} (h : LQ M n A T ov g) : det M = n * n * n * det A := by
  obtain ⟨h1, h2, h3, h4, h5, h6, h7, h8, h9, h10⟩ := h
  have := congrArg det h5
  rw [det_sm, det_mmul, h9, ← h3] at this
  have h0 : g * g * g ≠ 0 := by
    have := Int.mul_pos (Int.mul_pos h1 h1) h1; omega
  refine Int.eq_of_mul_eq_mul_left h0 ?_
  rw [this]; grind
theorem LQ_n {M A T : M3} {n ov g : Int} (h : LQ M n A T ov g) : 1 ≤ n ∧ n ≤ 36 ∧ n ≤ ov ∧ g ≤ ov := by
  obtain ⟨h1, h2, h3, h4, _⟩ := h
  have a1 := Int.mul_le_mul_of_nonneg_right (show 1 ≤ g by omega) (show 0 ≤ n by omega)
  have a2 := Int.mul_le_mul_of_nonneg_left (show 1 ≤ n by omega) (show 0 ≤ g by omega)
  omega
theorem sq_vm {T : M3} {k : Int} (h : mmul T (trM T) = smM k idM) (v : V3) : sq3 (vm v T) = k * sq3 v := by
  have h1 : sq3 (vm v T) = dot v (vm (vm v T) (trM T)) := by simp only [sq3, vm, lc, dot, trM]; grind
  rw [h1, vm_mmul, h, vm_sm, vm_id]
  simp only [dot, vsm, sq3]; grind
theorem sq_vsm (k : Int) (v : V3) : sq3 (vsm k v) = k * k * sq3 v := by simp only [sq3, vsm]; grind
theorem LQ_sq {M A T : M3} {n ov g : Int} (h : LQ M n A T ov g) : sq3 M.1 ≤ 1200 * (n * n) ∧ sq3 M.2.1 ≤ 1200 * (n * n) ∧ sq3 M.2.2 ≤ 1200 * (n * n) := by
  obtain ⟨h1, h2, h3, h4, h5, h6, h7, h8, h9, ⟨a1, a2, a3, _⟩⟩ := h
  have key : ∀ v w : V3, vsm g v = vm w T → sq3 w ≤ 1200 → sq3 v ≤ 1200 * (n * n) := fun v w e hw => by
    have e2 := congrArg sq3 e
    rw [sq_vsm, sq_vm h7, ← h3] at e2
    have e3 : g * g * sq3 v = g * g * (n * n * sq3 w) := by rw [e2]; grind
    have g0 : g * g ≠ 0 := by have := Int.mul_pos h1 h1; omega
    rw [Int.eq_of_mul_eq_mul_left g0 e3, Int.mul_comm 1200]
    exact Int.mul_le_mul_of_nonneg_left hw (Int.le_of_lt (Int.mul_pos h2 h2))
  have e1 : vsm g M.1 = vm A.1 T := congrArg (fun Z => Z.1) h5
  have e2 : vsm g M.2.1 = vm A.2.1 T := congrArg (fun Z => Z.2.1) h5
  have e3 : vsm g M.2.2 = vm A.2.2 T := congrArg (fun Z => Z.2.2) h5
  exact ⟨key _ _ e1 a1, key _ _ e2 a2, key _ _ e3 a3⟩
theorem LQ_exp {M A T : M3} {n ov g : Int} (h : LQ M n A T ov g) : mmul (mmul (trM T) (adjM A)) M = smM (det A * ov * n) idM := by
  obtain ⟨h1, h2, h3, h4, h5, h6, h7, h8, h9, _⟩ := h
  refine smM_inj (show g ≠ 0 by omega) ?_
  rw [← mmul_sm2, h5, mmul_as, ← mmul_as (adjM A), adj_mmul, mmul_sm, id_mmul, mmul_sm2, h6, smM_sm, smM_sm, ← h3]
  congr 1; grind
/-- all multiples of E are there -/
def mul_in (E : Int) (M : M3) : Prop := ∀ j, j < 3 → inL M (ev E j)
theorem mul_of {E : Int} {M X : M3} (h : mmul X M = smM E idM) : mul_in E M := fun j hj => by
  have hx : ∀ v, inL M (vm v (smM E idM)) := fun v => by rw [← h, ← vm_mmul]; exact vm_in _ _
  rcases c3 hj with rfl | rfl | rfl
  · have := hx (1, 0, 0); simpa [vm, lc, smM, vsm, idM, ev] using this
  · have := hx (0, 1, 0); simpa [vm, lc, smM, vsm, idM, ev] using this
  · have := hx (0, 0, 1); simpa [vm, lc, smM, vsm, idM, ev] using this
theorem ev_vsm (k E : Int) (j : Nat) : ev (k * E) j = vsm k (ev E j) := by
  simp only [ev, vsm, Prod.mk.injEq]
  refine ⟨?_, ?_, ?_⟩ <;> (split <;> simp)
theorem mul_dvd {E E' : Int} {M : M3} (h : mul_in E M) (hd : E ∣ E') : mul_in E' M := fun j hj => by
  obtain ⟨k, rfl⟩ := hd
  rw [Int.mul_comm, ev_vsm]; exact inL_sm k (h j hj)
theorem mul_adj (M : M3) : mul_in (det M) M := mul_of (adj_mmul M)
theorem mul_sm {E k : Int} {M : M3} (h : mul_in E M) : mul_in (k * E) (smM k M) := fun j hj => by
  obtain ⟨a, b, c, e⟩ := h j hj
  refine ⟨a, b, c, ?_⟩
  rw [ev_vsm, e]
  simp only [vsm, lc, smM, Prod.mk.injEq]
  refine ⟨?_, ?_, ?_⟩ <;> grind
theorem LQ_mul {M A T : M3} {n ov g : Int} (h : LQ M n A T ov g) : mul_in (((det A).natAbs : Int) * ov * n) M := by
  refine mul_dvd (mul_of (LQ_exp h)) ?_
  exact Int.mul_dvd_mul (Int.mul_dvd_mul (Int.dvd_natAbs.mpr (Int.dvd_refl _)) (Int.dvd_refl _)) (Int.dvd_refl _)
/-- what holds a lattice of its own rows, made n times greater, and one turned: its determinant -/
theorem LQ_join {M A T : M3} {n ov g : Int} (h : LQ M n A T ov g) {B J : M3} (hJ : ∀ w, inL J w → inY (smM n B) M w) : ov * ov ∣ g * g * g * det J := by
  obtain ⟨h1, h2, h3, h4, h5, h6, h7, h8, h9, _⟩ := h
  rw [← det_sm]
  have dA : dvA (ov * ov) ov T := by
    refine ⟨⟨ov, h9⟩, ?_, ?_, ⟨ov, rfl⟩⟩
    · have e : ∀ v u : V3, v = vsm ov u → dv3 (ov * ov) (vsm ov v) := fun v u hv => dv3_iff.mpr ⟨u, by rw [hv]; simp only [vsm, Prod.mk.injEq]; refine ⟨?_, ?_, ?_⟩ <;> grind⟩
      rw [h8]
      rintro v (rfl | rfl | rfl)
      · exact e _ _ rfl
      · exact e _ _ rfl
      · exact e _ _ rfl
    · intro v _; exact dv3_iff.mpr ⟨v, rfl⟩
  refine dvA_all dA (fun w hw => ?_)
  obtain ⟨y, rfl⟩ := in_vm hw
  rw [vm_sm]
  obtain ⟨u, v, hu, hv, e⟩ := hJ _ (vm_in y J)
  obtain ⟨a, rfl⟩ := in_vm hu
  obtain ⟨b, rfl⟩ := in_vm hv
  rw [e]
  refine ⟨vsm ov (vm a B), vm b (mmul A T), ⟨(vm a B).1, (vm a B).2.1, (vm a B).2.2, ?_⟩, ?_, ?_⟩
  · simp [vsm, lc, m3, dgm, Int.mul_comm]
  · rw [← vm_mmul]; exact vm_in _ _
  · rw [← h5, vm_sm, vm_sm, ← h3]
    simp only [vad, vsm, Prod.mk.injEq]
    refine ⟨?_, ?_, ?_⟩ <;> grind
theorem D_le {D J d ov g c0 : Nat} (h1 : D * J = d) (h2 : ov * ov ∣ g * g * g * J) (h3 : g * g * g * d = c0 * (ov * ov * ov)) (hov : 0 < ov) (hg : 0 < g) (hd : 0 < d) (hc : c0 ≤ 60) (ho : ov ≤ 36) : D ≤ 2160 := by
  obtain ⟨k, hk⟩ := h2
  have e : (ov * ov) * (D * k) = (ov * ov) * (c0 * ov) := by
    have e1 : g * g * g * d = D * (g * g * g * J) := by rw [← h1]; grind
    rw [h3, hk] at e1
    grind
  have e2 := Nat.eq_of_mul_eq_mul_left (Nat.mul_pos hov hov) e
  have k0 : 0 < k := by
    rcases Nat.eq_zero_or_pos k with h | h
    · subst h
      have : 0 < g * g * g * J := Nat.mul_pos (Nat.mul_pos (Nat.mul_pos hg hg) hg) (by
        rcases Nat.eq_zero_or_pos J with h | h
        · subst h; simp at h1; omega
        · exact h)
      omega
    · exact h
  have l1 : D * 1 ≤ D * k := Nat.mul_le_mul_left _ k0
  have l2 : c0 * ov ≤ 60 * 36 := Nat.mul_le_mul hc ho
  omega
