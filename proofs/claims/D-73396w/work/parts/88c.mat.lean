set_option maxRecDepth 100000
/-! sums of two; all rows taken -/
def inY (A B : M3) (w : V3) : Prop := ∃ u v, inL A u ∧ inL B v ∧ w = vad u v
theorem SF_dgm {m : Int} (hm : 0 < m) : SF m (dgm m) := by
  refine ⟨⟨rfl, rfl, rfl, hm, hm, hm, ⟨Int.le_refl 0, hm⟩, ⟨Int.le_refl 0, hm⟩, ⟨Int.le_refl 0, hm⟩⟩, fun j hj => ?_⟩
  rcases c3 hj with rfl | rfl | rfl
  · exact ⟨1, 0, 0, by simp [ev, lc, m3, dgm]⟩
  · exact ⟨0, 1, 0, by simp [ev, lc, m3, dgm]⟩
  · exact ⟨0, 0, 1, by simp [ev, lc, m3, dgm]⟩
theorem tkA_ok {m : Int} {F b : Mi} {k : Nat} (hm : 0 < m) (hM : m ≤ 2 ^ 31) (h : SF m F) (hb : ∀ i j, i < 3 → j < 3 → rg (b i j)) (hk : 2 ^ 31 ≤ k) : taOk m k F b ∧ SF m (tkA m k F b 3) ∧ ∀ w, inL (m3 (tkA m k F b 3)) w ↔ inY (m3 F) (m3 b) w := by
  obtain ⟨a1, a2, a3⟩ := tk_ok hm hM h (hb 0 · (by decide)) hk
  obtain ⟨b1, b2, b3⟩ := tk_ok hm hM a2 (hb 1 · (by decide)) hk
  obtain ⟨d1, d2, d3⟩ := tk_ok hm hM b2 (hb 2 · (by decide)) hk
  refine ⟨fun i hi => ?_, d2, fun w => ?_⟩
  · rcases c3 hi with rfl | rfl | rfl
    · exact a1
    · exact b1
    · exact d1
  · refine (d3 w).trans ⟨?_, ?_⟩
    · rintro ⟨t2, h2⟩
      obtain ⟨t1, h1⟩ := (b3 _).mp h2
      obtain ⟨t0, h0⟩ := (a3 _).mp h1
      refine ⟨_, lc (-t0) (-t1) (-t2) (m3 b), h0, ⟨_, _, _, rfl⟩, ?_⟩
      obtain ⟨w1, w2, w3⟩ := w
      simp only [vad, vsm, lc, v3, m3, Prod.mk.injEq]
      refine ⟨?_, ?_, ?_⟩ <;> grind
    · rintro ⟨u, v, hu, ⟨x, y, z, rfl⟩, rfl⟩
      refine ⟨-z, (b3 _).mpr ⟨-y, (a3 _).mpr ⟨-x, ?_⟩⟩⟩
      have e : vad (vad (vad (vad u (lc x y z (m3 b))) (vsm (-z) (v3 (b 2)))) (vsm (-y) (v3 (b 1)))) (vsm (-x) (v3 (b 0))) = u := by
        obtain ⟨u1, u2, u3⟩ := u
        simp only [vad, vsm, lc, v3, m3, Prod.mk.injEq]
        refine ⟨?_, ?_, ?_⟩ <;> grind
      rw [e]; exact hu
theorem inL_z (A : M3) : inL A (0, 0, 0) := ⟨0, 0, 0, by simp [lc]⟩
theorem inY_l {A B : M3} {w : V3} (h : inL A w) : inY A B w := ⟨w, (0, 0, 0), h, inL_z B, by simp [vad]⟩
theorem inY_r {A B : M3} {w : V3} (h : inL B w) : inY A B w := ⟨(0, 0, 0), w, inL_z A, h, by simp [vad]⟩
theorem inY_sub {A B C : M3} (h1 : ∀ w, inL A w → inL C w) (h2 : ∀ w, inL B w → inL C w) {w : V3} (h : inY A B w) : inL C w := by
  obtain ⟨u, v, hu, hv, rfl⟩ := h
  exact inL_add (h1 _ hu) (h2 _ hv)
/-- all multiples of m -/
theorem inL_dgm {m : Int} {A : M3} (h : ∀ j, j < 3 → inL A (ev m j)) {w : V3} (hw : inL (m3 (dgm m)) w) : inL A w := by
  obtain ⟨x, y, z, rfl⟩ := hw
  have := inL_add (inL_add (inL_sm x (h 0 (by decide))) (inL_sm y (h 1 (by decide)))) (inL_sm z (h 2 (by decide)))
  have e : lc x y z (m3 (dgm m)) = vad (vad (vsm x (ev m 0)) (vsm y (ev m 1))) (vsm z (ev m 2)) := by simp [lc, m3, dgm, vad, vsm, ev]
  rw [e]; exact this
/-- the form of rows that have all multiples of m -/
theorem tkA_all {m : Int} {b : Mi} {k : Nat} (hm : 0 < m) (hM : m ≤ 2 ^ 31) (hb : ∀ i j, i < 3 → j < 3 → rg (b i j)) (hk : 2 ^ 31 ≤ k) (hB : ∀ j, j < 3 → inL (m3 b) (ev m j)) : taOk m k (dgm m) b ∧ SF m (tkA m k (dgm m) b 3) ∧ eqL (m3 (tkA m k (dgm m) b 3)) (m3 b) := by
  obtain ⟨a1, a2, a3⟩ := tkA_ok hm hM (SF_dgm hm) hb hk
  exact ⟨a1, a2, fun w => (a3 w).trans ⟨fun h => inY_sub (fun w => inL_dgm hB) (fun w h => h) h, inY_r⟩⟩
theorem tkA_join {m : Int} {a b : Mi} {k : Nat} (hm : 0 < m) (hM : m ≤ 2 ^ 31) (ha : ∀ i j, i < 3 → j < 3 → rg (a i j)) (hb : ∀ i j, i < 3 → j < 3 → rg (b i j)) (hk : 2 ^ 31 ≤ k) (hA : ∀ j, j < 3 → inL (m3 a) (ev m j)) : taOk m k (dgm m) a ∧ taOk m k (tkA m k (dgm m) a 3) b ∧ SF m (tkA m k (tkA m k (dgm m) a 3) b 3) ∧ ∀ w, inL (m3 (tkA m k (tkA m k (dgm m) a 3) b 3)) w ↔ inY (m3 a) (m3 b) w := by
  obtain ⟨a1, a2, a3⟩ := tkA_all hm hM ha hk hA
  obtain ⟨b1, b2, b3⟩ := tkA_ok hm hM a2 hb hk
  refine ⟨a1, b1, b2, fun w => (b3 w).trans ⟨?_, ?_⟩⟩
  · rintro ⟨u, v, hu, hv, e⟩; exact ⟨u, v, (a3 u).mp hu, hv, e⟩
  · rintro ⟨u, v, hu, hv, e⟩; exact ⟨u, v, (a3 u).mpr hu, hv, e⟩
/-! rows by rows -/
def adjM (A : M3) : M3 :=
  ((A.2.1.2.1 * A.2.2.2.2 - A.2.1.2.2 * A.2.2.2.1, A.1.2.2 * A.2.2.2.1 - A.1.2.1 * A.2.2.2.2, A.1.2.1 * A.2.1.2.2 - A.1.2.2 * A.2.1.2.1),
   (A.2.1.2.2 * A.2.2.1 - A.2.1.1 * A.2.2.2.2, A.1.1 * A.2.2.2.2 - A.1.2.2 * A.2.2.1, A.1.2.2 * A.2.1.1 - A.1.1 * A.2.1.2.2),
   (A.2.1.1 * A.2.2.2.1 - A.2.1.2.1 * A.2.2.1, A.1.2.1 * A.2.2.1 - A.1.1 * A.2.2.2.1, A.1.1 * A.2.1.2.1 - A.1.2.1 * A.2.1.1))
def smM (k : Int) (A : M3) : M3 := (vsm k A.1, vsm k A.2.1, vsm k A.2.2)
def idM : M3 := ((1, 0, 0), (0, 1, 0), (0, 0, 1))
def trM (A : M3) : M3 := ((A.1.1, A.2.1.1, A.2.2.1), (A.1.2.1, A.2.1.2.1, A.2.2.2.1), (A.1.2.2, A.2.1.2.2, A.2.2.2.2))
/-- a row by rows -/
def vm (v : V3) (A : M3) : V3 := lc v.1 v.2.1 v.2.2 A
theorem vm_in (v : V3) (A : M3) : inL A (vm v A) := ⟨_, _, _, rfl⟩
theorem in_vm {A : M3} {w : V3} (h : inL A w) : ∃ v, w = vm v A := by
  obtain ⟨a, b, c, h⟩ := h; exact ⟨(a, b, c), h⟩
theorem vm_mmul (v : V3) (A B : M3) : vm (vm v A) B = vm v (mmul A B) := by
  simp only [vm, mmul, lc, Prod.mk.injEq]
  refine ⟨?_, ?_, ?_⟩ <;> grind
theorem mmul_as (A B C : M3) : mmul (mmul A B) C = mmul A (mmul B C) := by
  simp only [mmul, lc, Prod.mk.injEq]
  refine ⟨⟨?_, ?_, ?_⟩, ⟨?_, ?_, ?_⟩, ?_, ?_, ?_⟩ <;> grind
theorem mmul_adj (A : M3) : mmul A (adjM A) = smM (det A) idM := by
  simp only [mmul, adjM, lc, smM, idM, vsm, det, dt, Prod.mk.injEq]
  refine ⟨⟨?_, ?_, ?_⟩, ⟨?_, ?_, ?_⟩, ?_, ?_, ?_⟩ <;> grind
theorem adj_mmul (A : M3) : mmul (adjM A) A = smM (det A) idM := by
  simp only [mmul, adjM, lc, smM, idM, vsm, det, dt, Prod.mk.injEq]
  refine ⟨⟨?_, ?_, ?_⟩, ⟨?_, ?_, ?_⟩, ?_, ?_, ?_⟩ <;> grind
theorem adj_mul (A B : M3) : adjM (mmul A B) = mmul (adjM B) (adjM A) := by
  simp only [mmul, adjM, lc, Prod.mk.injEq]
  refine ⟨⟨?_, ?_, ?_⟩, ⟨?_, ?_, ?_⟩, ?_, ?_, ?_⟩ <;> grind
theorem mmul_sm (k : Int) (A B : M3) : mmul (smM k A) B = smM k (mmul A B) := by
  simp only [mmul, lc, smM, vsm, Prod.mk.injEq]
  refine ⟨⟨?_, ?_, ?_⟩, ⟨?_, ?_, ?_⟩, ?_, ?_, ?_⟩ <;> grind
theorem mmul_sm2 (k : Int) (A B : M3) : mmul A (smM k B) = smM k (mmul A B) := by
  simp only [mmul, lc, smM, vsm, Prod.mk.injEq]
  refine ⟨⟨?_, ?_, ?_⟩, ⟨?_, ?_, ?_⟩, ?_, ?_, ?_⟩ <;> grind
theorem mmul_id (A : M3) : mmul A idM = A := by simp [mmul, lc, idM]
theorem id_mmul (A : M3) : mmul idM A = A := by simp [mmul, lc, idM]
theorem vm_sm (k : Int) (v : V3) (A : M3) : vm v (smM k A) = vsm k (vm v A) := by
  simp only [vm, lc, smM, vsm, Prod.mk.injEq]
  refine ⟨?_, ?_, ?_⟩ <;> grind
theorem vm_id (v : V3) : vm v idM = v := by simp [vm, lc, idM]
theorem vm_vsm (k : Int) (v : V3) (A : M3) : vm (vsm k v) A = vsm k (vm v A) := by
  simp only [vm, lc, vsm, Prod.mk.injEq]
  refine ⟨?_, ?_, ?_⟩ <;> grind
theorem vm_vad (u v : V3) (A : M3) : vm (vad u v) A = vad (vm u A) (vm v A) := by
  simp only [vm, lc, vad, Prod.mk.injEq]
  refine ⟨?_, ?_, ?_⟩ <;> grind
theorem det_tr (A : M3) : det (trM A) = det A := by simp only [det, dt, trM]; grind
theorem det_sm (k : Int) (A : M3) : det (smM k A) = k * k * k * det A := by simp only [det, dt, smM, vsm]; grind
theorem det_id : det idM = 1 := by decide
theorem det_adj (A : M3) : det (adjM A) = det A * det A := by simp only [det, dt, adjM]; grind
theorem tr_mmul (A B : M3) : trM (mmul A B) = mmul (trM B) (trM A) := by
  simp only [mmul, trM, lc, Prod.mk.injEq]
  refine ⟨⟨?_, ?_, ?_⟩, ⟨?_, ?_, ?_⟩, ?_, ?_, ?_⟩ <;> grind
theorem tr_tr (A : M3) : trM (trM A) = A := rfl
theorem adj_sm (k : Int) (A : M3) : adjM (smM k A) = smM (k * k) (adjM A) := by
  simp only [adjM, smM, vsm, Prod.mk.injEq]
  refine ⟨⟨?_, ?_, ?_⟩, ⟨?_, ?_, ?_⟩, ?_, ?_, ?_⟩ <;> grind
theorem vsm_inj {k : Int} (hk : k ≠ 0) {u v : V3} (h : vsm k u = vsm k v) : u = v := by
  obtain ⟨a, b, c⟩ := u
  obtain ⟨a', b', c'⟩ := v
  simp only [vsm, Prod.mk.injEq] at h ⊢
  exact ⟨Int.eq_of_mul_eq_mul_left hk h.1, Int.eq_of_mul_eq_mul_left hk h.2.1, Int.eq_of_mul_eq_mul_left hk h.2.2⟩
theorem smM_inj {k : Int} (hk : k ≠ 0) {A B : M3} (h : smM k A = smM k B) : A = B := by
  obtain ⟨a, b, c⟩ := A
  obtain ⟨a', b', c'⟩ := B
  simp only [smM, Prod.mk.injEq] at h ⊢
  exact ⟨vsm_inj hk h.1, vsm_inj hk h.2.1, vsm_inj hk h.2.2⟩
theorem smM_sm (j k : Int) (A : M3) : smM j (smM k A) = smM (j * k) A := by
  simp only [smM, vsm, Prod.mk.injEq]
  refine ⟨⟨?_, ?_, ?_⟩, ⟨?_, ?_, ?_⟩, ?_, ?_, ?_⟩ <;> grind
/-- an inverse from the left is one from the right -/
theorem inv_lr {K F : M3} {m : Int} (h : mmul K F = smM m idM) (hF : det F ≠ 0) : mmul F K = smM m idM := by
  have h1 : smM (det F) K = smM m (adjM F) := by
    have := congrArg (fun Z => mmul Z (adjM F)) h
    simp only [mmul_as, mmul_adj, mmul_sm2, mmul_id, mmul_sm, id_mmul] at this
    exact this
  refine smM_inj hF ?_
  rw [← mmul_sm2, h1, mmul_sm2, mmul_adj, smM_sm, smM_sm, Int.mul_comm]
