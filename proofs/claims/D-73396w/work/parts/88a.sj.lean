set_option maxRecDepth 100000
/-! Small: a row more, purely -/
def v3 (v : Nat → Int) : V3 := (v 0, v 1, v 2)
def ev (m : Int) (j : Nat) : V3 := (if j = 0 then m else 0, if j = 1 then m else 0, if j = 2 then m else 0)
/-- sums of the rows and of one more -/
def inX (F : Mi) (v : Nat → Int) (w : V3) : Prop := ∃ t, inL (m3 F) (vad w (vsm t (v3 v)))
def inLc (c : Nat) (F : Mi) (w : V3) : Prop := ∃ x y z, x = 0 ∧ (1 ≤ c → y = 0) ∧ (2 ≤ c → z = 0) ∧ w = lc x y z (m3 F)
theorem inLc_in {c : Nat} {F : Mi} {w : V3} (h : inLc c F w) : inL (m3 F) w := by
  obtain ⟨x, y, z, _, _, _, h⟩ := h
  exact ⟨x, y, z, h⟩
theorem inLc_congr {c : Nat} {F F' : Mi} {w : V3} (h : inLc c F w) (he : ∀ i j, c < i → i < 3 → F' i j = F i j) : inLc c F' w := by
  obtain ⟨x, y, z, hx, hy, hz, h⟩ := h
  refine ⟨x, y, z, hx, hy, hz, ?_⟩
  rw [h]
  have e1 : ∀ j, y * F' 1 j = y * F 1 j := fun j => by
    by_cases h1 : 1 ≤ c
    · rw [hy h1]; simp
    · rw [he 1 j (by omega) (by decide)]
  have e2 : ∀ j, z * F' 2 j = z * F 2 j := fun j => by
    by_cases h1 : 2 ≤ c
    · rw [hz h1]; simp
    · rw [he 2 j (by omega) (by decide)]
  subst hx
  simp only [lc, m3, e1, e2, Int.zero_mul]
theorem inLc_add {c : Nat} {F : Mi} {u w : V3} (h : inLc c F u) (h' : inLc c F w) : inLc c F (vad u w) := by
  obtain ⟨x, y, z, hx, hy, hz, rfl⟩ := h
  obtain ⟨x', y', z', hx', hy', hz', rfl⟩ := h'
  refine ⟨x + x', y + y', z + z', by omega, fun h => by rw [hy h, hy' h]; rfl, fun h => by rw [hz h, hz' h]; rfl, ?_⟩
  simp only [vad, lc, Prod.mk.injEq]
  refine ⟨?_, ?_, ?_⟩ <;> grind
theorem inLc_sm {c : Nat} {F : Mi} {u : V3} (k : Int) (h : inLc c F u) : inLc c F (vsm k u) := by
  obtain ⟨x, y, z, hx, hy, hz, rfl⟩ := h
  refine ⟨k * x, k * y, k * z, by rw [hx]; simp, fun h => by rw [hy h]; simp, fun h => by rw [hz h]; simp, ?_⟩
  simp only [vsm, lc, Prod.mk.injEq]
  refine ⟨?_, ?_, ?_⟩ <;> grind
def SI (c : Nat) (m : Int) (F : Mi) (v : Nat → Int) : Prop := (∀ i j, j < i → i < 3 → F i j = 0) ∧ (∀ i, i < 3 → 0 < F i i) ∧ (∀ j, j < c → v j = 0) ∧ (∀ j, c ≤ j → j < 3 → 0 ≤ v j ∧ v j < m) ∧ (∀ i j, i ≤ j → j < 3 → 0 ≤ F i j ∧ F i j ≤ m) ∧ ∀ c', c ≤ c' → ∀ j, c' < j → j < 3 → inLc c' F (ev m j)
/-- d: what v loses by its rest -/
theorem dif_in {c : Nat} {m : Int} {F : Mi} (hc : c < 3) (h : ∀ j, c < j → j < 3 → inLc c F (ev m j)) (q : Nat → Int) : inLc c F (if 0 > c then m * q 0 else 0, if 1 > c then m * q 1 else 0, if 2 > c then m * q 2 else 0) := by
  rcases c3 hc with rfl | rfl | rfl
  · have h1 := inLc_add (inLc_sm (q 1) (h 1 (by decide) (by decide))) (inLc_sm (q 2) (h 2 (by decide) (by decide)))
    have e : vad (vsm (q 1) (ev m 1)) (vsm (q 2) (ev m 2)) = (if 0 > 0 then m * q 0 else 0, if 1 > 0 then m * q 1 else 0, if 2 > 0 then m * q 2 else 0) := by
      simp [vad, vsm, ev, Int.mul_comm]
    rw [← e]; exact h1
  · have h1 := inLc_sm (q 2) (h 2 (by decide) (by decide))
    have e : vsm (q 2) (ev m 2) = (if 0 > 1 then m * q 0 else 0, if 1 > 1 then m * q 1 else 0, if 2 > 1 then m * q 2 else 0) := by
      simp [vsm, ev, Int.mul_comm]
    rw [← e]; exact h1
  · exact ⟨0, 0, 0, rfl, fun _ => rfl, fun _ => rfl, by simp [lc]⟩
theorem vad_sub {a b d : V3} (h : a = vad b d) : b = vad a (vsm (-1) d) := by
  obtain ⟨a1, a2, a3⟩ := a
  obtain ⟨b1, b2, b3⟩ := b
  obtain ⟨d1, d2, d3⟩ := d
  simp only [vad, vsm, Prod.mk.injEq] at h ⊢
  refine ⟨?_, ?_, ?_⟩ <;> omega
theorem inX_of {F F' : Mi} {v v' : Nat → Int} (h0 : ∀ i, i < 3 → inX F' v' (rw3 F i)) (hv : inX F' v' (v3 v)) {w : V3} (h : inX F v w) : inX F' v' w := by
  obtain ⟨t, a, b, c, h⟩ := h
  obtain ⟨t0, h0'⟩ := h0 0 (by decide)
  obtain ⟨t1, h1'⟩ := h0 1 (by decide)
  obtain ⟨t2, h2'⟩ := h0 2 (by decide)
  obtain ⟨tv, hv'⟩ := hv
  refine ⟨a * t0 + b * t1 + c * t2 - t * tv, ?_⟩
  have hh := inL_add (inL_add (inL_sm a h0') (inL_sm b h1')) (inL_add (inL_sm c h2') (inL_sm (-t) hv'))
  have e : vad w (vsm (a * t0 + b * t1 + c * t2 - t * tv) (v3 v')) = vad (vad (vsm a (vad (rw3 F 0) (vsm t0 (v3 v')))) (vsm b (vad (rw3 F 1) (vsm t1 (v3 v'))))) (vad (vsm c (vad (rw3 F 2) (vsm t2 (v3 v')))) (vsm (-t) (vad (v3 v) (vsm tv (v3 v'))))) := by
    obtain ⟨w1, w2, w3⟩ := w
    simp only [vad, vsm, lc, rw3, m3, v3, Prod.mk.injEq] at h ⊢
    refine ⟨?_, ?_, ?_⟩ <;> grind
  rw [e]; exact hh
theorem inX_row {F : Mi} {v : Nat → Int} {i : Nat} (hi : i < 3) : inX F v (rw3 F i) := ⟨0, by
  have e : vad (rw3 F i) (vsm 0 (v3 v)) = rw3 F i := by simp [vad, vsm]
  rw [e]; exact inL_row F hi⟩
theorem inX_in {F : Mi} {v : Nat → Int} {w : V3} (h : inL (m3 F) w) : inX F v w := ⟨0, by
  have e : vad w (vsm 0 (v3 v)) = w := by simp [vad, vsm]
  rw [e]; exact h⟩
theorem inX_v {F : Mi} {v : Nat → Int} : inX F v (v3 v) := ⟨-1, 0, 0, 0, by simp [vad, vsm, lc]; omega⟩
theorem inX_add {F : Mi} {v : Nat → Int} {u w : V3} (h : inX F v u) (h' : inX F v w) : inX F v (vad u w) := by
  obtain ⟨t, h⟩ := h
  obtain ⟨t', h'⟩ := h'
  refine ⟨t + t', ?_⟩
  have e : vad (vad u w) (vsm (t + t') (v3 v)) = vad (vad u (vsm t (v3 v))) (vad w (vsm t' (v3 v))) := by
    simp only [vad, vsm, Prod.mk.injEq]
    refine ⟨?_, ?_, ?_⟩ <;> grind
  rw [e]; exact inL_add h h'
theorem inX_sm {F : Mi} {v : Nat → Int} {u : V3} (k : Int) (h : inX F v u) : inX F v (vsm k u) := by
  obtain ⟨t, h⟩ := h
  refine ⟨k * t, ?_⟩
  have e : vad (vsm k u) (vsm (k * t) (v3 v)) = vsm k (vad u (vsm t (v3 v))) := by
    simp only [vad, vsm, Prod.mk.injEq]
    refine ⟨?_, ?_, ?_⟩ <;> grind
  rw [e]; exact inL_sm k h
theorem sj_one_in {c : Nat} {m : Int} {F : Mi} {v : Nat → Int} (hc : c < 3) (h : SI c m F v) (w : V3) : inX F v w ↔ inX (sjF c 3 F v) (sjv m c 3 F v) w := by
  obtain ⟨h1, h2, h3, h4, h5, h6⟩ := h
  have ro : ∀ i, i < 3 → i ≠ c → rw3 (sjF c 3 F v) i = rw3 F i := fun i _ hi => by unfold rw3 sjF; simp [hi]
  have rc : rw3 (sjF c 3 F v) c = v3 v := by
    unfold rw3 sjF v3
    simp only [true_and, Prod.mk.injEq]
    refine ⟨?_, ?_, ?_⟩ <;> (split <;> first | rfl | (rw [h1 c _ (by omega) hc, h3 _ (by omega)]))
  -- what the rest loses
  have hd := dif_in hc (fun j h7 h8 => h6 c (Nat.le_refl _) j h7 h8) (fun j => -((F c j - sjt c F v * v j) / m))
  have ed : v3 (sjv m c 3 F v) = vad (vad (rw3 F c) (vsm (-sjt c F v) (v3 v))) (if 0 > c then m * (fun j => -((F c j - sjt c F v * v j) / m)) 0 else 0, if 1 > c then m * (fun j => -((F c j - sjt c F v * v j) / m)) 1 else 0, if 2 > c then m * (fun j => -((F c j - sjt c F v * v j) / m)) 2 else 0) := by
    have em : ∀ x : Int, x % m = x - m * (x / m) := fun x => Int.emod_def x m
    rcases c3 hc with rfl | rfl | rfl
    · simp [v3, sjv, vad, rw3, vsm, em]
      refine ⟨?_, ?_, ?_⟩ <;> grind
    · have a0 := h3 0 (by decide)
      have b0 := h1 1 0 (by decide) (by decide)
      simp [v3, sjv, vad, rw3, vsm, em, a0, b0]
      refine ⟨?_, ?_⟩ <;> grind
    · have a0 := h3 0 (by decide)
      have b0 := h1 2 0 (by decide) (by decide)
      have a1 := h3 1 (by decide)
      have b1 := h1 2 1 (by decide) (by decide)
      simp [v3, sjv, vad, rw3, vsm, a0, b0, a1, b1]
      grind
  generalize hdd : (if 0 > c then m * (fun j => -((F c j - sjt c F v * v j) / m)) 0 else 0, if 1 > c then m * (fun j => -((F c j - sjt c F v * v j) / m)) 1 else 0, if 2 > c then m * (fun j => -((F c j - sjt c F v * v j) / m)) 2 else 0) = d at hd ed
  have hd' : inLc c (sjF c 3 F v) d := inLc_congr hd (fun i j hi hi3 => by unfold sjF; rw [if_neg (by omega)])
  constructor
  · refine inX_of (fun i hi => ?_) ?_
    · by_cases e : i = c
      · subst e
        have e2 : rw3 F i = vad (vad (v3 (sjv m i 3 F v)) (vsm (-1) d)) (vsm (sjt i F v) (rw3 (sjF i 3 F v) i)) := by
          rw [ed, rc]
          simp only [vad, vsm, v3, rw3, Prod.mk.injEq]
          refine ⟨?_, ?_, ?_⟩ <;> grind
        rw [e2]
        exact inX_add (inX_add inX_v (inX_sm _ (inX_in (inLc_in hd')))) (inX_sm _ (inX_row hi))
      · rw [← ro i hi e]; exact inX_row hi
    · rw [← rc]; exact inX_row hc
  · refine inX_of (fun i hi => ?_) ?_
    · by_cases e : i = c
      · subst e; rw [rc]; exact inX_v
      · rw [ro i hi e]; exact inX_row hi
    · rw [ed]
      exact inX_add (inX_add (inX_row hc) (inX_sm _ inX_v)) (inX_in (inLc_in hd))
theorem sj_one_SI {c : Nat} {m : Int} {F : Mi} {v : Nat → Int} (hc : c < 3) (hm : 0 < m) (h : SI c m F v) (hz : v c ≠ 0) : SI c m (sjF c 3 F v) (sjv m c 3 F v) ∧ 0 ≤ (sjv m c 3 F v) c ∧ (sjv m c 3 F v) c < v c := by
  obtain ⟨h1, h2, h3, h4, h5, h6⟩ := h
  have hv := h4 c (Nat.le_refl _) hc
  have hF := h2 c hc
  have er : (sjv m c 3 F v) c = (F c c).tmod (v c) := by
    unfold sjv sjt; rw [if_pos ⟨Nat.le_refl _, hc⟩, if_pos rfl, Int.tmod_def, Int.mul_comm]
  have r0 : 0 ≤ (F c c).tmod (v c) := Int.tmod_nonneg _ (by omega)
  have r1 : (F c c).tmod (v c) < v c := Int.tmod_lt_of_pos _ (by omega)
  refine ⟨⟨fun i j hj hi => ?_, fun i hi => ?_, fun j hj => ?_, fun j hj hj3 => ?_, fun i j hij hj => ?_, fun c' hc' j hj hj3 => ?_⟩, by rw [er]; exact r0, by rw [er]; exact r1⟩
  · unfold sjF
    split
    · rename_i hh; omega
    · exact h1 i j hj hi
  · unfold sjF
    split
    · rename_i hh; obtain ⟨rfl, _, _⟩ := hh; omega
    · exact h2 i hi
  · unfold sjv; rw [if_neg (by omega)]; exact h3 j hj
  · by_cases e : j = c
    · subst e; rw [er]; omega
    · unfold sjv; rw [if_pos ⟨hj, hj3⟩, if_neg e]
      exact ⟨Int.emod_nonneg _ (by omega), Int.emod_lt_of_pos _ hm⟩
  · unfold sjF
    split
    · rename_i hh
      have := h4 j hh.2.1 hj
      omega
    · exact h5 i j hij hj
  · refine inLc_congr (h6 c' hc' j hj hj3) (fun i z hi hi3 => ?_)
    unfold sjF; rw [if_neg (by omega)]
theorem sj_stage {c : Nat} {m : Int} (hc : c < 3) (hm : 0 < m) (hM : m ≤ 2 ^ 31) : ∀ k F v, SI c m F v → (v c).toNat ≤ k → sjOk m c k F v ∧ SI c m (sjn m c k F v).1 (sjn m c k F v).2 ∧ (sjn m c k F v).2 c = 0 ∧ ∀ w, inX F v w ↔ inX (sjn m c k F v).1 (sjn m c k F v).2 w := by
  intro k
  induction k with
  | zero =>
    intro F v h hk
    have hv := h.2.2.2.1 c (Nat.le_refl _) hc
    have : v c = 0 := by omega
    exact ⟨this, h, this, fun w => Iff.rfl⟩
  | succ k ih =>
    intro F v h hk
    unfold sjOk sjn
    by_cases hz : v c = 0
    · simp only [if_pos hz]
      exact ⟨.inl hz, h, hz, fun _ => trivial⟩
    · simp only [if_neg hz]
      obtain ⟨g1, g2, g3⟩ := sj_one_SI hc hm h hz
      obtain ⟨i1, i2, i3, i4⟩ := ih _ _ g1 (by omega)
      have hv := h.2.2.2.1 c (Nat.le_refl _) hc
      have hF := h.2.2.2.2.1 c c (Nat.le_refl _) hc
      refine ⟨.inr ⟨⟨by omega, by omega⟩, ⟨by omega, by omega⟩, fun j h1 h2 => ?_, i1⟩, i2, i3, fun w => (sj_one_in hc h w).trans (i4 w)⟩
      have hFj := h.2.2.2.2.1 c j (by omega) h2
      have hvj := h.2.2.2.1 j (by omega) h2
      have t0 : 0 ≤ sjt c F v := Int.tdiv_nonneg (by omega) (by omega)
      have t1 : sjt c F v ≤ 2 ^ 31 := Int.le_trans (Int.tdiv_le_self _ (by omega)) (by omega)
      have p0 : 0 ≤ sjt c F v * v j := Int.mul_nonneg t0 hvj.1
      have p1 : sjt c F v * v j ≤ 2 ^ 31 * 2 ^ 31 := Int.mul_le_mul t1 (by omega) hvj.1 (by decide)
      exact ⟨by omega, by omega⟩
