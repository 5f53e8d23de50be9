set_option maxRecDepth 100000
/-! what tells: a column more leaves no rest -/
def r4 (W : Mi) (i : Nat) : V3 := (W i 1, W i 2, W i 3)
def in4 (W : Mi) (w : Int) (t : V3) : Prop := ∃ c0 c1 c2 c3, w = c0 * W 0 0 + c1 * W 1 0 + c2 * W 2 0 + c3 * W 3 0 ∧ t = vad (vad (vsm c0 (r4 W 0)) (vsm c1 (r4 W 1))) (vad (vsm c2 (r4 W 2)) (vsm c3 (r4 W 3)))
def dt4 (W : Mi) : Int := W 0 0 * dt (r4 W 1) (r4 W 2) (r4 W 3) - W 1 0 * dt (r4 W 0) (r4 W 2) (r4 W 3) + W 2 0 * dt (r4 W 0) (r4 W 1) (r4 W 3) - W 3 0 * dt (r4 W 0) (r4 W 1) (r4 W 2)
theorem c4 {i : Nat} (h : i < 4) : i = 0 ∨ i = 1 ∨ i = 2 ∨ i = 3 := by omega
theorem dt4_add {W : Mi} {r l : Nat} (t : Int) (hr : r < 4) (hl : l < 4) (hne : r ≠ l) : dt4 (addR W r l t) = dt4 W := by
  rcases c4 hr with rfl | rfl | rfl | rfl <;> rcases c4 hl with rfl | rfl | rfl | rfl <;> first | (exact absurd rfl hne) | (simp [dt4, dt, r4, addR]; grind)
theorem in4_add1 {W : Mi} {r l : Nat} (t : Int) (hr : r < 4) (hl : l < 4) (hne : r ≠ l) {w : Int} {x : V3} (h : in4 (addR W r l t) w x) : in4 W w x := by
  obtain ⟨c0, c1, c2, c3, h1, h2⟩ := h
  rcases c4 hr with rfl | rfl | rfl | rfl <;> rcases c4 hl with rfl | rfl | rfl | rfl <;> first | (exact absurd rfl hne) | skip
  all_goals simp [vad, vsm, r4, addR] at h1 h2
  · refine ⟨c0, c1 + t * c0, c2, c3, ?_, ?_⟩ <;> simp [vad, vsm, r4, h1, h2] <;> grind
  · refine ⟨c0, c1, c2 + t * c0, c3, ?_, ?_⟩ <;> simp [vad, vsm, r4, h1, h2] <;> grind
  · refine ⟨c0, c1, c2, c3 + t * c0, ?_, ?_⟩ <;> simp [vad, vsm, r4, h1, h2] <;> grind
  · refine ⟨c0 + t * c1, c1, c2, c3, ?_, ?_⟩ <;> simp [vad, vsm, r4, h1, h2] <;> grind
  · refine ⟨c0, c1, c2 + t * c1, c3, ?_, ?_⟩ <;> simp [vad, vsm, r4, h1, h2] <;> grind
  · refine ⟨c0, c1, c2, c3 + t * c1, ?_, ?_⟩ <;> simp [vad, vsm, r4, h1, h2] <;> grind
  · refine ⟨c0 + t * c2, c1, c2, c3, ?_, ?_⟩ <;> simp [vad, vsm, r4, h1, h2] <;> grind
  · refine ⟨c0, c1 + t * c2, c2, c3, ?_, ?_⟩ <;> simp [vad, vsm, r4, h1, h2] <;> grind
  · refine ⟨c0, c1, c2, c3 + t * c2, ?_, ?_⟩ <;> simp [vad, vsm, r4, h1, h2] <;> grind
  · refine ⟨c0 + t * c3, c1, c2, c3, ?_, ?_⟩ <;> simp [vad, vsm, r4, h1, h2] <;> grind
  · refine ⟨c0, c1 + t * c3, c2, c3, ?_, ?_⟩ <;> simp [vad, vsm, r4, h1, h2] <;> grind
  · refine ⟨c0, c1, c2 + t * c3, c3, ?_, ?_⟩ <;> simp [vad, vsm, r4, h1, h2] <;> grind
theorem addR_back {W : Mi} {r l : Nat} (t : Int) (hne : r ≠ l) : addR (addR W r l t) r l (-t) = W := by
  funext a b
  unfold addR
  by_cases h : a = r
  · simp [h, Ne.symm hne]; grind
  · simp [h]
theorem in4_add {W : Mi} {r l : Nat} (t : Int) (hr : r < 4) (hl : l < 4) (hne : r ≠ l) (w : Int) (x : V3) : in4 (addR W r l t) w x ↔ in4 W w x := by
  constructor
  · exact in4_add1 t hr hl hne
  · intro h
    rw [← addR_back (W := W) t hne] at h
    exact in4_add1 (-t) hr hl hne h
def sk (l n : Nat) : Nat := if n < l then n else n + 1
/-- the rows left -/
def tlW (W : Mi) (l : Nat) : Mi := fun n i => W (sk l n) (i + 1)
theorem tl_in {W : Mi} {l : Nat} (hl : l < 4) (h0 : W l 0 ≠ 0) (hz : ∀ a, a < 4 → a ≠ l → W a 0 = 0) (t : V3) : in4 W 0 t ↔ inL (m3 (tlW W l)) t := by
  rcases c4 hl with rfl | rfl | rfl | rfl
  · have z1 := hz 1 (by decide) (by decide)
    have z2 := hz 2 (by decide) (by decide)
    have z3 := hz 3 (by decide) (by decide)
    constructor
    · rintro ⟨a, b, c, d, h1, h2⟩
      rw [z1, z2, z3] at h1
      have : a = 0 := by simp at h1; rcases Int.mul_eq_zero.mp h1.symm with h | h; exact h; exact absurd h h0
      subst this
      refine ⟨b, c, d, ?_⟩
      rw [h2]; simp [vad, vsm, r4, lc, m3, tlW, sk]; omega
    · rintro ⟨b, c, d, h2⟩
      refine ⟨0, b, c, d, by rw [z1, z2, z3]; simp, ?_⟩
      rw [h2]; simp [vad, vsm, r4, lc, m3, tlW, sk]; omega
  · have z1 := hz 0 (by decide) (by decide)
    have z2 := hz 2 (by decide) (by decide)
    have z3 := hz 3 (by decide) (by decide)
    constructor
    · rintro ⟨a, b, c, d, h1, h2⟩
      rw [z1, z2, z3] at h1
      have : b = 0 := by simp at h1; rcases Int.mul_eq_zero.mp h1.symm with h | h; exact h; exact absurd h h0
      subst this
      refine ⟨a, c, d, ?_⟩
      rw [h2]; simp [vad, vsm, r4, lc, m3, tlW, sk]; omega
    · rintro ⟨a, c, d, h2⟩
      refine ⟨a, 0, c, d, by rw [z1, z2, z3]; simp, ?_⟩
      rw [h2]; simp [vad, vsm, r4, lc, m3, tlW, sk]; omega
  · have z1 := hz 0 (by decide) (by decide)
    have z2 := hz 1 (by decide) (by decide)
    have z3 := hz 3 (by decide) (by decide)
    constructor
    · rintro ⟨a, b, c, d, h1, h2⟩
      rw [z1, z2, z3] at h1
      have : c = 0 := by simp at h1; rcases Int.mul_eq_zero.mp h1.symm with h | h; exact h; exact absurd h h0
      subst this
      refine ⟨a, b, d, ?_⟩
      rw [h2]; simp [vad, vsm, r4, lc, m3, tlW, sk]
    · rintro ⟨a, b, d, h2⟩
      refine ⟨a, b, 0, d, by rw [z1, z2, z3]; simp, ?_⟩
      rw [h2]; simp [vad, vsm, r4, lc, m3, tlW, sk]
  · have z1 := hz 0 (by decide) (by decide)
    have z2 := hz 1 (by decide) (by decide)
    have z3 := hz 2 (by decide) (by decide)
    constructor
    · rintro ⟨a, b, c, d, h1, h2⟩
      rw [z1, z2, z3] at h1
      have : d = 0 := by simp at h1; rcases Int.mul_eq_zero.mp h1.symm with h | h; exact h; exact absurd h h0
      subst this
      refine ⟨a, b, c, ?_⟩
      rw [h2]; simp [vad, vsm, r4, lc, m3, tlW, sk]
    · rintro ⟨a, b, c, h2⟩
      refine ⟨a, b, c, 0, by rw [z1, z2, z3]; simp, ?_⟩
      rw [h2]; simp [vad, vsm, r4, lc, m3, tlW, sk]
theorem tl_det {W : Mi} {l : Nat} (hl : l < 4) (hz : ∀ a, a < 4 → a ≠ l → W a 0 = 0) : (dt4 W).natAbs = (W l 0).natAbs * (det (m3 (tlW W l))).natAbs := by
  rw [← Int.natAbs_mul]
  rcases c4 hl with rfl | rfl | rfl | rfl
  · have z1 := hz 1 (by decide) (by decide)
    have z2 := hz 2 (by decide) (by decide)
    have z3 := hz 3 (by decide) (by decide)
    simp [dt4, z1, z2, z3, r4, det, m3, tlW, sk]
  · have z1 := hz 0 (by decide) (by decide)
    have z2 := hz 2 (by decide) (by decide)
    have z3 := hz 3 (by decide) (by decide)
    simp [dt4, z1, z2, z3, r4, det, m3, tlW, sk]
  · have z1 := hz 0 (by decide) (by decide)
    have z2 := hz 1 (by decide) (by decide)
    have z3 := hz 3 (by decide) (by decide)
    simp [dt4, z1, z2, z3, r4, det, m3, tlW, sk]
  · have z1 := hz 0 (by decide) (by decide)
    have z2 := hz 1 (by decide) (by decide)
    have z3 := hz 2 (by decide) (by decide)
    simp [dt4, z1, z2, z3, r4, det, m3, tlW, sk]
def wid (told : Mi) (rest : Nat → Int) (whole : Int) : Mi := fun r b => if r < 3 then (if b = 0 then rest r else told r (b - 1)) else if b = 0 then whole else 0
theorem wid_in {told : Mi} {rest : Nat → Int} {whole : Int} {n : V3} (hr : ∀ r, r < 3 → whole ∣ rest r - dot (rw3 told r) n) (t : V3) : in4 (wid told rest whole) 0 t ↔ inL (m3 told) t ∧ whole ∣ dot t n := by
  obtain ⟨k0, e0⟩ := hr 0 (by decide)
  obtain ⟨k1, e1⟩ := hr 1 (by decide)
  obtain ⟨k2, e2⟩ := hr 2 (by decide)
  constructor
  · rintro ⟨a, b, c, d, h1, h2⟩
    have ht : t = lc a b c (m3 told) := by
      rw [h2]; simp [vad, vsm, r4, lc, m3, wid]
    refine ⟨⟨a, b, c, ht⟩, ?_⟩
    rw [ht, dot_lc]
    simp [wid] at h1
    refine ⟨-(a * k0 + b * k1 + c * k2 + d), ?_⟩
    show a * dot (rw3 told 0) n + b * dot (rw3 told 1) n + c * dot (rw3 told 2) n = _
    grind
  · rintro ⟨⟨a, b, c, ht⟩, hd⟩
    rw [ht, dot_lc] at hd
    obtain ⟨k, hk⟩ := hd
    have hk' : a * dot (rw3 told 0) n + b * dot (rw3 told 1) n + c * dot (rw3 told 2) n = whole * k := hk
    refine ⟨a, b, c, -(a * k0 + b * k1 + c * k2 + k), ?_, ?_⟩
    · simp [wid]; grind
    · rw [ht]; simp [vad, vsm, r4, lc, m3, wid]
theorem wid_det (told : Mi) (rest : Nat → Int) (whole : Int) : (dt4 (wid told rest whole)).natAbs = whole.natAbs * (det (m3 told)).natAbs := by
  rw [← Int.natAbs_mul]
  have e : dt4 (wid told rest whole) = -(whole * det (m3 told)) := by simp [dt4, wid, r4, det, dt, m3]
  rw [e, Int.natAbs_neg]
/-- a form's numbers are no greater than its determinant -/
theorem H_le {M : M3} (h : isH M) : ∀ v, v = M.1 ∨ v = M.2.1 ∨ v = M.2.2 → (0 ≤ v.1 ∧ v.1 ≤ det M) ∧ (0 ≤ v.2.1 ∧ v.2.1 ≤ det M) ∧ (0 ≤ v.2.2 ∧ v.2.2 ≤ det M) := by
  obtain ⟨⟨p, q, r⟩, ⟨a10, s, t⟩, ⟨a20, a21, u⟩⟩ := M
  obtain ⟨h1, h2, h3, hp, hs, hu, ⟨hq0, hq1⟩, ⟨hr0, hr1⟩, ⟨ht0, ht1⟩⟩ := h
  dsimp only at *
  subst h1 h2 h3
  have ed : det ((p, q, r), (0, s, t), (0, 0, u)) = p * (s * u) := by simp [det, dt]
  have su := Int.mul_pos hs hu
  have l1 : s ≤ s * u := by have := Int.mul_le_mul_of_nonneg_left (show 1 ≤ u by omega) (show 0 ≤ s by omega); omega
  have l2 : u ≤ s * u := by have := Int.mul_le_mul_of_nonneg_right (show 1 ≤ s by omega) (show 0 ≤ u by omega); omega
  have l3 : s * u ≤ p * (s * u) := by have := Int.mul_le_mul_of_nonneg_right (show 1 ≤ p by omega) (show 0 ≤ s * u by omega); omega
  have l4 : p ≤ p * (s * u) := by have := Int.mul_le_mul_of_nonneg_left (show 1 ≤ s * u by omega) (show 0 ≤ p by omega); omega
  rw [ed]
  rintro v (rfl | rfl | rfl) <;> dsimp only <;> omega
theorem H_ent {N : Mi} (h : isH (m3 N)) : ∀ i j, i < 3 → j < 3 → 0 ≤ N i j ∧ N i j ≤ det (m3 N) := fun i j hi hj => by
  have k := H_le h
  rcases c3 hi with rfl | rfl | rfl <;> rcases c3 hj with rfl | rfl | rfl
  · exact (k _ (.inl rfl)).1
  · exact (k _ (.inl rfl)).2.1
  · exact (k _ (.inl rfl)).2.2
  · exact (k _ (.inr (.inl rfl))).1
  · exact (k _ (.inr (.inl rfl))).2.1
  · exact (k _ (.inr (.inl rfl))).2.2
  · exact (k _ (.inr (.inr rfl))).1
  · exact (k _ (.inr (.inr rfl))).2.1
  · exact (k _ (.inr (.inr rfl))).2.2
theorem H_pos {M : M3} (h : isH M) : 0 < det M := by
  obtain ⟨⟨p, q, r⟩, ⟨a10, s, t⟩, ⟨a20, a21, u⟩⟩ := M
  obtain ⟨h1, h2, h3, hp, hs, hu, _⟩ := h
  dsimp only at *
  subst h1 h2 h3
  have ed : det ((p, q, r), (0, s, t), (0, 0, u)) = p * (s * u) := by simp [det, dt]
  rw [ed]; exact Int.mul_pos hp (Int.mul_pos hs hu)
/-- rows of small numbers come to their form -/
theorem hrun_small {N : Mi} {B : Nat} (hB : B ≤ 32000) (h : ∀ i j, i < 3 → j < 3 → (N i j).natAbs ≤ B) (hz : dtf N ≠ 0) (hD : (dtf N).natAbs ≤ 2 ^ 31) : runOk 100 (N, []) ∧ isH (m3 (hrun 100 (N, [])).1) ∧ eqL (m3 N) (m3 (hrun 100 (N, [])).1) := by
  have hBB : B * B ≤ 32000 * 32000 := Nat.mul_le_mul hB hB
  refine hrun_ok (sc := 1) (X := 2 ^ 31) (by decide) (by decide) ⟨fun i j _ hi _ hj => ⟨?_, ⟨N i j, by simp⟩⟩, fun i k j _ hi _ hk _ hj => ?_⟩ (by omega) hz
  · have := h i j hi hj; omega
  · have a1 := h i j hi hj
    have a2 := h k 0 hk (by decide)
    have a3 := h k j hk hj
    have a4 := h i 0 hi (by decide)
    have p1 : (N i j * N k 0).natAbs ≤ B * B := by rw [Int.natAbs_mul]; exact Nat.mul_le_mul a1 a2
    have p2 : (N k j * N i 0).natAbs ≤ B * B := by rw [Int.natAbs_mul]; exact Nat.mul_le_mul a3 a4
    omega
/-- a column of rests more: rows that tell, brought to their form -/
def tstep (told : Mi) (rest : Nat → Int) (whole : Int) (n : Nat) : Mi := (hrun 100 (tlW (wgo n (wid told rest whole) 3).1 (wgo n (wid told rest whole) 3).2, [])).1
theorem tstep_ok {told : Mi} {rest : Nat → Int} {whole : Int} {n : Nat} {v : V3} {H : M3} (hT : isH (m3 told)) (hw : 0 < whole) (hr0 : ∀ r, r < 3 → 0 ≤ rest r ∧ rest r < whole) (hr : ∀ r, r < 3 → whole ∣ rest r - dot (rw3 told r) v) (hn : 4 * whole.toNat ≤ n) (hH : ∀ t, inL H t → inL (m3 told) t ∧ whole ∣ dot t v) (hH0 : det H ≠ 0) (hH1 : (det H).natAbs ≤ 2160) : runOk 100 (tlW (wgo n (wid told rest whole) 3).1 (wgo n (wid told rest whole) 3).2, []) ∧ isH (m3 (tstep told rest whole n)) ∧ ∀ t, inL (m3 (tstep told rest whole n)) t ↔ inL (m3 told) t ∧ whole ∣ dot t v := by
  have n0 : ∀ a, a < 4 → 0 ≤ wid told rest whole a 0 := fun a ha => by
    rcases c4 ha with rfl | rfl | rfl | rfl
    · exact (hr0 0 (by decide)).1
    · exact (hr0 1 (by decide)).1
    · exact (hr0 2 (by decide)).1
    · show 0 ≤ whole; omega
  have nw : w0 (wid told rest whole) ≤ n := by
    have h0 := hr0 0 (by decide)
    have h1 := hr0 1 (by decide)
    have h2 := hr0 2 (by decide)
    show (rest 0).toNat + (rest 1).toNat + (rest 2).toNat + whole.toNat ≤ n
    omega
  obtain ⟨g1, g2, g3, g4, g5⟩ := wgo_ok (Pr := fun W => (∀ w t, in4 W w t ↔ in4 (wid told rest whole) w t) ∧ dt4 W = dt4 (wid told rest whole)) (fun W r l t hr hl hne hP => ⟨fun w x => (in4_add t hr hl hne w x).trans (hP.1 w x), (dt4_add t hr hl hne).trans hP.2⟩) n (wid told rest whole) 3 (by decide) hw n0 nw ⟨fun _ _ => Iff.rfl, rfl⟩
  have hB := wgo_WB (X := 2160) (B := whole.natAbs * (det (m3 told)).natAbs) n (wid told rest whole) 3 (by decide) hw n0 nw
  have key : ∀ t, inL (m3 (tlW (wgo n (wid told rest whole) 3).1 (wgo n (wid told rest whole) 3).2)) t ↔ inL (m3 told) t ∧ whole ∣ dot t v := fun t => by
    rw [← tl_in g1 (by omega) g3, g4, wid_in hr]
  have hd := tl_det g1 g3
  rw [g5, wid_det] at hd
  generalize hWW : wgo n (wid told rest whole) 3 = WW at *
  have dd : det (m3 (tlW WW.1 WW.2)) ∣ det H := det_dvd (fun t ht => (key t).mpr (hH t ht))
  have d0 : det (m3 (tlW WW.1 WW.2)) ≠ 0 := fun e => by rw [e] at dd; exact hH0 (Int.zero_dvd.mp dd)
  have d1 : (det (m3 (tlW WW.1 WW.2))).natAbs ≤ 2160 := Nat.le_trans (Nat.le_of_dvd (by omega) (Int.natAbs_dvd_natAbs.mpr dd)) hH1
  have dT := H_pos hT
  have dd2 : det (m3 told) ∣ det H := det_dvd (fun t ht => (hH t ht).1)
  have d2 : (det (m3 told)).natAbs ≤ 2160 := Nat.le_trans (Nat.le_of_dvd (by omega) (Int.natAbs_dvd_natAbs.mpr dd2)) hH1
  have eT := H_ent hT
  have hB2 := hB (by rw [hd, Nat.mul_comm]; exact Nat.mul_le_mul_right _ d1) (fun j hj1 hj4 => by
    have ent : ∀ a, a < 4 → 0 ≤ wid told rest whole a j ∧ wid told rest whole a j ≤ det (m3 told) := fun a ha => by
      unfold wid
      by_cases h3 : a < 3
      · rw [if_pos h3, if_neg (by omega)]; exact eT a (j - 1) h3 (by omega)
      · rw [if_neg h3, if_neg (by omega)]; omega
    refine ⟨fun a ha => by have := ent a ha; omega, fun a k ha hk => ?_⟩
    have rng : ∀ a, a < 4 → 0 ≤ wid told rest whole a 0 ∧ wid told rest whole a 0 ≤ whole := fun a ha => ⟨n0 a ha, by
      rcases c4 ha with rfl | rfl | rfl | rfl
      · have := hr0 0 (by decide); show rest 0 ≤ whole; omega
      · have := hr0 1 (by decide); show rest 1 ≤ whole; omega
      · have := hr0 2 (by decide); show rest 2 ≤ whole; omega
      · show whole ≤ whole; omega⟩
    have p1 := Int.mul_le_mul (ent a ha).2 (rng k hk).2 (rng k hk).1 (by omega)
    have p2 := Int.mul_nonneg (ent a ha).1 (rng k hk).1
    have p3 := Int.mul_le_mul (ent k hk).2 (rng a ha).2 (rng a ha).1 (by omega)
    have p4 := Int.mul_nonneg (ent k hk).1 (rng a ha).1
    have p5 : ((whole.natAbs * (det (m3 told)).natAbs : Nat) : Int) = det (m3 told) * whole := by
      rw [← Int.natAbs_mul, Int.mul_comm]
      have := Int.mul_pos dT hw
      omega
    omega)
  have ents : ∀ i j, i < 3 → j < 3 → (tlW WW.1 WW.2 i j).natAbs ≤ 2160 := fun i j hi hj => (hB2 (j + 1) (by omega) (by omega)).1 (sk WW.2 i) (by unfold sk; split <;> omega)
  obtain ⟨q1, q2, q3⟩ := hrun_small (B := 2160) (by decide) ents (by rw [← det_m3]; exact d0) (by rw [← det_m3]; omega)
  refine ⟨q1, by unfold tstep; rw [hWW]; exact q2, fun t => ?_⟩
  rw [← key t]
  unfold tstep
  rw [hWW]
  exact (q3 t).symm
