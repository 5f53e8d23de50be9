set_option maxRecDepth 100000
/-! what tells, whole; numbers of rows; the meet -/
def itsJ (P Q : Mi) (w : Int) (j i : Nat) : Int := 0 + (P i 0 * mnr Q j 0).tmod w + (P i 1 * mnr Q j 1).tmod w + (P i 2 * mnr Q j 2).tmod w
def rstJ (told P Q : Mi) (w : Int) (j r : Nat) : Int := (0 + ((told r 0).tmod w * (itsJ P Q w j 0).tmod w).tmod w + ((told r 1).tmod w * (itsJ P Q w j 1).tmod w).tmod w + ((told r 2).tmod w * (itsJ P Q w j 2).tmod w).tmod w) % w
theorem dv_tmod (w x : Int) : w ∣ x.tmod w - x := by
  rw [Int.tmod_def]; exact ⟨-(x.tdiv w), by grind⟩
theorem dv_emod (w x : Int) : w ∣ x % w - x := by
  rw [Int.emod_def]; exact ⟨-(x / w), by grind⟩
theorem its_dv (P Q : Mi) (w : Int) (j i : Nat) : w ∣ itsJ P Q w j i - nN P Q i j := by
  obtain ⟨a, ha⟩ := dv_tmod w (P i 0 * mnr Q j 0)
  obtain ⟨b, hb⟩ := dv_tmod w (P i 1 * mnr Q j 1)
  obtain ⟨c, hc⟩ := dv_tmod w (P i 2 * mnr Q j 2)
  exact ⟨a + b + c, by unfold itsJ nN; grind⟩
theorem mul_dv {w x x' y y' : Int} (h : w ∣ x' - x) (h' : w ∣ y' - y) : w ∣ (x' * y').tmod w - x * y := by
  obtain ⟨a, ha⟩ := h
  obtain ⟨b, hb⟩ := h'
  obtain ⟨c, hc⟩ := dv_tmod w (x' * y')
  exact ⟨c + a * y' + x * b, by grind⟩
theorem rst_dv (told P Q : Mi) (w : Int) (j r : Nat) : w ∣ rstJ told P Q w j r - dot (rw3 told r) (nN P Q 0 j, nN P Q 1 j, nN P Q 2 j) := by
  have t : ∀ i, w ∣ (itsJ P Q w j i).tmod w - nN P Q i j := fun i => by
    obtain ⟨a, ha⟩ := dv_tmod w (itsJ P Q w j i)
    obtain ⟨b, hb⟩ := its_dv P Q w j i
    exact ⟨a + b, by grind⟩
  obtain ⟨a, ha⟩ := mul_dv (dv_tmod w (told r 0)) (t 0)
  obtain ⟨b, hb⟩ := mul_dv (dv_tmod w (told r 1)) (t 1)
  obtain ⟨c, hc⟩ := mul_dv (dv_tmod w (told r 2)) (t 2)
  obtain ⟨d, hd⟩ := dv_emod w (0 + ((told r 0).tmod w * (itsJ P Q w j 0).tmod w).tmod w + ((told r 1).tmod w * (itsJ P Q w j 1).tmod w).tmod w + ((told r 2).tmod w * (itsJ P Q w j 2).tmod w).tmod w)
  refine ⟨a + b + c + d, ?_⟩
  unfold rstJ
  simp only [dot, rw3]
  grind
def idN : Mi := fun i j => if i = j then 1 else 0
def nB : Nat := 2 ^ 40
def tel (P Q : Mi) (w : Int) : Nat → Mi
  | 0 => idN
  | j + 1 => tstep (tel P Q w j) (rstJ (tel P Q w j) P Q w j) w nB
theorem idN_H : isH (m3 idN) := by unfold isH m3 idN; simp
theorem idN_in (t : V3) : inL (m3 idN) t := ⟨t.1, t.2.1, t.2.2, by simp [lc, m3, idN]⟩
def tlOf (P Q : Mi) (w : Int) (j : Nat) : Mi := tlW (wgo nB (wid (tel P Q w j) (rstJ (tel P Q w j) P Q w j) w) 3).1 (wgo nB (wid (tel P Q w j) (rstJ (tel P Q w j) P Q w j) w) 3).2
theorem tel_ok {P Q : Mi} {H : M3} (hQ : dtf Q ≠ 0) (hM : (dtf Q).natAbs ≤ 2 ^ 30) (hH : ∀ x, inL H x ↔ inL (m3 Q) (vm x (m3 P))) (hH0 : det H ≠ 0) (hH1 : (det H).natAbs ≤ 2160) : (∀ j, j < 3 → isH (m3 (tel P Q (dtf Q).natAbs j)) ∧ runOk 100 (tlOf P Q (dtf Q).natAbs j, []) ∧ (det (m3 (tel P Q (dtf Q).natAbs j))).natAbs ≤ 2160) ∧ isH (m3 (tel P Q (dtf Q).natAbs 3)) ∧ eqL (m3 (tel P Q (dtf Q).natAbs 3)) H := by
  have w0 : (0 : Int) < ((dtf Q).natAbs : Int) := by omega
  generalize hw : (((dtf Q).natAbs : Nat) : Int) = w at *
  have hw2 : 4 * w.toNat ≤ nB := by unfold nB; omega
  have hin : ∀ t, inL H t ↔ dv3 w (vm t (m3 (nN P Q))) := fun t => by rw [hH, in_other (by rw [det_m3]; exact hQ), dv3_abs, det_m3, hw, m3_nN]
  have cols : ∀ t, vm t (m3 (nN P Q)) = (dot t (nN P Q 0 0, nN P Q 1 0, nN P Q 2 0), dot t (nN P Q 0 1, nN P Q 1 1, nN P Q 2 1), dot t (nN P Q 0 2, nN P Q 1 2, nN P Q 2 2)) := fun t => by simp only [vm, lc, m3, dot]
  have rr : ∀ told j r, r < 3 → 0 ≤ rstJ told P Q w j r ∧ rstJ told P Q w j r < w := fun told j r _ => ⟨Int.emod_nonneg _ (by omega), Int.emod_lt_of_pos _ w0⟩
  have hd : ∀ t, inL H t → w ∣ dot t (nN P Q 0 0, nN P Q 1 0, nN P Q 2 0) ∧ w ∣ dot t (nN P Q 0 1, nN P Q 1 1, nN P Q 2 1) ∧ w ∣ dot t (nN P Q 0 2, nN P Q 1 2, nN P Q 2 2) := fun t ht => by
    have := (hin t).mp ht; rw [cols] at this; exact this
  obtain ⟨a1, a2, a3⟩ := tstep_ok (told := tel P Q w 0) (rest := rstJ (tel P Q w 0) P Q w 0) (n := nB) (H := H) idN_H w0 (rr _ 0) (fun r _ => rst_dv _ P Q w 0 r) hw2 (fun t ht => ⟨idN_in t, (hd t ht).1⟩) hH0 hH1
  obtain ⟨b1, b2, b3⟩ := tstep_ok (told := tel P Q w 1) (rest := rstJ (tel P Q w 1) P Q w 1) (n := nB) (H := H) a2 w0 (rr _ 1) (fun r _ => rst_dv _ P Q w 1 r) hw2 (fun t ht => ⟨(a3 t).mpr ⟨idN_in t, (hd t ht).1⟩, (hd t ht).2.1⟩) hH0 hH1
  obtain ⟨c1, c2, c3'⟩ := tstep_ok (told := tel P Q w 2) (rest := rstJ (tel P Q w 2) P Q w 2) (n := nB) (H := H) b2 w0 (rr _ 2) (fun r _ => rst_dv _ P Q w 2 r) hw2 (fun t ht => ⟨(b3 t).mpr ⟨(a3 t).mpr ⟨idN_in t, (hd t ht).1⟩, (hd t ht).2.1⟩, (hd t ht).2.2⟩) hH0 hH1
  have dl : ∀ {A : M3}, (∀ t, inL H t → inL A t) → (det A).natAbs ≤ 2160 := fun {A} h => Nat.le_trans (Nat.le_of_dvd (by omega) (Int.natAbs_dvd_natAbs.mpr (det_dvd h))) hH1
  refine ⟨fun j hj => ?_, c2, fun t => ?_⟩
  · rcases c3 hj with rfl | rfl | rfl
    · exact ⟨idN_H, a1, dl (fun t _ => idN_in t)⟩
    · exact ⟨a2, b1, dl (fun t ht => (a3 t).mpr ⟨idN_in t, (hd t ht).1⟩)⟩
    · exact ⟨b2, c1, dl (fun t ht => (b3 t).mpr ⟨(a3 t).mpr ⟨idN_in t, (hd t ht).1⟩, (hd t ht).2.1⟩)⟩
  · rw [hin t, cols t]
    refine (c3' t).trans ⟨fun h => ?_, fun h => ?_⟩
    · obtain ⟨h1, h2⟩ := h
      obtain ⟨h3, h4⟩ := (b3 t).mp h1
      exact ⟨((a3 t).mp h3).2, h4, h2⟩
    · exact ⟨(b3 t).mpr ⟨(a3 t).mpr ⟨idN_in t, h.1⟩, h.2.1⟩, h.2.2⟩
/-! numbers of rows: the last one divides all whose multiples are there -/
theorem mnr_dvd {N : Mi} {d : Nat} (h : d ∣ g9 (mnr N) 3) : dvM d (adjM (m3 N)) := by
  have k : ∀ i j, i < 3 → j < 3 → (d : Int) ∣ mnr N i j := (g9_dvd 3).mp h
  exact ⟨⟨k 0 0 (by decide) (by decide), k 1 0 (by decide) (by decide) |> fun h => by
      have e : mnr N 1 0 = N 2 1 * N 0 2 - N 2 2 * N 0 1 := rfl
      rw [e] at h
      show (d : Int) ∣ N 0 2 * N 2 1 - N 0 1 * N 2 2
      have e2 : N 0 2 * N 2 1 - N 0 1 * N 2 2 = N 2 1 * N 0 2 - N 2 2 * N 0 1 := by grind
      rw [e2]; exact h, k 2 0 (by decide) (by decide)⟩,
    ⟨k 0 1 (by decide) (by decide), k 1 1 (by decide) (by decide) |> fun h => by
      have e : mnr N 1 1 = N 2 2 * N 0 0 - N 2 0 * N 0 2 := rfl
      rw [e] at h
      show (d : Int) ∣ N 0 0 * N 2 2 - N 0 2 * N 2 0
      have e2 : N 0 0 * N 2 2 - N 0 2 * N 2 0 = N 2 2 * N 0 0 - N 2 0 * N 0 2 := by grind
      rw [e2]; exact h, k 2 1 (by decide) (by decide) |> fun h => by
      have e : mnr N 2 1 = N 0 2 * N 1 0 - N 0 0 * N 1 2 := rfl
      rw [e] at h; exact h⟩,
    ⟨k 0 2 (by decide) (by decide), k 1 2 (by decide) (by decide) |> fun h => by
      have e : mnr N 1 2 = N 2 0 * N 0 1 - N 2 1 * N 0 0 := rfl
      rw [e] at h
      show (d : Int) ∣ N 0 1 * N 2 0 - N 0 0 * N 2 1
      have e2 : N 0 1 * N 2 0 - N 0 0 * N 2 1 = N 2 0 * N 0 1 - N 2 1 * N 0 0 := by grind
      rw [e2]; exact h, k 2 2 (by decide) (by decide)⟩⟩
theorem m3_adj (N : Mi) : adjM (m3 N) = m3 (fun i j => mnr N j i) := by
  simp only [m3, adjM, mnr, Prod.mk.injEq]
  refine ⟨⟨?_, ?_, ?_⟩, ⟨?_, ?_, ?_⟩, ?_, ?_, ?_⟩ <;> grind
theorem dvM_at {d : Int} {N : Mi} (h : dvM d (m3 N)) {i j : Nat} (hi : i < 3) (hj : j < 3) : d ∣ N i j := by
  rcases c3 hi with rfl | rfl | rfl <;> rcases c3 hj with rfl | rfl | rfl
  · exact h.1.1
  · exact h.1.2.1
  · exact h.1.2.2
  · exact h.2.1.1
  · exact h.2.1.2.1
  · exact h.2.1.2.2
  · exact h.2.2.1
  · exact h.2.2.2.1
  · exact h.2.2.2.2
theorem dvM_of {d : Int} {N : Mi} (h : ∀ i j, i < 3 → j < 3 → d ∣ N i j) : dvM d (m3 N) := ⟨⟨h 0 0 (by decide) (by decide), h 0 1 (by decide) (by decide), h 0 2 (by decide) (by decide)⟩, ⟨h 1 0 (by decide) (by decide), h 1 1 (by decide) (by decide), h 1 2 (by decide) (by decide)⟩, ⟨h 2 0 (by decide) (by decide), h 2 1 (by decide) (by decide), h 2 2 (by decide) (by decide)⟩⟩
theorem dvM_iff {d : Int} {A : M3} : dvM d A ↔ ∃ X, A = smM d X := by
  constructor
  · rintro ⟨h1, h2, h3⟩
    obtain ⟨u, hu⟩ := dv3_iff.mp h1
    obtain ⟨v, hv⟩ := dv3_iff.mp h2
    obtain ⟨w, hw⟩ := dv3_iff.mp h3
    obtain ⟨a, b, c⟩ := A
    exact ⟨(u, v, w), by simp only [smM, Prod.mk.injEq]; exact ⟨hu, hv, hw⟩⟩
  · rintro ⟨X, rfl⟩
    exact ⟨dv3_iff.mpr ⟨_, rfl⟩, dv3_iff.mpr ⟨_, rfl⟩, dv3_iff.mpr ⟨_, rfl⟩⟩
theorem g9_dvM {d : Nat} {N : Mi} : d ∣ g9 N 3 ↔ dvM d (m3 N) := (g9_dvd 3).trans ⟨dvM_of, fun h _ _ hi hj => dvM_at h hi hj⟩
theorem g9m_dvM {d : Nat} {N : Mi} : d ∣ g9 (mnr N) 3 ↔ dvM d (adjM (m3 N)) := by
  rw [m3_adj]
  exact (g9_dvd 3).trans ⟨fun h => dvM_of (fun i j hi hj => h j i hj hi), fun h i j hi hj => dvM_at h hj hi⟩
theorem tc_det (A : M3) : dvM (det A) (smM (det A) idM) := dvM_iff.mpr ⟨idM, rfl⟩
theorem g9m_det {N : Mi} : g9 (mnr N) 3 ∣ (dtf N).natAbs := by
  have h := g9m_dvM.mp (Nat.dvd_refl (g9 (mnr N) 3))
  have h1 : dvM (g9 (mnr N) 3 : Nat) (mmul (m3 N) (adjM (m3 N))) := dvM_l h
  rw [mmul_adj] at h1
  have h2 : ((g9 (mnr N) 3 : Nat) : Int) ∣ det (m3 N) * 1 := h1.1.1
  rw [Int.mul_one, det_m3] at h2
  exact nd_abs h2
theorem smt2_mul {N : Mi} (hz : dtf N ≠ 0) : 0 < smt N 2 ∧ mul_in (smt N 2 : Nat) (m3 N) ∧ ∀ E : Int, mul_in E (m3 N) → ((smt N 2 : Nat) : Int) ∣ E := by
  have e : smt N 2 = (dtf N).natAbs / g9 (mnr N) 3 := rfl
  obtain ⟨s, hs⟩ := g9m_det (N := N)
  have g0 : 0 < g9 (mnr N) 3 := by
    rcases Nat.eq_zero_or_pos (g9 (mnr N) 3) with h | h
    · rw [h] at hs; simp at hs; exact absurd hs hz
    · exact h
  have es : smt N 2 = s := by rw [e, hs]; exact Nat.mul_div_cancel_left _ g0
  have s0 : 0 < s := by
    rcases Nat.eq_zero_or_pos s with h | h
    · rw [h] at hs; simp at hs; exact absurd hs hz
    · exact h
  rw [es]
  refine ⟨s0, ?_, fun E hE => ?_⟩
  · obtain ⟨X, hX⟩ := dvM_iff.mp (g9m_dvM.mp (Nat.dvd_refl (g9 (mnr N) 3)))
    have h1 : mmul X (m3 N) = smM ((dtf N).tdiv (g9 (mnr N) 3 : Nat)) idM := by
      refine smM_inj (show ((g9 (mnr N) 3 : Nat) : Int) ≠ 0 by omega) ?_
      rw [← mmul_sm, ← hX, adj_mmul, smM_sm, det_m3]
      congr 1
      rw [Int.mul_comm]
      exact (Int.tdiv_mul_cancel (Int.dvd_natAbs.mp (by rw [hs]; exact ⟨s, by simp⟩))).symm
    refine mul_dvd (mul_of h1) ?_
    have : ((dtf N).tdiv (g9 (mnr N) 3 : Nat)).natAbs = s := by rw [Int.natAbs_tdiv, hs, Int.natAbs_natCast]; exact Nat.mul_div_cancel_left _ g0
    rw [← this]; exact Int.dvd_natAbs.mpr (Int.dvd_refl _)
  · -- E is a multiple
    obtain ⟨a0, b0, c0, h0⟩ := hE 0 (by decide)
    obtain ⟨a1, b1, c1, h1⟩ := hE 1 (by decide)
    obtain ⟨a2, b2, c2, h2⟩ := hE 2 (by decide)
    have hX : mmul ((a0, b0, c0), (a1, b1, c1), (a2, b2, c2)) (m3 N) = smM E idM := by
      show (lc a0 b0 c0 (m3 N), lc a1 b1 c1 (m3 N), lc a2 b2 c2 (m3 N)) = _
      rw [← h0, ← h1, ← h2]; simp [ev, smM, vsm, idM]
    have h3 : smM (det (m3 N)) ((a0, b0, c0), (a1, b1, c1), (a2, b2, c2)) = smM E (adjM (m3 N)) := by
      have := congrArg (fun Z => mmul Z (adjM (m3 N))) hX
      simp only [mmul_as, mmul_adj, mmul_sm2, mmul_id, mmul_sm, id_mmul] at this
      exact this
    have h4 : dvM (det (m3 N)) (smM E (adjM (m3 N))) := dvM_iff.mpr ⟨_, h3.symm⟩
    have h5 : (dtf N).natAbs ∣ E.natAbs * g9 (mnr N) 3 := by
      rw [m3_adj] at h4
      have h6 : ∀ i j, i < 3 → j < 3 → dtf N ∣ E * mnr N i j := fun i j hi hj => dvM_at (N := fun a b => E * mnr N b a) h4 hj hi
      have h7 : ∀ i j, i < 3 → j < 3 → (dtf N).natAbs / Nat.gcd (dtf N).natAbs E.natAbs ∣ (mnr N i j).natAbs := fun i j hi hj => by
        have h8 := Int.natAbs_dvd_natAbs.mpr (h6 i j hi hj)
        rw [Int.natAbs_mul] at h8
        have gp : 0 < Nat.gcd (dtf N).natAbs E.natAbs := Nat.gcd_pos_of_pos_left _ (by omega)
        obtain ⟨x, hx⟩ := Nat.gcd_dvd_left (dtf N).natAbs E.natAbs
        obtain ⟨y, hy⟩ := Nat.gcd_dvd_right (dtf N).natAbs E.natAbs
        have cop := Nat.coprime_div_gcd_div_gcd gp
        refine Nat.Coprime.dvd_of_dvd_mul_left cop ?_
        refine Nat.dvd_of_mul_dvd_mul_left gp ?_
        rw [Nat.mul_div_cancel' (Nat.gcd_dvd_left _ _), ← Nat.mul_assoc, Nat.mul_div_cancel' (Nat.gcd_dvd_right _ _)]
        exact h8
      have h9 : (dtf N).natAbs / Nat.gcd (dtf N).natAbs E.natAbs ∣ g9 (mnr N) 3 := (g9_dvd 3).mpr (fun i j hi hj => by
        have := h7 i j hi hj
        exact Int.dvd_natAbs.mp (Int.natCast_dvd_natCast.mpr this))
      have h10 := Nat.mul_dvd_mul (Nat.gcd_dvd_right (dtf N).natAbs E.natAbs) h9
      rwa [Nat.mul_div_cancel' (Nat.gcd_dvd_left _ _)] at h10
    rw [hs, Nat.mul_comm] at h5
    have h6 := Nat.dvd_of_mul_dvd_mul_right g0 h5
    exact Int.dvd_natAbs.mp (Int.natCast_dvd_natCast.mpr h6)
