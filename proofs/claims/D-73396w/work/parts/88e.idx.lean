set_option maxRecDepth 100000
/-! how many times fewer points both have -/
def dvM (d : Int) (A : M3) : Prop := dv3 d A.1 ∧ dv3 d A.2.1 ∧ dv3 d A.2.2
theorem dv3_sm {d : Int} {v : V3} (k : Int) (h : dv3 d v) : dv3 d (vsm k v) := ⟨Int.dvd_trans h.1 (Int.dvd_mul_left _ _), Int.dvd_trans h.2.1 (Int.dvd_mul_left _ _), Int.dvd_trans h.2.2 (Int.dvd_mul_left _ _)⟩
theorem dv3_lc {d : Int} {M : M3} (h : dvM d M) (a b c : Int) : dv3 d (lc a b c M) := by
  have := dv3_add (dv3_add (dv3_sm a h.1) (dv3_sm b h.2.1)) (dv3_sm c h.2.2)
  exact this
theorem dvM_l {d : Int} {A B : M3} (h : dvM d B) : dvM d (mmul A B) := ⟨dv3_lc h _ _ _, dv3_lc h _ _ _, dv3_lc h _ _ _⟩
theorem dvM_tr {d : Int} {A : M3} (h : dvM d A) : dvM d (trM A) := ⟨⟨h.1.1, h.2.1.1, h.2.2.1⟩, ⟨h.1.2.1, h.2.1.2.1, h.2.2.2.1⟩, ⟨h.1.2.2, h.2.1.2.2, h.2.2.2.2⟩⟩
theorem dvM_r {d : Int} {A B : M3} (h : dvM d A) : dvM d (mmul A B) := by
  have h1 : dvM d (trM (mmul A B)) := by rw [tr_mmul]; exact dvM_l (dvM_tr h)
  exact dvM_tr h1
def tc (A : M3) : Int := A.1.1 + A.2.1.2.1 + A.2.2.2.2
theorem dv_tc {d : Int} {A : M3} (h : dvM d A) : d ∣ tc A := Int.dvd_add (Int.dvd_add h.1.1 h.2.1.2.1) h.2.2.2.2
def adM (A B : M3) : M3 := (vad A.1 B.1, vad A.2.1 B.2.1, vad A.2.2 B.2.2)
theorem det_adM (X B : M3) (m : Int) : det (adM X (smM m B)) = det X + tc (mmul B (smM m (adjM X))) + tc (mmul (smM (m * m) X) (adjM B)) + m * m * m * det B := by
  simp only [det, dt, adM, smM, vad, vsm, tc, mmul, lc, adjM]
  grind
theorem dvA_all {d m : Int} {F N : M3} (h : dvA d m N) (hL : ∀ w, inL F w → inY (m3 (dgm m)) N w) : d ∣ det F := by
  obtain ⟨h1, h2, h3, h4⟩ := h
  have row : ∀ w, inL F w → ∃ b v, w = vad (vm v N) (vsm m b) := fun w hw => by
    obtain ⟨u, v, ⟨x, y, z, hu⟩, hv, rfl⟩ := hL w hw
    obtain ⟨v', rfl⟩ := in_vm hv
    refine ⟨(x, y, z), v', ?_⟩
    rw [hu]
    simp [vad, vsm, lc, m3, dgm]
    refine ⟨?_, ?_, ?_⟩ <;> grind
  obtain ⟨b0, v0, e0⟩ := row _ (inL_0 F)
  obtain ⟨b1, v1, e1⟩ := row _ (inL_1 F)
  obtain ⟨b2, v2, e2⟩ := row _ (inL_2 F)
  have eF : F = adM (mmul (v0, v1, v2) N) (smM m (b0, b1, b2)) := by
    obtain ⟨f0, f1, f2⟩ := F
    simp only at e0 e1 e2
    subst e0 e1 e2
    rfl
  have hA : dvM d (smM m (adjM N)) := ⟨h2 _ (.inl rfl), h2 _ (.inr (.inl rfl)), h2 _ (.inr (.inr rfl))⟩
  have hN : dvM d (smM (m * m) N) := ⟨h3 _ (.inl rfl), h3 _ (.inr (.inl rfl)), h3 _ (.inr (.inr rfl))⟩
  rw [eF, det_adM]
  refine Int.dvd_add (Int.dvd_add (Int.dvd_add ?_ (dv_tc (dvM_l ?_))) (dv_tc (dvM_r ?_))) (Int.dvd_trans h4 (Int.dvd_mul_right _ _))
  · rw [det_mmul]; exact Int.dvd_trans h1 (Int.dvd_mul_left _ _)
  · rw [adj_mul, ← mmul_sm]; exact dvM_r hA
  · rw [← mmul_sm2]; exact dvM_l hN
theorem abs_dvd {a b : Int} (h1 : a ∣ b) (h2 : b ∣ a) : a.natAbs = b.natAbs := Nat.dvd_antisymm (Int.natAbs_dvd_natAbs.mpr h1) (Int.natAbs_dvd_natAbs.mpr h2)
theorem col_row {m : Int} {F G N : M3} (hF : ∀ w, inL F w ↔ inY (m3 (dgm m)) (trM N) w) (hG : ∀ w, inL G w ↔ inY (m3 (dgm m)) N w) : (det F).natAbs = (det G).natAbs := by
  refine abs_dvd ?_ ?_
  · have := dvA_tr (dvA_det hF); rw [tr_tr] at this
    exact dvA_all this (fun w h => (hG w).mp h)
  · exact dvA_all (dvA_tr (dvA_det hG)) (fun w h => (hF w).mp h)
theorem in_adj {J P Q : M3} (hJ : ∀ w, inL J w ↔ inY P Q w) (w : V3) : inL (mmul J (adjM Q)) w ↔ inY (m3 (dgm (det Q))) (mmul P (adjM Q)) w := by
  have eI : ∀ y, vm y (smM (det Q) idM) = vm y (m3 (dgm (det Q))) := fun y => by simp [vm, lc, smM, vsm, idM, m3, dgm]
  constructor
  · intro h
    obtain ⟨v, rfl⟩ := in_vm h
    rw [← vm_mmul]
    obtain ⟨u, z, hu, hz, e⟩ := (hJ _).mp (vm_in v J)
    obtain ⟨a, rfl⟩ := in_vm hu
    obtain ⟨b, rfl⟩ := in_vm hz
    rw [e, vm_vad, vm_mmul, vm_mmul, mmul_adj, eI]
    exact ⟨_, _, vm_in b _, vm_in a _, by simp only [vad, Prod.mk.injEq]; refine ⟨?_, ?_, ?_⟩ <;> omega⟩
  · rintro ⟨u, z, hu, hz, rfl⟩
    obtain ⟨b, rfl⟩ := in_vm hu
    obtain ⟨a, rfl⟩ := in_vm hz
    have h1 : inL J (vad (vm b Q) (vm a P)) := inL_add ((hJ _).mpr (inY_r (vm_in b Q))) ((hJ _).mpr (inY_l (vm_in a P)))
    obtain ⟨c, hc⟩ := in_vm h1
    have e : vad (vm b (m3 (dgm (det Q)))) (vm a (mmul P (adjM Q))) = vm c (mmul J (adjM Q)) := by
      rw [← vm_mmul c, ← hc, vm_vad, vm_mmul, vm_mmul, mmul_adj, eI]
    rw [e]; exact vm_in _ _
theorem dgm_neg {m : Int} {w : V3} : inL (m3 (dgm m)) w ↔ inL (m3 (dgm (-m))) w := by
  constructor
  · rintro ⟨x, y, z, rfl⟩; exact ⟨-x, -y, -z, by simp [lc, m3, dgm, Int.neg_mul, Int.mul_neg]⟩
  · rintro ⟨x, y, z, rfl⟩; exact ⟨-x, -y, -z, by simp [lc, m3, dgm, Int.neg_mul, Int.mul_neg]⟩
theorem dgm_abs {m : Int} {B : M3} {w : V3} : inY (m3 (dgm m)) B w ↔ inY (m3 (dgm m.natAbs)) B w := by
  rcases Int.natAbs_eq m with h | h
  · rw [← h]
  · constructor
    · rintro ⟨u, v, hu, hv, e⟩; refine ⟨u, v, ?_, hv, e⟩; rw [dgm_neg, ← h]; exact hu
    · rintro ⟨u, v, hu, hv, e⟩; refine ⟨u, v, ?_, hv, e⟩; rw [h, ← dgm_neg]; exact hu
theorem dv3_abs {m : Int} {v : V3} : dv3 m v ↔ dv3 (m.natAbs : Int) v := by
  unfold dv3; simp only [Int.natAbs_dvd]
/-- what is left by H of the first one's rows; J holds both -/
theorem idx_thm {P Q H J F K : M3} (hQ : det Q ≠ 0) (hK : mmul K F = smM (det Q).natAbs idM) (hF : ∀ w, inL F w ↔ inY (m3 (dgm (det Q).natAbs)) (trM (mmul P (adjM Q))) w) (hH : ∀ x, inL H x ↔ inL Q (vm x P)) (hJ : ∀ w, inL J w ↔ inY P Q w) : (det H).natAbs * (det J).natAbs = (det Q).natAbs := by
  generalize hm : (det Q).natAbs = m at *
  have mpos : 0 < m := by omega
  have h1 : (det K).natAbs * (det F).natAbs = m * m * m := by
    have := congrArg (fun Z => (det Z).natAbs) hK
    simp only [det_mmul, det_sm, det_id, Int.natAbs_mul, Int.natAbs_natCast] at this
    simpa using this
  have hF0 : det F ≠ 0 := by
    intro e; rw [e] at h1
    have : 0 < m * m * m := Nat.mul_pos (Nat.mul_pos mpos mpos) mpos
    simp at h1; omega
  have h2 : (det H).natAbs = (det K).natAbs := by
    rw [← det_tr K]
    refine eqL_det (fun x => ?_)
    rw [hH, in_other hQ, dv3_abs, hm]
    exact (dual_in hF0 (by omega) hK hF x).symm
  have h3 : (det F).natAbs = (det (mmul J (adjM Q))).natAbs := col_row hF (fun w => by rw [in_adj hJ, dgm_abs, hm])
  rw [det_mmul, det_adj, Int.natAbs_mul, Int.natAbs_mul, hm] at h3
  rw [h3, ← h2] at h1
  have h4 : (m * m) * ((det H).natAbs * (det J).natAbs) = (m * m) * m := by rw [← h1]; grind
  exact Nat.eq_of_mul_eq_mul_left (Nat.mul_pos mpos mpos) h4
