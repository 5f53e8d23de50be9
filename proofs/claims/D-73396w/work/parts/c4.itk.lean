/-! the form of both, by a turn: the plain law -/
set_option maxRecDepth 100000
theorem itk_ok {m : Int} {A B : Mi} {ov : Int} (hm : 0 < m) (hM : m ≤ 2 ^ 31) (hA : ∀ i j, i < 3 → j < 3 → rg (ov * A i j)) (hB : ∀ i j, i < 3 → j < 3 → rg (B i j)) {J : M3} (hJ0 : ∀ j, j < 3 → inL J (ev m j)) (hJA : ∀ i, i < 3 → inL J (v3 (fun j => ov * A i j))) (hJB : ∀ i, i < 3 → inL J (v3 (fun j => B i j))) : ∀ i, i ≤ 3 → SF m (itk m kB A B ov i) ∧ (∀ w, inL (m3 (itk m kB A B ov i)) w → inL J w) ∧ (∀ c, c < i → inL (m3 (itk m kB A B ov i)) (v3 (fun j => ov * A c j)) ∧ inL (m3 (itk m kB A B ov i)) (v3 (fun j => B c j))) ∧ ∀ c, c < i → tkOk m kB (itk m kB A B ov c) (fun j => ov * A c j) ∧ tkOk m kB (tkF m kB (itk m kB A B ov c) (fun j => ov * A c j)) (fun j => B c j)
  | 0, _ => ⟨SF_dgm hm, fun w hw => inL_dgm hJ0 hw, fun c hc => by omega, fun c hc => by omega⟩
  | i + 1, hi => by
    obtain ⟨s1, s2, s3, s4⟩ := itk_ok (J := J) hm hM hA hB hJ0 hJA hJB i (by omega)
    obtain ⟨t1, t2, t3⟩ := tk_ok (k := kB) hm hM s1 (fun j hj => hA i j (by omega) hj) (by decide)
    obtain ⟨r1, r2, r3⟩ := tk_ok (k := kB) hm hM t2 (fun j hj => hB i j (by omega) hj) (by decide)
    have xJ : ∀ {F : Mi} {v : Nat → Int}, (∀ w, inL (m3 F) w → inL J w) → inL J (v3 v) → ∀ w, inX F v w → inL J w := fun {F v} hF hv w ⟨t, ht⟩ => by
      have h1 := inL_add (hF _ ht) (inL_sm (-t) hv)
      have e : vad (vad w (vsm t (v3 v))) (vsm (-t) (v3 v)) = w := by simp only [vad, vsm]; ext <;> grind
      rwa [e] at h1
    refine ⟨r2, fun w hw => xJ (fun w hw => xJ s2 (hJA i (by omega)) w ((t3 w).mp hw)) (hJB i (by omega)) w ((r3 w).mp hw), fun c hc => ?_, fun c hc => ?_⟩
    · by_cases e : c = i
      · subst e
        exact ⟨(r3 _).mpr (inX_in ((t3 _).mpr inX_v)), (r3 _).mpr inX_v⟩
      · obtain ⟨a, b⟩ := s3 c (by omega)
        exact ⟨(r3 _).mpr (inX_in ((t3 _).mpr (inX_in a))), (r3 _).mpr (inX_in ((t3 _).mpr (inX_in b)))⟩
    · by_cases e : c = i
      · subst e; exact ⟨t1, r1⟩
      · exact s4 c (by omega)
/-- the number: over^3 * volume = index * volume of both -/
theorem itk_law {A : Mi} (hA : LA (m3 A)) {c : Nat} (hc : c < 256) (h1 : 1 ≤ c) : 0 < ovQ (qc c) * ((dtf A).natAbs : Int) ∧ ovQ (qc c) * ((dtf A).natAbs : Int) ≤ 2160 ∧ SF (ovQ (qc c) * ((dtf A).natAbs : Int)) (itk (ovQ (qc c) * ((dtf A).natAbs : Int)) kB A (tnP A (byM (qc c))) (ovQ (qc c)) 3) ∧ (∀ i, i < 3 → tkOk (ovQ (qc c) * ((dtf A).natAbs : Int)) kB (itk (ovQ (qc c) * ((dtf A).natAbs : Int)) kB A (tnP A (byM (qc c))) (ovQ (qc c)) i) (fun j => ovQ (qc c) * A i j) ∧ tkOk (ovQ (qc c) * ((dtf A).natAbs : Int)) kB (tkF (ovQ (qc c) * ((dtf A).natAbs : Int)) kB (itk (ovQ (qc c) * ((dtf A).natAbs : Int)) kB A (tnP A (byM (qc c))) (ovQ (qc c)) i) (fun j => ovQ (qc c) * A i j)) (fun j => tnP A (byM (qc c)) i j)) ∧ ovQ (qc c) * ovQ (qc c) * ovQ (qc c) * ((dtf A).natAbs : Int) = (tIx A c : Int) * dtf (itk (ovQ (qc c) * ((dtf A).natAbs : Int)) kB A (tnP A (byM (qc c))) (ovQ (qc c)) 3) ∧ 0 < dtf (itk (ovQ (qc c) * ((dtf A).natAbs : Int)) kB A (tnP A (byM (qc c))) (ovQ (qc c)) 3) := by
  obtain ⟨o0, o36⟩ := qc_ok c hc h1
  unfold tIx
  generalize qc c = q at *
  have te := tn_ent hA o0 o36
  obtain ⟨lq, g0⟩ := trn_LQ hA o0 o36
  have LO2 := trn_Ok hA o0 o36
  have LO1 : LatOk A 1 false := ⟨⟨_, _, _, _, LQ_own hA⟩, fun _ => ⟨rfl, hA⟩⟩
  obtain ⟨pq, _⟩ := pairPQ LO1 LO2 (fun h => by cases h.1)
  have n2 := LO2.n
  rw [btw_1l, Int.tdiv_one, Int.tdiv_self (by omega)] at pq
  have m1e : m3 (mscl 1 (trnM A q)) = m3 (trnM A q) := by rw [m3_mscl, smM_1]
  rw [m1e] at pq
  obtain ⟨jn1, jn2, _, jn4⟩ := pq.jn
  obtain ⟨Qx, pqx⟩ := LO1.pq
  obtain ⟨entA, _⟩ := pqx.ent
  have dA1 := hA.2.2.2.1
  have dA2 := hA.2.2.2.2
  rw [det_m3] at dA1 dA2
  have go : ((lsd (tnP A (byM q)) (ovQ q) : Nat) : Int) * trnO A q = ovQ q := lq.2.2.1
  have eT : smM ((lsd (tnP A (byM q)) (ovQ q) : Nat) : Int) (m3 (trnM A q)) = m3 (tnP A (byM q)) := by rw [tnP_m3]; exact lq.2.2.2.2.1
  have dQ' := LQ_det lq
  rw [det_m3, det_m3] at dQ'
  generalize hg : lsd (tnP A (byM q)) (ovQ q) = g at *
  generalize hn : trnO A q = n at *
  generalize hM2 : trnM A q = M2 at *
  generalize hB : tnP A (byM q) = B at *
  generalize hv : ovQ q = ov at *
  have m0 : 0 < ov * ((dtf A).natAbs : Int) := Int.mul_pos o0 (by omega)
  have mle : ov * ((dtf A).natAbs : Int) ≤ 36 * 60 := Int.mul_le_mul o36 (by omega) (by omega) (by omega)
  -- the lattice of both, by g
  have inS : ∀ {k : Int} {X : M3} {w : V3}, inL X w → inL (smM k X) (vsm k w) := fun {k X w} h => by
    obtain ⟨y, rfl⟩ := in_vm h
    rw [← vm_sm]; exact vm_in _ _
  have Sin : ∀ {k : Int} {X : M3} {w : V3}, inL (smM k X) w → ∃ w', inL X w' ∧ w = vsm k w' := fun {k X w} h => by
    obtain ⟨y, rfl⟩ := in_vm h
    rw [vm_sm]; exact ⟨_, vm_in _ _, rfl⟩
  have hP : ∀ w, inL (smM ov (m3 A)) w → inL (smM (g : Int) (m3 (jnF' (mscl n A) M2))) w := fun w hw => by
    have e : smM ov (m3 A) = smM (g : Int) (m3 (mscl n A)) := by rw [m3_mscl, smM_sm, go]
    rw [e] at hw
    obtain ⟨w', a1, rfl⟩ := Sin hw
    exact inS ((jn4 _).mpr (inY_l a1))
  have hBt : ∀ w, inL (m3 B) w → inL (smM (g : Int) (m3 (jnF' (mscl n A) M2))) w := fun w hw => by
    rw [← eT] at hw
    obtain ⟨w', a1, rfl⟩ := Sin hw
    exact inS ((jn4 _).mpr (inY_r a1))
  have rA : ∀ i, i < 3 → inL (smM ov (m3 A)) (v3 (fun j => ov * A i j)) := fun i hi => by
    rw [← m3_mscl]
    rcases c3 hi with rfl | rfl | rfl
    · exact inL_0 (m3 (mscl ov A))
    · exact inL_1 (m3 (mscl ov A))
    · exact inL_2 (m3 (mscl ov A))
  have rB : ∀ i, i < 3 → inL (m3 B) (v3 (fun j => B i j)) := fun i hi => by
    rcases c3 hi with rfl | rfl | rfl
    · exact inL_0 (m3 B)
    · exact inL_1 (m3 B)
    · exact inL_2 (m3 B)
  have mm : mul_in (ov * ((dtf A).natAbs : Int)) (smM ov (m3 A)) := mul_sm (mul_dvd (mul_adj (m3 A)) (by rw [det_m3]; exact Int.dvd_natAbs.mpr (Int.dvd_refl _)))
  obtain ⟨s1, s2, s3, s4⟩ := itk_ok (m := ov * ((dtf A).natAbs : Int)) (A := A) (B := B) (ov := ov) (J := smM (g : Int) (m3 (jnF' (mscl n A) M2))) m0 (by omega) (fun i j hi hj => rg_nat.mpr (by
    have := bdM_at entA hi hj
    rw [Int.natAbs_mul]
    exact Nat.lt_of_le_of_lt (Nat.mul_le_mul (show ov.natAbs ≤ 36 by omega) this) (by decide))) (fun i j hi hj => rg_nat.mpr (by have := te i j hi hj; omega)) (fun j hj => hP _ (mm j hj)) (fun i hi => hP _ (rA i hi)) (fun i hi => hBt _ (rB i hi)) 3 (by omega)
  generalize hI : itk (ov * ((dtf A).natAbs : Int)) kB A B ov 3 = I at *
  have eq : eqL (m3 I) (smM (g : Int) (m3 (jnF' (mscl n A) M2))) := fun w => ⟨s2 w, fun hw => by
    obtain ⟨w', a1, rfl⟩ := Sin hw
    obtain ⟨y, z, b1, b2, rfl⟩ := (jn4 w').mp a1
    have y1 : inL (m3 I) (vsm g y) := by
      have h2 : inL (smM ov (m3 A)) (vsm g y) := by
        have e : smM ov (m3 A) = smM (g : Int) (m3 (mscl n A)) := by rw [m3_mscl, smM_sm, go]
        rw [e]; exact inS b1
      exact inL_lc (N := smM ov (m3 A)) (s3 0 (by decide)).1 (s3 1 (by decide)).1 (s3 2 (by decide)).1 h2
    have y2 : inL (m3 I) (vsm g z) := by
      have h2 : inL (m3 B) (vsm g z) := by rw [← eT]; exact inS b2
      exact inL_lc (N := m3 B) (s3 0 (by decide)).2 (s3 1 (by decide)).2 (s3 2 (by decide)).2 h2
    have := inL_add y1 y2
    have e : vad (vsm g y) (vsm g z) = vsm g (vad y z) := by simp only [vad, vsm]; ext <;> grind
    rwa [e] at this⟩
  have dI := eqL_det eq
  have pI := H_pos s1.1
  rw [det_m3] at dI pI
  have zQ := pq.sw.nz
  have dq := pq.sw.det_le
  rw [det_m3] at dq
  have bN := bdM_mul pq.ent.1 pq.sw.ent.2
  rw [← m3_nN] at bN
  obtain ⟨_, _, _, _, _, last⟩ := sums_ok (P := mscl n A) (Q := M2) zQ (by omega) (fun i j hi hj => rg_nat.mpr (by have := bdM_at bN hi hj; omega))
  have lst := last (m3 (jnF' (mscl n A) M2)) jn4
  rw [det_m3] at lst
  refine ⟨m0, by omega, s1, s4, ?_, by omega⟩
  have eI : dtf I = ((dtf I).natAbs : Int) := by omega
  rw [eI, dI, det_sm]
  have D : (((dtf (sF (mscl n A) M2 (dtf M2).natAbs kB)).natAbs * (det (m3 (jnF' (mscl n A) M2))).natAbs : Nat) : Int) = ((dtf M2).natAbs : Nat) := by rw [lst]
  have dM2 : ((dtf M2).natAbs : Int) = n * n * n * ((dtf A).natAbs : Int) := by
    rw [dQ', Int.natAbs_mul, Int.natAbs_mul, Int.natAbs_mul]
    have : (n.natAbs : Int) = n := by omega
    simp only [Int.natCast_mul, this]
  simp only [Int.natAbs_mul, Int.natCast_mul, Int.natAbs_natCast] at D ⊢
  show _ = ((dtf (sF (mscl n A) M2 (dtf M2).natAbs kB)).natAbs : Int) * _
  generalize ((dtf (sF (mscl n A) M2 (dtf M2).natAbs kB)).natAbs : Int) = d at D ⊢
  rw [dM2] at D
  generalize ((det (m3 (jnF' (mscl n A) M2))).natAbs : Int) = e at D ⊢
  generalize ((dtf A).natAbs : Int) = a at D ⊢
  rw [← go]
  calc (g : Int) * n * (g * n) * (g * n) * a = (g * g * g) * (n * n * n * a) := by grind
    _ = (g * g * g) * (d * e) := by rw [D]
    _ = d * (g * g * g * e) := by grind
