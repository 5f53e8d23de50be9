/-! the component: rows of the meet by rows of the first one -/
set_option maxRecDepth 100000
def ofM (A : M3) : Mi := fun i j => if i = 0 then (if j = 0 then A.1.1 else if j = 1 then A.1.2.1 else A.1.2.2) else if i = 1 then (if j = 0 then A.2.1.1 else if j = 1 then A.2.1.2.1 else A.2.1.2.2) else (if j = 0 then A.2.2.1 else if j = 1 then A.2.2.2.1 else A.2.2.2.2)
theorem m3_ofM (A : M3) : m3 (ofM A) = A := rfl
theorem dvM_eqL {A B : M3} (h : eqL A B) {d : Int} : (dvM d A ↔ dvM d B) ∧ (dvM d (adjM A) ↔ dvM d (adjM B)) := by
  obtain ⟨U, hU⟩ := sub_mmul (fun v => (h v).mp)
  obtain ⟨V, hV⟩ := sub_mmul (fun v => (h v).mpr)
  refine ⟨⟨fun hd => ?_, fun hd => ?_⟩, fun hd => ?_, fun hd => ?_⟩
  · rw [hV]; exact dvM_l hd
  · rw [hU]; exact dvM_l hd
  · rw [hV, adj_mul]; exact dvM_r hd
  · rw [hU, adj_mul]; exact dvM_r hd
theorem smt_eqL {A B : Mi} (h : eqL (m3 A) (m3 B)) (i : Nat) : smt A i = smt B i := by
  have e1 : g9 A 3 = g9 B 3 := Nat.dvd_antisymm (g9_dvM.mpr ((dvM_eqL h).1.mp (g9_dvM.mp (Nat.dvd_refl _)))) (g9_dvM.mpr ((dvM_eqL h).1.mpr (g9_dvM.mp (Nat.dvd_refl _))))
  have e2 : g9 (mnr A) 3 = g9 (mnr B) 3 := Nat.dvd_antisymm (g9m_dvM.mpr ((dvM_eqL h).2.mp (g9m_dvM.mp (Nat.dvd_refl _)))) (g9m_dvM.mpr ((dvM_eqL h).2.mpr (g9m_dvM.mp (Nat.dvd_refl _))))
  have e3 := dtf_eqL h
  unfold smt
  rw [e1, e2, e3]
theorem bdM_div {A : M3} {k : Int} {B C : Nat} (h : bdM C (smM k A)) (hC : C ≤ B * k.natAbs) (hk : k ≠ 0) : bdM B A := by
  have key : ∀ x : Int, (k * x).natAbs ≤ C → x.natAbs ≤ B := fun x hx => by
    rw [Int.natAbs_mul] at hx
    have : k.natAbs * x.natAbs ≤ k.natAbs * B := by rw [Nat.mul_comm k.natAbs B]; omega
    exact Nat.le_of_mul_le_mul_left this (by omega)
  obtain ⟨⟨a1, a2, a3⟩, ⟨a4, a5, a6⟩, ⟨a7, a8, a9⟩⟩ := h
  exact ⟨⟨key _ a1, key _ a2, key _ a3⟩, ⟨key _ a4, key _ a5, key _ a6⟩, ⟨key _ a7, key _ a8, key _ a9⟩⟩
/-- the meet's rows by the first one's: what is known -/
theorem told_X {P Q : Mi} {b : Int} (pq : PQ (m3 P) (m3 Q) b) : ∃ X : M3, mmul X (m3 P) = m3 (mtC P Q) ∧ eqL X (m3 (sF P Q (dQ Q) kB)) ∧ bdM 700000000000 X ∧ bdM 8100000 (adjM X) ∧ 1 ≤ (det X).natAbs ∧ (det X).natAbs ≤ 2160 := by
  obtain ⟨m1, m2, m3', m4, m5, m6, m7, m8, m9, m10, m11⟩ := pq.mt
  have hn := pq.n
  have dP := pq.det_le
  obtain ⟨entP, adjP⟩ := pq.ent
  have zP : det (m3 P) ≠ 0 := by intro e; rw [e] at dP; simp at dP
  -- the meet's sums
  have eT : eqL (m3 (mtC P Q)) (m3 (pmul (sF P Q (dQ Q) kB) P)) := by
    obtain ⟨_, _, _, _, _, _, _, q8, q9, _⟩ := meet_all pq
    obtain ⟨_, _, r3⟩ := meet_run pq (told := tel P Q (dQ Q) 3) (by rw [m6]; exact m7) (by rw [m6]; exact m8) (fun x => by rw [m6]; exact m9 x)
    have e : m3 (pmul (tel P Q (dQ Q) 3) P) = m3 (pmul (sF P Q (dQ Q) kB) P) := by rw [m3_pmul, m3_pmul, m6]
    rw [← m4, ← e]; exact r3.sy
  obtain ⟨U, hU⟩ := sub_mmul (fun v => (eT v).mp)
  rw [m3_pmul, ← mmul_as] at hU
  have eX : eqL (mmul U (m3 (sF P Q (dQ Q) kB))) (m3 (sF P Q (dQ Q) kB)) := fun x => by
    have k1 : ∀ y, inL (mmul U (m3 (sF P Q (dQ Q) kB))) y ↔ inL (m3 (mtC P Q)) (vm y (m3 P)) := fun y => by
      rw [hU]
      constructor
      · intro h
        obtain ⟨v, rfl⟩ := in_vm h
        rw [vm_mmul]; exact vm_in _ _
      · intro h
        obtain ⟨v, hv⟩ := in_vm h
        rw [← vm_mmul] at hv
        have e1 := congrArg (fun z => vm z (adjM (m3 P))) hv
        simp only [vm_mmul, mmul_as, mmul_adj, mmul_sm2, mmul_id, vm_sm, vm_id] at e1
        rw [vsm_inj zP e1]; exact vm_in _ _
    rw [k1, eT, m3_pmul, meet_in m9, m9]
    exact ⟨fun h => h.2, fun h => ⟨vm_in _ _, h⟩⟩
  have hX : mmul (mmul U (m3 (sF P Q (dQ Q) kB))) (m3 P) = m3 (mtC P Q) := hU.symm
  generalize mmul U (m3 (sF P Q (dQ Q) kB)) = X at *
  have dS := H_pos m7
  have dX := eqL_det eX
  have entF : bdM 167961600 (m3 (mtC P Q)) := bdM_of (fun i j hi hj => by have := SF_ent m11 m5 i j hi hj; omega)
  have nn : b * b ≤ 36 * 36 := Int.mul_le_mul hn.2 hn.2 (by omega) (by decide)
  have nn0 : 0 < b * b := Int.mul_pos (by omega) (by omega)
  refine ⟨X, hX, eX, ?_, ?_, by omega, by omega⟩
  · -- X det P = F adj P
    have e1 : smM (det (m3 P)) X = mmul (m3 (mtC P Q)) (adjM (m3 P)) := by
      rw [← hX, mmul_as, mmul_adj, mmul_sm2, mmul_id]
    have b1 := bdM_mul entF (sm3_adj pq.sm)
    rw [← e1] at b1
    obtain ⟨c, c1, c2, c3'⟩ := pq.dtc
    refine bdM_div b1 ?_ zP
    -- |det P| = b^3 c
    have h1 : ((1200 * (b * b)).toNat : Int) = 1200 * (b * b) := Int.toNat_of_nonneg (by omega)
    have h2 : ((3 * (167961600 * (1200 * (b * b)).toNat) : Nat) : Int) ≤ ((700000000000 * (det (m3 P)).natAbs : Nat) : Int) := by
      rw [Int.natCast_mul, Int.natCast_mul, Int.natCast_mul, h1, c3']
      have k1 : b * b * 1 ≤ b * b * (b * c) := Int.mul_le_mul_of_nonneg_left (by have := Int.mul_le_mul hn.1 (show (1 : Int) ≤ c by omega) (by omega) (by omega); omega) (by omega)
      have k2 : b * b * b * (c : Int) = b * b * (b * c) := by grind
      rw [k2]
      generalize b * b * (b * (c : Int)) = z at *
      show (3 : Int) * (167961600 * (1200 * (b * b))) ≤ 700000000000 * z
      omega
    exact Int.ofNat_le.mp h2
  · -- adj X det P = P adj F
    have e1 : smM (det (m3 P)) (adjM X) = mmul (m3 P) (adjM (m3 (mtC P Q))) := by
      rw [← hX, adj_mul, ← mmul_as, mmul_adj, mmul_sm, id_mmul]
    have b1 := bdM_mul entP (H_adj m5.1)
    rw [← e1] at b1
    refine bdM_div b1 ?_ zP
    have e2 : (det (m3 (mtC P Q))).natAbs = (det X).natAbs * (det (m3 P)).natAbs := by rw [← hX, det_mmul, Int.natAbs_mul]
    rw [e2]
    have k1 : (det X).natAbs * (det (m3 P)).natAbs ≤ 2160 * (det (m3 P)).natAbs := Nat.mul_le_mul_right _ (by omega)
    have k2 : 3 * (1247 * ((det X).natAbs * (det (m3 P)).natAbs)) ≤ 3 * (1247 * (2160 * (det (m3 P)).natAbs)) := Nat.mul_le_mul_left _ (Nat.mul_le_mul_left _ k1)
    omega
theorem mlt_dvd {a b c : Int} (ha : 0 < a) (hb : 0 < b) (hac : a ∣ c) (hbc : b ∣ c) (hc : 0 < c) : 0 < mlt a b ∧ mlt a b ∣ c ∧ a ∣ mlt a b ∧ b ∣ mlt a b := by
  have e : mlt a b = (Nat.lcm a.toNat b.toNat : Nat) := by
    have := mlt_ok (a := a.toNat) (b := b.toNat) (by omega) (by omega)
    rwa [show ((a.toNat : Nat) : Int) = a by omega, show ((b.toNat : Nat) : Int) = b by omega] at this
  have da : a.toNat ∣ c.toNat := by
    have := nd_abs (k := a.toNat) (z := c) (by rwa [show ((a.toNat : Nat) : Int) = a by omega])
    rwa [show c.natAbs = c.toNat by omega] at this
  have db : b.toNat ∣ c.toNat := by
    have := nd_abs (k := b.toNat) (z := c) (by rwa [show ((b.toNat : Nat) : Int) = b by omega])
    rwa [show c.natAbs = c.toNat by omega] at this
  have lp : 0 < Nat.lcm a.toNat b.toNat := Nat.lcm_pos (by omega) (by omega)
  have ld := Nat.lcm_dvd da db
  rw [e]
  refine ⟨by omega, ?_, ?_, ?_⟩
  · have := Int.natCast_dvd_natCast.mpr ld
    rwa [show ((c.toNat : Nat) : Int) = c by omega] at this
  · have := Int.natCast_dvd_natCast.mpr (Nat.dvd_lcm_left a.toNat b.toNat)
    rwa [show ((a.toNat : Nat) : Int) = a by omega] at this
  · have := Int.natCast_dvd_natCast.mpr (Nat.dvd_lcm_right a.toNat b.toNat)
    rwa [show ((b.toNat : Nat) : Int) = b by omega] at this
/-- rows over a divisor without what all have in common -/
theorem ls_ok {F : Mi} {o : Int} (ho : 0 < o) : ∃ g : Nat, 0 < g ∧ g = btg F o ∧ m3 F = smM g (m3 (lsG F o)) ∧ o = g * lsO F o ∧ 0 < lsO F o := by
  have gz : btg F o ≠ 0 := btg_nz (by omega)
  have d1 : btg F o ∣ g9 F 3 := by unfold btg; rw [Int.gcd_eq_natAbs_gcd_natAbs, Int.natAbs_natCast]; exact Nat.gcd_dvd_left _ _
  have d2 : ((btg F o : Nat) : Int) ∣ o := Int.gcd_dvd_right ..
  have k := (g9_dvd 3).mp d1
  have e : ∀ i j, i < 3 → j < 3 → F i j = (btg F o : Int) * lsG F o i j := fun i j hi hj => (Int.mul_tdiv_cancel' (k i j hi hj)).symm
  have eo : o = (btg F o : Int) * lsO F o := (Int.mul_tdiv_cancel' d2).symm
  refine ⟨btg F o, by omega, rfl, ?_, eo, ?_⟩
  · unfold m3 smM vsm
    simp only [Prod.mk.injEq]
    refine ⟨⟨e 0 0 (by decide) (by decide), e 0 1 (by decide) (by decide), e 0 2 (by decide) (by decide)⟩, ⟨e 1 0 (by decide) (by decide), e 1 1 (by decide) (by decide), e 1 2 (by decide) (by decide)⟩, e 2 0 (by decide) (by decide), e 2 1 (by decide) (by decide), e 2 2 (by decide) (by decide)⟩
  · rcases Int.lt_or_le 0 (lsO F o) with h | h
    · exact h
    · have := Int.mul_nonpos_of_nonneg_of_nonpos (show (0 : Int) ≤ (btg F o : Int) by omega) h
      omega
theorem btw_dvd {n1 n2 : Int} : n1 ∣ btw n1 n2 ∧ n2 ∣ btw n1 n2 := by
  unfold btw
  have e1 : ((Int.gcd n1 n2 : Nat) : Int) ∣ n2 := Int.gcd_dvd_right ..
  have e0 : ((Int.gcd n1 n2 : Nat) : Int) ∣ n1 := Int.gcd_dvd_left ..
  refine ⟨?_, ⟨n1.tdiv (Int.gcd n1 n2), Int.mul_comm _ _⟩⟩
  obtain ⟨c, hc⟩ := e1
  refine ⟨c, ?_⟩
  generalize ((Int.gcd n1 n2 : Nat) : Int) = g at *
  rw [hc, ← Int.mul_assoc, Int.tdiv_mul_cancel e0]
/-- the division that tells leaves no rest -/
theorem told_div {P Q M1 : Mi} {b n1 : Int} (pq : PQ (m3 P) (m3 Q) b) (hn1 : 0 < n1) (hd : n1 ∣ b) (eP : P = mscl (b.tdiv n1) M1) : ∃ X : Mi, mmul (m3 X) (m3 P) = m3 (mtC P Q) ∧ eqL (m3 X) (m3 (sF P Q (dQ Q) kB)) ∧ smO X ∧ bdM 8100000 (adjM (m3 X)) ∧ 1 ≤ (dtf X).natAbs ∧ (dtf X).natAbs ≤ 2160 ∧ 0 < lsO (mtC P Q) b ∧ lsO (mtC P Q) b ≤ b ∧ 0 < mlt (lsO (mtC P Q) b) n1 ∧ mlt (lsO (mtC P Q) b) n1 ≤ b ∧ lsO (mtC P Q) b ∣ mlt (lsO (mtC P Q) b) n1 ∧ n1 ∣ mlt (lsO (mtC P Q) b) n1 ∧ (dtf (mscl ((mlt (lsO (mtC P Q) b) n1).tdiv n1) M1)).natAbs ≤ 2799360 ∧ dtf (mscl ((mlt (lsO (mtC P Q) b) n1).tdiv n1) M1) ≠ 0 ∧ ∀ i j, i < 3 → j < 3 → pmul (mscl ((mlt (lsO (mtC P Q) b) n1).tdiv (lsO (mtC P Q) b)) (lsG (mtC P Q) b)) (fun i j => mnr (mscl ((mlt (lsO (mtC P Q) b) n1).tdiv n1) M1) j i) i j = dtf (mscl ((mlt (lsO (mtC P Q) b) n1).tdiv n1) M1) * X i j := by
  obtain ⟨X, x1, x2, x3, x4, x5, x6⟩ := told_X pq
  have hb := pq.n
  have dP := pq.det_le
  have zP : det (m3 P) ≠ 0 := by intro e; rw [e] at dP; simp at dP
  obtain ⟨g, g0, g1, g2, g3, g4⟩ := ls_ok (F := mtC P Q) (o := b) (by omega)
  generalize hmo : lsO (mtC P Q) b = mo at *
  generalize hG : lsG (mtC P Q) b = G at *
  have dmo : mo ∣ b := ⟨g, by rw [g3, Int.mul_comm]⟩
  obtain ⟨o1, o2, o3, o4⟩ := mlt_dvd g4 hn1 dmo hd (by omega)
  generalize hov : mlt mo n1 = ov at *
  have ovb := Int.le_of_dvd (by omega) o2
  obtain ⟨k, hk⟩ := o3
  obtain ⟨k1, hk1⟩ := o4
  obtain ⟨c, hc⟩ := hd
  have tk : ov.tdiv mo = k := by rw [hk]; exact Int.mul_tdiv_cancel_left _ (by omega)
  have tk1 : ov.tdiv n1 = k1 := by rw [hk1]; exact Int.mul_tdiv_cancel_left _ (by omega)
  have tc' : b.tdiv n1 = c := by rw [hc]; exact Int.mul_tdiv_cancel_left _ (by omega)
  rw [tc'] at eP
  rw [tk, tk1]
  -- g k1 = k c
  have ek : (g : Int) * k1 = k * c := by
    have h1 : n1 * mo * ((g : Int) * k1) = n1 * mo * (k * c) := by
      have a1 : n1 * mo * ((g : Int) * k1) = (g * mo) * (n1 * k1) := by grind
      have a2 : n1 * mo * (k * c) = (mo * k) * (n1 * c) := by grind
      rw [a1, a2, ← g3, ← hk1, ← hk, ← hc, Int.mul_comm]
    exact Int.eq_of_mul_eq_mul_left (by have := Int.mul_pos hn1 g4; omega) h1
  -- X one = k G
  have eXo : mmul X (smM k1 (m3 M1)) = smM k (m3 G) := by
    refine smM_inj (show (g : Int) ≠ 0 by omega) ?_
    rw [smM_sm, Int.mul_comm (g : Int) k, ← smM_sm, ← g2, ← x1, eP, m3_mscl, mmul_sm2, mmul_sm2, smM_sm, smM_sm, ek]
  have eone : m3 (mscl k1 M1) = smM k1 (m3 M1) := rfl
  have main : mmul (smM k (m3 G)) (adjM (m3 (mscl k1 M1))) = smM (dtf (mscl k1 M1)) X := by
    rw [← eXo, eone, mmul_as, mmul_adj, mmul_sm2, mmul_id, ← eone, det_m3]
  -- its determinant
  have dk : (dtf (mscl k1 M1)).natAbs ≤ (det (m3 P)).natAbs := by
    rw [← det_m3, eone, det_sm, eP, m3_mscl, det_sm, Int.natAbs_mul (k1 * k1 * k1), Int.natAbs_mul (c * c * c)]
    refine Nat.mul_le_mul_right _ ?_
    have kp : 0 < k1 := by
      rcases Int.lt_or_le 0 k1 with h | h
      · exact h
      · have := Int.mul_nonpos_of_nonneg_of_nonpos (show (0 : Int) ≤ n1 by omega) h; omega
    have kc : k1 ≤ c := by
      have : n1 * k1 ≤ n1 * c := by rw [← hk1, ← hc]; exact ovb
      exact Int.le_of_mul_le_mul_left this hn1
    have q1 : k1 * k1 ≤ c * c := Int.mul_le_mul kc kc (by omega) (by omega)
    have q2 : k1 * k1 * k1 ≤ c * c * c := Int.mul_le_mul q1 kc (by omega) (by have := Int.mul_pos (show 0 < c by omega) (show 0 < c by omega); omega)
    have q3 := Int.mul_pos (Int.mul_pos kp kp) kp
    omega
  have dz : dtf (mscl k1 M1) ≠ 0 := by
    intro e
    rw [← det_m3, eone, det_sm] at e
    have : det (m3 P) = 0 ∨ k1 = 0 := by
      rcases Int.mul_eq_zero.mp e with h | h
      · right
        rcases Int.mul_eq_zero.mp h with h | h
        · rcases Int.mul_eq_zero.mp h with h | h <;> exact h
        · exact h
      · left; rw [eP, m3_mscl, det_sm, h]; simp
    rcases this with h | h
    · exact zP h
    · rw [h] at hk1; omega
  refine ⟨ofM X, x1, x2, ?_, x4, by rw [← det_m3, m3_ofM]; exact x5, by rw [← det_m3, m3_ofM]; exact x6, g4, Int.le_of_dvd (by omega) dmo, o1, ovb, ⟨k, hk⟩, ⟨k1, hk1⟩, by omega, dz, fun i j hi hj => ?_⟩
  · have dn : dtf (ofM X) ≠ 0 := by rw [← det_m3, m3_ofM]; intro e; rw [e] at x5; simp at x5
    obtain ⟨z1, z2⟩ := g9_nz dn
    refine ⟨fun i j hi hj => by have := bdM_at (N := ofM X) x3 hi hj; omega, fun i j hi hj => by have := bd_mnr (N := ofM X) x4 hi hj; omega, rg_nat.mpr (by rw [← det_m3, m3_ofM]; omega), z1, z2⟩
  · have e : m3 (pmul (mscl k G) (fun i j => mnr (mscl k1 M1) j i)) = m3 (mscl (dtf (mscl k1 M1)) (ofM X)) := by
      rw [m3_pmul, ← m3_adj, m3_mscl k G, main]; rfl
    exact m3_at e i j hi hj
