/-! areas: both -/
set_option maxRecDepth 100000
/-- a lattice's short rows crossed -/
theorem X3_crossShort {f : Nat} (hf : 2 ^ 63 ≤ f) {u : TS} {H : Mi} (hs : shOk H) (hz : dtf H ≠ 0) (hR : tR 18 u (rdN H)) {a b c : Int32} {p : Nat → Int32} (e0 : p 0 = a) (e1 : p 1 = b) (e2 : p 2 = c) (hp : isPl a b c = true) : ∃ (u' : TS) (e D : Int) (c' : Nat → Int), m_X3_crosses f u a b c = some u' ∧ (∀ j, j < 3 → tB u' 38 j = li (c' j)) ∧ (∀ j, j < 3 → e * c' j = D * (p j).toInt) ∧ D.natAbs = (dtf H).natAbs ∧ e.natAbs = gp H p ∧ Fr [18, 38, 39] u u' := by
  obtain ⟨pb, pz⟩ := isPl_ok hp e0 e1 e2
  obtain ⟨r1, ⟨B, r2, r3⟩, _⟩ := rdN_ok hs
  have ent := RB_30 r3 r2
  have dz : dtf (rdN H) ≠ 0 := by have := dtf_eqL r1; omega
  obtain ⟨u', e, c', x1, x2, x3, x4, x5, x6⟩ := X3_crosses (f := f) hf hR (p := p) (fun i hi => Nat.lt_of_le_of_lt (acr_le (N := rdN H) ent pb hi) (by decide)) (acr_nz dz pz)
  rw [e0, e1, e2] at x1
  refine ⟨u', e, dtf (rdN H), c', x1, x2, x3, (dtf_eqL r1).symm, ?_, x6⟩
  rw [gp_e x5, ← gp_eqL r1]
theorem q_area {f : Nat} (hf : 2 ^ 63 ≤ f) {h : CH} {x PL : Nat} {u : TS} {LS : LSt} (E : QE h x u LS) (P : QP h x PL LS) (l a b c d : Int32) : QM (· = PL) (m_X0_area f h x l a b c d) (m_X3_area f u l a b c d) h u := by
  obtain ⟨w, kf0, C, T, L⟩ := E
  unfold m_X0_area m_X3_area m_X0_area_5
  rw [gd_of C.isC, X0_isLattice C, bd2_some, X3_isLattice T, bd2_some, X3_isPlane, in3_li d (a := 1) (hi := 1) rfl rg_1]
  cases h1 : isLI LS l with
  | false => exact QM.mk (l := []) rfl rfl (Mod.rf w) (by omega) (by omega) Fr.rf (by decide) (fun q hq => by have e : q = PL := hq; rw [e]; exact P.2.1)
  | true =>
    obtain ⟨hp1, p, i1, i2, i3, i4, i5, i6⟩ := X0_isPlane (f := f) P w a b c
    rw [ift1, ift1, gd_of C.isC, i1, bd2_some, bd_some]
    obtain ⟨P1, C1⟩ := P.md i2 w kf0.kok i3
    unfold m_X0_area_16
    rw [X0_isPart]
    cases h2 : isPl a b c with
    | false => exact QM.mk (l := []) rfl rfl i2 (by omega) (by omega) Fr.rf (by decide) (fun q hq => by have e : q = PL := hq; rw [e]; exact ⟨_, i3⟩)
    | true =>
      rw [ift1, ift1, bd_some, bd_some]
      cases h3 : inI d.toInt 0 1 with
      | false => exact QM.mk (l := []) rfl rfl i2 (by omega) (by omega) Fr.rf (by decide) (fun q hq => by have e : q = PL := hq; rw [e]; exact ⟨_, i3⟩)
      | true =>
        obtain ⟨k, M, n, tn, rfl, hk, hl⟩ := isLI_ni T.2.1 h1
        obtain ⟨j, rfl, hj⟩ := part_ni h3
        have LO := L k M n tn hl
        have hn := LO.n
        obtain ⟨h', o1, o2⟩ := X0_areaOf (f := f) hf i2.wf (kf0.mod i2) P1 i3 hl LO i4 i5 i6 h2 hj
        obtain ⟨u8, b1, b2, b3, b4, b5⟩ := X3_laysShort (f := f) hf T hl LO
        obtain ⟨u9, e, D, c', x1, x2, x3, x4, x5, x6⟩ := X3_crossShort (f := f) hf (herm_sh LO) (herm_nz LO) b2 i4 i5 i6 h2
        obtain ⟨pb, pz⟩ := isPl_ok h2 i4 i5 i6
        have hrL := LO.run.2.2.1
        have x4' : D.natAbs = (dtf M).natAbs := by rw [x4]; exact (dtf_eqL hrL).symm
        have x5' : e.natAbs = gp M p := by rw [x5]; exact (gp_eqL hrL p).symm
        obtain ⟨Q, pq⟩ := LO.pq
        have dl := pq.det_le
        rw [det_m3] at dl
        have gpos := gp_pos pq.nz pz
        have sq := crs_sq x3
        rw [x4', x5'] at sq
        obtain ⟨s1, s2, s3⟩ := i32_sq (pb 0 (by decide)) (pb 1 (by decide)) (pb 2 (by decide))
        have nn : ∀ x y z : Int, 0 ≤ x * x + y * y + z * z := fun x y z => by have := sq_nonneg x; have := sq_nonneg y; have := sq_nonneg z; omega
        have cs0 := nn (c' 0) (c' 1) (c' 2)
        have law := area_law (n := n.toNat) gpos (by omega) sq
        rw [i4, i5, i6] at law sq s2 s3
        generalize hS : c' 0 * c' 0 + c' 1 * c' 1 + c' 2 * c' 2 = S at *
        have sle : S.toNat ≤ 2799360 * 2799360 * 243 := by
          have h1 : S.toNat ≤ gp M p * gp M p * S.toNat := Nat.le_mul_of_pos_left _ (Nat.mul_pos gpos gpos)
          rw [sq] at h1
          exact Nat.le_trans h1 (Nat.mul_le_mul (Nat.mul_le_mul dl.2 dl.2) (by omega))
        have n2 := n2_le hn
        have n4 : 1 ≤ n * n * (n * n) ∧ n * n * (n * n) ≤ 1296 * 1296 := ⟨by have := Int.mul_le_mul n2.1 n2.1 (by decide) (by omega); omega, Int.mul_le_mul n2.2 n2.2 (by omega) (by decide)⟩
        refine QM.mk (l := [18, 19, 20, 21, 22, 23, 24, 25, 35, 36, 37, 38, 39]) (r := li ((if j = 0 then S.toNat else n.toNat * n.toNat * (n.toNat * n.toNat)) / Nat.gcd S.toNat (n.toNat * n.toNat * (n.toNat * n.toNat)) : Nat)) (h' := h') (u' := u9) ?_ ?_ (i2.tr o2 (fun _ _ hh => hh.elim)) (by omega) (by omega) ((b5.mono (by decide)).tr (x6.mono (by decide))) (by decide) (fun q hq => by have e : q = PL := hq; rw [e]; exact ⟨_, o2.at i2.wf i3 id⟩)
        · rw [nift1, gd_of C1.isC, o1]
          by_cases hj0 : j = 0
          · rw [if_pos hj0, if_pos hj0, law.1]
          · rw [if_neg hj0, if_neg hj0, law.2]
        · rw [nift1, b1, bd_some, nmv_eq, b4, li_mul, x1, bd_some, nmv_eq]
          rw [show tB u9 38 (Int32.toNatClampNeg 0) = li (c' 0) from x2 0 (by decide), show tB u9 38 (Int32.toNatClampNeg 1) = li (c' 1) from x2 1 (by decide), show tB u9 38 (Int32.toNatClampNeg 2) = li (c' 2) from x2 2 (by decide), li_mul, li_mul, li_mul, li_mul, li_add, li_add, hS]
          rw [X3_part (f := f) hf (a := S) (b := n * n * (n * n)) ⟨by omega, by omega⟩ ⟨by omega, by omega⟩ (fun e => by have := (Int.gcd_eq_zero_iff.mp e).2; omega) hj, bd_some]
          have enn : n = ((n.toNat : Nat) : Int) := by omega
          have eS : S = ((S.toNat : Nat) : Int) := by omega
          have e4 : n * n * (n * n) = ((n.toNat * n.toNat * (n.toNat * n.toNat) : Nat) : Int) := by rw [enn]; simp
          rw [e4]
          conv => lhs; rw [eS]
          rw [Int.gcd_natCast_natCast, ← tdiv_nat]
          split <;> rfl
