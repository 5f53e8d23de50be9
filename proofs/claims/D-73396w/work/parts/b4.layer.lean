/-! layers: the plain law -/
set_option maxRecDepth 100000
theorem gr_scale {k : Int} {F : Nat → Int} : ∀ j, gr 0 (fun i => k * F i) j = k.natAbs * gr 0 F j
  | 0 => by simp [gr]
  | j + 1 => by
    rw [gr, gr, gr_scale j, Int.gcd_eq_natAbs_gcd_natAbs, Int.gcd_eq_natAbs_gcd_natAbs, Int.natAbs_mul, Int.natAbs_natCast, Int.natAbs_natCast, Nat.gcd_mul_left]
theorem gp_scale (k : Int) (N : Mi) (p : Nat → Int32) : gp (mscl k N) p = k.natAbs * gp N p := by
  unfold gp
  rw [← gr_scale 3]
  congr 1
  funext i
  unfold acr mscl; grind
theorem gp_congr {A B : Mi} (h : m3 A = m3 B) (p : Nat → Int32) : gp A p = gp B p := gp_eqL (fun v => by rw [h]) p
theorem acr_sub {A B : Mi} (h : ∀ w, inL (m3 B) w → inL (m3 A) w) (p : Nat → Int32) : gp A p ∣ gp B p := by
  rw [gp_dvd]
  have ha := (gp_dvd A p _).mp (Nat.dvd_refl _)
  intro i hi
  have k : ∀ w, inL (m3 B) w → ((gp A p : Nat) : Int) ∣ dot w (pv p) := fun w hw => dv_lc (M := m3 A) ⟨ha 0 (by decide), ha 1 (by decide), ha 2 (by decide)⟩ (h w hw)
  rcases c3 hi with rfl | rfl | rfl
  · exact k _ (inL_0 _)
  · exact k _ (inL_1 _)
  · exact k _ (inL_2 _)
theorem lay_pure {P Q M1 : Mi} {b n1 : Int} (pq : PQ (m3 P) (m3 Q) b) (hn1 : 0 < n1) (hd : n1 ∣ b) (eP : P = mscl (b.tdiv n1) M1) {p : Nat → Int32} (hp : ∃ j, j < 3 ∧ (p j).toInt ≠ 0) : ∃ D L : Nat, D = (dtf (sF P Q (dQ Q) kB)).natAbs ∧ 1 ≤ D ∧ D ≤ 2160 ∧ 1 ≤ L ∧ L ∣ D ∧ gp (mscl ((mlt (lsO (mtC P Q) b) n1).tdiv (lsO (mtC P Q) b)) (lsG (mtC P Q) b)) p = L * gp (mscl ((mlt (lsO (mtC P Q) b) n1).tdiv n1) M1) p ∧ 0 < gp (mscl ((mlt (lsO (mtC P Q) b) n1).tdiv n1) M1) p ∧ dtf (lsG (mtC P Q) b) ≠ 0 ∧ dtf M1 ≠ 0 ∧ ((dtf (lsG (mtC P Q) b)).natAbs : Int) * (n1 * n1) * L * gp M1 p = D * (dtf M1).natAbs * (lsO (mtC P Q) b * lsO (mtC P Q) b) * gp (lsG (mtC P Q) b) p ∧ (dtf (lsG (mtC P Q) b)).natAbs ≤ 2160 * 2799360 := by
  obtain ⟨X, x1, x2, x3, x4, x5, x6⟩ := told_X pq
  have hb := pq.n
  have dP := pq.det_le
  have zP : det (m3 P) ≠ 0 := by intro e; rw [e] at dP; simp at dP
  obtain ⟨g, g0, g1, g2, g3, g4⟩ := ls_ok (F := mtC P Q) (o := b) (by omega)
  generalize hF : mtC P Q = F at *
  generalize hmo : lsO F b = mo at *
  generalize hG : lsG F b = G at *
  have dmo : mo ∣ b := ⟨g, by rw [g3, Int.mul_comm]⟩
  obtain ⟨o1, o2, o3, o4⟩ := mlt_dvd g4 hn1 dmo hd (by omega)
  generalize hov : mlt mo n1 = ov at *
  obtain ⟨k, hk⟩ := o3
  obtain ⟨k1, hk1⟩ := o4
  obtain ⟨c, hc⟩ := hd
  have tk : ov.tdiv mo = k := by rw [hk]; exact Int.mul_tdiv_cancel_left _ (by omega)
  have tk1 : ov.tdiv n1 = k1 := by rw [hk1]; exact Int.mul_tdiv_cancel_left _ (by omega)
  have tc' : b.tdiv n1 = c := by rw [hc]; exact Int.mul_tdiv_cancel_left _ (by omega)
  rw [tc'] at eP
  rw [tk, tk1]
  have ek : (g : Int) * k1 = k * c := by
    have h1 : n1 * mo * ((g : Int) * k1) = n1 * mo * (k * c) := by
      have a1 : n1 * mo * ((g : Int) * k1) = (g * mo) * (n1 * k1) := by grind
      have a2 : n1 * mo * (k * c) = (mo * k) * (n1 * c) := by grind
      rw [a1, a2, ← g3, ← hk1, ← hk, ← hc, Int.mul_comm]
    exact Int.eq_of_mul_eq_mul_left (by have := Int.mul_pos hn1 g4; omega) h1
  have pos : ∀ {a x y : Int}, 0 < a → 0 < x → x = a * y → 0 < y := fun {a x y} ha hx e => by
    rcases Int.lt_or_le 0 y with h | h
    · exact h
    · have := Int.mul_nonpos_of_nonneg_of_nonpos (show (0 : Int) ≤ a by omega) h; omega
  have k0 : 0 < k := pos g4 o1 hk
  have k10 : 0 < k1 := pos hn1 o1 hk1
  have c0 : 0 < c := pos hn1 (by omega) hc
  -- heights
  have hF' : gp F p = g * gp G p := by
    rw [gp_congr (show m3 F = m3 (mscl g G) by rw [m3_mscl]; exact g2), gp_scale, Int.natAbs_natCast]
  have hP' : gp P p = c.natAbs * gp M1 p := by rw [eP, gp_scale]
  have nzP : dtf P ≠ 0 := by rw [← det_m3]; exact zP
  have gP0 := gp_pos nzP hp
  have sub1 : gp P p ∣ gp F p := acr_sub (fun w hw => by
    rw [← x1] at hw
    obtain ⟨y, _, rfl⟩ := (vm_mul_in X (m3 P) w).mp hw
    exact vm_in _ _) p
  have sub2 : gp F p ∣ (det X).natAbs * gp P p := by
    rw [← gp_scale (det X) P p]
    refine acr_sub (fun w hw => ?_) p
    have e : m3 (mscl (det X) P) = mmul (adjM X) (m3 F) := by rw [← x1, ← mmul_as, adj_mmul, mmul_sm, id_mmul]; rfl
    rw [e] at hw
    obtain ⟨y, _, rfl⟩ := (vm_mul_in (adjM X) (m3 F) w).mp hw
    exact vm_in _ _
  obtain ⟨L, hL⟩ := sub1
  have eD : (det X).natAbs = (dtf (sF P Q (dQ Q) kB)).natAbs := by rw [← det_m3]; exact eqL_det x2
  have LD : L ∣ (det X).natAbs := by
    rw [hL, Nat.mul_comm (det X).natAbs] at sub2
    exact Nat.dvd_of_mul_dvd_mul_left gP0 sub2
  have L0 : 1 ≤ L := Nat.pos_of_dvd_of_pos LD x5
  -- determinants
  have dF : det (m3 F) = det X * det (m3 P) := by rw [← x1, det_mmul]
  have dF2 : det (m3 F) = (g : Int) * g * g * dtf G := by rw [g2, det_sm, det_m3]
  have dP2 : det (m3 P) = c * c * c * dtf M1 := by rw [eP, m3_mscl, det_sm, det_m3]
  have zX : det X ≠ 0 := by intro e; rw [e] at x5; simp at x5
  have zG : dtf G ≠ 0 := fun e => by
    rw [dF2, e, Int.mul_zero] at dF
    rcases Int.mul_eq_zero.mp dF.symm with h | h
    · exact zX h
    · exact zP h
  have zM : dtf M1 ≠ 0 := fun e => zP (by rw [dP2, e, Int.mul_zero])
  have h1 : ((g * g * g * (dtf G).natAbs : Nat) : Int) = ((det X).natAbs * (c.natAbs * c.natAbs * c.natAbs * (dtf M1).natAbs) : Nat) := by
    have := congrArg Int.natAbs (dF2.symm.trans dF)
    rw [dP2] at this
    simp only [Int.natAbs_mul, Int.natAbs_natCast] at this
    rw [this]
  have hcn : c = (c.natAbs : Int) := by omega
  have hgG : ((g * gp G p : Nat) : Int) = ((gp P p * L : Nat) : Int) := by rw [← hF', hL]
  rw [hP'] at hgG
  have gM0 : 0 < gp M1 p := Nat.pos_of_mul_pos_left (by rw [hP'] at gP0; exact gP0)
  refine ⟨(det X).natAbs, L, eD, x5, x6, L0, LD, ?_, ?_, zG, zM, ?_, ?_⟩
  · rw [gp_scale, gp_scale]
    have kn : (k.natAbs : Int) = k := by omega
    have k1n : (k1.natAbs : Int) = k1 := by omega
    have : ((k.natAbs * gp G p : Nat) : Int) = ((L * (k1.natAbs * gp M1 p) : Nat) : Int) := by
      simp only [Int.natCast_mul] at hgG ⊢
      rw [kn, k1n]
      rw [← hcn] at hgG
      have : c * (k * (gp G p : Int)) = c * (L * (k1 * (gp M1 p : Int))) := by
        calc c * (k * (gp G p : Int)) = (k * c) * (gp G p : Int) := by grind
          _ = k1 * ((g : Int) * gp G p) := by rw [← ek]; grind
          _ = c * (L * (k1 * (gp M1 p : Int))) := by rw [hgG]; grind
      exact Int.eq_of_mul_eq_mul_left (by omega) this
    exact_mod_cast this
  · rw [gp_scale]; exact Nat.mul_pos (by omega) gM0
  · simp only [Int.natCast_mul] at h1 hgG
    rw [← hcn] at h1 hgG
    have g0' : (g : Int) ≠ 0 := by omega
    have zz : (g : Int) * g * g * (c * c * c) ≠ 0 := Int.mul_ne_zero (Int.mul_ne_zero (Int.mul_ne_zero g0' g0') g0') (Int.mul_ne_zero (Int.mul_ne_zero (by omega) (by omega)) (by omega))
    refine Int.eq_of_mul_eq_mul_right zz ?_
    have e3 : (g : Int) * mo = n1 * c := by rw [← g3, hc]
    generalize ((dtf G).natAbs : Int) = dG at *
    generalize ((dtf M1).natAbs : Int) = dM at *
    generalize ((det X).natAbs : Int) = D at *
    generalize (gp G p : Int) = gG at *
    generalize (gp M1 p : Int) = gM at *
    generalize (L : Int) = l at *
    generalize (g : Int) = γ at *
    calc dG * (n1 * n1) * l * gM * (γ * γ * γ * (c * c * c)) = (γ * γ * γ * dG) * (n1 * n1) * (c * gM * l) * (c * c) := by grind
      _ = (D * (c * c * c * dM)) * (n1 * n1) * (γ * gG) * (c * c) := by rw [h1, hgG]
      _ = D * dM * (c * c * c) * gG * γ * ((n1 * c) * (n1 * c)) := by grind
      _ = D * dM * (c * c * c) * gG * γ * ((γ * mo) * (γ * mo)) := by rw [e3]
      _ = D * dM * (mo * mo) * gG * (γ * γ * γ * (c * c * c)) := by grind
  · have h2 : g * g * g * (dtf G).natAbs = (det X).natAbs * (det (m3 P)).natAbs := by
      have := congrArg Int.natAbs (dF2.symm.trans dF)
      simp only [Int.natAbs_mul, Int.natAbs_natCast] at this
      exact this
    have h3 : (dtf G).natAbs ≤ g * g * g * (dtf G).natAbs := Nat.le_mul_of_pos_left _ (Nat.mul_pos (Nat.mul_pos g0 g0) g0)
    rw [h2] at h3
    exact Nat.le_trans h3 (Nat.mul_le_mul x6 dP.2)
