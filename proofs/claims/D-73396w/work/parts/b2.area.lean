/-! areas -/
set_option maxRecDepth 100000
/-- both answer alike; of the old cells only those of S may change -/
def QM {α : Type} (S : Nat → Prop) (mc : Option (α × CH)) (mt : Option (α × TS)) (h : CH) (u : TS) : Prop := ∃ r h' u', mc = some (r, h') ∧ mt = some (r, u') ∧ Mod S 9000 110000 h h' ∧ Fr QF u u' ∧ ∀ q, S q → ∃ p : Nat → Int32, cm h' q = some (.inr (0, 3, .inl p))
theorem QM.mk {α : Type} {S : Nat → Prop} {mc : Option (α × CH)} {mt : Option (α × TS)} {h : CH} {u : TS} {r : α} {h' : CH} {u' : TS} {k n : Nat} {l : List Nat} (e1 : mc = some (r, h')) (e2 : mt = some (r, u')) (m : Mod S k n h h') (hk : k ≤ 9000) (hn : n ≤ 110000) (fr : Fr l u u') (hl : ∀ k, k ∈ l → k ∈ QF) (sh : ∀ q, S q → ∃ p : Nat → Int32, cm h' q = some (.inr (0, 3, .inl p))) : QM S mc mt h u := ⟨r, h', u', e1, e2, m.up hk hn, fr.mono hl, sh⟩
/-- equal fractions have one least form -/
theorem red_eq {a b c d : Nat} (hb : 0 < b) (hd : 0 < d) (h : a * d = c * b) : a / Nat.gcd a b = c / Nat.gcd c d ∧ b / Nat.gcd a b = d / Nat.gcd c d := by
  have hg : 0 < Nat.gcd a b := Nat.gcd_pos_of_pos_right _ hb
  have hg' : 0 < Nat.gcd c d := Nat.gcd_pos_of_pos_right _ hd
  have e1 : Nat.gcd a b * (a / Nat.gcd a b) = a := Nat.mul_div_cancel' (Nat.gcd_dvd_left a b)
  have e2 : Nat.gcd a b * (b / Nat.gcd a b) = b := Nat.mul_div_cancel' (Nat.gcd_dvd_right a b)
  have f1 : Nat.gcd c d * (c / Nat.gcd c d) = c := Nat.mul_div_cancel' (Nat.gcd_dvd_left c d)
  have f2 : Nat.gcd c d * (d / Nat.gcd c d) = d := Nat.mul_div_cancel' (Nat.gcd_dvd_right c d)
  have co : Nat.Coprime (a / Nat.gcd a b) (b / Nat.gcd a b) := Nat.coprime_div_gcd_div_gcd hg
  have co' : Nat.Coprime (c / Nat.gcd c d) (d / Nat.gcd c d) := Nat.coprime_div_gcd_div_gcd hg'
  generalize a / Nat.gcd a b = A at *
  generalize b / Nat.gcd a b = B at *
  generalize c / Nat.gcd c d = C at *
  generalize d / Nat.gcd c d = D at *
  generalize Nat.gcd a b = g at *
  generalize Nat.gcd c d = g' at *
  subst e1 e2 f1 f2
  have k : A * D = C * B := by
    have : (g * g') * (A * D) = (g * g') * (C * B) := by
      have e : g * A * (g' * D) = g' * C * (g * B) := h
      calc (g * g') * (A * D) = g * A * (g' * D) := by rw [Nat.mul_mul_mul_comm]
        _ = g' * C * (g * B) := e
        _ = (g * g') * (C * B) := by rw [Nat.mul_mul_mul_comm, Nat.mul_comm g' g]
    exact Nat.eq_of_mul_eq_mul_left (Nat.mul_pos hg hg') this
  have B0 : 0 < B := Nat.pos_of_mul_pos_left hb
  have d1 : B ∣ D := co.symm.dvd_of_dvd_mul_left (⟨C, by rw [k, Nat.mul_comm]⟩ : B ∣ A * D)
  have d2 : D ∣ B := co'.symm.dvd_of_dvd_mul_left (⟨A, by rw [← k, Nat.mul_comm]⟩ : D ∣ C * B)
  have e : B = D := Nat.dvd_antisymm d1 d2
  subst e
  exact ⟨Nat.eq_of_mul_eq_mul_right B0 k, rfl⟩
theorem i32_sq {a b c : Int32} (ha : a.toInt.natAbs ≤ 9) (hb : b.toInt.natAbs ≤ 9) (hc : c.toInt.natAbs ≤ 9) : Int32.toInt64 (a * a + b * b + c * c) = li (a.toInt * a.toInt + b.toInt * b.toInt + c.toInt * c.toInt) ∧ 0 ≤ a.toInt * a.toInt + b.toInt * b.toInt + c.toInt * c.toInt ∧ a.toInt * a.toInt + b.toInt * b.toInt + c.toInt * c.toInt ≤ 243 := by
  have sq : ∀ v : Int, v.natAbs ≤ 9 → 0 ≤ v * v ∧ v * v ≤ 81 := fun v hv => by
    have h1 := sq_nonneg v
    have h2 : v * v = ((v.natAbs * v.natAbs : Nat) : Int) := by rw [Int.natCast_mul, Int.natAbs_mul_self']
    have h3 : v.natAbs * v.natAbs ≤ 9 * 9 := Nat.mul_le_mul hv hv
    omega
  have s1 := sq _ ha
  have s2 := sq _ hb
  have s3 := sq _ hc
  refine ⟨?_, by omega, by omega⟩
  have e : a * a + b * b + c * c = Int32.ofInt (a.toInt * a.toInt + b.toInt * b.toInt + c.toInt * c.toInt) := by
    rw [Int32.ofInt_add, Int32.ofInt_add, Int32.ofInt_mul, Int32.ofInt_mul, Int32.ofInt_mul, Int32.ofInt_toInt, Int32.ofInt_toInt, Int32.ofInt_toInt]
  rw [toL, e, Int32.toInt_ofInt_of_le (by omega) (by omega)]
def arA (D g n : Nat) : Nat := D / Nat.gcd D g / Nat.gcd (D / Nat.gcd D g) (g / Nat.gcd D g * n * n)
def arB (D g n : Nat) : Nat := g / Nat.gcd D g * n * n / Nat.gcd (D / Nat.gcd D g) (g / Nat.gcd D g * n * n)
theorem ar_law {D g n : Nat} (hg : 0 < g) (hn : 0 < n) : arA D g n * (g * (n * n)) = D * arB D g n ∧ 0 < arB D g n ∧ arA D g n ≤ D ∧ arB D g n ≤ g * (n * n) := by
  unfold arA arB
  have h1 : 0 < Nat.gcd D g := Nat.gcd_pos_of_pos_right _ hg
  have e1 : Nat.gcd D g * (D / Nat.gcd D g) = D := Nat.mul_div_cancel' (Nat.gcd_dvd_left D g)
  have e2 : Nat.gcd D g * (g / Nat.gcd D g) = g := Nat.mul_div_cancel' (Nat.gcd_dvd_right D g)
  generalize D / Nat.gcd D g = D' at *
  generalize g / Nat.gcd D g = G' at *
  generalize Nat.gcd D g = k at *
  have G0 : 0 < G' := Nat.pos_of_ne_zero (fun e => by subst e; simp at e2; omega)
  have b0 : 0 < G' * n * n := Nat.mul_pos (Nat.mul_pos G0 hn) hn
  have h2 : 0 < Nat.gcd D' (G' * n * n) := Nat.gcd_pos_of_pos_right _ b0
  have f1 : Nat.gcd D' (G' * n * n) * (D' / Nat.gcd D' (G' * n * n)) = D' := Nat.mul_div_cancel' (Nat.gcd_dvd_left _ _)
  have f2 : Nat.gcd D' (G' * n * n) * (G' * n * n / Nat.gcd D' (G' * n * n)) = G' * n * n := Nat.mul_div_cancel' (Nat.gcd_dvd_right _ _)
  have l1 : D' / Nat.gcd D' (G' * n * n) ≤ D' := Nat.div_le_self _ _
  have l2 : G' * n * n / Nat.gcd D' (G' * n * n) ≤ G' * n * n := Nat.div_le_self _ _
  generalize D' / Nat.gcd D' (G' * n * n) = a at *
  generalize G' * n * n / Nat.gcd D' (G' * n * n) = b at *
  generalize Nat.gcd D' (G' * n * n) = m at *
  refine ⟨?_, Nat.pos_of_ne_zero (fun e => by subst e; simp at f2; omega), ?_, ?_⟩
  · refine Nat.eq_of_mul_eq_mul_left h2 ?_
    rw [← e1, ← e2]
    calc m * (a * (k * G' * (n * n))) = (m * a) * k * (G' * n * n) := by simp only [Nat.mul_assoc, Nat.mul_left_comm, Nat.mul_comm]
      _ = D' * k * (m * b) := by rw [f1, f2]
      _ = m * (k * D' * b) := by simp only [Nat.mul_assoc, Nat.mul_left_comm, Nat.mul_comm]
  · rw [← e1]; exact Nat.le_trans l1 (Nat.le_mul_of_pos_left _ h1)
  · rw [← e2]
    refine Nat.le_trans l2 ?_
    rw [Nat.mul_assoc, Nat.mul_assoc]
    exact Nat.le_mul_of_pos_left _ h1
theorem area_law {D g n q s : Nat} (hg : 0 < g) (hn : 0 < n) (h : g * g * s = D * D * q) : (arA D g n * arA D g n * q) / Nat.gcd (arA D g n * arA D g n * q) (arB D g n * arB D g n) = s / Nat.gcd s (n * n * (n * n)) ∧ (arB D g n * arB D g n) / Nat.gcd (arA D g n * arA D g n * q) (arB D g n * arB D g n) = (n * n * (n * n)) / Nat.gcd s (n * n * (n * n)) := by
  obtain ⟨e, b0, _, _⟩ := ar_law (D := D) hg hn
  generalize arA D g n = a at *
  generalize arB D g n = b at *
  have n4 : 0 < n * n * (n * n) := Nat.mul_pos (Nat.mul_pos hn hn) (Nat.mul_pos hn hn)
  refine red_eq (Nat.mul_pos b0 b0) n4 ?_
  refine Nat.eq_of_mul_eq_mul_left (Nat.mul_pos hg hg) ?_
  calc g * g * (a * a * q * (n * n * (n * n))) = (a * (g * (n * n))) * (a * (g * (n * n))) * q := by simp only [Nat.mul_assoc, Nat.mul_left_comm, Nat.mul_comm]
    _ = (D * b) * (D * b) * q := by rw [e]
    _ = (D * D * q) * (b * b) := by simp only [Nat.mul_assoc, Nat.mul_left_comm, Nat.mul_comm]
    _ = (g * g * s) * (b * b) := by rw [h]
    _ = g * g * (s * (b * b)) := by rw [Nat.mul_assoc]
/-- the twin's squares -/
theorem crs_sq {D e : Int} {c : Nat → Int} {p : Nat → Int32} (h : ∀ j, j < 3 → e * c j = D * (p j).toInt) : e.natAbs * e.natAbs * (c 0 * c 0 + c 1 * c 1 + c 2 * c 2).toNat = D.natAbs * D.natAbs * ((p 0).toInt * (p 0).toInt + (p 1).toInt * (p 1).toInt + (p 2).toInt * (p 2).toInt).toNat := by
  have h0 := h 0 (by decide)
  have h1 := h 1 (by decide)
  have h2 := h 2 (by decide)
  have n : ∀ x y z : Int, 0 ≤ x * x + y * y + z * z := fun x y z => by have := sq_nonneg x; have := sq_nonneg y; have := sq_nonneg z; omega
  have e0 := n (c 0) (c 1) (c 2)
  have e1 := n (p 0).toInt (p 1).toInt (p 2).toInt
  have k : e * e * (c 0 * c 0 + c 1 * c 1 + c 2 * c 2) = D * D * ((p 0).toInt * (p 0).toInt + (p 1).toInt * (p 1).toInt + (p 2).toInt * (p 2).toInt) := by
    have : e * e * (c 0 * c 0 + c 1 * c 1 + c 2 * c 2) = (e * c 0) * (e * c 0) + (e * c 1) * (e * c 1) + (e * c 2) * (e * c 2) := by grind
    rw [this, h0, h1, h2]; grind
  have := congrArg Int.natAbs k
  rw [Int.natAbs_mul, Int.natAbs_mul, Int.natAbs_mul, Int.natAbs_mul] at this
  rw [show (c 0 * c 0 + c 1 * c 1 + c 2 * c 2).toNat = (c 0 * c 0 + c 1 * c 1 + c 2 * c 2).natAbs by omega, show ((p 0).toInt * (p 0).toInt + (p 1).toInt * (p 1).toInt + (p 2).toInt * (p 2).toInt).toNat = ((p 0).toInt * (p 0).toInt + (p 1).toInt * (p 1).toInt + (p 2).toInt * (p 2).toInt).natAbs by omega]
  exact this
theorem toNat_c {x : Int} (h : 0 ≤ x) : ((x.toNat : Nat) : Int) = x := Int.toNat_of_nonneg h
theorem X0_areaOf {f : Nat} (hf : 2 ^ 63 ≤ f) {h : CH} (w : wfh h) (kf0 : kf h) {x PL : Nat} {LS : LSt} (P : QP h x PL LS) {p : Nat → Int32} (cp : cm h PL = some (.inr (0, 3, .inl p))) {k : Nat} {M : Mi} {n : Int} {tn : Bool} (hl : LS[k]? = some (M, n, tn)) (LO : LatOk M n tn) {a b c : Int32} (e0 : p 0 = a) (e1 : p 1 = b) (e2 : p 2 = c) (hp : isPl a b c = true) {j : Nat} (hj : j < 2) : ∃ h', bd2 (m_X0_at f h x (ni k)) (fun a6 h5 => m_X0_area_36 f h5 x (ni k) a b c (ni j) a6) = some (li (((if j = 0 then arA (dtf M).natAbs (gp M p) n.toNat * arA (dtf M).natAbs (gp M p) n.toNat * (a.toInt * a.toInt + b.toInt * b.toInt + c.toInt * c.toInt).toNat else arB (dtf M).natAbs (gp M p) n.toNat * arB (dtf M).natAbs (gp M p) n.toNat) / Nat.gcd (arA (dtf M).natAbs (gp M p) n.toNat * arA (dtf M).natAbs (gp M p) n.toNat * (a.toInt * a.toInt + b.toInt * b.toInt + c.toInt * c.toInt).toNat) (arB (dtf M).natAbs (gp M p) n.toNat * arB (dtf M).natAbs (gp M p) n.toNat) : Nat)), h') ∧ Ext 40 100 h h' := by
  have C := P.cv w kf0.kok
  obtain ⟨pb, pz⟩ := isPl_ok hp e0 e1 e2
  have hn := LO.n
  obtain ⟨Q, pq⟩ := LO.pq
  obtain ⟨ent, _⟩ := pq.ent
  have dl := pq.det_le
  rw [det_m3] at dl
  have hz := pq.nz
  have gpos := gp_pos hz pz
  have gle : gp M p ≤ 33669 := gp_le (N := M) (B := 1247) (fun i j hi hj => bdM_at ent hi hj) pb
  obtain ⟨a0, a1, a2⟩ := X0_at (f := f) C hl
  obtain ⟨R, h3, b1, b2, b3⟩ := L_rows (f := f) (by omega) w a2
  rw [a1, bd2_some]
  unfold m_X0_area_36
  rw [b3 (fun a3 h2 => m_X0_area_39 f h2 x (ni k) a b c (ni j) a3)]
  have cp3 := b2.at w cp id
  obtain ⟨⟨fs, x1, x2⟩, _, _⟩ := P
  have x3 := b2.at w x1 id
  have C3 := C.ext b2 w kf0.kok
  have kf3 := kf0.mod b2
  have gD : rg (dtf M) := rg_nat.mpr (by omega)
  have gDa : rg ((dtf M).natAbs : Int) := ⟨by omega, by omega⟩
  have acl : ∀ i, i < 3 → (acr M p i).natAbs < 2 ^ 48 := fun i hi => by have := acr_le (N := M) (B := 1247) (fun i j hi hj => bdM_at ent hi hj) pb hi; omega
  have ac : m_X2_across f h3 R.1 PL = some (li (gp M p : Nat), h3) := X2_across (f := f) (by omega) b1 cp3 acl
  have gg : rg ((gp M p : Nat) : Int) := ⟨by omega, by omega⟩
  have dv : m_X0_divisor f (li (dtf M)) (li (gp M p : Nat)) = some (li ((Nat.gcd (dtf M).natAbs (gp M p) : Nat) : Int)) := by
    rw [divisor_rg gD gg, Int.gcd_eq_natAbs_gcd_natAbs, Int.natAbs_natCast]
  have g1 : 0 < Nat.gcd (dtf M).natAbs (gp M p) := Nat.gcd_pos_of_pos_right _ gpos
  have g1' : Nat.gcd (dtf M).natAbs (gp M p) ≤ gp M p := Nat.gcd_le_right _ gpos
  have g1r : rg ((Nat.gcd (dtf M).natAbs (gp M p) : Nat) : Int) := ⟨by omega, by omega⟩
  unfold m_X0_area_39
  rw [gd_of (isC_R b1), X2_determinant b1, bd2_some]
  unfold m_X0_area_46
  rw [abs_li gD, bd_some, gd_of (isC_R b1), X2_determinant b1, bd2_some]
  unfold m_X0_area_54
  rw [oR_c (k := 6) (x := PL) x3 x2, bd_some, gd_of (isC_R b1), ac, bd2_some]
  unfold m_X0_area_63
  rw [dv, bd_some, gd_of (nzL_li g1r (by omega)), nmv_eq, li_div gDa g1r, tdiv_nat, oR_c (k := 6) (x := PL) x3 x2, bd_some, gd_of (isC_R b1), ac, bd2_some]
  unfold m_X0_area_78
  rw [gd_of (isC_R b1), X2_determinant b1, bd2_some]
  unfold m_X0_area_83
  rw [oR_c (k := 6) (x := PL) x3 x2, bd_some, gd_of (isC_R b1), ac, bd2_some]
  unfold m_X0_area_92
  obtain ⟨a0', a1', a2'⟩ := X0_at (f := f) C3 hl
  rw [dv, bd_some, gd_of (nzL_li g1r (by omega)), gd_of C3.isC, a1', bd2_some, li_div gg g1r, tdiv_nat]
  unfold m_X0_area_101
  obtain ⟨h4, o1, o2⟩ := L_over (f := f) (by omega) b2.wf a2'
  rw [o2 (fun r3 h2 => m_X0_area_104 f h2 x (ni k) a b c (ni j) _ _ r3)]
  have C4 := C3.ext o1 b2.wf kf3.kok
  unfold m_X0_area_104
  obtain ⟨a0'', a1'', a2''⟩ := X0_at (f := f) C4 hl
  rw [gd_of C4.isC, a1'', bd2_some]
  unfold m_X0_area_110
  obtain ⟨h5, o3, o4⟩ := L_over (f := f) (by omega) o1.wf a2''
  rw [o4 (fun r3 h2 => m_X0_area_113 f h2 a b c (ni j) _ _ r3)]
  unfold m_X0_area_113
  rw [nmv_eq, li_mul, li_mul]
  have enn : n = ((n.toNat : Nat) : Int) := by omega
  generalize hN : n.toNat = N at *
  have N36 : 1 ≤ N ∧ N ≤ 36 := by omega
  rw [enn]
  have ar := ar_law (D := (dtf M).natAbs) gpos N36.1
  have below : ((gp M p / Nat.gcd (dtf M).natAbs (gp M p) : Nat) : Int) * (N : Int) * (N : Int) = ((gp M p / Nat.gcd (dtf M).natAbs (gp M p) * N * N : Nat) : Int) := by simp
  rw [below]
  have l1 : (dtf M).natAbs / Nat.gcd (dtf M).natAbs (gp M p) ≤ (dtf M).natAbs := Nat.div_le_self _ _
  have l2 : gp M p / Nat.gcd (dtf M).natAbs (gp M p) * N * N ≤ 33669 * 36 * 36 := Nat.mul_le_mul (Nat.mul_le_mul (Nat.le_trans (Nat.div_le_self _ _) gle) N36.2) N36.2
  have l3 : 0 < gp M p / Nat.gcd (dtf M).natAbs (gp M p) * N * N := Nat.mul_pos (Nat.mul_pos (Nat.div_pos g1' g1) N36.1) N36.1
  have q1 : rg (((dtf M).natAbs / Nat.gcd (dtf M).natAbs (gp M p) : Nat) : Int) := rg_nat.mpr (by rw [Int.natAbs_natCast]; omega)
  have q2 : rg ((gp M p / Nat.gcd (dtf M).natAbs (gp M p) * N * N : Nat) : Int) := rg_nat.mpr (by rw [Int.natAbs_natCast]; omega)
  have g2 : 0 < Nat.gcd ((dtf M).natAbs / Nat.gcd (dtf M).natAbs (gp M p)) (gp M p / Nat.gcd (dtf M).natAbs (gp M p) * N * N) := Nat.gcd_pos_of_pos_right _ l3
  have g2' : Nat.gcd ((dtf M).natAbs / Nat.gcd (dtf M).natAbs (gp M p)) (gp M p / Nat.gcd (dtf M).natAbs (gp M p) * N * N) ≤ gp M p / Nat.gcd (dtf M).natAbs (gp M p) * N * N := Nat.gcd_le_right _ l3
  have g2r : rg ((Nat.gcd ((dtf M).natAbs / Nat.gcd (dtf M).natAbs (gp M p)) (gp M p / Nat.gcd (dtf M).natAbs (gp M p) * N * N) : Nat) : Int) := ⟨by omega, by omega⟩
  rw [divisor_rg q1 q2, Int.gcd_natCast_natCast, bd_some, gd_of (nzL_li g2r (by omega)), nmv_eq, li_div q1 g2r, gd_of (nzL_li g2r (by omega)), nmv_eq, li_div q2 g2r, tdiv_nat, tdiv_nat]
  rw [← e0, ← e1, ← e2]
  obtain ⟨s1, s2, s3⟩ := i32_sq (pb 0 (by decide)) (pb 1 (by decide)) (pb 2 (by decide))
  rw [s1]
  generalize hq : (p 0).toInt * (p 0).toInt + (p 1).toInt * (p 1).toInt + (p 2).toInt * (p 2).toInt = q at *
  show ∃ h', bd (m_X0_part f (li (arA (dtf M).natAbs (gp M p) N : Nat) * li (arA (dtf M).natAbs (gp M p) N : Nat) * li q) (li (arB (dtf M).natAbs (gp M p) N : Nat) * li (arB (dtf M).natAbs (gp M p) N : Nat)) (ni j)) _ = _ ∧ _
  generalize arA (dtf M).natAbs (gp M p) N = A at *
  generalize arB (dtf M).natAbs (gp M p) N = B at *
  have eq' : q = ((q.toNat : Nat) : Int) := (toNat_c s2).symm
  generalize hQ : q.toNat = qn at *
  have qn3 : qn ≤ 243 := by omega
  rw [li_mul, li_mul, li_mul, eq']
  have eA : (A : Int) * (A : Int) * (qn : Int) = ((A * A * qn : Nat) : Int) := by simp
  have eB : (B : Int) * (B : Int) = ((B * B : Nat) : Int) := by simp
  rw [eA, eB]
  have A3 : A ≤ 2799360 := Nat.le_trans ar.2.2.1 dl.2
  have B3 : B ≤ 33669 * (36 * 36) := Nat.le_trans ar.2.2.2 (Nat.mul_le_mul gle (Nat.mul_le_mul N36.2 N36.2))
  have AA : A * A * qn ≤ 2799360 * 2799360 * 243 := Nat.mul_le_mul (Nat.mul_le_mul A3 A3) qn3
  have BB : B * B ≤ 33669 * (36 * 36) * (33669 * (36 * 36)) := Nat.mul_le_mul B3 B3
  have B0 : 0 < B * B := Nat.mul_pos ar.2.1 ar.2.1
  rw [X0_partr (a := ((A * A * qn : Nat) : Int)) (b := ((B * B : Nat) : Int)) ⟨by omega, by omega⟩ ⟨by omega, by omega⟩ (fun e => by have := (Int.gcd_eq_zero_iff.mp e).2; omega) hj, Int.gcd_natCast_natCast, bd_some]
  refine ⟨h5, ?_, ((b2.tr o1 (fun _ _ => id)).tr o3 (fun _ _ => id)).up (by omega) (by omega)⟩
  rw [← tdiv_nat]
  split <;> rfl
