/-! a turned lattice is one -/
set_option maxRecDepth 100000
theorem tnP_m3 (A : Mi) (q : Nat → Int) : m3 (tnP A (byM q)) = mmul (m3 A) (qT (q 0) (q 1) (q 2) (q 3)) := by
  simp only [m3, mmul, lc, qT, tnP, byM, Prod.mk.injEq]
  refine ⟨⟨?_, ?_, ?_⟩, ⟨?_, ?_, ?_⟩, ?_, ?_, ?_⟩ <;> grind
theorem lsd_dvd (N : Mi) (o : Int) : (∀ i j, i < 3 → j < 3 → ((lsd N o : Nat) : Int) ∣ N i j) ∧ lsd N o ∣ o.natAbs := by
  have h := (gk_dvd (d := lsd N o) (N := N) (g := o.natAbs) 9).mp (by unfold lsd; exact Nat.dvd_refl _)
  refine ⟨fun i j hi hj => ?_, h.1⟩
  have := h.2 (3 * i + j) (by omega)
  rwa [show (3 * i + j) / 3 = i by omega, show (3 * i + j) % 3 = j by omega] at this
def trnM (A : Mi) (q : Nat → Int) : Mi := fun i j => (tnP A (byM q) i j).tdiv (lsd (tnP A (byM q)) (ovQ q))
def trnO (A : Mi) (q : Nat → Int) : Int := (ovQ q).tdiv (lsd (tnP A (byM q)) (ovQ q))
theorem trn_LQ {A : Mi} (hA : LA (m3 A)) {q : Nat → Int} (h0 : 0 < ovQ q) (h36 : ovQ q ≤ 36) : LQ (m3 (trnM A q)) (trnO A q) (m3 A) (qT (q 0) (q 1) (q 2) (q 3)) (ovQ q) (lsd (tnP A (byM q)) (ovQ q) : Nat) ∧ lsd (tnP A (byM q)) (ovQ q) ≠ 0 := by
  obtain ⟨d1, d2⟩ := lsd_dvd (tnP A (byM q)) (ovQ q)
  have g0 : lsd (tnP A (byM q)) (ovQ q) ≠ 0 := fun e => by rw [e] at d2; have := Nat.zero_dvd.mp d2; omega
  unfold trnM trnO
  generalize lsd (tnP A (byM q)) (ovQ q) = g at *
  have go : (g : Int) * (ovQ q).tdiv g = ovQ q := Int.mul_tdiv_cancel' (Int.natAbs_dvd_natAbs.mp (by rw [Int.natAbs_natCast]; exact d2))
  have n0 : 0 < (ovQ q).tdiv g := by
    rcases Int.lt_or_le 0 ((ovQ q).tdiv g) with h | h
    · exact h
    · have := Int.mul_nonpos_of_nonneg_of_nonpos (show (0 : Int) ≤ g by omega) h; omega
  have ov : ovQ q = q 0 * q 0 + q 1 * q 1 + q 2 * q 2 + q 3 * q 3 := rfl
  refine ⟨⟨by omega, n0, go, h36, ?_, ?_, ?_, ?_, ?_, hA⟩, g0⟩
  · rw [← tnP_m3]
    have e : ∀ i j, i < 3 → j < 3 → (g : Int) * (tnP A (byM q) i j).tdiv g = tnP A (byM q) i j := fun i j hi hj => Int.mul_tdiv_cancel' (d1 i j hi hj)
    simp only [smM, vsm, m3, Prod.mk.injEq]
    exact ⟨⟨e 0 0 (by decide) (by decide), e 0 1 (by decide) (by decide), e 0 2 (by decide) (by decide)⟩, ⟨e 1 0 (by decide) (by decide), e 1 1 (by decide) (by decide), e 1 2 (by decide) (by decide)⟩, e 2 0 (by decide) (by decide), e 2 1 (by decide) (by decide), e 2 2 (by decide) (by decide)⟩
  · rw [ov]; exact qT_1 _ _ _ _
  · rw [ov]; exact qT_2 _ _ _ _
  · rw [ov]; exact qT_3 _ _ _ _
  · rw [ov]; exact qT_4 _ _ _ _
theorem trn_Ok {A : Mi} (hA : LA (m3 A)) {q : Nat → Int} (h0 : 0 < ovQ q) (h36 : ovQ q ≤ 36) : LatOk (trnM A q) (trnO A q) true := ⟨⟨_, _, _, _, (trn_LQ hA h0 h36).1⟩, fun h => by cases h⟩

theorem ni_div {q r : Nat} (hq : q < 1000) (hr : r < 1000) (h0 : 0 < r) : ni q / ni r = ni (q / r) := by
  have hz := Nat.div_le_self q r
  apply Int32.toInt_inj.mp
  rw [Int32.toInt_div, ni_toInt (by omega), ni_toInt (by omega), tdiv_nat]
  generalize q / r = z at *
  rw [ni_toInt (by omega)]
  exact Int.bmod_eq_of_le (by omega) (by omega)
theorem ni_mod {q r : Nat} (hq : q < 1000) (hr : r < 1000) (h0 : 0 < r) : rmI (ni q) (ni r) = ni (q % r) := by
  unfold rmI
  rw [ni_div hq hr h0, ← Int32.ofNat_mul]
  have : ni q = ni (q % r) + ni (q / r * r) := by rw [aN_ni, Nat.mul_comm, Nat.mod_add_div]
  rw [this]
  exact Int32.add_sub_cancel _ _
/-- a turn by its number -/
def qc (c : Nat) : Nat → Int := fun j => if j = 0 then ((c / 64 : Nat) : Int) else if j = 1 then ((c / 16 % 4 : Nat) : Int) else if j = 2 then ((c / 4 % 4 : Nat) : Int) else ((c % 4 : Nat) : Int)
theorem qc_ok : ∀ c, c < 256 → 1 ≤ c → 0 < ovQ (qc c) ∧ ovQ (qc c) ≤ 36 := by
  intro c hc h1
  have b : ∀ v : Nat, v < 4 → ((v : Int) * v = 0 ∧ v = 0) ∨ (1 ≤ (v : Int) * v ∧ (v : Int) * v ≤ 9) := fun v hv => by
    rcases (show v = 0 ∨ v = 1 ∨ v = 2 ∨ v = 3 by omega) with rfl | rfl | rfl | rfl <;> decide
  have b0 := b (c / 64) (by omega)
  have b1 := b (c / 16 % 4) (by omega)
  have b2 := b (c / 4 % 4) (by omega)
  have b3 := b (c % 4) (by omega)
  show 0 < ((c / 64 : Nat) : Int) * ((c / 64 : Nat) : Int) + ((c / 16 % 4 : Nat) : Int) * ((c / 16 % 4 : Nat) : Int) + ((c / 4 % 4 : Nat) : Int) * ((c / 4 % 4 : Nat) : Int) + ((c % 4 : Nat) : Int) * ((c % 4 : Nat) : Int) ∧ ((c / 64 : Nat) : Int) * ((c / 64 : Nat) : Int) + ((c / 16 % 4 : Nat) : Int) * ((c / 16 % 4 : Nat) : Int) + ((c / 4 % 4 : Nat) : Int) * ((c / 4 % 4 : Nat) : Int) + ((c % 4 : Nat) : Int) * ((c % 4 : Nat) : Int) ≤ 36
  generalize ((c / 64 : Nat) : Int) * ((c / 64 : Nat) : Int) = w0 at *
  generalize ((c / 16 % 4 : Nat) : Int) * ((c / 16 % 4 : Nat) : Int) = w1 at *
  generalize ((c / 4 % 4 : Nat) : Int) * ((c / 4 % 4 : Nat) : Int) = w2 at *
  generalize ((c % 4 : Nat) : Int) * ((c % 4 : Nat) : Int) = w3 at *
  omega
/-- the index of a turn -/
def tIx (A : Mi) (c : Nat) : Nat := (dtf (sF (mscl (trnO A (qc c)) A) (trnM A (qc c)) (dQ (trnM A (qc c))) kB)).natAbs
theorem tn_ent {A : Mi} (hA : LA (m3 A)) {q : Nat → Int} (h0 : 0 < ovQ q) (h36 : ovQ q ≤ 36) : ∀ i j, i < 3 → j < 3 → (tnP A (byM q) i j).natAbs ≤ 1247 * 36 := by
  obtain ⟨lq, g0⟩ := trn_LQ hA h0 h36
  obtain ⟨Q, pq⟩ := (trn_Ok hA h0 h36).pq
  obtain ⟨e1, _⟩ := pq.ent
  have e5 := lq.2.2.2.2.1
  rw [← tnP_m3, ← m3_mscl] at e5
  have gl : lsd (tnP A (byM q)) (ovQ q) ≤ 36 := by
    have := Nat.le_of_dvd (by omega) (lsd_dvd (tnP A (byM q)) (ovQ q)).2
    omega
  intro i j hi hj
  rw [← m3_at e5 i j hi hj]
  unfold mscl
  rw [Int.natAbs_mul, Int.natAbs_natCast, Nat.mul_comm]
  exact Nat.mul_le_mul (bdM_at (N := trnM A q) e1 hi hj) gl
theorem X3_indexOf {f : Nat} (hf : 2 ^ 63 ≤ f) {u : TS} {LS : LSt} (T : TV u LS) {k : Nat} {A : Mi} {n : Int} (hl : LS[k]? = some (A, n, false)) (LO : LatOk A n false) {c : Nat} (hc : c < 256) (h1 : 1 ≤ c) : ∃ u', m_X3_indexOf f u (ni k) (ni c) = some (li (tIx A c : Nat), u') ∧ tIx A c ≤ 2160 ∧ Fr QF u u' := by
  obtain ⟨e1, hA⟩ := LO.2 rfl
  subst e1
  obtain ⟨o0, o36⟩ := qc_ok c hc h1
  have T0 := (T.2.2 k A 1 false hl).1
  obtain ⟨v1, s1, s2, s3, s4⟩ := T0 f hf u (fun _ => rfl)
  obtain ⟨u1, a1, a2, a3, a4, a5, a6⟩ := X3_laysFirst (f := f) (by omega) s1 s2 s3 s4
  obtain ⟨u2, b1, b2, b3, b4⟩ := T0 f hf u1 (fun x => (a6 0 (by decide)).2.2.1 x)
  obtain ⟨u3, c1, c2, c3', c4⟩ := X3_laysTurn (f := f) (u := u2) (qc c)
  have te := tn_ent hA o0 o36
  obtain ⟨lq, g0⟩ := trn_LQ hA o0 o36
  obtain ⟨u4, d1, d2, d3, d4⟩ := X3_turns (f := f) hf (b2.fr c4 (by decide)) c2 c3' o0 ⟨by omega, by omega⟩ (fun i j hi hj => rg_nat.mpr (by have := te i j hi hj; omega)) g0
  have d2' : tR 18 u4 (trnM A (qc c)) := d2
  have d3' : tL u4 19 = li (trnO A (qc c)) := d3
  have LO2 := trn_Ok hA o0 o36
  have n2 := LO2.n
  have F14 : Fr [18, 19, 20] u1 u4 := (b4.mono (by decide)).tr ((c4.mono (by decide)).tr (d4.mono (by decide)))
  have e27 := a2.fr F14 (by decide)
  have e28 : tL u4 28 = li 1 := by rw [(F14 28 (by decide)).2.1]; exact a3
  obtain ⟨pq, p1, p2⟩ := pairPQ LO LO2 (fun h => by cases h.1)
  have bt : btw 1 (trnO A (qc c)) = trnO A (qc c) := btw_1l _
  obtain ⟨u5, x1, x2, x3, x4, x5, x6, x7⟩ := X3_laysOther (f := f) hf e27 e28 d2' d3' ⟨by omega, by omega⟩ ⟨by omega, by omega⟩ (by omega) (by omega) (by rw [bt]; exact ⟨by omega, by omega⟩)
  rw [bt] at x2 x3 pq
  rw [Int.tdiv_one, Int.tdiv_self (by omega)] at pq
  have m1e : m3 (mscl 1 (trnM A (qc c))) = m3 (trnM A (qc c)) := by rw [m3_mscl, smM_1]
  rw [m1e] at pq
  have x2' : tR 27 u5 (mscl (trnO A (qc c)) A) := x2.congr (fun i j _ _ => by unfold mscl; rw [Int.tdiv_one, Int.mul_comm])
  have x3' : tR 29 u5 (trnM A (qc c)) := x3.congr (fun i j _ _ => by rw [Int.tdiv_self (by omega), Int.mul_one])
  obtain ⟨_, m2, _, _, _, m6, _, m8, _⟩ := pq.mt
  obtain ⟨u6, y1, y2, y3⟩ := X3_tells (f := f) hf x2' x3' m2.1 m2.2.1 m2.2.2.1 m2.2.2.2
  obtain ⟨u7, z1', z2', z3'⟩ := cpy9 (fun n u x => m_X3_indexOf_50 f n u x) (fun u => m_X3_indexOf_74 f u) (a := 32) (b := 18) (by decide)
    (fun n v => by rw [m_X3_indexOf_50, if_pos le99])
    (fun n v k hk => by rw [m_X3_indexOf_50, if_neg (le9 hk), gd_of (ix_ni hk (by decide)), gd_of (ix_ni hk (by decide)), nmv_eq, nmv_eq, ni_clamp (by omega), ni_succ]) (show 12 < f by omega) y2
  have z2'' : tR 18 u7 (sF (mscl (trnO A (qc c)) A) (trnM A (qc c)) (dQ (trnM A (qc c))) kB) := z2'.congr (m3_at m6)
  rw [det_m3] at m8
  refine ⟨u7, ?_, m8, ?_⟩
  · unfold m_X3_indexOf
    rw [a1, bd_some, b1, bd_some]
    have w0 : Int32.toInt64 (ni c / 64) = li (qc c 0) := by rw [show (64 : Int32) = ni 64 from rfl, ni_div (by omega) (by omega) (by omega), toL, ni_toInt (by omega)]; rfl
    have w1 : Int32.toInt64 (rmI (ni c / 16) 4) = li (qc c 1) := by rw [show (16 : Int32) = ni 16 from rfl, show (4 : Int32) = ni 4 from rfl, ni_div (by omega) (by omega) (by omega), ni_mod (by omega) (by omega) (by omega), toL, ni_toInt (by omega)]; rfl
    have w2 : Int32.toInt64 (rmI (ni c / 4) 4) = li (qc c 2) := by rw [show (4 : Int32) = ni 4 from rfl, ni_div (by omega) (by omega) (by omega), ni_mod (by omega) (by omega) (by omega), toL, ni_toInt (by omega)]; rfl
    have w3 : Int32.toInt64 (rmI (ni c) 4) = li (qc c 3) := by rw [show (4 : Int32) = ni 4 from rfl, ni_mod (by omega) (by omega) (by omega), toL, ni_toInt (by omega)]; rfl
    have z1'' : m_X3_indexOf_50 f f u6 0 = _ := z1'
    rw [w0, w1, w2, w3, c1, bd_some, d1, bd_some, x1, bd_some, y1, bd_some, z1'']
    unfold m_X3_indexOf_74
    rw [X3_det (f := f) (by omega) z2'', bd2_some, sized_li (rg_nat.mpr (by omega)), bd_some]
    rfl
  · exact ((a6.mono (by decide)).tr (F14.mono (by decide))).tr ((x7.mono (by decide)).tr ((y3.mono (by decide)).tr (z3'.mono (by decide))))
