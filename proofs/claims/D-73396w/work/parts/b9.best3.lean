/-! the best plane: the twin's loop; both -/
set_option maxRecDepth 100000
theorem cd343 : ∀ c, c < 343 → (ni c / 49) - 3 = vJ (c / 49) ∧ rmI (ni c / 7) 7 - 3 = vJ (c / 7 % 7) ∧ rmI (ni c) 7 - 3 = vJ (c % 7) := by
  intro c hc
  have e : ∀ q r : Nat, q < 1000 → r < 1000 → 0 < r → ni q / ni r = ni (q / r) := fun q r hq hr h0 => by
    have hz := Nat.div_le_self q r
    apply Int32.toInt_inj.mp
    rw [Int32.toInt_div, ni_toInt (by omega), ni_toInt (by omega), tdiv_nat]
    generalize q / r = z at *
    rw [ni_toInt (by omega)]
    exact Int.bmod_eq_of_le (by omega) (by omega)
  have e2 : ∀ q r : Nat, q < 1000 → r < 1000 → 0 < r → rmI (ni q) (ni r) = ni (q % r) := fun q r hq hr h0 => by
    unfold rmI
    rw [e q r hq hr h0, ← Int32.ofNat_mul]
    have : ni q = ni (q % r) + ni (q / r * r) := by rw [aN_ni, Nat.mul_comm, Nat.mod_add_div]
    rw [this]
    exact Int32.add_sub_cancel _ _
  have s3 : ∀ q : Nat, ni q - 3 = vJ q := fun q => by unfold vJ; rw [Int32.sub_eq_add_neg]
  refine ⟨?_, ?_, ?_⟩
  · rw [show (49 : Int32) = ni 49 from rfl, e c 49 (by omega) (by omega) (by omega), s3]
  · rw [show (7 : Int32) = ni 7 from rfl, e c 7 (by omega) (by omega) (by omega), e2 _ 7 (by omega) (by omega) (by omega), s3]
  · rw [show (7 : Int32) = ni 7 from rfl, e2 _ 7 (by omega) (by omega) (by omega), s3]
theorem vJ_q : ∀ A, A < 7 → ((0 : Int32) < vJ A ↔ 0 < (A : Int) - 3) := by decide
theorem dv_cmp {D a b : Nat} (hD : 0 < D) (ha : a ∣ D) (hb : b ∣ D) : D / a ≤ D / b ↔ b ≤ a := by
  obtain ⟨x, hx⟩ := ha
  obtain ⟨y, hy⟩ := hb
  have a0 : 0 < a := Nat.pos_of_ne_zero (fun e => by subst e; omega)
  have b0 : 0 < b := Nat.pos_of_ne_zero (fun e => by subst e; omega)
  have x0 : 0 < x := Nat.pos_of_ne_zero (fun e => by subst e; omega)
  have y0 : 0 < y := Nat.pos_of_ne_zero (fun e => by subst e; omega)
  rw [show D / a = x by rw [hx, Nat.mul_div_cancel_left _ a0], show D / b = y by rw [hy, Nat.mul_div_cancel_left _ b0]]
  have e : a * x = b * y := by rw [← hx, hy]
  constructor
  · intro h
    rcases Nat.lt_or_ge a b with h1 | h1
    · have := Nat.mul_lt_mul_of_lt_of_le h1 h y0; omega
    · exact h1
  · intro h
    rcases Nat.lt_or_ge y x with h1 | h1
    · have := Nat.mul_lt_mul_of_le_of_lt h h1 (by omega); omega
    · exact h1
/-- which number of the least is kept -/
def lsN (D : Nat) (s : Nat × Int32) : Nat := if s.2 = -1 then 0 else D / s.1
def bInv (D : Nat) (s : Nat × Int32) : Prop := (s.1 = 0 ∧ s.2 = -1) ∨ (s.2 ≠ -1 ∧ 1 ≤ s.1 ∧ s.1 ∣ D)
theorem X3_b22 {f : Nat} (hf : 2 ^ 63 ≤ f) {h : CH} {x : Nat} {u0 : TS} {LS : LSt} (E0 : QE h x u0 LS) {k1 k2 : Nat} {M1 M2 : Mi} {n1 n2 : Int} {t1 t2 : Bool} (hl1 : LS[k1]? = some (M1, n1, t1)) (hl2 : LS[k2]? = some (M2, n2, t2)) (ht : ¬ (t1 = true ∧ t2 = true)) {D : Nat} {Lf : Nat → Nat → Nat → Nat} (hD : 1 ≤ D ∧ D ≤ 2160) (hL : ∀ A B C, A < 7 → B < 7 → C < 7 → nrB A B C = true → LPl (mscl ((btw n1 n2).tdiv n1) M1) (mscl ((btw n1 n2).tdiv n2) M2) M1 (btw n1 n2) n1 (pJ A B C) D (Lf A B C)) : ∀ k n c u s, c + k = 343 → k < n → Fr QF u0 u → bInv D s → ∃ u', m_X3_best_22 f n u (ni k1) (ni k2) s.2 (li (lsN D s : Nat)) (ni c) = some ((brn Lf k c s).2, u') ∧ Fr QF u0 u' := by
  intro k
  induction k with
  | zero =>
    intro n c u s hc hn F hs
    obtain ⟨n, rfl⟩ : ∃ z, n = z + 1 := ⟨n - 1, by omega⟩
    have : c = 343 := by omega
    subst this
    refine ⟨u, ?_, F⟩
    rw [m_X3_best_22, if_pos (show (343 : Int32) ≤ ni 343 from lekk 343)]
    rfl
  | succ k ih =>
    intro n c u s hc hn F hs
    obtain ⟨n, rfl⟩ : ∃ z, n = z + 1 := ⟨n - 1, by omega⟩
    have c3' : c < 343 := by omega
    obtain ⟨v1, v2, v3'⟩ := cd343 c c3'
    rw [m_X3_best_22, if_neg (show ¬ (343 : Int32) ≤ ni c from lek (by decide) c3')]
    simp only [nmv_eq]
    rw [v1, v2, v3']
    have hA : c / 49 < 7 := by omega
    have hB : c / 7 % 7 < 7 := by omega
    have hC : c % 7 < 7 := by omega
    show ∃ u', _ = some ((brn Lf k (c + 1) (bpl Lf c s)).2, u') ∧ Fr QF u0 u'
    unfold bpl
    generalize c / 49 = A at *
    generalize c / 7 % 7 = B at *
    generalize c % 7 = C at *
    have go : ∀ u2 s2, Fr QF u0 u2 → bInv D s2 → ∃ u', m_X3_best_174 f (m_X3_best_22 f n) u2 (ni k1) (ni k2) s2.2 (li (lsN D s2 : Nat)) (ni c) = some ((brn Lf k (c + 1) s2).2, u') ∧ Fr QF u0 u' := fun u2 s2 F2 hs2 => by
      unfold m_X3_best_174
      rw [nmv_eq, ni_succ]
      exact ih n (c + 1) u2 s2 (by omega) (by omega) F2 hs2
    have core : ∀ (y : Bool), (nrB A B C = true ↔ y = true ∧ Nat.gcd (Nat.gcd ((A : Int) - 3).natAbs ((B : Int) - 3).natAbs) ((C : Int) - 3).natAbs = 1) → ∃ u', m_X3_best_90 f (m_X3_best_22 f n) u (ni k1) (ni k2) s.2 (li (lsN D s : Nat)) (ni c) (vJ A) (vJ B) (vJ C) (if y = true then 1 else 0) = some ((brn Lf k (c + 1) (if nrB A B C = true then (if s.1 < Lf A B C then (Lf A B C, cdJ A B C) else s) else s)).2, u') ∧ Fr QF u0 u' := fun y hy => by
      unfold m_X3_best_90
      cases y with
      | false =>
        have hN : ¬ nrB A B C = true := fun e => by have := (hy.mp e).1; cases this
        rw [iff0, if_neg hN]
        exact go u s F hs
      | true =>
        have g : ∀ Z : Nat, Z < 7 → rg ((Z : Int) - 3) := fun Z hZ => ⟨by omega, by omega⟩
        have h1 : Int.gcd ((A : Int) - 3) ((B : Int) - 3) < 2 ^ 63 := gcd_lt (rg_nat.mp (g A hA)) (rg_nat.mp (g B hB))
        have h2 : Int.gcd ((Int.gcd ((A : Int) - 3) ((B : Int) - 3) : Nat) : Int) ((C : Int) - 3) < 2 ^ 63 := gcd_lt (by rw [Int.natAbs_natCast]; exact h1) (rg_nat.mp (g C hC))
        rw [ift1, toL, toL, toL, vJ_t A hA, vJ_t B hB, vJ_t C hC, common_li hf (g A hA) (g B hB), bd_some, common_li hf (rg_nat.mpr (by rw [Int.natAbs_natCast]; exact h1)) (g C hC), bd_some]
        have eg : Int.gcd ((Int.gcd ((A : Int) - 3) ((B : Int) - 3) : Nat) : Int) ((C : Int) - 3) = Nat.gcd (Nat.gcd ((A : Int) - 3).natAbs ((B : Int) - 3).natAbs) ((C : Int) - 3).natAbs := rfl
        by_cases h9 : Int.gcd ((Int.gcd ((A : Int) - 3) ((B : Int) - 3) : Nat) : Int) ((C : Int) - 3) = 1
        · have hN : nrB A B C = true := hy.mpr ⟨rfl, by rw [← eg]; exact h9⟩
          rw [if_pos (show li _ = (1 : Int64) by rw [h9]; rfl), if_pos hN]
          have lp := hL A B C hA hB hC hN
          have Eu : QE h x u LS := E0.st (Ext.rf E0.1) F (by decide)
          obtain ⟨u2, s1, s2⟩ := X3_planarOf (f := f) hf Eu (a := vJ A) (b := vJ B) (c := vJ C) (p := pJ A B C) rfl rfl rfl (nrB_pl hA hB hC hN) hl1 hl2 ht rfl rfl rfl lp
          obtain ⟨_, _, _, l1, l2, _⟩ := lp
          rw [s1, bd2_some]
          have F2 := F.tr s2
          have e148 : m_X3_best_148 f (m_X3_best_22 f n) u2 (ni k1) (ni k2) (ni c) (vJ A) (vJ B) (vJ C) (li (D / Lf A B C : Nat)) = m_X3_best_174 f (m_X3_best_22 f n) u2 (ni k1) (ni k2) (cdJ A B C) (li (lsN D (Lf A B C, cdJ A B C) : Nat)) (ni c) := by
            unfold m_X3_best_148 lsN
            rw [nmv_eq, if_neg (cdJ_ne hA hB hC)]
            rfl
          have take := go u2 (Lf A B C, cdJ A B C) F2 (.inr ⟨cdJ_ne hA hB hC, l1, l2⟩)
          rcases hs with ⟨z1', z2'⟩ | ⟨z1', z2', z3'⟩
          · rw [if_pos z2', if_pos (show s.1 < Lf A B C by omega), e148]
            exact take
          · have el : lsN D s = D / s.1 := by unfold lsN; rw [if_neg z1']
            have b1 := Nat.div_le_self D s.1
            have b2 := Nat.div_le_self D (Lf A B C)
            have r1 : rg ((D / s.1 : Nat) : Int) := rg_nat.mpr (by rw [Int.natAbs_natCast]; omega)
            have r2 : rg ((D / Lf A B C : Nat) : Int) := rg_nat.mpr (by rw [Int.natAbs_natCast]; omega)
            rw [if_neg z1', el]
            by_cases hlt : s.1 < Lf A B C
            · rw [if_neg (fun e => by have := (li_le r1 r2).mp e; have := (dv_cmp (by omega) z3' l2).mp (by omega); omega), if_pos hlt, e148]
              exact take
            · rw [if_pos ((li_le r1 r2).mpr (by have := (dv_cmp (by omega) z3' l2).mpr (by omega); omega)), if_neg hlt, ← el]
              exact go u2 s F2 (.inr ⟨z1', z2', z3'⟩)
        · have hN : ¬ nrB A B C = true := fun e => h9 (by rw [eg]; exact (hy.mp e).2)
          rw [if_neg (show ¬ li _ = (1 : Int64) from fun e => h9 (by have := (li_inj (rg_nat.mpr (by rw [Int.natAbs_natCast]; exact h2)) rg_1).mp (show li _ = li 1 from e); omega)), if_neg hN]
          exact go u s F hs
    have nb : nrB A B C = true ↔ (decide (0 < (if A = 3 then (if B = 3 then (C : Int) - 3 else (B : Int) - 3) else (A : Int) - 3))) = true ∧ Nat.gcd (Nat.gcd ((A : Int) - 3).natAbs ((B : Int) - 3).natAbs) ((C : Int) - 3).natAbs = 1 := by
      unfold nrB
      rw [Bool.and_eq_true_iff, decide_eq_true_eq, decide_eq_true_eq]
    have yes : (0 < (if A = 3 then (if B = 3 then (C : Int) - 3 else (B : Int) - 3) else (A : Int) - 3)) → ∃ u', m_X3_best_85 f (m_X3_best_22 f n) u (ni k1) (ni k2) s.2 (li (lsN D s : Nat)) (ni c) (vJ A) (vJ B) (vJ C) = some ((brn Lf k (c + 1) (if nrB A B C = true then (if s.1 < Lf A B C then (Lf A B C, cdJ A B C) else s) else s)).2, u') ∧ Fr QF u0 u' := fun hp => by
      rw [decide_eq_true hp] at nb
      exact core true nb
    have no : ¬ (0 < (if A = 3 then (if B = 3 then (C : Int) - 3 else (B : Int) - 3) else (A : Int) - 3)) → ∃ u', m_X3_best_89 f (m_X3_best_22 f n) u (ni k1) (ni k2) s.2 (li (lsN D s : Nat)) (ni c) (vJ A) (vJ B) (vJ C) = some ((brn Lf k (c + 1) (if nrB A B C = true then (if s.1 < Lf A B C then (Lf A B C, cdJ A B C) else s) else s)).2, u') ∧ Fr QF u0 u' := fun hp => by
      rw [decide_eq_false hp] at nb
      exact core false nb
    by_cases a1 : 0 < (A : Int) - 3
    · rw [if_pos ((vJ_q A hA).mpr a1)]
      exact yes (by rw [if_neg (by omega)]; exact a1)
    · rw [if_neg (fun e => a1 ((vJ_q A hA).mp e))]
      by_cases a2 : A = 3
      · rw [if_neg (show ¬ ¬ vJ A = 0 from fun h => h ((vJ_0 A hA).mpr a2))]
        by_cases b1 : 0 < (B : Int) - 3
        · rw [if_pos ((vJ_q B hB).mpr b1)]
          exact yes (by rw [if_pos a2, if_neg (by omega)]; exact b1)
        · rw [if_neg (fun e => b1 ((vJ_q B hB).mp e))]
          by_cases b2 : B = 3
          · rw [if_neg (show ¬ ¬ vJ B = 0 from fun h => h ((vJ_0 B hB).mpr b2))]
            by_cases c1 : 0 < (C : Int) - 3
            · rw [if_neg (fun e => (vJ_p C hC).mp e c1)]
              exact yes (by rw [if_pos a2, if_pos b2]; exact c1)
            · rw [if_pos ((vJ_p C hC).mpr c1)]
              exact no (by rw [if_pos a2, if_pos b2]; exact c1)
          · rw [if_pos (show ¬ vJ B = 0 from fun e => b2 ((vJ_0 B hB).mp e))]
            exact no (by rw [if_pos a2, if_neg b2]; exact b1)
      · rw [if_pos (show ¬ vJ A = 0 from fun e => a2 ((vJ_0 A hA).mp e))]
        exact no (by rw [if_neg a2]; exact a1)

theorem q_best {f : Nat} (hf : 2 ^ 63 ≤ f) {h : CH} {x PL : Nat} {u : TS} {LS : LSt} (E : QE h x u LS) (P : QP h x PL LS) (l m : Int32) : QM (· = PL) (m_X0_best f h x l m) (m_X3_best f u l m) h u := by
  have E' := E
  obtain ⟨w, kf0, C, T, Lv⟩ := E
  unfold m_X0_best m_X3_best m_X0_best_6
  rw [gd_of C.isC]
  rcases ask_cases (f := f) E' l m with ⟨e1, e2⟩ | ⟨k1, k2, M1, n1, t1, M2, n2, t2, rfl, rfl, hk1, hk2, hl1, hl2, ⟨e1, e2⟩ | ⟨e1, e2, ht⟩⟩
  · rw [e1, e2, bd2_some, bd2_some]
    exact QM.mk (l := []) rfl rfl (Mod.rf w) (by omega) (by omega) Fr.rf (by decide) (fun q hq => by have e : q = PL := hq; rw [e]; exact P.2.1)
  · rw [e1, e2, bd2_some, bd2_some]
    exact QM.mk (l := []) rfl rfl (Mod.rf w) (by omega) (by omega) Fr.rf (by decide) (fun q hq => by have e : q = PL := hq; rw [e]; exact P.2.1)
  · rw [e1, e2, bd2_some, bd2_some, z_z, z_z]
    obtain ⟨P', Q', b', eP, eQ, eb, pq, b1, b2, ⟨a, h2, c1, ⟨R0, c2, c3'⟩, c4'⟩, _⟩ := meet_CT (f := f) hf E' hl1 hl2 ht
    have LO1 := Lv k1 M1 n1 t1 hl1
    have nn := LO1.n
    obtain ⟨X, _, _, _, _, _, _, y1, y2, y3, y4, y5, y6, _⟩ := told_div (n1 := n1) pq (by omega) (by rw [eb]; exact btw_dvd.1) eP
    obtain ⟨entG, _⟩ := mtC_ent pq
    obtain ⟨Qx, pqx⟩ := LO1.pq
    obtain ⟨ent1, _⟩ := pqx.ent
    -- the plain law at each plane
    have lay : ∀ A B C, A < 7 → B < 7 → C < 7 → nrB A B C = true → LPl P' Q' M1 b' n1 (pJ A B C) (dtf (sF P' Q' (dQ Q') kB)).natAbs (LfN (mscl ((mlt (lsO (mtC P' Q') b') n1).tdiv n1) M1) (mscl ((mlt (lsO (mtC P' Q') b') n1).tdiv (lsO (mtC P' Q') b')) (lsG (mtC P' Q') b')) A B C) ∧ 0 < gp (mscl ((mlt (lsO (mtC P' Q') b') n1).tdiv n1) M1) (pJ A B C) := fun A B C hA hB hC hN => by
      obtain ⟨pb, pz⟩ := isPl_ok (p := pJ A B C) (nrB_pl hA hB hC hN) rfl rfl rfl
      obtain ⟨D, Ln, lp⟩ := lay_pure pq (by omega) (by rw [eb]; exact btw_dvd.1) eP pz
      have lp' := lp
      obtain ⟨d0, _, _, _, _, l3, l4, _⟩ := lp
      have eL : LfN (mscl ((mlt (lsO (mtC P' Q') b') n1).tdiv n1) M1) (mscl ((mlt (lsO (mtC P' Q') b') n1).tdiv (lsO (mtC P' Q') b')) (lsG (mtC P' Q') b')) A B C = Ln := by
        unfold LfN
        rw [l3, Nat.mul_div_cancel _ l4]
      rw [eL, ← d0]
      exact ⟨lp', l4⟩
    obtain ⟨_, dD, _⟩ := pq.mt.2.2.2.2.2.2.2
    have dz : 1 ≤ (dtf (sF P' Q' (dQ Q') kB)).natAbs := by
      have hH := pq.mt.2.2.2.2.2.2.1
      have := H_pos hH
      rw [det_m3] at this
      omega
    have dl : (dtf (sF P' Q' (dQ Q') kB)).natAbs ≤ 2160 := by
      have := pq.mt.2.2.2.2.2.2.2.1
      rwa [det_m3] at this
    have eP0 := eP
    have eQ0 := eQ
    rw [eb] at eP0 eQ0
    obtain ⟨u', g1, g2⟩ := X3_b22 (f := f) hf E' hl1 hl2 ht ⟨dz, dl⟩ (fun A B C hA hB hC hN => by
      have := (lay A B C hA hB hC hN).1
      rw [← eP0, ← eQ0, ← eb]
      exact this) 343 f 0 u (0, -1) rfl (by omega) Fr.rf (.inl ⟨rfl, rfl⟩)
    have g1' : m_X3_best_22 f f u (ni k1) (ni k2) (-1) 0 0 = _ := g1
    rw [g1', gd_of C.isC, c1, bd2_some]
    have C2 := C.ext c4' w kf0.kok
    have kf2 := kf0.mod c4'
    unfold m_X0_best_19
    obtain ⟨a', a1', a2'⟩ := X0_at (f := f) C2 hl1
    rw [oL_c (k := 1) (x := li (lsO (mtC P' Q') b')) c2 rfl, bd_some, gd_of C2.isC, a1', bd2_some]
    unfold m_X0_best_31
    obtain ⟨h3, d1, d2⟩ := L_over (f := f) (by omega) c4'.wf a2'
    rw [d2 (fun r3 h2 => m_X0_best_34 f h2 x (ni k1) a (li (lsO (mtC P' Q') b')) r3)]
    have C3 := C2.ext d1 c4'.wf kf2.kok
    have kf3 := kf2.mod d1
    unfold m_X0_best_34
    have gz : Int.gcd (lsO (mtC P' Q') b') n1 ≠ 0 := fun e => by have := (Int.gcd_eq_zero_iff.mp e).1; omega
    have em : m_X0_multiple f (li (lsO (mtC P' Q') b')) (li n1) = some (li (mlt (lsO (mtC P' Q') b') n1)) := multiple_li ⟨by omega, by omega⟩ (by omega) gz
    rw [em, bd_some]
    generalize hF : mtC P' Q' = F at *
    generalize hmo : lsO F b' = mo at *
    generalize hG : lsG F b' = G at *
    generalize hov : mlt mo n1 = ov at *
    have gm : rg mo := ⟨by omega, by omega⟩
    have go : rg ov := ⟨by omega, by omega⟩
    obtain ⟨R1, h4, p1, p2, p3', _⟩ := X0_rowsBy (f := f) (by omega) d1.wf kf3.kok C3 hl1 (show rg n1 from ⟨by omega, by omega⟩) (by omega) go
    rw [gd_of C3.isC, p1, bd2_some]
    have p2' : isN h4 R1 (mscl (ov.tdiv n1) M1) := p2
    have e24 : Ext 30 78 h2 h4 := (d1.tr p3' (fun _ _ => id)).up (by omega) (by omega)
    have c2' := e24.at c4'.wf c2 id
    have c3'' := c3'.ext e24 c4'.wf
    unfold m_X0_best_46
    rw [oR_c (k := 0) (x := R0.1) c2' rfl, bd_some, oL_c (k := 1) (x := li mo) c2' rfl, bd_some, gd_of (nzL_li gm (by omega)), gd_of (isC_R c3''), li_div go gm]
    obtain ⟨h5, q1, q2, q3, _⟩ := X2_times_2 (f := f) (by omega) p3'.wf c3'' (ov.tdiv mo)
    rw [q1, bd2_some]
    have q2' : isN h5 (nwR h4) (mscl (ov.tdiv mo) G) := q2
    unfold m_X0_best_64
    have e05 : Ext 160 420 h h5 := ((c4'.tr e24 (fun _ _ => id)).tr q3 (fun _ _ => id)).up (by omega) (by omega)
    have tb : ∀ {y : Int}, 0 < y → (ov.tdiv y).natAbs ≤ 36 := fun {y} hy => Nat.le_trans (Int.natAbs_tdiv_le_natAbs _ _) (by omega)
    have en2 : ∀ {N : Mi} {y : Int} {B : Nat}, 0 < y → (∀ i j, i < 3 → j < 3 → (N i j).natAbs ≤ B) → ∀ i j, i < 3 → j < 3 → (mscl (ov.tdiv y) N i j).natAbs ≤ 36 * B := fun {N y B} hy hN i j hi hj => by
      unfold mscl; rw [Int.natAbs_mul]; exact Nat.mul_le_mul (tb hy) (hN i j hi hj)
    have e1247 : ∀ i j, i < 3 → j < 3 → (M1 i j).natAbs ≤ 1247 := fun i j hi hj => bdM_at ent1 hi hj
    obtain ⟨h6, r1, r2, r3⟩ := X0_b76 (f := f) (by omega) (LS := LS) (x := x) (PL := PL) (R1 := R1) (R2 := nwR h4) (en2 (show 0 < n1 by omega) e1247) (en2 y1 entG) (by decide) (by decide) (fun A B C hA hB hC hN => (lay A B C hA hB hC hN).2) 7 f 0 h5 (0, -1) rfl (by omega) ⟨q3.wf, ((kf3.mod p3').mod q3).kok, P.ext e05 w kf0.kok, p2'.ext q3 p3'.wf, q2'⟩ (by decide)
    have r1' : m_X0_best_76 f f h5 x R1.1 h4.1 0 (-1) (-3) = _ := r1
    rw [r1']
    refine QM.mk (l := QF) rfl rfl ((e05.mono (T := (· = PL)) (fun _ _ hh => hh.elim) (Nat.le_refl _) (Nat.le_refl _)).tr r2 (fun _ _ => id)) (by omega) (by omega) g2 (fun _ h => h) (fun q hq => by have e : q = PL := hq; rw [e]; exact r3)
