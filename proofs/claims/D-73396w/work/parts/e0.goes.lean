/-! ways: the component -/
set_option maxRecDepth 100000
def ordT (k j : Nat) : Nat := ([[0, 1, 2], [0, 2, 1], [1, 0, 2], [1, 2, 0], [2, 0, 1], [2, 1, 0]].getD k []).getD j 0
theorem ordT_lt : ∀ k, k < 6 → ∀ j, j < 3 → ordT k j < 3 := by decide
def sgb (w j : Nat) : Bool := decide (((ni w >>> (((2 : Int32) - ni j) &&& 31)) &&& (1 : Int32)) = (1 : Int32))
def goV (M : Mi) (w i j : Nat) : Int := if sgb w j = true then -(M i (ordT (w / 8) j)) else M i (ordT (w / 8) j)
def isOr (h : CH) (x OR : Nat) (o : Nat → Nat) : Prop := (∃ fs, cm h x = some (.inl (1, fs)) ∧ fs[12]? = some (.ref OR)) ∧ cm h OR = some (.inr (5, 6, .inr (.inr (fun j => if j < 6 then some (o j) else none)))) ∧ ∀ k, k < 6 → ∃ r, cm h (o k) = some (.inr (0, 3, .inl r)) ∧ ∀ j, j < 3 → r j = ni (ordT k j)
theorem isOr.ext {k n : Nat} {h h1 : CH} {x OR : Nat} {o : Nat → Nat} (H : isOr h x OR o) (m : Ext k n h h1) (w : wfh h) : isOr h1 x OR o := by
  obtain ⟨⟨fs, a1, a2⟩, a3, a4⟩ := H
  refine ⟨⟨fs, m.at w a1 id, a2⟩, m.at w a3 id, fun k hk => ?_⟩
  obtain ⟨r, b1, b2⟩ := a4 k hk
  exact ⟨r, m.at w b1 id, b2⟩
/-- one way takes all points of one to points of another one, of the same volume -/
def gPr (M1 : Mi) (n1 : Int) (M2 : Mi) (n2 : Int) (w : Nat) : Prop := (∀ i, i < 3 → hasP (m3 M2) n2 (v3 (goV M1 w i)) n1) ∧ ((dtf M1).natAbs : Int) * n2 * n2 * n2 = ((dtf M2).natAbs : Int) * n1 * n1 * n1
theorem LatOk.e {M : Mi} {n : Int} {tn : Bool} (h : LatOk M n tn) : (∀ i j, i < 3 → j < 3 → (M i j).natAbs ≤ 1247) ∧ (dtf M).natAbs ≤ 2799360 := by
  obtain ⟨Q, pq⟩ := h.pq
  have dl := pq.det_le
  rw [det_m3] at dl
  have n3 := n3_le h.n
  refine ⟨fun i j hi hj => bdM_at pq.ent.1 hi hj, ?_⟩
  omega
theorem goV_le {M : Mi} {n : Int} {tn : Bool} (h : LatOk M n tn) {w : Nat} (hw : w < 48) {i : Nat} (hi : i < 3) : ∀ j, j < 3 → (goV M w i j).natAbs ≤ 1247 := fun j hj => by
  have := h.e.1 i _ hi (ordT_lt (w / 8) (by omega) j hj)
  unfold goV
  split <;> omega
/-- a row as the way takes it, laid in the array -/
theorem X0_g34 {f : Nat} (hf : 4 ≤ f) {k25 : CH → Int32 → Nat → Nat → Nat → Nat → Nat → Int32 → Option (Int32 × CH)} {h0 : CH} (w0 : wfh h0) {R : RA} {M : Mi} (hR : isN h0 R M) {OA V : Nat} (hRV : ∀ i, i < 3 → R.2.2 i ≠ V) {r : Nat → Int32} {w : Nat} (hw : w < 48) (hO : cm h0 OA = some (.inr (0, 3, .inl r))) (hr : ∀ j, j < 3 → r j = ni (ordT (w / 8) j)) {v0 : Nat → Int} (hV : cm h0 V = some (vcl v0)) {i : Nat} (hi : i < 3) (a b : Nat) : ∃ h', m_X0_goes_34 f k25 f h0 (ni w) a b R.1 OA V (ni i) 0 = m_X0_goes_95 f k25 h' (ni w) a b R.1 OA V (ni i) ∧ cm h' V = some (vcl (goV M w i)) ∧ Mod (· = V) 0 0 h0 h' := by
  obtain ⟨h', ⟨p1, v, p2, pp⟩, q2⟩ := loop3v (fun n h y => m_X0_goes_34 f k25 n h (ni w) a b R.1 OA V (ni i) y) (fun h => m_X0_goes_95 f k25 h (ni w) a b R.1 OA V (ni i)) (fun j h => Mod (· = V) 0 0 h0 h ∧ ∃ v, cm h V = some (vcl v) ∧ ∀ z, z < j → v z = goV M w i z)
    (fun n v _ => by rw [m_X0_goes_34, if_pos le33])
    (fun m h j hj ⟨p1, v, p2, pp⟩ => by
      have hO' := p1.at w0 hO (fun e => by
        have e' : OA = V := e
        rw [e', hV] at hO; cases hO)
      have hR' : isN h R M := hR.mod p1 w0 (fun e => by
        have e' : R.1 = V := e
        have := hR.1; rw [e', hV] at this; cases this) (fun e => by
        have e' : R.2.1 = V := e
        have := hR.2.1; rw [e', hV] at this; cases this) (fun i hi e => hRV i hi e)
      have ot := ordT_lt (w / 8) (by omega) j hj
      have ai : aI h 0 OA (ni j) = some (ni (ordT (w / 8) j)) := by
        unfold aI; rw [hO']
        simp only [ix_ni hj (by decide), and_self, if_true]
        rw [ni_clamp (by omega), hr j hj]
      refine ⟨cs h V (vcl (vst v j (goV M w i j))), ?_, ?_, vst v j (goV M w i j), cm_cs_s _ _ _, fun z hz => ?_⟩
      · rw [m_X0_goes_34, if_neg (le3 hj)]
        cases hs : sgb w j with
        | false =>
          rw [if_pos (show ¬ _ from of_decide_eq_false hs), oR_R hR', bd_some, aR_R hR' hi, bd_some, ai, bd_some, aL_R hR' hi ot, bd_some]
          unfold m_X0_goes_88
          have eg : goV M w i j = M i (ordT (w / 8) j) := by unfold goV; rw [hs]; rfl
          rw [eg, show lM M i (ordT (w / 8) j) = li (M i (ordT (w / 8) j)) from rfl, uL_V p1.wf p2 hj, bd_some, nmv_eq, ni_succ]
        | true =>
          rw [if_neg (show ¬ ¬ _ from fun hn => hn (of_decide_eq_true hs)), oR_R hR', bd_some, aR_R hR' hi, bd_some, ai, bd_some, aL_R hR' hi ot, bd_some]
          unfold m_X0_goes_88
          have eg : goV M w i j = -(M i (ordT (w / 8) j)) := by unfold goV; rw [hs]; rfl
          rw [eg, show lM M i (ordT (w / 8) j) = li (M i (ordT (w / 8) j)) from rfl, li_neg, uL_V p1.wf p2 hj, bd_some, nmv_eq, ni_succ]
      · exact (p1.tr (Mod.cs (S := (· = V)) p1.wf p2 rfl) (fun _ _ => id))
      · unfold vst
        split
        · rename_i e; rw [e]
        · exact pp z (by omega))
    hf (v := h0) ⟨Mod.rf w0, v0, hV, fun z hz => by omega⟩
  exact ⟨h', q2, by rw [p2, vcl_congr pp], p1⟩
theorem X0_g25 {f : Nat} (hf : 4 ≤ f) {h0 : CH} (w0 : wfh h0) {a b : Nat} {M1 M2 : Mi} {n1 n2 : Int} {t1 t2 : Bool} (LO1 : LatOk M1 n1 t1) (LO2 : LatOk M2 n2 t2) (ha : isLt h0 a M1 n1 t1) (hb : isLt h0 b M2 n2 t2) {R : RA} (hR : isN h0 R M1) {OA : Nat} {r : Nat → Int32} {w : Nat} (hw : w < 48) (hO : cm h0 OA = some (.inr (0, 3, .inl r))) (hr : ∀ j, j < 3 → r j = ni (ordT (w / 8) j)) : ∀ k n i h, i + k = 3 → k < n → Ext (1 + 30 * i) (3 + 80 * i) h0 h → (∃ v, cm h h0.1 = some (vcl v)) → ∃ (g : Bool) (h' : CH), m_X0_goes_25 f n h (ni w) a b R.1 OA h0.1 (ni i) = some (if g = true then 1 else 0, h') ∧ (g = true ↔ (∀ j, i ≤ j → j < 3 → hasP (m3 M2) n2 (v3 (goV M1 w j)) n1) ∧ ((dtf M1).natAbs : Int) * n2 * n2 * n2 = ((dtf M2).natAbs : Int) * n1 * n1 * n1) ∧ Ext 120 320 h0 h' := by
  have b1 := LO1.n
  have b2 := LO2.n
  have d1 := LO1.e.2
  have d2 := LO2.e.2
  intro k
  induction k with
  | zero =>
    intro n i h hi hn e _
    obtain ⟨n, rfl⟩ : ∃ z, n = z + 1 := ⟨n - 1, by omega⟩
    have : i = 3 := by omega
    subst this
    rw [m_X0_goes_25, if_pos le33]
    unfold m_X0_goes_133
    obtain ⟨h4, c1, c2⟩ := L_over (f := f) (by omega) e.wf (ha.ext e w0)
    rw [c2 (fun r3 h2 => m_X0_goes_137 f h2 b R.1 r3)]
    unfold m_X0_goes_137
    have e4 := e.tr c1 (fun _ _ => id)
    obtain ⟨h5, c3', c4⟩ := L_over (f := f) (by omega) c1.wf (hb.ext e4 w0)
    rw [c4 (fun r3 h2 => m_X0_goes_143 f h2 b R.1 (li n1) r3)]
    unfold m_X0_goes_143
    have e5 := e4.tr c3' (fun _ _ => id)
    have hR5 := hR.ext e5 w0
    rw [gd_of (isC_R hR5), X2_determinant hR5, bd2_some]
    unfold m_X0_goes_150
    rw [abs_li (rg_nat.mpr (by omega)), bd_some]
    obtain ⟨R2, h6, f1, f2, f3⟩ := L_rows (f := f) (by omega) c3'.wf (hb.ext e5 w0)
    rw [f3 (fun a3 h2 => m_X0_goes_166 f h2 (li n1) (li ((dtf M1).natAbs : Int) * li n2 * li n2 * li n2) a3)]
    unfold m_X0_goes_166
    rw [gd_of (isC_R f1), X2_determinant f1, bd2_some]
    unfold m_X0_goes_169
    rw [abs_li (rg_nat.mpr (by omega)), bd_some, li_mul, li_mul, li_mul, li_mul, li_mul, li_mul]
    have bnd : ∀ (D : Nat) (n : Int), D ≤ 2799360 → 1 ≤ n ∧ n ≤ 36 → rg ((D : Int) * n * n * n) := fun D n hD hn => by
      refine rg_nat.mpr ?_
      rw [Int.natAbs_mul, Int.natAbs_mul, Int.natAbs_mul, Int.natAbs_natCast]
      have hn' : n.natAbs ≤ 36 := by omega
      exact Nat.lt_of_le_of_lt (Nat.mul_le_mul (Nat.mul_le_mul (Nat.mul_le_mul hD hn') hn') hn') (by decide)
    have g1 := bnd _ n2 d1 b2
    have g2 := bnd _ n1 d2 b1
    have e6 : Ext 120 320 h0 h6 := (e5.tr f2 (fun _ _ => id)).up (by omega) (by omega)
    by_cases hq : ((dtf M1).natAbs : Int) * n2 * n2 * n2 = ((dtf M2).natAbs : Int) * n1 * n1 * n1
    · rw [if_neg (show ¬ ¬ _ from fun hn => hn ((li_inj g1 g2).mpr hq))]
      exact ⟨true, h6, rfl, ⟨fun _ => ⟨fun j h1 h2 => by omega, hq⟩, fun _ => rfl⟩, e6⟩
    · rw [if_pos (show ¬ _ from fun hn => hq ((li_inj g1 g2).mp hn))]
      exact ⟨false, h6, rfl, ⟨fun hh => (by cases hh), fun hh => absurd hh.2 hq⟩, e6⟩
  | succ k ih =>
    intro n i h hi hn e ⟨v, hv⟩
    obtain ⟨n, rfl⟩ : ∃ z, n = z + 1 := ⟨n - 1, by omega⟩
    have i3' : i < 3 := by omega
    have hR' := hR.ext e w0
    have hRV : ∀ i, i < 3 → R.2.2 i ≠ h0.1 := fun i hi e9 => by have := (w0.1 _ _ (hR.2.2.1 i hi)).2; omega
    obtain ⟨h2, s1, s2, s3⟩ := X0_g34 (f := f) hf (k25 := m_X0_goes_25 f n) e.wf hR' hRV hw (e.at w0 hO id) hr hv i3' a b
    rw [m_X0_goes_25, if_neg (le3 i3'), s1]
    have e2 : Ext (1 + 30 * i) (3 + 80 * i) h0 h2 := (Ext.trn e s3 (fun q hq => by omega)).up (by omega) (by omega)
    unfold m_X0_goes_95
    obtain ⟨R2, h3, f1, f2, f3⟩ := L_rows (f := f) (by omega) s3.wf (hb.ext e2 w0)
    rw [f3 (fun a3 h2 => m_X0_goes_99 f (m_X0_goes_25 f n) h2 (ni w) a b R.1 OA h0.1 (ni i) a3)]
    have e3 := e2.tr f2 (fun _ _ => id)
    unfold m_X0_goes_99
    obtain ⟨h4, c1, c2⟩ := L_over (f := f) (by omega) f2.wf (hb.ext e3 w0)
    rw [c2 (fun r3 h2 => m_X0_goes_103 f (m_X0_goes_25 f n) h2 (ni w) a b R.1 OA h0.1 (ni i) R2.1 r3)]
    have e4 := e3.tr c1 (fun _ _ => id)
    unfold m_X0_goes_103
    have v4 := c1.at f2.wf (f2.at s3.wf s2 id) id
    have l0 : aL h4 1 h0.1 0 = some (li (goV M1 w i 0)) := aL_V v4 (j := 0) (by decide)
    have l1 : aL h4 1 h0.1 1 = some (li (goV M1 w i 1)) := aL_V v4 (j := 1) (by decide)
    have l2 : aL h4 1 h0.1 2 = some (li (goV M1 w i 2)) := aL_V v4 (j := 2) (by decide)
    rw [l0, bd_some, l1, bd_some, l2, bd_some]
    obtain ⟨h5, c3', c4⟩ := L_over (f := f) (by omega) c1.wf (ha.ext e4 w0)
    rw [c4 (fun r3 h2 => m_X0_goes_119 f (m_X0_goes_25 f n) h2 (ni w) a b R.1 OA h0.1 (ni i) R2.1 (li n2) (li (goV M1 w i 0)) (li (goV M1 w i 1)) (li (goV M1 w i 2)) r3)]
    have e5 := e4.tr c3' (fun _ _ => id)
    unfold m_X0_goes_119
    obtain ⟨g, h6, o1, o2, o3⟩ := have_C (f := f) hf c3'.wf LO2 ((f1.ext c1 f2.wf).ext c3' c1.wf) (p := goV M1 w i) (fun j hj => Nat.le_trans (goV_le LO1 hw i3' j hj) (by decide)) b1
    rw [o1, bd2_some]
    unfold m_X0_goes_122
    have e6 : Ext (1 + 30 * (i + 1)) (3 + 80 * (i + 1)) h0 h6 := (e5.tr o3 (fun _ _ => id)).up (by omega) (by omega)
    have v6 := o3.at c3'.wf (c3'.at c1.wf v4 id) id
    cases g with
    | false =>
      rw [niff0]
      refine ⟨false, h6, rfl, ⟨fun hh => (by cases hh), fun hh => ?_⟩, e6.up (by omega) (by omega)⟩
      have := o2.mpr (hh.1 i (Nat.le_refl _) i3')
      cases this
    | true =>
      rw [nift1, nmv_eq, ni_succ]
      obtain ⟨g', h', z1', z2', z3'⟩ := ih n (i + 1) h6 (by omega) (by omega) e6 ⟨_, v6⟩
      refine ⟨g', h', z1', z2'.trans ⟨fun hh => ⟨fun j h1 h2 => ?_, hh.2⟩, fun hh => ⟨fun j h1 h2 => hh.1 j (by omega) h2, hh.2⟩⟩, z3'⟩
      by_cases hji : j = i
      · rw [hji]; exact o2.mp rfl
      · exact hh.1 j (by omega) h2
theorem X0_goes {f : Nat} (hf : 4 ≤ f) {h : CH} (w0 : wfh h) {x OR : Nat} {o : Nat → Nat} (HO : isOr h x OR o) {a b : Nat} {M1 M2 : Mi} {n1 n2 : Int} {t1 t2 : Bool} (LO1 : LatOk M1 n1 t1) (LO2 : LatOk M2 n2 t2) (ha : isLt h a M1 n1 t1) (hb : isLt h b M2 n2 t2) {w : Nat} (hw : w < 48) : ∃ (g : Bool) (h' : CH), m_X0_goes f h x (ni w) a b = some (if g = true then 1 else 0, h') ∧ (g = true ↔ gPr M1 n1 M2 n2 w) ∧ Ext 140 400 h h' := by
  unfold m_X0_goes
  obtain ⟨R, h3, f1, f2, f3⟩ := L_rows (f := f) (by omega) w0 ha
  rw [f3 (fun a3 h2 => m_X0_goes_4 f h2 x (ni w) a b a3)]
  unfold m_X0_goes_4
  obtain ⟨⟨fs, o1, o2⟩, o3, o4⟩ := HO.ext f2 w0
  obtain ⟨r, r1, r2⟩ := o4 (w / 8) (by omega)
  have ar : aR h3 5 OR (ni w / 8) = some (o (w / 8)) := by
    rw [show (8 : Int32) = ni 8 from rfl, ni_div (by omega) (by omega) (by omega)]
    unfold aR aQ; rw [o3]
    simp only [ix_ni (show w / 8 < 6 by omega) (by decide), and_self, if_true]
    rw [ni_clamp (by omega), if_pos (by omega)]
  rw [oR_c o1 o2, bd_some, ar, bd_some, nmv_eq, nmv_eq]
  unfold m_X0_goes_20
  have e1 : Ext 1 3 h3 (cn h3 3 (.inr (1, 3, .inr (.inl (fun _ => 0))))) := Mod.cn f2.wf
  obtain ⟨g, h', z1', z2', z3'⟩ := X0_g25 (f := f) hf f2.wf LO1 LO2 (ha.ext f2 w0) (hb.ext f2 w0) f1 hw r1 r2 3 f 0 (cn h3 3 (.inr (1, 3, .inr (.inl (fun _ => 0))))) rfl (by omega) (e1.up (by omega) (by omega)) ⟨fun _ => 0, by rw [cm_cn_s, vcl_0]⟩
  exact ⟨g, h', z1', z2'.trans ⟨fun hh => ⟨fun i hi => hh.1 i (Nat.zero_le _) hi, hh.2⟩, fun hh => ⟨fun i _ hi => hh.1 i hi, hh.2⟩⟩, (f2.tr z3' (fun _ _ => id)).up (by omega) (by omega)⟩
