/-! the component: the index of a turn, whole -/
set_option maxRecDepth 100000
/-- the cells apart that the search writes -/
def AP (x a TA UA V : Nat) (t r : Nat → Nat) (R Rb : RA) : Prop := (∀ i k, i < 3 → k < 3 → R.2.2 i ≠ r k) ∧ (∀ i k, i < 3 → k < 3 → r i ≠ Rb.2.2 k) ∧ (∀ i, i < 3 → r i ≠ V) ∧ (∀ i k, i < 3 → k < 3 → R.2.2 i ≠ Rb.2.2 k) ∧ ∀ i, i < 3 → R.2.2 i ≠ V
theorem AP.r_R {x a TA UA V : Nat} {t r : Nat → Nat} {R Rb : RA} (h : AP x a TA UA V t r R Rb) : ∀ i k, i < 3 → k < 3 → R.2.2 i ≠ r k := h.1
theorem AP.r_b {x a TA UA V : Nat} {t r : Nat → Nat} {R Rb : RA} (h : AP x a TA UA V t r R Rb) : ∀ i k, i < 3 → k < 3 → r i ≠ Rb.2.2 k := h.2.1
theorem AP.r_V {x a TA UA V : Nat} {t r : Nat → Nat} {R Rb : RA} (h : AP x a TA UA V t r R Rb) : ∀ i, i < 3 → r i ≠ V := h.2.2.1
theorem AP.R_b {x a TA UA V : Nat} {t r : Nat → Nat} {R Rb : RA} (h : AP x a TA UA V t r R Rb) : ∀ i k, i < 3 → k < 3 → R.2.2 i ≠ Rb.2.2 k := h.2.2.2.1
theorem AP.R_V {x a TA UA V : Nat} {t r : Nat → Nat} {R Rb : RA} (h : AP x a TA UA V t r R Rb) : ∀ i, i < 3 → R.2.2 i ≠ V := h.2.2.2.2
def sB' (Rb : RA) (V a : Nat) : Nat → Prop := fun q => sS Rb V q ∨ q = a
theorem sm_no {h : CH} {a : Nat} {Rb : RA} {V : Nat} {m0 : Value} {F : Mi} {v : Nat → Int} (c1 : cm h a = some (.inl (2, [.ref Rb.1, .ref V, m0]))) (hR : isN h Rb F) (hV : cm h V = some (vcl v)) {q : Nat} {e : AC} (hq : cm h q = some e) (n1 : ∀ r, e ≠ .inr (1, 3, .inr (.inl r))) (n2 : ∀ fs, e ≠ .inl (2, fs)) : ¬ sB' Rb V a q := by
  rintro (h1 | h1)
  · rcases h1 with ⟨i, hi, h2⟩ | h2
    · rw [h2, hR.2.2.1 i hi] at hq; cases hq; exact n1 _ rfl
    · rw [h2, hV] at hq; cases hq; exact n1 _ rfl
  · rw [h1, c1] at hq; cases hq; exact n2 _ rfl
theorem QS.mod {S : Nat → Prop} {k n : Nat} {h h1 : CH} (w : wfh h) {x : Nat} {fs : List Value} {TA : Nat} {t : Nat → Nat} {g : Nat → Nat → Int32} {UA : Nat} {r : Nat → Nat} {N : Mi} (H : QS h x fs TA t g UA r N) (m : Mod S k n h h1) (n1 : ¬ S x) (n2 : ¬ S TA) (n3 : ∀ i, i < 3 → ¬ S (t i)) (n4 : ¬ S UA) (n5 : ∀ i, i < 3 → ¬ S (r i)) : QS h1 x fs TA t g UA r N := by
  obtain ⟨c1, c2, c3', c4, c5⟩ := H
  refine ⟨m.at w c1 n1, c2, c3', ⟨m.at w c4.1 n2, fun i hi => ?_, c4.2.2⟩, m.at w c5.1 n4, fun i hi => ?_, c5.2.2⟩
  · obtain ⟨rr, r1, r2⟩ := c4.2.1 i hi
    exact ⟨rr, m.at w r1 (n3 i hi), r2⟩
  · obtain ⟨rr, r1, r2⟩ := c5.2.1 i hi
    exact ⟨rr, m.at w r1 (n5 i hi), r2⟩
theorem QS.sm {k n : Nat} {h h1 : CH} (w : wfh h) {x : Nat} {fs : List Value} {TA : Nat} {t : Nat → Nat} {g : Nat → Nat → Int32} {UA : Nat} {r : Nat → Nat} {N A : Mi} {R Rb : RA} {a V : Nat} {m0 : Value} {F : Mi} {v : Nat → Int} (ap : AP x a TA UA V t r R Rb) (H : QS h x fs TA t g UA r N) (hA : isN h R A) (c1 : cm h a = some (.inl (2, [.ref Rb.1, .ref V, m0]))) (hR : isN h Rb F) (hV : cm h V = some (vcl v)) (m : Mod (sB' Rb V a) k n h h1) : QS h1 x fs TA t g UA r N ∧ isN h1 R A := by
  have no := fun {q : Nat} {e : AC} (hq : cm h q = some e) => sm_no c1 hR hV hq
  have H' := H
  obtain ⟨d1, d2, d3, d4, d5⟩ := H
  refine ⟨H'.mod w m (no d1 (fun _ => by simp) (fun _ => by simp)) (no d4.1 (fun _ => by simp) (fun _ => by simp)) (fun i hi => ?_) (no d5.1 (fun _ => by simp) (fun _ => by simp)) (fun i hi => ?_), hA.mod m w (no hA.1 (fun _ => by simp) (fun _ => by simp)) (no hA.2.1 (fun _ => by simp) (fun _ => by simp)) (fun i hi => ?_)⟩
  · obtain ⟨rr, r1, _⟩ := d4.2.1 i hi
    exact no r1 (fun _ => by simp) (fun _ => by simp)
  · rintro ((⟨k, hk, e⟩ | e) | e)
    · exact ap.r_b i k hi hk e
    · exact ap.r_V i hi e
    · obtain ⟨rr, r1, _⟩ := d5.2.1 i hi
      rw [e, c1] at r1; cases r1
  · rintro ((⟨k, hk, e⟩ | e) | e)
    · exact ap.R_b i k hi hk e
    · exact ap.R_V i hi e
    · have := hA.2.2.1 i hi
      rw [e, c1] at this; cases this
theorem X0_indexBy {f : Nat} (hf : 2 ^ 63 ≤ f) {x : Nat} {fs : List Value} {TA : Nat} {t : Nat → Nat} {UA : Nat} {r : Nat → Nat} {R Rb : RA} {A N : Mi} {a V : Nat} {m0 : Value} {F : Mi} {v : Nat → Int} (ap : AP x a TA UA V t r R Rb) (f7 : fs[7]? = some (.ref a)) {c : Nat} (hc : c < 256) (h1 : 1 ≤ c) (hA : LA (m3 A)) {h : CH} (w : wfh h) (S : QS h x fs TA t (gT (qc c)) UA r N) (hR : isN h R A) (c1 : cm h a = some (.inl (2, [.ref Rb.1, .ref V, m0]))) (hRb : isN h Rb F) (hV : cm h V = some (vcl v)) (hne : ∀ i, i < 3 → Rb.2.2 i ≠ V) : ∃ h' F' v' m', m_X0_indexBy f h x R.1 (li (ovQ (qc c))) = some (li (tIx A c : Nat), h') ∧ QS h' x fs TA t (gT (qc c)) UA r (tnP A (byM (qc c))) ∧ isN h' R A ∧ cm h' a = some (.inl (2, [.ref Rb.1, .ref V, m'])) ∧ isN h' Rb F' ∧ cm h' V = some (vcl v') ∧ Mod (fun q => tRow r q ∨ sB' Rb V a q) 0 0 h h' := by
  obtain ⟨o0, o36⟩ := qc_ok c hc h1
  obtain ⟨l1, l2, l3, l4, l5, l6⟩ := itk_law hA hc h1
  have hq : ∀ i j, i < 3 → j < 3 → (byM (qc c) i j).natAbs ≤ 1000 := fun i j hi hj => by
    have d : ∀ k, 0 ≤ qc c k ∧ qc c k ≤ 3 := fun k => by
      unfold qc
      split
      · omega
      · split
        · omega
        · split <;> omega
    have pr : ∀ k l, 0 ≤ qc c k * qc c l ∧ qc c k * qc c l ≤ 9 := fun k l => ⟨Int.mul_nonneg (d k).1 (d l).1, Int.mul_le_mul (d k).2 (d l).2 (d l).1 (by decide)⟩
    have p00 := pr 0 0; have p11 := pr 1 1; have p22 := pr 2 2; have p33 := pr 3 3
    have p12 := pr 1 2; have p03 := pr 0 3; have p13 := pr 1 3; have p02 := pr 0 2; have p23 := pr 2 3; have p01 := pr 0 1
    unfold byM
    rcases c3 hi with rfl | rfl | rfl <;> rcases c3 hj with rfl | rfl | rfl <;> simp <;> omega
  have vA1 := hA.2.2.2.1
  have vA2 := hA.2.2.2.2
  rw [det_m3] at vA1 vA2
  have gdA : rg (dtf A) := rg_nat.mpr (by omega)
  obtain ⟨h2, i1, i2, i3, i4⟩ := X0_i12 (f := f) (by omega) hq ap.r_R w S hR (li (ovQ (qc c))) (li ((dtf A).natAbs : Int))
  -- the small one stays
  obtain ⟨_, _, _, _, su⟩ := S
  have nr : ∀ {q : Nat} {e : AC}, cm h q = some e → (∀ r', e ≠ .inr (1, 3, .inr (.inl r'))) → ¬ tRow r q := fun {q e} hq he ⟨k, hk, e9⟩ => by
    obtain ⟨rr, r1, _⟩ := su.2.1 k hk
    rw [e9, r1] at hq; cases hq; exact he rr rfl
  have c2 := i4.at w c1 (nr c1 (fun _ => by simp))
  have hRb2 := hRb.mod i4 w (nr hRb.1 (fun _ => by simp)) (nr hRb.2.1 (fun _ => by simp)) (fun i hi ⟨k, hk, e⟩ => ap.r_b k i hk hi e.symm)
  have hV2 := i4.at w hV (fun ⟨k, hk, e⟩ => ap.r_V k hk e.symm)
  obtain ⟨h3, b1, b2, b3⟩ := X1_begins (f := f) (by omega) i4.wf c2 hRb2 hV2 hne (ovQ (qc c) * ((dtf A).natAbs : Int))
  have b3' : Mod (sB' Rb V a) 0 0 h2 h3 := b3
  obtain ⟨s3, r3⟩ := QS.sm i4.wf ap i2 i3 c2 hRb2 hV2 b3'
  have gm : rg (ovQ (qc c) * ((dtf A).natAbs : Int)) := ⟨by omega, by omega⟩
  -- the loop
  obtain ⟨h4, ⟨v4, p1, p2, p3', p4⟩, e4⟩ := loop3v (fun n u y => m_X0_indexBy_125 f n u x R.1 (li (ovQ (qc c))) (li ((dtf A).natAbs : Int)) y) (fun u => m_X0_indexBy_211 f u x (li (ovQ (qc c))) (li ((dtf A).natAbs : Int))) (fun i u => ∃ v', isSm u a Rb V (ovQ (qc c) * ((dtf A).natAbs : Int)) (itk (ovQ (qc c) * ((dtf A).natAbs : Int)) kB A (tnP A (byM (qc c))) (ovQ (qc c)) i) v' ∧ QS u x fs TA t (gT (qc c)) UA r (tnP A (byM (qc c))) ∧ isN u R A ∧ Mod (sB' Rb V a) 0 0 h2 u)
    (fun n u _ => by rw [m_X0_indexBy_125, if_pos le33])
    (fun n u i hi ⟨v', p1, p2, p3', p4⟩ => by
      obtain ⟨k1, k2⟩ := l4 i hi
      obtain ⟨u5, v5, t1, t2, t3⟩ := X1_takes (f := f) (by omega) gm l1 (k := kB) (by unfold kB; omega) p4.wf p1 _ k1
      have t3' : Mod (sB' Rb V a) 0 0 u u5 := t3.mono (fun _ _ h => .inl h) (Nat.le_refl _) (Nat.le_refl _)
      obtain ⟨y1, y2, y3, y4⟩ := p1
      obtain ⟨q5, r5⟩ := QS.sm p4.wf ap p2 p3' y1 y2 y3 t3'
      obtain ⟨u6, v6, w1, w2, w3⟩ := X1_takes (f := f) (by omega) gm l1 (k := kB) (by unfold kB; omega) t3.wf t2 _ k2
      have w3' : Mod (sB' Rb V a) 0 0 u5 u6 := w3.mono (fun _ _ h => .inl h) (Nat.le_refl _) (Nat.le_refl _)
      obtain ⟨z1', z2', z3', z4'⟩ := t2
      obtain ⟨q6, r6⟩ := QS.sm t3.wf ap q5 r5 z1' z2' z3' w3'
      refine ⟨u6, ?_, v6, w2, q6, r6, (p4.tr t3' (fun _ _ => id)).tr w3' (fun _ _ => id)⟩
      obtain ⟨d1, d2, d3, d4, d5⟩ := p2
      obtain ⟨e1, e2, e3, e4, e5⟩ := q5
      have l0 : aL u 1 (R.2.2 i) 0 = some (li (A i 0)) := aL_R p3' hi (j := 0) (by decide)
      have l1' : aL u 1 (R.2.2 i) 1 = some (li (A i 1)) := aL_R p3' hi (j := 1) (by decide)
      have l2' : aL u 1 (R.2.2 i) 2 = some (li (A i 2)) := aL_R p3' hi (j := 2) (by decide)
      have n0 : aL u5 1 (r i) 0 = some (li (tnP A (byM (qc c)) i 0)) := aL_U e5 hi (j := 0) (by decide)
      have n1 : aL u5 1 (r i) 1 = some (li (tnP A (byM (qc c)) i 1)) := aL_U e5 hi (j := 1) (by decide)
      have n2 : aL u5 1 (r i) 2 = some (li (tnP A (byM (qc c)) i 2)) := aL_U e5 hi (j := 2) (by decide)
      rw [m_X0_indexBy_125, if_neg (le3 hi)]
      simp only [oR_c (k := 7) (x := a) d1 f7, bd_some, oR_R p3', aR_R p3' hi, l0, l1', l2', gd_of (isC_c y1)]
      rw [li_mul, li_mul, li_mul, t1, bd_some]
      unfold m_X0_indexBy_171 m_X0_indexBy_205
      simp only [oR_c (k := 7) (x := a) e1 f7, oR_c (k := 9) (x := UA) e1 e3, bd_some, aR_U e5 hi, n0, n1, n2, gd_of (isC_c z1')]
      rw [w1, bd_some, nmv_eq, ni_succ])
    (show 4 ≤ f by omega) (v := h3) ⟨v, b2, s3, r3, b3'⟩
  obtain ⟨y1, y2, y3, y4⟩ := p1
  have p2' := p2
  obtain ⟨d1, d2, d3, d4, d5⟩ := p2
  refine ⟨h4, _, v4, _, ?_, p2', p3', y1, y2, y3, (i4.mono (fun _ _ h => .inl h) (Nat.le_refl _) (Nat.le_refl _)).tr (p4.mono (fun _ _ h => .inr h) (Nat.le_refl _) (Nat.le_refl _)) (fun _ _ => id)⟩
  unfold m_X0_indexBy
  rw [gd_of (isC_R hR), X2_determinant hR, bd2_some]
  unfold m_X0_indexBy_4
  obtain ⟨j1, j2, j3, j4, j5⟩ := i2
  rw [abs_li gdA, bd_some, i1]
  unfold m_X0_indexBy_111
  rw [oR_c (k := 7) (x := a) j1 f7, bd_some, gd_of (isC_c c2), li_mul, b1, bd_some]
  unfold m_X0_indexBy_122
  have e4' : m_X0_indexBy_125 f f h3 x R.1 (li (ovQ (qc c))) (li ((dtf A).natAbs : Int)) 0 = _ := e4
  rw [e4']
  unfold m_X0_indexBy_211
  rw [oR_c (k := 7) (x := a) d1 f7, bd_some, oR_c (k := 0) (x := Rb.1) y1 rfl, bd_some, gd_of (isC_R y2), X2_determinant y2, bd2_some]
  unfold m_X0_indexBy_229
  generalize hI : dtf (itk (ovQ (qc c) * ((dtf A).natAbs : Int)) kB A (tnP A (byM (qc c))) (ovQ (qc c)) 3) = I at *
  generalize hv : ovQ (qc c) = ov at *
  have vv1 : (1 : Int) ≤ ((dtf A).natAbs : Int) := by omega
  have vv2 : ((dtf A).natAbs : Int) ≤ 60 := by omega
  generalize ((dtf A).natAbs : Int) = vol at *
  have ov2 : ov * ov ≤ 36 * 36 := Int.mul_le_mul o36 o36 (by omega) (by omega)
  have ov20 : 0 < ov * ov := Int.mul_pos o0 o0
  have ov3 : ov * ov * ov ≤ 36 * 36 * 36 := Int.mul_le_mul ov2 o36 (by omega) (by omega)
  have ov30 : 0 < ov * ov * ov := Int.mul_pos ov20 o0
  have vol0 : 0 < vol := by omega
  have pr0 : 0 < ov * ov * ov * vol := Int.mul_pos ov30 vol0
  have pr1 : ov * ov * ov * vol ≤ 36 * 36 * 36 * 60 := Int.mul_le_mul ov3 (by omega) (by omega) (by omega)
  have t0 : (1 : Int) ≤ (tIx A c : Int) := by
    rcases Nat.eq_zero_or_pos (tIx A c) with e | e
    · rw [l5, e] at pr0; simp at pr0
    · omega
  have Ile : I ≤ ov * ov * ov * vol := by rw [l5]; have := Int.mul_le_mul_of_nonneg_right t0 (show 0 ≤ I by omega); omega
  rw [gd_of (nzL_li (show rg I from ⟨by omega, by omega⟩) (by omega)), li_mul, li_mul, li_mul, li_div (show rg (ov * ov * ov * vol) from ⟨by omega, by omega⟩) (show rg I from ⟨by omega, by omega⟩), l5, Int.mul_tdiv_cancel _ (by omega)]
