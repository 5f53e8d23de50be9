/-! acts: the component changes rows -/
set_option maxRecDepth 100000
theorem X0_checks {f : Nat} (hf : 4 ≤ f) {h : CH} (w : wfh h) {R : RA} {M : Mi} (hR : isN h R M) {i : Nat} (hi : i < 3) (h2 : ∀ r c, r < 3 → c < 3 → (M r c).natAbs ≤ 2000) : (knd M i = 0 → m_X0_checks f h R.1 (ni i) = some (.inl (), h)) ∧ (knd M i ≠ 0 → ∃ h' gs, m_X0_checks f h R.1 (ni i) = some (.inr h.1, h') ∧ cm h' h.1 = some (.inl (hCl (ni (knd M i)), gs)) ∧ gs[0]? = some (.int (ni i)) ∧ Ext 1 7 h h') := by
  have dr := dtf_rg (Nat.le_refl _) h2
  have step : ∀ m c, c < 3 → m_X0_checks_2 f (m + 1) h R.1 (ni i) (ni c) = if (M i c).natAbs ≤ 20 then m_X0_checks_2 f m h R.1 (ni i) (ni (c + 1)) else m_X0_checks_25 f h (ni i) := fun m c hc => by
    have b := h2 i c hi hc
    rw [m_X0_checks_2, if_neg (le3 hc), oR_R hR, bd_some, aR_R hR hi, bd_some, aL_R hR hi hc, bd_some]
    show bd (m_J9_abs f (li (M i c))) _ = _
    rw [abs_li (rg_nat.mpr (by omega)), bd_some, nmv_eq, ni_succ]
    by_cases h20 : (M i c).natAbs ≤ 20
    · rw [if_pos h20, if_pos (show li ((M i c).natAbs : Nat) ≤ (20 : Int64) from (li_le (y := 20) (rg_nat.mpr (by omega)) (rg_sm (by omega) (by omega))).mpr (by omega))]
    · rw [if_neg h20, if_neg (show ¬ li ((M i c).natAbs : Nat) ≤ (20 : Int64) from fun hh => by have := (li_le (y := 20) (rg_nat.mpr (by omega)) (rg_sm (by omega) (by omega))).mp hh; omega)]
  have wide : ∃ h' gs, m_X0_checks_25 f h (ni i) = some (.inr h.1, h') ∧ cm h' h.1 = some (.inl (13, gs)) ∧ gs[0]? = some (.int (ni i)) ∧ Ext 1 7 h h' := by
    obtain ⟨h', p1, ⟨gs, p2, p3'⟩, p4⟩ := X14_new (f := f) w (ni i)
    refine ⟨h', gs, ?_, p2, p3', p4⟩
    unfold m_X0_checks_25 m_X0_checks_28 m_X0_checks_33
    rw [nmv_eq, nmv_eq, p1, bd_some, gd_of (isC_c p2)]
  have e0 : m_X0_checks f h R.1 (ni i) = m_X0_checks_2 f f h R.1 (ni i) (ni 0) := rfl
  obtain ⟨m, hm⟩ : ∃ z, f = z + 4 := ⟨f - 4, by omega⟩
  have e1 : m_X0_checks f h R.1 (ni i) = if (M i 0).natAbs ≤ 20 then (if (M i 1).natAbs ≤ 20 then (if (M i 2).natAbs ≤ 20 then m_X0_checks_40 f h R.1 (ni i) else m_X0_checks_25 f h (ni i)) else m_X0_checks_25 f h (ni i)) else m_X0_checks_25 f h (ni i) := by
    rw [e0]
    have s0 := step (m + 3) 0 (by decide)
    have s1 := step (m + 2) 1 (by decide)
    have s2 := step (m + 1) 2 (by decide)
    have s3 : m_X0_checks_2 f (m + 1) h R.1 (ni i) (ni 3) = m_X0_checks_40 f h R.1 (ni i) := by rw [m_X0_checks_2, if_pos le33]
    have e4 : m_X0_checks_2 f f h R.1 (ni i) (ni 0) = m_X0_checks_2 f (m + 3 + 1) h R.1 (ni i) (ni 0) := congrArg (fun z => m_X0_checks_2 f z h R.1 (ni i) (ni 0)) hm
    rw [e4, s0, s1, s2, s3]
  have e40 : m_X0_checks_40 f h R.1 (ni i) = if 1 ≤ (dtf M).natAbs ∧ (dtf M).natAbs ≤ 60 then some (.inl (), h) else m_X0_checks_60 f (cn h 7 (.inl (14, [.int 0, .null, .null, .null, .null, .null, .int 0]))) (ni i) h.1 := by
    unfold m_X0_checks_40 m_X0_checks_44
    rw [gd_of (isC_R hR), X2_determinant hR, bd2_some, abs_li (rg_nat.mpr (by omega)), bd_some, show (1 : Int64) = li 1 from rfl, show (60 : Int64) = li 60 from rfl, isIn_li (rg_nat.mpr (by omega)) (rg_sm (by omega) (by omega)) (rg_sm (by omega) (by omega)), bd_some, nmv_eq, nmv_eq]
    by_cases hd : 1 ≤ (dtf M).natAbs ∧ (dtf M).natAbs ≤ 60
    · rw [if_pos hd, if_pos (show inI ((dtf M).natAbs : Nat) 1 60 = true from decide_eq_true (by omega)), if_pos (show ¬ (1 : Int32) = 0 by decide)]
    · rw [if_neg hd, if_neg (show ¬ inI ((dtf M).natAbs : Nat) 1 60 = true from fun hh => hd (by have := of_decide_eq_true hh; omega)), if_neg (fun hh => hh rfl)]
  rw [e1]
  by_cases hw : 20 < (M i 0).natAbs ∨ 20 < (M i 1).natAbs ∨ 20 < (M i 2).natAbs
  · have ek : knd M i = 1 := by unfold knd; rw [if_pos hw]
    rw [ek]
    refine ⟨fun hh => (by cases hh), fun _ => ?_⟩
    obtain ⟨h', gs, p1, p2⟩ := wide
    refine ⟨h', gs, ?_, p2⟩
    split
    · split
      · split
        · omega
        · exact p1
      · exact p1
    · exact p1
  · rw [if_pos (by omega), if_pos (by omega), if_pos (by omega), e40]
    by_cases hd : 1 ≤ (dtf M).natAbs ∧ (dtf M).natAbs ≤ 60
    · have ek : knd M i = 0 := by unfold knd; rw [if_neg hw, if_pos hd]
      rw [if_pos hd, ek]
      exact ⟨fun _ => rfl, fun hh => absurd rfl hh⟩
    · have ek : knd M i = 2 := by unfold knd; rw [if_neg hw, if_neg hd]
      rw [if_neg hd, ek]
      refine ⟨fun hh => (by cases hh), fun _ => ?_⟩
      obtain ⟨h', p1, ⟨gs, p2, p3'⟩, p4⟩ := X15_new (f := f) w (ni i)
      refine ⟨h', gs, ?_, p2, p3', p4⟩
      unfold m_X0_checks_60 m_X0_checks_65
      rw [p1, bd_some, gd_of (isC_c p2)]
theorem nd_inj {l : List Nat} (nd : l.Nodup) {i j : Nat} (hi : i < l.length) (hj : j < l.length) (e : l[i] = l[j]) : i = j := by
  have pg := List.pairwise_iff_getElem.mp nd
  rcases Nat.lt_trichotomy i j with h | h | h
  · exact absurd e (pg i j hi hj h)
  · exact h
  · exact absurd e.symm (pg j i hj hi h)
/-- an act writes: the acts' list, one lattice -/
def aS (A : Nat → Nat) (a : Nat) : Nat → Prop := fun q => q = A 21 ∨ q = A 22 ∨ q = a
theorem isN.ct {k n : Nat} {h h1 : CH} {A : Nat → Nat} {a lo : Nat} (m : Mod (aS A a) k n h h1) (w : wfh h) {R0 : Nat} (ca : cm h a = some (.inl (6, [.ref R0]))) {mc : Int32} {E z : Value} (c1 : A 21 < lo) (c2 : A 22 < lo) {R : RA} {N : Mi} (H : isN h R N) (hR : nwO lo R) : isN h1 R N := by
  refine H.mod m w (fun hs => ?_) (fun hs => ?_) (fun i hi hs => ?_)
  · rcases hs with e | e | e
    · have := hR.1; omega
    · have := hR.1; omega
    · have h1 := H.1; rw [e, ca] at h1; cases h1
  · rcases hs with e | e | e
    · have := hR.2.1; omega
    · have := hR.2.1; omega
    · have h1 := H.2.1; rw [e, ca] at h1; cases h1
  · rcases hs with e | e | e
    · have := hR.2.2 i hi; omega
    · have := hR.2.2 i hi; omega
    · have h1 := H.2.2.1 i hi; rw [e, ca] at h1; cases h1
/-- a cell at lo or above, of another kind, stays -/
theorem ct_at {k n : Nat} {h h1 : CH} {A : Nat → Nat} {a lo : Nat} (m : Mod (aS A a) k n h h1) (w : wfh h) {R0 : Nat} (ca : cm h a = some (.inl (6, [.ref R0]))) (c1 : A 21 < lo) (c2 : A 22 < lo) {q ci : Nat} {fs : List Value} (hq : cm h q = some (.inl (ci, fs))) (hl : lo ≤ q) (hc : ci ≠ 6) : cm h1 q = some (.inl (ci, fs)) := by
  refine m.at w hq (fun hs => ?_)
  rcases hs with e | e | e
  · omega
  · omega
  · rw [e, ca] at hq; cases hq; exact hc rfl
theorem isL_obj {h : CH} {a E c : Nat} {xs : List Nat} (hL : isL h a E c xs) {ci : Nat} {fs : List Value} (hc : cm h a = some (.inl (ci, fs))) : ci = 17 := by
  obtain ⟨mc, e⟩ := hL.1
  rw [e] at hc; cases hc; rfl
theorem isL_arr {h : CH} {a E c : Nat} {xs : List Nat} (hL : isL h a E c xs) {ci : Nat} {fs : List Value} (hc : cm h E = some (.inl (ci, fs))) : False := by
  rcases hL.2.2.2.2 with ⟨_, _, e, _⟩ | ⟨_, e⟩ <;> (rw [e] at hc; cases hc)
theorem CIv.act {h h1 : CH} {A : Nat → Nat} {lo : Nat} {al : List Nat} (O : AOk A lo al) {b : Nat → Nat} {n : Nat} {fk fp : Int32} {ts : List It} {W : Nat → Mi} {acts acts' : List Act} {wy : Why} {k' n' : Nat} (w : wfh h) (kf0 : kf h) (l0 : lo ≤ h.1) (n5 : n ≤ 500) {t1 t2 rf : Value} (c1 : cm h (A 23) = some (xC A (ni ts.length) (ni n) fk fp t1 t2 rf)) (cw : CWy h lo rf wy) (X : FX h A) {tf : Nat → Int32} (c2 : cm h (A 2) = some (.inr (2, 500, .inl tf))) (c3' : ∀ i, i < n → b i < 256 ∧ (tf i &&& 255) = ni (b i)) {fl : List Nat} (L : CL h A lo fl ts W) {acl0 : List Nat} (L0 : isL h (A 21) (A 22) 20 acl0) {k a R0 : Nat} (m : Mod (aS A a) k' n' h h1) (hk : k < ts.length) (ho : (ts.getD k ([], none)).2 = none) (ha : fl[k]? = some a) (hla : lo ≤ a) (ca : cm h a = some (.inl (6, [.ref R0]))) {R : RA} {M : Mi} (ca1 : cm h1 a = some (.inl (6, [.ref R.1]))) (hR : isN h1 R M) (nR : nwO lo R) {acl' : List Nat} (CA' : CA h1 A lo acl' acts') : CIv h1 A lo b n fk fp ts (updW W k M) acts' wy := by
  have lt : ∀ i, i < 30 → i ≠ 24 → A i < lo := fun i hi h4 => (O.2.1 _ (fA_i hi h4)).1
  have d1 := lt 21 (by decide) (by decide)
  have d2 := lt 22 (by decide) (by decide)
  have no : ∀ i, i < 30 → i ≠ 24 → i ≠ 21 → i ≠ 22 → ¬ aS A a (A i) := fun i hi h4 h1 h2 hs => by
    rcases hs with e | e | e
    · exact O.ne hi (by decide) h4 (by decide) h1 e
    · exact O.ne hi (by decide) h4 (by decide) h2 e
    · have := lt i hi h4; omega
  have hs : ∀ q, aS A a q → ∀ ci fs, cm h q = some (.inl (ci, fs)) → ∃ fs', cm h1 q = some (.inl (ci, fs')) := fun q hq ci fs hc => by
    rcases hq with rfl | rfl | rfl
    · have e := isL_obj L0 hc
      obtain ⟨mc, e1⟩ := CA'.1.1
      rw [e]; exact ⟨_, e1⟩
    · exact (isL_arr L0 hc).elim
    · rw [ca] at hc; cases hc; exact ⟨_, ca1⟩
  obtain ⟨p, hp⟩ := X.1
  refine ⟨m.wf, kf0.mod m, Nat.le_trans l0 m.ge, n5, ⟨t1, t2, rf, m.at w c1 (no 23 (by decide) (by decide) (by decide) (by decide)), ?_⟩, ?_, ⟨tf, m.at w c2 (no 2 (by decide) (by decide) (by decide) (by decide)), c3'⟩, ⟨fl, ?_⟩, acl', CA'⟩
  · cases wy with
    | none => exact cw
    | some v =>
      obtain ⟨a', k, l, r⟩ := v
      obtain ⟨q, c, fs, gs, a1, a2, a3, a4, a5, a6, a7, a8, a9, a10, a11⟩ := cw
      exact ⟨q, c, fs, gs, a1, a2, a3, a4, ct_at m w ca d1 d2 a5 a2 (by decide), a6, a7, a8, ct_at m w ca d1 d2 a9 a3 (by unfold hCl; split; decide; split <;> decide), a10, a11⟩
  · obtain ⟨_, ⟨F, v, m0, a1, a2, a3⟩, ⟨g, a4⟩, ⟨N, a5⟩, a6, a7⟩ := X
    refine ⟨⟨p, m.at w hp (no 3 (by decide) (by decide) (by decide) (by decide))⟩, ⟨F, v, m0, m.at w a1 (no 4 (by decide) (by decide) (by decide) (by decide)), a2.mod m w (no 25 (by decide) (by decide) (by decide) (by decide)) (no 26 (by decide) (by decide) (by decide) (by decide)) (fun i hi => no (27 + i) (by omega) (by omega) (by omega) (by omega)), m.at w a3 (no 5 (by decide) (by decide) (by decide) (by decide))⟩, ⟨g, a4.md m w (no 6 (by decide) (by decide) (by decide) (by decide)) (fun i hi => no (7 + i) (by omega) (by omega) (by omega) (by omega))⟩, ⟨N, a5.md m w (no 10 (by decide) (by decide) (by decide) (by decide)) (fun i hi => no (11 + i) (by omega) (by omega) (by omega) (by omega))⟩, m.at w a6 (no 14 (by decide) (by decide) (by decide) (by decide)), fun k hk => ?_⟩
    obtain ⟨r, b1, b2⟩ := a7 k hk
    exact ⟨r, m.at w b1 (no (15 + k) (by omega) (by omega) (by omega) (by omega)), b2⟩
  · obtain ⟨q1, q2, q3, q4⟩ := L
    refine ⟨q1.mod m w kf0.kok (no 0 (by decide) (by decide) (by decide) (by decide)) (no 1 (by decide) (by decide) (by decide) (by decide)) hs, q2, q3, fun z it hz => ?_⟩
    obtain ⟨az, z1', z2', z3'⟩ := q4 z it hz
    refine ⟨az, z1', z2', ?_⟩
    have hzl : z < ts.length := (List.getElem?_eq_some_iff.mp hz).1
    unfold cLt at z3' ⊢
    by_cases hzk : z = k
    · subst hzk
      have eit : it = ts.getD z ([], none) := by rw [List.getD_eq_getElem?_getD, hz]; rfl
      rw [eit, ho]
      rw [ha] at z1'
      cases z1'
      refine ⟨R, ⟨ca1, ?_⟩, nR⟩
      unfold updW; rw [if_pos rfl]; exact hR
    · have naz : az ≠ a := fun e => hzk (by
        subst e
        obtain ⟨g1, g2⟩ := List.getElem?_eq_some_iff.mp z1'
        obtain ⟨g3, g4⟩ := List.getElem?_eq_some_iff.mp ha
        exact nd_inj q3 g1 g3 (g2.trans g4.symm))
      have nS' : ¬ aS A a az := fun hs => by
        rcases hs with e | e | e
        · omega
        · omega
        · exact naz e
      cases hq : it.2 with
      | none =>
        rw [hq] at z3'
        obtain ⟨R', o1, o2⟩ := z3'
        refine ⟨R', ⟨m.at w o1.1 nS', ?_⟩, o2⟩
        unfold updW; rw [if_neg hzk]
        exact isN.ct (mc := 0) (E := .null) (z := .null) m w ca d1 d2 o1.2 o2
      | some j =>
        rw [hq] at z3'
        obtain ⟨b', T, o1, ⟨r0, o2, o2'⟩, o3⟩ := z3'
        exact ⟨b', T, o1, ⟨r0, m.at w o2 nS', isN.ct (mc := 0) (E := .null) (z := .null) m w ca d1 d2 o2' o3⟩, o3⟩
