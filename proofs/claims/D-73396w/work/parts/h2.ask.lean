/-! questions keep all -/
set_option maxRecDepth 100000
theorem Inv_QP {h : CH} {A : Nat → Nat} {lo y : Nat} {al : List Nat} {b : Nat → Nat} {n : Nat} {fk fp : Int32} {ts : List It} {W : Nat → Mi} {acts : List Act} {wy : Why} (I : Inv h A lo y al b n fk fp ts W acts wy) : QP h (A 23) (A 3) (lsO' ts W) := by
  obtain ⟨O, ⟨w, kf0, _, _, ⟨t1, t2, rf, c1, _⟩, X, _, ⟨fl, L⟩, _⟩, P, _⟩ := I
  have m : Mod (· = A 3) 0 0 h (hid (· = A 3) h) := ⟨Nat.le_refl _, Nat.le_refl _, Nat.le_refl _, Nat.le_refl _, rfl, rfl, fun a _ hs => by rw [cm_hid, if_neg hs], hid_wf w⟩
  have p3 : A 3 < lo ∧ A 3 ∉ al := O.2.1 _ (fA_i (by decide) (by decide))
  have ne : ∀ i, i < 30 → i ≠ 24 → i ≠ 3 → ¬ (fun q => q = A 3) (A i) := fun i hi h4 h3 e => O.ne hi (by decide) h4 (by decide) h3 e
  have L1 := L.nw m w kf0.kok (lo := lo) (fun q hq => by have e : q = A 3 := hq; rw [e]; exact p3.1) (ne 0 (by decide) (by decide) (by decide)) (ne 1 (by decide) (by decide) (by decide)) (fun q hq ci fs hc => by
    have e : q = A 3 := hq
    obtain ⟨p, hp⟩ := X.1
    rw [e, hp] at hc; cases hc)
  exact ⟨⟨_, c1, rfl⟩, X.1, CL_CV P L1 (m.at w c1 (ne 23 (by decide) (by decide) (by decide))) rfl⟩
theorem Inv_n0 {h : CH} {A : Nat → Nat} {lo y : Nat} {al : List Nat} {b : Nat → Nat} {n : Nat} {fk fp : Int32} {ts : List It} {W : Nat → Mi} {acts : List Act} {wy : Why} (I : Inv h A lo y al b n fk fp ts W acts wy) : ¬ (fun q => q = A 3) 0 := fun e => I.1.2.2.2 (by have e' : 0 = A 3 := e; rw [e']; exact fA_i (by decide) (by decide))
/-- a question of the first kind -/
theorem ok_QA {α : Type} {h : CH} {A : Nat → Nat} {lo y : Nat} {al : List Nat} {b : Nat → Nat} {n : Nat} {fk fp : Int32} {ts : List It} {W : Nat → Mi} {acts : List Act} {wy : Why} (I : Inv h A lo y al b n fk fp ts W acts wy) {mc : Option (α × CH)} {mf : TS → Option (α × TS)} (Q : ∀ u, QE h (A 23) u (lsO' ts W) → QA mc (mf u) h u) : Ok mc (fun h1 => tcr h1 y mf) h A lo y al := by
  obtain ⟨u, H, T, E⟩ := Inv_QE I
  exact QH.ok I H T ((Q (rdU h y) (E.ag H.agr)).qh H) (fun q hq => hq.elim)
theorem ok_QM {α : Type} {h : CH} {A : Nat → Nat} {lo y : Nat} {al : List Nat} {b : Nat → Nat} {n : Nat} {fk fp : Int32} {ts : List It} {W : Nat → Mi} {acts : List Act} {wy : Why} (I : Inv h A lo y al b n fk fp ts W acts wy) {mc : Option (α × CH)} {mf : TS → Option (α × TS)} (Q : ∀ u, QE h (A 23) u (lsO' ts W) → QM (· = A 3) mc (mf u) h u) : Ok mc (fun h1 => tcr h1 y mf) h A lo y al := by
  obtain ⟨u, H, T, E⟩ := Inv_QE I
  have p3 : A 3 < lo ∧ A 3 ∉ al := I.1.2.1 _ (fA_i (by decide) (by decide))
  exact QH.ok I H T ((Q (rdU h y) (E.ag H.agr)).qh H (fun q hq e => p3.2 (by have e' : q = A 3 := e; rw [← e']; exact hq)) (Inv_n0 I)) (fun q hq => hq)
theorem Inv_Or {h : CH} {A : Nat → Nat} {lo y : Nat} {al : List Nat} {b : Nat → Nat} {n : Nat} {fk fp : Int32} {ts : List It} {W : Nat → Mi} {acts : List Act} {wy : Why} (I : Inv h A lo y al b n fk fp ts W acts wy) : isOr h (A 23) (A 14) (aO A) := by
  obtain ⟨O, ⟨w, kf0, _, _, ⟨t1, t2, rf, c1, _⟩, X, _⟩, _⟩ := I
  exact ⟨⟨_, c1, rfl⟩, X.2.2.2.2.1, X.2.2.2.2.2⟩
theorem ok_coset {f : Nat} (hf : 2 ^ 63 ≤ f) {h : CH} {A : Nat → Nat} {lo y : Nat} {al : List Nat} {b : Nat → Nat} {n : Nat} {fk fp : Int32} {ts : List It} {W : Nat → Mi} {acts : List Act} {wy : Why} (I : Inv h A lo y al b n fk fp ts W acts wy) (l m a c d e : Int32) : Ok (m_X0_coset f h (A 23) l m a c d e) (fun h1 => m_X3_coset f h1 y l m a c d e) h A lo y al := by
  obtain ⟨u, H, T, E⟩ := Inv_QE I
  exact QH.ok I H T (q_coset hf E H l m a c d e) (fun q hq => hq.elim)
theorem ok_symmetries {f : Nat} (hf : 2 ^ 63 ≤ f) {h : CH} {A : Nat → Nat} {lo y : Nat} {al : List Nat} {b : Nat → Nat} {n : Nat} {fk fp : Int32} {ts : List It} {W : Nat → Mi} {acts : List Act} {wy : Why} (I : Inv h A lo y al b n fk fp ts W acts wy) (l : Int32) : Ok (m_X0_symmetries f h (A 23) l) (fun h1 => m_X3_symmetries f h1 y l) h A lo y al := by
  obtain ⟨u, H, T, E⟩ := Inv_QE I
  exact QH.ok I H T (q_symmetries hf E (Inv_Or I) H l) (fun q hq => hq.elim)
theorem ok_takes {f : Nat} (hf : 2 ^ 63 ≤ f) {h : CH} {A : Nat → Nat} {lo y : Nat} {al : List Nat} {b : Nat → Nat} {n : Nat} {fk fp : Int32} {ts : List It} {W : Nat → Mi} {acts : List Act} {wy : Why} (I : Inv h A lo y al b n fk fp ts W acts wy) (l m : Int32) : Ok (m_X0_takes f h (A 23) l m) (fun h1 => m_X3_takes f h1 y l m) h A lo y al := by
  obtain ⟨u, H, T, E⟩ := Inv_QE I
  exact QH.ok I H T (q_takes hf E (Inv_Or I) H l m) (fun q hq => hq.elim)
/-- rows of a lattice lie above -/
theorem own_nw {h : CH} {A : Nat → Nat} {lo : Nat} {fl : List Nat} {ts : List It} {W : Nat → Mi} (L : CL h A lo fl ts W) {k a : Nat} (ha : fl[k]? = some a) {R : RA} {M : Mi} (hO : isOw h a R M) : ∀ i, i < 3 → lo ≤ R.2.2 i := fun i hi => by
  have hk : k < ts.length := by have := (List.getElem?_eq_some_iff.mp ha).1; have := L.2.1; omega
  obtain ⟨z, z1', z2', z3'⟩ := L.2.2.2 k (ts.getD k ([], none)) (by rw [List.getD_eq_getElem?_getD, List.getElem?_eq_getElem hk]; rfl)
  rw [ha] at z1'
  cases z1'
  unfold cLt at z3'
  cases hq : (ts.getD k ([], none)).2 with
  | none =>
    rw [hq] at z3'
    obtain ⟨R', o1, o2⟩ := z3'
    have e1 : R.1 = R'.1 := by
      have := hO.1.symm.trans o1.1
      simp only [Option.some.injEq, Sum.inl.injEq, Prod.mk.injEq, List.cons.injEq, Value.ref.injEq, true_and, and_true] at this
      exact this
    have e2 : R.2.1 = R'.2.1 := by
      have h1 := hO.2.1
      have h2 := o1.2.1
      rw [e1] at h1
      have := h1.symm.trans h2
      simp only [Option.some.injEq, Sum.inl.injEq, Prod.mk.injEq, List.cons.injEq, Value.ref.injEq, true_and, and_true] at this
      exact this
    have h1 := hO.2.2.1
    have h2 := o1.2.2.1
    rw [e2] at h1
    have e3 := h1.symm.trans h2
    simp only [Option.some.injEq, Sum.inr.injEq, Prod.mk.injEq, true_and] at e3
    have e4 := congrFun e3 i
    rw [if_pos hi, if_pos hi] at e4
    rw [Option.some.inj e4]; exact o2.2.2 i hi
  | some j =>
    rw [hq] at z3'
    obtain ⟨b', T, _, ⟨r0, o2, _⟩, _⟩ := z3'
    rw [hO.1] at o2; cases o2
theorem Inv_QTs {h : CH} {A : Nat → Nat} {lo y : Nat} {al : List Nat} {b : Nat → Nat} {n : Nat} {fk fp : Int32} {ts : List It} {W : Nat → Mi} {acts : List Act} {wy : Why} (I : Inv h A lo y al b n fk fp ts W acts wy) : ∃ fs, cm h (A 23) = some (.inl (1, fs)) ∧ (∃ t1 t2 rf, (.inl (1, fs) : AC) = xC A (ni ts.length) (ni n) fk fp t1 t2 rf ∧ CWy h lo rf wy) ∧ QTs (A 23) (A 4) (A 6) (A 10) (A 5) (aT A) (aU A) (aB A) fs h := by
  obtain ⟨O, ⟨w, kf0, _, _, ⟨t1, t2, rf, c1, cw⟩, X, _⟩, _⟩ := I
  obtain ⟨_, ⟨F, v, m0, a1, a2, a3⟩, ⟨g, a4⟩, ⟨N, a5⟩, _⟩ := X
  refine ⟨_, c1, ⟨t1, t2, rf, rfl, cw⟩, ⟨g, N, c1, rfl, rfl, a4, a5⟩, ⟨F, v, m0, a1, a2, a3⟩, rfl, by show 12 ≤ 15; decide, fun i hi => O.ne (by omega) (by decide) (by omega) (by decide) (by omega)⟩
theorem CL_at {f : Nat} {h : CH} {A : Nat → Nat} {lo : Nat} {fl : List Nat} {ts : List It} {W : Nat → Mi} (L : CL h A lo fl ts W) {fs : List Value} {x : Nat} (hx : cm h x = some (.inl (1, fs))) (h0 : fs[0]? = some (.ref (A 0))) {k : Nat} (hk : k < ts.length) : ∃ a, fl[k]? = some a ∧ lo ≤ a ∧ cLt h lo fl W k a (ts.getD k ([], none)) ∧ m_X0_at f h x (ni k) = some (a, h) := by
  obtain ⟨a, z1', z2', z3'⟩ := L.2.2.2 k (ts.getD k ([], none)) (by rw [List.getD_eq_getElem?_getD, List.getElem?_eq_getElem hk]; rfl)
  refine ⟨a, z1', z2', z3', ?_⟩
  have ic : isC h (A 0) 17 = true := by obtain ⟨⟨mc, l1⟩, _⟩ := L.1; unfold isC; rw [l1]; rfl
  unfold m_X0_at m_X0_at_8
  rw [oR_c hx h0, bd_some, gd_of ic, J2_get L.1 z1', bd2_some]
  unfold cLt at z3'
  cases hq : (ts.getD k ([], none)).2 with
  | none =>
    rw [hq] at z3'
    obtain ⟨R, o1, _⟩ := z3'
    rw [if_pos (show isC h a 6 = true by unfold isC; rw [o1.1]; rfl)]
  | some j =>
    rw [hq] at z3'
    obtain ⟨b', T, _, ⟨r0, o2, _⟩, _⟩ := z3'
    rw [if_neg (show ¬ isC h a 6 = true from fun hh => by unfold isC at hh; rw [o2] at hh; cases hh), gd_of (show isC h a 7 = true by unfold isC; rw [o2]; rfl)]
theorem Inv_AP {f : Nat} {h : CH} {A : Nat → Nat} {lo y : Nat} {al : List Nat} {b : Nat → Nat} {n : Nat} {fk fp : Int32} {ts : List It} {W : Nat → Mi} {acts : List Act} {wy : Why} (I : Inv h A lo y al b n fk fp ts W acts wy) : ∀ k z M R, k < (lsO' ts W).length → m_X0_at f h (A 23) (ni k) = some (z, h) → isOw h z R M → AP (A 23) (A 4) (A 6) (A 10) (A 5) (aT A) (aU A) R (aB A) := fun k z M R hk hm hO => by
  obtain ⟨O, ⟨w, kf0, _, _, ⟨t1, t2, rf, c1, cw⟩, X, _, ⟨fl, L⟩, _⟩, _⟩ := I
  rw [lsO_len] at hk
  obtain ⟨a, z1', z2', z3', z4'⟩ := CL_at (f := f) L c1 rfl hk
  rw [hm] at z4'
  cases z4'
  have nw := own_nw L z1' hO
  have lt : ∀ i, i < 30 → i ≠ 24 → A i < lo := fun i hi h4 => (O.2.1 _ (fA_i hi h4)).1
  refine ⟨fun i k hi hk => ?_, fun i k hi hk => ?_, fun i hi => ?_, fun i k hi hk => ?_, fun i hi => ?_⟩
  · have := nw i hi; have := lt (11 + k) (by omega) (by omega); show R.2.2 i ≠ A (11 + k); omega
  · exact O.ne (by omega) (by omega) (by omega) (by omega) (by omega)
  · exact O.ne (by omega) (by decide) (by omega) (by decide) (by omega)
  · have := nw i hi; have := lt (27 + k) (by omega) (by omega); show R.2.2 i ≠ A (27 + k); omega
  · have := nw i hi; have := lt 5 (by decide) (by decide); omega
/-- a search keeps all -/
theorem QU.ok {α : Type} {h : CH} {A : Nat → Nat} {lo y : Nat} {al : List Nat} {b : Nat → Nat} {n : Nat} {fk fp : Int32} {ts : List It} {W : Nat → Mi} {acts : List Act} {wy : Why} (I : Inv h A lo y al b n fk fp ts W acts wy) {mc : Option (α × CH)} {mf : TS → Option (α × TS)} (Q : ∀ u fs, QE h (A 23) u (lsO' ts W) → QTs (A 23) (A 4) (A 6) (A 10) (A 5) (aT A) (aU A) (aB A) fs h → QU (A 23) (A 4) (A 6) (A 10) (A 5) (aT A) (aU A) (aB A) fs mc (mf u) h u) : Ok mc (fun h1 => tcr h1 y mf) h A lo y al := by
  obtain ⟨u, H, T, E⟩ := Inv_QE I
  obtain ⟨fs, c0, ⟨t1, t2, rf, ex, cw⟩, QT⟩ := Inv_QTs I
  obtain ⟨v, h1, u1, fs', a1, a2, a3, a4, a5, a6, a7⟩ := Q (rdU h y) fs (E.ag H.agr) QT
  obtain ⟨O, C, P, _⟩ := I
  have lt : ∀ i, i < 30 → i ≠ 24 → A i < lo ∧ A i ∉ al := fun i hi h4 => O.2.1 _ (fA_i hi h4)
  -- the cells that it writes
  have sub : ∀ q, sT (A 23) (A 4) (A 5) (aT A) (aU A) (aB A) q → ∃ i, i < 30 ∧ i ≠ 24 ∧ q = A i ∧ (i = 23 ∨ i = 4 ∨ i = 5 ∨ (7 ≤ i ∧ i < 10) ∨ (11 ≤ i ∧ i < 14) ∨ 27 ≤ i) := fun q hq => by
    rcases hq with hq | ⟨i, hi, hq⟩ | ⟨i, hi, hq⟩ | ⟨⟨i, hi, hq⟩ | hq⟩ | hq
    · exact ⟨23, by decide, by decide, hq, .inl rfl⟩
    · exact ⟨7 + i, by omega, by omega, hq, by omega⟩
    · exact ⟨11 + i, by omega, by omega, hq, by omega⟩
    · exact ⟨27 + i, by omega, by omega, hq, by omega⟩
    · exact ⟨5, by decide, by decide, hq, by omega⟩
    · exact ⟨4, by decide, by decide, hq, by omega⟩
  have no : ∀ j, j < 30 → j ≠ 24 → ¬ (j = 23 ∨ j = 4 ∨ j = 5 ∨ (7 ≤ j ∧ j < 10) ∨ (11 ≤ j ∧ j < 14) ∨ 27 ≤ j) → ¬ sT (A 23) (A 4) (A 5) (aT A) (aU A) (aB A) (A j) := fun j hj h4 hn hs => by
    obtain ⟨i, hi, i4, e, hc⟩ := sub _ hs
    by_cases hij : j = i
    · subst hij; exact hn hc
    · exact O.ne hj hi h4 i4 hij e
  have slo : ∀ q, sT (A 23) (A 4) (A 5) (aT A) (aU A) (aB A) q → q < lo := fun q hs => by
    obtain ⟨i, hi, i4, e, _⟩ := sub _ hs
    rw [e]; exact (lt i hi i4).1
  have sal : ∀ q, q ∈ al → ¬ sT (A 23) (A 4) (A 5) (aT A) (aU A) (aB A) q := fun q hq hs => by
    obtain ⟨i, hi, i4, e, _⟩ := sub _ hs
    rw [e] at hq; exact (lt i hi i4).2 hq
  have n0 : ¬ sT (A 23) (A 4) (A 5) (aT A) (aU A) (aB A) 0 := fun hs => by
    obtain ⟨i, hi, i4, e, _⟩ := sub _ hs
    exact O.2.2.2 (by rw [e]; exact fA_i hi i4)
  obtain ⟨⟨g, N, q1, q2, q3, q4, q5⟩, ⟨F, vv, m0, q6, q7, q8⟩, _⟩ := a4
  obtain ⟨w, kf0, l0, n5, _, X, ⟨tf, c2, c3'⟩, ⟨fl, L⟩, acl, AC'⟩ := C
  have hs : ∀ q, sT (A 23) (A 4) (A 5) (aT A) (aU A) (aB A) q → ∀ ci fs, cm h q = some (.inl (ci, fs)) → ∃ fs', cm h1 q = some (.inl (ci, fs')) := fun q hq ci fs2 hc => by
    obtain ⟨_, ⟨F0, v0, m00, p6, p7, p8⟩, ⟨g0, p4⟩, ⟨N0, p5⟩, _⟩ := X
    rcases hq with hq | ⟨i, hi, hq⟩ | ⟨i, hi, hq⟩ | ⟨⟨i, hi, hq⟩ | hq⟩ | hq
    · rw [hq] at hc ⊢; rw [c0] at hc; cases hc; exact ⟨_, q1⟩
    · obtain ⟨r, r1, _⟩ := p4.2.1 i hi
      rw [hq, r1] at hc; cases hc
    · obtain ⟨r, r1, _⟩ := p5.2.1 i hi
      rw [hq, r1] at hc; cases hc
    · rw [hq, p7.2.2.1 i hi] at hc; cases hc
    · rw [hq, p8] at hc; cases hc
    · rw [hq] at hc ⊢; rw [p6] at hc; cases hc; exact ⟨_, q6⟩
  have X1 : FX h1 A := by
    obtain ⟨⟨p, p1⟩, _, _, _, p9, p10⟩ := X
    refine ⟨⟨p, a3.at w p1 (no 3 (by decide) (by decide) (by omega))⟩, ⟨F, vv, m0, q6, q7, q8⟩, ⟨g, q4⟩, ⟨N, q5⟩, a3.at w p9 (no 14 (by decide) (by decide) (by omega)), fun k hk => ?_⟩
    obtain ⟨r, r1, r2⟩ := p10 k hk
    exact ⟨r, a3.at w r1 (no (15 + k) (by omega) (by omega) (by omega)), r2⟩
  have xe : ∃ t1' t2', cm h1 (A 23) = some (xC A (ni ts.length) (ni n) fk fp t1' t2' rf) := by
    have ef : fs = [.ref (A 0), .int (ni ts.length), .ref (A 2), .int (ni n), .int fk, .int fp, .ref (A 3), .ref (A 4), .ref (A 6), .ref (A 10), t1, t2, .ref (A 14), rf, .ref (A 21)] := by
      unfold xC at ex
      simp only [Sum.inl.injEq, Prod.mk.injEq, true_and] at ex
      exact ex
    have hl : fs'.length = 15 := by rw [a6, ef]; rfl
    refine ⟨fs'.getD 10 .null, fs'.getD 11 .null, ?_⟩
    rw [q1]
    unfold xC
    refine congrArg some (congrArg Sum.inl (Prod.ext rfl ?_))
    show fs' = _
    refine List.ext_getElem? (fun k => ?_)
    by_cases h10 : k = 10
    · subst h10
      rw [List.getD_eq_getElem?_getD, List.getElem?_eq_getElem (show 10 < fs'.length by omega)]; rfl
    · by_cases h11 : k = 11
      · subst h11
        rw [List.getD_eq_getElem?_getD, List.getD_eq_getElem?_getD, List.getElem?_eq_getElem (show 11 < fs'.length by omega)]; rfl
      · rw [a5 k h10 h11, ef]
        by_cases hk : k < 15
        · rcases (show k = 0 ∨ k = 1 ∨ k = 2 ∨ k = 3 ∨ k = 4 ∨ k = 5 ∨ k = 6 ∨ k = 7 ∨ k = 8 ∨ k = 9 ∨ k = 12 ∨ k = 13 ∨ k = 14 by omega) with rfl | rfl | rfl | rfl | rfl | rfl | rfl | rfl | rfl | rfl | rfl | rfl | rfl <;> rfl
        · rw [List.getElem?_eq_none (by show 15 ≤ k; omega), List.getElem?_eq_none (by show 15 ≤ k; omega)]
  obtain ⟨t1', t2', xe⟩ := xe
  have C1 : CIv h1 A lo b n fk fp ts W acts wy := ⟨a3.wf, kf0.mod a3, Nat.le_trans l0 a3.ge, n5, ⟨t1', t2', rf, xe, cw.nw a3 w slo⟩, X1, ⟨tf, a3.at w c2 (no 2 (by decide) (by decide) (by omega)), c3'⟩, ⟨fl, L.nw a3 w kf0.kok slo (no 0 (by decide) (by decide) (by omega)) (no 1 (by decide) (by decide) (by omega)) hs⟩, acl, AC'.nw a3 w kf0.kok slo (no 21 (by decide) (by decide) (by omega)) (no 22 (by decide) (by decide) (by omega)) hs⟩
  have H1 := H.md a3 sal
  rw [← H.rd a3 sal n0] at a2
  obtain ⟨h2, b1, b2, b3⟩ := H1.tcr (mf := mf) a2
  have C2 := C1.tw O H1 b2 b3
  refine ⟨v, h1, h2, a1, H1.isC, b1, ?_, ?_, b, n, fk, fp, ts, W, acts, wy, O, C2, P, u1, b2, (T.rf (H.agr.rF (l := QF)) (by decide)).rf a7.rF (by decide)⟩
  · have := a3.2.1; have := b3.2.1; omega
  · have := a3.2.2.2.1; have := b3.2.2.2.1; omega
theorem ok_turned {f : Nat} (hf : 2 ^ 63 ≤ f) {h : CH} {A : Nat → Nat} {lo y : Nat} {al : List Nat} {b : Nat → Nat} {n : Nat} {fk fp : Int32} {ts : List It} {W : Nat → Mi} {acts : List Act} {wy : Why} (I : Inv h A lo y al b n fk fp ts W acts wy) (l m : Int32) : Ok (m_X0_turned f h (A 23) l m) (fun h1 => tcr h1 y (fun z => m_X3_turned f z l m)) h A lo y al := QU.ok I (fun u fs E Q => q_turned hf E Q (Inv_AP I) l m)
theorem ok_turnOf {f : Nat} (hf : 2 ^ 63 ≤ f) {h : CH} {A : Nat → Nat} {lo y : Nat} {al : List Nat} {b : Nat → Nat} {n : Nat} {fk fp : Int32} {ts : List It} {W : Nat → Mi} {acts : List Act} {wy : Why} (I : Inv h A lo y al b n fk fp ts W acts wy) (l m : Int32) : Ok (m_X0_turnOf f h (A 23) l m) (fun h1 => tcr h1 y (fun z => m_X3_turnOf f z l m)) h A lo y al := QU.ok I (fun u fs E Q => q_turnOf hf E Q (Inv_AP I) l m)
