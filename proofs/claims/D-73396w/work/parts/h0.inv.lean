/-! what holds between calls -/
set_option maxRecDepth 100000
/-- the component's own cell -/
def xC (A : Nat → Nat) (ln : Int32) (tp : Int32) (fk fp : Int32) (t1 t2 rf : Value) : AC := .inl (1, [.ref (A 0), .int ln, .ref (A 2), .int tp, .int fk, .int fp, .ref (A 3), .ref (A 4), .ref (A 6), .ref (A 10), t1, t2, .ref (A 14), rf, .ref (A 21)])
abbrev aT (A : Nat → Nat) : Nat → Nat := fun i => A (7 + i)
abbrev aU (A : Nat → Nat) : Nat → Nat := fun i => A (11 + i)
abbrev aO (A : Nat → Nat) : Nat → Nat := fun i => A (15 + i)
abbrev aB (A : Nat → Nat) : RA := (A 25, A 26, fun i => A (27 + i))
/-- the component's fixed cells, but its own -/
def FX (h : CH) (A : Nat → Nat) : Prop := (∃ p : Nat → Int32, cm h (A 3) = some (.inr (0, 3, .inl p))) ∧ (∃ F v m0, cm h (A 4) = some (.inl (2, [.ref (A 25), .ref (A 5), m0])) ∧ isN h (aB A) F ∧ cm h (A 5) = some (vcl v)) ∧ (∃ g, isT h (A 6) (aT A) g) ∧ (∃ N, isU h (A 10) (aU A) N) ∧ cm h (A 14) = some (.inr (5, 6, .inr (.inr (fun j => if j < 6 then some (A (15 + j)) else none)))) ∧ ∀ k, k < 6 → ∃ r, cm h (A (15 + k)) = some (.inr (0, 3, .inl r)) ∧ ∀ j, j < 3 → r j = ni (ordT k j)
/-- the cells that are written: apart, and made ahead of all lattices -/
abbrev fA (A : Nat → Nat) : List Nat := [A 0, A 1, A 2, A 3, A 4, A 5, A 6, A 7, A 8, A 9, A 10, A 11, A 12, A 13, A 14, A 15, A 16, A 17, A 18, A 19, A 20, A 21, A 22, A 23, A 25, A 26, A 27, A 28, A 29]
def AOk (A : Nat → Nat) (lo : Nat) (al : List Nat) : Prop := (fA A).Nodup ∧ (∀ q, q ∈ fA A → q < lo ∧ q ∉ al) ∧ (∀ q, q ∈ al → q < lo) ∧ 0 ∉ fA A
/-- one lattice in the heap; W: the rows as they are now -/
def cLt (h : CH) (lo : Nat) (fl : List Nat) (W : Nat → Mi) (k a : Nat) (it : It) : Prop := match it.2 with
  | none => ∃ R, isOw h a R (W k) ∧ nwO lo R
  | some j => ∃ b' T, fl[j]? = some b' ∧ isTn h a b' T (fun i c => byM (qf it.1) c i) (ovQ (qf it.1)) (upQ (qf it.1)) ∧ nwO lo T
def CL (h : CH) (A : Nat → Nat) (lo : Nat) (fl : List Nat) (ts : List It) (W : Nat → Mi) : Prop := isL h (A 0) (A 1) 5 fl ∧ fl.length = ts.length ∧ fl.Nodup ∧ ∀ (k : Nat) it, ts[k]? = some it → ∃ a, fl[k]? = some a ∧ lo ≤ a ∧ cLt h lo fl W k a it
/-- acts done: which lattice, all rows ahead of it -/
abbrev Act : Type := Nat × (Nat → Mi)
def CA (h : CH) (A : Nat → Nat) (lo : Nat) (acl : List Nat) (acts : List Act) : Prop := isL h (A 21) (A 22) 20 acl ∧ acl.length = acts.length ∧ ∀ (k : Nat) l Wk, acts[k]? = some (l, Wk) → ∃ a R, acl[k]? = some a ∧ lo ≤ a ∧ cm h a = some (.inl (15, [.int (ni l), .ref R.1])) ∧ isN h R (Wk l) ∧ nwO lo R
/-- why: act, kind, lattice, row -/
abbrev Why : Type := Option (Int32 × Int32 × Int32 × Int32)
def hCl (k : Int32) : Nat := if k = 3 then 12 else if k = 1 then 13 else 14
def CWy (h : CH) (lo : Nat) (rf : Value) : Why → Prop
  | none => rf = .null
  | some (a, k, l, r) => ∃ q c fs gs, rf = .ref q ∧ lo ≤ q ∧ lo ≤ c ∧ c ≠ q ∧ cm h q = some (.inl (16, fs)) ∧ fs[0]? = some (.ref c) ∧ fs[6]? = some (.int a) ∧ fs[7]? = some (.int l) ∧ cm h c = some (.inl (hCl k, gs)) ∧ gs[0]? = some (.int r) ∧ (k = 1 ∨ k = 2 ∨ k = 3)
/-- the component, whole -/
def CIv (h : CH) (A : Nat → Nat) (lo : Nat) (b : Nat → Nat) (n : Nat) (fk fp : Int32) (ts : List It) (W : Nat → Mi) (acts : List Act) (wy : Why) : Prop := wfh h ∧ kf h ∧ lo ≤ h.1 ∧ n ≤ 500 ∧ (∃ t1 t2 rf, cm h (A 23) = some (xC A (ni ts.length) (ni n) fk fp t1 t2 rf) ∧ CWy h lo rf wy) ∧ FX h A ∧ (∃ tf, cm h (A 2) = some (.inr (2, 500, .inl tf)) ∧ ∀ i, i < n → b i < 256 ∧ (tf i &&& 255) = ni (b i)) ∧ (∃ fl, CL h A lo fl ts W) ∧ ∃ acl, CA h A lo acl acts
/-- the twin, whole -/
def TI (u : TS) (b : Nat → Nat) (n : Nat) (fk fp : Int32) (ts : List It) (W : Nat → Mi) (acts : List Act) (wy : Why) : Prop := tTp u b n ∧ tI u 5 = fk ∧ tI u 6 = fp ∧ tA u 0 0 = ni ts.length ∧ tA u 0 1 = ni ts.length ∧ tA u 0 2 = ni acts.length ∧ (∀ k, k < ts.length → match (ts.getD k ([], none)).2 with | none => tA u 0 (3 + k) = -1 | some j => tA u 0 (3 + k) = ni j ∧ ∀ i, i < 4 → (tA u 0 (8 + 4 * k + i)).toInt = qf (ts.getD k ([], none)).1 i) ∧ (∀ l i, l < 5 → i < 9 → (tA u 0 (28 + 9 * l + i)).toInt = W l (i / 3) (i % 3)) ∧ (∀ (k l : Nat) Wk, acts[k]? = some (l, Wk) → ∀ l' i, l' < 5 → i < 9 → (tA u 2 (45 * k + 9 * l' + i)).toInt = Wk l' (i / 3) (i % 3)) ∧ match wy with | none => tI u 7 = 0 | some (a, k, l, r) => tI u 7 = a ∧ a ≠ 0 ∧ tI u 8 = k ∧ tI u 9 = l ∧ tI u 10 = r
/-- rows that a lattice may have -/
def okM (M : Mi) : Prop := (∀ i j, i < 3 → j < 3 → (M i j).natAbs ≤ 20) ∧ 1 ≤ (dtf M).natAbs ∧ (dtf M).natAbs ≤ 60
/-- what is told, and what was done to it -/
def PI (ts : List It) (W : Nat → Mi) (acts : List Act) : Prop := ts.length ≤ 5 ∧ (∀ k, k < ts.length → match (ts.getD k ([], none)).2 with | none => okM (W k) | some j => j < ts.length ∧ (ts.getD j ([], none)).2 = none ∧ (∀ i, i < 4 → (qf (ts.getD k ([], none)).1 i).natAbs ≤ 3) ∧ 0 < ovQ (qf (ts.getD k ([], none)).1)) ∧ acts.length ≤ 20 ∧ ∀ (k l : Nat) Wk, acts[k]? = some (l, Wk) → l < ts.length ∧ (ts.getD l ([], none)).2 = none ∧ okM (Wk l) ∧ ∀ l', l' < 5 → l' ≠ l → Wk l' = (match acts[k + 1]? with | some (_, W') => W' | none => W) l'
/-- all that holds between calls -/
def Inv (h : CH) (A : Nat → Nat) (lo y : Nat) (al : List Nat) (b : Nat → Nat) (n : Nat) (fk fp : Int32) (ts : List It) (W : Nat → Mi) (acts : List Act) (wy : Why) : Prop := AOk A lo al ∧ CIv h A lo b n fk fp ts W acts wy ∧ PI ts W acts ∧ ∃ u, HT h y al u ∧ TI u b n fk fp ts W acts wy
/-- the lattices as they are asked for -/
def lsAt (ts : List It) (W : Nat → Mi) (k : Nat) : Mi × Int × Bool := match (ts.getD k ([], none)).2 with
  | none => (W k, 1, false)
  | some j => (trnM (W j) (qf (ts.getD k ([], none)).1), trnO (W j) (qf (ts.getD k ([], none)).1), true)
def lsO' (ts : List It) (W : Nat → Mi) : LSt := (List.range ts.length).map (lsAt ts W)
theorem lsO_at {ts : List It} {W : Nat → Mi} {i : Nat} {v : Mi × Int × Bool} (h : (lsO' ts W)[i]? = some v) : i < ts.length ∧ v = lsAt ts W i := by
  unfold lsO' at h
  rw [List.getElem?_map] at h
  by_cases hi : i < ts.length
  · rw [List.getElem?_range hi] at h
    exact ⟨hi, (Option.some.inj h).symm⟩
  · rw [List.getElem?_eq_none (by rw [List.length_range]; omega)] at h; cases h
theorem lsO_len (ts : List It) (W : Nat → Mi) : (lsO' ts W).length = ts.length := by unfold lsO'; rw [List.length_map, List.length_range]
theorem okM.LA {M : Mi} (h : okM M) : LA (m3 M) := by
  obtain ⟨h1, h2, h3⟩ := h
  have s : ∀ i j, i < 3 → j < 3 → M i j * M i j ≤ 400 := fun i j hi hj => by
    have := h1 i j hi hj
    have e : (M i j * M i j).natAbs ≤ 20 * 20 := by rw [Int.natAbs_mul]; exact Nat.mul_le_mul this this
    omega
  refine ⟨?_, ?_, ?_, by rw [det_m3]; exact h2, by rw [det_m3]; exact h3⟩
  · show M 0 0 * M 0 0 + M 0 1 * M 0 1 + M 0 2 * M 0 2 ≤ 1200
    have a := s 0 0 (by decide) (by decide); have b := s 0 1 (by decide) (by decide); have c := s 0 2 (by decide) (by decide); omega
  · show M 1 0 * M 1 0 + M 1 1 * M 1 1 + M 1 2 * M 1 2 ≤ 1200
    have a := s 1 0 (by decide) (by decide); have b := s 1 1 (by decide) (by decide); have c := s 1 2 (by decide) (by decide); omega
  · show M 2 0 * M 2 0 + M 2 1 * M 2 1 + M 2 2 * M 2 2 ≤ 1200
    have a := s 2 0 (by decide) (by decide); have b := s 2 1 (by decide) (by decide); have c := s 2 2 (by decide) (by decide); omega
theorem PI.own {ts : List It} {W : Nat → Mi} {acts : List Act} (H : PI ts W acts) {k : Nat} (hk : k < ts.length) (ho : (ts.getD k ([], none)).2 = none) : okM (W k) := by
  have := H.2.1 k hk
  rw [ho] at this; exact this
theorem PI.trn {ts : List It} {W : Nat → Mi} {acts : List Act} (H : PI ts W acts) {k j : Nat} (hk : k < ts.length) (ho : (ts.getD k ([], none)).2 = some j) : j < ts.length ∧ (ts.getD j ([], none)).2 = none ∧ okM (W j) ∧ (∀ i, i < 4 → (qf (ts.getD k ([], none)).1 i).natAbs ≤ 3) ∧ 0 < ovQ (qf (ts.getD k ([], none)).1) ∧ ovQ (qf (ts.getD k ([], none)).1) ≤ 36 := by
  have := H.2.1 k hk
  rw [ho] at this
  obtain ⟨a1, a2, a3, a4⟩ := this
  have b1 := (byM_le a3).2.1
  exact ⟨a1, a2, H.own a1 a2, a3, a4, by omega⟩
theorem Inv_LV {ts : List It} {W : Nat → Mi} {acts : List Act} (H : PI ts W acts) : LV (lsO' ts W) := fun i M n tn hi => by
  obtain ⟨hk, e⟩ := lsO_at hi
  unfold lsAt at e
  cases hq : (ts.getD i ([], none)).2 with
  | none =>
    rw [hq] at e
    cases e
    have hA := (H.own hk hq).LA
    exact ⟨⟨_, _, _, _, LQ_own hA⟩, fun _ => ⟨rfl, hA⟩⟩
  | some j =>
    rw [hq] at e
    cases e
    obtain ⟨_, _, a3, _, a5, a6⟩ := H.trn hk hq
    exact trn_Ok a3.LA a5 a6
theorem tnP_le {A : Mi} (hA : okM A) {q : Nat → Int} (hq : ∀ k, k < 4 → (q k).natAbs ≤ 3) : ∀ i j, i < 3 → j < 3 → (tnP A (byM q) i j).natAbs ≤ 2160 := fun i j hi hj => by
  obtain ⟨bl, _⟩ := byM_le hq
  have p : ∀ k, k < 3 → (byM q j k * A i k).natAbs ≤ 36 * 20 := fun k hk => by
    rw [Int.natAbs_mul]; exact Nat.mul_le_mul (bl j k hj hk) (hA.1 i k hi hk)
  have p0 := p 0 (by decide); have p1 := p 1 (by decide); have p2 := p 2 (by decide)
  unfold tnP
  omega
theorem Inv_TV {u : TS} {b : Nat → Nat} {n : Nat} {fk fp : Int32} {ts : List It} {W : Nat → Mi} {acts : List Act} {wy : Why} (T : TI u b n fk fp ts W acts wy) (H : PI ts W acts) : TV u (lsO' ts W) := by
  obtain ⟨t0, _, _, t1, t2, t3, t4, t5, _⟩ := T
  refine ⟨by rw [t1, lsO_len], by rw [lsO_len]; exact H.1, fun i M n tn hi => ?_⟩
  obtain ⟨hk, e⟩ := lsO_at hi
  have k5 : i < 5 := by have := H.1; omega
  have ti := t4 i hk
  unfold lsAt at e
  cases hq : (ts.getD i ([], none)).2 with
  | none =>
    rw [hq] at e ti
    cases e
    refine ⟨fun f hf v hv => X3_lays_own hf k5 ⟨by rw [hv]; exact ti, fun k hk => by rw [hv]; exact t5 i k k5 hk⟩, ⟨fun _ => rfl, fun _ => ti⟩⟩
  | some j =>
    rw [hq] at e ti
    cases e
    obtain ⟨a1, a2, a3, a4, a5, a6⟩ := H.trn hk hq
    have j5 : j < 5 := by have := H.1; omega
    refine ⟨fun f hf v hv => X3_lays_trn hf k5 (b := j) (A := W j) (q := qf (ts.getD i ([], none)).1) ⟨j5, by rw [hv]; exact ti.1, fun k hk => by rw [hv]; exact t5 j k j5 hk, fun k hk => by rw [hv]; exact ti.2 k hk⟩ a5 (rg_nat.mpr (by omega)) (fun i j hi hj => rg_nat.mpr (by have := tnP_le a3 a4 i j hi hj; omega)) (trn_LQ a3.LA a5 a6).2, ⟨fun h => ?_, fun h => by cases h⟩⟩
    rw [ti.1] at h
    exact absurd h (ni_m1' j5)
theorem cLt_isLt {h : CH} {lo : Nat} {fl : List Nat} {ts : List It} {W : Nat → Mi} {acts : List Act} {A : Nat → Nat} (H : PI ts W acts) (L : CL h A lo fl ts W) {k : Nat} (hk : k < ts.length) {a : Nat} (ha : fl[k]? = some a) (C : cLt h lo fl W k a (ts.getD k ([], none))) : isLt h a (lsAt ts W k).1 (lsAt ts W k).2.1 (lsAt ts W k).2.2 := by
  unfold cLt at C
  unfold lsAt
  cases hq : (ts.getD k ([], none)).2 with
  | none =>
    rw [hq] at C
    obtain ⟨R, o1, o2⟩ := C
    exact .inl ⟨rfl, rfl, R, o1⟩
  | some j =>
    rw [hq] at C
    obtain ⟨b', T, o1, o2, o3⟩ := C
    obtain ⟨a1, a2, a3, a4, a5, a6⟩ := H.trn hk hq
    obtain ⟨z, z1', z2', z3'⟩ := L.2.2.2 j (ts.getD j ([], none)) (by rw [List.getD_eq_getElem?_getD, List.getElem?_eq_getElem a1]; rfl)
    rw [o1] at z1'
    cases z1'
    unfold cLt at z3'
    rw [a2] at z3'
    obtain ⟨R, p1, p2⟩ := z3'
    have eP : pmul (W j) (fun i c => byM (qf (ts.getD k ([], none)).1) c i) = tnP (W j) (byM (qf (ts.getD k ([], none)).1)) := by
      funext i c
      unfold pmul tnP
      simp only [Int.mul_comm]
    have eg : ltg (W j) (fun i c => byM (qf (ts.getD k ([], none)).1) c i) (ovQ (qf (ts.getD k ([], none)).1)) = lsd (tnP (W j) (byM (qf (ts.getD k ([], none)).1))) (ovQ (qf (ts.getD k ([], none)).1)) := by
      unfold ltg
      rw [eP]
      exact (lsd_btg (fun _ _ _ _ => rfl)).symm
    refine .inr ⟨rfl, b', R, T, W j, _, _, _, o2, p1, ⟨fun i c hi hc => ?_, by omega, by omega⟩, ?_, ?_⟩
    · rw [eP]; have := tnP_le a3 a4 i c hi hc; omega
    · funext i c
      show trnM (W j) (qf (ts.getD k ([], none)).1) i c = _
      unfold trnM
      rw [eP, eg]
    · show trnO (W j) (qf (ts.getD k ([], none)).1) = _
      unfold trnO
      rw [eg]
theorem CL_CV {h : CH} {A : Nat → Nat} {lo : Nat} {fl : List Nat} {ts : List It} {W : Nat → Mi} {acts : List Act} (H : PI ts W acts) (L : CL h A lo fl ts W) {fs : List Value} {x : Nat} (hx : cm h x = some (.inl (1, fs))) (h0 : fs[0]? = some (.ref (A 0))) : CV h x (lsO' ts W) := by
  refine ⟨fs, A 0, A 1, 5, fl, hx, h0, L.1, by rw [lsO_len]; exact L.2.1, by rw [lsO_len]; exact H.1, fun i M n tn hi => ?_⟩
  obtain ⟨hk, e⟩ := lsO_at hi
  obtain ⟨a, z1', z2', z3'⟩ := L.2.2.2 i (ts.getD i ([], none)) (by rw [List.getD_eq_getElem?_getD, List.getElem?_eq_getElem hk]; rfl)
  refine ⟨a, z1', ?_⟩
  have := cLt_isLt H L hk z1' z3'
  rw [← e] at this
  exact this
theorem Inv_QE {h : CH} {A : Nat → Nat} {lo y : Nat} {al : List Nat} {b : Nat → Nat} {n : Nat} {fk fp : Int32} {ts : List It} {W : Nat → Mi} {acts : List Act} {wy : Why} (I : Inv h A lo y al b n fk fp ts W acts wy) : ∃ u, HT h y al u ∧ TI u b n fk fp ts W acts wy ∧ QE h (A 23) u (lsO' ts W) := by
  obtain ⟨_, ⟨w, kf0, _, _, ⟨t1, t2, rf, c1, _⟩, _, _, ⟨fl, L⟩, _⟩, P, u, HTu, T⟩ := I
  exact ⟨u, HTu, T, w, kf0, CL_CV P L c1 rfl, Inv_TV T P, Inv_LV P⟩
