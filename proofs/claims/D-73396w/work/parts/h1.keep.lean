/-! what stays -/
set_option maxRecDepth 100000
theorem isT.md {S : Nat → Prop} {k n : Nat} {h h1 : CH} (m : Mod S k n h h1) (w : wfh h) {TA : Nat} {t : Nat → Nat} {g : Nat → Nat → Int32} (H : isT h TA t g) (n1 : ¬ S TA) (n2 : ∀ i, i < 3 → ¬ S (t i)) : isT h1 TA t g := by
  refine ⟨m.at w H.1 n1, fun i hi => ?_, H.2.2⟩
  obtain ⟨r, a1, a2⟩ := H.2.1 i hi
  exact ⟨r, m.at w a1 (n2 i hi), a2⟩
theorem isU.md {S : Nat → Prop} {k n : Nat} {h h1 : CH} (m : Mod S k n h h1) (w : wfh h) {UA : Nat} {t : Nat → Nat} {N : Mi} (H : isU h UA t N) (n1 : ¬ S UA) (n2 : ∀ i, i < 3 → ¬ S (t i)) : isU h1 UA t N := by
  refine ⟨m.at w H.1 n1, fun i hi => ?_, H.2.2⟩
  obtain ⟨r, a1, a2⟩ := H.2.1 i hi
  exact ⟨r, m.at w a1 (n2 i hi), a2⟩
theorem fA_i {A : Nat → Nat} {i : Nat} (hi : i < 30) (h4 : i ≠ 24) : A i ∈ fA A := by
  have : ∀ i, i < 30 → i ≠ 24 → i ∈ [0, 1, 2, 3, 4, 5, 6, 7, 8, 9, 10, 11, 12, 13, 14, 15, 16, 17, 18, 19, 20, 21, 22, 23, 25, 26, 27, 28, 29] := by decide
  have h := this i hi h4
  have e : fA A = [0, 1, 2, 3, 4, 5, 6, 7, 8, 9, 10, 11, 12, 13, 14, 15, 16, 17, 18, 19, 20, 21, 22, 23, 25, 26, 27, 28, 29].map A := rfl
  rw [e]
  exact List.mem_map.mpr ⟨i, h, rfl⟩
theorem AOk.ne {A : Nat → Nat} {lo : Nat} {al : List Nat} (H : AOk A lo al) {i j : Nat} (hi : i < 30) (hj : j < 30) (i4 : i ≠ 24) (j4 : j ≠ 24) (hij : i ≠ j) : A i ≠ A j := fun e => by
  have nd := H.1
  have e1 : fA A = [0, 1, 2, 3, 4, 5, 6, 7, 8, 9, 10, 11, 12, 13, 14, 15, 16, 17, 18, 19, 20, 21, 22, 23, 25, 26, 27, 28, 29].map A := rfl
  rw [e1] at nd
  have pw := List.pairwise_map.mp nd
  have key : ∀ i, i < 30 → i ≠ 24 → ∃ p, p < 29 ∧ [0, 1, 2, 3, 4, 5, 6, 7, 8, 9, 10, 11, 12, 13, 14, 15, 16, 17, 18, 19, 20, 21, 22, 23, 25, 26, 27, 28, 29][p]? = some i := by decide
  obtain ⟨p, hp, ep⟩ := key i hi i4
  obtain ⟨q, hq, eq⟩ := key j hj j4
  have pg := List.pairwise_iff_getElem.mp pw
  obtain ⟨p1, p2⟩ := List.getElem?_eq_some_iff.mp ep
  obtain ⟨q1, q2⟩ := List.getElem?_eq_some_iff.mp eq
  rcases Nat.lt_trichotomy p q with hlt | he | hlt
  · have := pg p q p1 q1 hlt
    rw [p2, q2] at this; exact this e
  · subst he
    rw [ep] at eq; cases eq; exact hij rfl
  · have := pg q p q1 p1 hlt
    rw [p2, q2] at this; exact this e.symm
/-- the fixed cells stay: but the plane's, which is given -/
theorem FX.md {S : Nat → Prop} {k n : Nat} {h h1 : CH} (m : Mod S k n h h1) (w : wfh h) {A : Nat → Nat} (H : FX h A) (hS : ∀ i, i < 30 → i ≠ 24 → i ≠ 3 → ¬ S (A i)) (sh : ∃ p : Nat → Int32, cm h1 (A 3) = some (.inr (0, 3, .inl p))) : FX h1 A := by
  obtain ⟨_, ⟨F, v, m0, a1, a2, a3⟩, ⟨g, a4⟩, ⟨N, a5⟩, a6, a7⟩ := H
  refine ⟨sh, ⟨F, v, m0, m.at w a1 (hS 4 (by decide) (by decide) (by decide)), a2.mod m w (hS 25 (by decide) (by decide) (by decide)) (hS 26 (by decide) (by decide) (by decide)) (fun i hi => hS (27 + i) (by omega) (by omega) (by omega)), m.at w a3 (hS 5 (by decide) (by decide) (by decide))⟩, ⟨g, a4.md m w (hS 6 (by decide) (by decide) (by decide)) (fun i hi => hS (7 + i) (by omega) (by omega) (by omega))⟩, ⟨N, a5.md m w (hS 10 (by decide) (by decide) (by decide)) (fun i hi => hS (11 + i) (by omega) (by omega) (by omega))⟩, m.at w a6 (hS 14 (by decide) (by decide) (by decide)), fun k hk => ?_⟩
  obtain ⟨r, b1, b2⟩ := a7 k hk
  exact ⟨r, m.at w b1 (hS (15 + k) (by omega) (by omega) (by omega)), b2⟩
theorem isN.nw {S : Nat → Prop} {k n : Nat} {h h1 : CH} (m : Mod S k n h h1) (w : wfh h) {lo : Nat} (hlo : ∀ q, S q → q < lo) {R : RA} {N : Mi} (H : isN h R N) (hR : nwO lo R) : isN h1 R N := H.mod m w (fun hs => by have := hlo _ hs; have := hR.1; omega) (fun hs => by have := hlo _ hs; have := hR.2.1; omega) (fun i hi hs => by have := hlo _ hs; have := hR.2.2 i hi; omega)
theorem cLt.nw {S : Nat → Prop} {k' n : Nat} {h h1 : CH} (m : Mod S k' n h h1) (w : wfh h) {lo : Nat} (hlo : ∀ q, S q → q < lo) {fl : List Nat} {W : Nat → Mi} {k a : Nat} {it : It} (H : cLt h lo fl W k a it) (ha : lo ≤ a) : cLt h1 lo fl W k a it := by
  unfold cLt at H ⊢
  cases hq : it.2 with
  | none =>
    rw [hq] at H
    obtain ⟨R, o1, o2⟩ := H
    exact ⟨R, ⟨m.at w o1.1 (fun hs => by have := hlo _ hs; omega), isN.nw m w hlo o1.2 o2⟩, o2⟩
  | some j =>
    rw [hq] at H
    obtain ⟨b', T, o1, ⟨r0, o2, o2'⟩, o3⟩ := H
    exact ⟨b', T, o1, ⟨r0, m.at w o2 (fun hs => by have := hlo _ hs; omega), isN.nw m w hlo o2' o3⟩, o3⟩
theorem CL.nw {S : Nat → Prop} {k' n : Nat} {h h1 : CH} (m : Mod S k' n h h1) (w : wfh h) (kk : kok h) {lo : Nat} (hlo : ∀ q, S q → q < lo) {A : Nat → Nat} (n0 : ¬ S (A 0)) (n1 : ¬ S (A 1)) (hs : ∀ q, S q → ∀ ci fs, cm h q = some (.inl (ci, fs)) → ∃ fs', cm h1 q = some (.inl (ci, fs'))) {fl : List Nat} {ts : List It} {W : Nat → Mi} (H : CL h A lo fl ts W) : CL h1 A lo fl ts W := by
  obtain ⟨a1, a2, a3, a4⟩ := H
  refine ⟨a1.mod m w kk n0 n1 hs, a2, a3, fun k it hk => ?_⟩
  obtain ⟨a, z1', z2', z3'⟩ := a4 k it hk
  exact ⟨a, z1', z2', z3'.nw m w hlo z2'⟩
theorem CA.nw {S : Nat → Prop} {k' n : Nat} {h h1 : CH} (m : Mod S k' n h h1) (w : wfh h) (kk : kok h) {lo : Nat} (hlo : ∀ q, S q → q < lo) {A : Nat → Nat} (n0 : ¬ S (A 21)) (n1 : ¬ S (A 22)) (hs : ∀ q, S q → ∀ ci fs, cm h q = some (.inl (ci, fs)) → ∃ fs', cm h1 q = some (.inl (ci, fs'))) {acl : List Nat} {acts : List Act} (H : CA h A lo acl acts) : CA h1 A lo acl acts := by
  obtain ⟨a1, a2, a3⟩ := H
  refine ⟨a1.mod m w kk n0 n1 hs, a2, fun k l Wk hk => ?_⟩
  obtain ⟨a, R, z1', z2', z3', z4', z5⟩ := a3 k l Wk hk
  exact ⟨a, R, z1', z2', m.at w z3' (fun hs => by have := hlo _ hs; omega), isN.nw m w hlo z4' z5, z5⟩
theorem CWy.nw {S : Nat → Prop} {k' n : Nat} {h h1 : CH} (m : Mod S k' n h h1) (w : wfh h) {lo : Nat} (hlo : ∀ q, S q → q < lo) {rf : Value} {wy : Why} (H : CWy h lo rf wy) : CWy h1 lo rf wy := by
  cases wy with
  | none => exact H
  | some v =>
    obtain ⟨a, k, l, r⟩ := v
    obtain ⟨q, c, fs, gs, a1, a2, a3, a4, a5, a6, a7, a8, a9, a10, a11⟩ := H
    exact ⟨q, c, fs, gs, a1, a2, a3, a4, m.at w a5 (fun hs => by have := hlo _ hs; omega), a6, a7, a8, m.at w a9 (fun hs => by have := hlo _ hs; omega), a10, a11⟩
/-- cells that are none of the component's own are changed; perhaps the plane's -/
theorem CIv.md {S : Nat → Prop} {k' n' : Nat} {h h1 : CH} {A : Nat → Nat} {lo : Nat} {b : Nat → Nat} {n : Nat} {fk fp : Int32} {ts : List It} {W : Nat → Mi} {acts : List Act} {wy : Why} (C : CIv h A lo b n fk fp ts W acts wy) (m : Mod S k' n' h h1) (hlo : ∀ q, S q → q < lo) (hS : ∀ i, i < 30 → i ≠ 24 → i ≠ 3 → ¬ S (A i)) (sh : ∃ p : Nat → Int32, cm h1 (A 3) = some (.inr (0, 3, .inl p))) (hs : ∀ q, S q → ∀ ci fs, cm h q = some (.inl (ci, fs)) → ∃ fs', cm h1 q = some (.inl (ci, fs'))) : CIv h1 A lo b n fk fp ts W acts wy := by
  obtain ⟨w, kf0, l0, n5, ⟨t1, t2, rf, c1, cw⟩, X, ⟨tf, c2, c3'⟩, ⟨fl, L⟩, acl, AC'⟩ := C
  exact ⟨m.wf, kf0.mod m, Nat.le_trans l0 m.ge, n5, ⟨t1, t2, rf, m.at w c1 (hS 23 (by decide) (by decide) (by decide)), cw.nw m w hlo⟩, X.md m w hS sh, ⟨tf, m.at w c2 (hS 2 (by decide) (by decide) (by decide)), c3'⟩, ⟨fl, L.nw m w kf0.kok hlo (hS 0 (by decide) (by decide) (by decide)) (hS 1 (by decide) (by decide) (by decide)) hs⟩, acl, AC'.nw m w kf0.kok hlo (hS 21 (by decide) (by decide) (by decide)) (hS 22 (by decide) (by decide) (by decide)) hs⟩
theorem CIv.pl {h : CH} {A : Nat → Nat} {lo : Nat} {b : Nat → Nat} {n : Nat} {fk fp : Int32} {ts : List It} {W : Nat → Mi} {acts : List Act} {wy : Why} (C : CIv h A lo b n fk fp ts W acts wy) : ∃ p : Nat → Int32, cm h (A 3) = some (.inr (0, 3, .inl p)) := C.2.2.2.2.2.1.1
theorem CIv.ext {k' n' : Nat} {h h1 : CH} {A : Nat → Nat} {lo : Nat} {b : Nat → Nat} {n : Nat} {fk fp : Int32} {ts : List It} {W : Nat → Mi} {acts : List Act} {wy : Why} (C : CIv h A lo b n fk fp ts W acts wy) (m : Ext k' n' h h1) : CIv h1 A lo b n fk fp ts W acts wy := by
  obtain ⟨p, hp⟩ := C.pl
  exact C.md m (fun q hq => hq.elim) (fun i _ _ _ => id) ⟨p, m.at C.1 hp id⟩ (fun q hq => hq.elim)
/-- the twin's cells have their kinds -/
theorem HT.cls {h h1 : CH} {y : Nat} {al : List Nat} {u u1 : TS} (H : HT h y al u) (H1 : HT h1 y al u1) : ∀ q, q ∈ al → ∀ ci fs, cm h q = some (.inl (ci, fs)) → ∃ fs', cm h1 q = some (.inl (ci, fs')) := fun q hq ci fs hc => by
  obtain ⟨w, ad, t, e⟩ := H
  obtain ⟨w1, ad1, t1, e1⟩ := H1
  rw [← e, ← twl_adl ad u] at hq
  obtain ⟨z, hz, ez⟩ := List.mem_map.mp hq
  have hcz := (t.2.1 z hz).1
  have hq' : q = y := by
    rw [ez, hc] at hcz
    have hz2 : z.2 = .inl (ci, fs) := (Option.some.inj hcz).symm
    unfold twl at hz
    simp only [List.mem_cons, List.not_mem_nil, or_false] at hz
    rcases hz with hz | hz | hz | hz | hz | hz | hz | hz | hz | hz | hz | hz | hz | hz | hz | hz | hz | hz | hz | hz | hz | hz | hz
    · rw [← ez, hz]; exact t.1
    all_goals (rw [hz] at hz2; cases hz2)
  subst hq'
  rw [t.obj] at hc
  cases hc
  exact ⟨_, t1.obj⟩
theorem CIv.tw {k' n' : Nat} {h h1 : CH} {A : Nat → Nat} {lo y : Nat} {al : List Nat} {b : Nat → Nat} {n : Nat} {fk fp : Int32} {ts : List It} {W : Nat → Mi} {acts : List Act} {wy : Why} (O : AOk A lo al) (C : CIv h A lo b n fk fp ts W acts wy) {u u1 : TS} (H : HT h y al u) (H1 : HT h1 y al u1) (m : Mod (· ∈ al) k' n' h h1) : CIv h1 A lo b n fk fp ts W acts wy := by
  obtain ⟨p, hp⟩ := C.pl
  have ni' : ∀ i, i < 30 → i ≠ 24 → A i ∉ al := fun i hi h4 => (O.2.1 _ (fA_i hi h4)).2
  exact C.md m (fun q hq => O.2.2.1 q hq) (fun i hi h4 _ => ni' i hi h4) ⟨p, m.at C.1 hp (ni' 3 (by decide) (by decide))⟩ (H.cls H1)
theorem TI.rf {u u1 : TS} {l : List Nat} {b : Nat → Nat} {n : Nat} {fk fp : Int32} {ts : List It} {W : Nat → Mi} {acts : List Act} {wy : Why} (T : TI u b n fk fp ts W acts wy) (r : rF l u u1) (hl : ∀ k, k ∈ [0, 2, 3, 4, 5, 6, 7, 8, 9, 10] → k ∉ l) : TI u1 b n fk fp ts W acts wy := by
  obtain ⟨t0, t1, t2, t3, t4, t5, t6, t7, t8, t9⟩ := T
  have e0 : tA u1 0 = tA u 0 := r.2.2.1 0 (hl 0 (by decide)) (by decide)
  have e2 : tA u1 2 = tA u 2 := r.2.2.1 2 (hl 2 (by decide)) (by decide)
  refine ⟨t0.rf r (hl 3 (by decide)) (hl 4 (by decide)), by rw [r.1 5 (hl 5 (by decide)) (by decide)]; exact t1, by rw [r.1 6 (hl 6 (by decide)) (by decide)]; exact t2, by rw [e0]; exact t3, by rw [e0]; exact t4, by rw [e0]; exact t5, by rw [e0]; exact t6, by rw [e0]; exact t7, by rw [e2]; exact t8, ?_⟩
  cases wy with
  | none => show tI u1 7 = 0; rw [r.1 7 (hl 7 (by decide)) (by decide)]; exact t9
  | some v =>
    obtain ⟨a, k, l', r'⟩ := v
    exact ⟨by rw [r.1 7 (hl 7 (by decide)) (by decide)]; exact t9.1, t9.2.1, by rw [r.1 8 (hl 8 (by decide)) (by decide)]; exact t9.2.2.1, by rw [r.1 9 (hl 9 (by decide)) (by decide)]; exact t9.2.2.2.1, by rw [r.1 10 (hl 10 (by decide)) (by decide)]; exact t9.2.2.2.2⟩
/-- what one call of the law does: both answer alike, and all holds again -/
def Ok {α : Type} (mc : Option (α × CH)) (mt : CH → Option (α × CH)) (h : CH) (A : Nat → Nat) (lo y : Nat) (al : List Nat) : Prop := ∃ r h1 h2, mc = some (r, h1) ∧ isC h1 y 0 = true ∧ mt h1 = some (r, h2) ∧ h2.1 ≤ h.1 + 9300 ∧ h2.2.1 ≤ h.2.1 + 112000 ∧ ∃ b n fk fp ts W acts wy, Inv h2 A lo y al b n fk fp ts W acts wy
/-- a question is one of these -/
theorem QH.ok {α : Type} {mc : Option (α × CH)} {mt : CH → Option (α × CH)} {h : CH} {A : Nat → Nat} {lo y : Nat} {al : List Nat} {b : Nat → Nat} {n : Nat} {fk fp : Int32} {ts : List It} {W : Nat → Mi} {acts : List Act} {wy : Why} (I : Inv h A lo y al b n fk fp ts W acts wy) {u : TS} (H : HT h y al u) (T : TI u b n fk fp ts W acts wy) {S : Nat → Prop} (Q : QH S mc mt h y al u) (hS : ∀ q, S q → q = A 3) : Ok mc mt h A lo y al := by
  obtain ⟨r, h1, h2, u', a1, a2, a3, a4, a5, a6, a7⟩ := Q
  obtain ⟨O, C, P, _⟩ := I
  have p3 : A 3 < lo ∧ A 3 ∉ al := O.2.1 _ (fA_i (by decide) (by decide))
  have nal : ∀ q, q ∈ al → ¬ S q := fun q hq hs => by rw [hS q hs] at hq; exact p3.2 hq
  have H1 := H.md a3 nal
  have sh : ∃ p : Nat → Int32, cm h1 (A 3) = some (.inr (0, 3, .inl p)) := by
    by_cases hs : S (A 3)
    · exact a7 _ hs
    · obtain ⟨p, hp⟩ := C.pl
      exact ⟨p, a3.at C.1 hp hs⟩
  have C1 := C.md a3 (fun q hs => by rw [hS q hs]; exact p3.1) (fun i hi h4 h3 hs => O.ne hi (by decide) h4 (by decide) h3 (hS _ hs)) sh (fun q hs ci fs hc => by
    obtain ⟨p, hp⟩ := C.pl
    rw [hS q hs, hp] at hc; cases hc)
  have C2 := C1.tw O H1 a5 a4
  have m3 := a3
  have m4 := a4
  refine ⟨r, h1, h2, a1, H1.isC, a2, ?_, ?_, b, n, fk, fp, ts, W, acts, wy, O, C2, P, u', a5, T.rf a6 (by decide)⟩
  · have := m3.2.1; have := m4.2.1; omega
  · have := m3.2.2.2.1; have := m4.2.2.2.1; omega
