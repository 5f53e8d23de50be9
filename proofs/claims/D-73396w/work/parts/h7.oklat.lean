/-! lattices: both -/
set_option maxRecDepth 100000
theorem PI.nil : PI [] (fun _ _ _ => 0) [] := ⟨Nat.zero_le _, fun k hk => (by cases hk), Nat.zero_le _, fun k l Wk hk => (by cases hk)⟩
theorem dtf_cg {M N : Mi} (h : ∀ i j, i < 3 → j < 3 → M i j = N i j) : dtf M = dtf N := by
  unfold dtf mnr
  rw [h 0 0 (by decide) (by decide), h 0 1 (by decide) (by decide), h 0 2 (by decide) (by decide)]
  show N 0 0 * (M 1 1 * M 2 2 - M 1 2 * M 2 1) + N 0 1 * (M 1 2 * M 2 0 - M 1 0 * M 2 2) + N 0 2 * (M 1 0 * M 2 1 - M 1 1 * M 2 0) = N 0 0 * (N 1 1 * N 2 2 - N 1 2 * N 2 1) + N 0 1 * (N 1 2 * N 2 0 - N 1 0 * N 2 2) + N 0 2 * (N 1 0 * N 2 1 - N 1 1 * N 2 0)
  rw [h 1 0 (by decide) (by decide), h 1 1 (by decide) (by decide), h 1 2 (by decide) (by decide), h 2 0 (by decide) (by decide), h 2 1 (by decide) (by decide), h 2 2 (by decide) (by decide)]
/-- the rows as mem keeps them -/
def memW (u : TS) : Nat → Mi := fun l i j => (tA u 0 (28 + 9 * l + (3 * i + j))).toInt
theorem its_TI {u : TS} {ts : List It} (I : tIts u ts) (ok : ItsOk ts) : (∀ k, k < ts.length → match (ts.getD k ([], none)).2 with | none => tA u 0 (3 + k) = -1 | some j => tA u 0 (3 + k) = ni j ∧ ∀ i, i < 4 → (tA u 0 (8 + 4 * k + i)).toInt = qf (ts.getD k ([], none)).1 i) ∧ (∀ l i, l < 5 → i < 9 → (tA u 0 (28 + 9 * l + i)).toInt = memW u l (i / 3) (i % 3)) ∧ (∀ k, k < ts.length → (ts.getD k ([], none)).2 = none → ∀ i j, i < 3 → j < 3 → memW u k i j = lsM (ts.getD k ([], none)).1 i j) ∧ PI ts (memW u) [] := by
  have own : ∀ k, k < ts.length → (ts.getD k ([], none)).2 = none → ∀ i j, i < 3 → j < 3 → memW u k i j = lsM (ts.getD k ([], none)).1 i j := fun k hk ho i j hi hj => by
    have := I.2.2.2 k hk
    unfold tItm at this
    rw [ho] at this
    exact this.2 (3 * i + j) (by omega)
  refine ⟨fun k hk => ?_, fun l i hl hi => ?_, own, ok.1, fun k hk => ?_, Nat.zero_le _, fun k l Wk hk => by cases hk⟩
  · have := I.2.2.2 k hk
    unfold tItm at this
    cases hq : (ts.getD k ([], none)).2 with
    | none => rw [hq] at this; exact this.1
    | some j => rw [hq] at this; exact this
  · unfold memW; rw [show 3 * (i / 3) + i % 3 = i by omega]
  · have oi := ok.2 k hk
    unfold ItOk at oi
    cases hq : (ts.getD k ([], none)).2 with
    | none =>
      rw [hq] at oi
      have e := own k hk hq
      refine ⟨fun i j hi hj => ?_, ?_⟩
      · rw [e i j hi hj]; exact Nat.le_trans (getD_le oi.2.1 _) (by decide)
      · rw [dtf_cg e]; exact oi.2.2
    | some j =>
      rw [hq] at oi
      have h3 := oi.2.2.1
      rw [List.length_take] at h3
      have h4 := oi.2.2.2.1
      have eg : (ts.take k).getD j ([], none) = ts.getD j ([], none) := by
        rw [List.getD_eq_getElem?_getD, List.getD_eq_getElem?_getD, List.getElem?_take_of_lt (by omega)]
      rw [eg] at h4
      have qb : ∀ i, i < 4 → (qf (ts.getD k ([], none)).1 i).natAbs ≤ 3 := fun i _ => getD_le oi.2.1 i
      refine ⟨by omega, h4, qb, ?_⟩
      have nz := oi.2.2.2.2
      have sqn : ∀ x : Int, 0 ≤ x * x := fun x => by
        rcases Int.le_total 0 x with hx | hx
        · exact Int.mul_nonneg hx hx
        · exact Int.mul_nonneg_of_nonpos_of_nonpos hx hx
      have sqp : ∀ x : Int, x ≠ 0 → 0 < x * x := fun x hx => by
        have h1 := sqn x
        have h2 : x * x ≠ 0 := fun e => hx (by rcases Int.mul_eq_zero.mp e with e | e <;> exact e)
        omega
      unfold ovQ
      generalize hv : (ts.getD k ([], none)).1 = vs at nz
      show 0 < vs.getD 0 0 * vs.getD 0 0 + vs.getD 1 0 * vs.getD 1 0 + vs.getD 2 0 * vs.getD 2 0 + vs.getD 3 0 * vs.getD 3 0
      have s0 := sqn (vs.getD 0 0); have s1 := sqn (vs.getD 1 0); have s2 := sqn (vs.getD 2 0); have s3 := sqn (vs.getD 3 0)
      by_cases c0 : vs.getD 0 0 = 0
      · by_cases c1 : vs.getD 1 0 = 0
        · by_cases c2 : vs.getD 2 0 = 0
          · by_cases c3' : vs.getD 3 0 = 0
            · exact absurd ⟨c0, c1, c2, c3'⟩ nz
            · have := sqp _ c3'; omega
          · have := sqp _ c2; omega
        · have := sqp _ c1; omega
      · have := sqp _ c0; omega
def sLa (A : Nat → Nat) : Nat → Prop := fun q => q = A 23 ∨ q = A 0 ∨ q = A 1 ∨ q = A 21 ∨ q = A 22
theorem ok_lattices {f : Nat} (hf : 1000 < f) {h : CH} {A : Nat → Nat} {lo y : Nat} {al : List Nat} {b : Nat → Nat} {n : Nat} {fk fp : Int32} {ts : List It} {W : Nat → Mi} {acts : List Act} {wy : Why} (I : Inv h A lo y al b n fk fp ts W acts wy) : OkX (m_X0_lattices f h (A 23)) (fun h1 => m_X3_lattices f h1 y) h A lo y al := by
  obtain ⟨O, C, P, u, H, T⟩ := I
  have C' := C
  obtain ⟨w, kf0, l0, n5, ⟨s1, s2, rf, c1, cw⟩, _⟩ := C'
  have lt : ∀ i, i < 30 → i ≠ 24 → A i < lo ∧ A i ∉ al := fun i hi h4 => O.2.1 _ (fA_i hi h4)
  obtain ⟨C1, m1⟩ := C.setx O (n' := n) (fk' := 0) (fp' := fp) (t1 := s1) (t2 := s2) (Nat.le_refl _) cw
  have p1 : pF h 1 4 (A 23) (.int 0) = some (cs h (A 23) (xC A (ni ts.length) (ni n) 0 fp s1 s2 rf)) := pF_c c1 w (by simp) _
  have d1 := cm_cs_s h (A 23) (xC A (ni ts.length) (ni n) 0 fp s1 s2 rf)
  have cw1 : CWy (cs h (A 23) (xC A (ni ts.length) (ni n) 0 fp s1 s2 rf)) lo rf wy := cw.nw m1 w (fun q hq => by have e : q = A 23 := hq; rw [e]; exact (lt 23 (by decide) (by decide)).1)
  generalize cs h (A 23) (xC A (ni ts.length) (ni n) 0 fp s1 s2 rf) = h1 at C1 m1 p1 d1 cw1
  obtain ⟨C2, m2⟩ := C1.setx O (n' := n) (fk' := 0) (fp' := -1) (t1 := s1) (t2 := s2) (Nat.le_refl _) cw1
  have p2 : pF h1 1 5 (A 23) (.int (-1)) = some (cs h1 (A 23) (xC A (ni ts.length) (ni n) 0 (-1) s1 s2 rf)) := pF_c d1 m1.wf (by simp) _
  have d2 := cm_cs_s h1 (A 23) (xC A (ni ts.length) (ni n) 0 (-1) s1 s2 rf)
  generalize cs h1 (A 23) (xC A (ni ts.length) (ni n) 0 (-1) s1 s2 rf) = h2 at C2 m2 p2 d2
  have M2 : Mod (· = A 23) 0 0 h h2 := m1.tr m2 (fun _ _ => id)
  have C2' := C2
  obtain ⟨w2, kf2, l2, _, ⟨_, _, rf2, d2', cw2⟩, X2, ⟨tf, c2, c3'⟩, ⟨fl0, L2⟩, acl, A2⟩ := C2'
  have tp2 : cTp h2 (A 23) b n := ⟨_, A 2, tf, d2, rfl, rfl, c2, n5, c3'⟩
  obtain ⟨h3, r1, r2, r3⟩ := X4_whole (f := f) (by omega) w2 kf2 tp2
  have e0 : m_X0_lattices f h (A 23) = m_X0_lattices_18 f h3 (A 23) h2.1 := by
    unfold m_X0_lattices m_X0_lattices_13
    rw [p1, bd_some, p2, bd_some, nmv_eq, nmv_eq, r1, bd_some]
  have H2 := H.md M2 O.x.1
  have xlt := (lt 23 (by decide) (by decide)).1
  cases hp : pAll b n with
  | inl e =>
    rw [hp] at r3
    obtain ⟨q, h4, z1', ⟨gs, z2', z3', z4'⟩, z5⟩ := r3
    have C4 := C2.ext z5
    have d4 := z5.at w2 d2 id
    have q1 : cm h4 q = some (.inl (5, gs)) := z2'
    have qx : q ≠ A 23 := fun e9 => by rw [e9, d4] at q1; cases q1
    have cw4 : CWy h4 lo rf wy := by
      have := cw1.nw m2 m1.wf (fun q hq => by have e : q = A 23 := hq; rw [e]; exact xlt)
      exact this.nw z5 w2 (fun q hq => hq.elim)
    obtain ⟨C5, m5⟩ := C4.setx O (n' := n) (fk' := ni e.1) (fp' := -1) (t1 := s1) (t2 := s2) (Nat.le_refl _) cw4
    have p5 : pF h4 1 4 (A 23) (.int (ni e.1)) = some (cs h4 (A 23) (xC A (ni ts.length) (ni n) (ni e.1) (-1) s1 s2 rf)) := pF_c d4 z5.wf (by simp) _
    have d5 := cm_cs_s h4 (A 23) (xC A (ni ts.length) (ni n) (ni e.1) (-1) s1 s2 rf)
    have cw5 := cw4.nw m5 z5.wf (fun q hq => by have e : q = A 23 := hq; rw [e]; exact xlt)
    have q5 := m5.at z5.wf q1 qx
    generalize cs h4 (A 23) (xC A (ni ts.length) (ni n) (ni e.1) (-1) s1 s2 rf) = h5 at C5 m5 p5 d5 cw5 q5
    obtain ⟨C6, m6⟩ := C5.setx O (n' := n) (fk' := ni e.1) (fp' := ni e.2) (t1 := s1) (t2 := s2) (Nat.le_refl _) cw5
    have p6 : pF h5 1 5 (A 23) (.int (ni e.2)) = some (cs h5 (A 23) (xC A (ni ts.length) (ni n) (ni e.1) (ni e.2) s1 s2 rf)) := pF_c d5 m5.wf (by simp) _
    have d6 := cm_cs_s h5 (A 23) (xC A (ni ts.length) (ni n) (ni e.1) (ni e.2) s1 s2 rf)
    have cw6 := cw5.nw m6 m5.wf (fun q hq => by have e : q = A 23 := hq; rw [e]; exact xlt)
    generalize cs h5 (A 23) (xC A (ni ts.length) (ni n) (ni e.1) (ni e.2) s1 s2 rf) = h6 at C6 m6 p6 d6 cw6
    obtain ⟨C7, m7⟩ := C6.setx O (n' := 0) (fk' := ni e.1) (fp' := ni e.2) (t1 := s1) (t2 := s2) (Nat.zero_le _) cw6
    have p7 : pF h6 1 3 (A 23) (.int 0) = some (cs h6 (A 23) (xC A (ni ts.length) (ni 0) (ni e.1) (ni e.2) s1 s2 rf)) := pF_c d6 m6.wf (by simp) _
    generalize cs h6 (A 23) (xC A (ni ts.length) (ni 0) (ni e.1) (ni e.2) s1 s2 rf) = h7 at C7 m7 p7
    have ec : m_X0_lattices f h (A 23) = some (.inl (-4), h7) := by
      rw [e0]
      unfold m_X0_lattices_18 m_X0_lattices_74
      rw [gd_of r2, z1', bx_r, gd_of (show isC h4 q 5 = true by unfold isC; rw [q1]; rfl), oI_c q1 z3', bd_some, p5, bd_some, oI_c q5 z4', bd_some, p6, bd_some, p7, bd_some]
    have M57 : Mod (· = A 23) 0 0 h4 h7 := (m5.tr m6 (fun _ _ => id)).tr m7 (fun _ _ => id)
    have H7 := (H2.md z5 (fun _ _ => id)).md M57 O.x.1
    obtain ⟨h8, u8, r8, y1, y2, y3, y4⟩ := X3_lattices (f := f) hf C7.2.1 H7 T.1
    rw [hp] at y2
    obtain ⟨rfl, v1, v2, v3', v4⟩ := y2
    have C8 := C7.tw O H7 y4.1 y4.2.2
    refine ⟨-4, h7, h8, ec, H7.isC, y1, ?_, ?_, b, 0, ni e.1, ni e.2, ts, W, acts, wy, O, C8, P, u8, y4.1, ?_⟩
    · have := M2.2.1; have := z5.2.1; have := M57.2.1; have := y4.2.2.2.1; omega
    · have := M2.2.2.2.1; have := z5.2.2.2.1; have := M57.2.2.2.1; have := y4.2.2.2.2.2.1; omega
    · obtain ⟨t0, t1, t2, t3, t4, t5, t6, t7, t8, t9⟩ := T
      have F := y4.2.1
      have k5 := P.1
      refine ⟨⟨y3, Nat.zero_le _, fun i hi => by omega⟩, v1, v2, by rw [v4 0 (by decide)]; exact t3, by rw [v4 1 (by decide)]; exact t4, by rw [v4 2 (by decide)]; exact t5, fun k hk => ?_, fun l i hl hi => by rw [v4 _ (by omega)]; exact t7 l i hl hi, by rw [F.2.2.1 2 (by decide) (by decide)]; exact t8, ?_⟩
      · have := t6 k hk
        cases hq : (ts.getD k ([], none)).2 with
        | none => rw [hq] at this; show tA u8 0 (3 + k) = -1; rw [v4 _ (by omega)]; exact this
        | some j => rw [hq] at this; exact ⟨by rw [v4 _ (by omega)]; exact this.1, fun i hi => by rw [v4 _ (by omega)]; exact this.2 i hi⟩
      · cases wy with
        | none => show tI u8 7 = 0; rw [v3']; exact t9
        | some z =>
          obtain ⟨a, k, l, r⟩ := z
          exact ⟨by rw [v3']; exact t9.1, t9.2.1, by rw [F.1 8 (by decide) (by decide)]; exact t9.2.2.1, by rw [F.1 9 (by decide) (by decide)]; exact t9.2.2.2.1, by rw [F.1 10 (by decide) (by decide)]; exact t9.2.2.2.2⟩
  | inr ts' =>
    rw [hp] at r3
    obtain ⟨h4, fl, FL, E, z1', z2', z3', z4', z5, z6, z7, z8, z9, z10, z11⟩ := r3
    have ok := pAll_ok hp
    have k5 := ok.1
    have kf4 := kf2.mod z11
    have w4 := z11.wf
    have d4 := z11.at w2 d2 id
    have L4 := L2.1.ext z11 w2 kf2.kok
    have B4 := A2.1.ext z11 w2 kf2.kok
    have l2' : lo ≤ h2.1 := l2
    have ne : ∀ i j, i < 30 → j < 30 → i ≠ 24 → j ≠ 24 → i ≠ j → A i ≠ A j := fun i j hi hj i4 j4 hij => O.ne hi hj i4 j4 hij
    have flt : ∀ i, i < 30 → i ≠ 24 → A i < h2.1 := fun i hi h4 => by have := (lt i hi h4).1; omega
    obtain ⟨h5, a1, a2, a3, a4⟩ := J2_clear (f := f) w4 kf4.kok (by have := L4.2.1; omega) (by decide) L4
    have kf5 := kf4.mod a3
    have F5 : isL h5 FL E 5 fl := isL.ls w4 kf4.kok L4 a2 a3 z5 (by have := flt 0 (by decide) (by decide); omega) (by have := flt 1 (by decide) (by decide); omega)
    obtain ⟨mi, hmi⟩ := kf5.2.2.2.2
    obtain ⟨rr, h6, b1, b2, b3⟩ := J2_addAll (f := f) a3.wf kf5.kok (k40 := mi) hmi a2 F5 (by omega) (by decide) (by decide)
    have kf6 := kf5.mod b3
    have nl : ∀ {k : CH} {q : Nat} {e : AC} {xs : List Nat}, isL k (A 0) (A 1) 5 xs → cm k q = some e → (∀ fs, e ≠ .inl (17, fs)) → (∀ f, e ≠ .inr (3, 5, .inr (.inr f))) → ¬ lS (A 0) (A 1) q := fun {k q e xs} L hq h1 h2 e9 => by
      obtain ⟨⟨mc, l1⟩, l2, l3, l4, l5⟩ := L
      have hE : cm k (A 1) = some (.inr (3, 5, .inr (.inr (lsf xs)))) := by
        rcases l5 with l5 | l5
        · omega
        · exact l5.2
      rcases e9 with e9 | e9
      · rw [e9, l1] at hq; cases hq; exact h1 _ rfl
      · rw [e9, hE] at hq; cases hq; exact h2 _ rfl
    obtain ⟨rd, hrd⟩ := z2'
    have d5 := a3.at w4 d4 (nl L4 d4 (fun fs hh => by cases hh) (fun f hh => by cases hh))
    have d6 := b3.at a3.wf d5 (nl a2 d5 (fun fs hh => by cases hh) (fun f hh => by cases hh))
    have rd5 := a3.at w4 hrd (nl L4 hrd (fun fs hh => by cases hh) (fun f hh => by cases hh))
    have rd6 := b3.at a3.wf rd5 (nl a2 rd5 (fun fs hh => by cases hh) (fun f hh => by cases hh))
    have o45 : oI h6 4 5 h2.1 = some (ni ts'.length) := by unfold oI oF at z3' ⊢; rw [rd6]; rw [hrd] at z3'; exact z3'
    have o40 : oR h5 4 0 h2.1 = some FL := by unfold oR oF at z4' ⊢; rw [rd5]; rw [hrd] at z4'; exact z4'
    have p7 : pF h6 1 1 (A 23) (.int (ni ts'.length)) = some (cs h6 (A 23) (xC A (ni ts'.length) (ni n) 0 (-1) s1 s2 rf)) := pF_c d6 b3.wf (by simp) _
    have m7 : Mod (sLa A) 0 0 h6 (cs h6 (A 23) (xC A (ni ts'.length) (ni n) 0 (-1) s1 s2 rf)) := Mod.cs b3.wf d6 (.inl rfl)
    have d7 := cm_cs_s h6 (A 23) (xC A (ni ts'.length) (ni n) 0 (-1) s1 s2 rf)
    have m7' : Mod (· = A 23) 0 0 h6 (cs h6 (A 23) (xC A (ni ts'.length) (ni n) 0 (-1) s1 s2 rf)) := Mod.cs b3.wf d6 rfl
    generalize cs h6 (A 23) (xC A (ni ts'.length) (ni n) 0 (-1) s1 s2 rf) = h7 at p7 m7 m7' d7
    have kf7 := kf6.mod m7
    -- the acts' list up to there
    have B5 : isL h5 (A 21) (A 22) 20 acl := by
      have L4' := L4
      obtain ⟨⟨mc, l1⟩, _, _, _, l5⟩ := L4'
      obtain ⟨⟨mc2, j1⟩, _⟩ := a2
      have hE : cm h4 (A 1) = some (.inr (3, 5, .inr (.inr (lsf fl0)))) := by
        rcases l5 with l5 | l5
        · omega
        · exact l5.2
      refine B4.mod a3 w4 kf4.kok (fun hq => ?_) (fun hq => ?_) (fun q hq ci fs hc => ?_)
      · rcases hq with hq | hq
        · exact ne 21 0 (by decide) (by decide) (by decide) (by decide) (by decide) hq
        · exact ne 21 1 (by decide) (by decide) (by decide) (by decide) (by decide) hq
      · rcases hq with hq | hq
        · exact ne 22 0 (by decide) (by decide) (by decide) (by decide) (by decide) hq
        · exact ne 22 1 (by decide) (by decide) (by decide) (by decide) (by decide) hq
      · rcases hq with hq | hq
        · rw [hq, l1] at hc; cases hc; exact ⟨_, by rw [hq]; exact j1⟩
        · rw [hq, hE] at hc; cases hc
    have B6 : isL h6 (A 21) (A 22) 20 acl := by
      have L4' := a2
      obtain ⟨⟨mc, l1⟩, _, _, _, l5⟩ := L4'
      have b2' := b2
      obtain ⟨⟨mc2, j1⟩, _⟩ := b2'
      have hE : cm h5 (A 1) = some (.inr (3, 5, .inr (.inr (lsf [])))) := by
        rcases l5 with l5 | l5
        · omega
        · exact l5.2
      refine B5.mod b3 a3.wf kf5.kok (fun hq => ?_) (fun hq => ?_) (fun q hq ci fs hc => ?_)
      · rcases hq with hq | hq
        · exact ne 21 0 (by decide) (by decide) (by decide) (by decide) (by decide) hq
        · exact ne 21 1 (by decide) (by decide) (by decide) (by decide) (by decide) hq
      · rcases hq with hq | hq
        · exact ne 22 0 (by decide) (by decide) (by decide) (by decide) (by decide) hq
        · exact ne 22 1 (by decide) (by decide) (by decide) (by decide) (by decide) hq
      · rcases hq with hq | hq
        · rw [hq, l1] at hc; cases hc; exact ⟨_, by rw [hq]; exact j1⟩
        · rw [hq, hE] at hc; cases hc
    have xm : ∀ {k k' : CH} {fs fs' : List Value} (w : wfh k) (kk : kok k) (m : Mod (· = A 23) 0 0 k k') (hk : cm k (A 23) = some (.inl (1, fs))) (hk' : cm k' (A 23) = some (.inl (1, fs'))) {i j c : Nat} {xs : List Nat} (hi : i < 30) (hj : j < 30) (i4 : i ≠ 24) (j4 : j ≠ 24) (i3 : i ≠ 23) (j3 : j ≠ 23), isL k (A i) (A j) c xs → isL k' (A i) (A j) c xs := fun {k k' fs fs'} w kk m hk hk' {i j c xs} hi hj i4 j4 i3 j3 L => L.mod m w kk (ne i 23 hi (by decide) i4 (by decide) i3) (ne j 23 hj (by decide) j4 (by decide) j3) (fun q hq ci fs2 hc => by
      have e' : q = A 23 := hq
      subst e'
      rw [hk] at hc; cases hc; exact ⟨_, hk'⟩)
    have B7 := xm b3.wf kf6.kok m7' d6 d7 (i := 21) (j := 22) (by decide) (by decide) (by decide) (by decide) (by decide) (by decide) B6
    have L7 := xm b3.wf kf6.kok m7' d6 d7 (i := 0) (j := 1) (by decide) (by decide) (by decide) (by decide) (by decide) (by decide) b2
    obtain ⟨h8, g1, g2, g3, g4⟩ := J2_clear (f := f) m7.wf kf7.kok (by have := B7.2.1; omega) (by decide) B7
    have kf8 := kf7.mod g3
    have na : ∀ i, i < 30 → i ≠ 24 → i ≠ 21 → i ≠ 22 → ¬ lS (A 21) (A 22) (A i) := fun i hi i4 i21 i22 e9 => by
      rcases e9 with e9 | e9
      · exact ne i 21 hi (by decide) i4 (by decide) i21 e9
      · exact ne i 22 hi (by decide) i4 (by decide) i22 e9
    have d8 := g3.at m7.wf d7 (na 23 (by decide) (by decide) (by decide) (by decide))
    have L8 : isL h8 (A 0) (A 1) 5 fl := by
      have B7' := B7
      obtain ⟨⟨mc, l1⟩, _, _, _, l5⟩ := B7'
      have g2' := g2
      obtain ⟨⟨mc2, j1⟩, _⟩ := g2'
      have hE : cm h7 (A 22) = some (.inr (3, 20, .inr (.inr (lsf acl)))) := by
        rcases l5 with l5 | l5
        · omega
        · exact l5.2
      refine L7.mod g3 m7.wf kf7.kok (na 0 (by decide) (by decide) (by decide) (by decide)) (na 1 (by decide) (by decide) (by decide) (by decide)) (fun q hq ci fs hc => ?_)
      rcases hq with hq | hq
      · rw [hq, l1] at hc; cases hc; exact ⟨_, by rw [hq]; exact j1⟩
      · rw [hq, hE] at hc; cases hc
    have p9 : pF h8 1 13 (A 23) .null = some (cs h8 (A 23) (xC A (ni ts'.length) (ni n) 0 (-1) s1 s2 .null)) := pF_c d8 g3.wf (by simp) _
    have m9 : Mod (· = A 23) 0 0 h8 (cs h8 (A 23) (xC A (ni ts'.length) (ni n) 0 (-1) s1 s2 .null)) := Mod.cs g3.wf d8 rfl
    have d9 := cm_cs_s h8 (A 23) (xC A (ni ts'.length) (ni n) 0 (-1) s1 s2 .null)
    have L9 := xm g3.wf kf8.kok m9 d8 d9 (i := 0) (j := 1) (by decide) (by decide) (by decide) (by decide) (by decide) (by decide) L8
    have B9 := xm g3.wf kf8.kok m9 d8 d9 (i := 21) (j := 22) (by decide) (by decide) (by decide) (by decide) (by decide) (by decide) g2
    generalize cs h8 (A 23) (xC A (ni ts'.length) (ni n) 0 (-1) s1 s2 .null) = h9 at p9 m9 d9 L9 B9
    have kf9 := kf8.mod m9
    have p10 : pF h9 1 3 (A 23) (.int 0) = some (cs h9 (A 23) (xC A (ni ts'.length) (ni 0) 0 (-1) s1 s2 .null)) := pF_c d9 m9.wf (by simp) _
    have m10 : Mod (· = A 23) 0 0 h9 (cs h9 (A 23) (xC A (ni ts'.length) (ni 0) 0 (-1) s1 s2 .null)) := Mod.cs m9.wf d9 rfl
    have d10 := cm_cs_s h9 (A 23) (xC A (ni ts'.length) (ni 0) 0 (-1) s1 s2 .null)
    have L10 := xm m9.wf kf9.kok m10 d9 d10 (i := 0) (j := 1) (by decide) (by decide) (by decide) (by decide) (by decide) (by decide) L9
    have B10 := xm m9.wf kf9.kok m10 d9 d10 (i := 21) (j := 22) (by decide) (by decide) (by decide) (by decide) (by decide) (by decide) B9
    generalize cs h9 (A 23) (xC A (ni ts'.length) (ni 0) 0 (-1) s1 s2 .null) = h10 at p10 m10 d10 L10 B10
    -- all in one
    have toL0 : ∀ q, lS (A 0) (A 1) q → sLa A q := fun q hq => by
      rcases hq with hq | hq
      · exact .inr (.inl hq)
      · exact .inr (.inr (.inl hq))
    have toA : ∀ q, lS (A 21) (A 22) q → sLa A q := fun q hq => by
      rcases hq with hq | hq
      · exact .inr (.inr (.inr (.inl hq)))
      · exact .inr (.inr (.inr (.inr hq)))
    have toX : ∀ q, (fun z => z = A 23) q → sLa A q := fun q hq => .inl hq
    have M10 : Mod (sLa A) 1 5 h4 h10 := ((((((a3.mono (T := sLa A) (fun q _ hq => toL0 q hq) (Nat.le_refl _) (Nat.le_refl _)).tr b3 (fun q _ hq => toL0 q hq)).tr m7 (fun _ _ => id)).tr g3 (fun q _ hq => toA q hq)).tr m9 (fun q _ hq => toX q hq)).tr m10 (fun q _ hq => toX q hq)).up (by omega) (by omega)
    have nS : ∀ i, i < 30 → i ≠ 24 → i ≠ 23 → i ≠ 0 → i ≠ 1 → i ≠ 21 → i ≠ 22 → ¬ sLa A (A i) := fun i hi i4 i23 i0 i1 i21 i22 e9 => by
      rcases e9 with e9 | e9 | e9 | e9 | e9
      · exact ne i 23 hi (by decide) i4 (by decide) i23 e9
      · exact ne i 0 hi (by decide) i4 (by decide) i0 e9
      · exact ne i 1 hi (by decide) i4 (by decide) i1 e9
      · exact ne i 21 hi (by decide) i4 (by decide) i21 e9
      · exact ne i 22 hi (by decide) i4 (by decide) i22 e9
    have sLlt : ∀ q, sLa A q → q < lo ∧ q ∉ al := fun q hq => by
      rcases hq with hq | hq | hq | hq | hq
      · rw [hq]; exact lt 23 (by decide) (by decide)
      · rw [hq]; exact lt 0 (by decide) (by decide)
      · rw [hq]; exact lt 1 (by decide) (by decide)
      · rw [hq]; exact lt 21 (by decide) (by decide)
      · rw [hq]; exact lt 22 (by decide) (by decide)
    obtain ⟨pp, hpp⟩ := X2.1
    have X4 : FX h4 A := X2.md z11 w2 (fun i _ _ _ => id) ⟨pp, z11.at w2 hpp id⟩
    have X10 : FX h10 A := by
      obtain ⟨⟨p, hp'⟩, ⟨F, v, m0, x1, x2, x3⟩, ⟨g, x4⟩, ⟨N, x5⟩, x6, x7⟩ := X4
      refine ⟨⟨p, M10.at w4 hp' (nS 3 (by decide) (by decide) (by decide) (by decide) (by decide) (by decide) (by decide))⟩, ⟨F, v, m0, M10.at w4 x1 (nS 4 (by decide) (by decide) (by decide) (by decide) (by decide) (by decide) (by decide)), x2.mod M10 w4 (nS 25 (by decide) (by decide) (by decide) (by decide) (by decide) (by decide) (by decide)) (nS 26 (by decide) (by decide) (by decide) (by decide) (by decide) (by decide) (by decide)) (fun i hi => nS (27 + i) (by omega) (by omega) (by omega) (by omega) (by omega) (by omega) (by omega)), M10.at w4 x3 (nS 5 (by decide) (by decide) (by decide) (by decide) (by decide) (by decide) (by decide))⟩, ⟨g, x4.md M10 w4 (nS 6 (by decide) (by decide) (by decide) (by decide) (by decide) (by decide) (by decide)) (fun i hi => nS (7 + i) (by omega) (by omega) (by omega) (by omega) (by omega) (by omega) (by omega))⟩, ⟨N, x5.md M10 w4 (nS 10 (by decide) (by decide) (by decide) (by decide) (by decide) (by decide) (by decide)) (fun i hi => nS (11 + i) (by omega) (by omega) (by omega) (by omega) (by omega) (by omega) (by omega))⟩, M10.at w4 x6 (nS 14 (by decide) (by decide) (by decide) (by decide) (by decide) (by decide) (by decide)), fun k hk => ?_⟩
      obtain ⟨r, y1, y2⟩ := x7 k hk
      exact ⟨r, M10.at w4 y1 (nS (15 + k) (by omega) (by omega) (by omega) (by omega) (by omega) (by omega) (by omega)), y2⟩
    have ic0 : ∀ {k : CH} {xs : List Nat} {i j c : Nat}, isL k (A i) (A j) c xs → isC k (A i) 17 = true := fun {k xs i j c} L => by
      obtain ⟨⟨mc, l1⟩, _⟩ := L
      unfold isC; rw [l1]; rfl
    have ec : m_X0_lattices f h (A 23) = some (.inl (ni ts'.length), h10) := by
      rw [e0]
      unfold m_X0_lattices_18
      rw [gd_of r2, z1', bx_l]
      unfold m_X0_lattices_23 m_X0_lattices_30 m_X0_lattices_41 m_X0_lattices_57
      have q1 : oR h4 1 0 (A 23) = some (A 0) := oR_c d4 rfl
      have q2 : oR h5 1 0 (A 23) = some (A 0) := oR_c d5 rfl
      have q3 : oR h7 1 14 (A 23) = some (A 21) := oR_c d7 rfl
      have q4 : oI h9 1 1 (A 23) = some (ni ts'.length) := oI_c d9 rfl
      rw [q1, bd_some, gd_of (ic0 L4), a1, bd_some, q2, bd_some, o40, bd_some, gd_of (ic0 a2), b1, bd2_some, o45, bd_some, p7, bd_some, q3, bd_some, gd_of (ic0 B7), g1, bd_some, p9, bd_some, q4, bd_some, p10, bd_some]
    have H4 := H2.md z11 (fun _ _ => id)
    have H10 := H4.md M10 (fun q hq hs => (sLlt q hs).2 hq)
    have kf10 : kf h10 := kf9.mod m10
    obtain ⟨h11, u11, r11, y1, y2, y3, y4⟩ := X3_lattices (f := f) hf kf10 H10 T.1
    rw [hp] at y2
    obtain ⟨rfl, v1, v2, v3', v4⟩ := y2
    obtain ⟨j1, j2, j3, j4⟩ := its_TI v4 ok
    have tape10 := M10.at w4 (z11.at w2 c2 id) (nS 2 (by decide) (by decide) (by decide) (by decide) (by decide) (by decide) (by decide))
    have C10 : CIv h10 A lo b 0 0 (-1) ts' (memW u11) [] none := by
      refine ⟨m10.wf, kf10, by have := z11.ge; have := M10.ge; omega, Nat.zero_le _, ⟨s1, s2, .null, d10, rfl⟩, X10, ⟨tf, tape10, fun i hi => by omega⟩, ⟨fl, L10, z8, z9, fun k it hk => ?_⟩, [], B10, rfl, fun k l Wk hk => by cases hk⟩
      obtain ⟨a, k1, k2, k3⟩ := z10 k it hk
      have hkl : k < ts'.length := (List.getElem?_eq_some_iff.mp hk).1
      have eit : ts'.getD k ([], none) = it := by rw [List.getD_eq_getElem?_getD, hk]; rfl
      refine ⟨a, k1, by omega, ?_⟩
      have hlo : ∀ q, sLa A q → q < h2.1 := fun q hq => by have := (sLlt q hq).1; omega
      unfold cIt at k3
      unfold cLt
      cases hq : it.2 with
      | none =>
        rw [hq] at k3
        obtain ⟨R, o1, o2⟩ := k3
        refine ⟨R, ⟨M10.at w4 o1.1 (fun hs => by have := hlo _ hs; omega), (isN.nw M10 w4 hlo o1.2 o2).congr (fun i j hi hj => ?_)⟩, ⟨by have := o2.1; omega, by have := o2.2.1; omega, fun i hi => by have := o2.2.2 i hi; omega⟩⟩
        show li (lsM it.1 i j) = li (memW u11 k i j)
        rw [j3 k hkl (by rw [eit]; exact hq) i j hi hj, eit]
      | some j =>
        rw [hq] at k3
        obtain ⟨b', TT, o1, ⟨r0, o2, o2'⟩, o3⟩ := k3
        exact ⟨b', TT, o1, ⟨r0, M10.at w4 o2 (fun hs => by have := hlo _ hs; omega), isN.nw M10 w4 hlo o2' o3⟩, ⟨by have := o3.1; omega, by have := o3.2.1; omega, fun i hi => by have := o3.2.2 i hi; omega⟩⟩
    have C11 := C10.tw O H10 y4.1 y4.2.2
    refine ⟨ni ts'.length, h10, h11, ec, H10.isC, y1, ?_, ?_, b, 0, 0, -1, ts', memW u11, [], none, O, C11, j4, u11, y4.1, ⟨y3, Nat.zero_le _, fun i hi => by omega⟩, v1, v2, v4.1, v4.2.1, v4.2.2.1, j1, j2, fun k l Wk hk => (by cases hk), v3'⟩
    · have := M2.2.1; have := z11.2.1; have := M10.2.1; have := y4.2.2.2.1; omega
    · have := M2.2.2.2.1; have := z11.2.2.2.1; have := M10.2.2.2.1; have := y4.2.2.2.2.2.1; omega
