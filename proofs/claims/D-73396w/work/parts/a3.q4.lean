/-! questions asked of two: the meet, the join, whether the one is in the other -/
set_option maxRecDepth 100000
theorem z_2 {α : Type} (A B : α) : (if (0 : Int32) = -2 then A else B) = B := if_neg (by decide)
theorem m3_2 {α : Type} (A B : α) : (if (-3 : Int32) = -2 then A else B) = B := if_neg (by decide)
theorem z_z {α : Type} (A B : α) : (if (0 : Int32) ≤ 0 then A else B) = A := if_pos (by decide)
theorem z_m3 {α : Type} (A B : α) : (if (0 : Int32) ≤ -3 then A else B) = B := if_neg (by decide)
theorem q_meetOver {f : Nat} (hf : 2 ^ 63 ≤ f) {h : CH} {x : Nat} {u : TS} {LS : LSt} (E : QE h x u LS) (l m : Int32) : QA (m_X0_meetOver f h x l m) (m_X3_meetOver f u l m) h u := by
  have E' := E
  obtain ⟨w, kf0, C, T, L⟩ := E
  unfold m_X0_meetOver m_X3_meetOver
  rw [gd_of C.isC]
  rcases ask_cases (f := f) E' l m with ⟨e1, e2⟩ | ⟨k1, k2, M1, n1, t1, M2, n2, t2, rfl, rfl, hk1, hk2, hl1, hl2, ⟨e1, e2⟩ | ⟨e1, e2, ht⟩⟩
  · rw [e1, e2, bd2_some, bd2_some]
    exact QA.mk (l := []) rfl rfl (Ext.rf w) (by omega) (by omega) Fr.rf (by decide)
  · rw [e1, e2, bd2_some, bd2_some]
    exact QA.mk (l := []) rfl rfl (Ext.rf w) (by omega) (by omega) Fr.rf (by decide)
  · rw [e1, e2, bd2_some, bd2_some]
    obtain ⟨P, Q, b, _, _, _, _, _, _, ⟨a, h', c1, ⟨R, c2, c3'⟩, c4'⟩, u', d1, d2, d3, d4⟩ := meet_CT (f := f) hf E' hl1 hl2 ht
    refine QA.mk (r := Int64.toInt32 (li (lsO (mtC P Q) b))) (h' := h') (u' := u') ?_ ?_ c4' (by omega) (by omega) d4 (by decide)
    · unfold m_X0_meetOver_6
      rw [if_pos (by decide), gd_of C.isC, c1, bd2_some]
      unfold m_X0_meetOver_21
      rw [oL_c (k := 1) (x := li (lsO (mtC P Q) b)) c2 rfl, bd_some]
      rfl
    · rw [if_pos (by decide), d1, bd_some, d3]
theorem q_joinOver {f : Nat} (hf : 2 ^ 63 ≤ f) {h : CH} {x : Nat} {u : TS} {LS : LSt} (E : QE h x u LS) (l m : Int32) : QA (m_X0_joinOver f h x l m) (m_X3_joinOver f u l m) h u := by
  have E' := E
  obtain ⟨w, kf0, C, T, L⟩ := E
  unfold m_X0_joinOver m_X3_joinOver
  rw [gd_of C.isC]
  rcases ask_cases (f := f) E' l m with ⟨e1, e2⟩ | ⟨k1, k2, M1, n1, t1, M2, n2, t2, rfl, rfl, hk1, hk2, hl1, hl2, ⟨e1, e2⟩ | ⟨e1, e2, ht⟩⟩
  · rw [e1, e2, bd2_some, bd2_some]
    exact QA.mk (l := []) rfl rfl (Ext.rf w) (by omega) (by omega) Fr.rf (by decide)
  · rw [e1, e2, bd2_some, bd2_some]
    exact QA.mk (l := []) rfl rfl (Ext.rf w) (by omega) (by omega) Fr.rf (by decide)
  · rw [e1, e2, bd2_some, bd2_some]
    obtain ⟨P, Q, b, ⟨a, h', c1, ⟨R, c2, c3'⟩, c4'⟩, u', d1, d2, d3, d4⟩ := join_CT (f := f) hf E' hl1 hl2 ht
    refine QA.mk (r := Int64.toInt32 (li (lsO (jnF' P Q) b))) (h' := h') (u' := u') ?_ ?_ c4' (by omega) (by omega) d4 (by decide)
    · unfold m_X0_joinOver_6
      rw [if_pos (by decide), gd_of C.isC, c1, bd2_some]
      unfold m_X0_joinOver_21
      rw [oL_c (k := 1) (x := li (lsO (jnF' P Q) b)) c2 rfl, bd_some]
      rfl
    · rw [if_pos (by decide), d1, bd_some, d3]
theorem q_meet {f : Nat} (hf : 2 ^ 63 ≤ f) {h : CH} {x : Nat} {u : TS} {LS : LSt} (E : QE h x u LS) (l m i j : Int32) : QA (m_X0_meet f h x l m i j) (m_X3_meet f u l m i j) h u := by
  have E' := E
  obtain ⟨w, kf0, C, T, L⟩ := E
  unfold m_X0_meet m_X3_meet
  rw [gd_of C.isC]
  rcases ask_cases (f := f) E' l m with ⟨e1, e2⟩ | ⟨k1, k2, M1, n1, t1, M2, n2, t2, rfl, rfl, hk1, hk2, hl1, hl2, ⟨e1, e2⟩ | ⟨e1, e2, ht⟩⟩
  · rw [e1, e2, bd2_some, bd2_some]
    exact QA.mk (l := []) rfl rfl (Ext.rf w) (by omega) (by omega) Fr.rf (by decide)
  · rw [e1, e2, bd2_some, bd2_some]
    unfold m_X0_meet_6
    rw [m3_2, m3_2, X0_isSide, X0_isSide, X3_isAt2]
    cases s1 : inI i.toInt 0 2 with
    | false => exact QA.mk (l := []) rfl rfl (Ext.rf w) (by omega) (by omega) Fr.rf (by decide)
    | true =>
      cases s2 : inI j.toInt 0 2 with
      | false => exact QA.mk (l := []) rfl rfl (Ext.rf w) (by omega) (by omega) Fr.rf (by decide)
      | true =>
        rw [bd_some, ift1, bd_some, nift1, z_m3, Bool.and_self, bd_some, nift1, z_m3]
        exact QA.mk (l := []) rfl rfl (Ext.rf w) (by omega) (by omega) Fr.rf (by decide)
  · rw [e1, e2, bd2_some, bd2_some]
    unfold m_X0_meet_6
    rw [z_2, z_2, X0_isSide, X0_isSide, X3_isAt2]
    cases s1 : inI i.toInt 0 2 with
    | false => exact QA.mk (l := []) rfl rfl (Ext.rf w) (by omega) (by omega) Fr.rf (by decide)
    | true =>
      cases s2 : inI j.toInt 0 2 with
      | false => exact QA.mk (l := []) rfl rfl (Ext.rf w) (by omega) (by omega) Fr.rf (by decide)
      | true =>
        obtain ⟨i, rfl, hi⟩ := side_ni s1
        obtain ⟨j, rfl, hj⟩ := side_ni s2
        obtain ⟨P, Q, b, _, _, _, _, _, _, ⟨a, h', c1, ⟨R, c2, c3'⟩, c4'⟩, u', d1, d2, d3, d4⟩ := meet_CT (f := f) hf E' hl1 hl2 ht
        refine QA.mk (r := li (lsG (mtC P Q) b i j)) (h' := h') (u' := u') ?_ ?_ c4' (by omega) (by omega) d4 (by decide)
        · rw [bd_some, ift1, bd_some, nift1, z_z, gd_of C.isC, c1, bd2_some]
          unfold m_X0_meet_51
          rw [oR_c (k := 0) (x := R.1) c2 rfl, bd_some, oR_R c3', bd_some, aR_R c3' hi, bd_some, aL_R c3' hi hj, bd_some]
          rfl
        · rw [Bool.and_self, bd_some, nift1, z_z, d1, bd_some, gd_of (i3x hi hj), i3c hi hj, d2 i j hi hj]
theorem q_join {f : Nat} (hf : 2 ^ 63 ≤ f) {h : CH} {x : Nat} {u : TS} {LS : LSt} (E : QE h x u LS) (l m i j : Int32) : QA (m_X0_join f h x l m i j) (m_X3_join f u l m i j) h u := by
  have E' := E
  obtain ⟨w, kf0, C, T, L⟩ := E
  unfold m_X0_join m_X3_join
  rw [gd_of C.isC]
  rcases ask_cases (f := f) E' l m with ⟨e1, e2⟩ | ⟨k1, k2, M1, n1, t1, M2, n2, t2, rfl, rfl, hk1, hk2, hl1, hl2, ⟨e1, e2⟩ | ⟨e1, e2, ht⟩⟩
  · rw [e1, e2, bd2_some, bd2_some]
    exact QA.mk (l := []) rfl rfl (Ext.rf w) (by omega) (by omega) Fr.rf (by decide)
  · rw [e1, e2, bd2_some, bd2_some]
    unfold m_X0_join_6
    rw [m3_2, m3_2, X0_isSide, X0_isSide, X3_isAt2]
    cases s1 : inI i.toInt 0 2 with
    | false => exact QA.mk (l := []) rfl rfl (Ext.rf w) (by omega) (by omega) Fr.rf (by decide)
    | true =>
      cases s2 : inI j.toInt 0 2 with
      | false => exact QA.mk (l := []) rfl rfl (Ext.rf w) (by omega) (by omega) Fr.rf (by decide)
      | true =>
        rw [bd_some, ift1, bd_some, nift1, z_m3, Bool.and_self, bd_some, nift1, z_m3]
        exact QA.mk (l := []) rfl rfl (Ext.rf w) (by omega) (by omega) Fr.rf (by decide)
  · rw [e1, e2, bd2_some, bd2_some]
    unfold m_X0_join_6
    rw [z_2, z_2, X0_isSide, X0_isSide, X3_isAt2]
    cases s1 : inI i.toInt 0 2 with
    | false => exact QA.mk (l := []) rfl rfl (Ext.rf w) (by omega) (by omega) Fr.rf (by decide)
    | true =>
      cases s2 : inI j.toInt 0 2 with
      | false => exact QA.mk (l := []) rfl rfl (Ext.rf w) (by omega) (by omega) Fr.rf (by decide)
      | true =>
        obtain ⟨i, rfl, hi⟩ := side_ni s1
        obtain ⟨j, rfl, hj⟩ := side_ni s2
        obtain ⟨P, Q, b, ⟨a, h', c1, ⟨R, c2, c3'⟩, c4'⟩, u', d1, d2, d3, d4⟩ := join_CT (f := f) hf E' hl1 hl2 ht
        refine QA.mk (r := li (lsG (jnF' P Q) b i j)) (h' := h') (u' := u') ?_ ?_ c4' (by omega) (by omega) d4 (by decide)
        · rw [bd_some, ift1, bd_some, nift1, z_z, gd_of C.isC, c1, bd2_some]
          unfold m_X0_join_51
          rw [oR_c (k := 0) (x := R.1) c2 rfl, bd_some, oR_R c3', bd_some, aR_R c3' hi, bd_some, aL_R c3' hi hj, bd_some]
          rfl
        · rw [Bool.and_self, bd_some, nift1, z_z, d1, bd_some, gd_of (i3x hi hj), i3c hi hj, d2 i j hi hj]
theorem hasP_scale {A : M3} {o d k : Int} (hk : k ≠ 0) {x : V3} : hasP A o (vsm k x) (k * d) ↔ hasP A o x d := by
  have e1 : vsm o (vsm k x) = vsm k (vsm o x) := by simp only [vsm, Prod.mk.injEq]; refine ⟨?_, ?_, ?_⟩ <;> grind
  have e2 : ∀ w, vsm (k * d) w = vsm k (vsm d w) := fun w => by simp only [vsm, Prod.mk.injEq]; refine ⟨?_, ?_, ?_⟩ <;> grind
  constructor
  · rintro ⟨w, hw, e⟩; rw [e1, e2] at e; exact ⟨w, hw, vsm_inj hk e⟩
  · rintro ⟨w, hw, e⟩; exact ⟨w, hw, by rw [e1, e2, e]⟩
/-- all of the first one's rows are of the other one -/
def insB (P : Nat → Prop) [∀ i, Decidable (P i)] : Nat → Nat → Bool
  | 0, _ => true
  | k + 1, i => if P i then insB P k (i + 1) else false
theorem C_ins {f : Nat} (hf : 2 ^ 63 ≤ f) {h0 : CH} (w0 : wfh h0) (kf0 : kf h0) {x : Nat} {LS : LSt} (C : CV h0 x LS) {k1 k2 : Nat} {M1 M2 : Mi} {n1 n2 : Int} {t1 t2 : Bool} (hl1 : LS[k1]? = some (M1, n1, t1)) (hl2 : LS[k2]? = some (M2, n2, t2)) (LO1 : LatOk M1 n1 t1) (LO2 : LatOk M2 n2 t2) {R : RA} (hR : isN h0 R M1) : ∀ k n i h, i + k = 3 → k < n → Ext (30 * i) (80 * i) h0 h → ∃ (b : Bool) (h' : CH), m_X0_inside_26 f n h x (ni k1) (ni k2) R.1 (ni i) = some (if b = true then 1 else 0, h') ∧ (b = true ↔ ∀ j, i ≤ j → j < 3 → hasP (m3 M2) n2 (rw3 M1 j) n1) ∧ Ext 90 240 h0 h' := by
  intro k
  induction k with
  | zero =>
    intro n i h hi hn e
    obtain ⟨n, rfl⟩ : ∃ z, n = z + 1 := ⟨n - 1, by omega⟩
    have : i = 3 := by omega
    subst this
    rw [m_X0_inside_26, if_pos le33]
    exact ⟨true, h, rfl, ⟨fun _ j h1 h2 => by omega, fun _ => rfl⟩, e.up (by omega) (by omega)⟩
  | succ k ih =>
    intro n i h hi hn e
    obtain ⟨n, rfl⟩ : ∃ z, n = z + 1 := ⟨n - 1, by omega⟩
    have i3' : i < 3 := by omega
    have Ch := C.ext e w0 kf0.kok
    have kh := kf0.mod e
    rw [m_X0_inside_26, if_neg (le3 i3'), gd_of Ch.isC]
    obtain ⟨a, a1, a2⟩ := X0_at (f := f) Ch hl2
    rw [a1, bd2_some]
    unfold m_X0_inside_37
    obtain ⟨R2, h3, b1, b2, b3⟩ := L_rows (f := f) (by omega) e.wf a2
    rw [b3 (fun a3 h2 => m_X0_inside_40 f (m_X0_inside_26 f n) h2 x (ni k1) (ni k2) R.1 (ni i) a3)]
    have C3 := Ch.ext b2 e.wf kh.kok
    have k3 := kh.mod b2
    unfold m_X0_inside_40
    obtain ⟨a', a1', a2'⟩ := X0_at (f := f) C3 hl2
    rw [gd_of C3.isC, a1', bd2_some]
    unfold m_X0_inside_45
    obtain ⟨h4, c1, c2⟩ := L_over (f := f) (by omega) b2.wf a2'
    rw [c2 (fun r3 h2 => m_X0_inside_48 f (m_X0_inside_26 f n) h2 x (ni k1) (ni k2) R.1 (ni i) R2.1 r3)]
    have C4 := C3.ext c1 b2.wf k3.kok
    have k4 := k3.mod c1
    have e04 : Ext (30 * i + 20) (80 * i + 52) h0 h4 := ((e.tr b2 (fun _ _ => id)).tr c1 (fun _ _ => id)).up (by omega) (by omega)
    have hR4 := hR.ext e04 w0
    unfold m_X0_inside_48
    have l0 : aL h4 1 (R.2.2 i) 0 = some (lM M1 i 0) := aL_R hR4 i3' (j := 0) (by decide)
    have l1 : aL h4 1 (R.2.2 i) 1 = some (lM M1 i 1) := aL_R hR4 i3' (j := 1) (by decide)
    have l2 : aL h4 1 (R.2.2 i) 2 = some (lM M1 i 2) := aL_R hR4 i3' (j := 2) (by decide)
    rw [oR_R hR4, bd_some, aR_R hR4 i3', bd_some, l0, bd_some, bd_some, aR_R hR4 i3', bd_some, l1, bd_some, bd_some, aR_R hR4 i3', bd_some, l2, bd_some]
    obtain ⟨a'', a1'', a2''⟩ := X0_at (f := f) C4 hl1
    rw [gd_of C4.isC, a1'', bd2_some]
    unfold m_X0_inside_83
    obtain ⟨h5, d1, d2⟩ := L_over (f := f) (by omega) c1.wf a2''
    rw [d2 (fun r3 h2 => m_X0_inside_86 f (m_X0_inside_26 f n) h2 x (ni k1) (ni k2) R.1 (ni i) R2.1 (li n2) (lM M1 i 0) (lM M1 i 1) (lM M1 i 2) r3)]
    have R2' := (b1.ext c1 b2.wf).ext d1 c1.wf
    obtain ⟨Q1, pq1⟩ := LO1.pq
    obtain ⟨en1, _⟩ := pq1.ent
    obtain ⟨bb, h6, p1, p2, p3'⟩ := have_C (f := f) (by omega) d1.wf LO2 R2' (p := M1 i) (fun j hj => by have := bdM_at en1 i3' hj; omega) LO1.n
    unfold m_X0_inside_86
    have p1' : m_X0_have f h5 R2.1 (li n2) (lM M1 i 0) (lM M1 i 1) (lM M1 i 2) (li n1) = _ := p1
    rw [p1', bd2_some]
    unfold m_X0_inside_89
    have e06 : Ext (30 * (i + 1)) (80 * (i + 1)) h0 h6 := ((e04.tr d1 (fun _ _ => id)).tr p3' (fun _ _ => id)).up (by omega) (by omega)
    cases bb with
    | false =>
      rw [niff0]
      refine ⟨false, h6, rfl, ⟨fun h => (by cases h), fun hh => ?_⟩, e06.up (by omega) (by omega)⟩
      exact p2.mpr (hh i (Nat.le_refl _) i3')
    | true =>
      rw [nift1, nmv_eq, ni_succ]
      obtain ⟨b, h', g1, g2, g3⟩ := ih n (i + 1) h6 (by omega) (by omega) e06
      refine ⟨b, h', g1, g2.trans ⟨fun hh j h1 h2 => ?_, fun hh j h1 h2 => hh j (by omega) h2⟩, g3⟩
      by_cases e : j = i
      · subst e; exact p2.mp rfl
      · exact hh j (by omega) h2
theorem T_ins {f : Nat} (hf : 2 ^ 63 ≤ f) {u0 : TS} {P M2 : Mi} {n2 b : Int} {t2 : Bool} (LO2 : LatOk M2 n2 t2) (hb : 1 ≤ b ∧ b ≤ 36) (hP : ∀ i j, i < 3 → j < 3 → (P i j).natAbs ≤ 1247) : ∀ k n i u, i + k = 3 → k < n → tR 18 u (hrun 100 (M2, [])).1 → tL u 19 = li n2 → tR 27 u P → tL u 31 = li b → Fr [26] u0 u → ∃ (bb : Bool) (u' : TS), m_X3_inside_31 f n u (ni i) = some (if bb = true then 1 else 0, u') ∧ (bb = true ↔ ∀ j, i ≤ j → j < 3 → hasP (m3 M2) n2 (rw3 P j) b) ∧ Fr [26] u0 u' := by
  intro k
  induction k with
  | zero =>
    intro n i u hi hn _ _ _ _ hF
    obtain ⟨n, rfl⟩ : ∃ z, n = z + 1 := ⟨n - 1, by omega⟩
    have : i = 3 := by omega
    subst this
    rw [m_X3_inside_31, if_pos le33]
    exact ⟨true, u, rfl, ⟨fun _ j h1 h2 => by omega, fun _ => rfl⟩, hF⟩
  | succ k ih =>
    intro n i u hi hn hR ho hF' hb' hF
    obtain ⟨n, rfl⟩ : ∃ z, n = z + 1 := ⟨n - 1, by omega⟩
    have i3' : i < 3 := by omega
    obtain ⟨bb, u1, e1, e2, e3⟩ := has_T (f := f) (by omega) LO2 hR ho (p := P i) (X := 1247) (by decide) (fun j hj => hP i j i3' hj) hb
    have x1 : ix ((3 : Int32) * ni i + 1) 9 = true := i3x i3' (c := 1) (by decide)
    have x2 : ix ((3 : Int32) * ni i + 2) 9 = true := i3x i3' (c := 2) (by decide)
    have y1 : Int32.toNatClampNeg ((3 : Int32) * ni i + 1) = 3 * i + 1 := i3c i3' (c := 1) (by decide)
    have y2 : Int32.toNatClampNeg ((3 : Int32) * ni i + 2) = 3 * i + 2 := i3c i3' (c := 2) (by decide)
    rw [m_X3_inside_31, if_neg (le3 i3'), gd_of (i3x0 i3'), gd_of x1, gd_of x2, i3c0 i3', y1, y2, hF' i 0 i3' (by decide), hF' i 1 i3' (by decide), hF' i 2 i3' (by decide), hb', e1, bd2_some]
    have hF1 := hF.tr e3
    cases bb with
    | false =>
      rw [niff0]
      refine ⟨false, u1, rfl, ⟨fun h => (by cases h), fun hh => ?_⟩, hF1⟩
      exact e2.mpr (hh i (Nat.le_refl _) i3')
    | true =>
      rw [nift1, nmv_eq, ni_succ]
      obtain ⟨b', u', g1, g2, g3⟩ := ih n (i + 1) u1 (by omega) (by omega) (hR.fr e3 (by decide)) (by rw [(e3 19 (by decide)).2.1]; exact ho) (hF'.fr e3 (by decide)) (by rw [(e3 31 (by decide)).2.1]; exact hb') hF1
      refine ⟨b', u', g1, g2.trans ⟨fun hh j h1 h2 => ?_, fun hh j h1 h2 => hh j (by omega) h2⟩, g3⟩
      by_cases e : j = i
      · subst e; exact e2.mp rfl
      · exact hh j (by omega) h2
theorem q_inside {f : Nat} (hf : 2 ^ 63 ≤ f) {h : CH} {x : Nat} {u : TS} {LS : LSt} (E : QE h x u LS) (l m : Int32) : QA (m_X0_inside f h x l m) (m_X3_inside f u l m) h u := by
  have E' := E
  obtain ⟨w, kf0, C, T, L⟩ := E
  unfold m_X0_inside m_X3_inside
  rw [gd_of C.isC]
  rcases ask_cases (f := f) E' l m with ⟨e1, e2⟩ | ⟨k1, k2, M1, n1, t1, M2, n2, t2, rfl, rfl, hk1, hk2, hl1, hl2, ⟨e1, e2⟩ | ⟨e1, e2, ht⟩⟩
  · rw [e1, e2, bd2_some, bd2_some]
    exact QA.mk (l := []) rfl rfl (Ext.rf w) (by omega) (by omega) Fr.rf (by decide)
  · rw [e1, e2, bd2_some, bd2_some]
    exact QA.mk (l := []) rfl rfl (Ext.rf w) (by omega) (by omega) Fr.rf (by decide)
  · rw [e1, e2, bd2_some, bd2_some]
    have LO1 := L k1 M1 n1 t1 hl1
    have LO2 := L k2 M2 n2 t2 hl2
    have b1 := LO1.n
    have b2 := LO2.n
    obtain ⟨pq, p1, p2⟩ := pairPQ LO1 LO2 ht
    -- the component
    obtain ⟨a, a1, a2⟩ := X0_at (f := f) C hl1
    obtain ⟨R, h3, c1, c2, c3'⟩ := L_rows (f := f) (by omega) w a2
    obtain ⟨bb, h', g1, g2, g3⟩ := C_ins (f := f) hf c2.wf (kf0.mod c2) (C.ext c2 w kf0.kok) hl1 hl2 LO1 LO2 c1 3 f 0 h3 rfl (by omega) ((Ext.rf c2.wf).up (by omega) (by omega))
    -- the twin
    obtain ⟨v1, t1', t2', t3', t4', t5', t6', t7'⟩ := X3_laysBoth (f := f) hf (T.2.2 k1 M1 n1 t1 hl1).1 (T.2.2 k2 M2 n2 t2 hl2).1 (show rg n1 from ⟨by omega, by omega⟩) (show rg n2 from ⟨by omega, by omega⟩) (by omega) (by omega) (show rg (btw n1 n2) from ⟨by omega, by omega⟩)
    obtain ⟨r1, _⟩ := LO2.run
    obtain ⟨v2, v3, s1, s2, s3, s4, s5⟩ := herm_T (f := f) hf (T.fr t7' (by decide)) hl2 r1
    have en : ∀ i j, i < 3 → j < 3 → (M1 i j * (btw n1 n2).tdiv n1).natAbs ≤ 1247 := fun i j hi hj => by
      have := bdM_at pq.ent.1 hi hj
      rw [Int.mul_comm]; exact this
    obtain ⟨bb', u', y1, y2, y3⟩ := T_ins (f := f) hf (u0 := v3) LO2 ⟨p1, p2⟩ en 3 f 0 v3 rfl (by omega) s3.1 s4 (t2'.fr s5 (by decide)) (by rw [(s5 31 (by decide)).2.1]; exact t4') Fr.rf
    have kz : (btw n1 n2).tdiv n1 ≠ 0 ∧ (btw n1 n2).tdiv n1 * n1 = btw n1 n2 := by
      have hd : n1 ∣ btw n1 n2 := by
        unfold btw
        have e1 : ((Int.gcd n1 n2 : Nat) : Int) ∣ n2 := Int.gcd_dvd_right ..
        have e0 : ((Int.gcd n1 n2 : Nat) : Int) ∣ n1 := Int.gcd_dvd_left ..
        obtain ⟨c, hc⟩ := e1
        refine ⟨c, ?_⟩
        generalize ((Int.gcd n1 n2 : Nat) : Int) = g at *
        rw [hc, ← Int.mul_assoc, Int.tdiv_mul_cancel e0]
      have := Int.tdiv_mul_cancel hd
      refine ⟨fun e => ?_, this⟩
      rw [e] at this; omega
    have same : bb = bb' := by
      refine bool_iff g2 (y2.trans ⟨fun hh j h1 h2 => ?_, fun hh j h1 h2 => ?_⟩)
      · have q := hh j h1 h2
        have er : rw3 (fun i j => M1 i j * (btw n1 n2).tdiv n1) j = vsm ((btw n1 n2).tdiv n1) (rw3 M1 j) := by unfold rw3 vsm; simp only [Int.mul_comm]
        rw [er, ← kz.2, Int.mul_tdiv_cancel _ (by omega)] at q
        exact (hasP_scale kz.1).mp q
      · have q := hh j h1 h2
        have er : rw3 (fun i j => M1 i j * (btw n1 n2).tdiv n1) j = vsm ((btw n1 n2).tdiv n1) (rw3 M1 j) := by unfold rw3 vsm; simp only [Int.mul_comm]
        rw [er]
        have := (hasP_scale (A := m3 M2) (o := n2) kz.1).mpr q
        rwa [kz.2] at this
    subst same
    refine QA.mk (l := QF) (r := if bb = true then 1 else 0) (h' := h') (u' := u') ?_ ?_ (c2.tr g3 (fun _ _ => id)) (by omega) (by omega) (((t7'.mono (by decide)).tr (s5.mono (by decide))).tr (y3.mono (by decide))) (fun _ h => h)
    · unfold m_X0_inside_6
      rw [if_pos (by decide), gd_of C.isC, a1, bd2_some]
      unfold m_X0_inside_18
      rw [c3' (fun a3 h2 => m_X0_inside_21 f h2 x (ni k1) (ni k2) a3)]
      exact g1
    · rw [if_pos (by decide), t1', bd_some, s1, bd_some, s2, bd_some]
      exact y1
