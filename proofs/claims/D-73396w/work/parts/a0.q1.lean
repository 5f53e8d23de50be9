/-! questions asked of one lattice -/
set_option maxRecDepth 100000
def TV (u : TS) (LS : LSt) : Prop := tA u 0 0 = ni LS.length ∧ LS.length ≤ 5 ∧ ∀ (i : Nat) (M : Mi) (n : Int) (tn : Bool), LS[i]? = some (M, n, tn) → TL u i M n ∧ (tA u 0 (3 + i) = -1 ↔ tn = false)
theorem TV.fr {u v : TS} {LS : LSt} {k : List Nat} (h : TV u LS) (a : Fr k u v) (hk : 0 ∉ k) : TV v LS := ⟨by rw [(a 0 hk).2.2.1]; exact h.1, h.2.1, fun i M n tn hi => ⟨(h.2.2 i M n tn hi).1.fr a hk, by rw [(a 0 hk).2.2.1]; exact (h.2.2 i M n tn hi).2⟩⟩
def LV (LS : LSt) : Prop := ∀ (i : Nat) (M : Mi) (n : Int) (tn : Bool), LS[i]? = some (M, n, tn) → LatOk M n tn
abbrev QF : List Nat := [18, 19, 20, 21, 22, 23, 24, 25, 26, 27, 28, 29, 30, 31, 32, 33, 34, 35, 36, 37, 38, 39]
/-- what both sides know when they are asked -/
def QE (h : CH) (x : Nat) (u : TS) (LS : LSt) : Prop := wfh h ∧ kf h ∧ CV h x LS ∧ TV u LS ∧ LV LS
/-- both answer alike; so little is made -/
def QA {α : Type} (mc : Option (α × CH)) (mt : Option (α × TS)) (h : CH) (u : TS) : Prop := ∃ r h' u', mc = some (r, h') ∧ mt = some (r, u') ∧ Ext 9000 110000 h h' ∧ Fr QF u u'
theorem QA.mk {α : Type} {mc : Option (α × CH)} {mt : Option (α × TS)} {h : CH} {u : TS} {r : α} {h' : CH} {u' : TS} {k n : Nat} {l : List Nat} (e1 : mc = some (r, h')) (e2 : mt = some (r, u')) (m : Ext k n h h') (hk : k ≤ 9000) (hn : n ≤ 110000) (fr : Fr l u u') (hl : ∀ k, k ∈ l → k ∈ QF) : QA mc mt h u := ⟨r, h', u', e1, e2, m.up hk hn, fr.mono hl⟩
theorem Ext.rf {h : CH} (w : wfh h) : Ext 0 0 h h := Mod.rf w
theorem X3_isLattice {f : Nat} {u : TS} {LS : LSt} (H : TV u LS) (l : Int32) : m_X3_isLattice f u l = some (if isLI LS l = true then 1 else 0, u) := by
  unfold m_X3_isLattice
  rw [show tA u 0 (Int32.toNatClampNeg 0) = tA u 0 0 from rfl, H.1, toL, toL, ni_sub1 H.2.1, li_0, in_li (i32_rg l) rg_0 (rg_sm (by have := H.2.1; omega) (by have := H.2.1; omega)), bd_some]
  unfold isLI
  cases inI l.toInt 0 ((LS.length : Int) - 1) <;> rfl
theorem X3_isAt2 {f : Nat} (i j : Int32) : m_X3_isAt2 f i j = some (if (inI i.toInt 0 2 && inI j.toInt 0 2) = true then 1 else 0) := by
  unfold m_X3_isAt2 m_X3_isAt2_28 m_X3_isAt2_29
  rw [toL, toL, show (2 : Int64) = li 2 from rfl, li_0, in_li (i32_rg i) rg_0 (rg_sm (by omega) (by omega)), bd_some, in_li (i32_rg j) rg_0 (rg_sm (by omega) (by omega)), bd_some]
  cases inI i.toInt 0 2 <;> cases inI j.toInt 0 2 <;> rfl
theorem in3_li {f : Nat} (x : Int32) {a : Int64} {hi : Int} (ha : a = li hi) (g : rg hi) : m_X3_in f (Int32.toInt64 x) 0 a = some (if inI x.toInt 0 hi = true then 1 else 0) := by rw [toL, ha, li_0, in_li (i32_rg x) rg_0 g]
theorem in0_li {f : Nat} (x : Int32) {a : Int64} {hi : Int} (ha : a = li hi) (g : rg hi) : m_X0_isIn f (Int32.toInt64 x) 0 a = some (if inI x.toInt 0 hi = true then 1 else 0) := by rw [toL, ha, li_0, isIn_li (i32_rg x) rg_0 g]
theorem q_row {f : Nat} (hf : 2 ^ 63 ≤ f) {h : CH} {x : Nat} {u : TS} {LS : LSt} (E : QE h x u LS) (l i j : Int32) : QA (m_X0_row f h x l i j) (m_X3_row f u l i j) h u := by
  obtain ⟨w, kf0, C, T, L⟩ := E
  unfold m_X0_row m_X3_row m_X0_row_7 m_X0_row_32 m_X3_row_16
  rw [gd_of C.isC, X0_isAt C, bd2_some, X3_isLattice T, bd2_some, X3_isAt2]
  cases h1 : isLI LS l with
  | false =>
    have e : isAI LS l i j = false := by unfold isAI; rw [h1]; rfl
    rw [e]
    exact QA.mk (l := []) rfl rfl (Ext.rf w) (by omega) (by omega) Fr.rf (by decide)
  | true =>
    have e : isAI LS l i j = (inI i.toInt 0 2 && inI j.toInt 0 2) := by unfold isAI; rw [h1]; rfl
    rw [e]
    cases h2 : (inI i.toInt 0 2 && inI j.toInt 0 2) with
    | false => exact QA.mk (l := []) rfl rfl (Ext.rf w) (by omega) (by omega) Fr.rf (by decide)
    | true =>
      obtain ⟨k, M, n, tn, rfl, hk, hl⟩ := isLI_ni T.2.1 h1
      obtain ⟨s1, s2⟩ := Bool.and_eq_true_iff.mp h2
      obtain ⟨i, rfl, hi⟩ := side_ni s1
      obtain ⟨j, rfl, hj⟩ := side_ni s2
      obtain ⟨a, a1, a2⟩ := X0_at (f := f) C hl
      obtain ⟨R, h3, b1, b2, b3⟩ := L_rows (f := f) (by omega) w a2
      obtain ⟨v, t1, t2, t3, t4⟩ := (T.2.2 k M n tn hl).1 f hf u (fun _ => rfl)
      refine QA.mk (r := Int64.toInt32 (li (M i j))) (h' := h3) (u' := v) ?_ ?_ b2 (by omega) (by omega) t4 (by decide)
      · rw [if_pos rfl, if_neg (by decide), gd_of C.isC, a1, bd2_some]
        unfold m_X0_row_15
        rw [b3 (fun a3 h2 => m_X0_row_18 f h2 (ni i) (ni j) a3)]
        unfold m_X0_row_18
        rw [oR_R b1, bd_some, aR_R b1 hi, bd_some, aL_R b1 hi hj, bd_some]
        rfl
      · rw [if_pos rfl, if_neg (by decide), bd_some, if_pos (by decide), t1, bd_some, gd_of (i3x hi hj), i3c hi hj, t2 i j hi hj]
theorem q_over {f : Nat} (hf : 2 ^ 63 ≤ f) {h : CH} {x : Nat} {u : TS} {LS : LSt} (E : QE h x u LS) (l : Int32) : QA (m_X0_over f h x l) (m_X3_over f u l) h u := by
  obtain ⟨w, kf0, C, T, L⟩ := E
  unfold m_X0_over m_X3_over m_X0_over_5 m_X0_over_22
  rw [gd_of C.isC, X0_isLattice C, bd2_some, X3_isLattice T, bd2_some]
  cases h1 : isLI LS l with
  | false => exact QA.mk (l := []) rfl rfl (Ext.rf w) (by omega) (by omega) Fr.rf (by decide)
  | true =>
    obtain ⟨k, M, n, tn, rfl, hk, hl⟩ := isLI_ni T.2.1 h1
    obtain ⟨a, a1, a2⟩ := X0_at (f := f) C hl
    obtain ⟨h3, b2, b3⟩ := L_over (f := f) (by omega) w a2
    obtain ⟨v, t1, t2, t3, t4⟩ := (T.2.2 k M n tn hl).1 f hf u (fun _ => rfl)
    refine QA.mk (r := Int64.toInt32 (li n)) (h' := h3) (u' := v) ?_ ?_ b2 (by omega) (by omega) t4 (by decide)
    · rw [if_pos rfl, if_neg (by decide), gd_of C.isC, a1, bd2_some]
      unfold m_X0_over_13
      rw [b3 (fun r3 h2 => m_X0_over_16 f h2 r3)]
      rfl
    · rw [if_pos rfl, if_pos (by decide), t1, bd_some, t3]
/-- a new Hermite of a lattice -/
theorem C_herm {f : Nat} (hf : 2 ^ 33 ≤ f) {h : CH} (w : wfh h) (kf0 : kf h) {A : RA} {M : Mi} (hA : isN h A M) {a : Nat} {h0 : CH} {k n : Nat} (hX : Ext k n h0 h) (ha : h0.1 ≤ a) (ca : cm h a = some (.inl (8, [.null, .null]))) (hok : runOk 100 (M, [])) : ∃ h' L R k40, m_X8_init f h a A.1 = some h' ∧ HX (k + 6) (n + 16) h0 k40 a L R (hrun 100 (M, [])) h' := X8_new (by omega) hX kf0 ha ca hA (k := 100) (by omega) hok
theorem clr_len {c : Nat} (hc : c < 3) {s : HS} (h : clrOk c 100 s) : (hclr c 100 s).2.length ≤ 390 + 1 + c := by
  obtain ⟨_, h2, _⟩ := h
  have n := (hneg_eqL hc (heu c 100 s)).2
  have r := (hred_eqL hc c 0 (hneg c (heu c 100 s)) (by omega)).2
  unfold hclr; omega
theorem run_len {M : Mi} (h : runOk 100 (M, [])) : (hrun 100 (M, [])).2.length ≤ 393 := by
  have := clr_len (c := 2) (by decide) h.2.2
  unfold hrun; omega
theorem HX.ext {K N : Nat} {h0 h : CH} {k40 a L : Nat} {R : RA} {s : HS} (H : HX K N h0 k40 a L R s h) (hl : s.2.length ≤ 393) : Ext (K + 800) (N + 4000) h0 h := by
  obtain ⟨⟨_, _, _, _, _, E, c, xs, l1, l2, l3, l4, l5⟩, _⟩ := H
  have hc : c ≤ 549 := by
    rcases l2 with rfl | ⟨l2, _⟩
    · omega
    · have : ∀ c ∈ capL, c ≤ 549 := by decide
      exact this c l2
  exact l5.up (by omega) (by omega)
/-- what a question about a lattice's form comes to, on both sides -/
theorem q_hermite {f : Nat} (hf : 2 ^ 63 ≤ f) {h : CH} {x : Nat} {u : TS} {LS : LSt} (E : QE h x u LS) (l i j : Int32) : QA (m_X0_hermite f h x l i j) (m_X3_hermite f u l i j) h u := by
  obtain ⟨w, kf0, C, T, L⟩ := E
  unfold m_X0_hermite m_X3_hermite m_X0_hermite_7 m_X0_hermite_41 m_X3_hermite_16
  rw [gd_of C.isC, X0_isAt C, bd2_some, X3_isLattice T, bd2_some, X3_isAt2]
  cases h1 : isLI LS l with
  | false =>
    have e : isAI LS l i j = false := by unfold isAI; rw [h1]; rfl
    rw [e]
    exact QA.mk (l := []) rfl rfl (Ext.rf w) (by omega) (by omega) Fr.rf (by decide)
  | true =>
    have e : isAI LS l i j = (inI i.toInt 0 2 && inI j.toInt 0 2) := by unfold isAI; rw [h1]; rfl
    rw [e]
    cases h2 : (inI i.toInt 0 2 && inI j.toInt 0 2) with
    | false => exact QA.mk (l := []) rfl rfl (Ext.rf w) (by omega) (by omega) Fr.rf (by decide)
    | true =>
      obtain ⟨k, M, n, tn, rfl, hk, hl⟩ := isLI_ni T.2.1 h1
      obtain ⟨s1, s2⟩ := Bool.and_eq_true_iff.mp h2
      obtain ⟨i, rfl, hi⟩ := side_ni s1
      obtain ⟨j, rfl, hj⟩ := side_ni s2
      obtain ⟨r1, r2, r3, r4⟩ := (L k M n tn hl).run
      rw [if_pos rfl, if_neg (by decide), if_neg (by decide), bd_some, if_pos (by decide)]
      simp only [nmv_eq]
      have e1 : Ext 1 2 h (cn h 2 (.inl (8, [.null, .null]))) := Mod.cn w
      have C1 := C.ext e1 w kf0.kok
      obtain ⟨a, a1, a2⟩ := X0_at (f := f) C1 hl
      obtain ⟨R, h3, b1, b2, b3⟩ := L_rows (f := f) (by omega) e1.wf a2
      have e3 : Ext 16 41 h h3 := (e1.tr b2 (fun _ _ => id)).up (by omega) (by omega)
      have c3 : cm h3 h.1 = some (.inl (8, [.null, .null])) := b2.at e1.wf (cm_cn_s h 2 _) id
      obtain ⟨h', La, R', k40, d1, d2⟩ := C_herm (f := f) (by omega) b2.wf ((kf0.mod e1).mod b2) b1 e3 (Nat.le_refl _) c3 r1
      obtain ⟨v, t1, t2, t3, t4⟩ := (T.2.2 k M n tn hl).1 f hf u (fun _ => rfl)
      obtain ⟨v2, t5, t6⟩ := X3_forms (f := f) (by omega) (show 100 < f by omega) t2 r1
      refine QA.mk (l := [18, 19, 20, 21, 22, 23, 24, 25]) (r := li ((hrun 100 (M, [])).1 i j)) (h' := h') (u' := v2) ?_ ?_ (d2.ext (run_len r1)) (by omega) (by omega) ((t4.mono (by decide)).tr (t6.2.2.mono (by decide))) (by decide)
      · unfold m_X0_hermite_13
        rw [gd_of C1.isC, a1, bd2_some]
        unfold m_X0_hermite_19
        rw [b3 (fun a3 h2 => m_X0_hermite_22 f h2 (ni i) (ni j) h.1 h.1 a3)]
        unfold m_X0_hermite_22
        rw [d1, bd_some]
        unfold m_X0_hermite_25
        obtain ⟨⟨_, q1, q2, _⟩, _⟩ := d2
        rw [oR_c (k := 0) (x := R'.1) q1 rfl, bd_some, oR_R q2, bd_some, aR_R q2 hi, bd_some, aL_R q2 hi hj, bd_some]
        rfl
      · rw [t1, bd_some, t5, bd_some, gd_of (i3x hi hj), i3c hi hj, t6.1 i j hi hj]
