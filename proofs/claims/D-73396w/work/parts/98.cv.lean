/-! the component's lattices as they are asked for -/
set_option maxRecDepth 100000
theorem Ext.trn {S T : Nat → Prop} {k n k' n' : Nat} {h h1 h2 : CH} (a : Mod S k n h h1) (b : Mod T k' n' h1 h2) (hT : ∀ q, T q → h.1 ≤ q) : Mod S (k + k') (n + n') h h2 := a.tr b (fun q hq ht => by have := hT q ht; omega)
theorem Mod.wf {S : Nat → Prop} {k n : Nat} {h h1 : CH} (a : Mod S k n h h1) : wfh h1 := a.2.2.2.2.2.2.2
theorem Mod.ge {S : Nat → Prop} {k n : Nat} {h h1 : CH} (a : Mod S k n h h1) : h.1 ≤ h1.1 := a.1
theorem Mod.up {S : Nat → Prop} {k n k' n' : Nat} {h h1 : CH} (a : Mod S k n h h1) (hk : k ≤ k') (hn : n ≤ n') : Mod S k' n' h h1 := a.mono (fun _ _ => id) hk hn
abbrev LSt : Type := List (Mi × Int × Bool)
def CV (h : CH) (x : Nat) (LS : LSt) : Prop := ∃ fs La E c xs, cm h x = some (.inl (1, fs)) ∧ fs[0]? = some (.ref La) ∧ isL h La E c xs ∧ xs.length = LS.length ∧ LS.length ≤ 5 ∧ ∀ (i : Nat) (M : Mi) (n : Int) (tn : Bool), LS[i]? = some (M, n, tn) → ∃ a, xs[i]? = some a ∧ isLt h a M n tn
theorem CV.ext {k n : Nat} {h h1 : CH} {x : Nat} {LS : LSt} (H : CV h x LS) (m : Ext k n h h1) (w : wfh h) (kk : kok h) : CV h1 x LS := by
  obtain ⟨fs, La, E, c, xs, a1, a2, a3, a4, a5, a6⟩ := H
  refine ⟨fs, La, E, c, xs, m.at w a1 id, a2, a3.ext m w kk, a4, a5, fun i M n tn hi => ?_⟩
  obtain ⟨a, b1, b2⟩ := a6 i M n tn hi
  exact ⟨a, b1, b2.ext m w⟩
theorem CV.isC {h : CH} {x : Nat} {LS : LSt} (H : CV h x LS) : isC h x 1 = true := by
  obtain ⟨fs, La, E, c, xs, a1, _⟩ := H
  exact isC_c a1
theorem isLt.isC {h : CH} {a : Nat} {M : Mi} {n : Int} {tn : Bool} (H : isLt h a M n tn) : isC h a 6 = true ∨ (isC h a 6 = false ∧ isC h a 7 = true) := by
  rcases H with ⟨_, _, R, hO⟩ | ⟨_, b, B, T, A, Tm, ov, up, h1, h2, _⟩
  · exact .inl (isC_c hO.1)
  · obtain ⟨r0, c0, _⟩ := h1
    exact .inr ⟨isC_n c0 (by decide), isC_c c0⟩
theorem X0_at {f : Nat} {h : CH} {x : Nat} {LS : LSt} (H : CV h x LS) {l : Nat} {M : Mi} {n : Int} {tn : Bool} (hl : LS[l]? = some (M, n, tn)) : ∃ a, m_X0_at f h x (ni l) = some (a, h) ∧ isLt h a M n tn := by
  obtain ⟨fs, La, E, c, xs, a1, a2, a3, a4, a5, a6⟩ := H
  obtain ⟨a, b1, b2⟩ := a6 l M n tn hl
  refine ⟨a, ?_, b2⟩
  unfold m_X0_at
  obtain ⟨mc, cL⟩ := a3.1
  rw [oR_c (k := 0) (x := La) a1 a2, bd_some, gd_of (isC_c cL), J2_get a3 b1, bd2_some]
  unfold m_X0_at_8
  rcases b2.isC with h1 | ⟨h1, h2⟩
  · rw [if_pos h1]
  · rw [h1, if_neg (by decide), gd_of h2]
def inI (a lo hi : Int) : Bool := decide (lo ≤ a ∧ a ≤ hi)
theorem isIn_li {f : Nat} {a lo hi : Int} (ga : rg a) (gl : rg lo) (gh : rg hi) : m_X0_isIn f (li a) (li lo) (li hi) = some (if inI a lo hi = true then 1 else 0) := by
  unfold m_X0_isIn m_X0_isIn_17 m_X0_isIn_18 inI
  by_cases h1 : a < lo
  · rw [if_pos ((li_lt ga gl).mpr h1), if_neg (by simp; omega)]; rfl
  · rw [if_neg (fun e => h1 ((li_lt ga gl).mp e))]
    by_cases h2 : hi < a
    · rw [if_pos ((li_lt gh ga).mpr h2), if_neg (by simp; omega)]; rfl
    · rw [if_neg (fun e => h2 ((li_lt gh ga).mp e)), if_pos (by simp; omega)]; rfl
theorem in_li {f : Nat} {a lo hi : Int} (ga : rg a) (gl : rg lo) (gh : rg hi) : m_X3_in f (li a) (li lo) (li hi) = some (if inI a lo hi = true then 1 else 0) := by
  unfold m_X3_in m_X3_in_17 m_X3_in_18 inI
  by_cases h1 : a < lo
  · rw [if_pos ((li_lt ga gl).mpr h1), if_neg (by simp; omega)]; rfl
  · rw [if_neg (fun e => h1 ((li_lt ga gl).mp e))]
    by_cases h2 : hi < a
    · rw [if_pos ((li_lt gh ga).mpr h2), if_neg (by simp; omega)]; rfl
    · rw [if_neg (fun e => h2 ((li_lt gh ga).mp e)), if_pos (by simp; omega)]; rfl
theorem i32_rg (x : Int32) : rg x.toInt := by
  have h1 := x.le_toInt
  have h2 := x.toInt_lt
  exact ⟨by omega, by omega⟩
theorem rg_sm {x : Int} (h : -2 ^ 40 < x) (h' : x < 2 ^ 40) : rg x := ⟨by omega, by omega⟩
theorem ni_sub1 {n : Nat} (hn : n ≤ 5) : (ni n - 1).toInt = (n : Int) - 1 := by
  rcases (show n = 0 ∨ n = 1 ∨ n = 2 ∨ n = 3 ∨ n = 4 ∨ n = 5 by omega) with rfl | rfl | rfl | rfl | rfl | rfl <;> rfl
def isLI (LS : LSt) (l : Int32) : Bool := inI l.toInt 0 ((LS.length : Int) - 1)
theorem isLI_ni {LS : LSt} (h5 : LS.length ≤ 5) {l : Int32} (h : isLI LS l = true) : ∃ k M n tn, l = ni k ∧ k < 5 ∧ LS[k]? = some (M, n, tn) := by
  unfold isLI inI at h
  have h' := of_decide_eq_true h
  have hk : l.toInt.toNat < LS.length := by omega
  refine ⟨l.toInt.toNat, (LS[l.toInt.toNat]'hk).1, (LS[l.toInt.toNat]'hk).2.1, (LS[l.toInt.toNat]'hk).2.2, ?_, by omega, List.getElem?_eq_getElem hk⟩
  refine Int32.toInt_inj.mp ?_
  rw [ni_toInt (by omega)]; omega
theorem X0_isLattice {f : Nat} {h : CH} {x : Nat} {LS : LSt} (H : CV h x LS) (l : Int32) : m_X0_isLattice f h x l = some (if isLI LS l = true then 1 else 0, h) := by
  obtain ⟨fs, La, E, c, xs, a1, a2, a3, a4, a5, a6⟩ := H
  unfold m_X0_isLattice
  obtain ⟨mc, cL⟩ := a3.1
  rw [oR_c (k := 0) (x := La) a1 a2, bd_some, gd_of (isC_c cL), J2_size a3, bd2_some]
  unfold m_X0_isLattice_10
  rw [toL, toL, a4, ni_sub1 a5, li_0, isIn_li (i32_rg l) rg_0 (rg_sm (by omega) (by omega)), bd_some]
  unfold isLI
  cases inI l.toInt 0 ((LS.length : Int) - 1) <;> rfl
theorem X0_isSide {f : Nat} (i : Int32) : m_X0_isSide f i = some (if inI i.toInt 0 2 = true then 1 else 0) := by
  unfold m_X0_isSide
  rw [toL, show (2 : Int64) = li 2 from rfl, li_0, isIn_li (i32_rg i) rg_0 (rg_sm (by omega) (by omega)), bd_some]
  cases inI i.toInt 0 2 <;> rfl
theorem X0_isPart {f : Nat} (i : Int32) : m_X0_isPart f i = some (if inI i.toInt 0 1 = true then 1 else 0) := by
  unfold m_X0_isPart
  rw [toL, show (1 : Int64) = li 1 from rfl, li_0, isIn_li (i32_rg i) rg_0 rg_1, bd_some]
  cases inI i.toInt 0 1 <;> rfl
theorem side_ni {i : Int32} (h : inI i.toInt 0 2 = true) : ∃ k, i = ni k ∧ k < 3 := by
  have h' := of_decide_eq_true h
  refine ⟨i.toInt.toNat, Int32.toInt_inj.mp ?_, by omega⟩
  rw [ni_toInt (by omega)]; omega
theorem part_ni {i : Int32} (h : inI i.toInt 0 1 = true) : ∃ k, i = ni k ∧ k < 2 := by
  have h' := of_decide_eq_true h
  refine ⟨i.toInt.toNat, Int32.toInt_inj.mp ?_, by omega⟩
  rw [ni_toInt (by omega)]; omega
def isAI (LS : LSt) (l i j : Int32) : Bool := isLI LS l && (inI i.toInt 0 2 && inI j.toInt 0 2)
theorem X0_isAt {f : Nat} {h : CH} {x : Nat} {LS : LSt} (H : CV h x LS) (l i j : Int32) : m_X0_isAt f h x l i j = some (if isAI LS l i j = true then 1 else 0, h) := by
  unfold m_X0_isAt
  rw [gd_of H.isC, X0_isLattice H, bd2_some]
  unfold m_X0_isAt_5 m_X0_isAt_26 m_X0_isAt_27 isAI
  rw [X0_isSide, X0_isSide]
  cases isLI LS l <;> cases inI i.toInt 0 2 <;> cases inI j.toInt 0 2 <;> rfl
theorem X0_part {f : Nat} {a b : Int} (ga : rg a) (gb : b.natAbs < 2 ^ 48) (hz : Int.gcd a b ≠ 0) {w : Nat} (hw : w < 2) : m_X0_part f (li a) (li b) (ni w) = some (li ((if w = 0 then a else b).tdiv (Int.gcd a b))) := by
  have gb' : rg b := rg_abs (k := 2 ^ 48) gb (by decide)
  have g : rg (Int.gcd a b : Int) := by
    have h1 : Int.gcd a b < 2 ^ 63 := gcd_lt (rg_nat.mp ga) (rg_nat.mp gb')
    exact rg_abs (k := 2 ^ 63) (by simpa using h1) (by decide)
  unfold m_X0_part m_X0_part_10
  rw [divisor_li ga gb, bd_some, bd_some, gd_of (nzL_li g (by omega)), gd_of (nzL_li g (by omega)), li_div ga g, li_div gb' g]
  rcases (show w = 0 ∨ w = 1 by omega) with rfl | rfl
  · rw [if_neg (fun e => e rfl)]; rfl
  · rw [if_pos (show ¬ ni 1 = 0 by decide)]; rfl
theorem X0_overBoth {f : Nat} (hf : 4 ≤ f) {h : CH} (w : wfh h) (kk : kok h) {x : Nat} {LS : LSt} (H : CV h x LS) {l m : Nat} {M1 M2 : Mi} {n1 n2 : Int} {t1 t2 : Bool} (h1 : LS[l]? = some (M1, n1, t1)) (h2 : LS[m]? = some (M2, n2, t2)) (g1 : rg n1) (g2 : n2.natAbs < 2 ^ 48) (hz : Int.gcd n1 n2 ≠ 0) : ∃ h', m_X0_overBoth f h x (ni l) (ni m) = some (li (btw n1 n2), h') ∧ Ext 10 26 h h' := by
  obtain ⟨a, a1, a2⟩ := X0_at (f := f) H h1
  unfold m_X0_overBoth
  rw [gd_of H.isC, a1, bd2_some]
  unfold m_X0_overBoth_5
  obtain ⟨h3, b1, b2⟩ := L_over (f := f) hf w a2
  rw [b2 (fun r3 h2 => m_X0_overBoth_8 f h2 x (ni m) r3)]
  have H3 := H.ext b1 w kk
  obtain ⟨b, c1, c2⟩ := X0_at (f := f) H3 h2
  unfold m_X0_overBoth_8
  rw [gd_of H3.isC, c1, bd2_some]
  unfold m_X0_overBoth_13
  obtain ⟨h4, d1, d2⟩ := L_over (f := f) hf b1.wf c2
  rw [d2 (fun r3 h2 => m_X0_overBoth_16 f h2 (li n1) r3)]
  unfold m_X0_overBoth_16
  rw [multiple_li g1 g2 hz, bd_some]
  exact ⟨h4, rfl, (b1.tr d1 (fun _ _ => id)).up (by omega) (by omega)⟩
theorem X0_rowsBy {f : Nat} (hf : 4 ≤ f) {h : CH} (w : wfh h) (kk : kok h) {x : Nat} {LS : LSt} (H : CV h x LS) {l : Nat} {M : Mi} {n : Int} {t : Bool} (h1 : LS[l]? = some (M, n, t)) (g1 : rg n) (hz : n ≠ 0) {o : Int} (go : rg o) : ∃ R h', m_X0_rowsBy f h x (ni l) (li o) = some (R.1, h') ∧ isN h' R (fun i j => o.tdiv n * M i j) ∧ Ext 25 65 h h' ∧ h.1 ≤ R.1 ∧ h.1 ≤ R.2.1 ∧ ∀ i, i < 3 → h.1 ≤ R.2.2 i := by
  obtain ⟨a, a1, a2⟩ := X0_at (f := f) H h1
  unfold m_X0_rowsBy
  rw [gd_of H.isC, a1, bd2_some]
  unfold m_X0_rowsBy_5
  obtain ⟨R, h3, b1, b2, b3⟩ := L_rows (f := f) hf w a2
  rw [b3 (fun a3 h2 => m_X0_rowsBy_8 f h2 x (ni l) (li o) a3)]
  have H3 := H.ext b2 w kk
  obtain ⟨b, c1, c2⟩ := X0_at (f := f) H3 h1
  unfold m_X0_rowsBy_8
  rw [gd_of H3.isC, c1, bd2_some]
  unfold m_X0_rowsBy_14
  obtain ⟨h4, d1, d2⟩ := L_over (f := f) hf b2.wf c2
  rw [d2 (fun r3 h2 => m_X0_rowsBy_17 f h2 R.1 (li o) r3)]
  have b1' := b1.ext d1 b2.wf
  unfold m_X0_rowsBy_17
  obtain ⟨h5, e1, e2, e3, e4⟩ := X2_times_2 hf d1.wf b1' (o.tdiv n)
  rw [gd_of (nzL_li g1 hz), gd_of (isC_R b1'), li_div go g1, e1, bd2_some]
  have g3 := b2.ge
  have g4 := d1.ge
  exact ⟨nwR h4, h5, rfl, e2, ((b2.tr d1 (fun _ _ => id)).tr e3 (fun _ _ => id)).up (by omega) (by omega), by show h.1 ≤ h4.1; omega, by show h.1 ≤ h4.1 + 1; omega, fun i hi => by show h.1 ≤ h4.1 + 1 + 1 + i; omega⟩
