/-! the component: a row bettered; rows made short, whole -/
set_option maxRecDepth 100000
def ofl : Option (Int × Int) → Int32
  | none => 0
  | some _ => 1
def obt (N : Mi) (row : Nat) : Option (Int × Int) → Mi
  | none => N
  | some p => btr N row p
def occ (c : Nat) : Option (Int × Int) → Nat
  | none => c
  | some _ => c + 1
def bp (s : Int × Option (Int × Int)) (o1 o2 : Int32) : Prop := match s.2 with
  | none => o1 = 0 ∧ o2 = 0
  | some p => o1.toInt = p.1 ∧ o2.toInt = p.2
theorem bp_n {s : Int × Option (Int × Int)} {o1 o2 : Int32} (h : s.2 = none) (hb : bp s o1 o2) : o1 = 0 ∧ o2 = 0 := by unfold bp at hb; rw [h] at hb; exact hb
theorem bp_s {s : Int × Option (Int × Int)} {o1 o2 : Int32} {p : Int × Int} (h : s.2 = some p) (hb : bp s o1 o2) : o1.toInt = p.1 ∧ o2.toInt = p.2 := by unfold bp at hb; rw [h] at hb; exact hb
theorem X11_b28 {f k : Nat} (hf : 4 ≤ f) {k18 : CH → Nat → Int32 → Int32 → Int64 → Int32 → Int32 → Int32 → Option (Int32 × CH)} {h : CH} {x : Nat} {R : RA} {N : Mi} {c : Nat} (H : isRd h x R N c) {row : Nat} (hr : row < 3) {s : Int × Option (Int × Int)} {o1 o2 : Int32} (hs : bp s o1 o2) (gs : rg s.1) (x2 a b : Int32) (hb : ¬ x2 < b) (g : rg (sqw N row a.toInt b.toInt)) : ∃ o1' o2', m_X11_betters_28 f k18 (k + 1) h x (ni row) x2 (li s.1) o1 o2 a b = m_X11_betters_28 f k18 k h x (ni row) x2 (li (bstep N row s (a.toInt, b.toInt)).1) o1' o2' a (b + 1) ∧ bp (bstep N row s (a.toInt, b.toInt)) o1' o2' ∧ rg (bstep N row s (a.toInt, b.toInt)).1 := by
  rw [m_X11_betters_28, if_neg hb, gd_of (isC_c H.1), X11_squareWith hf H hr, bd2_some]
  unfold m_X11_betters_43 m_X11_betters_66
  simp only [nmv_eq]
  by_cases hlt : sqw N row a.toInt b.toInt < s.1
  · rw [if_pos ((li_lt g gs).mpr hlt)]
    have e : bstep N row s (a.toInt, b.toInt) = (sqw N row a.toInt b.toInt, some (a.toInt, b.toInt)) := by unfold bstep; rw [if_pos (show sqw N row (a.toInt, b.toInt).1 (a.toInt, b.toInt).2 < s.1 from hlt)]
    rw [e]
    exact ⟨a, b, rfl, ⟨rfl, rfl⟩, g⟩
  · rw [if_neg (fun e => hlt ((li_lt g gs).mp e))]
    have e : bstep N row s (a.toInt, b.toInt) = s := by unfold bstep; rw [if_neg (show ¬ sqw N row (a.toInt, b.toInt).1 (a.toInt, b.toInt).2 < s.1 from hlt)]
    rw [e]
    exact ⟨o1, o2, rfl, hs, gs⟩
/-- all of one a, three of b -/
theorem X11_b3 {f : Nat} (hf : 6 ≤ f) {k18 : CH → Nat → Int32 → Int32 → Int64 → Int32 → Int32 → Int32 → Option (Int32 × CH)} {h : CH} {x : Nat} {R : RA} {N : Mi} {c : Nat} (H : isRd h x R N c) {B : Int} (hB : 9 * B < 2 ^ 63) (hRB : RB B N) {s : Int × Option (Int × Int)} {o1 o2 : Int32} (hs : bp s o1 o2) (gs : rg s.1) (a : Int32) (ha : a.toInt = -1 ∨ a.toInt = 0 ∨ a.toInt = 1) : ∃ o1' o2', m_X11_betters_28 f k18 f h x (ni 2) 1 (li s.1) o1 o2 a (-1) = k18 h x (ni 2) 1 (li ([(a.toInt, -1), (a.toInt, 0), (a.toInt, 1)].foldl (bstep N 2) s).1) o1' o2' (a + 1) ∧ bp ([(a.toInt, -1), (a.toInt, 0), (a.toInt, 1)].foldl (bstep N 2) s) o1' o2' ∧ rg ([(a.toInt, -1), (a.toInt, 0), (a.toInt, 1)].foldl (bstep N 2) s).1 := by
  obtain ⟨n, rfl⟩ : ∃ z, f = z + 6 := ⟨f - 6, by omega⟩
  have sg : ∀ b : Int, (b = -1 ∨ b = 0 ∨ b = 1) → rg (sqw N 2 a.toInt b) := fun b hb => sqw_rg hB hRB (by decide) ha hb
  obtain ⟨p1, p2, a1, a2, a3⟩ := X11_b28 (f := n + 6) (k := n + 5) (by omega) (k18 := k18) H (row := 2) (by decide) hs gs 1 a (-1) (by decide) (sg _ (by decide))
  obtain ⟨q1, q2, b1, b2, b3⟩ := X11_b28 (f := n + 6) (k := n + 4) (by omega) (k18 := k18) H (row := 2) (by decide) a2 a3 1 a 0 (by decide) (sg _ (by decide))
  obtain ⟨r1, r2, c1, c2, c3'⟩ := X11_b28 (f := n + 6) (k := n + 3) (by omega) (k18 := k18) H (row := 2) (by decide) b2 b3 1 a 1 (by decide) (sg _ (by decide))
  refine ⟨r1, r2, ?_, c2, c3'⟩
  show m_X11_betters_28 (n + 6) k18 (n + 5 + 1) h x (ni 2) 1 (li s.1) o1 o2 a (-1) = _
  rw [a1]
  show m_X11_betters_28 (n + 6) k18 (n + 4 + 1) h x (ni 2) 1 _ p1 p2 a 0 = _
  rw [b1]
  show m_X11_betters_28 (n + 6) k18 (n + 3 + 1) h x (ni 2) 1 _ q1 q2 a 1 = _
  rw [c1]
  show m_X11_betters_28 (n + 6) k18 (n + 2 + 1) h x (ni 2) 1 _ r1 r2 a 2 = _
  rw [m_X11_betters_28, if_pos (by decide)]
  unfold m_X11_betters_72
  rw [nmv_eq]
  rfl
/-- all of one a, b none -/
theorem X11_b1 {f : Nat} (hf : 6 ≤ f) {k18 : CH → Nat → Int32 → Int32 → Int64 → Int32 → Int32 → Int32 → Option (Int32 × CH)} {h : CH} {x : Nat} {R : RA} {N : Mi} {c : Nat} (H : isRd h x R N c) {B : Int} (hB : 9 * B < 2 ^ 63) (hRB : RB B N) {s : Int × Option (Int × Int)} {o1 o2 : Int32} (hs : bp s o1 o2) (gs : rg s.1) (a : Int32) (ha : a.toInt = -1 ∨ a.toInt = 0 ∨ a.toInt = 1) : ∃ o1' o2', m_X11_betters_28 f k18 f h x (ni 1) 0 (li s.1) o1 o2 a 0 = k18 h x (ni 1) 0 (li (bstep N 1 s (a.toInt, 0)).1) o1' o2' (a + 1) ∧ bp (bstep N 1 s (a.toInt, 0)) o1' o2' ∧ rg (bstep N 1 s (a.toInt, 0)).1 := by
  obtain ⟨n, rfl⟩ : ∃ z, f = z + 6 := ⟨f - 6, by omega⟩
  obtain ⟨p1, p2, a1, a2, a3⟩ := X11_b28 (f := n + 6) (k := n + 5) (by omega) (k18 := k18) H (row := 1) (by decide) hs gs 0 a 0 (by decide) (sqw_rg hB hRB (by decide) ha (by decide))
  refine ⟨p1, p2, ?_, a2, a3⟩
  show m_X11_betters_28 (n + 6) k18 (n + 5 + 1) h x (ni 1) 0 (li s.1) o1 o2 a 0 = _
  rw [a1]
  show m_X11_betters_28 (n + 6) k18 (n + 4 + 1) h x (ni 1) 0 _ p1 p2 a 1 = _
  rw [m_X11_betters_28, if_pos (by decide)]
  unfold m_X11_betters_72
  rw [nmv_eq]
  rfl
theorem X11_b119 {f : Nat} {h : CH} (w : wfh h) {x : Nat} {R : RA} {N : Mi} {c : Nat} (H : isRd h x R N c) : ∃ h', m_X11_betters_119 f h x = some (1, h') ∧ isRd h' x R N (c + 1) ∧ Mod (rdS x R) 0 0 h h' := by
  unfold m_X11_betters_119
  rw [oI_c (k := 1) (x := ni c) H.1 rfl, bd_some, pF_c H.1 w (by simp), bd_some]
  have m1 : Mod (fun q => q = x) 0 0 h (cs h x (.inl (11, [.ref R.1, .int (ni c + 1)]))) := Mod.cs w H.1 rfl
  refine ⟨_, rfl, ⟨?_, ?_⟩, m1.mono (fun _ _ hq => .inl hq) (Nat.le_refl _) (Nat.le_refl _)⟩
  · rw [cm_cs_s, ← ni_succ]; rfl
  · refine H.2.mod m1 w (fun e => ?_) (fun e => ?_) (fun i hi e => ?_)
    · have h1 := H.2.1; rw [e, H.1] at h1; cases h1
    · have h1 := H.2.2.1; rw [e, H.1] at h1; cases h1
    · have h1 := H.2.2.2.1 i hi; rw [e, H.1] at h1; cases h1
theorem li_i0 {o : Int32} (h : o = 0) : o.toInt = 0 := by rw [h]; rfl
theorem i0_li {o : Int32} (h : o.toInt = 0) : o = 0 := Int32.toInt_inj.mp (by rw [h]; rfl)
theorem btr_add1 (N : Mi) {row : Nat} (a : Int) : addR N row 0 a = btr N row (a, 0) := by
  funext x y; unfold addR btr
  by_cases h : x = row <;> simp [h]
theorem btr_add2 (N : Mi) {row : Nat} (hr : row ≠ 1) (p : Int × Int) : addR (addR N row 0 p.1) row 1 p.2 = btr N row p := by
  funext a b; unfold addR btr
  by_cases h : a = row
  · simp [h, Ne.symm hr]
  · simp [h]
theorem X11_b78 {f : Nat} (hf : 4 ≤ f) {h : CH} (w : wfh h) {x : Nat} {R : RA} {N : Mi} {c : Nat} (H : isRd h x R N c) {row : Nat} (hr : row < 3) (h0 : row ≠ 0) {o1 o2 : Int32} {o : Option (Int × Int)} (hb : bp (0, o) o1 o2) (hne : ∀ p, o = some p → ¬ (p.1 = 0 ∧ p.2 = 0) ∧ (row = 1 → p.2 = 0)) : ∃ h', m_X11_betters_78 f h x (ni row) o1 o2 = some (ofl o, h') ∧ isRd h' x R (obt N row o) (occ c o) ∧ Mod (rdS x R) 0 0 h h' := by
  unfold m_X11_betters_78
  rcases o with _ | p
  · obtain ⟨e1, e2⟩ := bp_n (s := (0, none)) rfl hb
    rw [e1, e2, if_neg (fun h => h rfl), if_neg (fun h => h rfl)]
    exact ⟨h, rfl, H, Mod.rf w⟩
  · obtain ⟨e1, e2⟩ := bp_s (s := (0, some p)) (p := p) rfl hb
    obtain ⟨n1, n2⟩ := hne p rfl
    have key : ∃ h', m_X11_betters_90 f h x (ni row) o1 o2 = some (1, h') ∧ isRd h' x R (btr N row p) (c + 1) ∧ Mod (rdS x R) 0 0 h h' := by
      unfold m_X11_betters_90
      rw [oR_c (k := 0) (x := R.1) H.1 rfl, bd_some, gd_of (isC_R H.2), toL, e1]
      obtain ⟨h1, a1, a2, a3⟩ := X2_adds hf w H.2 hr (show 0 < 3 by decide) h0 p.1
      have a1' : m_X2_adds f h R.1 (ni row) 0 (li p.1) = _ := a1
      rw [a1', bd_some]
      obtain ⟨H1, M1⟩ := H.step w a2 a3
      have w1 := M1.2.2.2.2.2.2.2
      unfold m_X11_betters_102
      by_cases hz : o2 = 0
      · rw [if_pos hz]
        have p20 : p.2 = 0 := by rw [← e2, li_i0 hz]
        obtain ⟨h2, b1, b2, b3⟩ := X11_b119 (f := f) w1 H1
        have : addR N row 0 p.1 = btr N row p := by rw [btr_add1]; congr 1; rw [← p20]
        rw [this] at b2
        exact ⟨h2, b1, b2, M1.tr b3 (fun _ _ hq => hq)⟩
      · rw [if_neg hz, oR_c (k := 0) (x := R.1) H1.1 rfl, bd_some, gd_of (isC_R H1.2), toL, e2]
        have r1 : row ≠ 1 := fun e => hz (i0_li (by rw [e2]; exact n2 e))
        obtain ⟨h2, b1, b2, b3⟩ := X2_adds hf w1 H1.2 hr (show 1 < 3 by decide) r1 p.2
        have b1' : m_X2_adds f h1 R.1 (ni row) 1 (li p.2) = _ := b1
        rw [b1', bd_some]
        obtain ⟨H2, M2⟩ := H1.step w1 b2 b3
        rw [btr_add2 N r1] at H2
        obtain ⟨h3, d1, d2, d3⟩ := X11_b119 (f := f) M2.2.2.2.2.2.2.2 H2
        exact ⟨h3, d1, d2, (M1.tr M2 (fun _ _ hq => hq)).tr d3 (fun _ _ hq => hq)⟩
    by_cases hz1 : o1 = 0
    · have hz2 : ¬ o2 = 0 := fun e => n1 ⟨by rw [← e1, li_i0 hz1], by rw [← e2, li_i0 e]⟩
      rw [if_neg (fun h => h hz1), if_pos hz2]
      exact key
    · rw [if_pos hz1]
      exact key
theorem mem9_ne {N : Mi} {row : Nat} {p : Int × Int} (h : sqw N row p.1 p.2 < sqr N row) : ¬ (p.1 = 0 ∧ p.2 = 0) := fun e => by
  rw [e.1, e.2, sqw_0] at h; omega
theorem X11_betters2 {f : Nat} (hf : 6 ≤ f) {h : CH} (w : wfh h) {x : Nat} {R : RA} {N : Mi} {c : Nat} (H : isRd h x R N c) {B : Int} (hB : 9 * B < 2 ^ 63) (hRB : RB B N) : ∃ h', m_X11_betters f h x 2 1 = some (ofl (bst N 2 L9).2, h') ∧ isRd h' x R (obt N 2 (bst N 2 L9).2) (occ c (bst N 2 L9).2) ∧ Mod (rdS x R) 0 0 h h' := by
  have h0 := hRB 2 (by decide)
  have h1 := sqr_nn N 2
  have gs : rg (sqr N 2) := ⟨by omega, by omega⟩
  obtain ⟨n, rfl⟩ : ∃ z, f = z + 6 := ⟨f - 6, by omega⟩
  obtain ⟨p1, p2, a1, a2, a3⟩ := X11_b3 (f := n + 6) hf (k18 := m_X11_betters_18 (n + 6) (n + 5)) H hB hRB (s := (sqr N 2, none)) (o1 := 0) (o2 := 0) ⟨rfl, rfl⟩ gs (-1) (by decide)
  obtain ⟨q1, q2, b1, b2, b3⟩ := X11_b3 (f := n + 6) hf (k18 := m_X11_betters_18 (n + 6) (n + 4)) H hB hRB a2 a3 0 (by decide)
  obtain ⟨r1, r2, c1, c2, c3'⟩ := X11_b3 (f := n + 6) hf (k18 := m_X11_betters_18 (n + 6) (n + 3)) H hB hRB b2 b3 1 (by decide)
  have eL : ([((1 : Int32).toInt, (-1 : Int)), ((1 : Int32).toInt, 0), ((1 : Int32).toInt, 1)].foldl (bstep N 2) ([((0 : Int32).toInt, (-1 : Int)), ((0 : Int32).toInt, 0), ((0 : Int32).toInt, 1)].foldl (bstep N 2) ([((-1 : Int32).toInt, (-1 : Int)), ((-1 : Int32).toInt, 0), ((-1 : Int32).toInt, 1)].foldl (bstep N 2) (sqr N 2, none)))) = bst N 2 L9 := rfl
  rw [eL] at c2
  obtain ⟨h', d1, d2, d3⟩ := X11_b78 (f := n + 6) (by omega) w H (row := 2) (by decide) (by decide) (o1 := r1) (o2 := r2) (o := (bst N 2 L9).2) c2 (fun p hp => ⟨mem9_ne (bst_some hp).1, fun e => by cases e⟩)
  refine ⟨h', ?_, d2, d3⟩
  rw [← d1]
  unfold m_X11_betters m_X11_betters_8
  rw [oR_c (k := 0) (x := R.1) H.1 rfl, bd_some, gd_of (isC_R H.2), show m_X2_square (n + 6) h R.1 2 = _ from X2_square H.2 (i := 2) (by decide), bd2_some]
  show m_X11_betters_18 (n + 6) (n + 5 + 1) h x (ni 2) 1 (li (sqr N 2)) 0 0 (-1) = _
  rw [m_X11_betters_18, if_neg (by decide), nmv_eq]
  have a1' : m_X11_betters_28 (n + 6) (m_X11_betters_18 (n + 6) (n + 5)) (n + 6) h x (ni 2) 1 (li (sqr N 2)) 0 0 (-1) (-1) = _ := a1
  rw [a1']
  show m_X11_betters_18 (n + 6) (n + 4 + 1) h x (ni 2) 1 _ p1 p2 0 = _
  rw [m_X11_betters_18, if_neg (by decide), nmv_eq, b1]
  show m_X11_betters_18 (n + 6) (n + 3 + 1) h x (ni 2) 1 _ q1 q2 1 = _
  rw [m_X11_betters_18, if_neg (by decide), nmv_eq, c1]
  show m_X11_betters_18 (n + 6) (n + 2 + 1) h x (ni 2) 1 _ r1 r2 2 = _
  rw [m_X11_betters_18, if_pos (by decide)]
theorem X11_betters1 {f : Nat} (hf : 6 ≤ f) {h : CH} (w : wfh h) {x : Nat} {R : RA} {N : Mi} {c : Nat} (H : isRd h x R N c) {B : Int} (hB : 9 * B < 2 ^ 63) (hRB : RB B N) : ∃ h', m_X11_betters f h x 1 0 = some (ofl (bst N 1 L3).2, h') ∧ isRd h' x R (obt N 1 (bst N 1 L3).2) (occ c (bst N 1 L3).2) ∧ Mod (rdS x R) 0 0 h h' := by
  have h0 := hRB 1 (by decide)
  have h1 := sqr_nn N 1
  have gs : rg (sqr N 1) := ⟨by omega, by omega⟩
  obtain ⟨n, rfl⟩ : ∃ z, f = z + 6 := ⟨f - 6, by omega⟩
  obtain ⟨p1, p2, a1, a2, a3⟩ := X11_b1 (f := n + 6) hf (k18 := m_X11_betters_18 (n + 6) (n + 5)) H hB hRB (s := (sqr N 1, none)) (o1 := 0) (o2 := 0) ⟨rfl, rfl⟩ gs (-1) (by decide)
  obtain ⟨q1, q2, b1, b2, b3⟩ := X11_b1 (f := n + 6) hf (k18 := m_X11_betters_18 (n + 6) (n + 4)) H hB hRB a2 a3 0 (by decide)
  obtain ⟨r1, r2, c1, c2, c3'⟩ := X11_b1 (f := n + 6) hf (k18 := m_X11_betters_18 (n + 6) (n + 3)) H hB hRB b2 b3 1 (by decide)
  have eL : bstep N 1 (bstep N 1 (bstep N 1 (sqr N 1, none) ((-1 : Int32).toInt, 0)) ((0 : Int32).toInt, 0)) ((1 : Int32).toInt, 0) = bst N 1 L3 := rfl
  rw [eL] at c2
  obtain ⟨h', d1, d2, d3⟩ := X11_b78 (f := n + 6) (by omega) w H (row := 1) (by decide) (by decide) (o1 := r1) (o2 := r2) (o := (bst N 1 L3).2) c2 (fun p hp => ⟨mem9_ne (bst_some hp).1, fun e => L3_0 p (bst_some hp).2⟩)
  refine ⟨h', ?_, d2, d3⟩
  rw [← d1]
  unfold m_X11_betters m_X11_betters_8
  rw [oR_c (k := 0) (x := R.1) H.1 rfl, bd_some, gd_of (isC_R H.2), show m_X2_square (n + 6) h R.1 1 = _ from X2_square H.2 (i := 1) (by decide), bd2_some]
  show m_X11_betters_18 (n + 6) (n + 5 + 1) h x (ni 1) 0 (li (sqr N 1)) 0 0 (-1) = _
  rw [m_X11_betters_18, if_neg (by decide), nmv_eq]
  have a1' : m_X11_betters_28 (n + 6) (m_X11_betters_18 (n + 6) (n + 5)) (n + 6) h x (ni 1) 0 (li (sqr N 1)) 0 0 (-1) (-0) = _ := a1
  rw [a1']
  show m_X11_betters_18 (n + 6) (n + 4 + 1) h x (ni 1) 0 _ p1 p2 0 = _
  rw [m_X11_betters_18, if_neg (by decide), nmv_eq]
  have b1' : m_X11_betters_28 (n + 6) (m_X11_betters_18 (n + 6) (n + 4)) (n + 6) h x (ni 1) 0 (li (bstep N 1 (sqr N 1, none) ((-1 : Int32).toInt, 0)).1) p1 p2 0 (-0) = _ := b1
  rw [b1']
  show m_X11_betters_18 (n + 6) (n + 3 + 1) h x (ni 1) 0 _ q1 q2 1 = _
  rw [m_X11_betters_18, if_neg (by decide), nmv_eq]
  have c1' : m_X11_betters_28 (n + 6) (m_X11_betters_18 (n + 6) (n + 3)) (n + 6) h x (ni 1) 0 (li (bstep N 1 (bstep N 1 (sqr N 1, none) ((-1 : Int32).toInt, 0)) ((0 : Int32).toInt, 0)).1) q1 q2 1 (-0) = _ := c1
  rw [c1']
  show m_X11_betters_18 (n + 6) (n + 2 + 1) h x (ni 1) 0 _ r1 r2 2 = _
  rw [m_X11_betters_18, if_pos (by decide)]
/-- the loop that makes rows short -/
theorem X11_i12 {f : Nat} (hf : 6 ≤ f) {h0 : CH} {x : Nat} {R : RA} {B : Int} (hB : 9 * B < 2 ^ 63) : ∀ (k : Nat) n h N c, k < n → wfh h → isRd h x R N c → Mod (rdS x R) 0 0 h0 h → RB B N → sgm N < k → ∃ h', m_X11_init_12 f n h x = m_X11_init_34 f h' x ∧ isRd h' x R (rdg k N c).1 (rdg k N c).2 ∧ Mod (rdS x R) 0 0 h0 h' := by
  intro k
  induction k with
  | zero =>
    intro n h N c _ _ _ _ _ hs
    have h0 := sqr_nn N 0
    have h1 := sqr_nn N 1
    have h2 := sqr_nn N 2
    unfold sgm at hs; omega
  | succ k ih =>
    intro n h N c hkn w H M hRB hsg
    obtain ⟨n, rfl⟩ : ∃ z, n = z + 1 := ⟨n - 1, by omega⟩
    rw [m_X11_init_12, gd_of (isC_c H.1)]
    obtain ⟨h1, e1, H1, M1⟩ := X11_orders hf w H hB hRB
    have w1 := M1.2.2.2.2.2.2.2
    rw [e1, bd_some]
    obtain ⟨r1, r2, _⟩ := srt_RB hRB
    unfold m_X11_init_16
    obtain ⟨h2, b1, H2, M2⟩ := X11_betters2 hf w1 H1 hB r1
    have w2 := M2.2.2.2.2.2.2.2
    rw [gd_of (isC_c H1.1), b1, bd2_some]
    unfold m_X11_init_22
    have M02 := (M.tr M1 (fun _ _ hq => hq)).tr M2 (fun _ _ hq => hq)
    rcases h9 : (bst (srt N) 2 L9).2 with _ | p
    · rw [h9] at H2
      have H2' : isRd h2 x R (srt N) c := H2
      rw [show ofl none = 0 from rfl, if_neg (fun h => h rfl), gd_of (isC_c H2'.1)]
      obtain ⟨h3, d1, H3, M3⟩ := X11_betters1 hf w2 H2' hB r1
      rw [d1, bd2_some]
      unfold m_X11_init_31
      have M03 := M02.tr M3 (fun _ _ hq => hq)
      rcases h3' : (bst (srt N) 1 L3).2 with _ | p
      · rw [h3'] at H3
        have H3' : isRd h3 x R (srt N) c := H3
        rw [show ofl none = 0 from rfl, if_neg (fun h => h rfl), rdg_e h9 h3']
        exact ⟨h3, rfl, H3', M03⟩
      · rw [h3'] at H3
        have H3' : isRd h3 x R (btr (srt N) 1 p) (c + 1) := H3
        rw [show ofl (some p) = 1 from rfl, if_pos (by decide), rdg_3 h9 h3']
        obtain ⟨s1, s2⟩ := btr_RB1 r1 (bst_some h3').1
        exact ih n h3 _ (c + 1) (by omega) M3.2.2.2.2.2.2.2 H3' M03 s1 (by omega)
    · rw [h9] at H2
      have H2' : isRd h2 x R (btr (srt N) 2 p) (c + 1) := H2
      rw [show ofl (some p) = 1 from rfl, if_pos (by decide), rdg_9 h9]
      obtain ⟨s1, s2⟩ := btr_RB2 r1 (bst_some h9).1
      exact ih n h2 _ (c + 1) (by omega) w2 H2' M02 s1 (by omega)
theorem X11_turnsOver {f : Nat} (hf : 6 ≤ f) {h : CH} (w : wfh h) {x : Nat} {R : RA} {N : Mi} {c : Nat} (H : isRd h x R N c) {i : Nat} (hi : i < 3) (gN : ∀ j, j < 3 → rg (N i j)) : ∃ h', m_X11_turnsOver f h x (ni i) = some h' ∧ isRd h' x R (ovf N i) c ∧ Mod (rdS x R) 0 0 h h' := by
  have sg : ∀ j, j < 3 → ∀ b : Bool, b = decide (N i j < 0) → b = sgl N i → ∃ h', m_X11_turnsOver_26 f h x (ni i) (ni j) = some h' ∧ isRd h' x R (ovf N i) c ∧ Mod (rdS x R) 0 0 h h' := fun j hj b hb hs => by
    unfold m_X11_turnsOver_26 m_X11_turnsOver_50
    rw [oR_c (k := 0) (x := R.1) H.1 rfl, bd_some, oR_R H.2, bd_some, aR_R H.2 hi, bd_some, aL_R H.2 hi hj, bd_some, bd_some, li_0]
    show ∃ h', (if li 0 ≤ li (N i j) then some h else _) = some h' ∧ _
    unfold ovf
    rw [← hs]
    by_cases hp : 0 ≤ N i j
    · have : b = false := by rw [hb]; simp; omega
      rw [if_pos ((li_le rg_0 (gN j hj)).mpr hp), this, if_neg (by decide)]
      exact ⟨h, rfl, H, Mod.rf w⟩
    · have : b = true := by rw [hb]; simp; omega
      rw [if_neg (fun e => hp ((li_le rg_0 (gN j hj)).mp e)), this, if_pos rfl, gd_of (isC_R H.2)]
      obtain ⟨h1, a1, a2, a3⟩ := X2_turnsOver (f := f) (by omega) w H.2 hi
      rw [a1, bd_some]
      obtain ⟨H1, M1⟩ := H.step w a2 a3
      exact ⟨h1, rfl, H1, M1⟩
  unfold m_X11_turnsOver
  obtain ⟨n, rfl⟩ : ∃ z, f = z + 6 := ⟨f - 6, by omega⟩
  have step : ∀ k j, j < 3 → m_X11_turnsOver_2 (n + 6) (k + 1) h x (ni i) (ni j) = if ¬ li (N i j) = 0 then m_X11_turnsOver_26 (n + 6) h x (ni i) (ni j) else m_X11_turnsOver_2 (n + 6) k h x (ni i) (ni (j + 1)) := fun k j hj => by
    rw [m_X11_turnsOver_2, if_neg (le3 hj), oR_c (k := 0) (x := R.1) H.1 rfl, bd_some, oR_R H.2, bd_some, aR_R H.2 hi, bd_some, aL_R H.2 hi hj, bd_some, nmv_eq, ni_succ]
  show ∃ h', m_X11_turnsOver_2 (n + 6) (n + 5 + 1) h x (ni i) (ni 0) = some h' ∧ _
  rw [step (n + 5) 0 (by decide)]
  by_cases h0 : N i 0 = 0
  · rw [if_neg (fun h => h (by rw [h0]; rfl))]
    show ∃ h', m_X11_turnsOver_2 (n + 6) (n + 4 + 1) h x (ni i) (ni 1) = some h' ∧ _
    rw [step (n + 4) 1 (by decide)]
    by_cases h1 : N i 1 = 0
    · rw [if_neg (fun h => h (by rw [h1]; rfl))]
      show ∃ h', m_X11_turnsOver_2 (n + 6) (n + 3 + 1) h x (ni i) (ni 2) = some h' ∧ _
      rw [step (n + 3) 2 (by decide)]
      by_cases h2 : N i 2 = 0
      · rw [if_neg (fun h => h (by rw [h2]; rfl))]
        show ∃ h', m_X11_turnsOver_2 (n + 6) (n + 2 + 1) h x (ni i) (ni 3) = some h' ∧ _
        rw [m_X11_turnsOver_2, if_pos le33]
        refine ⟨h, rfl, ?_, Mod.rf w⟩
        have : sgl N i = false := by unfold sgl; rw [if_pos h0, if_pos h1]; simp; omega
        unfold ovf
        rw [this, if_neg (by decide)]; exact H
      · rw [if_pos (show ¬ li (N i 2) = 0 from fun e => h2 ((li_inj (gN 2 (by decide)) rg_0).mp e))]
        exact sg 2 (by decide) _ rfl (by unfold sgl; rw [if_pos h0, if_pos h1])
    · rw [if_pos (show ¬ li (N i 1) = 0 from fun e => h1 ((li_inj (gN 1 (by decide)) rg_0).mp e))]
      exact sg 1 (by decide) _ rfl (by unfold sgl; rw [if_pos h0, if_neg h1])
  · rw [if_pos (show ¬ li (N i 0) = 0 from fun e => h0 ((li_inj (gN 0 (by decide)) rg_0).mp e))]
    exact sg 0 (by decide) _ rfl (by unfold sgl; rw [if_neg h0])
/-- rows made short, whole -/
theorem X11_new {f : Nat} {h : CH} (w : wfh h) {x : Nat} (cx : cm h x = some (.inl (11, [.null, .int 0]))) {A : RA} {N : Mi} (hA : isN h A N) {B : Int} {k : Nat} (hk : k + 8 < f) (hB : 9 * B < 2 ^ 63) (hRB : RB B N) (hsg : sgm N < k) : ∃ R h', m_X11_init f h x A.1 = some h' ∧ isRd h' x R (flp (rdg k N 0).1) (rdg k N 0).2 ∧ Mod (fun q => q = x) 5 13 h h' ∧ (∀ i, i < 3 → h.1 ≤ R.2.2 i) := by
  have f6 : 6 ≤ f := by omega
  unfold m_X11_init
  obtain ⟨h1, e1, e2, e3, e4⟩ := X2_copy (f := f) (by omega) w hA
  have w1 := e3.2.2.2.2.2.2.2
  have cx1 := e3.at w cx id
  rw [gd_of (isC_R hA), e1, bd2_some]
  unfold m_X11_init_9
  rw [pF_c cx1 w1 (by simp), bd_some]
  have m2 : Mod (fun q => q = x) 0 0 h1 (cs h1 x (.inl (11, [.ref h.1, .int 0]))) := Mod.cs w1 cx1 rfl
  have w2 := m2.2.2.2.2.2.2.2
  have hx : x < h.1 := (w.1 x _ cx).2
  have r2 := e2.mod m2 w1 (by show ¬ h.1 = x; omega) (by show ¬ h.1 + 1 = x; omega) (fun i hi => by show ¬ h.1 + 1 + 1 + i = x; omega)
  have H2 : isRd (cs h1 x (.inl (11, [.ref h.1, .int 0]))) x (nwR h) N 0 := ⟨cm_cs_s _ _ _, r2⟩
  have eset : (cs h1 x (.inl (11, [Value.null, .int 0].set 0 (.ref h.1)))) = cs h1 x (.inl (11, [.ref h.1, .int 0])) := rfl
  rw [eset]
  obtain ⟨h3, a1, H3, M3⟩ := X11_i12 (f := f) f6 hB k f _ N 0 (by omega) w2 H2 (Mod.rf w2) hRB hsg
  rw [a1]
  obtain ⟨q1, q2, q3⟩ := rdg_ok k N 0 hRB hsg
  generalize rdg k N 0 = RR at *
  have hB0 : B < 2 ^ 63 := by
    have h0 := hRB 0 (by decide)
    have h1 := sqr_nn N 0
    omega
  have g0 : ∀ a j, a < 3 → j < 3 → rg (RR.1 a j) := fun a j ha hj => RB_rg q1 hB0 ha hj
  unfold m_X11_init_34
  have w3 := M3.2.2.2.2.2.2.2
  obtain ⟨h4, b1, H4, M4⟩ := X11_turnsOver (f := f) f6 w3 H3 (i := 0) (by decide) (fun j hj => g0 0 j (by decide) hj)
  have w4 := M4.2.2.2.2.2.2.2
  obtain ⟨h5, c1, H5, M5⟩ := X11_turnsOver (f := f) f6 w4 H4 (i := 1) (by decide) (fun j hj => ovf_rg g0 1 j (by decide) hj)
  have w5 := M5.2.2.2.2.2.2.2
  obtain ⟨h6, d1, H6, M6⟩ := X11_turnsOver (f := f) f6 w5 H5 (i := 2) (by decide) (fun j hj => ovf_rg (ovf_rg g0) 2 j (by decide) hj)
  obtain ⟨n, rfl⟩ : ∃ z, f = z + 4 := ⟨f - 4, by omega⟩
  have st : m_X11_init_36 (n + 4) (n + 4) h3 x 0 = some h6 := by
    show m_X11_init_36 (n + 4) (n + 3 + 1) h3 x (ni 0) = _
    rw [m_X11_init_36, if_neg (le3 (by decide)), gd_of (isC_c H3.1), b1, bd_some]
    unfold m_X11_init_46
    rw [nmv_eq, ni_succ]
    show m_X11_init_36 (n + 4) (n + 2 + 1) h4 x (ni 1) = _
    rw [m_X11_init_36, if_neg (le3 (by decide)), gd_of (isC_c H4.1), c1, bd_some]
    unfold m_X11_init_46
    rw [nmv_eq, ni_succ]
    show m_X11_init_36 (n + 4) (n + 1 + 1) h5 x (ni 2) = _
    rw [m_X11_init_36, if_neg (le3 (by decide)), gd_of (isC_c H5.1), d1, bd_some]
    unfold m_X11_init_46
    rw [nmv_eq, ni_succ]
    show m_X11_init_36 (n + 4) (n + 0 + 1) h6 x (ni 3) = _
    rw [m_X11_init_36, if_pos le33]
    rfl
  rw [st]
  have M26 : Mod (rdS x (nwR h)) 0 0 (cs h1 x (.inl (11, [.ref h.1, .int 0]))) h6 := ((M3.tr M4 (fun _ _ hq => hq)).tr M5 (fun _ _ hq => hq)).tr M6 (fun _ _ hq => hq)
  have M12 : Mod (rdS x (nwR h)) 0 0 h1 h6 := (m2.mono (fun _ _ hq => .inl hq) (Nat.le_refl _) (Nat.le_refl _)).tr M26 (fun _ _ hq => hq)
  have E : Mod (fun q => q = x) 5 13 h h1 := e3.mono (fun _ _ hq => hq.elim) (Nat.le_refl _) (Nat.le_refl _)
  refine ⟨nwR h, h6, rfl, H6, (E.tr M12 (fun q hq hs => ?_)).mono (fun _ _ => id) (Nat.le_refl _) (Nat.le_refl _), fun i hi => by show h.1 ≤ h.1 + 1 + 1 + i; omega⟩
  rcases hs with rfl | ⟨i, hi, rfl⟩
  · rfl
  · have : h.1 + 1 + 1 + i < h.1 := hq
    omega
