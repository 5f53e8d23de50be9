/-! Small: the dual -/
set_option maxRecDepth 100000
def du00 (m : Int) (F : Mi) : Int := m.tdiv (F 0 0)
def du11 (m : Int) (F : Mi) : Int := m.tdiv (F 1 1)
def du22 (m : Int) (F : Mi) : Int := m.tdiv (F 2 2)
def du01 (m : Int) (F : Mi) : Int := (-(0 + du00 m F * F 0 1)).tdiv (F 1 1)
def du02 (m : Int) (F : Mi) : Int := (-(0 + du00 m F * F 0 2 + du01 m F * F 1 2)).tdiv (F 2 2)
def du12 (m : Int) (F : Mi) : Int := (-(0 + du11 m F * F 1 2)).tdiv (F 2 2)
def dul (m : Int) (F : Mi) : Mi := fun i j => if i = 0 ∧ j = 0 then du00 m F else if i = 0 ∧ j = 1 then du01 m F else if i = 0 ∧ j = 2 then du02 m F else if i = 1 ∧ j = 1 then du11 m F else if i = 1 ∧ j = 2 then du12 m F else if i = 2 ∧ j = 2 then du22 m F else 0
def dulOk (m : Int) (F : Mi) : Prop := rg m ∧ (∀ i, i < 3 → rg (F i i) ∧ F i i ≠ 0) ∧ rg (-(0 + du00 m F * F 0 1)) ∧ rg (-(0 + du00 m F * F 0 2 + du01 m F * F 1 2)) ∧ rg (-(0 + du11 m F * F 1 2))
/-- while the dual is filled -/
def DuS (h0 : CH) (a : Nat) (R : RA) (V : Nat) (m : Int) (F : Mi) (v : Nat → Int) (kk : Mi) (h : CH) : Prop := isN h (nwR h0) kk ∧ isSm h a R V m F v ∧ Ext 5 13 h0 h ∧ h.1 = h0.1 + 5
theorem DuS.set {h0 h : CH} {a : Nat} {R : RA} {V : Nat} {m : Int} {F : Mi} {v : Nat → Int} {kk : Mi} (D : DuS h0 a R V m F v kk h) (hlt : a < h0.1 ∧ R.1 < h0.1 ∧ R.2.1 < h0.1 ∧ (∀ i, i < 3 → R.2.2 i < h0.1) ∧ V < h0.1) {i j : Nat} (hi : i < 3) (hj : j < 3) (x : Int) : ∃ h', uL h 1 ((nwR h0).2.2 i) (ni j) (li x) = some h' ∧ DuS h0 a R V m F v (fst kk i j x) h' := by
  obtain ⟨d1, d2, d3, d4⟩ := D
  have w := d3.2.2.2.2.2.2.2
  have m1 := stR_mod d1 w hi (j := j) (li x)
  have nn : ∀ q, q < h0.1 → ¬ rS (nwR h0) q := by
    rintro q hq ⟨k, hk, e⟩
    have e' : q = h0.1 + 1 + 1 + k := e
    omega
  refine ⟨_, uL_R d1 w hi hj (li x), (stR_is d1 w hi (li x)).congr (fun p q _ _ => ?_), d2.mod m1 w (nn _ hlt.1) (nn _ hlt.2.1) (nn _ hlt.2.2.1) (fun k hk => nn _ (hlt.2.2.2.1 k hk)) (nn _ hlt.2.2.2.2), d3.st d1 (fun z hz => by show h0.1 ≤ h0.1 + 1 + 1 + z; omega) hi _, d4⟩
  show mset (lM kk) i j (li x) p q = li (fst kk i j x p q)
  unfold mset fst
  split <;> rfl
theorem isSm.lt {h : CH} (w : wfh h) {a : Nat} {R : RA} {V : Nat} {m : Int} {F : Mi} {v : Nat → Int} (S : isSm h a R V m F v) : a < h.1 ∧ R.1 < h.1 ∧ R.2.1 < h.1 ∧ (∀ i, i < 3 → R.2.2 i < h.1) ∧ V < h.1 := ⟨(w.1 _ _ S.1).2, (w.1 _ _ S.2.1.1).2, (w.1 _ _ S.2.1.2.1).2, fun i hi => (w.1 _ _ (S.2.1.2.2.1 i hi)).2, (w.1 _ _ S.2.2.1).2⟩
theorem leij {i j : Nat} (hi : i < 9) (hj : j < 9) (h : i ≤ j) : ni i ≤ ni j := (ni_le (by omega) (by omega)).mpr h
theorem nleij {i j : Nat} (hi : i < 9) (hj : j < 9) (h : ¬ i ≤ j) : ¬ ni i ≤ ni j := fun e => h ((ni_le (by omega) (by omega)).mp e)
/-- the diagonal -/
theorem du_dg {f n : Nat} {h0 h : CH} {a : Nat} {R : RA} {V : Nat} {m : Int} {F : Mi} {v : Nat → Int} {kk : Mi} (D : DuS h0 a R V m F v kk h) (hlt : a < h0.1 ∧ R.1 < h0.1 ∧ R.2.1 < h0.1 ∧ (∀ i, i < 3 → R.2.2 i < h0.1) ∧ V < h0.1) {i : Nat} (hi : i < 3) (gm : rg m) (gf : rg (F i i)) (hz : F i i ≠ 0) : ∃ h', m_X1_dual_10 f (n + 1) h a h0.1 (ni i) = m_X1_dual_43 f (m_X1_dual_10 f n) f h' a h0.1 (ni i) (ni (i + 1)) ∧ DuS h0 a R V m F v (fst kk i i (m.tdiv (F i i))) h' := by
  obtain ⟨h', u1, D1⟩ := D.set hlt hi hi (m.tdiv (F i i))
  refine ⟨h', ?_, D1⟩
  rw [m_X1_dual_10, if_neg (le3 hi), show oR h 3 0 h0.1 = some _ from oR_R D.1, bd_some, aR_R D.1 hi, bd_some, oL_c D.2.1.1 rfl, bd_some, oR_c (k := 0) (x := R.1) D.2.1.1 rfl, bd_some, oR_R D.2.1.2.1, bd_some, aR_R D.2.1.2.1 hi, bd_some, aL_R D.2.1.2.1 hi hi, bd_some, gd_of (show nzL (lM F i i) = true from nzL_li gf hz), show li m / lM F i i = li (m.tdiv (F i i)) from li_div gm gf, u1, bd_some, nmv_eq]
  show m_X1_dual_43 f (m_X1_dual_10 f n) f h' a h0.1 (ni i) (ni i + 1) = _
  rw [ni_succ]
/-- a summand -/
theorem du_sm {f n : Nat} {h0 h : CH} {a : Nat} {R : RA} {V : Nat} {m : Int} {F : Mi} {v : Nat → Int} {kk : Mi} (D : DuS h0 a R V m F v kk h) {i j l : Nat} (hi : i < 3) (hj : j < 3) (hl : l < j) (k10 : CH → Nat → Nat → Int32 → Option (Nat × CH)) (k43 : CH → Nat → Nat → Int32 → Int32 → Option (Nat × CH)) (x : Int) : m_X1_dual_54 f k10 k43 (n + 1) h a h0.1 (ni i) (ni j) (li x) (ni l) = m_X1_dual_54 f k10 k43 n h a h0.1 (ni i) (ni j) (li (x + kk i l * F l j)) (ni (l + 1)) := by
  have l3 : l < 3 := by omega
  rw [m_X1_dual_54, if_neg (nleij (by omega) (by omega) (by omega)), show oR h 3 0 h0.1 = some _ from oR_R D.1, bd_some, aR_R D.1 hi, bd_some, aL_R D.1 hi l3, bd_some, oR_c (k := 0) (x := R.1) D.2.1.1 rfl, bd_some, oR_R D.2.1.2.1, bd_some, aR_R D.2.1.2.1 l3, bd_some, aL_R D.2.1.2.1 l3 hj, bd_some, nmv_eq, nmv_eq, li_mul, li_add, ni_succ]
/-- a sum laid -/
theorem du_st {f n : Nat} {h0 h : CH} {a : Nat} {R : RA} {V : Nat} {m : Int} {F : Mi} {v : Nat → Int} {kk : Mi} (D : DuS h0 a R V m F v kk h) (hlt : a < h0.1 ∧ R.1 < h0.1 ∧ R.2.1 < h0.1 ∧ (∀ i, i < 3 → R.2.2 i < h0.1) ∧ V < h0.1) {i j : Nat} (hi : i < 3) (hj : j < 3) (k10 : CH → Nat → Nat → Int32 → Option (Nat × CH)) (k43 : CH → Nat → Nat → Int32 → Int32 → Option (Nat × CH)) {x : Int} (gx : rg (-x)) (gf : rg (F j j)) (hz : F j j ≠ 0) : ∃ h', m_X1_dual_54 f k10 k43 (n + 1) h a h0.1 (ni i) (ni j) (li x) (ni j) = k43 h' a h0.1 (ni i) (ni (j + 1)) ∧ DuS h0 a R V m F v (fst kk i j ((-x).tdiv (F j j))) h' := by
  obtain ⟨h', u1, D1⟩ := D.set hlt hi hj ((-x).tdiv (F j j))
  refine ⟨h', ?_, D1⟩
  rw [m_X1_dual_54, if_pos (leij (by omega) (by omega) (Nat.le_refl _))]
  unfold m_X1_dual_93
  rw [show oR h 3 0 h0.1 = some _ from oR_R D.1, bd_some, aR_R D.1 hi, bd_some, oR_c (k := 0) (x := R.1) D.2.1.1 rfl, bd_some, oR_R D.2.1.2.1, bd_some, aR_R D.2.1.2.1 hj, bd_some, aL_R D.2.1.2.1 hj hj, bd_some, gd_of (show nzL (lM F j j) = true from nzL_li gf hz), li_neg, show li (-x) / lM F j j = li ((-x).tdiv (F j j)) from li_div gx gf, u1, bd_some, nmv_eq, ni_succ]
theorem X1_dual {f : Nat} (hf : 6 ≤ f) {a : Nat} {R : RA} {V : Nat} {m : Int} {F : Mi} {v : Nat → Int} {h0 : CH} (w : wfh h0) (S : isSm h0 a R V m F v) (hok : dulOk m F) : ∃ h', m_X1_dual f h0 a = some (h0.1, h') ∧ isN h' (nwR h0) (dul m F) ∧ Ext 5 13 h0 h' ∧ h'.1 = h0.1 + 5 := by
  obtain ⟨gm, gd, g01, g02, g12⟩ := hok
  have hlt := S.lt w
  unfold m_X1_dual
  simp only [nmv_eq]
  unfold m_X1_dual_3
  obtain ⟨h1, e1, r1, x1, z⟩ := X2_new (f := f) w
  rw [e1, bd_some]
  unfold m_X1_dual_7
  have D0 : DuS h0 a R V m F v (fun _ _ => 0) h1 := ⟨r1.congr (fun _ _ _ _ => rfl), S.ext x1 w, x1, z⟩
  obtain ⟨n, rfl⟩ : ∃ z, f = z + 6 := ⟨f - 6, by omega⟩
  show ∃ h', m_X1_dual_10 (n + 6) (n + 5 + 1) h1 a h0.1 (ni 0) = some (h0.1, h') ∧ _
  obtain ⟨h2, q2, D2⟩ := du_dg (f := n + 6) (n := n + 5) D0 hlt (i := 0) (by decide) gm (gd 0 (by decide)).1 (gd 0 (by decide)).2
  rw [q2]
  show ∃ h', m_X1_dual_43 (n + 6) (m_X1_dual_10 (n + 6) (n + 5)) (n + 5 + 1) h2 a h0.1 (ni 0) (ni 1) = some (h0.1, h') ∧ _
  rw [m_X1_dual_43, if_neg (le3 (by decide))]
  show ∃ h', m_X1_dual_54 (n + 6) (m_X1_dual_10 (n + 6) (n + 5)) (m_X1_dual_43 (n + 6) (m_X1_dual_10 (n + 6) (n + 5)) (n + 5)) (n + 5 + 1) h2 a h0.1 (ni 0) (ni 1) (li 0) (ni 0) = some (h0.1, h') ∧ _
  rw [du_sm D2 (by decide) (by decide) (by decide)]
  have k00 : fst (fun _ _ => 0) 0 0 (m.tdiv (F 0 0)) 0 0 = du00 m F := rfl
  rw [k00]
  obtain ⟨h3, q3, D3⟩ := du_st (f := n + 6) (n := n + 4) D2 hlt (i := 0) (j := 1) (by decide) (by decide) (m_X1_dual_10 (n + 6) (n + 5)) (m_X1_dual_43 (n + 6) (m_X1_dual_10 (n + 6) (n + 5)) (n + 5)) g01 (gd 1 (by decide)).1 (gd 1 (by decide)).2
  rw [q3]
  show ∃ h', m_X1_dual_43 (n + 6) (m_X1_dual_10 (n + 6) (n + 5)) (n + 4 + 1) h3 a h0.1 (ni 0) (ni 2) = some (h0.1, h') ∧ _
  rw [m_X1_dual_43, if_neg (le3 (by decide))]
  show ∃ h', m_X1_dual_54 (n + 6) (m_X1_dual_10 (n + 6) (n + 5)) (m_X1_dual_43 (n + 6) (m_X1_dual_10 (n + 6) (n + 5)) (n + 4)) (n + 5 + 1) h3 a h0.1 (ni 0) (ni 2) (li 0) (ni 0) = some (h0.1, h') ∧ _
  rw [du_sm D3 (by decide) (by decide) (by decide), show n + 5 = n + 4 + 1 from rfl, du_sm D3 (by decide) (by decide) (by decide)]
  have k01 : ∀ y, fst (fst (fun _ _ => 0) 0 0 (m.tdiv (F 0 0))) 0 1 y 0 1 = y := fun _ => rfl
  have k00' : ∀ y, fst (fst (fun _ _ => 0) 0 0 (m.tdiv (F 0 0))) 0 1 y 0 0 = du00 m F := fun _ => rfl
  rw [k01, k00']
  obtain ⟨h4, q4, D4⟩ := du_st (f := n + 6) (n := n + 3) D3 hlt (i := 0) (j := 2) (by decide) (by decide) (m_X1_dual_10 (n + 6) (n + 4 + 1)) (m_X1_dual_43 (n + 6) (m_X1_dual_10 (n + 6) (n + 4 + 1)) (n + 4)) g02 (gd 2 (by decide)).1 (gd 2 (by decide)).2
  have q4' : m_X1_dual_54 (n + 6) (m_X1_dual_10 (n + 6) (n + 4 + 1)) (m_X1_dual_43 (n + 6) (m_X1_dual_10 (n + 6) (n + 4 + 1)) (n + 4)) (n + 3 + 1) h3 a h0.1 (ni 0) (ni 2) (li (0 + du00 m F * F 0 2 + (-(0 + du00 m F * F 0 1)).tdiv (F 1 1) * F 1 2)) (ni 2) = _ := q4
  show ∃ h', m_X1_dual_54 (n + 6) (m_X1_dual_10 (n + 6) (n + 4 + 1)) (m_X1_dual_43 (n + 6) (m_X1_dual_10 (n + 6) (n + 4 + 1)) (n + 4)) (n + 3 + 1) h3 a h0.1 (ni 0) (ni 2) (li (0 + du00 m F * F 0 2 + (-(0 + du00 m F * F 0 1)).tdiv (F 1 1) * F 1 2)) (ni 2) = some (h0.1, h') ∧ _
  rw [q4']
  show ∃ h', m_X1_dual_43 (n + 6) (m_X1_dual_10 (n + 6) (n + 4 + 1)) (n + 3 + 1) h4 a h0.1 (ni 0) (ni 3) = some (h0.1, h') ∧ _
  rw [m_X1_dual_43, if_pos le33]
  unfold m_X1_dual_122
  rw [nmv_eq]
  show ∃ h', m_X1_dual_10 (n + 6) (n + 4 + 1) h4 a h0.1 (ni 1) = some (h0.1, h') ∧ _
  obtain ⟨h5, q5, D5⟩ := du_dg (f := n + 6) (n := n + 4) D4 hlt (i := 1) (by decide) gm (gd 1 (by decide)).1 (gd 1 (by decide)).2
  rw [q5]
  show ∃ h', m_X1_dual_43 (n + 6) (m_X1_dual_10 (n + 6) (n + 4)) (n + 5 + 1) h5 a h0.1 (ni 1) (ni 2) = some (h0.1, h') ∧ _
  rw [m_X1_dual_43, if_neg (le3 (by decide))]
  show ∃ h', m_X1_dual_54 (n + 6) (m_X1_dual_10 (n + 6) (n + 4)) (m_X1_dual_43 (n + 6) (m_X1_dual_10 (n + 6) (n + 4)) (n + 5)) (n + 5 + 1) h5 a h0.1 (ni 1) (ni 2) (li 0) (ni 1) = some (h0.1, h') ∧ _
  rw [du_sm D5 (by decide) (by decide) (by decide)]
  have k11 : ∀ K y, fst K 1 1 y 1 1 = y := fun _ _ => rfl
  rw [k11]
  obtain ⟨h6, q6, D6⟩ := du_st (f := n + 6) (n := n + 4) D5 hlt (i := 1) (j := 2) (by decide) (by decide) (m_X1_dual_10 (n + 6) (n + 4)) (m_X1_dual_43 (n + 6) (m_X1_dual_10 (n + 6) (n + 4)) (n + 5)) g12 (gd 2 (by decide)).1 (gd 2 (by decide)).2
  have q6' : m_X1_dual_54 (n + 6) (m_X1_dual_10 (n + 6) (n + 4)) (m_X1_dual_43 (n + 6) (m_X1_dual_10 (n + 6) (n + 4)) (n + 5)) (n + 5) h5 a h0.1 (ni 1) (ni 2) (li (0 + m.tdiv (F 1 1) * F 1 2)) (ni (1 + 1)) = _ := q6
  rw [q6']
  show ∃ h', m_X1_dual_43 (n + 6) (m_X1_dual_10 (n + 6) (n + 4)) (n + 4 + 1) h6 a h0.1 (ni 1) (ni 3) = some (h0.1, h') ∧ _
  rw [m_X1_dual_43, if_pos le33]
  unfold m_X1_dual_122
  rw [nmv_eq]
  show ∃ h', m_X1_dual_10 (n + 6) (n + 3 + 1) h6 a h0.1 (ni 2) = some (h0.1, h') ∧ _
  obtain ⟨h7, q7, D7⟩ := du_dg (f := n + 6) (n := n + 3) D6 hlt (i := 2) (by decide) gm (gd 2 (by decide)).1 (gd 2 (by decide)).2
  rw [q7]
  show ∃ h', m_X1_dual_43 (n + 6) (m_X1_dual_10 (n + 6) (n + 3)) (n + 5 + 1) h7 a h0.1 (ni 2) (ni 3) = some (h0.1, h') ∧ _
  rw [m_X1_dual_43, if_pos le33]
  unfold m_X1_dual_122
  rw [nmv_eq]
  show ∃ h', m_X1_dual_10 (n + 6) (n + 2 + 1) h7 a h0.1 (ni 3) = some (h0.1, h') ∧ _
  rw [m_X1_dual_10, if_pos le33]
  refine ⟨h7, rfl, D7.1.congr (fun i j hi hj => ?_), D7.2.2⟩
  show li _ = li (dul m F i j)
  rcases (show i = 0 ∨ i = 1 ∨ i = 2 by omega) with rfl | rfl | rfl <;> rcases (show j = 0 ∨ j = 1 ∨ j = 2 by omega) with rfl | rfl | rfl <;> rfl
