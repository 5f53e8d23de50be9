/-! Rows over whole numbers: minors, determinants, products, parts -/
set_option maxRecDepth 100000
abbrev Mi : Type := Nat → Nat → Int
abbrev lM (N : Mi) : Mx := fun i j => li (N i j)
abbrev isN (h : CH) (R : RA) (N : Mi) : Prop := isR h R (lM N)
theorem isC_R {h : CH} {R : RA} {m : Mx} (hR : isR h R m) : isC h R.1 3 = true := by unfold isC; rw [hR.1]; rfl
def mnr (N : Mi) (i j : Nat) : Int := N ((i + 1) % 3) ((j + 1) % 3) * N ((i + 2) % 3) ((j + 2) % 3) - N ((i + 1) % 3) ((j + 2) % 3) * N ((i + 2) % 3) ((j + 1) % 3)
def dtf (N : Mi) : Int := N 0 0 * mnr N 0 0 + N 0 1 * mnr N 0 1 + N 0 2 * mnr N 0 2
theorem rm1 {i : Nat} (hi : i < 3) : rmI (ni i + 1) 3 = ni ((i + 1) % 3) := by
  rcases (show i = 0 ∨ i = 1 ∨ i = 2 by omega) with rfl | rfl | rfl <;> decide
theorem rm2 {i : Nat} (hi : i < 3) : rmI (ni i + 2) 3 = ni ((i + 2) % 3) := by
  rcases (show i = 0 ∨ i = 1 ∨ i = 2 by omega) with rfl | rfl | rfl <;> decide
theorem md3 (k : Nat) : k % 3 < 3 := Nat.mod_lt _ (by decide)
theorem X2_minor {f : Nat} {h : CH} {R : RA} {N : Mi} (hR : isN h R N) {i j : Nat} (hi : i < 3) (hj : j < 3) : m_X2_minor f h R.1 (ni i) (ni j) = some (li (mnr N i j), h) := by
  unfold m_X2_minor
  simp only [nmv_eq, rm1 hi, rm2 hi, rm1 hj, rm2 hj, oR_R hR, bd_some, aR_R hR (md3 _), aL_R hR (md3 _) (md3 _)]
  rw [li_mul, li_mul, li_sub]
  rfl
theorem X2_determinant {f : Nat} {h : CH} {R : RA} {N : Mi} (hR : isN h R N) : m_X2_determinant f h R.1 = some (li (dtf N), h) := by
  unfold m_X2_determinant m_X2_determinant_14 m_X2_determinant_29 m_X2_determinant_45
  have a0 := aR_R hR (i := 0) (by decide)
  have l0 := aL_R hR (i := 0) (j := 0) (by decide) (by decide)
  have l1 := aL_R hR (i := 0) (j := 1) (by decide) (by decide)
  have l2 := aL_R hR (i := 0) (j := 2) (by decide) (by decide)
  have m0 := X2_minor (f := f) hR (i := 0) (j := 0) (by decide) (by decide)
  have m1 := X2_minor (f := f) hR (i := 0) (j := 1) (by decide) (by decide)
  have m2 := X2_minor (f := f) hR (i := 0) (j := 2) (by decide) (by decide)
  simp only [z0, z1, z2, oR_R hR, bd_some, a0, l0, l1, l2, gd_of (isC_R hR), m0, m1, m2, bd2_some]
  rw [li_mul, li_mul, li_mul, li_add, li_add]
  rfl
def sqr (N : Mi) (i : Nat) : Int := N i 0 * N i 0 + N i 1 * N i 1 + N i 2 * N i 2
theorem X2_square {f : Nat} {h : CH} {R : RA} {N : Mi} (hR : isN h R N) {i : Nat} (hi : i < 3) : m_X2_square f h R.1 (ni i) = some (li (sqr N i), h) := by
  unfold m_X2_square
  have l0 := aL_R hR (i := i) (j := 0) hi (by decide)
  have l1 := aL_R hR (i := i) (j := 1) hi (by decide)
  have l2 := aL_R hR (i := i) (j := 2) hi (by decide)
  simp only [z0, z1, z2, oR_R hR, bd_some, aR_R hR hi, l0, l1, l2]
  rw [li_mul, li_mul, li_mul, li_add, li_add]
  rfl
theorem X2_times_2 {f : Nat} (hf : 4 ≤ f) {h0 : CH} (w : wfh h0) {A : RA} {a : Mi} (hA : isN h0 A a) (k : Int) : ∃ h', m_X2_times_2 f h0 A.1 (li k) = some (h0.1, h') ∧ isN h' (nwR h0) (fun i j => k * a i j) ∧ Ext 5 13 h0 h' ∧ h'.1 = h0.1 + 5 := by
  unfold m_X2_times_2 m_X2_times_2_3
  simp only [nmv_eq]
  obtain ⟨h1, e1, r1, x1, z⟩ := X2_new (f := f) w
  rw [e1, bd_some]
  unfold m_X2_times_2_7
  obtain ⟨h2, p2, e2⟩ := loop3 (fun n h x => m_X2_times_2_11 f n h A.1 (li k) h0.1 x) (fun h => some (h0.1, h)) (fun i h => Fil h0 (lM (fun i j => k * a i j)) i 0 h)
    (fun n h _ => by rw [m_X2_times_2_11, if_pos le33]; rfl)
    (fun n h i hi p => by
      rw [m_X2_times_2_11, if_neg (le3 hi)]
      obtain ⟨h3, p3, e3⟩ := loop3 (fun n' h x => m_X2_times_2_20 f (m_X2_times_2_11 f n) n' h A.1 (li k) h0.1 (ni i) x) (fun h => m_X2_times_2_11 f n h A.1 (li k) h0.1 (ni (i + 1))) (fun j h => Fil h0 (lM (fun i j => k * a i j)) i j h)
        (fun n' h _ => by rw [m_X2_times_2_20, if_pos le33]; unfold m_X2_times_2_54; rw [nmv_eq, ni_succ])
        (fun n' h j hj q => by
          have hA' := hA.ext q.2.1 w
          obtain ⟨s1, s2⟩ := q.step hi hj
          refine ⟨_, ?_, s2⟩
          rw [m_X2_times_2_20, if_neg (le3 hj), show h0.1 = (nwR h0).1 from rfl, oR_R q.1, bd_some, aR_R q.1 hi, bd_some, oR_R hA', bd_some, aR_R hA' hi, bd_some, aL_R hA' hi hj, bd_some, li_mul, s1, bd_some, nmv_eq, ni_succ])
        hf p
      exact ⟨h3, e3, p3.next⟩)
    hf (Fil.start r1 x1 z)
  exact ⟨h2, e2, p2.done⟩
theorem X2_by {f : Nat} (hf : 4 ≤ f) {h0 : CH} (w : wfh h0) {A : RA} {a : Mi} (hA : isN h0 A a) {k : Int} (hk : rg k) (hk0 : k ≠ 0) (ha : ∀ i j, i < 3 → j < 3 → rg (a i j)) : ∃ h', m_X2_by f h0 A.1 (li k) = some (h0.1, h') ∧ isN h' (nwR h0) (fun i j => (a i j).tdiv k) ∧ Ext 5 13 h0 h' ∧ h'.1 = h0.1 + 5 := by
  unfold m_X2_by m_X2_by_3
  simp only [nmv_eq]
  obtain ⟨h1, e1, r1, x1, z⟩ := X2_new (f := f) w
  rw [e1, bd_some]
  unfold m_X2_by_7
  obtain ⟨h2, p2, e2⟩ := loop3 (fun n h x => m_X2_by_11 f n h A.1 (li k) h0.1 x) (fun h => some (h0.1, h)) (fun i h => Fil h0 (lM (fun i j => (a i j).tdiv k)) i 0 h)
    (fun n h _ => by rw [m_X2_by_11, if_pos le33]; rfl)
    (fun n h i hi p => by
      rw [m_X2_by_11, if_neg (le3 hi)]
      obtain ⟨h3, p3, e3⟩ := loop3 (fun n' h x => m_X2_by_20 f (m_X2_by_11 f n) n' h A.1 (li k) h0.1 (ni i) x) (fun h => m_X2_by_11 f n h A.1 (li k) h0.1 (ni (i + 1))) (fun j h => Fil h0 (lM (fun i j => (a i j).tdiv k)) i j h)
        (fun n' h _ => by rw [m_X2_by_20, if_pos le33]; unfold m_X2_by_54; rw [nmv_eq, ni_succ])
        (fun n' h j hj q => by
          have hA' := hA.ext q.2.1 w
          obtain ⟨s1, s2⟩ := q.step hi hj
          refine ⟨_, ?_, s2⟩
          rw [m_X2_by_20, if_neg (le3 hj), show h0.1 = (nwR h0).1 from rfl, oR_R q.1, bd_some, aR_R q.1 hi, bd_some, oR_R hA', bd_some, aR_R hA' hi, bd_some, aL_R hA' hi hj, bd_some, gd_of (nzL_li hk hk0), li_div (ha i j hi hj) hk, s1, bd_some, nmv_eq, ni_succ])
        hf p
      exact ⟨h3, e3, p3.next⟩)
    hf (Fil.start r1 x1 z)
  exact ⟨h2, e2, p2.done⟩
/-! filled by columns -/
def filt (F m : Mx) (i j : Nat) : Mx := fun a b => if b < i ∨ (b = i ∧ a < j) then F a b else m a b
theorem filt_set {F m : Mx} {i j : Nat} : ∀ a b, a < 3 → b < 3 → mset (filt F m i j) j i (F j i) a b = filt F m i (j + 1) a b := by
  intro a b ha hb
  unfold mset filt
  by_cases h : a = j ∧ b = i
  · obtain ⟨rfl, rfl⟩ := h
    simp
  · rw [if_neg h]
    have e : (b < i ∨ b = i ∧ a < j) ↔ (b < i ∨ b = i ∧ a < j + 1) := by omega
    simp only [e]
def FilT (h0 : CH) (F : Mx) (i j : Nat) (h : CH) : Prop := isR h (nwR h0) (filt F (fun _ _ => 0) i j) ∧ Ext 5 13 h0 h ∧ h.1 = h0.1 + 5
theorem FilT.step {h0 h : CH} {F : Mx} {i j : Nat} (w : FilT h0 F i j h) (hi : i < 3) (hj : j < 3) : uL h 1 ((nwR h0).2.2 j) (ni i) (F j i) = some (stR h (nwR h0) (filt F (fun _ _ => 0) i j) j i (F j i)) ∧ FilT h0 F i (j + 1) (stR h (nwR h0) (filt F (fun _ _ => 0) i j) j i (F j i)) := by
  refine ⟨uL_R w.1 w.2.1.2.2.2.2.2.2.2 hj hi _, ?_, ?_, w.2.2⟩
  · exact (stR_is w.1 w.2.1.2.2.2.2.2.2.2 hj _).congr filt_set
  · exact w.2.1.st w.1 (fun z hz => by show h0.1 ≤ h0.1 + 1 + 1 + z; omega) hj _
theorem FilT.next {h0 h : CH} {F : Mx} {i : Nat} (w : FilT h0 F i 3 h) : FilT h0 F (i + 1) 0 h := ⟨w.1.congr (fun a b ha hb => by
  unfold filt
  have e : (b < i ∨ b = i ∧ a < 3) ↔ (b < i + 1 ∨ b = i + 1 ∧ a < 0) := by omega
  simp only [e]), w.2⟩
theorem FilT.done {h0 h : CH} {F : Mx} (w : FilT h0 F 3 0 h) : isR h (nwR h0) F ∧ Ext 5 13 h0 h ∧ h.1 = h0.1 + 5 := ⟨w.1.congr (fun a b ha hb => by unfold filt; simp [hb]), w.2⟩
theorem FilT.start {h0 h : CH} {F : Mx} (h1 : isR h (nwR h0) (fun _ _ => 0)) (h2 : Ext 5 13 h0 h) (h3 : h.1 = h0.1 + 5) : FilT h0 F 0 0 h := ⟨h1.congr (fun a b _ _ => by unfold filt; simp), h2, h3⟩
theorem X2_adjoint {f : Nat} (hf : 4 ≤ f) {h0 : CH} (w : wfh h0) {A : RA} {a : Mi} (hA : isN h0 A a) : ∃ h', m_X2_adjoint f h0 A.1 = some (h0.1, h') ∧ isN h' (nwR h0) (fun i j => mnr a j i) ∧ Ext 5 13 h0 h' ∧ h'.1 = h0.1 + 5 := by
  unfold m_X2_adjoint m_X2_adjoint_3
  simp only [nmv_eq]
  obtain ⟨h1, e1, r1, x1, z⟩ := X2_new (f := f) w
  rw [e1, bd_some]
  unfold m_X2_adjoint_7
  obtain ⟨h2, p2, e2⟩ := loop3 (fun n h x => m_X2_adjoint_10 f n h A.1 h0.1 x) (fun h => some (h0.1, h)) (fun i h => FilT h0 (lM (fun i j => mnr a j i)) i 0 h)
    (fun n h _ => by rw [m_X2_adjoint_10, if_pos le33]; rfl)
    (fun n h i hi p => by
      rw [m_X2_adjoint_10, if_neg (le3 hi)]
      obtain ⟨h3, p3, e3⟩ := loop3 (fun n' h x => m_X2_adjoint_17 f (m_X2_adjoint_10 f n) n' h A.1 h0.1 (ni i) x) (fun h => m_X2_adjoint_10 f n h A.1 h0.1 (ni (i + 1))) (fun j h => FilT h0 (lM (fun i j => mnr a j i)) i j h)
        (fun n' h _ => by rw [m_X2_adjoint_17, if_pos le33]; unfold m_X2_adjoint_42; rw [nmv_eq, ni_succ])
        (fun n' h j hj q => by
          have hA' := hA.ext q.2.1 w
          obtain ⟨s1, s2⟩ := q.step hi hj
          refine ⟨_, ?_, s2⟩
          rw [m_X2_adjoint_17, if_neg (le3 hj), show h0.1 = (nwR h0).1 from rfl, oR_R q.1, bd_some, aR_R q.1 hj, bd_some, gd_of (isC_R hA'), X2_minor hA' hi hj, bd2_some]
          unfold m_X2_adjoint_35
          rw [s1, bd_some, nmv_eq, ni_succ])
        hf p
      exact ⟨h3, e3, p3.next⟩)
    hf (FilT.start r1 x1 z)
  exact ⟨h2, e2, p2.done⟩
/-! products -/
def pmul (a b : Mi) : Mi := fun i j => a i 0 * b 0 j + a i 1 * b 1 j + a i 2 * b 2 j
def psum (a b : Mi) (i j k : Nat) : Int := match k with
  | 0 => 0
  | k + 1 => psum a b i j k + a i k * b k j
theorem psum_3 (a b : Mi) (i j : Nat) : psum a b i j 3 = pmul a b i j := by simp [psum, pmul]
/-- while row i, column j is summed up -/
def FilS (h0 : CH) (a b : Mi) (i j k : Nat) (h : CH) : Prop := isR h (nwR h0) (mset (fil (lM (pmul a b)) (fun _ _ => 0) i j) i j (li (psum a b i j k))) ∧ Ext 5 13 h0 h ∧ h.1 = h0.1 + 5
theorem FilS.start {h0 h : CH} {a b : Mi} {i j : Nat} (w : Fil h0 (lM (pmul a b)) i j h) : FilS h0 a b i j 0 h := by
  refine ⟨w.1.congr (fun x y hx hy => ?_), w.2⟩
  unfold mset fil
  by_cases h : x = i ∧ y = j
  · obtain ⟨rfl, rfl⟩ := h; simp [psum]; rfl
  · rw [if_neg h]
theorem FilS.done {h0 h : CH} {a b : Mi} {i j : Nat} (hj : j < 3) (w : FilS h0 a b i j 3 h) : Fil h0 (lM (pmul a b)) i (j + 1) h := by
  refine ⟨?_, w.2⟩
  have h1 := w.1
  rw [psum_3] at h1
  exact h1.congr (fil_set hj)
theorem FilS.step {h0 h : CH} {a b : Mi} {i j k : Nat} (w : FilS h0 a b i j k h) (hi : i < 3) (hj : j < 3) : ∃ h', aL h 1 ((nwR h0).2.2 i) (ni j) = some (li (psum a b i j k)) ∧ uL h 1 ((nwR h0).2.2 i) (ni j) (li (psum a b i j k + a i k * b k j)) = some h' ∧ FilS h0 a b i j (k + 1) h' := by
  refine ⟨_, ?_, uL_R w.1 w.2.1.2.2.2.2.2.2.2 hi hj _, ?_, ?_, w.2.2⟩
  · rw [aL_R w.1 hi hj]; unfold mset; simp
  · refine (stR_is w.1 w.2.1.2.2.2.2.2.2.2 hi _).congr (fun x y hx hy => ?_)
    unfold mset
    by_cases h : x = i ∧ y = j
    · simp [h, psum]
    · simp [h]
  · exact w.2.1.st w.1 (fun z hz => by show h0.1 ≤ h0.1 + 1 + 1 + z; omega) hi _
theorem X2_times {f : Nat} (hf : 4 ≤ f) {h0 : CH} (w : wfh h0) {A B : RA} {a b : Mi} (hA : isN h0 A a) (hB : isN h0 B b) : ∃ h', m_X2_times f h0 A.1 B.1 = some (h0.1, h') ∧ isN h' (nwR h0) (pmul a b) ∧ Ext 5 13 h0 h' ∧ h'.1 = h0.1 + 5 := by
  unfold m_X2_times m_X2_times_3
  simp only [nmv_eq]
  obtain ⟨h1, e1, r1, x1, z⟩ := X2_new (f := f) w
  rw [e1, bd_some]
  unfold m_X2_times_7
  obtain ⟨h2, p2, e2⟩ := loop3 (fun n h x => m_X2_times_10 f n h A.1 B.1 h0.1 x) (fun h => some (h0.1, h)) (fun i h => Fil h0 (lM (pmul a b)) i 0 h)
    (fun n h _ => by rw [m_X2_times_10, if_pos le33]; rfl)
    (fun n h i hi p => by
      rw [m_X2_times_10, if_neg (le3 hi)]
      obtain ⟨h3, p3, e3⟩ := loop3 (fun n' h x => m_X2_times_18 f (m_X2_times_10 f n) n' h A.1 B.1 h0.1 (ni i) x) (fun h => m_X2_times_10 f n h A.1 B.1 h0.1 (ni (i + 1))) (fun j h => Fil h0 (lM (pmul a b)) i j h)
        (fun n' h _ => by rw [m_X2_times_18, if_pos le33]; unfold m_X2_times_77; rw [nmv_eq, ni_succ])
        (fun n' h j hj q => by
          rw [m_X2_times_18, if_neg (le3 hj)]
          obtain ⟨h4, p4, e4⟩ := loop3 (fun n'' h x => m_X2_times_27 f (m_X2_times_10 f n) (m_X2_times_18 f (m_X2_times_10 f n) n') n'' h A.1 B.1 h0.1 (ni i) (ni j) x) (fun h => m_X2_times_18 f (m_X2_times_10 f n) n' h A.1 B.1 h0.1 (ni i) (ni (j + 1))) (fun k h => FilS h0 a b i j k h)
            (fun n'' h _ => by rw [m_X2_times_27, if_pos le33]; unfold m_X2_times_71; rw [nmv_eq, ni_succ])
            (fun n'' h k hk s => by
              have hA' := hA.ext s.2.1 w
              have hB' := hB.ext s.2.1 w
              obtain ⟨h5, g1, g2, g3⟩ := s.step hi hj
              refine ⟨h5, ?_, g3⟩
              rw [m_X2_times_27, if_neg (le3 hk), show h0.1 = (nwR h0).1 from rfl, oR_R s.1, bd_some, aR_R s.1 hi, bd_some, g1, bd_some, oR_R hA', bd_some, aR_R hA' hi, bd_some, aL_R hA' hi hk, bd_some, oR_R hB', bd_some, aR_R hB' hk, bd_some, aL_R hB' hk hj, bd_some, li_mul, li_add, g2, bd_some, nmv_eq, ni_succ])
            hf (FilS.start q)
          exact ⟨h4, e4, p4.done hj⟩)
        hf p
      exact ⟨h3, e3, p3.next⟩)
    hf (Fil.start r1 x1 z)
  exact ⟨h2, e2, p2.done⟩
