/-! Rows: what its methods do -/
set_option maxRecDepth 100000
theorem z0 : (0 : Int32) = ni 0 := rfl
theorem z1 : (1 : Int32) = ni 1 := rfl
theorem z2 : (2 : Int32) = ni 2 := rfl
theorem z3 : (3 : Int32) = ni 3 := rfl
theorem le3 {j : Nat} (h : j < 3) : ¬ ((3 : Int32) ≤ ni j) := by
  rw [z3, ni_le (by decide) (by omega)]; omega
theorem le33 : (3 : Int32) ≤ ni 3 := by decide
/-- a loop of three rounds -/
theorem loop3 {γ : Type} (G : Nat → CH → Int32 → Option γ) (K : CH → Option γ) (P : Nat → CH → Prop) (hend : ∀ n h, P 3 h → G (n + 1) h (ni 3) = K h) (hstep : ∀ n h j, j < 3 → P j h → ∃ h', G (n + 1) h (ni j) = G n h' (ni (j + 1)) ∧ P (j + 1) h') {n : Nat} {h : CH} (hn : 4 ≤ n) (h0 : P 0 h) : ∃ h', P 3 h' ∧ G n h (ni 0) = K h' := by
  obtain ⟨n, rfl⟩ : ∃ k, n = k + 4 := ⟨n - 4, by omega⟩
  obtain ⟨h1, e1, p1⟩ := hstep (n + 3) h 0 (by decide) h0
  obtain ⟨h2, e2, p2⟩ := hstep (n + 2) h1 1 (by decide) p1
  obtain ⟨h3, e3, p3⟩ := hstep (n + 1) h2 2 (by decide) p2
  exact ⟨h3, p3, by rw [e1, e2, e3]; exact hend n h3 p3⟩
/-- a loop of three rounds that carries a number -/
theorem loop3v {γ V : Type} (G : Nat → V → Int32 → Option γ) (K : V → Option γ) (P : Nat → V → Prop) (hend : ∀ n v, P 3 v → G (n + 1) v (ni 3) = K v) (hstep : ∀ n v j, j < 3 → P j v → ∃ v', G (n + 1) v (ni j) = G n v' (ni (j + 1)) ∧ P (j + 1) v') {n : Nat} {v : V} (hn : 4 ≤ n) (h0 : P 0 v) : ∃ v', P 3 v' ∧ G n v (ni 0) = K v' := by
  obtain ⟨n, rfl⟩ : ∃ k, n = k + 4 := ⟨n - 4, by omega⟩
  obtain ⟨h1, e1, p1⟩ := hstep (n + 3) v 0 (by decide) h0
  obtain ⟨h2, e2, p2⟩ := hstep (n + 2) h1 1 (by decide) p1
  obtain ⟨h3, e3, p3⟩ := hstep (n + 1) h2 2 (by decide) p2
  exact ⟨h3, p3, by rw [e1, e2, e3]; exact hend n h3 p3⟩
/-- rows filled up to a place -/
def fil (F m : Mx) (i j : Nat) : Mx := fun a b => if a < i ∨ (a = i ∧ b < j) then F a b else m a b
theorem fil_set {F m : Mx} {i j : Nat} (hj : j < 3) : ∀ a b, a < 3 → b < 3 → mset (fil F m i j) i j (F i j) a b = fil F m i (j + 1) a b := by
  intro a b ha hb
  unfold mset fil
  by_cases h : a = i ∧ b = j
  · obtain ⟨rfl, rfl⟩ := h
    simp
  · rw [if_neg h]
    have e : (a < i ∨ a = i ∧ b < j) ↔ (a < i ∨ a = i ∧ b < j + 1) := by omega
    simp only [e]
theorem fil_next {F m : Mx} {i : Nat} : ∀ a b, a < 3 → b < 3 → fil F m i 3 a b = fil F m (i + 1) 0 a b := by
  intro a b ha hb
  unfold fil
  have e : (a < i ∨ a = i ∧ b < 3) ↔ (a < i + 1 ∨ a = i + 1 ∧ b < 0) := by omega
  simp only [e]
theorem fil_0 {F m : Mx} : fil F m 0 0 = m := by
  funext a b; unfold fil; simp
theorem fil_3 {F m : Mx} : ∀ a b, a < 3 → b < 3 → fil F m 3 0 a b = F a b := by
  intro a b ha hb; unfold fil; simp [ha]
/-- B was made since h0; what is old is as it was -/
theorem Ext.st {k n : Nat} {h0 h : CH} (a : Ext k n h0 h) {R : RA} {m : Mx} (hR : isR h R m) (hB : ∀ i, i < 3 → h0.1 ≤ R.2.2 i) {i j : Nat} (hi : i < 3) (x : Int64) : Ext k n h0 (stR h R m i j x) := by
  have b := stR_mod hR a.2.2.2.2.2.2.2 hi (j := j) x
  exact (a.tr b (fun q hq hs => by obtain ⟨z, hz, rfl⟩ := hs; have := hB z hz; omega)).mono (fun _ _ => id) (by omega) (by omega)
/-- the state while a fresh Rows is filled with F out of what was there ahead -/
def Fil (h0 : CH) (F : Mx) (i j : Nat) (h : CH) : Prop := isR h (nwR h0) (fil F (fun _ _ => 0) i j) ∧ Ext 5 13 h0 h ∧ h.1 = h0.1 + 5
theorem Fil.step {h0 h : CH} {F : Mx} {i j : Nat} (w : Fil h0 F i j h) (hi : i < 3) (hj : j < 3) : uL h 1 ((nwR h0).2.2 i) (ni j) (F i j) = some (stR h (nwR h0) (fil F (fun _ _ => 0) i j) i j (F i j)) ∧ Fil h0 F i (j + 1) (stR h (nwR h0) (fil F (fun _ _ => 0) i j) i j (F i j)) := by
  refine ⟨uL_R w.1 w.2.1.2.2.2.2.2.2.2 hi hj _, ?_, ?_, w.2.2⟩
  · exact (stR_is w.1 w.2.1.2.2.2.2.2.2.2 hi _).congr (fil_set hj)
  · exact w.2.1.st w.1 (fun z hz => by show h0.1 ≤ h0.1 + 1 + 1 + z; omega) hi _
theorem Fil.next {h0 h : CH} {F : Mx} {i : Nat} (w : Fil h0 F i 3 h) : Fil h0 F (i + 1) 0 h := ⟨w.1.congr fil_next, w.2⟩
theorem Fil.done {h0 h : CH} {F : Mx} (w : Fil h0 F 3 0 h) : isR h (nwR h0) F ∧ Ext 5 13 h0 h ∧ h.1 = h0.1 + 5 := ⟨w.1.congr fil_3, w.2⟩
theorem Fil.start {h0 h : CH} {F : Mx} (h1 : isR h (nwR h0) (fun _ _ => 0)) (h2 : Ext 5 13 h0 h) (h3 : h.1 = h0.1 + 5) : Fil h0 F 0 0 h := ⟨by rw [fil_0]; exact h1, h2, h3⟩
theorem X2_copy {f : Nat} (hf : 4 ≤ f) {h0 : CH} (w : wfh h0) {A : RA} {a : Mx} (hA : isR h0 A a) : ∃ h', m_X2_copy f h0 A.1 = some (h0.1, h') ∧ isR h' (nwR h0) a ∧ Ext 5 13 h0 h' ∧ h'.1 = h0.1 + 5 := by
  unfold m_X2_copy m_X2_copy_3
  simp only [nmv_eq]
  obtain ⟨h1, e1, r1, x1, z⟩ := X2_new (f := f) w
  rw [e1, bd_some]
  unfold m_X2_copy_7
  obtain ⟨h2, p2, e2⟩ := loop3 (fun n h x => m_X2_copy_10 f n h A.1 h0.1 x) (fun h => some (h0.1, h)) (fun i h => Fil h0 a i 0 h)
    (fun n h _ => by rw [m_X2_copy_10, if_pos le33]; rfl)
    (fun n h i hi p => by
      rw [m_X2_copy_10, if_neg (le3 hi)]
      obtain ⟨h3, p3, e3⟩ := loop3 (fun n' h x => m_X2_copy_17 f (m_X2_copy_10 f n) n' h A.1 h0.1 (ni i) x) (fun h => m_X2_copy_10 f n h A.1 h0.1 (ni (i + 1))) (fun j h => Fil h0 a i j h)
        (fun n' h _ => by rw [m_X2_copy_17, if_pos le33]; unfold m_X2_copy_44; rw [nmv_eq, ni_succ])
        (fun n' h j hj q => by
          have hA' := hA.ext q.2.1 w
          obtain ⟨s1, s2⟩ := q.step hi hj
          refine ⟨_, ?_, s2⟩
          rw [m_X2_copy_17, if_neg (le3 hj), show h0.1 = (nwR h0).1 from rfl, oR_R q.1, bd_some, aR_R q.1 hi, bd_some, oR_R hA', bd_some, aR_R hA' hi, bd_some, aL_R hA' hi hj, bd_some, s1, bd_some, nmv_eq, ni_succ])
        hf p
      exact ⟨h3, e3, p3.next⟩)
    hf (Fil.start r1 x1 z)
  exact ⟨h2, e2, p2.done⟩
