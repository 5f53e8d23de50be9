/-! Small: all of one's rows, begun, made; the dual -/
set_option maxRecDepth 100000
theorem isSm.mod {T : Nat → Prop} {k n : Nat} {h h1 : CH} {a : Nat} {R : RA} {V : Nat} {m : Int} {F : Mi} {v : Nat → Int} (S : isSm h a R V m F v) (M : Mod T k n h h1) (w : wfh h) (n0 : ¬ T a) (n1 : ¬ T R.1) (n2 : ¬ T R.2.1) (n3 : ∀ i, i < 3 → ¬ T (R.2.2 i)) (n4 : ¬ T V) : isSm h1 a R V m F v := ⟨M.at w S.1 n0, S.2.1.mod M w n1 n2 n3, M.at w S.2.2.1 n4, S.2.2.2⟩
theorem isSm.ext {k n : Nat} {h h1 : CH} {a : Nat} {R : RA} {V : Nat} {m : Int} {F : Mi} {v : Nat → Int} (S : isSm h a R V m F v) (M : Ext k n h h1) (w : wfh h) : isSm h1 a R V m F v := S.mod M w id id id (fun _ _ => id) id
/-- another one's rows, not written by this one -/
theorem isR.sm {k n : Nat} {h h1 : CH} {R : RA} {V : Nat} {F : Mi} {v : Nat → Int} {B : RA} {b : Mx} (hB : isR h B b) (hR : isN h R F) (hV : cm h V = some (vcl v)) (M : Mod (sS R V) k n h h1) (w : wfh h) (hd : ∀ i, i < 3 → ¬ sS R V (B.2.2 i)) : isR h1 B b := by
  refine hB.mod M w ?_ ?_ hd
  · rintro (⟨i, hi, e⟩ | e)
    · have h9 := hB.1; rw [e, hR.2.2.1 i hi] at h9; cases h9
    · have h9 := hB.1; rw [e, hV] at h9; cases h9
  · rintro (⟨i, hi, e⟩ | e)
    · have h9 := hB.2.1; rw [e, hR.2.2.1 i hi] at h9; cases h9
    · have h9 := hB.2.1; rw [e, hV] at h9; cases h9
def tkA (m : Int) (k : Nat) (F b : Mi) : Nat → Mi
  | 0 => F
  | i + 1 => tkF m k (tkA m k F b i) (b i)
def taOk (m : Int) (k : Nat) (F b : Mi) : Prop := ∀ i, i < 3 → tkOk m k (tkA m k F b i) (b i)
theorem X1_takesAll {f : Nat} (hf : 4 ≤ f) {a : Nat} {R : RA} {V : Nat} {m : Int} (gm : rg m) (hm : 0 < m) {k : Nat} (hk : k < f) {F : Mi} {v : Nat → Int} {h : CH} (w : wfh h) (S : isSm h a R V m F v) {B : RA} {b : Mi} (hB : isN h B b) (hd : ∀ i, i < 3 → ¬ sS R V (B.2.2 i)) (hok : taOk m k F b) : ∃ h' v', m_X1_takesAll f h a B.1 = some h' ∧ isSm h' a R V m (tkA m k F b 3) v' ∧ Mod (sS R V) 0 0 h h' ∧ isN h' B b := by
  unfold m_X1_takesAll
  obtain ⟨h5, p5, e5⟩ := loop3 (fun n h x => m_X1_takesAll_2 f n h a B.1 x) (fun h => some h) (fun i h1 => wfh h1 ∧ (∃ v', isSm h1 a R V m (tkA m k F b i) v') ∧ Mod (sS R V) 0 0 h h1 ∧ isN h1 B b)
    (fun n h _ => by rw [m_X1_takesAll_2, if_pos le33]; rfl)
    (fun n h1 i hi q => by
      obtain ⟨w1, ⟨v1, S1⟩, M1, B1⟩ := q
      obtain ⟨h2, v2, t1, t2, t3⟩ := X1_takes (f := f) hf gm hm hk w1 S1 (b i) (hok i hi)
      refine ⟨h2, ?_, t3.2.2.2.2.2.2.2, ⟨v2, t2⟩, (M1.tr t3 (fun q _ hq => hq)).mono (fun _ _ => id) (by omega) (by omega), isR.sm B1 S1.2.1 S1.2.2.1 t3 w1 hd⟩
      rw [m_X1_takesAll_2, if_neg (le3 hi)]
      simp only [z0, z1, z2, oR_R B1, bd_some, aR_R B1 hi, aL_R B1 hi (show 0 < 3 by decide), aL_R B1 hi (show 1 < 3 by decide), aL_R B1 hi (show 2 < 3 by decide), gd_of (isC_c S1.1)]
      rw [show m_X1_takes f h1 a (lM b i 0) (lM b i 1) (lM b i 2) = some h2 from t1, bd_some]
      unfold m_X1_takesAll_35
      rw [nmv_eq, ni_succ])
    hf ⟨w, ⟨v, S⟩, Mod.rf w, hB⟩
  obtain ⟨_, ⟨v5, S5⟩, M5, B5⟩ := p5
  exact ⟨h5, v5, e5, S5, M5, B5⟩
def dgm (m : Int) : Mi := fun i j => if i = j then m else 0
def filI (F G : Mi) (i j : Nat) : Mi := fun a b => if a < i ∨ (a = i ∧ b < j) then F a b else G a b
theorem filI_one {F G : Mi} {i j : Nat} : ∀ a b, a < 3 → b < 3 → fst (filI F G i j) i j (F i j) a b = filI F G i (j + 1) a b := by
  intro a b ha hb
  unfold fst filI
  by_cases h : a = i ∧ b = j
  · obtain ⟨rfl, rfl⟩ := h
    simp
  · rw [if_neg h]
    have e : (a < i ∨ a = i ∧ b < j) ↔ (a < i ∨ a = i ∧ b < j + 1) := by omega
    simp only [e]
theorem filI_next {F G : Mi} {i : Nat} : ∀ a b, a < 3 → b < 3 → filI F G i 3 a b = filI F G (i + 1) 0 a b := by
  intro a b ha hb
  unfold filI
  have e : (a < i ∨ a = i ∧ b < 3) ↔ (a < i + 1 ∨ a = i + 1 ∧ b < 0) := by omega
  simp only [e]
theorem X1_beg {f : Nat} (hf : 4 ≤ f) {a : Nat} {R : RA} {V : Nat} {m : Int} {F : Mi} {v : Nat → Int} {h : CH} (w : wfh h) (S : isSm h a R V m F v) : ∃ h', m_X1_begins_7 f f h a (li m) 0 = some h' ∧ isSm h' a R V m (dgm m) v ∧ Mod (sS R V) 0 0 h h' := by
  obtain ⟨h2, p2, e2⟩ := loop3 (fun n h x => m_X1_begins_7 f n h a (li m) x) (fun h => some h) (fun i h1 => wfh h1 ∧ isSm h1 a R V m (filI (dgm m) F i 0) v ∧ Mod (sS R V) 0 0 h h1)
    (fun n h _ => by rw [m_X1_begins_7, if_pos le33]; rfl)
    (fun n h1 i hi p => by
      rw [m_X1_begins_7, if_neg (le3 hi)]
      obtain ⟨h3, p3, e3⟩ := loop3 (fun n' h x => m_X1_begins_15 f (m_X1_begins_7 f n) n' h a (li m) (ni i) x) (fun h => m_X1_begins_7 f n h a (li m) (ni (i + 1))) (fun j h1 => wfh h1 ∧ isSm h1 a R V m (filI (dgm m) F i j) v ∧ Mod (sS R V) 0 0 h h1)
        (fun n' h _ => by rw [m_X1_begins_15, if_pos le33]; unfold m_X1_begins_50; rw [nmv_eq, ni_succ])
        (fun n' h4 j hj q => by
          obtain ⟨w4, S4, M4⟩ := q
          obtain ⟨h5, u1, S5, M5, _⟩ := S4.setF w4 hi hj (dgm m i j)
          refine ⟨h5, ?_, M5.2.2.2.2.2.2.2, S5.congr (fun p q hp hq => filI_one p q hp hq) (fun _ _ => rfl), (M4.tr M5 (fun q _ hq => hq)).mono (fun _ _ => id) (by omega) (by omega)⟩
          rw [m_X1_begins_15, if_neg (le3 hj), oR_c (k := 0) (x := R.1) S4.1 rfl, bd_some, oR_R S4.2.1, bd_some, aR_R S4.2.1 hi, bd_some]
          unfold m_X1_begins_43
          by_cases hij : i = j
          · rw [if_neg (show ¬ ¬ ni i = ni j from fun e => e (by rw [hij]))]
            have : dgm m i j = m := by unfold dgm; rw [if_pos hij]
            rw [this] at u1
            rw [u1, bd_some, nmv_eq, ni_succ]
          · rw [if_pos (show ¬ ni i = ni j from fun e => hij ((ni_inj (by omega) (by omega)).mp e))]
            have : dgm m i j = 0 := by unfold dgm; rw [if_neg hij]
            rw [this] at u1
            have u1' : uL h4 1 (R.2.2 i) (ni j) 0 = some h5 := u1
            rw [u1', bd_some, nmv_eq, ni_succ])
        hf p
      refine ⟨h3, e3, p3.1, p3.2.1.congr (fun p q hp hq => filI_next p q hp hq) (fun _ _ => rfl), p3.2.2⟩)
    hf ⟨w, S.congr (fun p q _ _ => by unfold filI; simp) (fun _ _ => rfl), Mod.rf w⟩
  exact ⟨h2, e2, p2.2.1.congr (fun p q hp hq => by unfold filI; rw [if_pos (.inl hp)]) (fun _ _ => rfl), p2.2.2⟩
theorem X1_begins {f : Nat} (hf : 4 ≤ f) {a : Nat} {R : RA} {V : Nat} {m0 : Value} {F : Mi} {v : Nat → Int} {h : CH} (w : wfh h) (c1 : cm h a = some (.inl (2, [.ref R.1, .ref V, m0]))) (hR : isN h R F) (hV : cm h V = some (vcl v)) (hne : ∀ i, i < 3 → R.2.2 i ≠ V) (m : Int) : ∃ h', m_X1_begins f h a (li m) = some h' ∧ isSm h' a R V m (dgm m) v ∧ Mod (fun q => sS R V q ∨ q = a) 0 0 h h' := by
  unfold m_X1_begins
  rw [pF_c c1 w (by simp), bd_some]
  have m1 : Mod (fun q => q = a) 0 0 h _ := Mod.cs (e := .inl (2, [Value.ref R.1, .ref V, m0].set 2 (.long (li m)))) w c1 rfl
  have S1 : isSm (cs h a (.inl (2, [Value.ref R.1, .ref V, m0].set 2 (.long (li m))))) a R V m F v := by
    refine ⟨cm_cs_s _ _ _, hR.mod m1 w (fun e => ?_) (fun e => ?_) (fun i hi e => ?_), m1.at w hV (fun e => ?_), hne⟩
    · have h9 := hR.1; rw [e, c1] at h9; cases h9
    · have h9 := hR.2.1; rw [e, c1] at h9; cases h9
    · have h9 := hR.2.2.1 i hi; rw [e, c1] at h9; cases h9
    · rw [e, c1] at hV; cases hV
  obtain ⟨h2, e1, e2, e3⟩ := X1_beg (f := f) hf m1.2.2.2.2.2.2.2 S1
  exact ⟨h2, e1, e2, ((m1.mono (fun q _ hq => .inr hq) (Nat.le_refl _) (Nat.le_refl _)).tr e3 (fun q _ hq => .inl hq)).mono (fun _ _ => id) (by omega) (by omega)⟩
/-- a new one, the place for which is there -/
theorem X1_new {f : Nat} (hf : 4 ≤ f) {h : CH} (w : wfh h) {a : Nat} {m0 : Value} (c0 : cm h a = some (.inl (2, [.null, .null, m0]))) (m : Int) : ∃ h' R V v, m_X1_init f h a (li m) = some h' ∧ isSm h' a R V m (dgm m) v ∧ Mod (fun q => q = a) 6 16 h h' ∧ (∀ i, i < 3 → h.1 ≤ R.2.2 i) ∧ h.1 ≤ V := by
  unfold m_X1_init
  simp only [nmv_eq]
  unfold m_X1_init_8
  obtain ⟨h1, e1, r1, x1, z⟩ := X2_new (f := f) w
  rw [e1, bd_some]
  unfold m_X1_init_12
  have w1 := x1.2.2.2.2.2.2.2
  have c1 := x1.at w c0 id
  rw [pF_c c1 w1 (by simp), bd_some]
  simp only [nmv_eq]
  have m2 : Mod (fun q => q = a) 0 0 h1 _ := Mod.cs (e := .inl (2, [Value.null, .null, m0].set 0 (.ref h.1))) w1 c1 rfl
  have w2 := m2.2.2.2.2.2.2.2
  have c2 := cm_cs_s h1 a (.inl (2, [Value.null, .null, m0].set 0 (.ref h.1)))
  have r2 : isR (cs h1 a (.inl (2, [Value.null, .null, m0].set 0 (.ref h.1)))) (nwR h) (fun _ _ => 0) := by
    refine r1.mod m2 w1 (fun e => ?_) (fun e => ?_) (fun i hi e => ?_)
    · have h9 := r1.1; rw [e, c1] at h9; cases h9
    · have h9 := r1.2.1; rw [e, c1] at h9; cases h9
    · have h9 := r1.2.2.1 i hi; rw [e, c1] at h9; cases h9
  generalize hg : cs h1 a (.inl (2, [Value.null, .null, m0].set 0 (.ref h.1))) = h2 at m2 w2 c2 r2 ⊢
  have e2 : h2.1 = h.1 + 5 := by rw [← hg]; exact z
  have m3 : Ext 1 3 h2 (cn h2 3 (.inr (1, 3, .inr (.inl (fun _ => 0))))) := Mod.cn w2
  have w3 := m3.2.2.2.2.2.2.2
  have c3 := m3.at w2 c2 id
  have v3 : cm (cn h2 3 (.inr (1, 3, .inr (.inl (fun _ => 0))))) h2.1 = some (vcl (fun _ => 0)) := by
    rw [cm_cn_s]
    unfold vcl
    have : (fun (_ : Nat) => (0 : Int64)) = fun j => if j < 3 then li 0 else 0 := by funext j; split <;> rfl
    rw [this]
  unfold m_X1_init_19 m_X1_init_27
  rw [pF_c c3 w3 (by simp), bd_some]
  have m4 : Mod (fun q => q = a) 0 0 (cn h2 3 (.inr (1, 3, .inr (.inl (fun _ => 0))))) _ := Mod.cs (e := .inl (2, ([Value.null, .null, m0].set 0 (.ref h.1)).set 1 (.ref h2.1))) w3 c3 rfl
  have w4 := m4.2.2.2.2.2.2.2
  have c4 := cm_cs_s (cn h2 3 (.inr (1, 3, .inr (.inl (fun _ => 0))))) a (.inl (2, ([Value.null, .null, m0].set 0 (.ref h.1)).set 1 (.ref h2.1)))
  have ha : a < h.1 := (w.1 a _ c0).2
  have v4 := m4.at w3 v3 (by show ¬ h2.1 = a; omega)
  have r3 := r2.ext m3 w2
  have r4 := r3.mod m4 w3 (by show ¬ h.1 = a; omega) (by show ¬ h.1 + 1 = a; omega) (fun i hi => by show ¬ h.1 + 1 + 1 + i = a; omega)
  rw [gd_of (isC_c c4)]
  have r4' : isN (cs (cn h2 3 (.inr (1, 3, .inr (.inl (fun _ => 0))))) a (.inl (2, ([Value.null, .null, m0].set 0 (.ref h.1)).set 1 (.ref h2.1)))) (nwR h) (fun _ _ => 0) := r4.congr (fun _ _ _ _ => rfl)
  obtain ⟨h5, b1, b2, b3⟩ := X1_begins (f := f) hf w4 (R := nwR h) (V := h2.1) (m0 := m0) c4 r4' v4 (fun i hi => by show h.1 + 1 + 1 + i ≠ h2.1; omega) m
  rw [b1, bd_some]
  refine ⟨h5, nwR h, h2.1, _, rfl, b2, ?_, fun i hi => by show h.1 ≤ h.1 + 1 + 1 + i; omega, by omega⟩
  have q1 : Mod (fun q => q = a) 5 13 h h1 := x1.mono (fun _ _ hq => hq.elim) (Nat.le_refl _) (Nat.le_refl _)
  have q2 := ((q1.tr m2 (fun q _ hq => hq)).tr m3 (fun q _ hq => hq.elim)).tr m4 (fun q _ hq => hq)
  exact (q2.tr b3 (fun q hq hs => by
    rcases hs with (⟨i, hi, e⟩ | e) | e
    · have e' : q = h.1 + 1 + 1 + i := e
      omega
    · omega
    · exact e)).mono (fun _ _ => id) (by omega) (by omega)
