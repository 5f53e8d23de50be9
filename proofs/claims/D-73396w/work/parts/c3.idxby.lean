/-! the component: the index of a turn -/
set_option maxRecDepth 100000
def isU (h : CH) (UA : Nat) (r : Nat → Nat) (N : Mi) : Prop := cm h UA = some (.inr (4, 3, .inr (.inr (fun j => if j < 3 then some (r j) else none)))) ∧ (∀ i, i < 3 → ∃ rr, cm h (r i) = some (.inr (1, 3, .inr (.inl rr))) ∧ ∀ j, j < 3 → rr j = li (N i j)) ∧ ∀ i j, i < 3 → j < 3 → r i = r j → i = j
theorem aR_U {h : CH} {UA : Nat} {r : Nat → Nat} {N : Mi} (H : isU h UA r N) {i : Nat} (hi : i < 3) : aR h 4 UA (ni i) = some (r i) := by
  unfold aR aQ; rw [H.1]
  simp only [ix_ni hi (by decide), and_self, if_true]
  rw [ni_clamp (by omega), if_pos hi]
theorem aL_U {h : CH} {UA : Nat} {r : Nat → Nat} {N : Mi} (H : isU h UA r N) {i j : Nat} (hi : i < 3) (hj : j < 3) : aL h 1 (r i) (ni j) = some (li (N i j)) := by
  obtain ⟨rr, c1, c2⟩ := H.2.1 i hi
  unfold aL; rw [c1]
  simp only [ix_ni hj (by decide), and_self, if_true]
  rw [ni_clamp (by omega), c2 j hj]
theorem aI_T {h : CH} {TA : Nat} {t : Nat → Nat} {g : Nat → Nat → Int32} (H : isT h TA t g) {i j : Nat} (hi : i < 3) (hj : j < 3) : aI h 0 (t i) (ni j) = some (g i j) := by
  obtain ⟨rr, c1, c2⟩ := H.2.1 i hi
  unfold aI; rw [c1]
  simp only [ix_ni hj (by decide), and_self, if_true]
  rw [ni_clamp (by omega), c2 j hj]
theorem U_put {h : CH} (w : wfh h) {UA : Nat} {r : Nat → Nat} {N : Mi} (H : isU h UA r N) {i j : Nat} (hi : i < 3) (hj : j < 3) (v : Int) : ∃ h', uL h 1 (r i) (ni j) (li v) = some h' ∧ isU h' UA r (fun a b => if a = i ∧ b = j then v else N a b) ∧ Mod (tRow r) 0 0 h h' ∧ ∀ q, q ≠ r i → cm h' q = cm h q := by
  obtain ⟨rr, r1, r2⟩ := H.2.1 i hi
  have m1 : Mod (tRow r) 0 0 h _ := Mod.cs w r1 (e := .inr (1, 3, .inr (.inl (vp_updL rr j (li v))))) ⟨i, hi, rfl⟩
  refine ⟨_, ?_, ⟨?_, fun a ha => ?_, H.2.2⟩, m1, fun q hq => cm_cs_o _ hq⟩
  · unfold uL; rw [r1]
    simp only [ix_ni hj (by decide), (w.1 _ _ r1).1, and_self, if_true]
    rw [ni_clamp (by omega)]
  · rw [cm_cs_o _ (fun e => by have h1 := H.1; rw [e, r1] at h1; cases h1)]; exact H.1
  · by_cases e : a = i
    · subst e
      refine ⟨_, cm_cs_s _ _ _, fun b hb => ?_⟩
      show vp_updL rr j (li v) b = li (if a = a ∧ b = j then v else N a b)
      unfold vp_updL
      by_cases eb : b = j
      · subst eb; simp
      · simp [eb]; exact r2 b hb
    · obtain ⟨r', s1, s2⟩ := H.2.1 a ha
      refine ⟨r', by rw [cm_cs_o _ (fun e9 => e (H.2.2 a i ha hi e9))]; exact s1, fun b hb => ?_⟩
      show r' b = li (if a = i ∧ b = j then v else N a b)
      rw [if_neg (fun h => e h.1)]; exact s2 b hb
/-- all that the search for turns needs, but the lattice -/
def QS (h : CH) (x : Nat) (fs : List Value) (TA : Nat) (t : Nat → Nat) (g : Nat → Nat → Int32) (UA : Nat) (r : Nat → Nat) (N : Mi) : Prop := cm h x = some (.inl (1, fs)) ∧ fs[8]? = some (.ref TA) ∧ fs[9]? = some (.ref UA) ∧ isT h TA t g ∧ isU h UA r N
theorem QS.put {h : CH} (w : wfh h) {x : Nat} {fs : List Value} {TA : Nat} {t : Nat → Nat} {g : Nat → Nat → Int32} {UA : Nat} {r : Nat → Nat} {N : Mi} (H : QS h x fs TA t g UA r N) {i j : Nat} (hi : i < 3) (hj : j < 3) (v : Int) : ∃ h', uL h 1 (r i) (ni j) (li v) = some h' ∧ QS h' x fs TA t g UA r (fun a b => if a = i ∧ b = j then v else N a b) ∧ Mod (tRow r) 0 0 h h' := by
  obtain ⟨c1, c2, c3', c4, c5⟩ := H
  obtain ⟨h', u1, u2, u3, u4⟩ := U_put w c5 hi hj v
  obtain ⟨rr, r1, _⟩ := c5.2.1 i hi
  have ne : ∀ {q : Nat} {e : AC}, cm h q = some e → (∀ r', e ≠ .inr (1, 3, .inr (.inl r'))) → q ≠ r i := fun {q e} hq he e9 => by rw [e9, r1] at hq; cases hq; exact he rr rfl
  refine ⟨h', u1, ⟨?_, c2, c3', ⟨?_, fun a ha => ?_, c4.2.2⟩, u2⟩, u3⟩
  · rw [u4 x (ne c1 (fun _ => by simp))]; exact c1
  · rw [u4 TA (ne c4.1 (fun _ => by simp))]; exact c4.1
  · obtain ⟨r', s1, s2⟩ := c4.2.1 a ha
    exact ⟨r', by rw [u4 (t a) (ne s1 (fun _ => by simp))]; exact s1, s2⟩
theorem X0_i21 {f : Nat} (hf : 4 ≤ f) {k12 : CH → Nat → Nat → Int64 → Int64 → Int32 → Option (Int64 × CH)} {x : Nat} {fs : List Value} {TA : Nat} {t : Nat → Nat} {q : Nat → Int} {UA : Nat} {r : Nat → Nat} {R : RA} {A N : Mi} (hq : ∀ i j, i < 3 → j < 3 → (byM q i j).natAbs ≤ 1000) (hd : ∀ i k, i < 3 → k < 3 → R.2.2 i ≠ r k) {h : CH} (w : wfh h) (S : QS h x fs TA t (gT q) UA r N) (hR : isN h R A) {i : Nat} (hi : i < 3) (x2 x4 : Int64) : ∃ h', m_X0_indexBy_21 f k12 f h x R.1 x2 x4 (ni i) 0 = k12 h' x R.1 x2 x4 (ni (i + 1)) ∧ QS h' x fs TA t (gT q) UA r (fun a b => if a = i then tnP A (byM q) a b else N a b) ∧ isN h' R A ∧ Mod (tRow r) 0 0 h h' := by
  obtain ⟨h2, ⟨N2, p0, p1, p2, p3'⟩, e2⟩ := loop3v (fun n v y => m_X0_indexBy_21 f k12 n v x R.1 x2 x4 (ni i) y) (fun v => m_X0_indexBy_105 f k12 v x R.1 x2 x4 (ni i)) (fun j v => ∃ N2 : Mi, (∀ a b, a < 3 → b < 3 → N2 a b = if a = i ∧ b < j then tnP A (byM q) a b else N a b) ∧ QS v x fs TA t (gT q) UA r N2 ∧ isN v R A ∧ Mod (tRow r) 0 0 h v)
    (fun n v _ => by rw [m_X0_indexBy_21, if_pos le33])
    (fun n v j hj ⟨N2, p0, p1, p2, p3'⟩ => by
      obtain ⟨h', u1, u2, u3⟩ := p1.put p3'.wf hi hj (tnP A (byM q) i j)
      obtain ⟨c1, c2, c3', c4, c5⟩ := p1
      have nr : ∀ {q : Nat} {e : AC}, cm v q = some e → (∀ r', e ≠ .inr (1, 3, .inr (.inl r'))) → ¬ tRow r q := fun {q e} hq he ⟨k, hk, e9⟩ => by
        obtain ⟨rr, r1, _⟩ := c5.2.1 k hk
        rw [e9, r1] at hq; cases hq; exact he rr rfl
      have p2' := p2.mod u3 p3'.wf (nr p2.1 (fun _ => by simp)) (nr p2.2.1 (fun _ => by simp)) (fun a ha ⟨k, hk, e9⟩ => hd a k ha hk e9)
      refine ⟨h', ?_, _, fun a b ha hb => ?_, u2, p2', p3'.tr u3 (fun _ _ => id)⟩
      · have t0 : aI v 0 (t j) 0 = some (gT q j 0) := aI_T c4 hj (j := 0) (by decide)
        have t1 : aI v 0 (t j) 1 = some (gT q j 1) := aI_T c4 hj (j := 1) (by decide)
        have t2 : aI v 0 (t j) 2 = some (gT q j 2) := aI_T c4 hj (j := 2) (by decide)
        have l0 : aL v 1 (R.2.2 i) 0 = some (li (A i 0)) := aL_R p2 hi (j := 0) (by decide)
        have l1 : aL v 1 (R.2.2 i) 1 = some (li (A i 1)) := aL_R p2 hi (j := 1) (by decide)
        have l2 : aL v 1 (R.2.2 i) 2 = some (li (A i 2)) := aL_R p2 hi (j := 2) (by decide)
        have gv : ∀ k, k < 3 → Int32.toInt64 (gT q j k) = li (byM q j k) := fun k hk => by
          unfold gT
          have := hq j k hj hk
          rw [toL, Int32.toInt_ofInt_of_le (by omega) (by omega)]
        rw [m_X0_indexBy_21, if_neg (le3 hj)]
        simp only [oR_c (k := 9) (x := UA) c1 c3', oR_c (k := 8) (x := TA) c1 c2, bd_some, aR_U c5 hi, aR_T c4 hj, t0, t1, t2, oR_R p2, aR_R p2 hi, l0, l1, l2, nmv_eq]
        rw [gv 0 (by decide), gv 1 (by decide), gv 2 (by decide), li_mul, li_mul, li_mul, li_add, li_add]
        have e : byM q j 0 * A i 0 + byM q j 1 * A i 1 + byM q j 2 * A i 2 = tnP A (byM q) i j := rfl
        rw [e, u1, bd_some, ni_succ]
      · show (if a = i ∧ b = j then tnP A (byM q) i j else N2 a b) = _
        by_cases e : a = i ∧ b = j
        · obtain ⟨rfl, rfl⟩ := e
          rw [if_pos ⟨rfl, rfl⟩, if_pos ⟨rfl, by omega⟩]
        · rw [if_neg e, p0 a b ha hb]
          by_cases e3 : a = i ∧ b < j
          · rw [if_pos e3, if_pos ⟨e3.1, by omega⟩]
          · rw [if_neg e3, if_neg (fun h => e3 ⟨h.1, by have := h.2; have : ¬ b = j := fun hh => e ⟨h.1, hh⟩; omega⟩)])
    hf (v := h) ⟨N, fun a b _ _ => by rw [if_neg (by omega)], S, hR, Mod.rf w⟩
  have e2' : m_X0_indexBy_21 f k12 f h x R.1 x2 x4 (ni i) 0 = _ := e2
  refine ⟨h2, ?_, ?_, p2, p3'⟩
  · rw [e2']
    unfold m_X0_indexBy_105
    rw [nmv_eq, ni_succ]
  · obtain ⟨c1, c2, c3', c4, c5⟩ := p1
    refine ⟨c1, c2, c3', c4, c5.1, fun a ha => ?_, c5.2.2⟩
    obtain ⟨rr, r1, r2⟩ := c5.2.1 a ha
    refine ⟨rr, r1, fun b hb => ?_⟩
    rw [r2 b hb, p0 a b ha hb]
    show _ = li (if a = i then tnP A (byM q) a b else N a b)
    by_cases e : a = i
    · rw [if_pos ⟨e, hb⟩, if_pos e]
    · rw [if_neg (fun h => e h.1), if_neg e]

theorem X0_i12 {f : Nat} (hf : 4 ≤ f) {x : Nat} {fs : List Value} {TA : Nat} {t : Nat → Nat} {q : Nat → Int} {UA : Nat} {r : Nat → Nat} {R : RA} {A N : Mi} (hq : ∀ i j, i < 3 → j < 3 → (byM q i j).natAbs ≤ 1000) (hd : ∀ i k, i < 3 → k < 3 → R.2.2 i ≠ r k) {h : CH} (w : wfh h) (S : QS h x fs TA t (gT q) UA r N) (hR : isN h R A) (x2 x4 : Int64) : ∃ h', m_X0_indexBy_12 f f h x R.1 x2 x4 0 = m_X0_indexBy_111 f h' x R.1 x2 x4 ∧ QS h' x fs TA t (gT q) UA r (tnP A (byM q)) ∧ isN h' R A ∧ Mod (tRow r) 0 0 h h' := by
  obtain ⟨h2, ⟨N2, p0, p1, p2, p3'⟩, e2⟩ := loop3v (fun n v y => m_X0_indexBy_12 f n v x R.1 x2 x4 y) (fun v => m_X0_indexBy_111 f v x R.1 x2 x4) (fun i v => ∃ N2 : Mi, (∀ a b, a < i → b < 3 → N2 a b = tnP A (byM q) a b) ∧ QS v x fs TA t (gT q) UA r N2 ∧ isN v R A ∧ Mod (tRow r) 0 0 h v)
    (fun n v _ => by rw [m_X0_indexBy_12, if_pos le33])
    (fun n v i hi ⟨N2, p0, p1, p2, p3'⟩ => by
      obtain ⟨h', u1, u2, u3, u4⟩ := X0_i21 (f := f) hf (k12 := m_X0_indexBy_12 f n) hq hd p3'.wf p1 p2 hi x2 x4
      refine ⟨h', ?_, _, fun a b ha hb => ?_, u2, u3, p3'.tr u4 (fun _ _ => id)⟩
      · rw [m_X0_indexBy_12, if_neg (le3 hi), u1]
      · show (if a = i then tnP A (byM q) a b else N2 a b) = _
        by_cases e : a = i
        · rw [if_pos e]
        · rw [if_neg e]; exact p0 a b (by omega) hb)
    hf (v := h) ⟨N, fun a b ha _ => by omega, S, hR, Mod.rf w⟩
  refine ⟨h2, e2, ?_, p2, p3'⟩
  obtain ⟨c1, c2, c3', c4, c5⟩ := p1
  refine ⟨c1, c2, c3', c4, c5.1, fun a ha => ?_, c5.2.2⟩
  obtain ⟨rr, r1, r2⟩ := c5.2.1 a ha
  exact ⟨rr, r1, fun b hb => by rw [r2 b hb, p0 a b ha hb]⟩
/-! the form of both -/
def itk (m : Int) (k : Nat) (A B : Mi) (ov : Int) : Nat → Mi
  | 0 => dgm m
  | i + 1 => tkF m k (tkF m k (itk m k A B ov i) (fun j => ov * A i j)) (fun j => B i j)
