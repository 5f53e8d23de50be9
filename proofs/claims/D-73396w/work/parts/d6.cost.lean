/-! cosets: the twin's loop in the heap -/
set_option maxRecDepth 100000
/-- rows that tell lie in the twin's cell W -/
def isW (h : CH) (y W : Nat) (F : Mi) : Prop := (∃ fs, cm h y = some (.inl (0, fs)) ∧ fs[32]? = some (.ref W)) ∧ ∃ g, cm h W = some (.inr (1, 9, .inr (.inl g))) ∧ ∀ i j, i < 3 → j < 3 → g (3 * i + j) = li (F i j)
theorem isW.at {h : CH} {y W : Nat} {F : Mi} (H : isW h y W F) {i j : Nat} (hi : i < 3) (hj : j < 3) : aL h 1 W (ni (3 * i + j)) = some (li (F i j)) := by
  obtain ⟨_, g, g1, g2⟩ := H
  unfold aL; rw [g1]
  simp only [ix_ni (show 3 * i + j < 9 by omega) (by decide), and_self, if_true]
  rw [ni_clamp (by omega), g2 i j hi hj]
theorem isW.ref {h : CH} {y W : Nat} {F : Mi} (H : isW h y W F) : oR h 0 32 y = some W := by
  obtain ⟨⟨fs, c1, c2⟩, _⟩ := H
  exact oR_c (k := 32) (x := W) c1 c2
theorem isW.md {h h1 : CH} {y W V : Nat} {F : Mi} {v : Nat → Int} (H : isW h y W F) (hV : cm h V = some (vcl v)) (m : Mod (· = V) 0 0 h h1) (w : wfh h) : isW h1 y W F := by
  obtain ⟨⟨fs, c1, c2⟩, g, g1, g2⟩ := H
  exact ⟨⟨fs, m.at w c1 (fun e => by have e' : y = V := e; rw [e', hV] at c1; cases c1), c2⟩, g, m.at w g1 (fun e => by have e' : W = V := e; rw [e', hV] at g1; unfold vcl at g1; simp at g1), g2⟩
theorem X3_c136 {f : Nat} {k107 : CH → Nat → Nat → Int64 → Int32 → Option (Int64 × CH)} {y W : Nat} {F : Mi} {V : Nat} (x9 : Int64) {c : Nat} (hc : c < 3) {v : Nat → Int} {h0 : CH} : ∀ k n j h, j + k = 3 → c ≤ j → k < n → wfh h → isW h y W F → cm h V = some (vcl (fun i => if c ≤ i ∧ i < j then csv F c v i else v i)) → Mod (· = V) 0 0 h0 h → ∃ h', m_X3_coset_136 f k107 n h y V x9 (ni c) (li (v c / F c c)) (ni j) = m_X3_coset_171 f k107 h' y V x9 (ni c) ∧ wfh h' ∧ isW h' y W F ∧ cm h' V = some (vcl (csv F c v)) ∧ Mod (· = V) 0 0 h0 h' := by
  intro k
  induction k with
  | zero =>
    intro n j h hj hcj hn w hR hV M
    obtain ⟨n, rfl⟩ : ∃ z, n = z + 1 := ⟨n - 1, by omega⟩
    have : j = 3 := by omega
    subst this
    rw [m_X3_coset_136, if_pos le33]
    refine ⟨h, rfl, w, hR, ?_, M⟩
    rw [hV]
    refine congrArg some (vcl_congr (fun i hi => ?_))
    show (if c ≤ i ∧ i < 3 then csv F c v i else v i) = _
    by_cases e : c ≤ i
    · rw [if_pos ⟨e, hi⟩]
    · rw [if_neg (fun hh => e hh.1)]; unfold csv; rw [if_neg e]
  | succ k ih =>
    intro n j h hj hcj hn w hR hV M
    obtain ⟨n, rfl⟩ : ∃ z, n = z + 1 := ⟨n - 1, by omega⟩
    have j3 : j < 3 := by omega
    have vj : aL h 1 V (ni j) = some (li (v j)) := by
      rw [aL_V hV j3]
      show some (li (if c ≤ j ∧ j < j then csv F c v j else v j)) = _
      rw [if_neg (by omega)]
    have m1 : Mod (· = V) 0 0 h (cs h V (vcl (vst (fun i => if c ≤ i ∧ i < j then csv F c v i else v i) j (csv F c v j)))) := Mod.cs w hV rfl
    have hR' := hR.md hV m1 w
    obtain ⟨h', g1, g2⟩ := ih n (j + 1) _ (by omega) (by omega) (by omega) m1.wf hR' (by
      rw [cm_cs_s]
      refine congrArg some (vcl_congr (fun i hi => ?_))
      unfold vst
      by_cases e : i = j
      · subst e; rw [if_pos rfl, if_pos ⟨hcj, by omega⟩]
      · rw [if_neg e]
        show (if c ≤ i ∧ i < j then csv F c v i else v i) = _
        by_cases e2 : c ≤ i ∧ i < j
        · rw [if_pos e2, if_pos ⟨e2.1, by omega⟩]
        · rw [if_neg e2, if_neg (fun hh => e2 ⟨hh.1, by have := hh.2; omega⟩)]) (M.tr m1 (fun _ _ => id))
    refine ⟨h', ?_, g2⟩
    rw [← g1, m_X3_coset_136, if_neg (le3 j3), vj, bd_some, hR.ref, bd_some, i3, hR.at hc j3, bd_some, li_mul, li_sub]
    have e : v j - v c / F c c * F c j = csv F c v j := by unfold csv; rw [if_pos hcj]
    rw [e, uL_V w hV j3, bd_some, nmv_eq, ni_succ]
theorem X3_c107 {f : Nat} (hf : 4 ≤ f) {y W : Nat} {F : Mi} {V : Nat} (hF : ∀ i j, i < 3 → j < 3 → (F i j).natAbs ≤ 2160) (hp : ∀ c, c < 3 → 0 < F c c) {s : Nat → Int} (hs : ∀ j, j < 3 → (s j).natAbs ≤ 168000000000) {h : CH} (w : wfh h) (hR : isW h y W F) (hV : cm h V = some (vcl s)) : ∃ h', m_X3_coset_107 f f h y V 0 0 = some (li (crn F s 3).2, h') ∧ Mod (· = V) 0 0 h h' := by
  have grr := crn_rg hF hp hs
  obtain ⟨v2, ⟨p1, p2, p3', p4, p5⟩, q2⟩ := loop3v (fun n (v : CH × Int64) z => m_X3_coset_107 f n v.1 y V v.2 z) (fun v => some (v.2, v.1)) (fun c v => wfh v.1 ∧ isW v.1 y W F ∧ cm v.1 V = some (vcl (crn F s c).1) ∧ v.2 = li (crn F s c).2 ∧ Mod (· = V) 0 0 h v.1)
    (fun n v _ => by rw [m_X3_coset_107, if_pos le33]; rfl)
    (fun n v c hc ⟨p1, p2, p3', p4, p5⟩ => by
      have gF : rg (F c c) := rg_nat.mpr (by have := hF c c hc hc; omega)
      have e4c : (4 : Int32) * ni c = ni (3 * c + c) := by rw [i4z]; congr 1; omega
      obtain ⟨h', g1, g2, g3, g4, g5⟩ := X3_c136 (f := f) (k107 := m_X3_coset_107 f n) (y := y) (W := W) (F := F) (V := V) v.2 hc (v := (crn F s c).1) (h0 := v.1) (3 - c) f c v.1 (by omega) (Nat.le_refl _) (by omega) p1 p2 (by
        rw [p3']
        refine congrArg some (vcl_congr (fun i hi => ?_))
        show _ = if c ≤ i ∧ i < c then _ else _
        rw [if_neg (by omega)]) (Mod.rf p1)
      refine ⟨(h', li (crn F s (c + 1)).2), ?_, g2, g3, g4, rfl, p5.tr g5 (fun _ _ => id)⟩
      rw [m_X3_coset_107, if_neg (le3 hc), aL_V p3' hc, bd_some, p2.ref, bd_some, e4c, p2.at hc hc, bd_some, floorDiv_li (grr c hc c hc) gF (hp c hc), bd_some, g1]
      unfold m_X3_coset_171
      rw [g3.ref, bd_some, e4c, g3.at hc hc, bd_some, aL_V g4 hc, bd_some, nmv_eq, nmv_eq, p4, li_mul, li_add, ni_succ]
      rfl)
    hf (v := (h, 0)) ⟨w, hR, hV, rfl, Mod.rf w⟩
  have e4 : m_X3_coset_107 f f h y V 0 0 = _ := q2
  refine ⟨v2.1, ?_, p5⟩
  rw [e4, p4]
