/-! a new turned one -/
set_option maxRecDepth 100000
theorem I3 {h : CH} (w : wfh h) {a : Nat} {g : Nat → Int32} (hc : cm h a = some (.inr (0, 3, .inl g))) (u0 u1 u2 : Int32) : ∃ h', (∀ {γ : Type} (K : CH → Option γ), bd (uI h 0 a (0 : Int32) u0) (fun h1 => bd (uI h1 0 a (1 : Int32) u1) fun h2 => bd (uI h2 0 a (2 : Int32) u2) K) = K h') ∧ (∃ r, cm h' a = some (.inr (0, 3, .inl r)) ∧ r 0 = u0 ∧ r 1 = u1 ∧ r 2 = u2) ∧ Mod (· = a) 0 0 h h' ∧ h'.1 = h.1 := by
  have st : ∀ {h : CH} (w : wfh h) {g : Nat → Int32} (hc : cm h a = some (.inr (0, 3, .inl g))) {i : Nat} (hi : i < 3) (v : Int32), uI h 0 a (ni i) v = some (cs h a (.inr (0, 3, .inl (upd g i v)))) := fun {h} w {g} hc {i} hi v => by
    unfold uI; rw [hc]
    show (if 0 = 0 ∧ h.2.2.1 ≤ a ∧ ix (ni i) 3 = true then _ else _) = _
    rw [if_pos ⟨rfl, (w.1 _ _ hc).1, ix_ni hi (by decide)⟩, ni_clamp (by omega)]
  have s0 : uI h 0 a (0 : Int32) u0 = _ := st w hc (i := 0) (by decide) u0
  have m1 : Mod (· = a) 0 0 h (cs h a (.inr (0, 3, .inl (upd g 0 u0)))) := Mod.cs w hc rfl
  have c1 := cm_cs_s h a (.inr (0, 3, .inl (upd g 0 u0)))
  have s1 : uI _ 0 a (1 : Int32) u1 = _ := st m1.wf c1 (i := 1) (by decide) u1
  have m2 : Mod (· = a) 0 0 _ (cs _ a (.inr (0, 3, .inl (upd (upd g 0 u0) 1 u1)))) := Mod.cs m1.wf c1 rfl
  have c2 := cm_cs_s (cs h a (.inr (0, 3, .inl (upd g 0 u0)))) a (.inr (0, 3, .inl (upd (upd g 0 u0) 1 u1)))
  have s2 : uI _ 0 a (2 : Int32) u2 = _ := st m2.wf c2 (i := 2) (by decide) u2
  have m3 : Mod (· = a) 0 0 _ (cs _ a (.inr (0, 3, .inl (upd (upd (upd g 0 u0) 1 u1) 2 u2)))) := Mod.cs m2.wf c2 rfl
  refine ⟨_, fun {γ} K => ?_, ⟨_, cm_cs_s _ _ _, rfl, rfl, rfl⟩, (m1.tr m2 (fun _ _ => id)).tr m3 (fun _ _ => id), rfl⟩
  rw [s0, bd_some, s1, bd_some, s2, bd_some]
theorem uQ_g {h : CH} (w : wfh h) {G : Nat} {gg : Nat → Option Nat} (hc : cm h G = some (.inr (5, 3, .inr (.inr gg)))) {i : Nat} (hi : i < 3) (v : Option Nat) : uQ h 5 G (ni i) v = some (cs h G (.inr (5, 3, .inr (.inr (va_up gg i v))))) := by
  unfold uQ; rw [hc]
  show (if 5 = 5 ∧ h.2.2.1 ≤ G ∧ ix (ni i) 3 = true then _ else _) = _
  rw [if_pos ⟨rfl, (w.1 _ _ hc).1, ix_ni hi (by decide)⟩, ni_clamp (by omega)]
/-- numbers as small as these keep their values -/
theorem of32 {x : Int} (h : x.natAbs ≤ 1000000) : Int32.toInt64 (Int32.ofInt x) = li x := by
  rw [toL, Int32.toInt_ofInt_of_le (by omega) (by omega)]
theorem sq9 {a b : Int} (ha : a.natAbs ≤ 3) (hb : b.natAbs ≤ 3) : (a * b).natAbs ≤ 9 := by
  rw [Int.natAbs_mul]; exact Nat.mul_le_mul ha hb
theorem byM_le {q : Nat → Int} (hq : ∀ k, k < 4 → (q k).natAbs ≤ 3) : (∀ i j, i < 3 → j < 3 → (byM q i j).natAbs ≤ 36) ∧ (ovQ q).natAbs ≤ 36 ∧ (q 0 * q 0 - q 1 * q 1 - q 2 * q 2 - q 3 * q 3).natAbs ≤ 36 := by
  have s : ∀ i j, i < 4 → j < 4 → -9 ≤ q i * q j ∧ q i * q j ≤ 9 := fun i j hi hj => by have := sq9 (hq i hi) (hq j hj); omega
  obtain ⟨a1, b1⟩ := s 0 0 (by decide) (by decide)
  obtain ⟨a2, b2⟩ := s 1 1 (by decide) (by decide)
  obtain ⟨a3, b3⟩ := s 2 2 (by decide) (by decide)
  obtain ⟨a4, b4⟩ := s 3 3 (by decide) (by decide)
  obtain ⟨a5, b5⟩ := s 0 1 (by decide) (by decide)
  obtain ⟨a6, b6⟩ := s 0 2 (by decide) (by decide)
  obtain ⟨a7, b7⟩ := s 0 3 (by decide) (by decide)
  obtain ⟨a8, b8⟩ := s 1 2 (by decide) (by decide)
  obtain ⟨a9, b9⟩ := s 1 3 (by decide) (by decide)
  obtain ⟨a0, b0⟩ := s 2 3 (by decide) (by decide)
  have g : ∀ x : Int, -36 ≤ x → x ≤ 36 → x.natAbs ≤ 36 := fun x h1 h2 => by omega
  unfold ovQ
  refine ⟨fun i j hi hj => ?_, g _ (by omega) (by omega), g _ (by omega) (by omega)⟩
  unfold byM
  rcases c3 hi with rfl | rfl | rfl <;> rcases c3 hj with rfl | rfl | rfl
  · rw [if_pos ⟨rfl, rfl⟩]; exact g _ (by omega) (by omega)
  · rw [if_neg (by decide), if_pos ⟨rfl, rfl⟩]; exact g _ (by omega) (by omega)
  · rw [if_neg (by decide), if_neg (by decide), if_pos ⟨rfl, rfl⟩]; exact g _ (by omega) (by omega)
  · rw [if_neg (by decide), if_neg (by decide), if_neg (by decide), if_pos ⟨rfl, rfl⟩]; exact g _ (by omega) (by omega)
  · rw [if_neg (by decide), if_neg (by decide), if_neg (by decide), if_neg (by decide), if_pos ⟨rfl, rfl⟩]; exact g _ (by omega) (by omega)
  · rw [if_neg (by decide), if_neg (by decide), if_neg (by decide), if_neg (by decide), if_neg (by decide), if_pos ⟨rfl, rfl⟩]; exact g _ (by omega) (by omega)
  · rw [if_neg (by decide), if_neg (by decide), if_neg (by decide), if_neg (by decide), if_neg (by decide), if_neg (by decide), if_pos ⟨rfl, rfl⟩]; exact g _ (by omega) (by omega)
  · rw [if_neg (by decide), if_neg (by decide), if_neg (by decide), if_neg (by decide), if_neg (by decide), if_neg (by decide), if_neg (by decide), if_pos ⟨rfl, rfl⟩]; exact g _ (by omega) (by omega)
  · rw [if_neg (by decide), if_neg (by decide), if_neg (by decide), if_neg (by decide), if_neg (by decide), if_neg (by decide), if_neg (by decide), if_neg (by decide)]; exact g _ (by omega) (by omega)
/-- where the three rows of the turn stand -/
def isG (h : CH) (G : Nat) (tt : Nat → Nat) (q : Nat → Int) : Prop := (∃ gg, cm h G = some (.inr (5, 3, .inr (.inr gg))) ∧ ∀ i, i < 3 → gg i = some (tt i)) ∧ ∀ i, i < 3 → ∃ rr, cm h (tt i) = some (.inr (0, 3, .inl rr)) ∧ ∀ j, j < 3 → rr j = Int32.ofInt (byM q i j)
/-- rows go to rows -/
theorem X7_i228 {f : Nat} (hf : 4 ≤ f) {h0 : CH} (w0 : wfh h0) {a b' r0 G : Nat} {tt : Nat → Nat} {q : Nat → Int} (hq : ∀ k, k < 4 → (q k).natAbs ≤ 3) {T : RA} {o1 o2 : Value} (ha : cm h0 a = some (.inl (7, [.ref r0, .ref b', .ref T.1, o1, o2]))) (hG : isG h0 G tt q) (hT : isN h0 T (fun _ _ => 0)) (x3 x4 x5 x6 : Int32) : ∃ h', m_X7_init_228 f f h0 a x3 x4 x5 x6 G 0 = m_X7_init_277 f h' a x3 x4 x5 x6 ∧ isN h' T (fun i j => byM q j i) ∧ Mod (rS T) 0 0 h0 h' := by
  have nr : ∀ {z : Nat} {e : AC}, cm h0 z = some e → (∀ f, e ≠ .inr (1, 3, .inr (.inl f))) → ¬ rS T z := fun {z e} hz hn ⟨i, hi, e9⟩ => by
    rw [e9, hT.2.2.1 i hi] at hz
    cases hz; exact hn _ rfl
  obtain ⟨⟨gg, g1, g2⟩, g3⟩ := hG
  obtain ⟨bl, _⟩ := byM_le hq
  obtain ⟨h', ⟨p1, p2⟩, q2⟩ := loop3v (fun m h z => m_X7_init_228 f m h a x3 x4 x5 x6 G z) (fun h => m_X7_init_277 f h a x3 x4 x5 x6) (fun i h => Mod (rS T) 0 0 h0 h ∧ isN h T (fun c d => if d < i then byM q d c else 0))
    (fun m v _ => by rw [m_X7_init_228, if_pos le33])
    (fun m h i hi ⟨p1, p2⟩ => by
      obtain ⟨h2, ⟨r1, r2⟩, r3⟩ := loop3v (fun m' h z => m_X7_init_237 f (m_X7_init_228 f m) m' h a x3 x4 x5 x6 G (ni i) z) (fun h => m_X7_init_271 f (m_X7_init_228 f m) h a x3 x4 x5 x6 G (ni i)) (fun j h => Mod (rS T) 0 0 h0 h ∧ isN h T (fun c d => if d < i ∨ (d = i ∧ c < j) then byM q d c else 0))
        (fun m' v _ => by rw [m_X7_init_237, if_pos le33])
        (fun m' h j hj ⟨p1, p2⟩ => by
          have ha' := p1.at w0 ha (nr ha (fun f hh => by cases hh))
          have hg' := p1.at w0 g1 (nr g1 (fun f hh => by cases hh))
          obtain ⟨rr, t1, t2⟩ := g3 i hi
          have ht' := p1.at w0 t1 (nr t1 (fun f hh => by cases hh))
          have o2' : oR h 7 2 a = some T.1 := oR_c ha' rfl
          have ag : aR h 5 G (ni i) = some (tt i) := by
            unfold aR aQ; rw [hg']
            simp only [ix_ni hi (by decide), and_self, if_true]
            rw [ni_clamp (by omega), g2 i hi]
          have ai : aI h 0 (tt i) (ni j) = some (Int32.ofInt (byM q i j)) := by
            unfold aI; rw [ht']
            simp only [ix_ni hj (by decide), and_self, if_true]
            rw [ni_clamp (by omega), t2 j hj]
          refine ⟨stR h T (lM (fun c d => if d < i ∨ (d = i ∧ c < j) then byM q d c else 0)) j i (li (byM q i j)), ?_, p1.tr (stR_mod p2 p1.wf hj _) (fun _ _ => id), (stR_is p2 p1.wf hj _).congr (fun c d hc hd => ?_)⟩
          · rw [m_X7_init_237, if_neg (le3 hj), o2', bd_some, oR_R p2, bd_some, aR_R p2 hj, bd_some, ag, bd_some, ai, bd_some, of32 (Nat.le_trans (bl i j hi hj) (by decide)), uL_R p2 p1.wf hj hi, bd_some, nmv_eq, ni_succ]
          · unfold mset
            show (if c = j ∧ d = i then li (byM q i j) else li (if d < i ∨ (d = i ∧ c < j) then byM q d c else 0)) = li (if d < i ∨ (d = i ∧ c < j + 1) then byM q d c else 0)
            by_cases e : c = j ∧ d = i
            · rw [if_pos e, if_pos (.inr ⟨e.2, by omega⟩), e.1, e.2]
            · rw [if_neg e]
              by_cases e2 : d < i ∨ (d = i ∧ c < j)
              · rw [if_pos e2, if_pos (by omega)]
              · rw [if_neg e2, if_neg (by omega)])
        hf (v := h) ⟨p1, p2.congr (fun c d _ _ => by
          show li (if d < i then byM q d c else 0) = li (if d < i ∨ (d = i ∧ c < 0) then byM q d c else 0)
          by_cases e : d < i
          · rw [if_pos e, if_pos (.inl e)]
          · rw [if_neg e, if_neg (by omega)])⟩
      refine ⟨h2, ?_, r1, r2.congr (fun c d hc hd => ?_)⟩
      · rw [m_X7_init_228, if_neg (le3 hi)]
        have r3' : m_X7_init_237 f (m_X7_init_228 f m) f h a x3 x4 x5 x6 G (ni i) 0 = _ := r3
        rw [r3']
        unfold m_X7_init_271
        rw [nmv_eq, ni_succ]
      · show li (if d < i ∨ (d = i ∧ c < 3) then byM q d c else 0) = li (if d < i + 1 then byM q d c else 0)
        by_cases e : d < i + 1
        · rw [if_pos e, if_pos (by omega)]
        · rw [if_neg e, if_neg (by omega)])
    hf (v := h0) ⟨Mod.rf w0, hT.congr (fun c d _ _ => by show li 0 = li (if d < 0 then byM q d c else 0); rw [if_neg (by omega)])⟩
  exact ⟨h', q2, p2.congr (fun c d _ hd => by show li (if d < 3 then byM q d c else 0) = li (byM q d c); rw [if_pos hd]), p1⟩
