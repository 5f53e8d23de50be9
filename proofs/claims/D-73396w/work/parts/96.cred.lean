/-! the component: rows made short -/
set_option maxRecDepth 100000
def isRd (h : CH) (a : Nat) (R : RA) (N : Mi) (c : Nat) : Prop := cm h a = some (.inl (11, [.ref R.1, .int (ni c)])) ∧ isN h R N
def rdS (a : Nat) (R : RA) : Nat → Prop := fun q => q = a ∨ rS R q
theorem isRd.na {h : CH} {a : Nat} {R : RA} {N : Mi} {c : Nat} (H : isRd h a R N c) : ¬ rS R a := fun ⟨i, hi, e⟩ => by
  have h1 := H.1
  rw [e, H.2.2.2.1 i hi] at h1; cases h1
theorem isRd.step {h h' : CH} {a : Nat} {R : RA} {N N' : Mi} {c : Nat} (w : wfh h) (H : isRd h a R N c) (hN : isN h' R N') (m : Mod (rS R) 0 0 h h') : isRd h' a R N' c ∧ Mod (rdS a R) 0 0 h h' := ⟨⟨m.at w H.1 H.na, hN⟩, m.mono (fun _ _ h => .inr h) (Nat.le_refl _) (Nat.le_refl _)⟩
theorem X11_ah76 {f : Nat} {h : CH} {x : Nat} {R : RA} {N : Mi} {c : Nat} (H : isRd h x R N c) {a b j : Nat} (ha : a < 3) (hb : b < 3) (hj : j < 3) (g1 : rg (N a j)) (g2 : rg (N b j)) : m_X11_isAhead_76 f h x (ni a) (ni b) (ni j) = some (if decide (N a j < N b j) = true then 1 else 0, h) := by
  unfold m_X11_isAhead_76 m_X11_isAhead_109
  rw [oR_c (k := 0) (x := R.1) H.1 rfl, bd_some, oR_R H.2, bd_some, aR_R H.2 ha, bd_some, aL_R H.2 ha hj, bd_some, bd_some, oR_R H.2, bd_some, aR_R H.2 hb, bd_some, aL_R H.2 hb hj, bd_some]
  show (if li (N b j) ≤ li (N a j) then _ else _) = _
  by_cases h : N b j ≤ N a j
  · rw [if_pos ((li_le g2 g1).mpr h), if_neg (by simp; omega)]; rfl
  · rw [if_neg (fun e => h ((li_le g2 g1).mp e)), if_pos (by simp; omega)]; rfl
theorem X11_ah42 {f n : Nat} {h : CH} {x : Nat} {R : RA} {N : Mi} {c : Nat} (H : isRd h x R N c) {a b j : Nat} (ha : a < 3) (hb : b < 3) (hj : j < 3) : m_X11_isAhead_42 f (n + 1) h x (ni a) (ni b) (ni j) = if li (N a j) = li (N b j) then m_X11_isAhead_42 f n h x (ni a) (ni b) (ni (j + 1)) else m_X11_isAhead_76 f h x (ni a) (ni b) (ni j) := by
  rw [m_X11_isAhead_42, if_neg (le3 hj), oR_c (k := 0) (x := R.1) H.1 rfl, bd_some, oR_R H.2, bd_some, aR_R H.2 ha, bd_some, aL_R H.2 ha hj, bd_some, bd_some, oR_R H.2, bd_some, aR_R H.2 hb, bd_some, aL_R H.2 hb hj, bd_some, nmv_eq, ni_succ]
theorem X11_isAhead {f : Nat} (hf : 4 ≤ f) {h : CH} {x : Nat} {R : RA} {N : Mi} {c : Nat} (H : isRd h x R N c) {a b : Nat} (ha : a < 3) (hb : b < 3) (gN : ∀ i j, i < 3 → j < 3 → rg (N i j)) (gs : ∀ i, i < 3 → rg (sqr N i)) : m_X11_isAhead f h x (ni a) (ni b) = some (if ahd N a b = true then 1 else 0, h) := by
  unfold m_X11_isAhead m_X11_isAhead_8 m_X11_isAhead_17
  rw [oR_c (k := 0) (x := R.1) H.1 rfl, bd_some, gd_of (isC_R H.2), X2_square H.2 ha, bd2_some, oR_c (k := 0) (x := R.1) H.1 rfl, bd_some, gd_of (isC_R H.2), X2_square H.2 hb, bd2_some]
  by_cases hs : sqr N a = sqr N b
  · rw [if_pos (by rw [hs]), ah36 N a b hs]
    obtain ⟨n, rfl⟩ : ∃ z, f = z + 4 := ⟨f - 4, by omega⟩
    show m_X11_isAhead_42 (n + 4) (n + 3 + 1) h x (ni a) (ni b) (ni 0) = _
    rw [X11_ah42 H ha hb (by decide)]
    by_cases h0 : N a 0 = N b 0
    · rw [if_pos (show li (N a 0) = li (N b 0) by rw [h0]), if_pos h0]
      show m_X11_isAhead_42 (n + 4) (n + 2 + 1) h x (ni a) (ni b) (ni 1) = _
      rw [X11_ah42 H ha hb (by decide)]
      by_cases h1 : N a 1 = N b 1
      · rw [if_pos (show li (N a 1) = li (N b 1) by rw [h1]), if_pos h1]
        show m_X11_isAhead_42 (n + 4) (n + 1 + 1) h x (ni a) (ni b) (ni 2) = _
        rw [X11_ah42 H ha hb (by decide)]
        by_cases h2 : N a 2 = N b 2
        · rw [if_pos (show li (N a 2) = li (N b 2) by rw [h2]), if_pos h2]
          show m_X11_isAhead_42 (n + 4) (n + 0 + 1) h x (ni a) (ni b) (ni 3) = _
          rw [m_X11_isAhead_42, if_pos le33]; rfl
        · rw [if_neg (fun e => h2 ((li_inj (gN a 2 ha (by decide)) (gN b 2 hb (by decide))).mp e)), if_neg h2]
          exact X11_ah76 H ha hb (by decide) (gN a 2 ha (by decide)) (gN b 2 hb (by decide))
      · rw [if_neg (fun e => h1 ((li_inj (gN a 1 ha (by decide)) (gN b 1 hb (by decide))).mp e)), if_neg h1]
        exact X11_ah76 H ha hb (by decide) (gN a 1 ha (by decide)) (gN b 1 hb (by decide))
    · rw [if_neg (fun e => h0 ((li_inj (gN a 0 ha (by decide)) (gN b 0 hb (by decide))).mp e)), if_neg h0]
      exact X11_ah76 H ha hb (by decide) (gN a 0 ha (by decide)) (gN b 0 hb (by decide))
  · rw [if_neg (fun e => hs ((li_inj (gs a ha) (gs b hb)).mp e))]
    unfold m_X11_isAhead_38 ahd
    rw [if_neg hs]
    by_cases h : sqr N b ≤ sqr N a
    · rw [if_pos ((li_le (gs b hb) (gs a ha)).mpr h), if_neg (show ¬ decide (sqr N a < sqr N b) = true by simp; omega)]; rfl
    · rw [if_neg (fun e => h ((li_le (gs b hb) (gs a ha)).mp e)), if_pos (show decide (sqr N a < sqr N b) = true by simp; omega)]; rfl
/-- one exchange with the row ahead, or the end of this row's way -/
theorem X11_or9 {f : Nat} (hf : 4 ≤ f) {k2 : CH → Nat → Int32 → Option CH} {h : CH} (w : wfh h) {x : Nat} {R : RA} {N : Mi} {c : Nat} (H : isRd h x R N c) {B : Int} (hB : 9 * B < 2 ^ 63) (hRB : RB B N) {n i : Nat} (hi : i < 2) (y : Nat) : if ahd N (i + 1) i = true then ∃ h', m_X11_orders_9 f k2 (n + 1) h x (ni y) (ni (i + 1)) = m_X11_orders_9 f k2 n h' x (ni y) (ni i) ∧ isRd h' x R (excR N (i + 1) i) c ∧ Mod (rdS x R) 0 0 h h' else m_X11_orders_9 f k2 (n + 1) h x (ni y) (ni (i + 1)) = k2 h x (ni (y + 1)) := by
  have h0 := sqr_nn N 0
  have hB0 : 0 ≤ B := by have := hRB 0 (by decide); omega
  have gN : ∀ i j, i < 3 → j < 3 → rg (N i j) := fun i j hi hj => RB_rg hRB (by omega) hi hj
  have gs : ∀ i, i < 3 → rg (sqr N i) := fun i hi => by have h1 := hRB i hi; have h2 := sqr_nn N i; exact ⟨by omega, by omega⟩
  have p1 : ni (i + 1) - 1 = ni i := by rw [← ni_succ, Int32.add_sub_cancel]
  have p2 : ni (i + 1) + (-1) = ni i := by rw [← p1, Int32.sub_eq_add_neg]
  have step : m_X11_orders_9 f k2 (n + 1) h x (ni y) (ni (i + 1)) = m_X11_orders_21 f k2 (m_X11_orders_9 f k2 n) h x (ni y) (ni (i + 1)) (if ahd N (i + 1) i = true then 1 else 0) := by
    rw [m_X11_orders_9, if_neg (show ¬ ni (i + 1) ≤ 0 from lek (k := i + 1) (j := 0) (by omega) (by omega)), gd_of (isC_c H.1), p1, X11_isAhead hf H (by omega) (by omega) gN gs, bd2_some]
  rw [step]
  cases ha : ahd N (i + 1) i with
  | false =>
    rw [if_neg (by decide)]
    unfold m_X11_orders_21 m_X11_orders_41
    rw [if_pos (show (if false = true then (1 : Int32) else 0) = 0 from rfl), nmv_eq, ni_succ]
  | true =>
    rw [if_pos rfl, if_pos rfl]
    obtain ⟨h1, e1, e2, e3⟩ := X2_exchanges hf w H.2 (show i + 1 < 3 by omega) (show i < 3 by omega) (by omega)
    unfold m_X11_orders_21 m_X11_orders_35
    rw [if_neg (by decide), oR_c (k := 0) (x := R.1) H.1 rfl, bd_some, gd_of (isC_R H.2), p1, e1, bd_some, nmv_eq, p2]
    obtain ⟨s1, s2⟩ := H.step w e2 e3
    exact ⟨h1, rfl, s1, s2⟩
theorem X11_orders {f : Nat} (hf : 6 ≤ f) {h : CH} (w : wfh h) {x : Nat} {R : RA} {N : Mi} {c : Nat} (H : isRd h x R N c) {B : Int} (hB : 9 * B < 2 ^ 63) (hRB : RB B N) : ∃ h', m_X11_orders f h x = some h' ∧ isRd h' x R (srt N) c ∧ Mod (rdS x R) 0 0 h h' := by
  obtain ⟨n, rfl⟩ : ∃ z, f = z + 6 := ⟨f - 6, by omega⟩
  unfold m_X11_orders
  -- the second row
  have A : ∃ h1, m_X11_orders_2 (n + 6) (n + 6) h x 1 = m_X11_orders_2 (n + 6) (n + 5) h1 x (ni 2) ∧ isRd h1 x R (so1 N) c ∧ Mod (rdS x R) 0 0 h h1 := by
    show ∃ h1, m_X11_orders_2 (n + 6) (n + 5 + 1) h x (ni 1) = _ ∧ _
    rw [m_X11_orders_2, if_neg (le3 (by decide))]
    have q := X11_or9 (f := n + 6) (by omega) (k2 := m_X11_orders_2 (n + 6) (n + 5)) w H hB hRB (n := n + 5) (i := 0) (by decide) 1
    unfold so1
    cases ha : ahd N 1 0 with
    | false =>
      rw [ha, if_neg (by decide)] at q
      rw [if_neg (by decide)]
      exact ⟨h, q, H, (Mod.rf w)⟩
    | true =>
      rw [ha, if_pos rfl] at q
      obtain ⟨h1, q1, q2, q3⟩ := q
      rw [if_pos rfl]
      refine ⟨h1, ?_, q2, q3⟩
      have q1' : m_X11_orders_9 (n + 6) (m_X11_orders_2 (n + 6) (n + 5)) (n + 6) h x (ni 1) (ni 1) = _ := q1
      rw [q1']
      show m_X11_orders_9 (n + 6) (m_X11_orders_2 (n + 6) (n + 5)) (n + 4 + 1) h1 x (ni 1) (ni 0) = _
      rw [m_X11_orders_9, if_pos (by decide)]
      unfold m_X11_orders_41
      rw [nmv_eq, ni_succ]
  obtain ⟨h1, a1, a2, a3⟩ := A
  have w1 := a3.2.2.2.2.2.2.2
  have r1 := (so1_RB hRB).1
  rw [a1]
  -- the third
  have C : ∃ h2, m_X11_orders_2 (n + 6) (n + 5) h1 x (ni 2) = m_X11_orders_2 (n + 6) (n + 4) h2 x (ni 3) ∧ isRd h2 x R (srt N) c ∧ Mod (rdS x R) 0 0 h h2 := by
    show ∃ h2, m_X11_orders_2 (n + 6) (n + 4 + 1) h1 x (ni 2) = _ ∧ _
    rw [m_X11_orders_2, if_neg (le3 (by decide))]
    have q := X11_or9 (f := n + 6) (by omega) (k2 := m_X11_orders_2 (n + 6) (n + 4)) w1 a2 hB r1 (n := n + 5) (i := 1) (by decide) 2
    unfold srt
    cases ha : ahd (so1 N) 2 1 with
    | false =>
      rw [ha, if_neg (by decide)] at q
      rw [if_neg (by decide)]
      exact ⟨h1, q, a2, a3⟩
    | true =>
      rw [ha, if_pos rfl] at q
      obtain ⟨h2, q1, q2, q3⟩ := q
      rw [if_pos rfl]
      have w2 := q3.2.2.2.2.2.2.2
      have r2 := (exc21_RB r1).1
      have q1' : m_X11_orders_9 (n + 6) (m_X11_orders_2 (n + 6) (n + 4)) (n + 6) h1 x (ni 2) (ni 2) = _ := q1
      rw [q1']
      have p := X11_or9 (f := n + 6) (by omega) (k2 := m_X11_orders_2 (n + 6) (n + 4)) w2 q2 hB r2 (n := n + 4) (i := 0) (by decide) 2
      have M2 : Mod (rdS x R) 0 0 h h2 := a3.tr q3 (fun _ _ hq => hq)
      unfold so1
      cases hb : ahd (excR (so1 N) 2 1) 1 0 with
      | false =>
        have hb' := hb
        unfold so1 at hb'
        rw [hb, if_neg (by decide)] at p
        rw [hb', if_neg (by decide)]
        exact ⟨h2, p, q2, M2⟩
      | true =>
        have hb' := hb
        unfold so1 at hb'
        rw [hb, if_pos rfl] at p
        obtain ⟨h3, p1, p2, p3⟩ := p
        rw [hb', if_pos rfl]
        refine ⟨h3, ?_, p2, M2.tr p3 (fun _ _ hq => hq)⟩
        have p1' : m_X11_orders_9 (n + 6) (m_X11_orders_2 (n + 6) (n + 4)) (n + 5) h2 x (ni 2) (ni 1) = _ := p1
        rw [p1']
        show m_X11_orders_9 (n + 6) (m_X11_orders_2 (n + 6) (n + 4)) (n + 3 + 1) h3 x (ni 2) (ni 0) = _
        rw [m_X11_orders_9, if_pos (by decide)]
        unfold m_X11_orders_41
        rw [nmv_eq, ni_succ]
  obtain ⟨h2, b1, b2, b3⟩ := C
  rw [b1]
  show ∃ h', m_X11_orders_2 (n + 6) (n + 3 + 1) h2 x (ni 3) = some h' ∧ _
  rw [m_X11_orders_2, if_pos le33]
  exact ⟨h2, rfl, b2, b3⟩
theorem X11_squareWith {f : Nat} (hf : 4 ≤ f) {h : CH} {x : Nat} {R : RA} {N : Mi} {c : Nat} (H : isRd h x R N c) {row : Nat} (hr : row < 3) (a b : Int32) : m_X11_squareWith f h x (ni row) a b = some (li (sqw N row a.toInt b.toInt), h) := by
  unfold m_X11_squareWith
  obtain ⟨v2, p2, e2⟩ := loop3v (fun n v y => m_X11_squareWith_6 f n h x (ni row) a b v y) (fun v => some (v, h)) (fun j v => v = li (psw N row a.toInt b.toInt j))
    (fun n v _ => by rw [m_X11_squareWith_6, if_pos le33]; rfl)
    (fun n v j hj p => by
      refine ⟨_, ?_, rfl⟩
      rw [m_X11_squareWith_6, if_neg (le3 hj), z0, z1, oR_c (k := 0) (x := R.1) H.1 rfl, bd_some, oR_R H.2, bd_some, aR_R H.2 hr, bd_some, aL_R H.2 hr hj, bd_some, bd_some, oR_R H.2, bd_some, aR_R H.2 (by decide), bd_some, aL_R H.2 (by decide) hj, bd_some, bd_some, oR_R H.2, bd_some, aR_R H.2 (by decide), bd_some, aL_R H.2 (by decide) hj, bd_some]
      simp only [nmv_eq]
      rw [toL, toL]
      show m_X11_squareWith_6 f n h x (ni row) a b (v + (li (N row j) + li a.toInt * li (N 0 j) + li b.toInt * li (N 1 j)) * (li (N row j) + li a.toInt * li (N 0 j) + li b.toInt * li (N 1 j))) (ni j + 1) = _
      rw [li_mul, li_mul, li_add, li_add, li_mul, p, li_add, ni_succ]
      rfl)
    hf (v := 0) rfl
  have e3 : m_X11_squareWith_6 f f h x (ni row) a b 0 0 = _ := e2
  rw [e3, p2, psw_3]
