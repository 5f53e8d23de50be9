/-! walks of the component (printed by gen/walkc.py) -/
set_option maxRecDepth 100000
def m_X0_coset_251 (f : Nat) (h : CH) (x13 : Int64) : Option (Int64 × CH) := some (x13, h)
theorem mo_X0_coset_251 {f : Nat} : ∀ (h : CH) (x13 : Int64) (r : (Int64 × CH)), m_X0_coset_251 f h x13 = some r → le2 h r.2 := by
  intro h x13 r hm
  rw [m_X0_coset_251] at hm
  cases hm
  exact le2.rf
def m_X0_coset_223 (f : Nat) (k158 : CH → Nat → Nat → Int64 → Int32 → Option (Int64 × CH)) (h : CH) (x11 : Nat) (x12 : Nat) (x13 : Int64) (x15 : Int32) : Option (Int64 × CH) := bd (oR h 3 0 x11) fun a1 =>
    bd (aR h 4 a1 x15) fun a2 =>
    bd (aL h 1 a2 x15) fun v3 =>
    bd (aL h 1 x12 x15) fun v4 =>
    nmv (((x13 * v3) + v4) : Int64) fun v5 =>
    nmv ((x15 + 1) : Int32) fun v6 =>
    k158 h x11 x12 v5 v6
theorem mo_X0_coset_223 {f : Nat} {k158 : CH → Nat → Nat → Int64 → Int32 → Option (Int64 × CH)} (hk158 : ∀ (h : CH) (x11 : Nat) (x12 : Nat) (x13 : Int64) (x15 : Int32) (r : (Int64 × CH)), k158 h x11 x12 x13 x15 = some r → le2 h r.2) : ∀ (h : CH) (x11 : Nat) (x12 : Nat) (x13 : Int64) (x15 : Int32) (r : (Int64 × CH)), m_X0_coset_223 f k158 h x11 x12 x13 x15 = some r → le2 h r.2 := by
  intro h x11 x12 x13 x15 r hm
  rw [m_X0_coset_223] at hm
  obtain ⟨a1, ea1, hm⟩ := bdE hm
  obtain ⟨a2, ea2, hm⟩ := bdE hm
  obtain ⟨v3, ev3, hm⟩ := bdE hm
  obtain ⟨v4, ev4, hm⟩ := bdE hm
  obtain ⟨v5, ev5, hm⟩ := nmE hm
  obtain ⟨v6, ev6, hm⟩ := nmE hm
  exact (hk158 h x11 x12 v5 v6 _ hm)
def m_X0_coset_189 (f : Nat) (k158 : CH → Nat → Nat → Int64 → Int32 → Option (Int64 × CH)) : Nat → CH → Nat → Nat → Int64 → Int32 → Int64 → Int32 → Option (Int64 × CH)
  | 0, _, _, _, _, _, _, _ => none
  | n189 + 1, h, x11, x12, x13, x15, x16, x18 => if (3 : Int32) ≤ x18 then
    m_X0_coset_223 f k158 h x11 x12 x13 x15
    else bd (aL h 1 x12 x18) fun v2 =>
    bd (oR h 3 0 x11) fun a3 =>
    bd (aR h 4 a3 x15) fun a4 =>
    bd (aL h 1 a4 x18) fun v5 =>
    bd (uL h 1 x12 x18 (v2 - (x16 * v5))) fun h6 =>
    nmv ((x18 + 1) : Int32) fun v7 =>
    m_X0_coset_189 f k158 n189 h6 x11 x12 x13 x15 x16 v7
theorem mo_X0_coset_189 {f : Nat} {k158 : CH → Nat → Nat → Int64 → Int32 → Option (Int64 × CH)} (hk158 : ∀ (h : CH) (x11 : Nat) (x12 : Nat) (x13 : Int64) (x15 : Int32) (r : (Int64 × CH)), k158 h x11 x12 x13 x15 = some r → le2 h r.2) : ∀ (n189 : Nat) (h : CH) (x11 : Nat) (x12 : Nat) (x13 : Int64) (x15 : Int32) (x16 : Int64) (x18 : Int32) (r : (Int64 × CH)), m_X0_coset_189 f k158 n189 h x11 x12 x13 x15 x16 x18 = some r → le2 h r.2 := by
  intro n189
  induction n189 with
  | zero => intro h x11 x12 x13 x15 x16 x18 r hm; rw [m_X0_coset_189] at hm; exact noE hm
  | succ n189 ihm =>
    intro h x11 x12 x13 x15 x16 x18 r hm
    rw [m_X0_coset_189] at hm
    by_cases c1 : (3 : Int32) ≤ x18
    · have hm := ifT hm c1
      exact (mo_X0_coset_223 hk158 h x11 x12 x13 x15 _ hm)
    · have hm := ifF hm c1
      obtain ⟨v2, ev2, hm⟩ := bdE hm
      obtain ⟨a3, ea3, hm⟩ := bdE hm
      obtain ⟨a4, ea4, hm⟩ := bdE hm
      obtain ⟨v5, ev5, hm⟩ := bdE hm
      obtain ⟨h6, eh6, hm⟩ := bdE hm
      have lh6 := uL_le eh6
      obtain ⟨v7, ev7, hm⟩ := nmE hm
      exact (lh6.tr (ihm h6 x11 x12 x13 x15 x16 v7 _ hm))
def m_X0_coset_158 (f : Nat) : Nat → CH → Nat → Nat → Int64 → Int32 → Option (Int64 × CH)
  | 0, _, _, _, _, _ => none
  | n158 + 1, h, x11, x12, x13, x15 => if (3 : Int32) ≤ x15 then
    m_X0_coset_251 f h x13
    else bd (aL h 1 x12 x15) fun v2 =>
    bd (oR h 3 0 x11) fun a3 =>
    bd (aR h 4 a3 x15) fun a4 =>
    bd (aL h 1 a4 x15) fun v5 =>
    bd (m_J9_floorDiv f v2 v5) fun r6 =>
    m_X0_coset_189 f (m_X0_coset_158 f n158) f h x11 x12 x13 x15 r6 x15
theorem mo_X0_coset_158 {f : Nat} : ∀ (n158 : Nat) (h : CH) (x11 : Nat) (x12 : Nat) (x13 : Int64) (x15 : Int32) (r : (Int64 × CH)), m_X0_coset_158 f n158 h x11 x12 x13 x15 = some r → le2 h r.2 := by
  intro n158
  induction n158 with
  | zero => intro h x11 x12 x13 x15 r hm; rw [m_X0_coset_158] at hm; exact noE hm
  | succ n158 ihm =>
    intro h x11 x12 x13 x15 r hm
    rw [m_X0_coset_158] at hm
    by_cases c1 : (3 : Int32) ≤ x15
    · have hm := ifT hm c1
      exact (mo_X0_coset_251  h x13 _ hm)
    · have hm := ifF hm c1
      obtain ⟨v2, ev2, hm⟩ := bdE hm
      obtain ⟨a3, ea3, hm⟩ := bdE hm
      obtain ⟨a4, ea4, hm⟩ := bdE hm
      obtain ⟨v5, ev5, hm⟩ := bdE hm
      obtain ⟨r6, er6, hm⟩ := bdE hm
      exact (mo_X0_coset_189 ihm f h x11 x12 x13 x15 r6 x15 _ hm)
def m_X0_coset_152 (f : Nat) (h : CH) (x11 : Nat) (x12 : Nat) : Option (Int64 × CH) := m_X0_coset_158 f f h x11 x12 (0 : Int64) (0 : Int32)
theorem mo_X0_coset_152 {f : Nat} : ∀ (h : CH) (x11 : Nat) (x12 : Nat) (r : (Int64 × CH)), m_X0_coset_152 f h x11 x12 = some r → le2 h r.2 := by
  intro h x11 x12 r hm
  rw [m_X0_coset_152] at hm
  exact (mo_X0_coset_158  f h x11 x12 (0 : Int64) (0 : Int32) _ hm)
def m_X0_coset_141 (f : Nat) (k80 : CH → Nat → Int32 → Int32 → Int32 → Int32 → Nat → Int64 → Nat → Nat → Int32 → Option (Int64 × CH)) (h : CH) (x0 : Nat) (x1 : Int32) (x3 : Int32) (x4 : Int32) (x5 : Int32) (x8 : Nat) (x9 : Int64) (x11 : Nat) (x12 : Nat) (x13 : Int32) (y0 : Nat) (y1 : Int32) (y2 : Int64) (y3 : Int64) : Option (Int64 × CH) := gd (nzL x9) <|
    bd (uL h 1 y0 y1 ((y2 * y3) / x9)) fun h2 =>
    nmv ((x13 + 1) : Int32) fun v3 =>
    k80 h2 x0 x1 x3 x4 x5 x8 x9 x11 x12 v3
theorem mo_X0_coset_141 {f : Nat} {k80 : CH → Nat → Int32 → Int32 → Int32 → Int32 → Nat → Int64 → Nat → Nat → Int32 → Option (Int64 × CH)} (hk80 : ∀ (h : CH) (x0 : Nat) (x1 : Int32) (x3 : Int32) (x4 : Int32) (x5 : Int32) (x8 : Nat) (x9 : Int64) (x11 : Nat) (x12 : Nat) (x13 : Int32) (r : (Int64 × CH)), k80 h x0 x1 x3 x4 x5 x8 x9 x11 x12 x13 = some r → le2 h r.2) : ∀ (h : CH) (x0 : Nat) (x1 : Int32) (x3 : Int32) (x4 : Int32) (x5 : Int32) (x8 : Nat) (x9 : Int64) (x11 : Nat) (x12 : Nat) (x13 : Int32) (y0 : Nat) (y1 : Int32) (y2 : Int64) (y3 : Int64) (r : (Int64 × CH)), m_X0_coset_141 f k80 h x0 x1 x3 x4 x5 x8 x9 x11 x12 x13 y0 y1 y2 y3 = some r → le2 h r.2 := by
  intro h x0 x1 x3 x4 x5 x8 x9 x11 x12 x13 y0 y1 y2 y3 r hm
  rw [m_X0_coset_141] at hm
  obtain ⟨g1, hm⟩ := gdE hm
  obtain ⟨h2, eh2, hm⟩ := bdE hm
  have lh2 := uL_le eh2
  obtain ⟨v3, ev3, hm⟩ := nmE hm
  exact (lh2.tr (hk80 h2 x0 x1 x3 x4 x5 x8 x9 x11 x12 v3 _ hm))
def m_X0_coset_138 (f : Nat) (k80 : CH → Nat → Int32 → Int32 → Int32 → Int32 → Nat → Int64 → Nat → Nat → Int32 → Option (Int64 × CH)) (h : CH) (x0 : Nat) (x1 : Int32) (x3 : Int32) (x4 : Int32) (x5 : Int32) (x8 : Nat) (x9 : Int64) (x11 : Nat) (x12 : Nat) (x13 : Int32) (y0 : Nat) (y1 : Int32) (y2 : Int64) (y3 : Nat) : Option (Int64 × CH) := if isC h y3 6 = true then
    bd2 (m_X6_over f h y3) fun r3 h2 =>
    m_X0_coset_141 f k80 h2 x0 x1 x3 x4 x5 x8 x9 x11 x12 x13 y0 y1 y2 r3
    else gd (isC h y3 7) <|
    bd2 (m_X7_over f h y3) fun r6 h5 =>
    m_X0_coset_141 f k80 h5 x0 x1 x3 x4 x5 x8 x9 x11 x12 x13 y0 y1 y2 r6
theorem mo_X0_coset_138 {f : Nat} {k80 : CH → Nat → Int32 → Int32 → Int32 → Int32 → Nat → Int64 → Nat → Nat → Int32 → Option (Int64 × CH)} (hk80 : ∀ (h : CH) (x0 : Nat) (x1 : Int32) (x3 : Int32) (x4 : Int32) (x5 : Int32) (x8 : Nat) (x9 : Int64) (x11 : Nat) (x12 : Nat) (x13 : Int32) (r : (Int64 × CH)), k80 h x0 x1 x3 x4 x5 x8 x9 x11 x12 x13 = some r → le2 h r.2) : ∀ (h : CH) (x0 : Nat) (x1 : Int32) (x3 : Int32) (x4 : Int32) (x5 : Int32) (x8 : Nat) (x9 : Int64) (x11 : Nat) (x12 : Nat) (x13 : Int32) (y0 : Nat) (y1 : Int32) (y2 : Int64) (y3 : Nat) (r : (Int64 × CH)), m_X0_coset_138 f k80 h x0 x1 x3 x4 x5 x8 x9 x11 x12 x13 y0 y1 y2 y3 = some r → le2 h r.2 := by
  intro h x0 x1 x3 x4 x5 x8 x9 x11 x12 x13 y0 y1 y2 y3 r hm
  rw [m_X0_coset_138] at hm
  by_cases c1 : isC h y3 6 = true
  · have hm := ifT hm c1
    obtain ⟨r3, h2, er3, hm⟩ := bd2E hm
    have lh2 := mo_X6_over er3
    exact (lh2.tr (mo_X0_coset_141 hk80 h2 x0 x1 x3 x4 x5 x8 x9 x11 x12 x13 y0 y1 y2 r3 _ hm))
  · have hm := ifF hm c1
    obtain ⟨g4, hm⟩ := gdE hm
    obtain ⟨r6, h5, er6, hm⟩ := bd2E hm
    have lh5 := mo_X7_over er6
    exact (lh5.tr (mo_X0_coset_141 hk80 h5 x0 x1 x3 x4 x5 x8 x9 x11 x12 x13 y0 y1 y2 r6 _ hm))
def m_X0_coset_80 (f : Nat) : Nat → CH → Nat → Int32 → Int32 → Int32 → Int32 → Nat → Int64 → Nat → Nat → Int32 → Option (Int64 × CH)
  | 0, _, _, _, _, _, _, _, _, _, _, _ => none
  | n80 + 1, h, x0, x1, x3, x4, x5, x8, x9, x11, x12, x13 => if (3 : Int32) ≤ x13 then
    m_X0_coset_152 f h x11 x12
    else bd (oR h 3 0 x8) fun a2 =>
    bd (aR h 4 a2 (0 : Int32)) fun a3 =>
    bd (aL h 1 a3 x13) fun v4 =>
    bd (oR h 3 0 x8) fun a5 =>
    bd (aR h 4 a5 (1 : Int32)) fun a6 =>
    bd (aL h 1 a6 x13) fun v7 =>
    bd (oR h 3 0 x8) fun a8 =>
    bd (aR h 4 a8 (2 : Int32)) fun a9 =>
    bd (aL h 1 a9 x13) fun v10 =>
    gd (isC h x0 1) <|
    bd2 (m_X0_at f h x0 x1) fun a13 h12 =>
    m_X0_coset_138 f (m_X0_coset_80 f n80) h12 x0 x1 x3 x4 x5 x8 x9 x11 x12 x13 x12 x13 ((((Int32.toInt64 x3) * v4) + ((Int32.toInt64 x4) * v7)) + ((Int32.toInt64 x5) * v10)) a13
theorem mo_X0_coset_80 {f : Nat} : ∀ (n80 : Nat) (h : CH) (x0 : Nat) (x1 : Int32) (x3 : Int32) (x4 : Int32) (x5 : Int32) (x8 : Nat) (x9 : Int64) (x11 : Nat) (x12 : Nat) (x13 : Int32) (r : (Int64 × CH)), m_X0_coset_80 f n80 h x0 x1 x3 x4 x5 x8 x9 x11 x12 x13 = some r → le2 h r.2 := by
  intro n80
  induction n80 with
  | zero => intro h x0 x1 x3 x4 x5 x8 x9 x11 x12 x13 r hm; rw [m_X0_coset_80] at hm; exact noE hm
  | succ n80 ihm =>
    intro h x0 x1 x3 x4 x5 x8 x9 x11 x12 x13 r hm
    rw [m_X0_coset_80] at hm
    by_cases c1 : (3 : Int32) ≤ x13
    · have hm := ifT hm c1
      exact (mo_X0_coset_152  h x11 x12 _ hm)
    · have hm := ifF hm c1
      obtain ⟨a2, ea2, hm⟩ := bdE hm
      obtain ⟨a3, ea3, hm⟩ := bdE hm
      obtain ⟨v4, ev4, hm⟩ := bdE hm
      obtain ⟨a5, ea5, hm⟩ := bdE hm
      obtain ⟨a6, ea6, hm⟩ := bdE hm
      obtain ⟨v7, ev7, hm⟩ := bdE hm
      obtain ⟨a8, ea8, hm⟩ := bdE hm
      obtain ⟨a9, ea9, hm⟩ := bdE hm
      obtain ⟨v10, ev10, hm⟩ := bdE hm
      obtain ⟨g11, hm⟩ := gdE hm
      obtain ⟨a13, h12, ea13, hm⟩ := bd2E hm
      have lh12 := mo_X0_at ea13
      exact (lh12.tr (mo_X0_coset_138 ihm h12 x0 x1 x3 x4 x5 x8 x9 x11 x12 x13 x12 x13 ((((Int32.toInt64 x3) * v4) + ((Int32.toInt64 x4) * v7)) + ((Int32.toInt64 x5) * v10)) a13 _ hm))
def m_X0_coset_75 (f : Nat) (h : CH) (x0 : Nat) (x1 : Int32) (x3 : Int32) (x4 : Int32) (x5 : Int32) (x8 : Nat) (x9 : Int64) (x11 : Nat) (y0 : Nat) : Option (Int64 × CH) := m_X0_coset_80 f f h x0 x1 x3 x4 x5 x8 x9 x11 y0 (0 : Int32)
theorem mo_X0_coset_75 {f : Nat} : ∀ (h : CH) (x0 : Nat) (x1 : Int32) (x3 : Int32) (x4 : Int32) (x5 : Int32) (x8 : Nat) (x9 : Int64) (x11 : Nat) (y0 : Nat) (r : (Int64 × CH)), m_X0_coset_75 f h x0 x1 x3 x4 x5 x8 x9 x11 y0 = some r → le2 h r.2 := by
  intro h x0 x1 x3 x4 x5 x8 x9 x11 y0 r hm
  rw [m_X0_coset_75] at hm
  exact (mo_X0_coset_80  f h x0 x1 x3 x4 x5 x8 x9 x11 y0 (0 : Int32) _ hm)
def m_X0_coset_67 (f : Nat) (h : CH) (x0 : Nat) (x1 : Int32) (x3 : Int32) (x4 : Int32) (x5 : Int32) (x8 : Nat) (x9 : Int64) (y0 : Nat) : Option (Int64 × CH) := bd (oR h 8 0 y0) fun a1 =>
    nmv (cn h 3 (.inr (1, 3, .inr (.inl (fun _ => 0))))) fun h2 =>
    nmv (h.1 : Nat) fun a3 =>
    m_X0_coset_75 f h2 x0 x1 x3 x4 x5 x8 x9 a1 a3
theorem mo_X0_coset_67 {f : Nat} : ∀ (h : CH) (x0 : Nat) (x1 : Int32) (x3 : Int32) (x4 : Int32) (x5 : Int32) (x8 : Nat) (x9 : Int64) (y0 : Nat) (r : (Int64 × CH)), m_X0_coset_67 f h x0 x1 x3 x4 x5 x8 x9 y0 = some r → le2 h r.2 := by
  intro h x0 x1 x3 x4 x5 x8 x9 y0 r hm
  rw [m_X0_coset_67] at hm
  obtain ⟨a1, ea1, hm⟩ := bdE hm
  obtain ⟨h2, eh2, hm⟩ := nmE hm
  have lh2 := cn_le eh2
  obtain ⟨a3, ea3, hm⟩ := nmE hm
  exact (lh2.tr (mo_X0_coset_75  h2 x0 x1 x3 x4 x5 x8 x9 a1 a3 _ hm))
def m_X0_coset_64 (f : Nat) (h : CH) (x0 : Nat) (x1 : Int32) (x3 : Int32) (x4 : Int32) (x5 : Int32) (x8 : Nat) (x9 : Int64) (y0 : Nat) (y1 : Nat) (y2 : Nat) : Option (Int64 × CH) := bd (m_X8_init f h y1 y2) fun h1 =>
    m_X0_coset_67 f h1 x0 x1 x3 x4 x5 x8 x9 y0
theorem mo_X0_coset_64 {f : Nat} : ∀ (h : CH) (x0 : Nat) (x1 : Int32) (x3 : Int32) (x4 : Int32) (x5 : Int32) (x8 : Nat) (x9 : Int64) (y0 : Nat) (y1 : Nat) (y2 : Nat) (r : (Int64 × CH)), m_X0_coset_64 f h x0 x1 x3 x4 x5 x8 x9 y0 y1 y2 = some r → le2 h r.2 := by
  intro h x0 x1 x3 x4 x5 x8 x9 y0 y1 y2 r hm
  rw [m_X0_coset_64] at hm
  obtain ⟨h1, eh1, hm⟩ := bdE hm
  have lh1 := mo_X8_init eh1
  exact (lh1.tr (mo_X0_coset_67  h1 x0 x1 x3 x4 x5 x8 x9 y0 _ hm))
def m_X0_coset_57 (f : Nat) (h : CH) (x0 : Nat) (x1 : Int32) (x2 : Int32) (x3 : Int32) (x4 : Int32) (x5 : Int32) (x8 : Nat) (x9 : Int64) (y0 : Nat) : Option (Int64 × CH) := gd (isC h x0 1) <|
    bd2 (m_X0_toldBy f h x0 x1 x2) fun a3 h2 =>
    m_X0_coset_64 f h2 x0 x1 x3 x4 x5 x8 x9 y0 y0 a3
theorem mo_X0_coset_57 {f : Nat} : ∀ (h : CH) (x0 : Nat) (x1 : Int32) (x2 : Int32) (x3 : Int32) (x4 : Int32) (x5 : Int32) (x8 : Nat) (x9 : Int64) (y0 : Nat) (r : (Int64 × CH)), m_X0_coset_57 f h x0 x1 x2 x3 x4 x5 x8 x9 y0 = some r → le2 h r.2 := by
  intro h x0 x1 x2 x3 x4 x5 x8 x9 y0 r hm
  rw [m_X0_coset_57] at hm
  obtain ⟨g1, hm⟩ := gdE hm
  obtain ⟨a3, h2, ea3, hm⟩ := bd2E hm
  have lh2 := mo_X0_toldBy ea3
  exact (lh2.tr (mo_X0_coset_64  h2 x0 x1 x3 x4 x5 x8 x9 y0 y0 a3 _ hm))
def m_X0_coset_51 (f : Nat) (h : CH) (x0 : Nat) (x1 : Int32) (x2 : Int32) (x3 : Int32) (x4 : Int32) (x5 : Int32) (x8 : Nat) (y0 : Int64) (y1 : Int64) : Option (Int64 × CH) := nmv ((y0 * y1) : Int64) fun v1 =>
    nmv (cn h 2 (.inl (8, [.null, .null]))) fun h2 =>
    nmv (h.1 : Nat) fun a3 =>
    m_X0_coset_57 f h2 x0 x1 x2 x3 x4 x5 x8 v1 a3
theorem mo_X0_coset_51 {f : Nat} : ∀ (h : CH) (x0 : Nat) (x1 : Int32) (x2 : Int32) (x3 : Int32) (x4 : Int32) (x5 : Int32) (x8 : Nat) (y0 : Int64) (y1 : Int64) (r : (Int64 × CH)), m_X0_coset_51 f h x0 x1 x2 x3 x4 x5 x8 y0 y1 = some r → le2 h r.2 := by
  intro h x0 x1 x2 x3 x4 x5 x8 y0 y1 r hm
  rw [m_X0_coset_51] at hm
  obtain ⟨v1, ev1, hm⟩ := nmE hm
  obtain ⟨h2, eh2, hm⟩ := nmE hm
  have lh2 := cn_le eh2
  obtain ⟨a3, ea3, hm⟩ := nmE hm
  exact (lh2.tr (mo_X0_coset_57  h2 x0 x1 x2 x3 x4 x5 x8 v1 a3 _ hm))
def m_X0_coset_48 (f : Nat) (h : CH) (x0 : Nat) (x1 : Int32) (x2 : Int32) (x3 : Int32) (x4 : Int32) (x5 : Int32) (x8 : Nat) (y0 : Int64) (y1 : Nat) : Option (Int64 × CH) := gd (isC h y1 3) <|
    bd2 (m_X2_determinant f h y1) fun r3 h2 =>
    m_X0_coset_51 f h2 x0 x1 x2 x3 x4 x5 x8 y0 r3
theorem mo_X0_coset_48 {f : Nat} : ∀ (h : CH) (x0 : Nat) (x1 : Int32) (x2 : Int32) (x3 : Int32) (x4 : Int32) (x5 : Int32) (x8 : Nat) (y0 : Int64) (y1 : Nat) (r : (Int64 × CH)), m_X0_coset_48 f h x0 x1 x2 x3 x4 x5 x8 y0 y1 = some r → le2 h r.2 := by
  intro h x0 x1 x2 x3 x4 x5 x8 y0 y1 r hm
  rw [m_X0_coset_48] at hm
  obtain ⟨g1, hm⟩ := gdE hm
  obtain ⟨r3, h2, er3, hm⟩ := bd2E hm
  have lh2 := mo_X2_determinant er3
  exact (lh2.tr (mo_X0_coset_51  h2 x0 x1 x2 x3 x4 x5 x8 y0 r3 _ hm))
def m_X0_coset_45 (f : Nat) (h : CH) (x0 : Nat) (x1 : Int32) (x2 : Int32) (x3 : Int32) (x4 : Int32) (x5 : Int32) (x8 : Nat) (y0 : Int64) (y1 : Nat) : Option (Int64 × CH) := if isC h y1 6 = true then
    bd2 (m_X6_rows f h y1) fun a3 h2 =>
    m_X0_coset_48 f h2 x0 x1 x2 x3 x4 x5 x8 y0 a3
    else gd (isC h y1 7) <|
    bd2 (m_X7_rows f h y1) fun a6 h5 =>
    m_X0_coset_48 f h5 x0 x1 x2 x3 x4 x5 x8 y0 a6
theorem mo_X0_coset_45 {f : Nat} : ∀ (h : CH) (x0 : Nat) (x1 : Int32) (x2 : Int32) (x3 : Int32) (x4 : Int32) (x5 : Int32) (x8 : Nat) (y0 : Int64) (y1 : Nat) (r : (Int64 × CH)), m_X0_coset_45 f h x0 x1 x2 x3 x4 x5 x8 y0 y1 = some r → le2 h r.2 := by
  intro h x0 x1 x2 x3 x4 x5 x8 y0 y1 r hm
  rw [m_X0_coset_45] at hm
  by_cases c1 : isC h y1 6 = true
  · have hm := ifT hm c1
    obtain ⟨a3, h2, ea3, hm⟩ := bd2E hm
    have lh2 := mo_X6_rows ea3
    exact (lh2.tr (mo_X0_coset_48  h2 x0 x1 x2 x3 x4 x5 x8 y0 a3 _ hm))
  · have hm := ifF hm c1
    obtain ⟨g4, hm⟩ := gdE hm
    obtain ⟨a6, h5, ea6, hm⟩ := bd2E hm
    have lh5 := mo_X7_rows ea6
    exact (lh5.tr (mo_X0_coset_48  h5 x0 x1 x2 x3 x4 x5 x8 y0 a6 _ hm))
def m_X0_coset_35 (f : Nat) (h : CH) (x0 : Nat) (x1 : Int32) (x2 : Int32) (x3 : Int32) (x4 : Int32) (x5 : Int32) (x6 : Int32) (y0 : Nat) : Option (Int64 × CH) := gd (isC h x0 1) <|
    bd2 (m_X0_at f h x0 x1) fun a3 h2 =>
    m_X0_coset_45 f h2 x0 x1 x2 x3 x4 x5 y0 (Int32.toInt64 x6) a3
theorem mo_X0_coset_35 {f : Nat} : ∀ (h : CH) (x0 : Nat) (x1 : Int32) (x2 : Int32) (x3 : Int32) (x4 : Int32) (x5 : Int32) (x6 : Int32) (y0 : Nat) (r : (Int64 × CH)), m_X0_coset_35 f h x0 x1 x2 x3 x4 x5 x6 y0 = some r → le2 h r.2 := by
  intro h x0 x1 x2 x3 x4 x5 x6 y0 r hm
  rw [m_X0_coset_35] at hm
  obtain ⟨g1, hm⟩ := gdE hm
  obtain ⟨a3, h2, ea3, hm⟩ := bd2E hm
  have lh2 := mo_X0_at ea3
  exact (lh2.tr (mo_X0_coset_45  h2 x0 x1 x2 x3 x4 x5 y0 (Int32.toInt64 x6) a3 _ hm))
def m_X0_coset_32 (f : Nat) (h : CH) (x0 : Nat) (x1 : Int32) (x2 : Int32) (x3 : Int32) (x4 : Int32) (x5 : Int32) (x6 : Int32) (y0 : Nat) : Option (Int64 × CH) := gd (isC h y0 3) <|
    bd2 (m_X2_adjoint f h y0) fun a3 h2 =>
    m_X0_coset_35 f h2 x0 x1 x2 x3 x4 x5 x6 a3
theorem mo_X0_coset_32 {f : Nat} : ∀ (h : CH) (x0 : Nat) (x1 : Int32) (x2 : Int32) (x3 : Int32) (x4 : Int32) (x5 : Int32) (x6 : Int32) (y0 : Nat) (r : (Int64 × CH)), m_X0_coset_32 f h x0 x1 x2 x3 x4 x5 x6 y0 = some r → le2 h r.2 := by
  intro h x0 x1 x2 x3 x4 x5 x6 y0 r hm
  rw [m_X0_coset_32] at hm
  obtain ⟨g1, hm⟩ := gdE hm
  obtain ⟨a3, h2, ea3, hm⟩ := bd2E hm
  have lh2 := mo_X2_adjoint ea3
  exact (lh2.tr (mo_X0_coset_35  h2 x0 x1 x2 x3 x4 x5 x6 a3 _ hm))
def m_X0_coset_29 (f : Nat) (h : CH) (x0 : Nat) (x1 : Int32) (x2 : Int32) (x3 : Int32) (x4 : Int32) (x5 : Int32) (x6 : Int32) (y0 : Nat) : Option (Int64 × CH) := if isC h y0 6 = true then
    bd2 (m_X6_rows f h y0) fun a3 h2 =>
    m_X0_coset_32 f h2 x0 x1 x2 x3 x4 x5 x6 a3
    else gd (isC h y0 7) <|
    bd2 (m_X7_rows f h y0) fun a6 h5 =>
    m_X0_coset_32 f h5 x0 x1 x2 x3 x4 x5 x6 a6
theorem mo_X0_coset_29 {f : Nat} : ∀ (h : CH) (x0 : Nat) (x1 : Int32) (x2 : Int32) (x3 : Int32) (x4 : Int32) (x5 : Int32) (x6 : Int32) (y0 : Nat) (r : (Int64 × CH)), m_X0_coset_29 f h x0 x1 x2 x3 x4 x5 x6 y0 = some r → le2 h r.2 := by
  intro h x0 x1 x2 x3 x4 x5 x6 y0 r hm
  rw [m_X0_coset_29] at hm
  by_cases c1 : isC h y0 6 = true
  · have hm := ifT hm c1
    obtain ⟨a3, h2, ea3, hm⟩ := bd2E hm
    have lh2 := mo_X6_rows ea3
    exact (lh2.tr (mo_X0_coset_32  h2 x0 x1 x2 x3 x4 x5 x6 a3 _ hm))
  · have hm := ifF hm c1
    obtain ⟨g4, hm⟩ := gdE hm
    obtain ⟨a6, h5, ea6, hm⟩ := bd2E hm
    have lh5 := mo_X7_rows ea6
    exact (lh5.tr (mo_X0_coset_32  h5 x0 x1 x2 x3 x4 x5 x6 a6 _ hm))
def m_X0_coset_13 (f : Nat) (h : CH) (x0 : Nat) (x1 : Int32) (x2 : Int32) (x3 : Int32) (x4 : Int32) (x5 : Int32) (x6 : Int32) (y0 : Int32) : Option (Int64 × CH) := if 0 ≤ y0 then
    gd (isC h x0 1) <|
    bd2 (m_X0_at f h x0 x1) fun a4 h3 =>
    m_X0_coset_29 f h3 x0 x1 x2 x3 x4 x5 x6 a4
    else some ((Int32.toInt64 y0), h)
theorem mo_X0_coset_13 {f : Nat} : ∀ (h : CH) (x0 : Nat) (x1 : Int32) (x2 : Int32) (x3 : Int32) (x4 : Int32) (x5 : Int32) (x6 : Int32) (y0 : Int32) (r : (Int64 × CH)), m_X0_coset_13 f h x0 x1 x2 x3 x4 x5 x6 y0 = some r → le2 h r.2 := by
  intro h x0 x1 x2 x3 x4 x5 x6 y0 r hm
  rw [m_X0_coset_13] at hm
  by_cases c1 : 0 ≤ y0
  · have hm := ifT hm c1
    obtain ⟨g2, hm⟩ := gdE hm
    obtain ⟨a4, h3, ea4, hm⟩ := bd2E hm
    have lh3 := mo_X0_at ea4
    exact (lh3.tr (mo_X0_coset_29  h3 x0 x1 x2 x3 x4 x5 x6 a4 _ hm))
  · have hm := ifF hm c1
    cases hm
    exact le2.rf
def m_X0_coset (f : Nat) (u : CH) (x0 : Nat) (x1 : Int32) (x2 : Int32) (x3 : Int32) (x4 : Int32) (x5 : Int32) (x6 : Int32) : Option (Int64 × CH) := gd (isC u x0 1) <|
    bd2 (m_X0_asksPoint f u x0 x1 x2 x3 x4 x5 x6) fun r3 h2 =>
    m_X0_coset_13 f h2 x0 x1 x2 x3 x4 x5 x6 r3
theorem mo_X0_coset {f : Nat} {u : CH} {x0 : Nat} {x1 : Int32} {x2 : Int32} {x3 : Int32} {x4 : Int32} {x5 : Int32} {x6 : Int32} {r0 : Int64} {u9 : CH} (hm : m_X0_coset f u x0 x1 x2 x3 x4 x5 x6 = some (r0, u9)) : le2 u u9 := by
  rw [m_X0_coset] at hm
  obtain ⟨g1, hm⟩ := gdE hm
  obtain ⟨r3, h2, er3, hm⟩ := bd2E hm
  have lh2 := mo_X0_asksPoint er3
  exact (lh2.tr (mo_X0_coset_13  h2 x0 x1 x2 x3 x4 x5 x6 r3 _ hm))
abbrev rm_X0_coset (mc ms : Nat) : Room := { frames := 108, cells := mc, slots := ms, locals := 4209 }
theorem cw_X0_coset {R : Room} {s : State} {args : Array Value} {own : String} {idx mc ms : Nat} (hts : ∀ w ∈ lw_all, w.before args s = true) (hl : Cond.methodLink own idx yX0_coset ∈ lw_all) (hR : 108 + 1 ≤ R.frames ∧ 8 + (19 + 11) + 4209 ≤ R.locals) : CallW R s args own RX0 idx yX0_coset cX0_coset 19 (Option.some Jvm.ClassFile.FieldType.long) (ws_ yX0_coset cX0_coset 19 (Option.some Jvm.ClassFile.FieldType.long)) (rm_X0_coset mc ms) mc ms 6 := cwV 6 hts (lw_V hl q1329 q1330 q119 q1331) rfl rfl rfl (by decide +kernel) hR
set_option maxHeartbeats 4000000 in
set_option maxRecDepth 100000 in
theorem w_X0_coset (l : Launch) {D : va_G} {dA : Nat → ClassId} {A : Nat → Prop} {f : Nat} {u u9 : CH} {r0 : Int64} {x0 : Nat} {x1 : Int32} {x2 : Int32} {x3 : Int32} {x4 : Int32} {x5 : Int32} {x6 : Int32} (hm : m_X0_coset f u x0 x1 x2 x3 x4 x5 x6 = some (r0, u9)) : Met l yX0_coset (ws_ yX0_coset cX0_coset 19 (Option.some Jvm.ClassFile.FieldType.long)) (rm_X0_coset (u9.1 - u.1) (u9.2.1 - u.2.1)) (va_Pc [.ref x0, .int x1, .int x2, .int x3, .int x4, .int x5, .int x6] (CPre D dA A u)) (va_Ql (fun r u => r = r0 ∧ u = u9) (CPost D dA A) A) (u9.1 - u.1) (u9.2.1 - u.2.1) A := by
  refine Met.ofW (cc := cX0_coset) (maxL := 19) (ret := (Option.some Jvm.ClassFile.FieldType.long)) (by decide) rfl ?_
  intro p e s m args below meth c s₁ B hml hv
  have hx := B.exec
  have hb := B.bytes
  have hr := B.returns
  have hts := atoms_spec (ws := (ws_ yX0_coset cX0_coset 19 (Option.some Jvm.ClassFile.FieldType.long))) B.pre
  have hts : ∀ w ∈ lw_all, w.before args s = true := fun w h => hts w (List.mem_cons_of_mem _ h)
  have hown : s.vm.findClass RX0 = some m.cls := findClass_of_methodNamed B.named
  have hlocks := B.notSynchronized
  obtain ⟨hav, hv⟩ := hv
  have C : CX p s m args c cX0_coset RX0 D dA := ⟨hx, hb, hown, hts, hv.2⟩
  have hw : CW D dA A s u s.heap [] := hv.1
  generalize hQ : MQ below (va_Ql (fun r u => r = r0 ∧ u = u9) (CPost D dA A) A) args s (u9.1 - u.1) (u9.2.1 - u.2.1) A = QQ
  have hent := lg_entry_eq m [.ref x0, .int x1, .int x2, .int x3, .int x4, .int x5, .int x6] 19
  rw [← hav] at hent
  rw [hent]
  have hl := lv_entry ([.ref x0, .int x1, .int x2, .int x3, .int x4, .int x5, .int x6]) (n := 19) (Nat.le_of_ble_eq_true rfl)
  generalize (lg_sl ([.ref x0, .int x1, .int x2, .int x3, .int x4, .int x5, .int x6]) ++ List.replicate (19 - (lg_sl ([.ref x0, .int x1, .int x2, .int x3, .int x4, .int x5, .int x6])).length) Slot.unset).toArray = ls at hl ⊢
  have hl : lv_has ls 19 [(0, .ref x0), (1, .int x1), (2, .int x2), (3, .int x3), (4, .int x4), (5, .int x5), (6, .int x6)] := hl
  obtain ⟨cc, ecc⟩ : ∃ z : Nat, z = 0 := ⟨0, rfl⟩
  obtain ⟨ss, ess⟩ : ∃ z : Nat, z = 0 := ⟨0, rfl⟩
  have hcc : cc + u.1 = u.1 := by omega
  have hss : ss + u.2.1 = u.2.1 := by omega
  suffices hgo : W p l e (rm_X0_coset (u9.1 - u.1) (u9.2.1 - u.2.1)) s m args below meth c s.heap [] cc ss QQ (F0 m 0 ls []) by rw [ecc, ess] at hgo; exact hgo
  have ⟨pu, qu, _, _⟩ := mo_X0_coset hm
  have hB251 : ∀ (h : CH) (x13 : Int64) (cc ss : Nat) (H : Heap) (locs : List Loc) (ls : Array Slot), m_X0_coset_251 f h x13 = some (r0, u9) → CW D dA A s h H locs → cc + u.1 = h.1 → ss + u.2.1 = h.2.1 → lv_has ls 19 [(13, .long x13)] → W p l e (rm_X0_coset (u9.1 - u.1) (u9.2.1 - u.2.1)) s m args below meth c H locs cc ss QQ (F0 m 251 ls []) := by
    intro h x13 cc ss H locs ls hm hw hcc hss hl
    have hmo := mo_X0_coset_251  h x13 _ hm
    have sb_ : h.1 ≤ u9.1 := hmo.1
    have tb_ : h.2.1 ≤ u9.2.1 := hmo.2.1
    rw [m_X0_coset_251] at hm
    refine lv_lload hx hb dX0_coset_251 (lv_at hl 0 rfl) ?_
    obtain ⟨er, eh⟩ := retE hm
    have ec : cc = u9.1 - u.1 := by rw [← eh]; omega
    have es : ss = u9.2.1 - u.2.1 := by rw [← eh]; omega
    rw [ec, es, ← hQ]
    exact W.lret (v := x13) hx hb hr (fun t ht hW => ⟨⟨x13, h, rfl, ⟨er, eh⟩, ⟨by rw [ht]; exact hw.1, by rw [ht]; exact hw.2.1⟩⟩, hw.2.2.1.F ht⟩) hw.2.2.1.2.2 dX0_coset_253
  have hB158 : ∀ (n158 : Nat), ∀ (h : CH) (x11 : Nat) (x12 : Nat) (x13 : Int64) (x15 : Int32) (cc ss : Nat) (H : Heap) (locs : List Loc) (ls : Array Slot), m_X0_coset_158 f n158 h x11 x12 x13 x15 = some (r0, u9) → CW D dA A s h H locs → cc + u.1 = h.1 → ss + u.2.1 = h.2.1 → lv_has ls 19 [(11, .ref x11), (12, .ref x12), (13, .long x13), (15, .int x15)] → W p l e (rm_X0_coset (u9.1 - u.1) (u9.2.1 - u.2.1)) s m args below meth c H locs cc ss QQ (F0 m 158 ls []) := by
    intro n158
    induction n158 with
    | zero => intro h x11 x12 x13 x15 cc ss H locs ls hm hw hcc hss hl; rw [m_X0_coset_158] at hm; exact noE hm
    | succ n158 ih158 =>
      have hB223 : ∀ (h : CH) (x11 : Nat) (x12 : Nat) (x13 : Int64) (x15 : Int32) (cc ss : Nat) (H : Heap) (locs : List Loc) (ls : Array Slot), m_X0_coset_223 f (m_X0_coset_158 f n158) h x11 x12 x13 x15 = some (r0, u9) → CW D dA A s h H locs → cc + u.1 = h.1 → ss + u.2.1 = h.2.1 → lv_has ls 19 [(11, .ref x11), (12, .ref x12), (13, .long x13), (15, .int x15)] → W p l e (rm_X0_coset (u9.1 - u.1) (u9.2.1 - u.2.1)) s m args below meth c H locs cc ss QQ (F0 m 223 ls []) := by
        intro h x11 x12 x13 x15 cc ss H locs ls hm hw hcc hss hl
        have hmo := mo_X0_coset_223 (mo_X0_coset_158 n158) h x11 x12 x13 x15 _ hm
        have sb_ : h.1 ≤ u9.1 := hmo.1
        have tb_ : h.2.1 ≤ u9.2.1 := hmo.2.1
        rw [m_X0_coset_223] at hm
        refine lv_lload hx hb dX0_coset_223 (lv_at hl 2 rfl) ?_
        refine lv_aload hx hb dX0_coset_225 (lv_at hl 0 rfl) ?_
        obtain ⟨a1, ea1, hm⟩ := bdE hm
        refine cg_getN C hw (by decide) (oR_E ea1) rfl in_X2 (by decide) (hw.2.2.2.2.1 _ (List.mem_of_getElem? (i := 12) rfl)) dX0_coset_227 ?_
        refine lv_iload hx hb dX0_coset_230 (lv_at hl 3 rfl) ?_
        obtain ⟨a2, ea2, hm⟩ := bdE hm
        refine cg_aaldA C hw (ty := .array .long) rfl rfl (aR_E ea2) dX0_coset_232 ?_
        refine lv_iload hx hb dX0_coset_233 (lv_at hl 3 rfl) ?_
        obtain ⟨v3, ev3, hm⟩ := bdE hm
        refine cg_lald C hw ev3 dX0_coset_235 ?_
        refine lv_lmul hx hb dX0_coset_236 ?_
        refine lv_aload hx hb dX0_coset_237 (lv_at hl 1 rfl) ?_
        refine lv_iload hx hb dX0_coset_239 (lv_at hl 3 rfl) ?_
        obtain ⟨v4, ev4, hm⟩ := bdE hm
        refine cg_lald C hw ev4 dX0_coset_241 ?_
        refine lv_ladd hx hb dX0_coset_242 ?_
        refine lv_topl (fun v5 ev5 => ?_)
        have hm := nmK hm ev5
        refine lv_lstore (lv' := [(13, .long v5), (11, .ref x11), (12, .ref x12), (15, .int x15)]) hx hb dX0_coset_243 hl (by decide) rfl (fun ls hl => ?_)
        obtain ⟨v6, ev6, hm⟩ := nmE hm
        refine lv_iinc (v := v6) (lv' := [(15, .int v6), (13, .long v5), (11, .ref x11), (12, .ref x12)]) hx hb dX0_coset_245 hl (k := 3) rfl (by rw [ev6]; rfl) (by decide) rfl (fun ls hl => ?_)
        refine lv_goto (tgt := 158) hx hb dX0_coset_248 (by decide) ?_
        exact ih158 h x11 x12 v5 v6 _ _ _ _ _ hm hw (by omega) (by omega) (lv_sub hl [2, 3, 1, 0] rfl)
      have hB189 : ∀ (n189 : Nat), ∀ (h : CH) (x11 : Nat) (x12 : Nat) (x13 : Int64) (x15 : Int32) (x16 : Int64) (x18 : Int32) (cc ss : Nat) (H : Heap) (locs : List Loc) (ls : Array Slot), m_X0_coset_189 f (m_X0_coset_158 f n158) n189 h x11 x12 x13 x15 x16 x18 = some (r0, u9) → CW D dA A s h H locs → cc + u.1 = h.1 → ss + u.2.1 = h.2.1 → lv_has ls 19 [(11, .ref x11), (12, .ref x12), (13, .long x13), (15, .int x15), (16, .long x16), (18, .int x18)] → W p l e (rm_X0_coset (u9.1 - u.1) (u9.2.1 - u.2.1)) s m args below meth c H locs cc ss QQ (F0 m 189 ls []) := by
        intro n189
        induction n189 with
        | zero => intro h x11 x12 x13 x15 x16 x18 cc ss H locs ls hm hw hcc hss hl; rw [m_X0_coset_189] at hm; exact noE hm
        | succ n189 ih189 =>
          intro h x11 x12 x13 x15 x16 x18 cc ss H locs ls hm hw hcc hss hl
          have hmo := mo_X0_coset_189 (mo_X0_coset_158 n158) (n189 + 1) h x11 x12 x13 x15 x16 x18 _ hm
          have sb_ : h.1 ≤ u9.1 := hmo.1
          have tb_ : h.2.1 ≤ u9.2.1 := hmo.2.1
          rw [m_X0_coset_189] at hm
          refine lv_iload hx hb dX0_coset_189 (lv_at hl 5 rfl) ?_
          refine lv_iconst (v := 3) hx hb dX0_coset_191 (by decide) ?_
          refine lv_icmp_ge (tgt := 223) hx hb dX0_coset_192 (by decide) (fun c1 => ?_) (fun c1 => ?_)
          · have hm := ifT hm c1
            exact hB223 h x11 x12 x13 x15 _ _ _ _ _ hm hw (by omega) (by omega) (lv_sub hl [0, 1, 2, 3] rfl)
          · have hm := ifF hm c1
            refine lv_aload hx hb dX0_coset_195 (lv_at hl 1 rfl) ?_
            refine lv_iload hx hb dX0_coset_197 (lv_at hl 5 rfl) ?_
            refine lv_dup2_11 hx hb dX0_coset_199 rfl rfl ?_
            obtain ⟨v2, ev2, hm⟩ := bdE hm
            refine cg_lald C hw ev2 dX0_coset_200 ?_
            refine lv_lload hx hb dX0_coset_201 (lv_at hl 4 rfl) ?_
            refine lv_aload hx hb dX0_coset_203 (lv_at hl 0 rfl) ?_
            obtain ⟨a3, ea3, hm⟩ := bdE hm
            refine cg_getN C hw (by decide) (oR_E ea3) rfl in_X2 (by decide) (hw.2.2.2.2.1 _ (List.mem_of_getElem? (i := 12) rfl)) dX0_coset_205 ?_
            refine lv_iload hx hb dX0_coset_208 (lv_at hl 3 rfl) ?_
            obtain ⟨a4, ea4, hm⟩ := bdE hm
            refine cg_aaldA C hw (ty := .array .long) rfl rfl (aR_E ea4) dX0_coset_210 ?_
            refine lv_iload hx hb dX0_coset_211 (lv_at hl 5 rfl) ?_
            obtain ⟨v5, ev5, hm⟩ := bdE hm
            refine cg_lald C hw ev5 dX0_coset_213 ?_
            refine lv_lmul hx hb dX0_coset_214 ?_
            refine lv_lsub hx hb dX0_coset_215 ?_
            obtain ⟨h6, eh6, hm⟩ := bdE hm
            refine cg_last C hw eh6 dX0_coset_216 (fun H locs hw => ?_)
            have zh6 := uL_sz eh6
            obtain ⟨v7, ev7, hm⟩ := nmE hm
            refine lv_iinc (v := v7) (lv' := [(18, .int v7), (11, .ref x11), (12, .ref x12), (13, .long x13), (15, .int x15), (16, .long x16)]) hx hb dX0_coset_217 hl (k := 5) rfl (by rw [ev7]; rfl) (by decide) rfl (fun ls hl => ?_)
            refine lv_goto (tgt := 189) hx hb dX0_coset_220 (by decide) ?_
            exact ih189 h6 x11 x12 x13 x15 x16 v7 _ _ _ _ _ hm hw (by omega) (by omega) (lv_sub hl [1, 2, 3, 4, 5, 0] rfl)
      intro h x11 x12 x13 x15 cc ss H locs ls hm hw hcc hss hl
      have hmo := mo_X0_coset_158  (n158 + 1) h x11 x12 x13 x15 _ hm
      have sb_ : h.1 ≤ u9.1 := hmo.1
      have tb_ : h.2.1 ≤ u9.2.1 := hmo.2.1
      rw [m_X0_coset_158] at hm
      refine lv_iload hx hb dX0_coset_158 (lv_at hl 3 rfl) ?_
      refine lv_iconst (v := 3) hx hb dX0_coset_160 (by decide) ?_
      refine lv_icmp_ge (tgt := 251) hx hb dX0_coset_161 (by decide) (fun c1 => ?_) (fun c1 => ?_)
      · have hm := ifT hm c1
        exact hB251 h x13 _ _ _ _ _ hm hw (by omega) (by omega) (lv_sub hl [2] rfl)
      · have hm := ifF hm c1
        refine lv_aload hx hb dX0_coset_164 (lv_at hl 1 rfl) ?_
        refine lv_iload hx hb dX0_coset_166 (lv_at hl 3 rfl) ?_
        obtain ⟨v2, ev2, hm⟩ := bdE hm
        refine cg_lald C hw ev2 dX0_coset_168 ?_
        refine lv_aload hx hb dX0_coset_169 (lv_at hl 0 rfl) ?_
        obtain ⟨a3, ea3, hm⟩ := bdE hm
        refine cg_getN C hw (by decide) (oR_E ea3) rfl in_X2 (by decide) (hw.2.2.2.2.1 _ (List.mem_of_getElem? (i := 12) rfl)) dX0_coset_171 ?_
        refine lv_iload hx hb dX0_coset_174 (lv_at hl 3 rfl) ?_
        obtain ⟨a4, ea4, hm⟩ := bdE hm
        refine cg_aaldA C hw (ty := .array .long) rfl rfl (aR_E ea4) dX0_coset_176 ?_
        refine lv_iload hx hb dX0_coset_177 (lv_at hl 3 rfl) ?_
        obtain ⟨v5, ev5, hm⟩ := bdE hm
        refine cg_lald C hw ev5 dX0_coset_179 ?_
        obtain ⟨r6, er6, hm⟩ := bdE hm
        refine scl (va_runS (As := [.long v2, .long v5]) (rest := []) ⟨hx, hb, hml, hown, hts⟩ (w_J9_floorDiv l er6) (cw_J9_floorDiv hts q1332 ⟨Nat.le_of_ble_eq_true rfl, Nat.le_of_ble_eq_true rfl⟩) (pre_s _) rfl rfl hl.1 rfl (lv_room (Nat.le_of_ble_eq_true rfl)) dX0_coset_180 ⟨show cc + 0 ≤ u9.1 - u.1 by omega, show ss + 0 ≤ u9.2.1 - u.2.1 by omega⟩) ?_
        refine lv_lstore (lv' := [(16, .long r6), (11, .ref x11), (12, .ref x12), (13, .long x13), (15, .int x15)]) hx hb dX0_coset_183 hl (by decide) rfl (fun ls hl => ?_)
        refine lv_iload hx hb dX0_coset_185 (lv_at hl 4 rfl) ?_
        refine lv_istore (lv' := [(18, .int x15), (16, .long r6), (11, .ref x11), (12, .ref x12), (13, .long x13), (15, .int x15)]) hx hb dX0_coset_187 hl (by decide) rfl (fun ls hl => ?_)
        exact hB189 f h x11 x12 x13 x15 r6 x15 _ _ _ _ _ hm hw (by omega) (by omega) (lv_sub hl [2, 3, 4, 5, 1, 0] rfl)
  have hB152 : ∀ (h : CH) (x11 : Nat) (x12 : Nat) (cc ss : Nat) (H : Heap) (locs : List Loc) (ls : Array Slot), m_X0_coset_152 f h x11 x12 = some (r0, u9) → CW D dA A s h H locs → cc + u.1 = h.1 → ss + u.2.1 = h.2.1 → lv_has ls 19 [(11, .ref x11), (12, .ref x12)] → W p l e (rm_X0_coset (u9.1 - u.1) (u9.2.1 - u.2.1)) s m args below meth c H locs cc ss QQ (F0 m 152 ls []) := by
    intro h x11 x12 cc ss H locs ls hm hw hcc hss hl
    have hmo := mo_X0_coset_152  h x11 x12 _ hm
    have sb_ : h.1 ≤ u9.1 := hmo.1
    have tb_ : h.2.1 ≤ u9.2.1 := hmo.2.1
    rw [m_X0_coset_152] at hm
    refine lv_lconst (v := 0) hx hb dX0_coset_152 (by decide) ?_
    refine lv_lstore (lv' := [(13, .long (0 : Int64)), (11, .ref x11), (12, .ref x12)]) hx hb dX0_coset_153 hl (by decide) rfl (fun ls hl => ?_)
    refine lv_iconst (v := 0) hx hb dX0_coset_155 (by decide) ?_
    refine lv_istore (lv' := [(15, .int (0 : Int32)), (13, .long (0 : Int64)), (11, .ref x11), (12, .ref x12)]) hx hb dX0_coset_156 hl (by decide) rfl (fun ls hl => ?_)
    exact hB158 f h x11 x12 (0 : Int64) (0 : Int32) _ _ _ _ _ hm hw (by omega) (by omega) (lv_sub hl [2, 3, 1, 0] rfl)
  have hB80 : ∀ (n80 : Nat), ∀ (h : CH) (x0 : Nat) (x1 : Int32) (x3 : Int32) (x4 : Int32) (x5 : Int32) (x8 : Nat) (x9 : Int64) (x11 : Nat) (x12 : Nat) (x13 : Int32) (cc ss : Nat) (H : Heap) (locs : List Loc) (ls : Array Slot), m_X0_coset_80 f n80 h x0 x1 x3 x4 x5 x8 x9 x11 x12 x13 = some (r0, u9) → CW D dA A s h H locs → cc + u.1 = h.1 → ss + u.2.1 = h.2.1 → lv_has ls 19 [(0, .ref x0), (1, .int x1), (3, .int x3), (4, .int x4), (5, .int x5), (8, .ref x8), (9, .long x9), (11, .ref x11), (12, .ref x12), (13, .int x13)] → W p l e (rm_X0_coset (u9.1 - u.1) (u9.2.1 - u.2.1)) s m args below meth c H locs cc ss QQ (F0 m 80 ls []) := by
    intro n80
    induction n80 with
    | zero => intro h x0 x1 x3 x4 x5 x8 x9 x11 x12 x13 cc ss H locs ls hm hw hcc hss hl; rw [m_X0_coset_80] at hm; exact noE hm
    | succ n80 ih80 =>
      have hB141 : ∀ (h : CH) (x0 : Nat) (x1 : Int32) (x3 : Int32) (x4 : Int32) (x5 : Int32) (x8 : Nat) (x9 : Int64) (x11 : Nat) (x12 : Nat) (x13 : Int32) (y0 : Nat) (y1 : Int32) (y2 : Int64) (y3 : Int64) (cc ss : Nat) (H : Heap) (locs : List Loc) (ls : Array Slot), m_X0_coset_141 f (m_X0_coset_80 f n80) h x0 x1 x3 x4 x5 x8 x9 x11 x12 x13 y0 y1 y2 y3 = some (r0, u9) → CW D dA A s h H locs → cc + u.1 = h.1 → ss + u.2.1 = h.2.1 → lv_has ls 19 [(0, .ref x0), (1, .int x1), (3, .int x3), (4, .int x4), (5, .int x5), (8, .ref x8), (9, .long x9), (11, .ref x11), (12, .ref x12), (13, .int x13)] → W p l e (rm_X0_coset (u9.1 - u.1) (u9.2.1 - u.2.1)) s m args below meth c H locs cc ss QQ (F0 m 141 ls [.long y3, .long y2, .int y1, .ref y0]) := by
        intro h x0 x1 x3 x4 x5 x8 x9 x11 x12 x13 y0 y1 y2 y3 cc ss H locs ls hm hw hcc hss hl
        have hmo := mo_X0_coset_141 (mo_X0_coset_80 n80) h x0 x1 x3 x4 x5 x8 x9 x11 x12 x13 y0 y1 y2 y3 _ hm
        have sb_ : h.1 ≤ u9.1 := hmo.1
        have tb_ : h.2.1 ≤ u9.2.1 := hmo.2.1
        rw [m_X0_coset_141] at hm
        refine lv_lmul hx hb dX0_coset_141 ?_
        refine lv_lload hx hb dX0_coset_142 (lv_at hl 6 rfl) ?_
        obtain ⟨g1, hm⟩ := gdE hm
        refine lv_ldiv hx hb dX0_coset_144 (nzL_ne g1) ?_
        obtain ⟨h2, eh2, hm⟩ := bdE hm
        refine cg_last C hw eh2 dX0_coset_145 (fun H locs hw => ?_)
        have zh2 := uL_sz eh2
        obtain ⟨v3, ev3, hm⟩ := nmE hm
        refine lv_iinc (v := v3) (lv' := [(13, .int v3), (0, .ref x0), (1, .int x1), (3, .int x3), (4, .int x4), (5, .int x5), (8, .ref x8), (9, .long x9), (11, .ref x11), (12, .ref x12)]) hx hb dX0_coset_146 hl (k := 9) rfl (by rw [ev3]; rfl) (by decide) rfl (fun ls hl => ?_)
        refine lv_goto (tgt := 80) hx hb dX0_coset_149 (by decide) ?_
        exact ih80 h2 x0 x1 x3 x4 x5 x8 x9 x11 x12 v3 _ _ _ _ _ hm hw (by omega) (by omega) (lv_sub hl [1, 2, 3, 4, 5, 6, 7, 8, 9, 0] rfl)
      have hB138 : ∀ (h : CH) (x0 : Nat) (x1 : Int32) (x3 : Int32) (x4 : Int32) (x5 : Int32) (x8 : Nat) (x9 : Int64) (x11 : Nat) (x12 : Nat) (x13 : Int32) (y0 : Nat) (y1 : Int32) (y2 : Int64) (y3 : Nat) (cc ss : Nat) (H : Heap) (locs : List Loc) (ls : Array Slot), m_X0_coset_138 f (m_X0_coset_80 f n80) h x0 x1 x3 x4 x5 x8 x9 x11 x12 x13 y0 y1 y2 y3 = some (r0, u9) → CW D dA A s h H locs → cc + u.1 = h.1 → ss + u.2.1 = h.2.1 → lv_has ls 19 [(0, .ref x0), (1, .int x1), (3, .int x3), (4, .int x4), (5, .int x5), (8, .ref x8), (9, .long x9), (11, .ref x11), (12, .ref x12), (13, .int x13)] → W p l e (rm_X0_coset (u9.1 - u.1) (u9.2.1 - u.2.1)) s m args below meth c H locs cc ss QQ (F0 m 138 ls [.ref y3, .long y2, .int y1, .ref y0]) := by
        intro h x0 x1 x3 x4 x5 x8 x9 x11 x12 x13 y0 y1 y2 y3 cc ss H locs ls hm hw hcc hss hl
        have hmo := mo_X0_coset_138 (mo_X0_coset_80 n80) h x0 x1 x3 x4 x5 x8 x9 x11 x12 x13 y0 y1 y2 y3 _ hm
        have sb_ : h.1 ≤ u9.1 := hmo.1
        have tb_ : h.2.1 ≤ u9.2.1 := hmo.2.1
        rw [m_X0_coset_138] at hm
        by_cases c1 : isC h y3 6 = true
        · have hm := ifT hm c1
          obtain ⟨r3, h2, er3, hm⟩ := bd2E hm
          have lh2 := mo_X6_over er3
          have ph2 : h.1 ≤ h2.1 := lh2.1
          have qh2 : h.2.1 ≤ h2.2.1 := lh2.2.1
          have hmo := mo_X0_coset_141 (mo_X0_coset_80 n80)  h2 x0 x1 x3 x4 x5 x8 x9 x11 x12 x13 y0 y1 y2 r3 _ hm
          have sh2 : h2.1 ≤ u9.1 := hmo.1
          have th2 : h2.2.1 ≤ u9.2.1 := hmo.2.1
          refine cg_calll hw lh2 (va_runV (As := []) (rest := [.long y2, .int y1, .ref y0]) ⟨hx, hb, hml, hown, hts⟩ (w_X6_over l er3) (cw_X6_over hts q945 ⟨Nat.le_of_ble_eq_true rfl, Nat.le_of_ble_eq_true rfl⟩) (cg_preV C hw c1 rfl _) rfl rfl hl.1 rfl (lv_room (Nat.le_of_ble_eq_true rfl)) dX0_coset_138 ⟨show cc + (h2.1 - h.1) ≤ u9.1 - u.1 by omega, show ss + (h2.2.1 - h.2.1) ≤ u9.2.1 - u.2.1 by omega⟩) (fun H locs hw => ?_)
          exact hB141 h2 x0 x1 x3 x4 x5 x8 x9 x11 x12 x13 y0 y1 y2 r3 _ _ _ _ _ hm hw (by omega) (by omega) (lv_sub hl [0, 1, 2, 3, 4, 5, 6, 7, 8, 9] rfl)
        · have hm := ifF hm c1
          obtain ⟨g4, hm⟩ := gdE hm
          obtain ⟨r6, h5, er6, hm⟩ := bd2E hm
          have lh5 := mo_X7_over er6
          have ph5 : h.1 ≤ h5.1 := lh5.1
          have qh5 : h.2.1 ≤ h5.2.1 := lh5.2.1
          have hmo := mo_X0_coset_141 (mo_X0_coset_80 n80)  h5 x0 x1 x3 x4 x5 x8 x9 x11 x12 x13 y0 y1 y2 r6 _ hm
          have sh5 : h5.1 ≤ u9.1 := hmo.1
          have th5 : h5.2.1 ≤ u9.2.1 := hmo.2.1
          refine cg_calll hw lh5 (va_runU (As := []) (rest := [.long y2, .int y1, .ref y0]) ⟨hx, hb, hml, hown, hts⟩ (w_X7_over l er6) (va_cwO 0 hts (lwO q945 q948 q946 q949 q950 q144 q951) rfl rfl rfl q952 (by decide +kernel) ⟨Nat.le_of_ble_eq_true rfl, Nat.le_of_ble_eq_true rfl⟩) (cg_preV C hw g4 rfl _) rfl rfl hl.1 rfl (lv_room (Nat.le_of_ble_eq_true rfl)) dX0_coset_138 ⟨show cc + (h5.1 - h.1) ≤ u9.1 - u.1 by omega, show ss + (h5.2.1 - h.2.1) ≤ u9.2.1 - u.2.1 by omega⟩) (fun H locs hw => ?_)
          exact hB141 h5 x0 x1 x3 x4 x5 x8 x9 x11 x12 x13 y0 y1 y2 r6 _ _ _ _ _ hm hw (by omega) (by omega) (lv_sub hl [0, 1, 2, 3, 4, 5, 6, 7, 8, 9] rfl)
      intro h x0 x1 x3 x4 x5 x8 x9 x11 x12 x13 cc ss H locs ls hm hw hcc hss hl
      have hmo := mo_X0_coset_80  (n80 + 1) h x0 x1 x3 x4 x5 x8 x9 x11 x12 x13 _ hm
      have sb_ : h.1 ≤ u9.1 := hmo.1
      have tb_ : h.2.1 ≤ u9.2.1 := hmo.2.1
      rw [m_X0_coset_80] at hm
      refine lv_iload hx hb dX0_coset_80 (lv_at hl 9 rfl) ?_
      refine lv_iconst (v := 3) hx hb dX0_coset_82 (by decide) ?_
      refine lv_icmp_ge (tgt := 152) hx hb dX0_coset_83 (by decide) (fun c1 => ?_) (fun c1 => ?_)
      · have hm := ifT hm c1
        exact hB152 h x11 x12 _ _ _ _ _ hm hw (by omega) (by omega) (lv_sub hl [7, 8] rfl)
      · have hm := ifF hm c1
        refine lv_aload hx hb dX0_coset_86 (lv_at hl 8 rfl) ?_
        refine lv_iload hx hb dX0_coset_88 (lv_at hl 9 rfl) ?_
        refine lv_iload_n hx hb dX0_coset_90 rfl (lv_at hl 2 rfl) ?_
        refine lv_i2l hx hb dX0_coset_91 rfl ?_
        refine lv_aload hx hb dX0_coset_92 (lv_at hl 5 rfl) ?_
        obtain ⟨a2, ea2, hm⟩ := bdE hm
        refine cg_getN C hw (by decide) (oR_E ea2) rfl in_X2 (by decide) (hw.2.2.2.2.1 _ (List.mem_of_getElem? (i := 12) rfl)) dX0_coset_94 ?_
        refine lv_iconst (v := 0) hx hb dX0_coset_97 (by decide) ?_
        obtain ⟨a3, ea3, hm⟩ := bdE hm
        refine cg_aaldA C hw (ty := .array .long) rfl rfl (aR_E ea3) dX0_coset_98 ?_
        refine lv_iload hx hb dX0_coset_99 (lv_at hl 9 rfl) ?_
        obtain ⟨v4, ev4, hm⟩ := bdE hm
        refine cg_lald C hw ev4 dX0_coset_101 ?_
        refine lv_lmul hx hb dX0_coset_102 ?_
        refine lv_iload hx hb dX0_coset_103 (lv_at hl 3 rfl) ?_
        refine lv_i2l hx hb dX0_coset_105 rfl ?_
        refine lv_aload hx hb dX0_coset_106 (lv_at hl 5 rfl) ?_
        obtain ⟨a5, ea5, hm⟩ := bdE hm
        refine cg_getN C hw (by decide) (oR_E ea5) rfl in_X2 (by decide) (hw.2.2.2.2.1 _ (List.mem_of_getElem? (i := 12) rfl)) dX0_coset_108 ?_
        refine lv_iconst (v := 1) hx hb dX0_coset_111 (by decide) ?_
        obtain ⟨a6, ea6, hm⟩ := bdE hm
        refine cg_aaldA C hw (ty := .array .long) rfl rfl (aR_E ea6) dX0_coset_112 ?_
        refine lv_iload hx hb dX0_coset_113 (lv_at hl 9 rfl) ?_
        obtain ⟨v7, ev7, hm⟩ := bdE hm
        refine cg_lald C hw ev7 dX0_coset_115 ?_
        refine lv_lmul hx hb dX0_coset_116 ?_
        refine lv_ladd hx hb dX0_coset_117 ?_
        refine lv_iload hx hb dX0_coset_118 (lv_at hl 4 rfl) ?_
        refine lv_i2l hx hb dX0_coset_120 rfl ?_
        refine lv_aload hx hb dX0_coset_121 (lv_at hl 5 rfl) ?_
        obtain ⟨a8, ea8, hm⟩ := bdE hm
        refine cg_getN C hw (by decide) (oR_E ea8) rfl in_X2 (by decide) (hw.2.2.2.2.1 _ (List.mem_of_getElem? (i := 12) rfl)) dX0_coset_123 ?_
        refine lv_iconst (v := 2) hx hb dX0_coset_126 (by decide) ?_
        obtain ⟨a9, ea9, hm⟩ := bdE hm
        refine cg_aaldA C hw (ty := .array .long) rfl rfl (aR_E ea9) dX0_coset_127 ?_
        refine lv_iload hx hb dX0_coset_128 (lv_at hl 9 rfl) ?_
        obtain ⟨v10, ev10, hm⟩ := bdE hm
        refine cg_lald C hw ev10 dX0_coset_130 ?_
        refine lv_lmul hx hb dX0_coset_131 ?_
        refine lv_ladd hx hb dX0_coset_132 ?_
        refine lv_aload_n hx hb dX0_coset_133 rfl (lv_at hl 0 rfl) ?_
        refine lv_iload_n hx hb dX0_coset_134 rfl (lv_at hl 1 rfl) ?_
        obtain ⟨g11, hm⟩ := gdE hm
        obtain ⟨a13, h12, ea13, hm⟩ := bd2E hm
        have lh12 := mo_X0_at ea13
        have ph12 : h.1 ≤ h12.1 := lh12.1
        have qh12 : h.2.1 ≤ h12.2.1 := lh12.2.1
        have hmo := mo_X0_coset_138 (mo_X0_coset_80 n80)  h12 x0 x1 x3 x4 x5 x8 x9 x11 x12 x13 x12 x13 ((((Int32.toInt64 x3) * v4) + ((Int32.toInt64 x4) * v7)) + ((Int32.toInt64 x5) * v10)) a13 _ hm
        have sh12 : h12.1 ≤ u9.1 := hmo.1
        have th12 : h12.2.1 ≤ u9.2.1 := hmo.2.1
        refine cg_callr hw lh12 (va_runV (As := [.int x1]) (rest := [.long ((((Int32.toInt64 x3) * v4) + ((Int32.toInt64 x4) * v7)) + ((Int32.toInt64 x5) * v10)), .int x13, .ref x12]) ⟨hx, hb, hml, hown, hts⟩ (w_X0_at l ea13) (cw_X0_at hts q900 ⟨Nat.le_of_ble_eq_true rfl, Nat.le_of_ble_eq_true rfl⟩) (cg_preV C hw g11 rfl _) rfl rfl hl.1 rfl (lv_room (Nat.le_of_ble_eq_true rfl)) dX0_coset_135 ⟨show cc + (h12.1 - h.1) ≤ u9.1 - u.1 by omega, show ss + (h12.2.1 - h.2.1) ≤ u9.2.1 - u.2.1 by omega⟩) (fun H locs hw => ?_)
        exact hB138 h12 x0 x1 x3 x4 x5 x8 x9 x11 x12 x13 x12 x13 ((((Int32.toInt64 x3) * v4) + ((Int32.toInt64 x4) * v7)) + ((Int32.toInt64 x5) * v10)) a13 _ _ _ _ _ hm hw (by omega) (by omega) (lv_sub hl [0, 1, 2, 3, 4, 5, 6, 7, 8, 9] rfl)
  have hB75 : ∀ (h : CH) (x0 : Nat) (x1 : Int32) (x3 : Int32) (x4 : Int32) (x5 : Int32) (x8 : Nat) (x9 : Int64) (x11 : Nat) (y0 : Nat) (cc ss : Nat) (H : Heap) (locs : List Loc) (ls : Array Slot), m_X0_coset_75 f h x0 x1 x3 x4 x5 x8 x9 x11 y0 = some (r0, u9) → CW D dA A s h H locs → cc + u.1 = h.1 → ss + u.2.1 = h.2.1 → lv_has ls 19 [(0, .ref x0), (1, .int x1), (3, .int x3), (4, .int x4), (5, .int x5), (8, .ref x8), (9, .long x9), (11, .ref x11)] → W p l e (rm_X0_coset (u9.1 - u.1) (u9.2.1 - u.2.1)) s m args below meth c H locs cc ss QQ (F0 m 75 ls [.ref y0]) := by
    intro h x0 x1 x3 x4 x5 x8 x9 x11 y0 cc ss H locs ls hm hw hcc hss hl
    have hmo := mo_X0_coset_75  h x0 x1 x3 x4 x5 x8 x9 x11 y0 _ hm
    have sb_ : h.1 ≤ u9.1 := hmo.1
    have tb_ : h.2.1 ≤ u9.2.1 := hmo.2.1
    rw [m_X0_coset_75] at hm
    refine lv_astore (lv' := [(12, .ref y0), (0, .ref x0), (1, .int x1), (3, .int x3), (4, .int x4), (5, .int x5), (8, .ref x8), (9, .long x9), (11, .ref x11)]) hx hb dX0_coset_75 hl (by decide) rfl (fun ls hl => ?_)
    refine lv_iconst (v := 0) hx hb dX0_coset_77 (by decide) ?_
    refine lv_istore (lv' := [(13, .int (0 : Int32)), (12, .ref y0), (0, .ref x0), (1, .int x1), (3, .int x3), (4, .int x4), (5, .int x5), (8, .ref x8), (9, .long x9), (11, .ref x11)]) hx hb dX0_coset_78 hl (by decide) rfl (fun ls hl => ?_)
    exact hB80 f h x0 x1 x3 x4 x5 x8 x9 x11 y0 (0 : Int32) _ _ _ _ _ hm hw (by omega) (by omega) (lv_sub hl [2, 3, 4, 5, 6, 7, 8, 9, 1, 0] rfl)
  have hB67 : ∀ (h : CH) (x0 : Nat) (x1 : Int32) (x3 : Int32) (x4 : Int32) (x5 : Int32) (x8 : Nat) (x9 : Int64) (y0 : Nat) (cc ss : Nat) (H : Heap) (locs : List Loc) (ls : Array Slot), m_X0_coset_67 f h x0 x1 x3 x4 x5 x8 x9 y0 = some (r0, u9) → CW D dA A s h H locs → cc + u.1 = h.1 → ss + u.2.1 = h.2.1 → lv_has ls 19 [(0, .ref x0), (1, .int x1), (3, .int x3), (4, .int x4), (5, .int x5), (8, .ref x8), (9, .long x9)] → W p l e (rm_X0_coset (u9.1 - u.1) (u9.2.1 - u.2.1)) s m args below meth c H locs cc ss QQ (F0 m 67 ls [.ref y0]) := by
    intro h x0 x1 x3 x4 x5 x8 x9 y0 cc ss H locs ls hm hw hcc hss hl
    have hmo := mo_X0_coset_67  h x0 x1 x3 x4 x5 x8 x9 y0 _ hm
    have sb_ : h.1 ≤ u9.1 := hmo.1
    have tb_ : h.2.1 ≤ u9.2.1 := hmo.2.1
    rw [m_X0_coset_67] at hm
    obtain ⟨a1, ea1, hm⟩ := bdE hm
    refine cg_getN C hw (by decide) (oR_E ea1) rfl in_X8 (by decide) (hw.2.2.2.2.1 _ (List.mem_of_getElem? (i := 26) rfl)) dX0_coset_67 ?_
    refine lv_astore (lv' := [(11, .ref a1), (0, .ref x0), (1, .int x1), (3, .int x3), (4, .int x4), (5, .int x5), (8, .ref x8), (9, .long x9)]) hx hb dX0_coset_70 hl (by decide) rfl (fun ls hl => ?_)
    refine lv_iconst (v := 3) hx hb dX0_coset_72 (by decide) ?_
    obtain ⟨h2, eh2, hm⟩ := nmE hm
    obtain ⟨_, _, hmq⟩ := nmE hm
    have hmo := mo_X0_coset_75   h2 x0 x1 x3 x4 x5 x8 x9 a1 _ _ hmq
    have sh2 : h2.1 ≤ u9.1 := hmo.1
    have th2 : h2.2.1 ≤ u9.2.1 := hmo.2.1
    have zh2 := cn_sz eh2
    refine cg_newJ (C0 := C) hw (N := 3) (by decide) (by decide) (by decide) (show cc + 1 ≤ u9.1 - u.1 by omega) (show ss + 3 ≤ u9.2.1 - u.2.1 by omega) dX0_coset_73 (fun H hw => ?_)
    rw [← eh2] at hw
    refine lv_topr (fun a3 ea3 => ?_)
    have hm := nmK hm ea3
    exact hB75 h2 x0 x1 x3 x4 x5 x8 x9 a1 a3 _ _ _ _ _ hm hw (by omega) (by omega) (lv_sub hl [1, 2, 3, 4, 5, 6, 7, 0] rfl)
  have hB64 : ∀ (h : CH) (x0 : Nat) (x1 : Int32) (x3 : Int32) (x4 : Int32) (x5 : Int32) (x8 : Nat) (x9 : Int64) (y0 : Nat) (y1 : Nat) (y2 : Nat) (cc ss : Nat) (H : Heap) (locs : List Loc) (ls : Array Slot), m_X0_coset_64 f h x0 x1 x3 x4 x5 x8 x9 y0 y1 y2 = some (r0, u9) → CW D dA A s h H locs → cc + u.1 = h.1 → ss + u.2.1 = h.2.1 → lv_has ls 19 [(0, .ref x0), (1, .int x1), (3, .int x3), (4, .int x4), (5, .int x5), (8, .ref x8), (9, .long x9)] → W p l e (rm_X0_coset (u9.1 - u.1) (u9.2.1 - u.2.1)) s m args below meth c H locs cc ss QQ (F0 m 64 ls [.ref y2, .ref y1, .ref y0]) := by
    intro h x0 x1 x3 x4 x5 x8 x9 y0 y1 y2 cc ss H locs ls hm hw hcc hss hl
    have hmo := mo_X0_coset_64  h x0 x1 x3 x4 x5 x8 x9 y0 y1 y2 _ hm
    have sb_ : h.1 ≤ u9.1 := hmo.1
    have tb_ : h.2.1 ≤ u9.2.1 := hmo.2.1
    rw [m_X0_coset_64] at hm
    obtain ⟨h1, eh1, hm⟩ := bdE hm
    have lh1 := mo_X8_init eh1
    have ph1 : h.1 ≤ h1.1 := lh1.1
    have qh1 : h.2.1 ≤ h1.2.1 := lh1.2.1
    have hmo := mo_X0_coset_67   h1 x0 x1 x3 x4 x5 x8 x9 y0 _ hm
    have sh1 : h1.1 ≤ u9.1 := hmo.1
    have th1 : h1.2.1 ≤ u9.2.1 := hmo.2.1
    refine cg_callv hw lh1 (va_runI (As := [.ref y2]) (rest := [.ref y0]) ⟨hx, hb, hml, hown, hts⟩ (w_X8_init l eh1) (cw_X8_init hts q959 ⟨Nat.le_of_ble_eq_true rfl, Nat.le_of_ble_eq_true rfl⟩) (cg_preS C hw _) rfl rfl hl.1 rfl (lv_room (Nat.le_of_ble_eq_true rfl)) dX0_coset_64 ⟨show cc + (h1.1 - h.1) ≤ u9.1 - u.1 by omega, show ss + (h1.2.1 - h.2.1) ≤ u9.2.1 - u.2.1 by omega⟩) (fun H locs hw => ?_)
    exact hB67 h1 x0 x1 x3 x4 x5 x8 x9 y0 _ _ _ _ _ hm hw (by omega) (by omega) (lv_sub hl [0, 1, 2, 3, 4, 5, 6] rfl)
  have hB57 : ∀ (h : CH) (x0 : Nat) (x1 : Int32) (x2 : Int32) (x3 : Int32) (x4 : Int32) (x5 : Int32) (x8 : Nat) (x9 : Int64) (y0 : Nat) (cc ss : Nat) (H : Heap) (locs : List Loc) (ls : Array Slot), m_X0_coset_57 f h x0 x1 x2 x3 x4 x5 x8 x9 y0 = some (r0, u9) → CW D dA A s h H locs → cc + u.1 = h.1 → ss + u.2.1 = h.2.1 → lv_has ls 19 [(0, .ref x0), (1, .int x1), (2, .int x2), (3, .int x3), (4, .int x4), (5, .int x5), (8, .ref x8), (9, .long x9)] → W p l e (rm_X0_coset (u9.1 - u.1) (u9.2.1 - u.2.1)) s m args below meth c H locs cc ss QQ (F0 m 57 ls [.ref y0]) := by
    intro h x0 x1 x2 x3 x4 x5 x8 x9 y0 cc ss H locs ls hm hw hcc hss hl
    have hmo := mo_X0_coset_57  h x0 x1 x2 x3 x4 x5 x8 x9 y0 _ hm
    have sb_ : h.1 ≤ u9.1 := hmo.1
    have tb_ : h.2.1 ≤ u9.2.1 := hmo.2.1
    rw [m_X0_coset_57] at hm
    refine lv_dup hx hb dX0_coset_57 rfl ?_
    refine lv_aload_n hx hb dX0_coset_58 rfl (lv_at hl 0 rfl) ?_
    refine lv_iload_n hx hb dX0_coset_59 rfl (lv_at hl 1 rfl) ?_
    refine lv_iload_n hx hb dX0_coset_60 rfl (lv_at hl 2 rfl) ?_
    obtain ⟨g1, hm⟩ := gdE hm
    obtain ⟨a3, h2, ea3, hm⟩ := bd2E hm
    have lh2 := mo_X0_toldBy ea3
    have ph2 : h.1 ≤ h2.1 := lh2.1
    have qh2 : h.2.1 ≤ h2.2.1 := lh2.2.1
    have hmo := mo_X0_coset_64   h2 x0 x1 x3 x4 x5 x8 x9 y0 y0 a3 _ hm
    have sh2 : h2.1 ≤ u9.1 := hmo.1
    have th2 : h2.2.1 ≤ u9.2.1 := hmo.2.1
    refine cg_callr hw lh2 (va_runV (As := [.int x1, .int x2]) (rest := [.ref y0, .ref y0]) ⟨hx, hb, hml, hown, hts⟩ (w_X0_toldBy l ea3) (cw_X0_toldBy hts q1187 ⟨Nat.le_of_ble_eq_true rfl, Nat.le_of_ble_eq_true rfl⟩) (cg_preV C hw g1 rfl _) rfl rfl hl.1 rfl (lv_room (Nat.le_of_ble_eq_true rfl)) dX0_coset_61 ⟨show cc + (h2.1 - h.1) ≤ u9.1 - u.1 by omega, show ss + (h2.2.1 - h.2.1) ≤ u9.2.1 - u.2.1 by omega⟩) (fun H locs hw => ?_)
    exact hB64 h2 x0 x1 x3 x4 x5 x8 x9 y0 y0 a3 _ _ _ _ _ hm hw (by omega) (by omega) (lv_sub hl [0, 1, 3, 4, 5, 6, 7] rfl)
  have hB51 : ∀ (h : CH) (x0 : Nat) (x1 : Int32) (x2 : Int32) (x3 : Int32) (x4 : Int32) (x5 : Int32) (x8 : Nat) (y0 : Int64) (y1 : Int64) (cc ss : Nat) (H : Heap) (locs : List Loc) (ls : Array Slot), m_X0_coset_51 f h x0 x1 x2 x3 x4 x5 x8 y0 y1 = some (r0, u9) → CW D dA A s h H locs → cc + u.1 = h.1 → ss + u.2.1 = h.2.1 → lv_has ls 19 [(0, .ref x0), (1, .int x1), (2, .int x2), (3, .int x3), (4, .int x4), (5, .int x5), (8, .ref x8)] → W p l e (rm_X0_coset (u9.1 - u.1) (u9.2.1 - u.2.1)) s m args below meth c H locs cc ss QQ (F0 m 51 ls [.long y1, .long y0]) := by
    intro h x0 x1 x2 x3 x4 x5 x8 y0 y1 cc ss H locs ls hm hw hcc hss hl
    have hmo := mo_X0_coset_51  h x0 x1 x2 x3 x4 x5 x8 y0 y1 _ hm
    have sb_ : h.1 ≤ u9.1 := hmo.1
    have tb_ : h.2.1 ≤ u9.2.1 := hmo.2.1
    rw [m_X0_coset_51] at hm
    refine lv_lmul hx hb dX0_coset_51 ?_
    refine lv_topl (fun v1 ev1 => ?_)
    have hm := nmK hm ev1
    refine lv_lstore (lv' := [(9, .long v1), (0, .ref x0), (1, .int x1), (2, .int x2), (3, .int x3), (4, .int x4), (5, .int x5), (8, .ref x8)]) hx hb dX0_coset_52 hl (by decide) rfl (fun ls hl => ?_)
    obtain ⟨h2, eh2, hm⟩ := nmE hm
    obtain ⟨_, _, hmq⟩ := nmE hm
    have hmo := mo_X0_coset_57   h2 x0 x1 x2 x3 x4 x5 x8 v1 _ _ hmq
    have sh2 : h2.1 ≤ u9.1 := hmo.1
    have th2 : h2.2.1 ≤ u9.2.1 := hmo.2.1
    have zh2 := cn_sz eh2
    refine cg_new (C0 := C) hw (ci := 8) (fs := [.null, .null]) rfl in_X8 tyX8 tyX8_ok q957 q958 q145 (fun j hj => by rcases (show j = 0 ∨ j = 1 by omega) with rfl | rfl <;> rfl) (show cc + 1 ≤ u9.1 - u.1 by omega) (show ss + 2 ≤ u9.2.1 - u.2.1 by omega) dX0_coset_54 (fun H hw => ?_)
    rw [← eh2] at hw
    refine lv_topr (fun a3 ea3 => ?_)
    have hm := nmK hm ea3
    exact hB57 h2 x0 x1 x2 x3 x4 x5 x8 v1 a3 _ _ _ _ _ hm hw (by omega) (by omega) (lv_sub hl [1, 2, 3, 4, 5, 6, 7, 0] rfl)
  have hB48 : ∀ (h : CH) (x0 : Nat) (x1 : Int32) (x2 : Int32) (x3 : Int32) (x4 : Int32) (x5 : Int32) (x8 : Nat) (y0 : Int64) (y1 : Nat) (cc ss : Nat) (H : Heap) (locs : List Loc) (ls : Array Slot), m_X0_coset_48 f h x0 x1 x2 x3 x4 x5 x8 y0 y1 = some (r0, u9) → CW D dA A s h H locs → cc + u.1 = h.1 → ss + u.2.1 = h.2.1 → lv_has ls 19 [(0, .ref x0), (1, .int x1), (2, .int x2), (3, .int x3), (4, .int x4), (5, .int x5), (8, .ref x8)] → W p l e (rm_X0_coset (u9.1 - u.1) (u9.2.1 - u.2.1)) s m args below meth c H locs cc ss QQ (F0 m 48 ls [.ref y1, .long y0]) := by
    intro h x0 x1 x2 x3 x4 x5 x8 y0 y1 cc ss H locs ls hm hw hcc hss hl
    have hmo := mo_X0_coset_48  h x0 x1 x2 x3 x4 x5 x8 y0 y1 _ hm
    have sb_ : h.1 ≤ u9.1 := hmo.1
    have tb_ : h.2.1 ≤ u9.2.1 := hmo.2.1
    rw [m_X0_coset_48] at hm
    obtain ⟨g1, hm⟩ := gdE hm
    obtain ⟨r3, h2, er3, hm⟩ := bd2E hm
    have lh2 := mo_X2_determinant er3
    have ph2 : h.1 ≤ h2.1 := lh2.1
    have qh2 : h.2.1 ≤ h2.2.1 := lh2.2.1
    have hmo := mo_X0_coset_51   h2 x0 x1 x2 x3 x4 x5 x8 y0 r3 _ hm
    have sh2 : h2.1 ≤ u9.1 := hmo.1
    have th2 : h2.2.1 ≤ u9.2.1 := hmo.2.1
    refine cg_calll hw lh2 (va_runV (As := []) (rest := [.long y0]) ⟨hx, hb, hml, hown, hts⟩ (w_X2_determinant l er3) (cw_X2_determinant hts q1060 ⟨Nat.le_of_ble_eq_true rfl, Nat.le_of_ble_eq_true rfl⟩) (cg_preV C hw g1 rfl _) rfl rfl hl.1 rfl (lv_room (Nat.le_of_ble_eq_true rfl)) dX0_coset_48 ⟨show cc + (h2.1 - h.1) ≤ u9.1 - u.1 by omega, show ss + (h2.2.1 - h.2.1) ≤ u9.2.1 - u.2.1 by omega⟩) (fun H locs hw => ?_)
    exact hB51 h2 x0 x1 x2 x3 x4 x5 x8 y0 r3 _ _ _ _ _ hm hw (by omega) (by omega) (lv_sub hl [0, 1, 2, 3, 4, 5, 6] rfl)
  have hB45 : ∀ (h : CH) (x0 : Nat) (x1 : Int32) (x2 : Int32) (x3 : Int32) (x4 : Int32) (x5 : Int32) (x8 : Nat) (y0 : Int64) (y1 : Nat) (cc ss : Nat) (H : Heap) (locs : List Loc) (ls : Array Slot), m_X0_coset_45 f h x0 x1 x2 x3 x4 x5 x8 y0 y1 = some (r0, u9) → CW D dA A s h H locs → cc + u.1 = h.1 → ss + u.2.1 = h.2.1 → lv_has ls 19 [(0, .ref x0), (1, .int x1), (2, .int x2), (3, .int x3), (4, .int x4), (5, .int x5), (8, .ref x8)] → W p l e (rm_X0_coset (u9.1 - u.1) (u9.2.1 - u.2.1)) s m args below meth c H locs cc ss QQ (F0 m 45 ls [.ref y1, .long y0]) := by
    intro h x0 x1 x2 x3 x4 x5 x8 y0 y1 cc ss H locs ls hm hw hcc hss hl
    have hmo := mo_X0_coset_45  h x0 x1 x2 x3 x4 x5 x8 y0 y1 _ hm
    have sb_ : h.1 ≤ u9.1 := hmo.1
    have tb_ : h.2.1 ≤ u9.2.1 := hmo.2.1
    rw [m_X0_coset_45] at hm
    by_cases c1 : isC h y1 6 = true
    · have hm := ifT hm c1
      obtain ⟨a3, h2, ea3, hm⟩ := bd2E hm
      have lh2 := mo_X6_rows ea3
      have ph2 : h.1 ≤ h2.1 := lh2.1
      have qh2 : h.2.1 ≤ h2.2.1 := lh2.2.1
      have hmo := mo_X0_coset_48   h2 x0 x1 x2 x3 x4 x5 x8 y0 a3 _ hm
      have sh2 : h2.1 ≤ u9.1 := hmo.1
      have th2 : h2.2.1 ≤ u9.2.1 := hmo.2.1
      refine cg_callr hw lh2 (va_runV (As := []) (rest := [.long y0]) ⟨hx, hb, hml, hown, hts⟩ (w_X6_rows l ea3) (cw_X6_rows hts q904 ⟨Nat.le_of_ble_eq_true rfl, Nat.le_of_ble_eq_true rfl⟩) (cg_preV C hw c1 rfl _) rfl rfl hl.1 rfl (lv_room (Nat.le_of_ble_eq_true rfl)) dX0_coset_45 ⟨show cc + (h2.1 - h.1) ≤ u9.1 - u.1 by omega, show ss + (h2.2.1 - h.2.1) ≤ u9.2.1 - u.2.1 by omega⟩) (fun H locs hw => ?_)
      exact hB48 h2 x0 x1 x2 x3 x4 x5 x8 y0 a3 _ _ _ _ _ hm hw (by omega) (by omega) (lv_sub hl [0, 1, 2, 3, 4, 5, 6] rfl)
    · have hm := ifF hm c1
      obtain ⟨g4, hm⟩ := gdE hm
      obtain ⟨a6, h5, ea6, hm⟩ := bd2E hm
      have lh5 := mo_X7_rows ea6
      have ph5 : h.1 ≤ h5.1 := lh5.1
      have qh5 : h.2.1 ≤ h5.2.1 := lh5.2.1
      have hmo := mo_X0_coset_48   h5 x0 x1 x2 x3 x4 x5 x8 y0 a6 _ hm
      have sh5 : h5.1 ≤ u9.1 := hmo.1
      have th5 : h5.2.1 ≤ u9.2.1 := hmo.2.1
      refine cg_callr hw lh5 (va_runU (As := []) (rest := [.long y0]) ⟨hx, hb, hml, hown, hts⟩ (w_X7_rows l ea6) (va_cwO 0 hts (lwO q904 q907 q905 q908 q909 q144 q910) rfl rfl rfl q940 (by decide +kernel) ⟨Nat.le_of_ble_eq_true rfl, Nat.le_of_ble_eq_true rfl⟩) (cg_preV C hw g4 rfl _) rfl rfl hl.1 rfl (lv_room (Nat.le_of_ble_eq_true rfl)) dX0_coset_45 ⟨show cc + (h5.1 - h.1) ≤ u9.1 - u.1 by omega, show ss + (h5.2.1 - h.2.1) ≤ u9.2.1 - u.2.1 by omega⟩) (fun H locs hw => ?_)
      exact hB48 h5 x0 x1 x2 x3 x4 x5 x8 y0 a6 _ _ _ _ _ hm hw (by omega) (by omega) (lv_sub hl [0, 1, 2, 3, 4, 5, 6] rfl)
  have hB35 : ∀ (h : CH) (x0 : Nat) (x1 : Int32) (x2 : Int32) (x3 : Int32) (x4 : Int32) (x5 : Int32) (x6 : Int32) (y0 : Nat) (cc ss : Nat) (H : Heap) (locs : List Loc) (ls : Array Slot), m_X0_coset_35 f h x0 x1 x2 x3 x4 x5 x6 y0 = some (r0, u9) → CW D dA A s h H locs → cc + u.1 = h.1 → ss + u.2.1 = h.2.1 → lv_has ls 19 [(0, .ref x0), (1, .int x1), (2, .int x2), (3, .int x3), (4, .int x4), (5, .int x5), (6, .int x6)] → W p l e (rm_X0_coset (u9.1 - u.1) (u9.2.1 - u.2.1)) s m args below meth c H locs cc ss QQ (F0 m 35 ls [.ref y0]) := by
    intro h x0 x1 x2 x3 x4 x5 x6 y0 cc ss H locs ls hm hw hcc hss hl
    have hmo := mo_X0_coset_35  h x0 x1 x2 x3 x4 x5 x6 y0 _ hm
    have sb_ : h.1 ≤ u9.1 := hmo.1
    have tb_ : h.2.1 ≤ u9.2.1 := hmo.2.1
    rw [m_X0_coset_35] at hm
    refine lv_astore (lv' := [(8, .ref y0), (0, .ref x0), (1, .int x1), (2, .int x2), (3, .int x3), (4, .int x4), (5, .int x5), (6, .int x6)]) hx hb dX0_coset_35 hl (by decide) rfl (fun ls hl => ?_)
    refine lv_iload hx hb dX0_coset_37 (lv_at hl 7 rfl) ?_
    refine lv_i2l hx hb dX0_coset_39 rfl ?_
    refine lv_aload_n hx hb dX0_coset_40 rfl (lv_at hl 1 rfl) ?_
    refine lv_iload_n hx hb dX0_coset_41 rfl (lv_at hl 2 rfl) ?_
    obtain ⟨g1, hm⟩ := gdE hm
    obtain ⟨a3, h2, ea3, hm⟩ := bd2E hm
    have lh2 := mo_X0_at ea3
    have ph2 : h.1 ≤ h2.1 := lh2.1
    have qh2 : h.2.1 ≤ h2.2.1 := lh2.2.1
    have hmo := mo_X0_coset_45   h2 x0 x1 x2 x3 x4 x5 y0 (Int32.toInt64 x6) a3 _ hm
    have sh2 : h2.1 ≤ u9.1 := hmo.1
    have th2 : h2.2.1 ≤ u9.2.1 := hmo.2.1
    refine cg_callr hw lh2 (va_runV (As := [.int x1]) (rest := [.long (Int32.toInt64 x6)]) ⟨hx, hb, hml, hown, hts⟩ (w_X0_at l ea3) (cw_X0_at hts q900 ⟨Nat.le_of_ble_eq_true rfl, Nat.le_of_ble_eq_true rfl⟩) (cg_preV C hw g1 rfl _) rfl rfl hl.1 rfl (lv_room (Nat.le_of_ble_eq_true rfl)) dX0_coset_42 ⟨show cc + (h2.1 - h.1) ≤ u9.1 - u.1 by omega, show ss + (h2.2.1 - h.2.1) ≤ u9.2.1 - u.2.1 by omega⟩) (fun H locs hw => ?_)
    exact hB45 h2 x0 x1 x2 x3 x4 x5 y0 (Int32.toInt64 x6) a3 _ _ _ _ _ hm hw (by omega) (by omega) (lv_sub hl [1, 2, 3, 4, 5, 6, 0] rfl)
  have hB32 : ∀ (h : CH) (x0 : Nat) (x1 : Int32) (x2 : Int32) (x3 : Int32) (x4 : Int32) (x5 : Int32) (x6 : Int32) (y0 : Nat) (cc ss : Nat) (H : Heap) (locs : List Loc) (ls : Array Slot), m_X0_coset_32 f h x0 x1 x2 x3 x4 x5 x6 y0 = some (r0, u9) → CW D dA A s h H locs → cc + u.1 = h.1 → ss + u.2.1 = h.2.1 → lv_has ls 19 [(0, .ref x0), (1, .int x1), (2, .int x2), (3, .int x3), (4, .int x4), (5, .int x5), (6, .int x6)] → W p l e (rm_X0_coset (u9.1 - u.1) (u9.2.1 - u.2.1)) s m args below meth c H locs cc ss QQ (F0 m 32 ls [.ref y0]) := by
    intro h x0 x1 x2 x3 x4 x5 x6 y0 cc ss H locs ls hm hw hcc hss hl
    have hmo := mo_X0_coset_32  h x0 x1 x2 x3 x4 x5 x6 y0 _ hm
    have sb_ : h.1 ≤ u9.1 := hmo.1
    have tb_ : h.2.1 ≤ u9.2.1 := hmo.2.1
    rw [m_X0_coset_32] at hm
    obtain ⟨g1, hm⟩ := gdE hm
    obtain ⟨a3, h2, ea3, hm⟩ := bd2E hm
    have lh2 := mo_X2_adjoint ea3
    have ph2 : h.1 ≤ h2.1 := lh2.1
    have qh2 : h.2.1 ≤ h2.2.1 := lh2.2.1
    have hmo := mo_X0_coset_35   h2 x0 x1 x2 x3 x4 x5 x6 a3 _ hm
    have sh2 : h2.1 ≤ u9.1 := hmo.1
    have th2 : h2.2.1 ≤ u9.2.1 := hmo.2.1
    refine cg_callr hw lh2 (va_runV (As := []) (rest := []) ⟨hx, hb, hml, hown, hts⟩ (w_X2_adjoint l ea3) (cw_X2_adjoint hts q1088 ⟨Nat.le_of_ble_eq_true rfl, Nat.le_of_ble_eq_true rfl⟩) (cg_preV C hw g1 rfl _) rfl rfl hl.1 rfl (lv_room (Nat.le_of_ble_eq_true rfl)) dX0_coset_32 ⟨show cc + (h2.1 - h.1) ≤ u9.1 - u.1 by omega, show ss + (h2.2.1 - h.2.1) ≤ u9.2.1 - u.2.1 by omega⟩) (fun H locs hw => ?_)
    exact hB35 h2 x0 x1 x2 x3 x4 x5 x6 a3 _ _ _ _ _ hm hw (by omega) (by omega) (lv_sub hl [0, 1, 2, 3, 4, 5, 6] rfl)
  have hB29 : ∀ (h : CH) (x0 : Nat) (x1 : Int32) (x2 : Int32) (x3 : Int32) (x4 : Int32) (x5 : Int32) (x6 : Int32) (y0 : Nat) (cc ss : Nat) (H : Heap) (locs : List Loc) (ls : Array Slot), m_X0_coset_29 f h x0 x1 x2 x3 x4 x5 x6 y0 = some (r0, u9) → CW D dA A s h H locs → cc + u.1 = h.1 → ss + u.2.1 = h.2.1 → lv_has ls 19 [(0, .ref x0), (1, .int x1), (2, .int x2), (3, .int x3), (4, .int x4), (5, .int x5), (6, .int x6)] → W p l e (rm_X0_coset (u9.1 - u.1) (u9.2.1 - u.2.1)) s m args below meth c H locs cc ss QQ (F0 m 29 ls [.ref y0]) := by
    intro h x0 x1 x2 x3 x4 x5 x6 y0 cc ss H locs ls hm hw hcc hss hl
    have hmo := mo_X0_coset_29  h x0 x1 x2 x3 x4 x5 x6 y0 _ hm
    have sb_ : h.1 ≤ u9.1 := hmo.1
    have tb_ : h.2.1 ≤ u9.2.1 := hmo.2.1
    rw [m_X0_coset_29] at hm
    by_cases c1 : isC h y0 6 = true
    · have hm := ifT hm c1
      obtain ⟨a3, h2, ea3, hm⟩ := bd2E hm
      have lh2 := mo_X6_rows ea3
      have ph2 : h.1 ≤ h2.1 := lh2.1
      have qh2 : h.2.1 ≤ h2.2.1 := lh2.2.1
      have hmo := mo_X0_coset_32   h2 x0 x1 x2 x3 x4 x5 x6 a3 _ hm
      have sh2 : h2.1 ≤ u9.1 := hmo.1
      have th2 : h2.2.1 ≤ u9.2.1 := hmo.2.1
      refine cg_callr hw lh2 (va_runV (As := []) (rest := []) ⟨hx, hb, hml, hown, hts⟩ (w_X6_rows l ea3) (cw_X6_rows hts q904 ⟨Nat.le_of_ble_eq_true rfl, Nat.le_of_ble_eq_true rfl⟩) (cg_preV C hw c1 rfl _) rfl rfl hl.1 rfl (lv_room (Nat.le_of_ble_eq_true rfl)) dX0_coset_29 ⟨show cc + (h2.1 - h.1) ≤ u9.1 - u.1 by omega, show ss + (h2.2.1 - h.2.1) ≤ u9.2.1 - u.2.1 by omega⟩) (fun H locs hw => ?_)
      exact hB32 h2 x0 x1 x2 x3 x4 x5 x6 a3 _ _ _ _ _ hm hw (by omega) (by omega) (lv_sub hl [0, 1, 2, 3, 4, 5, 6] rfl)
    · have hm := ifF hm c1
      obtain ⟨g4, hm⟩ := gdE hm
      obtain ⟨a6, h5, ea6, hm⟩ := bd2E hm
      have lh5 := mo_X7_rows ea6
      have ph5 : h.1 ≤ h5.1 := lh5.1
      have qh5 : h.2.1 ≤ h5.2.1 := lh5.2.1
      have hmo := mo_X0_coset_32   h5 x0 x1 x2 x3 x4 x5 x6 a6 _ hm
      have sh5 : h5.1 ≤ u9.1 := hmo.1
      have th5 : h5.2.1 ≤ u9.2.1 := hmo.2.1
      refine cg_callr hw lh5 (va_runU (As := []) (rest := []) ⟨hx, hb, hml, hown, hts⟩ (w_X7_rows l ea6) (va_cwO 0 hts (lwO q904 q907 q905 q908 q909 q144 q910) rfl rfl rfl q940 (by decide +kernel) ⟨Nat.le_of_ble_eq_true rfl, Nat.le_of_ble_eq_true rfl⟩) (cg_preV C hw g4 rfl _) rfl rfl hl.1 rfl (lv_room (Nat.le_of_ble_eq_true rfl)) dX0_coset_29 ⟨show cc + (h5.1 - h.1) ≤ u9.1 - u.1 by omega, show ss + (h5.2.1 - h.2.1) ≤ u9.2.1 - u.2.1 by omega⟩) (fun H locs hw => ?_)
      exact hB32 h5 x0 x1 x2 x3 x4 x5 x6 a6 _ _ _ _ _ hm hw (by omega) (by omega) (lv_sub hl [0, 1, 2, 3, 4, 5, 6] rfl)
  have hB13 : ∀ (h : CH) (x0 : Nat) (x1 : Int32) (x2 : Int32) (x3 : Int32) (x4 : Int32) (x5 : Int32) (x6 : Int32) (y0 : Int32) (cc ss : Nat) (H : Heap) (locs : List Loc) (ls : Array Slot), m_X0_coset_13 f h x0 x1 x2 x3 x4 x5 x6 y0 = some (r0, u9) → CW D dA A s h H locs → cc + u.1 = h.1 → ss + u.2.1 = h.2.1 → lv_has ls 19 [(0, .ref x0), (1, .int x1), (2, .int x2), (3, .int x3), (4, .int x4), (5, .int x5), (6, .int x6)] → W p l e (rm_X0_coset (u9.1 - u.1) (u9.2.1 - u.2.1)) s m args below meth c H locs cc ss QQ (F0 m 13 ls [.int y0]) := by
    intro h x0 x1 x2 x3 x4 x5 x6 y0 cc ss H locs ls hm hw hcc hss hl
    have hmo := mo_X0_coset_13  h x0 x1 x2 x3 x4 x5 x6 y0 _ hm
    have sb_ : h.1 ≤ u9.1 := hmo.1
    have tb_ : h.2.1 ≤ u9.2.1 := hmo.2.1
    rw [m_X0_coset_13] at hm
    refine lv_istore (lv' := [(7, .int y0), (0, .ref x0), (1, .int x1), (2, .int x2), (3, .int x3), (4, .int x4), (5, .int x5), (6, .int x6)]) hx hb dX0_coset_13 hl (by decide) rfl (fun ls hl => ?_)
    refine lv_iload hx hb dX0_coset_15 (lv_at hl 0 rfl) ?_
    refine lv_if_ge (tgt := 24) hx hb dX0_coset_17 (by decide) (fun c1 => ?_) (fun c1 => ?_)
    · have hm := ifT hm c1
      refine lv_aload_n hx hb dX0_coset_24 rfl (lv_at hl 1 rfl) ?_
      refine lv_iload_n hx hb dX0_coset_25 rfl (lv_at hl 2 rfl) ?_
      obtain ⟨g2, hm⟩ := gdE hm
      obtain ⟨a4, h3, ea4, hm⟩ := bd2E hm
      have lh3 := mo_X0_at ea4
      have ph3 : h.1 ≤ h3.1 := lh3.1
      have qh3 : h.2.1 ≤ h3.2.1 := lh3.2.1
      have hmo := mo_X0_coset_29   h3 x0 x1 x2 x3 x4 x5 x6 a4 _ hm
      have sh3 : h3.1 ≤ u9.1 := hmo.1
      have th3 : h3.2.1 ≤ u9.2.1 := hmo.2.1
      refine cg_callr hw lh3 (va_runV (As := [.int x1]) (rest := []) ⟨hx, hb, hml, hown, hts⟩ (w_X0_at l ea4) (cw_X0_at hts q900 ⟨Nat.le_of_ble_eq_true rfl, Nat.le_of_ble_eq_true rfl⟩) (cg_preV C hw g2 rfl _) rfl rfl hl.1 rfl (lv_room (Nat.le_of_ble_eq_true rfl)) dX0_coset_26 ⟨show cc + (h3.1 - h.1) ≤ u9.1 - u.1 by omega, show ss + (h3.2.1 - h.2.1) ≤ u9.2.1 - u.2.1 by omega⟩) (fun H locs hw => ?_)
      exact hB29 h3 x0 x1 x2 x3 x4 x5 x6 a4 _ _ _ _ _ hm hw (by omega) (by omega) (lv_sub hl [1, 2, 3, 4, 5, 6, 7] rfl)
    · have hm := ifF hm c1
      refine lv_iload hx hb dX0_coset_20 (lv_at hl 0 rfl) ?_
      refine lv_i2l hx hb dX0_coset_22 rfl ?_
      obtain ⟨er, eh⟩ := retE hm
      have ec : cc = u9.1 - u.1 := by rw [← eh]; omega
      have es : ss = u9.2.1 - u.2.1 := by rw [← eh]; omega
      rw [ec, es, ← hQ]
      exact W.lret (v := (Int32.toInt64 y0)) hx hb hr (fun t ht hW => ⟨⟨(Int32.toInt64 y0), h, rfl, ⟨er, eh⟩, ⟨by rw [ht]; exact hw.1, by rw [ht]; exact hw.2.1⟩⟩, hw.2.2.1.F ht⟩) hw.2.2.1.2.2 dX0_coset_23
  rw [m_X0_coset] at hm
  refine lv_aload_n hx hb dX0_coset_0 rfl (lv_at hl 0 rfl) ?_
  refine lv_iload_n hx hb dX0_coset_1 rfl (lv_at hl 1 rfl) ?_
  refine lv_iload_n hx hb dX0_coset_2 rfl (lv_at hl 2 rfl) ?_
  refine lv_iload_n hx hb dX0_coset_3 rfl (lv_at hl 3 rfl) ?_
  refine lv_iload hx hb dX0_coset_4 (lv_at hl 4 rfl) ?_
  refine lv_iload hx hb dX0_coset_6 (lv_at hl 5 rfl) ?_
  refine lv_iload hx hb dX0_coset_8 (lv_at hl 6 rfl) ?_
  obtain ⟨g1, hm⟩ := gdE hm
  obtain ⟨r3, h2, er3, hm⟩ := bd2E hm
  have lh2 := mo_X0_asksPoint er3
  have ph2 : u.1 ≤ h2.1 := lh2.1
  have qh2 : u.2.1 ≤ h2.2.1 := lh2.2.1
  have hmo := mo_X0_coset_13   h2 x0 x1 x2 x3 x4 x5 x6 r3 _ hm
  have sh2 : h2.1 ≤ u9.1 := hmo.1
  have th2 : h2.2.1 ≤ u9.2.1 := hmo.2.1
  refine cg_calli hw lh2 (va_runV (As := [.int x1, .int x2, .int x3, .int x4, .int x5, .int x6]) (rest := []) ⟨hx, hb, hml, hown, hts⟩ (w_X0_asksPoint l er3) (cw_X0_asksPoint hts q1200 ⟨Nat.le_of_ble_eq_true rfl, Nat.le_of_ble_eq_true rfl⟩) (cg_preV C hw g1 rfl _) rfl rfl hl.1 rfl (lv_room (Nat.le_of_ble_eq_true rfl)) dX0_coset_10 ⟨show cc + (h2.1 - u.1) ≤ u9.1 - u.1 by omega, show ss + (h2.2.1 - u.2.1) ≤ u9.2.1 - u.2.1 by omega⟩) (fun H locs hw => ?_)
  exact hB13 h2 x0 x1 x2 x3 x4 x5 x6 r3 _ _ _ _ _ hm hw (by omega) (by omega) (lv_sub hl [0, 1, 2, 3, 4, 5, 6] rfl)
def m_X0_laysTurn (f : Nat) (u : CH) (x0 : Nat) (x1 : Int32) (x2 : Int32) (x3 : Int32) (x4 : Int32) : Option (Int32 × CH) := bd (oR u 1 8 x0) fun a1 =>
    bd (aR u 5 a1 (0 : Int32)) fun a2 =>
    bd (uI u 0 a2 (0 : Int32) ((((x1 * x1) + (x2 * x2)) - (x3 * x3)) - (x4 * x4))) fun h3 =>
    bd (oR h3 1 8 x0) fun a4 =>
    bd (aR h3 5 a4 (0 : Int32)) fun a5 =>
    bd (uI h3 0 a5 (1 : Int32) ((2 : Int32) * ((x2 * x3) - (x1 * x4)))) fun h6 =>
    bd (oR h6 1 8 x0) fun a7 =>
    bd (aR h6 5 a7 (0 : Int32)) fun a8 =>
    bd (uI h6 0 a8 (2 : Int32) ((2 : Int32) * ((x2 * x4) + (x1 * x3)))) fun h9 =>
    bd (oR h9 1 8 x0) fun a10 =>
    bd (aR h9 5 a10 (1 : Int32)) fun a11 =>
    bd (uI h9 0 a11 (0 : Int32) ((2 : Int32) * ((x2 * x3) + (x1 * x4)))) fun h12 =>
    bd (oR h12 1 8 x0) fun a13 =>
    bd (aR h12 5 a13 (1 : Int32)) fun a14 =>
    bd (uI h12 0 a14 (1 : Int32) ((((x1 * x1) - (x2 * x2)) + (x3 * x3)) - (x4 * x4))) fun h15 =>
    bd (oR h15 1 8 x0) fun a16 =>
    bd (aR h15 5 a16 (1 : Int32)) fun a17 =>
    bd (uI h15 0 a17 (2 : Int32) ((2 : Int32) * ((x3 * x4) - (x1 * x2)))) fun h18 =>
    bd (oR h18 1 8 x0) fun a19 =>
    bd (aR h18 5 a19 (2 : Int32)) fun a20 =>
    bd (uI h18 0 a20 (0 : Int32) ((2 : Int32) * ((x2 * x4) - (x1 * x3)))) fun h21 =>
    bd (oR h21 1 8 x0) fun a22 =>
    bd (aR h21 5 a22 (2 : Int32)) fun a23 =>
    bd (uI h21 0 a23 (1 : Int32) ((2 : Int32) * ((x3 * x4) + (x1 * x2)))) fun h24 =>
    bd (oR h24 1 8 x0) fun a25 =>
    bd (aR h24 5 a25 (2 : Int32)) fun a26 =>
    bd (uI h24 0 a26 (2 : Int32) ((((x1 * x1) - (x2 * x2)) - (x3 * x3)) + (x4 * x4))) fun h27 =>
    some (((((x1 * x1) + (x2 * x2)) + (x3 * x3)) + (x4 * x4)), h27)
theorem mo_X0_laysTurn {f : Nat} {u : CH} {x0 : Nat} {x1 : Int32} {x2 : Int32} {x3 : Int32} {x4 : Int32} {r0 : Int32} {u9 : CH} (hm : m_X0_laysTurn f u x0 x1 x2 x3 x4 = some (r0, u9)) : le2 u u9 := by
  rw [m_X0_laysTurn] at hm
  obtain ⟨a1, ea1, hm⟩ := bdE hm
  obtain ⟨a2, ea2, hm⟩ := bdE hm
  obtain ⟨h3, eh3, hm⟩ := bdE hm
  have lh3 := uI_le eh3
  obtain ⟨a4, ea4, hm⟩ := bdE hm
  obtain ⟨a5, ea5, hm⟩ := bdE hm
  obtain ⟨h6, eh6, hm⟩ := bdE hm
  have lh6 := uI_le eh6
  obtain ⟨a7, ea7, hm⟩ := bdE hm
  obtain ⟨a8, ea8, hm⟩ := bdE hm
  obtain ⟨h9, eh9, hm⟩ := bdE hm
  have lh9 := uI_le eh9
  obtain ⟨a10, ea10, hm⟩ := bdE hm
  obtain ⟨a11, ea11, hm⟩ := bdE hm
  obtain ⟨h12, eh12, hm⟩ := bdE hm
  have lh12 := uI_le eh12
  obtain ⟨a13, ea13, hm⟩ := bdE hm
  obtain ⟨a14, ea14, hm⟩ := bdE hm
  obtain ⟨h15, eh15, hm⟩ := bdE hm
  have lh15 := uI_le eh15
  obtain ⟨a16, ea16, hm⟩ := bdE hm
  obtain ⟨a17, ea17, hm⟩ := bdE hm
  obtain ⟨h18, eh18, hm⟩ := bdE hm
  have lh18 := uI_le eh18
  obtain ⟨a19, ea19, hm⟩ := bdE hm
  obtain ⟨a20, ea20, hm⟩ := bdE hm
  obtain ⟨h21, eh21, hm⟩ := bdE hm
  have lh21 := uI_le eh21
  obtain ⟨a22, ea22, hm⟩ := bdE hm
  obtain ⟨a23, ea23, hm⟩ := bdE hm
  obtain ⟨h24, eh24, hm⟩ := bdE hm
  have lh24 := uI_le eh24
  obtain ⟨a25, ea25, hm⟩ := bdE hm
  obtain ⟨a26, ea26, hm⟩ := bdE hm
  obtain ⟨h27, eh27, hm⟩ := bdE hm
  have lh27 := uI_le eh27
  cases hm
  exact (lh3.tr (lh6.tr (lh9.tr (lh12.tr (lh15.tr (lh18.tr (lh21.tr (lh24.tr (lh27.tr le2.rf)))))))))
abbrev rm_X0_laysTurn (mc ms : Nat) : Room := { frames := 0, cells := mc, slots := ms, locals := 0 }
theorem cw_X0_laysTurn {R : Room} {s : State} {args : Array Value} {own : String} {idx mc ms : Nat} (hts : ∀ w ∈ lw_all, w.before args s = true) (hl : Cond.methodLink own idx yX0_laysTurn ∈ lw_all) (hR : 0 + 1 ≤ R.frames ∧ 8 + (5 + 11) + 0 ≤ R.locals) : CallW R s args own RX0 idx yX0_laysTurn cX0_laysTurn 5 (Option.some Jvm.ClassFile.FieldType.int) (ws_ yX0_laysTurn cX0_laysTurn 5 (Option.some Jvm.ClassFile.FieldType.int)) (rm_X0_laysTurn mc ms) mc ms 4 := cwV 4 hts (lw_V hl q1347 qs46 q119 q1348) rfl rfl rfl (by decide +kernel) hR
set_option maxHeartbeats 4000000 in
set_option maxRecDepth 100000 in
theorem w_X0_laysTurn (l : Launch) {D : va_G} {dA : Nat → ClassId} {A : Nat → Prop} {f : Nat} {u u9 : CH} {r0 : Int32} {x0 : Nat} {x1 : Int32} {x2 : Int32} {x3 : Int32} {x4 : Int32} (hm : m_X0_laysTurn f u x0 x1 x2 x3 x4 = some (r0, u9)) : Met l yX0_laysTurn (ws_ yX0_laysTurn cX0_laysTurn 5 (Option.some Jvm.ClassFile.FieldType.int)) (rm_X0_laysTurn (u9.1 - u.1) (u9.2.1 - u.2.1)) (va_Pc [.ref x0, .int x1, .int x2, .int x3, .int x4] (CPre D dA A u)) (va_Qi (fun r u => r = r0 ∧ u = u9) (CPost D dA A) A) (u9.1 - u.1) (u9.2.1 - u.2.1) A := by
  refine Met.ofW (cc := cX0_laysTurn) (maxL := 5) (ret := (Option.some Jvm.ClassFile.FieldType.int)) (by decide) rfl ?_
  intro p e s m args below meth c s₁ B hml hv
  have hx := B.exec
  have hb := B.bytes
  have hr := B.returns
  have hts := atoms_spec (ws := (ws_ yX0_laysTurn cX0_laysTurn 5 (Option.some Jvm.ClassFile.FieldType.int))) B.pre
  have hts : ∀ w ∈ lw_all, w.before args s = true := fun w h => hts w (List.mem_cons_of_mem _ h)
  have hown : s.vm.findClass RX0 = some m.cls := findClass_of_methodNamed B.named
  have hlocks := B.notSynchronized
  obtain ⟨hav, hv⟩ := hv
  have C : CX p s m args c cX0_laysTurn RX0 D dA := ⟨hx, hb, hown, hts, hv.2⟩
  have hw : CW D dA A s u s.heap [] := hv.1
  generalize hQ : MQ below (va_Qi (fun r u => r = r0 ∧ u = u9) (CPost D dA A) A) args s (u9.1 - u.1) (u9.2.1 - u.2.1) A = QQ
  have hent := lg_entry_eq m [.ref x0, .int x1, .int x2, .int x3, .int x4] 5
  rw [← hav] at hent
  rw [hent]
  have hl := lv_entry ([.ref x0, .int x1, .int x2, .int x3, .int x4]) (n := 5) (Nat.le_of_ble_eq_true rfl)
  generalize (lg_sl ([.ref x0, .int x1, .int x2, .int x3, .int x4]) ++ List.replicate (5 - (lg_sl ([.ref x0, .int x1, .int x2, .int x3, .int x4])).length) Slot.unset).toArray = ls at hl ⊢
  have hl : lv_has ls 5 [(0, .ref x0), (1, .int x1), (2, .int x2), (3, .int x3), (4, .int x4)] := hl
  obtain ⟨cc, ecc⟩ : ∃ z : Nat, z = 0 := ⟨0, rfl⟩
  obtain ⟨ss, ess⟩ : ∃ z : Nat, z = 0 := ⟨0, rfl⟩
  have hcc : cc + u.1 = u.1 := by omega
  have hss : ss + u.2.1 = u.2.1 := by omega
  suffices hgo : W p l e (rm_X0_laysTurn (u9.1 - u.1) (u9.2.1 - u.2.1)) s m args below meth c s.heap [] cc ss QQ (F0 m 0 ls []) by rw [ecc, ess] at hgo; exact hgo
  have ⟨pu, qu, _, _⟩ := mo_X0_laysTurn hm
  rw [m_X0_laysTurn] at hm
  refine lv_aload_n hx hb dX0_laysTurn_0 rfl (lv_at hl 0 rfl) ?_
  obtain ⟨a1, ea1, hm⟩ := bdE hm
  refine cg_get C hw (oR_E ea1) rfl in_X0 (by decide) q247 dX0_laysTurn_1 ?_
  refine lv_iconst (v := 0) hx hb dX0_laysTurn_4 (by decide) ?_
  obtain ⟨a2, ea2, hm⟩ := bdE hm
  refine cg_aaldA C hw (ty := .array .int) rfl rfl (aR_E ea2) dX0_laysTurn_5 ?_
  refine lv_iconst (v := 0) hx hb dX0_laysTurn_6 (by decide) ?_
  refine lv_iload_n hx hb dX0_laysTurn_7 rfl (lv_at hl 1 rfl) ?_
  refine lv_iload_n hx hb dX0_laysTurn_8 rfl (lv_at hl 1 rfl) ?_
  refine lv_imul hx hb dX0_laysTurn_9 ?_
  refine lv_iload_n hx hb dX0_laysTurn_10 rfl (lv_at hl 2 rfl) ?_
  refine lv_iload_n hx hb dX0_laysTurn_11 rfl (lv_at hl 2 rfl) ?_
  refine lv_imul hx hb dX0_laysTurn_12 ?_
  refine lv_iadd hx hb dX0_laysTurn_13 ?_
  refine lv_iload_n hx hb dX0_laysTurn_14 rfl (lv_at hl 3 rfl) ?_
  refine lv_iload_n hx hb dX0_laysTurn_15 rfl (lv_at hl 3 rfl) ?_
  refine lv_imul hx hb dX0_laysTurn_16 ?_
  refine lv_isub hx hb dX0_laysTurn_17 ?_
  refine lv_iload hx hb dX0_laysTurn_18 (lv_at hl 4 rfl) ?_
  refine lv_iload hx hb dX0_laysTurn_20 (lv_at hl 4 rfl) ?_
  refine lv_imul hx hb dX0_laysTurn_22 ?_
  refine lv_isub hx hb dX0_laysTurn_23 ?_
  obtain ⟨h3, eh3, hm⟩ := bdE hm
  refine cg_iast C hw eh3 dX0_laysTurn_24 (fun H locs hw => ?_)
  have zh3 := uI_sz eh3
  refine lv_aload_n hx hb dX0_laysTurn_25 rfl (lv_at hl 0 rfl) ?_
  obtain ⟨a4, ea4, hm⟩ := bdE hm
  refine cg_get C hw (oR_E ea4) rfl in_X0 (by decide) q247 dX0_laysTurn_26 ?_
  refine lv_iconst (v := 0) hx hb dX0_laysTurn_29 (by decide) ?_
  obtain ⟨a5, ea5, hm⟩ := bdE hm
  refine cg_aaldA C hw (ty := .array .int) rfl rfl (aR_E ea5) dX0_laysTurn_30 ?_
  refine lv_iconst (v := 1) hx hb dX0_laysTurn_31 (by decide) ?_
  refine lv_iconst (v := 2) hx hb dX0_laysTurn_32 (by decide) ?_
  refine lv_iload_n hx hb dX0_laysTurn_33 rfl (lv_at hl 2 rfl) ?_
  refine lv_iload_n hx hb dX0_laysTurn_34 rfl (lv_at hl 3 rfl) ?_
  refine lv_imul hx hb dX0_laysTurn_35 ?_
  refine lv_iload_n hx hb dX0_laysTurn_36 rfl (lv_at hl 1 rfl) ?_
  refine lv_iload hx hb dX0_laysTurn_37 (lv_at hl 4 rfl) ?_
  refine lv_imul hx hb dX0_laysTurn_39 ?_
  refine lv_isub hx hb dX0_laysTurn_40 ?_
  refine lv_imul hx hb dX0_laysTurn_41 ?_
  obtain ⟨h6, eh6, hm⟩ := bdE hm
  refine cg_iast C hw eh6 dX0_laysTurn_42 (fun H locs hw => ?_)
  have zh6 := uI_sz eh6
  refine lv_aload_n hx hb dX0_laysTurn_43 rfl (lv_at hl 0 rfl) ?_
  obtain ⟨a7, ea7, hm⟩ := bdE hm
  refine cg_get C hw (oR_E ea7) rfl in_X0 (by decide) q247 dX0_laysTurn_44 ?_
  refine lv_iconst (v := 0) hx hb dX0_laysTurn_47 (by decide) ?_
  obtain ⟨a8, ea8, hm⟩ := bdE hm
  refine cg_aaldA C hw (ty := .array .int) rfl rfl (aR_E ea8) dX0_laysTurn_48 ?_
  refine lv_iconst (v := 2) hx hb dX0_laysTurn_49 (by decide) ?_
  refine lv_iconst (v := 2) hx hb dX0_laysTurn_50 (by decide) ?_
  refine lv_iload_n hx hb dX0_laysTurn_51 rfl (lv_at hl 2 rfl) ?_
  refine lv_iload hx hb dX0_laysTurn_52 (lv_at hl 4 rfl) ?_
  refine lv_imul hx hb dX0_laysTurn_54 ?_
  refine lv_iload_n hx hb dX0_laysTurn_55 rfl (lv_at hl 1 rfl) ?_
  refine lv_iload_n hx hb dX0_laysTurn_56 rfl (lv_at hl 3 rfl) ?_
  refine lv_imul hx hb dX0_laysTurn_57 ?_
  refine lv_iadd hx hb dX0_laysTurn_58 ?_
  refine lv_imul hx hb dX0_laysTurn_59 ?_
  obtain ⟨h9, eh9, hm⟩ := bdE hm
  refine cg_iast C hw eh9 dX0_laysTurn_60 (fun H locs hw => ?_)
  have zh9 := uI_sz eh9
  refine lv_aload_n hx hb dX0_laysTurn_61 rfl (lv_at hl 0 rfl) ?_
  obtain ⟨a10, ea10, hm⟩ := bdE hm
  refine cg_get C hw (oR_E ea10) rfl in_X0 (by decide) q247 dX0_laysTurn_62 ?_
  refine lv_iconst (v := 1) hx hb dX0_laysTurn_65 (by decide) ?_
  obtain ⟨a11, ea11, hm⟩ := bdE hm
  refine cg_aaldA C hw (ty := .array .int) rfl rfl (aR_E ea11) dX0_laysTurn_66 ?_
  refine lv_iconst (v := 0) hx hb dX0_laysTurn_67 (by decide) ?_
  refine lv_iconst (v := 2) hx hb dX0_laysTurn_68 (by decide) ?_
  refine lv_iload_n hx hb dX0_laysTurn_69 rfl (lv_at hl 2 rfl) ?_
  refine lv_iload_n hx hb dX0_laysTurn_70 rfl (lv_at hl 3 rfl) ?_
  refine lv_imul hx hb dX0_laysTurn_71 ?_
  refine lv_iload_n hx hb dX0_laysTurn_72 rfl (lv_at hl 1 rfl) ?_
  refine lv_iload hx hb dX0_laysTurn_73 (lv_at hl 4 rfl) ?_
  refine lv_imul hx hb dX0_laysTurn_75 ?_
  refine lv_iadd hx hb dX0_laysTurn_76 ?_
  refine lv_imul hx hb dX0_laysTurn_77 ?_
  obtain ⟨h12, eh12, hm⟩ := bdE hm
  refine cg_iast C hw eh12 dX0_laysTurn_78 (fun H locs hw => ?_)
  have zh12 := uI_sz eh12
  refine lv_aload_n hx hb dX0_laysTurn_79 rfl (lv_at hl 0 rfl) ?_
  obtain ⟨a13, ea13, hm⟩ := bdE hm
  refine cg_get C hw (oR_E ea13) rfl in_X0 (by decide) q247 dX0_laysTurn_80 ?_
  refine lv_iconst (v := 1) hx hb dX0_laysTurn_83 (by decide) ?_
  obtain ⟨a14, ea14, hm⟩ := bdE hm
  refine cg_aaldA C hw (ty := .array .int) rfl rfl (aR_E ea14) dX0_laysTurn_84 ?_
  refine lv_iconst (v := 1) hx hb dX0_laysTurn_85 (by decide) ?_
  refine lv_iload_n hx hb dX0_laysTurn_86 rfl (lv_at hl 1 rfl) ?_
  refine lv_iload_n hx hb dX0_laysTurn_87 rfl (lv_at hl 1 rfl) ?_
  refine lv_imul hx hb dX0_laysTurn_88 ?_
  refine lv_iload_n hx hb dX0_laysTurn_89 rfl (lv_at hl 2 rfl) ?_
  refine lv_iload_n hx hb dX0_laysTurn_90 rfl (lv_at hl 2 rfl) ?_
  refine lv_imul hx hb dX0_laysTurn_91 ?_
  refine lv_isub hx hb dX0_laysTurn_92 ?_
  refine lv_iload_n hx hb dX0_laysTurn_93 rfl (lv_at hl 3 rfl) ?_
  refine lv_iload_n hx hb dX0_laysTurn_94 rfl (lv_at hl 3 rfl) ?_
  refine lv_imul hx hb dX0_laysTurn_95 ?_
  refine lv_iadd hx hb dX0_laysTurn_96 ?_
  refine lv_iload hx hb dX0_laysTurn_97 (lv_at hl 4 rfl) ?_
  refine lv_iload hx hb dX0_laysTurn_99 (lv_at hl 4 rfl) ?_
  refine lv_imul hx hb dX0_laysTurn_101 ?_
  refine lv_isub hx hb dX0_laysTurn_102 ?_
  obtain ⟨h15, eh15, hm⟩ := bdE hm
  refine cg_iast C hw eh15 dX0_laysTurn_103 (fun H locs hw => ?_)
  have zh15 := uI_sz eh15
  refine lv_aload_n hx hb dX0_laysTurn_104 rfl (lv_at hl 0 rfl) ?_
  obtain ⟨a16, ea16, hm⟩ := bdE hm
  refine cg_get C hw (oR_E ea16) rfl in_X0 (by decide) q247 dX0_laysTurn_105 ?_
  refine lv_iconst (v := 1) hx hb dX0_laysTurn_108 (by decide) ?_
  obtain ⟨a17, ea17, hm⟩ := bdE hm
  refine cg_aaldA C hw (ty := .array .int) rfl rfl (aR_E ea17) dX0_laysTurn_109 ?_
  refine lv_iconst (v := 2) hx hb dX0_laysTurn_110 (by decide) ?_
  refine lv_iconst (v := 2) hx hb dX0_laysTurn_111 (by decide) ?_
  refine lv_iload_n hx hb dX0_laysTurn_112 rfl (lv_at hl 3 rfl) ?_
  refine lv_iload hx hb dX0_laysTurn_113 (lv_at hl 4 rfl) ?_
  refine lv_imul hx hb dX0_laysTurn_115 ?_
  refine lv_iload_n hx hb dX0_laysTurn_116 rfl (lv_at hl 1 rfl) ?_
  refine lv_iload_n hx hb dX0_laysTurn_117 rfl (lv_at hl 2 rfl) ?_
  refine lv_imul hx hb dX0_laysTurn_118 ?_
  refine lv_isub hx hb dX0_laysTurn_119 ?_
  refine lv_imul hx hb dX0_laysTurn_120 ?_
  obtain ⟨h18, eh18, hm⟩ := bdE hm
  refine cg_iast C hw eh18 dX0_laysTurn_121 (fun H locs hw => ?_)
  have zh18 := uI_sz eh18
  refine lv_aload_n hx hb dX0_laysTurn_122 rfl (lv_at hl 0 rfl) ?_
  obtain ⟨a19, ea19, hm⟩ := bdE hm
  refine cg_get C hw (oR_E ea19) rfl in_X0 (by decide) q247 dX0_laysTurn_123 ?_
  refine lv_iconst (v := 2) hx hb dX0_laysTurn_126 (by decide) ?_
  obtain ⟨a20, ea20, hm⟩ := bdE hm
  refine cg_aaldA C hw (ty := .array .int) rfl rfl (aR_E ea20) dX0_laysTurn_127 ?_
  refine lv_iconst (v := 0) hx hb dX0_laysTurn_128 (by decide) ?_
  refine lv_iconst (v := 2) hx hb dX0_laysTurn_129 (by decide) ?_
  refine lv_iload_n hx hb dX0_laysTurn_130 rfl (lv_at hl 2 rfl) ?_
  refine lv_iload hx hb dX0_laysTurn_131 (lv_at hl 4 rfl) ?_
  refine lv_imul hx hb dX0_laysTurn_133 ?_
  refine lv_iload_n hx hb dX0_laysTurn_134 rfl (lv_at hl 1 rfl) ?_
  refine lv_iload_n hx hb dX0_laysTurn_135 rfl (lv_at hl 3 rfl) ?_
  refine lv_imul hx hb dX0_laysTurn_136 ?_
  refine lv_isub hx hb dX0_laysTurn_137 ?_
  refine lv_imul hx hb dX0_laysTurn_138 ?_
  obtain ⟨h21, eh21, hm⟩ := bdE hm
  refine cg_iast C hw eh21 dX0_laysTurn_139 (fun H locs hw => ?_)
  have zh21 := uI_sz eh21
  refine lv_aload_n hx hb dX0_laysTurn_140 rfl (lv_at hl 0 rfl) ?_
  obtain ⟨a22, ea22, hm⟩ := bdE hm
  refine cg_get C hw (oR_E ea22) rfl in_X0 (by decide) q247 dX0_laysTurn_141 ?_
  refine lv_iconst (v := 2) hx hb dX0_laysTurn_144 (by decide) ?_
  obtain ⟨a23, ea23, hm⟩ := bdE hm
  refine cg_aaldA C hw (ty := .array .int) rfl rfl (aR_E ea23) dX0_laysTurn_145 ?_
  refine lv_iconst (v := 1) hx hb dX0_laysTurn_146 (by decide) ?_
  refine lv_iconst (v := 2) hx hb dX0_laysTurn_147 (by decide) ?_
  refine lv_iload_n hx hb dX0_laysTurn_148 rfl (lv_at hl 3 rfl) ?_
  refine lv_iload hx hb dX0_laysTurn_149 (lv_at hl 4 rfl) ?_
  refine lv_imul hx hb dX0_laysTurn_151 ?_
  refine lv_iload_n hx hb dX0_laysTurn_152 rfl (lv_at hl 1 rfl) ?_
  refine lv_iload_n hx hb dX0_laysTurn_153 rfl (lv_at hl 2 rfl) ?_
  refine lv_imul hx hb dX0_laysTurn_154 ?_
  refine lv_iadd hx hb dX0_laysTurn_155 ?_
  refine lv_imul hx hb dX0_laysTurn_156 ?_
  obtain ⟨h24, eh24, hm⟩ := bdE hm
  refine cg_iast C hw eh24 dX0_laysTurn_157 (fun H locs hw => ?_)
  have zh24 := uI_sz eh24
  refine lv_aload_n hx hb dX0_laysTurn_158 rfl (lv_at hl 0 rfl) ?_
  obtain ⟨a25, ea25, hm⟩ := bdE hm
  refine cg_get C hw (oR_E ea25) rfl in_X0 (by decide) q247 dX0_laysTurn_159 ?_
  refine lv_iconst (v := 2) hx hb dX0_laysTurn_162 (by decide) ?_
  obtain ⟨a26, ea26, hm⟩ := bdE hm
  refine cg_aaldA C hw (ty := .array .int) rfl rfl (aR_E ea26) dX0_laysTurn_163 ?_
  refine lv_iconst (v := 2) hx hb dX0_laysTurn_164 (by decide) ?_
  refine lv_iload_n hx hb dX0_laysTurn_165 rfl (lv_at hl 1 rfl) ?_
  refine lv_iload_n hx hb dX0_laysTurn_166 rfl (lv_at hl 1 rfl) ?_
  refine lv_imul hx hb dX0_laysTurn_167 ?_
  refine lv_iload_n hx hb dX0_laysTurn_168 rfl (lv_at hl 2 rfl) ?_
  refine lv_iload_n hx hb dX0_laysTurn_169 rfl (lv_at hl 2 rfl) ?_
  refine lv_imul hx hb dX0_laysTurn_170 ?_
  refine lv_isub hx hb dX0_laysTurn_171 ?_
  refine lv_iload_n hx hb dX0_laysTurn_172 rfl (lv_at hl 3 rfl) ?_
  refine lv_iload_n hx hb dX0_laysTurn_173 rfl (lv_at hl 3 rfl) ?_
  refine lv_imul hx hb dX0_laysTurn_174 ?_
  refine lv_isub hx hb dX0_laysTurn_175 ?_
  refine lv_iload hx hb dX0_laysTurn_176 (lv_at hl 4 rfl) ?_
  refine lv_iload hx hb dX0_laysTurn_178 (lv_at hl 4 rfl) ?_
  refine lv_imul hx hb dX0_laysTurn_180 ?_
  refine lv_iadd hx hb dX0_laysTurn_181 ?_
  obtain ⟨h27, eh27, hm⟩ := bdE hm
  refine cg_iast C hw eh27 dX0_laysTurn_182 (fun H locs hw => ?_)
  have zh27 := uI_sz eh27
  refine lv_iload_n hx hb dX0_laysTurn_183 rfl (lv_at hl 1 rfl) ?_
  refine lv_iload_n hx hb dX0_laysTurn_184 rfl (lv_at hl 1 rfl) ?_
  refine lv_imul hx hb dX0_laysTurn_185 ?_
  refine lv_iload_n hx hb dX0_laysTurn_186 rfl (lv_at hl 2 rfl) ?_
  refine lv_iload_n hx hb dX0_laysTurn_187 rfl (lv_at hl 2 rfl) ?_
  refine lv_imul hx hb dX0_laysTurn_188 ?_
  refine lv_iadd hx hb dX0_laysTurn_189 ?_
  refine lv_iload_n hx hb dX0_laysTurn_190 rfl (lv_at hl 3 rfl) ?_
  refine lv_iload_n hx hb dX0_laysTurn_191 rfl (lv_at hl 3 rfl) ?_
  refine lv_imul hx hb dX0_laysTurn_192 ?_
  refine lv_iadd hx hb dX0_laysTurn_193 ?_
  refine lv_iload hx hb dX0_laysTurn_194 (lv_at hl 4 rfl) ?_
  refine lv_iload hx hb dX0_laysTurn_196 (lv_at hl 4 rfl) ?_
  refine lv_imul hx hb dX0_laysTurn_198 ?_
  refine lv_iadd hx hb dX0_laysTurn_199 ?_
  obtain ⟨er, eh⟩ := retE hm
  have ec : cc = u9.1 - u.1 := by rw [← eh]; omega
  have es : ss = u9.2.1 - u.2.1 := by rw [← eh]; omega
  rw [ec, es, ← hQ]
  exact W.iret (v := ((((x1 * x1) + (x2 * x2)) + (x3 * x3)) + (x4 * x4))) hx hb hr (fun t ht hW => ⟨⟨((((x1 * x1) + (x2 * x2)) + (x3 * x3)) + (x4 * x4)), h27, rfl, ⟨er, eh⟩, ⟨by rw [ht]; exact hw.1, by rw [ht]; exact hw.2.1⟩⟩, hw.2.2.1.F ht⟩) hw.2.2.1.2.2 dX0_laysTurn_200
def m_X0_indexBy_229 (f : Nat) (h : CH) (y0 : Int64) (y1 : Int64) : Option (Int64 × CH) := gd (nzL y1) <|
    some ((y0 / y1), h)
theorem mo_X0_indexBy_229 {f : Nat} : ∀ (h : CH) (y0 : Int64) (y1 : Int64) (r : (Int64 × CH)), m_X0_indexBy_229 f h y0 y1 = some r → le2 h r.2 := by
  intro h y0 y1 r hm
  rw [m_X0_indexBy_229] at hm
  obtain ⟨g1, hm⟩ := gdE hm
  cases hm
  exact le2.rf
def m_X0_indexBy_211 (f : Nat) (h : CH) (x0 : Nat) (x2 : Int64) (x4 : Int64) : Option (Int64 × CH) := bd (oR h 1 7 x0) fun a1 =>
    bd (oR h 2 0 a1) fun a2 =>
    gd (isC h a2 3) <|
    bd2 (m_X2_determinant f h a2) fun r5 h4 =>
    m_X0_indexBy_229 f h4 (((x2 * x2) * x2) * x4) r5
theorem mo_X0_indexBy_211 {f : Nat} : ∀ (h : CH) (x0 : Nat) (x2 : Int64) (x4 : Int64) (r : (Int64 × CH)), m_X0_indexBy_211 f h x0 x2 x4 = some r → le2 h r.2 := by
  intro h x0 x2 x4 r hm
  rw [m_X0_indexBy_211] at hm
  obtain ⟨a1, ea1, hm⟩ := bdE hm
  obtain ⟨a2, ea2, hm⟩ := bdE hm
  obtain ⟨g3, hm⟩ := gdE hm
  obtain ⟨r5, h4, er5, hm⟩ := bd2E hm
  have lh4 := mo_X2_determinant er5
  exact (lh4.tr (mo_X0_indexBy_229  h4 (((x2 * x2) * x2) * x4) r5 _ hm))
def m_X0_indexBy_205 (f : Nat) (k125 : CH → Nat → Nat → Int64 → Int64 → Int32 → Option (Int64 × CH)) (h : CH) (x0 : Nat) (x1 : Nat) (x2 : Int64) (x4 : Int64) (x6 : Int32) : Option (Int64 × CH) := nmv ((x6 + 1) : Int32) fun v1 =>
    k125 h x0 x1 x2 x4 v1
theorem mo_X0_indexBy_205 {f : Nat} {k125 : CH → Nat → Nat → Int64 → Int64 → Int32 → Option (Int64 × CH)} (hk125 : ∀ (h : CH) (x0 : Nat) (x1 : Nat) (x2 : Int64) (x4 : Int64) (x6 : Int32) (r : (Int64 × CH)), k125 h x0 x1 x2 x4 x6 = some r → le2 h r.2) : ∀ (h : CH) (x0 : Nat) (x1 : Nat) (x2 : Int64) (x4 : Int64) (x6 : Int32) (r : (Int64 × CH)), m_X0_indexBy_205 f k125 h x0 x1 x2 x4 x6 = some r → le2 h r.2 := by
  intro h x0 x1 x2 x4 x6 r hm
  rw [m_X0_indexBy_205] at hm
  obtain ⟨v1, ev1, hm⟩ := nmE hm
  exact (hk125 h x0 x1 x2 x4 v1 _ hm)
def m_X0_indexBy_171 (f : Nat) (k125 : CH → Nat → Nat → Int64 → Int64 → Int32 → Option (Int64 × CH)) (h : CH) (x0 : Nat) (x1 : Nat) (x2 : Int64) (x4 : Int64) (x6 : Int32) : Option (Int64 × CH) := bd (oR h 1 7 x0) fun a1 =>
    bd (oR h 1 9 x0) fun a2 =>
    bd (aR h 4 a2 x6) fun a3 =>
    bd (aL h 1 a3 (0 : Int32)) fun v4 =>
    bd (oR h 1 9 x0) fun a5 =>
    bd (aR h 4 a5 x6) fun a6 =>
    bd (aL h 1 a6 (1 : Int32)) fun v7 =>
    bd (oR h 1 9 x0) fun a8 =>
    bd (aR h 4 a8 x6) fun a9 =>
    bd (aL h 1 a9 (2 : Int32)) fun v10 =>
    gd (isC h a1 2) <|
    bd (m_X1_takes f h a1 v4 v7 v10) fun h12 =>
    m_X0_indexBy_205 f k125 h12 x0 x1 x2 x4 x6
theorem mo_X0_indexBy_171 {f : Nat} {k125 : CH → Nat → Nat → Int64 → Int64 → Int32 → Option (Int64 × CH)} (hk125 : ∀ (h : CH) (x0 : Nat) (x1 : Nat) (x2 : Int64) (x4 : Int64) (x6 : Int32) (r : (Int64 × CH)), k125 h x0 x1 x2 x4 x6 = some r → le2 h r.2) : ∀ (h : CH) (x0 : Nat) (x1 : Nat) (x2 : Int64) (x4 : Int64) (x6 : Int32) (r : (Int64 × CH)), m_X0_indexBy_171 f k125 h x0 x1 x2 x4 x6 = some r → le2 h r.2 := by
  intro h x0 x1 x2 x4 x6 r hm
  rw [m_X0_indexBy_171] at hm
  obtain ⟨a1, ea1, hm⟩ := bdE hm
  obtain ⟨a2, ea2, hm⟩ := bdE hm
  obtain ⟨a3, ea3, hm⟩ := bdE hm
  obtain ⟨v4, ev4, hm⟩ := bdE hm
  obtain ⟨a5, ea5, hm⟩ := bdE hm
  obtain ⟨a6, ea6, hm⟩ := bdE hm
  obtain ⟨v7, ev7, hm⟩ := bdE hm
  obtain ⟨a8, ea8, hm⟩ := bdE hm
  obtain ⟨a9, ea9, hm⟩ := bdE hm
  obtain ⟨v10, ev10, hm⟩ := bdE hm
  obtain ⟨g11, hm⟩ := gdE hm
  obtain ⟨h12, eh12, hm⟩ := bdE hm
  have lh12 := mo_X1_takes eh12
  exact (lh12.tr (mo_X0_indexBy_205 hk125 h12 x0 x1 x2 x4 x6 _ hm))
def m_X0_indexBy_125 (f : Nat) : Nat → CH → Nat → Nat → Int64 → Int64 → Int32 → Option (Int64 × CH)
  | 0, _, _, _, _, _, _ => none
  | n125 + 1, h, x0, x1, x2, x4, x6 => if (3 : Int32) ≤ x6 then
    m_X0_indexBy_211 f h x0 x2 x4
    else bd (oR h 1 7 x0) fun a2 =>
    bd (oR h 3 0 x1) fun a3 =>
    bd (aR h 4 a3 x6) fun a4 =>
    bd (aL h 1 a4 (0 : Int32)) fun v5 =>
    bd (oR h 3 0 x1) fun a6 =>
    bd (aR h 4 a6 x6) fun a7 =>
    bd (aL h 1 a7 (1 : Int32)) fun v8 =>
    bd (oR h 3 0 x1) fun a9 =>
    bd (aR h 4 a9 x6) fun a10 =>
    bd (aL h 1 a10 (2 : Int32)) fun v11 =>
    gd (isC h a2 2) <|
    bd (m_X1_takes f h a2 (x2 * v5) (x2 * v8) (x2 * v11)) fun h13 =>
    m_X0_indexBy_171 f (m_X0_indexBy_125 f n125) h13 x0 x1 x2 x4 x6
theorem mo_X0_indexBy_125 {f : Nat} : ∀ (n125 : Nat) (h : CH) (x0 : Nat) (x1 : Nat) (x2 : Int64) (x4 : Int64) (x6 : Int32) (r : (Int64 × CH)), m_X0_indexBy_125 f n125 h x0 x1 x2 x4 x6 = some r → le2 h r.2 := by
  intro n125
  induction n125 with
  | zero => intro h x0 x1 x2 x4 x6 r hm; rw [m_X0_indexBy_125] at hm; exact noE hm
  | succ n125 ihm =>
    intro h x0 x1 x2 x4 x6 r hm
    rw [m_X0_indexBy_125] at hm
    by_cases c1 : (3 : Int32) ≤ x6
    · have hm := ifT hm c1
      exact (mo_X0_indexBy_211  h x0 x2 x4 _ hm)
    · have hm := ifF hm c1
      obtain ⟨a2, ea2, hm⟩ := bdE hm
      obtain ⟨a3, ea3, hm⟩ := bdE hm
      obtain ⟨a4, ea4, hm⟩ := bdE hm
      obtain ⟨v5, ev5, hm⟩ := bdE hm
      obtain ⟨a6, ea6, hm⟩ := bdE hm
      obtain ⟨a7, ea7, hm⟩ := bdE hm
      obtain ⟨v8, ev8, hm⟩ := bdE hm
      obtain ⟨a9, ea9, hm⟩ := bdE hm
      obtain ⟨a10, ea10, hm⟩ := bdE hm
      obtain ⟨v11, ev11, hm⟩ := bdE hm
      obtain ⟨g12, hm⟩ := gdE hm
      obtain ⟨h13, eh13, hm⟩ := bdE hm
      have lh13 := mo_X1_takes eh13
      exact (lh13.tr (mo_X0_indexBy_171 ihm h13 x0 x1 x2 x4 x6 _ hm))
def m_X0_indexBy_122 (f : Nat) (h : CH) (x0 : Nat) (x1 : Nat) (x2 : Int64) (x4 : Int64) : Option (Int64 × CH) := m_X0_indexBy_125 f f h x0 x1 x2 x4 (0 : Int32)
theorem mo_X0_indexBy_122 {f : Nat} : ∀ (h : CH) (x0 : Nat) (x1 : Nat) (x2 : Int64) (x4 : Int64) (r : (Int64 × CH)), m_X0_indexBy_122 f h x0 x1 x2 x4 = some r → le2 h r.2 := by
  intro h x0 x1 x2 x4 r hm
  rw [m_X0_indexBy_122] at hm
  exact (mo_X0_indexBy_125  f h x0 x1 x2 x4 (0 : Int32) _ hm)
def m_X0_indexBy_111 (f : Nat) (h : CH) (x0 : Nat) (x1 : Nat) (x2 : Int64) (x4 : Int64) : Option (Int64 × CH) := bd (oR h 1 7 x0) fun a1 =>
    gd (isC h a1 2) <|
    bd (m_X1_begins f h a1 (x2 * x4)) fun h3 =>
    m_X0_indexBy_122 f h3 x0 x1 x2 x4
theorem mo_X0_indexBy_111 {f : Nat} : ∀ (h : CH) (x0 : Nat) (x1 : Nat) (x2 : Int64) (x4 : Int64) (r : (Int64 × CH)), m_X0_indexBy_111 f h x0 x1 x2 x4 = some r → le2 h r.2 := by
  intro h x0 x1 x2 x4 r hm
  rw [m_X0_indexBy_111] at hm
  obtain ⟨a1, ea1, hm⟩ := bdE hm
  obtain ⟨g2, hm⟩ := gdE hm
  obtain ⟨h3, eh3, hm⟩ := bdE hm
  have lh3 := mo_X1_begins eh3
  exact (lh3.tr (mo_X0_indexBy_122  h3 x0 x1 x2 x4 _ hm))
def m_X0_indexBy_105 (f : Nat) (k12 : CH → Nat → Nat → Int64 → Int64 → Int32 → Option (Int64 × CH)) (h : CH) (x0 : Nat) (x1 : Nat) (x2 : Int64) (x4 : Int64) (x6 : Int32) : Option (Int64 × CH) := nmv ((x6 + 1) : Int32) fun v1 =>
    k12 h x0 x1 x2 x4 v1
theorem mo_X0_indexBy_105 {f : Nat} {k12 : CH → Nat → Nat → Int64 → Int64 → Int32 → Option (Int64 × CH)} (hk12 : ∀ (h : CH) (x0 : Nat) (x1 : Nat) (x2 : Int64) (x4 : Int64) (x6 : Int32) (r : (Int64 × CH)), k12 h x0 x1 x2 x4 x6 = some r → le2 h r.2) : ∀ (h : CH) (x0 : Nat) (x1 : Nat) (x2 : Int64) (x4 : Int64) (x6 : Int32) (r : (Int64 × CH)), m_X0_indexBy_105 f k12 h x0 x1 x2 x4 x6 = some r → le2 h r.2 := by
  intro h x0 x1 x2 x4 x6 r hm
  rw [m_X0_indexBy_105] at hm
  obtain ⟨v1, ev1, hm⟩ := nmE hm
  exact (hk12 h x0 x1 x2 x4 v1 _ hm)
def m_X0_indexBy_21 (f : Nat) (k12 : CH → Nat → Nat → Int64 → Int64 → Int32 → Option (Int64 × CH)) : Nat → CH → Nat → Nat → Int64 → Int64 → Int32 → Int32 → Option (Int64 × CH)
  | 0, _, _, _, _, _, _, _ => none
  | n21 + 1, h, x0, x1, x2, x4, x6, x7 => if (3 : Int32) ≤ x7 then
    m_X0_indexBy_105 f k12 h x0 x1 x2 x4 x6
    else bd (oR h 1 9 x0) fun a2 =>
    bd (aR h 4 a2 x6) fun a3 =>
    bd (oR h 1 8 x0) fun a4 =>
    bd (aR h 5 a4 x7) fun a5 =>
    bd (aI h 0 a5 (0 : Int32)) fun v6 =>
    bd (oR h 3 0 x1) fun a7 =>
    bd (aR h 4 a7 x6) fun a8 =>
    bd (aL h 1 a8 (0 : Int32)) fun v9 =>
    bd (oR h 1 8 x0) fun a10 =>
    bd (aR h 5 a10 x7) fun a11 =>
    bd (aI h 0 a11 (1 : Int32)) fun v12 =>
    bd (oR h 3 0 x1) fun a13 =>
    bd (aR h 4 a13 x6) fun a14 =>
    bd (aL h 1 a14 (1 : Int32)) fun v15 =>
    bd (oR h 1 8 x0) fun a16 =>
    bd (aR h 5 a16 x7) fun a17 =>
    bd (aI h 0 a17 (2 : Int32)) fun v18 =>
    bd (oR h 3 0 x1) fun a19 =>
    bd (aR h 4 a19 x6) fun a20 =>
    bd (aL h 1 a20 (2 : Int32)) fun v21 =>
    bd (uL h 1 a3 x7 ((((Int32.toInt64 v6) * v9) + ((Int32.toInt64 v12) * v15)) + ((Int32.toInt64 v18) * v21))) fun h22 =>
    nmv ((x7 + 1) : Int32) fun v23 =>
    m_X0_indexBy_21 f k12 n21 h22 x0 x1 x2 x4 x6 v23
theorem mo_X0_indexBy_21 {f : Nat} {k12 : CH → Nat → Nat → Int64 → Int64 → Int32 → Option (Int64 × CH)} (hk12 : ∀ (h : CH) (x0 : Nat) (x1 : Nat) (x2 : Int64) (x4 : Int64) (x6 : Int32) (r : (Int64 × CH)), k12 h x0 x1 x2 x4 x6 = some r → le2 h r.2) : ∀ (n21 : Nat) (h : CH) (x0 : Nat) (x1 : Nat) (x2 : Int64) (x4 : Int64) (x6 : Int32) (x7 : Int32) (r : (Int64 × CH)), m_X0_indexBy_21 f k12 n21 h x0 x1 x2 x4 x6 x7 = some r → le2 h r.2 := by
  intro n21
  induction n21 with
  | zero => intro h x0 x1 x2 x4 x6 x7 r hm; rw [m_X0_indexBy_21] at hm; exact noE hm
  | succ n21 ihm =>
    intro h x0 x1 x2 x4 x6 x7 r hm
    rw [m_X0_indexBy_21] at hm
    by_cases c1 : (3 : Int32) ≤ x7
    · have hm := ifT hm c1
      exact (mo_X0_indexBy_105 hk12 h x0 x1 x2 x4 x6 _ hm)
    · have hm := ifF hm c1
      obtain ⟨a2, ea2, hm⟩ := bdE hm
      obtain ⟨a3, ea3, hm⟩ := bdE hm
      obtain ⟨a4, ea4, hm⟩ := bdE hm
      obtain ⟨a5, ea5, hm⟩ := bdE hm
      obtain ⟨v6, ev6, hm⟩ := bdE hm
      obtain ⟨a7, ea7, hm⟩ := bdE hm
      obtain ⟨a8, ea8, hm⟩ := bdE hm
      obtain ⟨v9, ev9, hm⟩ := bdE hm
      obtain ⟨a10, ea10, hm⟩ := bdE hm
      obtain ⟨a11, ea11, hm⟩ := bdE hm
      obtain ⟨v12, ev12, hm⟩ := bdE hm
      obtain ⟨a13, ea13, hm⟩ := bdE hm
      obtain ⟨a14, ea14, hm⟩ := bdE hm
      obtain ⟨v15, ev15, hm⟩ := bdE hm
      obtain ⟨a16, ea16, hm⟩ := bdE hm
      obtain ⟨a17, ea17, hm⟩ := bdE hm
      obtain ⟨v18, ev18, hm⟩ := bdE hm
      obtain ⟨a19, ea19, hm⟩ := bdE hm
      obtain ⟨a20, ea20, hm⟩ := bdE hm
      obtain ⟨v21, ev21, hm⟩ := bdE hm
      obtain ⟨h22, eh22, hm⟩ := bdE hm
      have lh22 := uL_le eh22
      obtain ⟨v23, ev23, hm⟩ := nmE hm
      exact (lh22.tr (ihm h22 x0 x1 x2 x4 x6 v23 _ hm))
def m_X0_indexBy_12 (f : Nat) : Nat → CH → Nat → Nat → Int64 → Int64 → Int32 → Option (Int64 × CH)
  | 0, _, _, _, _, _, _ => none
  | n12 + 1, h, x0, x1, x2, x4, x6 => if (3 : Int32) ≤ x6 then
    m_X0_indexBy_111 f h x0 x1 x2 x4
    else m_X0_indexBy_21 f (m_X0_indexBy_12 f n12) f h x0 x1 x2 x4 x6 (0 : Int32)
theorem mo_X0_indexBy_12 {f : Nat} : ∀ (n12 : Nat) (h : CH) (x0 : Nat) (x1 : Nat) (x2 : Int64) (x4 : Int64) (x6 : Int32) (r : (Int64 × CH)), m_X0_indexBy_12 f n12 h x0 x1 x2 x4 x6 = some r → le2 h r.2 := by
  intro n12
  induction n12 with
  | zero => intro h x0 x1 x2 x4 x6 r hm; rw [m_X0_indexBy_12] at hm; exact noE hm
  | succ n12 ihm =>
    intro h x0 x1 x2 x4 x6 r hm
    rw [m_X0_indexBy_12] at hm
    by_cases c1 : (3 : Int32) ≤ x6
    · have hm := ifT hm c1
      exact (mo_X0_indexBy_111  h x0 x1 x2 x4 _ hm)
    · have hm := ifF hm c1
      exact (mo_X0_indexBy_21 ihm f h x0 x1 x2 x4 x6 (0 : Int32) _ hm)
def m_X0_indexBy_4 (f : Nat) (h : CH) (x0 : Nat) (x1 : Nat) (x2 : Int64) (y0 : Int64) : Option (Int64 × CH) := bd (m_J9_abs f y0) fun r1 =>
    m_X0_indexBy_12 f f h x0 x1 x2 r1 (0 : Int32)
theorem mo_X0_indexBy_4 {f : Nat} : ∀ (h : CH) (x0 : Nat) (x1 : Nat) (x2 : Int64) (y0 : Int64) (r : (Int64 × CH)), m_X0_indexBy_4 f h x0 x1 x2 y0 = some r → le2 h r.2 := by
  intro h x0 x1 x2 y0 r hm
  rw [m_X0_indexBy_4] at hm
  obtain ⟨r1, er1, hm⟩ := bdE hm
  exact (mo_X0_indexBy_12  f h x0 x1 x2 r1 (0 : Int32) _ hm)
def m_X0_indexBy (f : Nat) (u : CH) (x0 : Nat) (x1 : Nat) (x2 : Int64) : Option (Int64 × CH) := gd (isC u x1 3) <|
    bd2 (m_X2_determinant f u x1) fun r3 h2 =>
    m_X0_indexBy_4 f h2 x0 x1 x2 r3
theorem mo_X0_indexBy {f : Nat} {u : CH} {x0 : Nat} {x1 : Nat} {x2 : Int64} {r0 : Int64} {u9 : CH} (hm : m_X0_indexBy f u x0 x1 x2 = some (r0, u9)) : le2 u u9 := by
  rw [m_X0_indexBy] at hm
  obtain ⟨g1, hm⟩ := gdE hm
  obtain ⟨r3, h2, er3, hm⟩ := bd2E hm
  have lh2 := mo_X2_determinant er3
  exact (lh2.tr (mo_X0_indexBy_4  h2 x0 x1 x2 r3 _ hm))
abbrev rm_X0_indexBy (mc ms : Nat) : Room := { frames := 3, cells := mc, slots := ms, locals := 79 }
theorem cw_X0_indexBy {R : Room} {s : State} {args : Array Value} {own : String} {idx mc ms : Nat} (hts : ∀ w ∈ lw_all, w.before args s = true) (hl : Cond.methodLink own idx yX0_indexBy ∈ lw_all) (hR : 3 + 1 ≤ R.frames ∧ 8 + (8 + 11) + 79 ≤ R.locals) : CallW R s args own RX0 idx yX0_indexBy cX0_indexBy 8 (Option.some Jvm.ClassFile.FieldType.long) (ws_ yX0_indexBy cX0_indexBy 8 (Option.some Jvm.ClassFile.FieldType.long)) (rm_X0_indexBy mc ms) mc ms 2 := cwV 2 hts (lw_V hl q1351 qs47 q119 q1352) rfl rfl rfl (by decide +kernel) hR
set_option maxHeartbeats 4000000 in
set_option maxRecDepth 100000 in
theorem w_X0_indexBy (l : Launch) {D : va_G} {dA : Nat → ClassId} {A : Nat → Prop} {f : Nat} {u u9 : CH} {r0 : Int64} {x0 : Nat} {x1 : Nat} {x2 : Int64} (hm : m_X0_indexBy f u x0 x1 x2 = some (r0, u9)) : Met l yX0_indexBy (ws_ yX0_indexBy cX0_indexBy 8 (Option.some Jvm.ClassFile.FieldType.long)) (rm_X0_indexBy (u9.1 - u.1) (u9.2.1 - u.2.1)) (va_Pc [.ref x0, .ref x1, .long x2] (CPre D dA A u)) (va_Ql (fun r u => r = r0 ∧ u = u9) (CPost D dA A) A) (u9.1 - u.1) (u9.2.1 - u.2.1) A := by
  refine Met.ofW (cc := cX0_indexBy) (maxL := 8) (ret := (Option.some Jvm.ClassFile.FieldType.long)) (by decide) rfl ?_
  intro p e s m args below meth c s₁ B hml hv
  have hx := B.exec
  have hb := B.bytes
  have hr := B.returns
  have hts := atoms_spec (ws := (ws_ yX0_indexBy cX0_indexBy 8 (Option.some Jvm.ClassFile.FieldType.long))) B.pre
  have hts : ∀ w ∈ lw_all, w.before args s = true := fun w h => hts w (List.mem_cons_of_mem _ h)
  have hown : s.vm.findClass RX0 = some m.cls := findClass_of_methodNamed B.named
  have hlocks := B.notSynchronized
  obtain ⟨hav, hv⟩ := hv
  have C : CX p s m args c cX0_indexBy RX0 D dA := ⟨hx, hb, hown, hts, hv.2⟩
  have hw : CW D dA A s u s.heap [] := hv.1
  generalize hQ : MQ below (va_Ql (fun r u => r = r0 ∧ u = u9) (CPost D dA A) A) args s (u9.1 - u.1) (u9.2.1 - u.2.1) A = QQ
  have hent := lg_entry_eq m [.ref x0, .ref x1, .long x2] 8
  rw [← hav] at hent
  rw [hent]
  have hl := lv_entry ([.ref x0, .ref x1, .long x2]) (n := 8) (Nat.le_of_ble_eq_true rfl)
  generalize (lg_sl ([.ref x0, .ref x1, .long x2]) ++ List.replicate (8 - (lg_sl ([.ref x0, .ref x1, .long x2])).length) Slot.unset).toArray = ls at hl ⊢
  have hl : lv_has ls 8 [(0, .ref x0), (1, .ref x1), (2, .long x2)] := hl
  obtain ⟨cc, ecc⟩ : ∃ z : Nat, z = 0 := ⟨0, rfl⟩
  obtain ⟨ss, ess⟩ : ∃ z : Nat, z = 0 := ⟨0, rfl⟩
  have hcc : cc + u.1 = u.1 := by omega
  have hss : ss + u.2.1 = u.2.1 := by omega
  suffices hgo : W p l e (rm_X0_indexBy (u9.1 - u.1) (u9.2.1 - u.2.1)) s m args below meth c s.heap [] cc ss QQ (F0 m 0 ls []) by rw [ecc, ess] at hgo; exact hgo
  have ⟨pu, qu, _, _⟩ := mo_X0_indexBy hm
  have hB229 : ∀ (h : CH) (y0 : Int64) (y1 : Int64) (cc ss : Nat) (H : Heap) (locs : List Loc) (ls : Array Slot), m_X0_indexBy_229 f h y0 y1 = some (r0, u9) → CW D dA A s h H locs → cc + u.1 = h.1 → ss + u.2.1 = h.2.1 → lv_has ls 8 [] → W p l e (rm_X0_indexBy (u9.1 - u.1) (u9.2.1 - u.2.1)) s m args below meth c H locs cc ss QQ (F0 m 229 ls [.long y1, .long y0]) := by
    intro h y0 y1 cc ss H locs ls hm hw hcc hss hl
    have hmo := mo_X0_indexBy_229  h y0 y1 _ hm
    have sb_ : h.1 ≤ u9.1 := hmo.1
    have tb_ : h.2.1 ≤ u9.2.1 := hmo.2.1
    rw [m_X0_indexBy_229] at hm
    obtain ⟨g1, hm⟩ := gdE hm
    refine lv_ldiv hx hb dX0_indexBy_229 (nzL_ne g1) ?_
    obtain ⟨er, eh⟩ := retE hm
    have ec : cc = u9.1 - u.1 := by rw [← eh]; omega
    have es : ss = u9.2.1 - u.2.1 := by rw [← eh]; omega
    rw [ec, es, ← hQ]
    exact W.lret (v := (y0 / y1)) hx hb hr (fun t ht hW => ⟨⟨(y0 / y1), h, rfl, ⟨er, eh⟩, ⟨by rw [ht]; exact hw.1, by rw [ht]; exact hw.2.1⟩⟩, hw.2.2.1.F ht⟩) hw.2.2.1.2.2 dX0_indexBy_230
  have hB211 : ∀ (h : CH) (x0 : Nat) (x2 : Int64) (x4 : Int64) (cc ss : Nat) (H : Heap) (locs : List Loc) (ls : Array Slot), m_X0_indexBy_211 f h x0 x2 x4 = some (r0, u9) → CW D dA A s h H locs → cc + u.1 = h.1 → ss + u.2.1 = h.2.1 → lv_has ls 8 [(0, .ref x0), (2, .long x2), (4, .long x4)] → W p l e (rm_X0_indexBy (u9.1 - u.1) (u9.2.1 - u.2.1)) s m args below meth c H locs cc ss QQ (F0 m 211 ls []) := by
    intro h x0 x2 x4 cc ss H locs ls hm hw hcc hss hl
    have hmo := mo_X0_indexBy_211  h x0 x2 x4 _ hm
    have sb_ : h.1 ≤ u9.1 := hmo.1
    have tb_ : h.2.1 ≤ u9.2.1 := hmo.2.1
    rw [m_X0_indexBy_211] at hm
    refine lv_lload_n hx hb dX0_indexBy_211 rfl (lv_at hl 1 rfl) ?_
    refine lv_lload_n hx hb dX0_indexBy_212 rfl (lv_at hl 1 rfl) ?_
    refine lv_lmul hx hb dX0_indexBy_213 ?_
    refine lv_lload_n hx hb dX0_indexBy_214 rfl (lv_at hl 1 rfl) ?_
    refine lv_lmul hx hb dX0_indexBy_215 ?_
    refine lv_lload hx hb dX0_indexBy_216 (lv_at hl 2 rfl) ?_
    refine lv_lmul hx hb dX0_indexBy_218 ?_
    refine lv_aload_n hx hb dX0_indexBy_219 rfl (lv_at hl 0 rfl) ?_
    obtain ⟨a1, ea1, hm⟩ := bdE hm
    refine cg_get C hw (oR_E ea1) rfl in_X0 (by decide) q246 dX0_indexBy_220 ?_
    obtain ⟨a2, ea2, hm⟩ := bdE hm
    refine cg_getN C hw (by decide) (oR_E ea2) rfl in_X1 (by decide) (hw.2.2.2.2.1 _ (List.mem_of_getElem? (i := 13) rfl)) dX0_indexBy_223 ?_
    obtain ⟨g3, hm⟩ := gdE hm
    obtain ⟨r5, h4, er5, hm⟩ := bd2E hm
    have lh4 := mo_X2_determinant er5
    have ph4 : h.1 ≤ h4.1 := lh4.1
    have qh4 : h.2.1 ≤ h4.2.1 := lh4.2.1
    have hmo := mo_X0_indexBy_229   h4 (((x2 * x2) * x2) * x4) r5 _ hm
    have sh4 : h4.1 ≤ u9.1 := hmo.1
    have th4 : h4.2.1 ≤ u9.2.1 := hmo.2.1
    refine cg_calll hw lh4 (va_runV (As := []) (rest := [.long (((x2 * x2) * x2) * x4)]) ⟨hx, hb, hml, hown, hts⟩ (w_X2_determinant l er5) (cw_X2_determinant hts q1060 ⟨Nat.le_of_ble_eq_true rfl, Nat.le_of_ble_eq_true rfl⟩) (cg_preV C hw g3 rfl _) rfl rfl hl.1 rfl (lv_room (Nat.le_of_ble_eq_true rfl)) dX0_indexBy_226 ⟨show cc + (h4.1 - h.1) ≤ u9.1 - u.1 by omega, show ss + (h4.2.1 - h.2.1) ≤ u9.2.1 - u.2.1 by omega⟩) (fun H locs hw => ?_)
    exact hB229 h4 (((x2 * x2) * x2) * x4) r5 _ _ _ _ _ hm hw (by omega) (by omega) (lv_sub hl [] rfl)
  have hB125 : ∀ (n125 : Nat), ∀ (h : CH) (x0 : Nat) (x1 : Nat) (x2 : Int64) (x4 : Int64) (x6 : Int32) (cc ss : Nat) (H : Heap) (locs : List Loc) (ls : Array Slot), m_X0_indexBy_125 f n125 h x0 x1 x2 x4 x6 = some (r0, u9) → CW D dA A s h H locs → cc + u.1 = h.1 → ss + u.2.1 = h.2.1 → lv_has ls 8 [(0, .ref x0), (1, .ref x1), (2, .long x2), (4, .long x4), (6, .int x6)] → W p l e (rm_X0_indexBy (u9.1 - u.1) (u9.2.1 - u.2.1)) s m args below meth c H locs cc ss QQ (F0 m 125 ls []) := by
    intro n125
    induction n125 with
    | zero => intro h x0 x1 x2 x4 x6 cc ss H locs ls hm hw hcc hss hl; rw [m_X0_indexBy_125] at hm; exact noE hm
    | succ n125 ih125 =>
      have hB205 : ∀ (h : CH) (x0 : Nat) (x1 : Nat) (x2 : Int64) (x4 : Int64) (x6 : Int32) (cc ss : Nat) (H : Heap) (locs : List Loc) (ls : Array Slot), m_X0_indexBy_205 f (m_X0_indexBy_125 f n125) h x0 x1 x2 x4 x6 = some (r0, u9) → CW D dA A s h H locs → cc + u.1 = h.1 → ss + u.2.1 = h.2.1 → lv_has ls 8 [(0, .ref x0), (1, .ref x1), (2, .long x2), (4, .long x4), (6, .int x6)] → W p l e (rm_X0_indexBy (u9.1 - u.1) (u9.2.1 - u.2.1)) s m args below meth c H locs cc ss QQ (F0 m 205 ls []) := by
        intro h x0 x1 x2 x4 x6 cc ss H locs ls hm hw hcc hss hl
        have hmo := mo_X0_indexBy_205 (mo_X0_indexBy_125 n125) h x0 x1 x2 x4 x6 _ hm
        have sb_ : h.1 ≤ u9.1 := hmo.1
        have tb_ : h.2.1 ≤ u9.2.1 := hmo.2.1
        rw [m_X0_indexBy_205] at hm
        obtain ⟨v1, ev1, hm⟩ := nmE hm
        refine lv_iinc (v := v1) (lv' := [(6, .int v1), (0, .ref x0), (1, .ref x1), (2, .long x2), (4, .long x4)]) hx hb dX0_indexBy_205 hl (k := 4) rfl (by rw [ev1]; rfl) (by decide) rfl (fun ls hl => ?_)
        refine lv_goto (tgt := 125) hx hb dX0_indexBy_208 (by decide) ?_
        exact ih125 h x0 x1 x2 x4 v1 _ _ _ _ _ hm hw (by omega) (by omega) (lv_sub hl [1, 2, 3, 4, 0] rfl)
      have hB171 : ∀ (h : CH) (x0 : Nat) (x1 : Nat) (x2 : Int64) (x4 : Int64) (x6 : Int32) (cc ss : Nat) (H : Heap) (locs : List Loc) (ls : Array Slot), m_X0_indexBy_171 f (m_X0_indexBy_125 f n125) h x0 x1 x2 x4 x6 = some (r0, u9) → CW D dA A s h H locs → cc + u.1 = h.1 → ss + u.2.1 = h.2.1 → lv_has ls 8 [(0, .ref x0), (1, .ref x1), (2, .long x2), (4, .long x4), (6, .int x6)] → W p l e (rm_X0_indexBy (u9.1 - u.1) (u9.2.1 - u.2.1)) s m args below meth c H locs cc ss QQ (F0 m 171 ls []) := by
        intro h x0 x1 x2 x4 x6 cc ss H locs ls hm hw hcc hss hl
        have hmo := mo_X0_indexBy_171 (mo_X0_indexBy_125 n125) h x0 x1 x2 x4 x6 _ hm
        have sb_ : h.1 ≤ u9.1 := hmo.1
        have tb_ : h.2.1 ≤ u9.2.1 := hmo.2.1
        rw [m_X0_indexBy_171] at hm
        refine lv_aload_n hx hb dX0_indexBy_171 rfl (lv_at hl 0 rfl) ?_
        obtain ⟨a1, ea1, hm⟩ := bdE hm
        refine cg_get C hw (oR_E ea1) rfl in_X0 (by decide) q246 dX0_indexBy_172 ?_
        refine lv_aload_n hx hb dX0_indexBy_175 rfl (lv_at hl 0 rfl) ?_
        obtain ⟨a2, ea2, hm⟩ := bdE hm
        refine cg_get C hw (oR_E ea2) rfl in_X0 (by decide) q248 dX0_indexBy_176 ?_
        refine lv_iload hx hb dX0_indexBy_179 (lv_at hl 4 rfl) ?_
        obtain ⟨a3, ea3, hm⟩ := bdE hm
        refine cg_aaldA C hw (ty := .array .long) rfl rfl (aR_E ea3) dX0_indexBy_181 ?_
        refine lv_iconst (v := 0) hx hb dX0_indexBy_182 (by decide) ?_
        obtain ⟨v4, ev4, hm⟩ := bdE hm
        refine cg_lald C hw ev4 dX0_indexBy_183 ?_
        refine lv_aload_n hx hb dX0_indexBy_184 rfl (lv_at hl 0 rfl) ?_
        obtain ⟨a5, ea5, hm⟩ := bdE hm
        refine cg_get C hw (oR_E ea5) rfl in_X0 (by decide) q248 dX0_indexBy_185 ?_
        refine lv_iload hx hb dX0_indexBy_188 (lv_at hl 4 rfl) ?_
        obtain ⟨a6, ea6, hm⟩ := bdE hm
        refine cg_aaldA C hw (ty := .array .long) rfl rfl (aR_E ea6) dX0_indexBy_190 ?_
        refine lv_iconst (v := 1) hx hb dX0_indexBy_191 (by decide) ?_
        obtain ⟨v7, ev7, hm⟩ := bdE hm
        refine cg_lald C hw ev7 dX0_indexBy_192 ?_
        refine lv_aload_n hx hb dX0_indexBy_193 rfl (lv_at hl 0 rfl) ?_
        obtain ⟨a8, ea8, hm⟩ := bdE hm
        refine cg_get C hw (oR_E ea8) rfl in_X0 (by decide) q248 dX0_indexBy_194 ?_
        refine lv_iload hx hb dX0_indexBy_197 (lv_at hl 4 rfl) ?_
        obtain ⟨a9, ea9, hm⟩ := bdE hm
        refine cg_aaldA C hw (ty := .array .long) rfl rfl (aR_E ea9) dX0_indexBy_199 ?_
        refine lv_iconst (v := 2) hx hb dX0_indexBy_200 (by decide) ?_
        obtain ⟨v10, ev10, hm⟩ := bdE hm
        refine cg_lald C hw ev10 dX0_indexBy_201 ?_
        obtain ⟨g11, hm⟩ := gdE hm
        obtain ⟨h12, eh12, hm⟩ := bdE hm
        have lh12 := mo_X1_takes eh12
        have ph12 : h.1 ≤ h12.1 := lh12.1
        have qh12 : h.2.1 ≤ h12.2.1 := lh12.2.1
        have hmo := mo_X0_indexBy_205 (mo_X0_indexBy_125 n125)  h12 x0 x1 x2 x4 x6 _ hm
        have sh12 : h12.1 ≤ u9.1 := hmo.1
        have th12 : h12.2.1 ≤ u9.2.1 := hmo.2.1
        refine cg_callv hw lh12 (va_runV (As := [.long v4, .long v7, .long v10]) (rest := []) ⟨hx, hb, hml, hown, hts⟩ (w_X1_takes l eh12) (cw_X1_takes hts q1124 ⟨Nat.le_of_ble_eq_true rfl, Nat.le_of_ble_eq_true rfl⟩) (cg_preV C hw g11 rfl _) rfl rfl hl.1 rfl (lv_room (Nat.le_of_ble_eq_true rfl)) dX0_indexBy_202 ⟨show cc + (h12.1 - h.1) ≤ u9.1 - u.1 by omega, show ss + (h12.2.1 - h.2.1) ≤ u9.2.1 - u.2.1 by omega⟩) (fun H locs hw => ?_)
        exact hB205 h12 x0 x1 x2 x4 x6 _ _ _ _ _ hm hw (by omega) (by omega) (lv_sub hl [0, 1, 2, 3, 4] rfl)
      intro h x0 x1 x2 x4 x6 cc ss H locs ls hm hw hcc hss hl
      have hmo := mo_X0_indexBy_125  (n125 + 1) h x0 x1 x2 x4 x6 _ hm
      have sb_ : h.1 ≤ u9.1 := hmo.1
      have tb_ : h.2.1 ≤ u9.2.1 := hmo.2.1
      rw [m_X0_indexBy_125] at hm
      refine lv_iload hx hb dX0_indexBy_125 (lv_at hl 4 rfl) ?_
      refine lv_iconst (v := 3) hx hb dX0_indexBy_127 (by decide) ?_
      refine lv_icmp_ge (tgt := 211) hx hb dX0_indexBy_128 (by decide) (fun c1 => ?_) (fun c1 => ?_)
      · have hm := ifT hm c1
        exact hB211 h x0 x2 x4 _ _ _ _ _ hm hw (by omega) (by omega) (lv_sub hl [0, 2, 3] rfl)
      · have hm := ifF hm c1
        refine lv_aload_n hx hb dX0_indexBy_131 rfl (lv_at hl 0 rfl) ?_
        obtain ⟨a2, ea2, hm⟩ := bdE hm
        refine cg_get C hw (oR_E ea2) rfl in_X0 (by decide) q246 dX0_indexBy_132 ?_
        refine lv_lload_n hx hb dX0_indexBy_135 rfl (lv_at hl 2 rfl) ?_
        refine lv_aload_n hx hb dX0_indexBy_136 rfl (lv_at hl 1 rfl) ?_
        obtain ⟨a3, ea3, hm⟩ := bdE hm
        refine cg_getN C hw (by decide) (oR_E ea3) rfl in_X2 (by decide) (hw.2.2.2.2.1 _ (List.mem_of_getElem? (i := 12) rfl)) dX0_indexBy_137 ?_
        refine lv_iload hx hb dX0_indexBy_140 (lv_at hl 4 rfl) ?_
        obtain ⟨a4, ea4, hm⟩ := bdE hm
        refine cg_aaldA C hw (ty := .array .long) rfl rfl (aR_E ea4) dX0_indexBy_142 ?_
        refine lv_iconst (v := 0) hx hb dX0_indexBy_143 (by decide) ?_
        obtain ⟨v5, ev5, hm⟩ := bdE hm
        refine cg_lald C hw ev5 dX0_indexBy_144 ?_
        refine lv_lmul hx hb dX0_indexBy_145 ?_
        refine lv_lload_n hx hb dX0_indexBy_146 rfl (lv_at hl 2 rfl) ?_
        refine lv_aload_n hx hb dX0_indexBy_147 rfl (lv_at hl 1 rfl) ?_
        obtain ⟨a6, ea6, hm⟩ := bdE hm
        refine cg_getN C hw (by decide) (oR_E ea6) rfl in_X2 (by decide) (hw.2.2.2.2.1 _ (List.mem_of_getElem? (i := 12) rfl)) dX0_indexBy_148 ?_
        refine lv_iload hx hb dX0_indexBy_151 (lv_at hl 4 rfl) ?_
        obtain ⟨a7, ea7, hm⟩ := bdE hm
        refine cg_aaldA C hw (ty := .array .long) rfl rfl (aR_E ea7) dX0_indexBy_153 ?_
        refine lv_iconst (v := 1) hx hb dX0_indexBy_154 (by decide) ?_
        obtain ⟨v8, ev8, hm⟩ := bdE hm
        refine cg_lald C hw ev8 dX0_indexBy_155 ?_
        refine lv_lmul hx hb dX0_indexBy_156 ?_
        refine lv_lload_n hx hb dX0_indexBy_157 rfl (lv_at hl 2 rfl) ?_
        refine lv_aload_n hx hb dX0_indexBy_158 rfl (lv_at hl 1 rfl) ?_
        obtain ⟨a9, ea9, hm⟩ := bdE hm
        refine cg_getN C hw (by decide) (oR_E ea9) rfl in_X2 (by decide) (hw.2.2.2.2.1 _ (List.mem_of_getElem? (i := 12) rfl)) dX0_indexBy_159 ?_
        refine lv_iload hx hb dX0_indexBy_162 (lv_at hl 4 rfl) ?_
        obtain ⟨a10, ea10, hm⟩ := bdE hm
        refine cg_aaldA C hw (ty := .array .long) rfl rfl (aR_E ea10) dX0_indexBy_164 ?_
        refine lv_iconst (v := 2) hx hb dX0_indexBy_165 (by decide) ?_
        obtain ⟨v11, ev11, hm⟩ := bdE hm
        refine cg_lald C hw ev11 dX0_indexBy_166 ?_
        refine lv_lmul hx hb dX0_indexBy_167 ?_
        obtain ⟨g12, hm⟩ := gdE hm
        obtain ⟨h13, eh13, hm⟩ := bdE hm
        have lh13 := mo_X1_takes eh13
        have ph13 : h.1 ≤ h13.1 := lh13.1
        have qh13 : h.2.1 ≤ h13.2.1 := lh13.2.1
        have hmo := mo_X0_indexBy_171 (mo_X0_indexBy_125 n125)  h13 x0 x1 x2 x4 x6 _ hm
        have sh13 : h13.1 ≤ u9.1 := hmo.1
        have th13 : h13.2.1 ≤ u9.2.1 := hmo.2.1
        refine cg_callv hw lh13 (va_runV (As := [.long (x2 * v5), .long (x2 * v8), .long (x2 * v11)]) (rest := []) ⟨hx, hb, hml, hown, hts⟩ (w_X1_takes l eh13) (cw_X1_takes hts q1124 ⟨Nat.le_of_ble_eq_true rfl, Nat.le_of_ble_eq_true rfl⟩) (cg_preV C hw g12 rfl _) rfl rfl hl.1 rfl (lv_room (Nat.le_of_ble_eq_true rfl)) dX0_indexBy_168 ⟨show cc + (h13.1 - h.1) ≤ u9.1 - u.1 by omega, show ss + (h13.2.1 - h.2.1) ≤ u9.2.1 - u.2.1 by omega⟩) (fun H locs hw => ?_)
        exact hB171 h13 x0 x1 x2 x4 x6 _ _ _ _ _ hm hw (by omega) (by omega) (lv_sub hl [0, 1, 2, 3, 4] rfl)
  have hB122 : ∀ (h : CH) (x0 : Nat) (x1 : Nat) (x2 : Int64) (x4 : Int64) (cc ss : Nat) (H : Heap) (locs : List Loc) (ls : Array Slot), m_X0_indexBy_122 f h x0 x1 x2 x4 = some (r0, u9) → CW D dA A s h H locs → cc + u.1 = h.1 → ss + u.2.1 = h.2.1 → lv_has ls 8 [(0, .ref x0), (1, .ref x1), (2, .long x2), (4, .long x4)] → W p l e (rm_X0_indexBy (u9.1 - u.1) (u9.2.1 - u.2.1)) s m args below meth c H locs cc ss QQ (F0 m 122 ls []) := by
    intro h x0 x1 x2 x4 cc ss H locs ls hm hw hcc hss hl
    have hmo := mo_X0_indexBy_122  h x0 x1 x2 x4 _ hm
    have sb_ : h.1 ≤ u9.1 := hmo.1
    have tb_ : h.2.1 ≤ u9.2.1 := hmo.2.1
    rw [m_X0_indexBy_122] at hm
    refine lv_iconst (v := 0) hx hb dX0_indexBy_122 (by decide) ?_
    refine lv_istore (lv' := [(6, .int (0 : Int32)), (0, .ref x0), (1, .ref x1), (2, .long x2), (4, .long x4)]) hx hb dX0_indexBy_123 hl (by decide) rfl (fun ls hl => ?_)
    exact hB125 f h x0 x1 x2 x4 (0 : Int32) _ _ _ _ _ hm hw (by omega) (by omega) (lv_sub hl [1, 2, 3, 4, 0] rfl)
  have hB111 : ∀ (h : CH) (x0 : Nat) (x1 : Nat) (x2 : Int64) (x4 : Int64) (cc ss : Nat) (H : Heap) (locs : List Loc) (ls : Array Slot), m_X0_indexBy_111 f h x0 x1 x2 x4 = some (r0, u9) → CW D dA A s h H locs → cc + u.1 = h.1 → ss + u.2.1 = h.2.1 → lv_has ls 8 [(0, .ref x0), (1, .ref x1), (2, .long x2), (4, .long x4)] → W p l e (rm_X0_indexBy (u9.1 - u.1) (u9.2.1 - u.2.1)) s m args below meth c H locs cc ss QQ (F0 m 111 ls []) := by
    intro h x0 x1 x2 x4 cc ss H locs ls hm hw hcc hss hl
    have hmo := mo_X0_indexBy_111  h x0 x1 x2 x4 _ hm
    have sb_ : h.1 ≤ u9.1 := hmo.1
    have tb_ : h.2.1 ≤ u9.2.1 := hmo.2.1
    rw [m_X0_indexBy_111] at hm
    refine lv_aload_n hx hb dX0_indexBy_111 rfl (lv_at hl 0 rfl) ?_
    obtain ⟨a1, ea1, hm⟩ := bdE hm
    refine cg_get C hw (oR_E ea1) rfl in_X0 (by decide) q246 dX0_indexBy_112 ?_
    refine lv_lload_n hx hb dX0_indexBy_115 rfl (lv_at hl 2 rfl) ?_
    refine lv_lload hx hb dX0_indexBy_116 (lv_at hl 3 rfl) ?_
    refine lv_lmul hx hb dX0_indexBy_118 ?_
    obtain ⟨g2, hm⟩ := gdE hm
    obtain ⟨h3, eh3, hm⟩ := bdE hm
    have lh3 := mo_X1_begins eh3
    have ph3 : h.1 ≤ h3.1 := lh3.1
    have qh3 : h.2.1 ≤ h3.2.1 := lh3.2.1
    have hmo := mo_X0_indexBy_122   h3 x0 x1 x2 x4 _ hm
    have sh3 : h3.1 ≤ u9.1 := hmo.1
    have th3 : h3.2.1 ≤ u9.2.1 := hmo.2.1
    refine cg_callv hw lh3 (va_runV (As := [.long (x2 * x4)]) (rest := []) ⟨hx, hb, hml, hown, hts⟩ (w_X1_begins l eh3) (cw_X1_begins hts q1353 ⟨Nat.le_of_ble_eq_true rfl, Nat.le_of_ble_eq_true rfl⟩) (cg_preV C hw g2 rfl _) rfl rfl hl.1 rfl (lv_room (Nat.le_of_ble_eq_true rfl)) dX0_indexBy_119 ⟨show cc + (h3.1 - h.1) ≤ u9.1 - u.1 by omega, show ss + (h3.2.1 - h.2.1) ≤ u9.2.1 - u.2.1 by omega⟩) (fun H locs hw => ?_)
    exact hB122 h3 x0 x1 x2 x4 _ _ _ _ _ hm hw (by omega) (by omega) (lv_sub hl [0, 1, 2, 3] rfl)
  have hB12 : ∀ (n12 : Nat), ∀ (h : CH) (x0 : Nat) (x1 : Nat) (x2 : Int64) (x4 : Int64) (x6 : Int32) (cc ss : Nat) (H : Heap) (locs : List Loc) (ls : Array Slot), m_X0_indexBy_12 f n12 h x0 x1 x2 x4 x6 = some (r0, u9) → CW D dA A s h H locs → cc + u.1 = h.1 → ss + u.2.1 = h.2.1 → lv_has ls 8 [(0, .ref x0), (1, .ref x1), (2, .long x2), (4, .long x4), (6, .int x6)] → W p l e (rm_X0_indexBy (u9.1 - u.1) (u9.2.1 - u.2.1)) s m args below meth c H locs cc ss QQ (F0 m 12 ls []) := by
    intro n12
    induction n12 with
    | zero => intro h x0 x1 x2 x4 x6 cc ss H locs ls hm hw hcc hss hl; rw [m_X0_indexBy_12] at hm; exact noE hm
    | succ n12 ih12 =>
      have hB105 : ∀ (h : CH) (x0 : Nat) (x1 : Nat) (x2 : Int64) (x4 : Int64) (x6 : Int32) (cc ss : Nat) (H : Heap) (locs : List Loc) (ls : Array Slot), m_X0_indexBy_105 f (m_X0_indexBy_12 f n12) h x0 x1 x2 x4 x6 = some (r0, u9) → CW D dA A s h H locs → cc + u.1 = h.1 → ss + u.2.1 = h.2.1 → lv_has ls 8 [(0, .ref x0), (1, .ref x1), (2, .long x2), (4, .long x4), (6, .int x6)] → W p l e (rm_X0_indexBy (u9.1 - u.1) (u9.2.1 - u.2.1)) s m args below meth c H locs cc ss QQ (F0 m 105 ls []) := by
        intro h x0 x1 x2 x4 x6 cc ss H locs ls hm hw hcc hss hl
        have hmo := mo_X0_indexBy_105 (mo_X0_indexBy_12 n12) h x0 x1 x2 x4 x6 _ hm
        have sb_ : h.1 ≤ u9.1 := hmo.1
        have tb_ : h.2.1 ≤ u9.2.1 := hmo.2.1
        rw [m_X0_indexBy_105] at hm
        obtain ⟨v1, ev1, hm⟩ := nmE hm
        refine lv_iinc (v := v1) (lv' := [(6, .int v1), (0, .ref x0), (1, .ref x1), (2, .long x2), (4, .long x4)]) hx hb dX0_indexBy_105 hl (k := 4) rfl (by rw [ev1]; rfl) (by decide) rfl (fun ls hl => ?_)
        refine lv_goto (tgt := 12) hx hb dX0_indexBy_108 (by decide) ?_
        exact ih12 h x0 x1 x2 x4 v1 _ _ _ _ _ hm hw (by omega) (by omega) (lv_sub hl [1, 2, 3, 4, 0] rfl)
      have hB21 : ∀ (n21 : Nat), ∀ (h : CH) (x0 : Nat) (x1 : Nat) (x2 : Int64) (x4 : Int64) (x6 : Int32) (x7 : Int32) (cc ss : Nat) (H : Heap) (locs : List Loc) (ls : Array Slot), m_X0_indexBy_21 f (m_X0_indexBy_12 f n12) n21 h x0 x1 x2 x4 x6 x7 = some (r0, u9) → CW D dA A s h H locs → cc + u.1 = h.1 → ss + u.2.1 = h.2.1 → lv_has ls 8 [(0, .ref x0), (1, .ref x1), (2, .long x2), (4, .long x4), (6, .int x6), (7, .int x7)] → W p l e (rm_X0_indexBy (u9.1 - u.1) (u9.2.1 - u.2.1)) s m args below meth c H locs cc ss QQ (F0 m 21 ls []) := by
        intro n21
        induction n21 with
        | zero => intro h x0 x1 x2 x4 x6 x7 cc ss H locs ls hm hw hcc hss hl; rw [m_X0_indexBy_21] at hm; exact noE hm
        | succ n21 ih21 =>
          intro h x0 x1 x2 x4 x6 x7 cc ss H locs ls hm hw hcc hss hl
          have hmo := mo_X0_indexBy_21 (mo_X0_indexBy_12 n12) (n21 + 1) h x0 x1 x2 x4 x6 x7 _ hm
          have sb_ : h.1 ≤ u9.1 := hmo.1
          have tb_ : h.2.1 ≤ u9.2.1 := hmo.2.1
          rw [m_X0_indexBy_21] at hm
          refine lv_iload hx hb dX0_indexBy_21 (lv_at hl 5 rfl) ?_
          refine lv_iconst (v := 3) hx hb dX0_indexBy_23 (by decide) ?_
          refine lv_icmp_ge (tgt := 105) hx hb dX0_indexBy_24 (by decide) (fun c1 => ?_) (fun c1 => ?_)
          · have hm := ifT hm c1
            exact hB105 h x0 x1 x2 x4 x6 _ _ _ _ _ hm hw (by omega) (by omega) (lv_sub hl [0, 1, 2, 3, 4] rfl)
          · have hm := ifF hm c1
            refine lv_aload_n hx hb dX0_indexBy_27 rfl (lv_at hl 0 rfl) ?_
            obtain ⟨a2, ea2, hm⟩ := bdE hm
            refine cg_get C hw (oR_E ea2) rfl in_X0 (by decide) q248 dX0_indexBy_28 ?_
            refine lv_iload hx hb dX0_indexBy_31 (lv_at hl 4 rfl) ?_
            obtain ⟨a3, ea3, hm⟩ := bdE hm
            refine cg_aaldA C hw (ty := .array .long) rfl rfl (aR_E ea3) dX0_indexBy_33 ?_
            refine lv_iload hx hb dX0_indexBy_34 (lv_at hl 5 rfl) ?_
            refine lv_aload_n hx hb dX0_indexBy_36 rfl (lv_at hl 0 rfl) ?_
            obtain ⟨a4, ea4, hm⟩ := bdE hm
            refine cg_get C hw (oR_E ea4) rfl in_X0 (by decide) q247 dX0_indexBy_37 ?_
            refine lv_iload hx hb dX0_indexBy_40 (lv_at hl 5 rfl) ?_
            obtain ⟨a5, ea5, hm⟩ := bdE hm
            refine cg_aaldA C hw (ty := .array .int) rfl rfl (aR_E ea5) dX0_indexBy_42 ?_
            refine lv_iconst (v := 0) hx hb dX0_indexBy_43 (by decide) ?_
            obtain ⟨v6, ev6, hm⟩ := bdE hm
            refine cg_iald C hw ev6 dX0_indexBy_44 ?_
            refine lv_i2l hx hb dX0_indexBy_45 rfl ?_
            refine lv_aload_n hx hb dX0_indexBy_46 rfl (lv_at hl 1 rfl) ?_
            obtain ⟨a7, ea7, hm⟩ := bdE hm
            refine cg_getN C hw (by decide) (oR_E ea7) rfl in_X2 (by decide) (hw.2.2.2.2.1 _ (List.mem_of_getElem? (i := 12) rfl)) dX0_indexBy_47 ?_
            refine lv_iload hx hb dX0_indexBy_50 (lv_at hl 4 rfl) ?_
            obtain ⟨a8, ea8, hm⟩ := bdE hm
            refine cg_aaldA C hw (ty := .array .long) rfl rfl (aR_E ea8) dX0_indexBy_52 ?_
            refine lv_iconst (v := 0) hx hb dX0_indexBy_53 (by decide) ?_
            obtain ⟨v9, ev9, hm⟩ := bdE hm
            refine cg_lald C hw ev9 dX0_indexBy_54 ?_
            refine lv_lmul hx hb dX0_indexBy_55 ?_
            refine lv_aload_n hx hb dX0_indexBy_56 rfl (lv_at hl 0 rfl) ?_
            obtain ⟨a10, ea10, hm⟩ := bdE hm
            refine cg_get C hw (oR_E ea10) rfl in_X0 (by decide) q247 dX0_indexBy_57 ?_
            refine lv_iload hx hb dX0_indexBy_60 (lv_at hl 5 rfl) ?_
            obtain ⟨a11, ea11, hm⟩ := bdE hm
            refine cg_aaldA C hw (ty := .array .int) rfl rfl (aR_E ea11) dX0_indexBy_62 ?_
            refine lv_iconst (v := 1) hx hb dX0_indexBy_63 (by decide) ?_
            obtain ⟨v12, ev12, hm⟩ := bdE hm
            refine cg_iald C hw ev12 dX0_indexBy_64 ?_
            refine lv_i2l hx hb dX0_indexBy_65 rfl ?_
            refine lv_aload_n hx hb dX0_indexBy_66 rfl (lv_at hl 1 rfl) ?_
            obtain ⟨a13, ea13, hm⟩ := bdE hm
            refine cg_getN C hw (by decide) (oR_E ea13) rfl in_X2 (by decide) (hw.2.2.2.2.1 _ (List.mem_of_getElem? (i := 12) rfl)) dX0_indexBy_67 ?_
            refine lv_iload hx hb dX0_indexBy_70 (lv_at hl 4 rfl) ?_
            obtain ⟨a14, ea14, hm⟩ := bdE hm
            refine cg_aaldA C hw (ty := .array .long) rfl rfl (aR_E ea14) dX0_indexBy_72 ?_
            refine lv_iconst (v := 1) hx hb dX0_indexBy_73 (by decide) ?_
            obtain ⟨v15, ev15, hm⟩ := bdE hm
            refine cg_lald C hw ev15 dX0_indexBy_74 ?_
            refine lv_lmul hx hb dX0_indexBy_75 ?_
            refine lv_ladd hx hb dX0_indexBy_76 ?_
            refine lv_aload_n hx hb dX0_indexBy_77 rfl (lv_at hl 0 rfl) ?_
            obtain ⟨a16, ea16, hm⟩ := bdE hm
            refine cg_get C hw (oR_E ea16) rfl in_X0 (by decide) q247 dX0_indexBy_78 ?_
            refine lv_iload hx hb dX0_indexBy_81 (lv_at hl 5 rfl) ?_
            obtain ⟨a17, ea17, hm⟩ := bdE hm
            refine cg_aaldA C hw (ty := .array .int) rfl rfl (aR_E ea17) dX0_indexBy_83 ?_
            refine lv_iconst (v := 2) hx hb dX0_indexBy_84 (by decide) ?_
            obtain ⟨v18, ev18, hm⟩ := bdE hm
            refine cg_iald C hw ev18 dX0_indexBy_85 ?_
            refine lv_i2l hx hb dX0_indexBy_86 rfl ?_
            refine lv_aload_n hx hb dX0_indexBy_87 rfl (lv_at hl 1 rfl) ?_
            obtain ⟨a19, ea19, hm⟩ := bdE hm
            refine cg_getN C hw (by decide) (oR_E ea19) rfl in_X2 (by decide) (hw.2.2.2.2.1 _ (List.mem_of_getElem? (i := 12) rfl)) dX0_indexBy_88 ?_
            refine lv_iload hx hb dX0_indexBy_91 (lv_at hl 4 rfl) ?_
            obtain ⟨a20, ea20, hm⟩ := bdE hm
            refine cg_aaldA C hw (ty := .array .long) rfl rfl (aR_E ea20) dX0_indexBy_93 ?_
            refine lv_iconst (v := 2) hx hb dX0_indexBy_94 (by decide) ?_
            obtain ⟨v21, ev21, hm⟩ := bdE hm
            refine cg_lald C hw ev21 dX0_indexBy_95 ?_
            refine lv_lmul hx hb dX0_indexBy_96 ?_
            refine lv_ladd hx hb dX0_indexBy_97 ?_
            obtain ⟨h22, eh22, hm⟩ := bdE hm
            refine cg_last C hw eh22 dX0_indexBy_98 (fun H locs hw => ?_)
            have zh22 := uL_sz eh22
            obtain ⟨v23, ev23, hm⟩ := nmE hm
            refine lv_iinc (v := v23) (lv' := [(7, .int v23), (0, .ref x0), (1, .ref x1), (2, .long x2), (4, .long x4), (6, .int x6)]) hx hb dX0_indexBy_99 hl (k := 5) rfl (by rw [ev23]; rfl) (by decide) rfl (fun ls hl => ?_)
            refine lv_goto (tgt := 21) hx hb dX0_indexBy_102 (by decide) ?_
            exact ih21 h22 x0 x1 x2 x4 x6 v23 _ _ _ _ _ hm hw (by omega) (by omega) (lv_sub hl [1, 2, 3, 4, 5, 0] rfl)
      intro h x0 x1 x2 x4 x6 cc ss H locs ls hm hw hcc hss hl
      have hmo := mo_X0_indexBy_12  (n12 + 1) h x0 x1 x2 x4 x6 _ hm
      have sb_ : h.1 ≤ u9.1 := hmo.1
      have tb_ : h.2.1 ≤ u9.2.1 := hmo.2.1
      rw [m_X0_indexBy_12] at hm
      refine lv_iload hx hb dX0_indexBy_12 (lv_at hl 4 rfl) ?_
      refine lv_iconst (v := 3) hx hb dX0_indexBy_14 (by decide) ?_
      refine lv_icmp_ge (tgt := 111) hx hb dX0_indexBy_15 (by decide) (fun c1 => ?_) (fun c1 => ?_)
      · have hm := ifT hm c1
        exact hB111 h x0 x1 x2 x4 _ _ _ _ _ hm hw (by omega) (by omega) (lv_sub hl [0, 1, 2, 3] rfl)
      · have hm := ifF hm c1
        refine lv_iconst (v := 0) hx hb dX0_indexBy_18 (by decide) ?_
        refine lv_istore (lv' := [(7, .int (0 : Int32)), (0, .ref x0), (1, .ref x1), (2, .long x2), (4, .long x4), (6, .int x6)]) hx hb dX0_indexBy_19 hl (by decide) rfl (fun ls hl => ?_)
        exact hB21 f h x0 x1 x2 x4 x6 (0 : Int32) _ _ _ _ _ hm hw (by omega) (by omega) (lv_sub hl [1, 2, 3, 4, 5, 0] rfl)
  have hB4 : ∀ (h : CH) (x0 : Nat) (x1 : Nat) (x2 : Int64) (y0 : Int64) (cc ss : Nat) (H : Heap) (locs : List Loc) (ls : Array Slot), m_X0_indexBy_4 f h x0 x1 x2 y0 = some (r0, u9) → CW D dA A s h H locs → cc + u.1 = h.1 → ss + u.2.1 = h.2.1 → lv_has ls 8 [(0, .ref x0), (1, .ref x1), (2, .long x2)] → W p l e (rm_X0_indexBy (u9.1 - u.1) (u9.2.1 - u.2.1)) s m args below meth c H locs cc ss QQ (F0 m 4 ls [.long y0]) := by
    intro h x0 x1 x2 y0 cc ss H locs ls hm hw hcc hss hl
    have hmo := mo_X0_indexBy_4  h x0 x1 x2 y0 _ hm
    have sb_ : h.1 ≤ u9.1 := hmo.1
    have tb_ : h.2.1 ≤ u9.2.1 := hmo.2.1
    rw [m_X0_indexBy_4] at hm
    obtain ⟨r1, er1, hm⟩ := bdE hm
    refine scl (va_runS (As := [.long y0]) (rest := []) ⟨hx, hb, hml, hown, hts⟩ (w_J9_abs l er1) (cw_J9_abs hts q933 ⟨Nat.le_of_ble_eq_true rfl, Nat.le_of_ble_eq_true rfl⟩) (pre_s _) rfl rfl hl.1 rfl (lv_room (Nat.le_of_ble_eq_true rfl)) dX0_indexBy_4 ⟨show cc + 0 ≤ u9.1 - u.1 by omega, show ss + 0 ≤ u9.2.1 - u.2.1 by omega⟩) ?_
    refine lv_lstore (lv' := [(4, .long r1), (0, .ref x0), (1, .ref x1), (2, .long x2)]) hx hb dX0_indexBy_7 hl (by decide) rfl (fun ls hl => ?_)
    refine lv_iconst (v := 0) hx hb dX0_indexBy_9 (by decide) ?_
    refine lv_istore (lv' := [(6, .int (0 : Int32)), (4, .long r1), (0, .ref x0), (1, .ref x1), (2, .long x2)]) hx hb dX0_indexBy_10 hl (by decide) rfl (fun ls hl => ?_)
    exact hB12 f h x0 x1 x2 r1 (0 : Int32) _ _ _ _ _ hm hw (by omega) (by omega) (lv_sub hl [2, 3, 4, 1, 0] rfl)
  rw [m_X0_indexBy] at hm
  refine lv_aload_n hx hb dX0_indexBy_0 rfl (lv_at hl 1 rfl) ?_
  obtain ⟨g1, hm⟩ := gdE hm
  obtain ⟨r3, h2, er3, hm⟩ := bd2E hm
  have lh2 := mo_X2_determinant er3
  have ph2 : u.1 ≤ h2.1 := lh2.1
  have qh2 : u.2.1 ≤ h2.2.1 := lh2.2.1
  have hmo := mo_X0_indexBy_4   h2 x0 x1 x2 r3 _ hm
  have sh2 : h2.1 ≤ u9.1 := hmo.1
  have th2 : h2.2.1 ≤ u9.2.1 := hmo.2.1
  refine cg_calll hw lh2 (va_runV (As := []) (rest := []) ⟨hx, hb, hml, hown, hts⟩ (w_X2_determinant l er3) (cw_X2_determinant hts q1060 ⟨Nat.le_of_ble_eq_true rfl, Nat.le_of_ble_eq_true rfl⟩) (cg_preV C hw g1 rfl _) rfl rfl hl.1 rfl (lv_room (Nat.le_of_ble_eq_true rfl)) dX0_indexBy_1 ⟨show cc + (h2.1 - u.1) ≤ u9.1 - u.1 by omega, show ss + (h2.2.1 - u.2.1) ≤ u9.2.1 - u.2.1 by omega⟩) (fun H locs hw => ?_)
  exact hB4 h2 x0 x1 x2 r3 _ _ _ _ _ hm hw (by omega) (by omega) (lv_sub hl [0, 1, 2] rfl)
