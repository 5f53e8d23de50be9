/-! the law's walk (printed by gen/mk_law.py) -/
set_option maxRecDepth 100000
noncomputable section
def m_L_law_1981 (f : Nat) (xs : Nat → Int32) (L : Nat) (h : CH) : Option (Int32 × CH) := some ((1 : Int32), h)
theorem mo_L_law_1981 {f : Nat} {xs : Nat → Int32} {L : Nat} : ∀ (h : CH) (r : (Int32 × CH)), m_L_law_1981 f xs L h = some r → le2 h r.2 := by
  intro h r hm
  rw [m_L_law_1981] at hm
  cases hm
  exact le2.rf
def m_L_law_1975 (f : Nat) (xs : Nat → Int32) (L : Nat) (k18 : CH → Nat → Nat → Int32 → Option (Int32 × CH)) (h : CH) (x1 : Nat) (x2 : Nat) (x3 : Int32) : Option (Int32 × CH) := nmv ((x3 + 7) : Int32) fun v1 =>
    k18 h x1 x2 v1
theorem mo_L_law_1975 {f : Nat} {xs : Nat → Int32} {L : Nat} {k18 : CH → Nat → Nat → Int32 → Option (Int32 × CH)} (hk18 : ∀ (h : CH) (x1 : Nat) (x2 : Nat) (x3 : Int32) (r : (Int32 × CH)), k18 h x1 x2 x3 = some r → le2 h r.2) : ∀ (h : CH) (x1 : Nat) (x2 : Nat) (x3 : Int32) (r : (Int32 × CH)), m_L_law_1975 f xs L k18 h x1 x2 x3 = some r → le2 h r.2 := by
  intro h x1 x2 x3 r hm
  rw [m_L_law_1975] at hm
  obtain ⟨v1, ev1, hm⟩ := nmE hm
  exact (hk18 h x1 x2 v1 _ hm)
def m_L_law_285 (f : Nat) (xs : Nat → Int32) (L : Nat) (h : CH) : Option (Int32 × CH) := some ((0 : Int32), h)
theorem mo_L_law_285 {f : Nat} {xs : Nat → Int32} {L : Nat} : ∀ (h : CH) (r : (Int32 × CH)), m_L_law_285 f xs L h = some r → le2 h r.2 := by
  intro h r hm
  rw [m_L_law_285] at hm
  cases hm
  exact le2.rf
def m_L_law_282 (f : Nat) (xs : Nat → Int32) (L : Nat) (k18 : CH → Nat → Nat → Int32 → Option (Int32 × CH)) (h : CH) (x1 : Nat) (x2 : Nat) (x3 : Int32) (y0 : Int32) (y1 : Int32) : Option (Int32 × CH) := if y0 = y1 then
    m_L_law_1975 f xs L k18 h x1 x2 x3
    else m_L_law_285 f xs L h
theorem mo_L_law_282 {f : Nat} {xs : Nat → Int32} {L : Nat} {k18 : CH → Nat → Nat → Int32 → Option (Int32 × CH)} (hk18 : ∀ (h : CH) (x1 : Nat) (x2 : Nat) (x3 : Int32) (r : (Int32 × CH)), k18 h x1 x2 x3 = some r → le2 h r.2) : ∀ (h : CH) (x1 : Nat) (x2 : Nat) (x3 : Int32) (y0 : Int32) (y1 : Int32) (r : (Int32 × CH)), m_L_law_282 f xs L k18 h x1 x2 x3 y0 y1 = some r → le2 h r.2 := by
  intro h x1 x2 x3 y0 y1 r hm
  rw [m_L_law_282] at hm
  by_cases c1 : y0 = y1
  · have hm := ifT hm c1
    exact (mo_L_law_1975 hk18 h x1 x2 x3 _ hm)
  · have hm := ifF hm c1
    exact (mo_L_law_285  h _ hm)
def m_L_law_253 (f : Nat) (xs : Nat → Int32) (L : Nat) (k18 : CH → Nat → Nat → Int32 → Option (Int32 × CH)) (h : CH) (x1 : Nat) (x2 : Nat) (x3 : Int32) (y0 : Int32) : Option (Int32 × CH) := gd (ix (x3 + (1 : Int32)) L) <|
    gd (ix (x3 + (2 : Int32)) L) <|
    gd (ix (x3 + (3 : Int32)) L) <|
    gd (ix (x3 + (4 : Int32)) L) <|
    gd (ix (x3 + (5 : Int32)) L) <|
    gd (isC h x2 0) <|
    bd2 (m_X3_feed f h x2 (xs (Int32.toNatClampNeg (x3 + (1 : Int32)))) (xs (Int32.toNatClampNeg (x3 + (2 : Int32)))) (xs (Int32.toNatClampNeg (x3 + (3 : Int32)))) (xs (Int32.toNatClampNeg (x3 + (4 : Int32)))) (xs (Int32.toNatClampNeg (x3 + (5 : Int32))))) fun r8 h7 =>
    m_L_law_282 f xs L k18 h7 x1 x2 x3 y0 r8
theorem mo_L_law_253 {f : Nat} {xs : Nat → Int32} {L : Nat} {k18 : CH → Nat → Nat → Int32 → Option (Int32 × CH)} (hk18 : ∀ (h : CH) (x1 : Nat) (x2 : Nat) (x3 : Int32) (r : (Int32 × CH)), k18 h x1 x2 x3 = some r → le2 h r.2) : ∀ (h : CH) (x1 : Nat) (x2 : Nat) (x3 : Int32) (y0 : Int32) (r : (Int32 × CH)), m_L_law_253 f xs L k18 h x1 x2 x3 y0 = some r → le2 h r.2 := by
  intro h x1 x2 x3 y0 r hm
  rw [m_L_law_253] at hm
  obtain ⟨g1, hm⟩ := gdE hm
  obtain ⟨g2, hm⟩ := gdE hm
  obtain ⟨g3, hm⟩ := gdE hm
  obtain ⟨g4, hm⟩ := gdE hm
  obtain ⟨g5, hm⟩ := gdE hm
  obtain ⟨g6, hm⟩ := gdE hm
  obtain ⟨r8, h7, er8, hm⟩ := bd2E hm
  have lh7 := mo_X3_feed er8
  exact (lh7.tr (mo_L_law_282 hk18 h7 x1 x2 x3 y0 r8 _ hm))
def m_L_law_224 (f : Nat) (xs : Nat → Int32) (L : Nat) (k18 : CH → Nat → Nat → Int32 → Option (Int32 × CH)) (h : CH) (x1 : Nat) (x2 : Nat) (x3 : Int32) : Option (Int32 × CH) := gd (ix (x3 + (1 : Int32)) L) <|
    gd (ix (x3 + (2 : Int32)) L) <|
    gd (ix (x3 + (3 : Int32)) L) <|
    gd (ix (x3 + (4 : Int32)) L) <|
    gd (ix (x3 + (5 : Int32)) L) <|
    gd (isC h x1 1) <|
    bd2 (m_X0_feed f h x1 (xs (Int32.toNatClampNeg (x3 + (1 : Int32)))) (xs (Int32.toNatClampNeg (x3 + (2 : Int32)))) (xs (Int32.toNatClampNeg (x3 + (3 : Int32)))) (xs (Int32.toNatClampNeg (x3 + (4 : Int32)))) (xs (Int32.toNatClampNeg (x3 + (5 : Int32))))) fun r8 h7 =>
    m_L_law_253 f xs L k18 h7 x1 x2 x3 r8
theorem mo_L_law_224 {f : Nat} {xs : Nat → Int32} {L : Nat} {k18 : CH → Nat → Nat → Int32 → Option (Int32 × CH)} (hk18 : ∀ (h : CH) (x1 : Nat) (x2 : Nat) (x3 : Int32) (r : (Int32 × CH)), k18 h x1 x2 x3 = some r → le2 h r.2) : ∀ (h : CH) (x1 : Nat) (x2 : Nat) (x3 : Int32) (r : (Int32 × CH)), m_L_law_224 f xs L k18 h x1 x2 x3 = some r → le2 h r.2 := by
  intro h x1 x2 x3 r hm
  rw [m_L_law_224] at hm
  obtain ⟨g1, hm⟩ := gdE hm
  obtain ⟨g2, hm⟩ := gdE hm
  obtain ⟨g3, hm⟩ := gdE hm
  obtain ⟨g4, hm⟩ := gdE hm
  obtain ⟨g5, hm⟩ := gdE hm
  obtain ⟨g6, hm⟩ := gdE hm
  obtain ⟨r8, h7, er8, hm⟩ := bd2E hm
  have lh7 := mo_X0_feed er8
  exact (lh7.tr (mo_L_law_253 hk18 h7 x1 x2 x3 r8 _ hm))
def m_L_law_308 (f : Nat) (xs : Nat → Int32) (L : Nat) (h : CH) : Option (Int32 × CH) := some ((0 : Int32), h)
theorem mo_L_law_308 {f : Nat} {xs : Nat → Int32} {L : Nat} : ∀ (h : CH) (r : (Int32 × CH)), m_L_law_308 f xs L h = some r → le2 h r.2 := by
  intro h r hm
  rw [m_L_law_308] at hm
  cases hm
  exact le2.rf
def m_L_law_296 (f : Nat) (xs : Nat → Int32) (L : Nat) (k18 : CH → Nat → Nat → Int32 → Option (Int32 × CH)) (h : CH) (x1 : Nat) (x2 : Nat) (x3 : Int32) (y0 : Int32) : Option (Int32 × CH) := gd (ix (x3 + (1 : Int32)) L) <|
    bd2 (tcr h x2 (fun z => m_X3_end f z (xs (Int32.toNatClampNeg (x3 + (1 : Int32)))))) fun r3 h2 =>
    if y0 = r3 then
    m_L_law_1975 f xs L k18 h2 x1 x2 x3
    else m_L_law_308 f xs L h2
theorem mo_L_law_296 {f : Nat} {xs : Nat → Int32} {L : Nat} {k18 : CH → Nat → Nat → Int32 → Option (Int32 × CH)} (hk18 : ∀ (h : CH) (x1 : Nat) (x2 : Nat) (x3 : Int32) (r : (Int32 × CH)), k18 h x1 x2 x3 = some r → le2 h r.2) : ∀ (h : CH) (x1 : Nat) (x2 : Nat) (x3 : Int32) (y0 : Int32) (r : (Int32 × CH)), m_L_law_296 f xs L k18 h x1 x2 x3 y0 = some r → le2 h r.2 := by
  intro h x1 x2 x3 y0 r hm
  rw [m_L_law_296] at hm
  obtain ⟨g1, hm⟩ := gdE hm
  obtain ⟨r3, h2, er3, hm⟩ := bd2E hm
  have lh2 := tcr_le er3
  by_cases c4 : y0 = r3
  · have hm := ifT hm c4
    exact (lh2.tr (mo_L_law_1975 hk18 h2 x1 x2 x3 _ hm))
  · have hm := ifF hm c4
    exact (lh2.tr (mo_L_law_308  h2 _ hm))
def m_L_law_287 (f : Nat) (xs : Nat → Int32) (L : Nat) (k18 : CH → Nat → Nat → Int32 → Option (Int32 × CH)) (h : CH) (x1 : Nat) (x2 : Nat) (x3 : Int32) : Option (Int32 × CH) := gd (ix (x3 + (1 : Int32)) L) <|
    gd (isC h x1 1) <|
    bd2 (m_X0_end f h x1 (xs (Int32.toNatClampNeg (x3 + (1 : Int32))))) fun r4 h3 =>
    m_L_law_296 f xs L k18 h3 x1 x2 x3 r4
theorem mo_L_law_287 {f : Nat} {xs : Nat → Int32} {L : Nat} {k18 : CH → Nat → Nat → Int32 → Option (Int32 × CH)} (hk18 : ∀ (h : CH) (x1 : Nat) (x2 : Nat) (x3 : Int32) (r : (Int32 × CH)), k18 h x1 x2 x3 = some r → le2 h r.2) : ∀ (h : CH) (x1 : Nat) (x2 : Nat) (x3 : Int32) (r : (Int32 × CH)), m_L_law_287 f xs L k18 h x1 x2 x3 = some r → le2 h r.2 := by
  intro h x1 x2 x3 r hm
  rw [m_L_law_287] at hm
  obtain ⟨g1, hm⟩ := gdE hm
  obtain ⟨g2, hm⟩ := gdE hm
  obtain ⟨r4, h3, er4, hm⟩ := bd2E hm
  have lh3 := mo_X0_end er4
  exact (lh3.tr (mo_L_law_296 hk18 h3 x1 x2 x3 r4 _ hm))
def m_L_law_321 (f : Nat) (xs : Nat → Int32) (L : Nat) (h : CH) : Option (Int32 × CH) := some ((0 : Int32), h)
theorem mo_L_law_321 {f : Nat} {xs : Nat → Int32} {L : Nat} : ∀ (h : CH) (r : (Int32 × CH)), m_L_law_321 f xs L h = some r → le2 h r.2 := by
  intro h r hm
  rw [m_L_law_321] at hm
  cases hm
  exact le2.rf
def m_L_law_318 (f : Nat) (xs : Nat → Int32) (L : Nat) (k18 : CH → Nat → Nat → Int32 → Option (Int32 × CH)) (h : CH) (x1 : Nat) (x2 : Nat) (x3 : Int32) (y0 : Int32) (y1 : Int32) : Option (Int32 × CH) := if y0 = y1 then
    m_L_law_1975 f xs L k18 h x1 x2 x3
    else m_L_law_321 f xs L h
theorem mo_L_law_318 {f : Nat} {xs : Nat → Int32} {L : Nat} {k18 : CH → Nat → Nat → Int32 → Option (Int32 × CH)} (hk18 : ∀ (h : CH) (x1 : Nat) (x2 : Nat) (x3 : Int32) (r : (Int32 × CH)), k18 h x1 x2 x3 = some r → le2 h r.2) : ∀ (h : CH) (x1 : Nat) (x2 : Nat) (x3 : Int32) (y0 : Int32) (y1 : Int32) (r : (Int32 × CH)), m_L_law_318 f xs L k18 h x1 x2 x3 y0 y1 = some r → le2 h r.2 := by
  intro h x1 x2 x3 y0 y1 r hm
  rw [m_L_law_318] at hm
  by_cases c1 : y0 = y1
  · have hm := ifT hm c1
    exact (mo_L_law_1975 hk18 h x1 x2 x3 _ hm)
  · have hm := ifF hm c1
    exact (mo_L_law_321  h _ hm)
def m_L_law_314 (f : Nat) (xs : Nat → Int32) (L : Nat) (k18 : CH → Nat → Nat → Int32 → Option (Int32 × CH)) (h : CH) (x1 : Nat) (x2 : Nat) (x3 : Int32) (y0 : Int32) : Option (Int32 × CH) := gd (isC h x2 0) <|
    bd2 (m_X3_lattices f h x2) fun r3 h2 =>
    m_L_law_318 f xs L k18 h2 x1 x2 x3 y0 r3
theorem mo_L_law_314 {f : Nat} {xs : Nat → Int32} {L : Nat} {k18 : CH → Nat → Nat → Int32 → Option (Int32 × CH)} (hk18 : ∀ (h : CH) (x1 : Nat) (x2 : Nat) (x3 : Int32) (r : (Int32 × CH)), k18 h x1 x2 x3 = some r → le2 h r.2) : ∀ (h : CH) (x1 : Nat) (x2 : Nat) (x3 : Int32) (y0 : Int32) (r : (Int32 × CH)), m_L_law_314 f xs L k18 h x1 x2 x3 y0 = some r → le2 h r.2 := by
  intro h x1 x2 x3 y0 r hm
  rw [m_L_law_314] at hm
  obtain ⟨g1, hm⟩ := gdE hm
  obtain ⟨r3, h2, er3, hm⟩ := bd2E hm
  have lh2 := mo_X3_lattices er3
  exact (lh2.tr (mo_L_law_318 hk18 h2 x1 x2 x3 y0 r3 _ hm))
def m_L_law_310 (f : Nat) (xs : Nat → Int32) (L : Nat) (k18 : CH → Nat → Nat → Int32 → Option (Int32 × CH)) (h : CH) (x1 : Nat) (x2 : Nat) (x3 : Int32) : Option (Int32 × CH) := gd (isC h x1 1) <|
    bx (m_X0_lattices f h x1) (fun r3 h2 =>
    m_L_law_314 f xs L k18 h2 x1 x2 x3 r3) (fun q4 h2 =>
    none)
theorem mo_L_law_310 {f : Nat} {xs : Nat → Int32} {L : Nat} {k18 : CH → Nat → Nat → Int32 → Option (Int32 × CH)} (hk18 : ∀ (h : CH) (x1 : Nat) (x2 : Nat) (x3 : Int32) (r : (Int32 × CH)), k18 h x1 x2 x3 = some r → le2 h r.2) : ∀ (h : CH) (x1 : Nat) (x2 : Nat) (x3 : Int32) (r : (Int32 × CH)), m_L_law_310 f xs L k18 h x1 x2 x3 = some r → le2 h r.2 := by
  intro h x1 x2 x3 r hm
  rw [m_L_law_310] at hm
  obtain ⟨g1, hm⟩ := gdE hm
  rcases bxE hm with ⟨r3, h2, eh2, hm⟩ | ⟨q4, h2, eh2, hm⟩
  · have lh2 := mo_X0_lattices eh2
    exact (lh2.tr (mo_L_law_314 hk18 h2 x1 x2 x3 r3 _ hm))
  · exact noE hm
def m_L_law_344 (f : Nat) (xs : Nat → Int32) (L : Nat) (h : CH) : Option (Int32 × CH) := some ((0 : Int32), h)
theorem mo_L_law_344 {f : Nat} {xs : Nat → Int32} {L : Nat} : ∀ (h : CH) (r : (Int32 × CH)), m_L_law_344 f xs L h = some r → le2 h r.2 := by
  intro h r hm
  rw [m_L_law_344] at hm
  cases hm
  exact le2.rf
def m_L_law_332 (f : Nat) (xs : Nat → Int32) (L : Nat) (k18 : CH → Nat → Nat → Int32 → Option (Int32 × CH)) (h : CH) (x1 : Nat) (x2 : Nat) (x3 : Int32) (y0 : Int32) : Option (Int32 × CH) := gd (ix (x3 + (1 : Int32)) L) <|
    bd2 (tcr h x2 (fun z => m_X3_fault f z (xs (Int32.toNatClampNeg (x3 + (1 : Int32)))))) fun r3 h2 =>
    if y0 = r3 then
    m_L_law_1975 f xs L k18 h2 x1 x2 x3
    else m_L_law_344 f xs L h2
theorem mo_L_law_332 {f : Nat} {xs : Nat → Int32} {L : Nat} {k18 : CH → Nat → Nat → Int32 → Option (Int32 × CH)} (hk18 : ∀ (h : CH) (x1 : Nat) (x2 : Nat) (x3 : Int32) (r : (Int32 × CH)), k18 h x1 x2 x3 = some r → le2 h r.2) : ∀ (h : CH) (x1 : Nat) (x2 : Nat) (x3 : Int32) (y0 : Int32) (r : (Int32 × CH)), m_L_law_332 f xs L k18 h x1 x2 x3 y0 = some r → le2 h r.2 := by
  intro h x1 x2 x3 y0 r hm
  rw [m_L_law_332] at hm
  obtain ⟨g1, hm⟩ := gdE hm
  obtain ⟨r3, h2, er3, hm⟩ := bd2E hm
  have lh2 := tcr_le er3
  by_cases c4 : y0 = r3
  · have hm := ifT hm c4
    exact (lh2.tr (mo_L_law_1975 hk18 h2 x1 x2 x3 _ hm))
  · have hm := ifF hm c4
    exact (lh2.tr (mo_L_law_344  h2 _ hm))
def m_L_law_323 (f : Nat) (xs : Nat → Int32) (L : Nat) (k18 : CH → Nat → Nat → Int32 → Option (Int32 × CH)) (h : CH) (x1 : Nat) (x2 : Nat) (x3 : Int32) : Option (Int32 × CH) := gd (ix (x3 + (1 : Int32)) L) <|
    gd (isC h x1 1) <|
    bd2 (m_X0_fault f h x1 (xs (Int32.toNatClampNeg (x3 + (1 : Int32))))) fun r4 h3 =>
    m_L_law_332 f xs L k18 h3 x1 x2 x3 r4
theorem mo_L_law_323 {f : Nat} {xs : Nat → Int32} {L : Nat} {k18 : CH → Nat → Nat → Int32 → Option (Int32 × CH)} (hk18 : ∀ (h : CH) (x1 : Nat) (x2 : Nat) (x3 : Int32) (r : (Int32 × CH)), k18 h x1 x2 x3 = some r → le2 h r.2) : ∀ (h : CH) (x1 : Nat) (x2 : Nat) (x3 : Int32) (r : (Int32 × CH)), m_L_law_323 f xs L k18 h x1 x2 x3 = some r → le2 h r.2 := by
  intro h x1 x2 x3 r hm
  rw [m_L_law_323] at hm
  obtain ⟨g1, hm⟩ := gdE hm
  obtain ⟨g2, hm⟩ := gdE hm
  obtain ⟨r4, h3, er4, hm⟩ := bd2E hm
  have lh3 := mo_X0_fault er4
  exact (lh3.tr (mo_L_law_332 hk18 h3 x1 x2 x3 r4 _ hm))
def m_L_law_367 (f : Nat) (xs : Nat → Int32) (L : Nat) (h : CH) : Option (Int32 × CH) := some ((0 : Int32), h)
theorem mo_L_law_367 {f : Nat} {xs : Nat → Int32} {L : Nat} : ∀ (h : CH) (r : (Int32 × CH)), m_L_law_367 f xs L h = some r → le2 h r.2 := by
  intro h r hm
  rw [m_L_law_367] at hm
  cases hm
  exact le2.rf
def m_L_law_355 (f : Nat) (xs : Nat → Int32) (L : Nat) (k18 : CH → Nat → Nat → Int32 → Option (Int32 × CH)) (h : CH) (x1 : Nat) (x2 : Nat) (x3 : Int32) (y0 : Int32) : Option (Int32 × CH) := gd (ix (x3 + (1 : Int32)) L) <|
    bd2 (tcr h x2 (fun z => m_X3_count f z (xs (Int32.toNatClampNeg (x3 + (1 : Int32)))))) fun r3 h2 =>
    if y0 = r3 then
    m_L_law_1975 f xs L k18 h2 x1 x2 x3
    else m_L_law_367 f xs L h2
theorem mo_L_law_355 {f : Nat} {xs : Nat → Int32} {L : Nat} {k18 : CH → Nat → Nat → Int32 → Option (Int32 × CH)} (hk18 : ∀ (h : CH) (x1 : Nat) (x2 : Nat) (x3 : Int32) (r : (Int32 × CH)), k18 h x1 x2 x3 = some r → le2 h r.2) : ∀ (h : CH) (x1 : Nat) (x2 : Nat) (x3 : Int32) (y0 : Int32) (r : (Int32 × CH)), m_L_law_355 f xs L k18 h x1 x2 x3 y0 = some r → le2 h r.2 := by
  intro h x1 x2 x3 y0 r hm
  rw [m_L_law_355] at hm
  obtain ⟨g1, hm⟩ := gdE hm
  obtain ⟨r3, h2, er3, hm⟩ := bd2E hm
  have lh2 := tcr_le er3
  by_cases c4 : y0 = r3
  · have hm := ifT hm c4
    exact (lh2.tr (mo_L_law_1975 hk18 h2 x1 x2 x3 _ hm))
  · have hm := ifF hm c4
    exact (lh2.tr (mo_L_law_367  h2 _ hm))
def m_L_law_346 (f : Nat) (xs : Nat → Int32) (L : Nat) (k18 : CH → Nat → Nat → Int32 → Option (Int32 × CH)) (h : CH) (x1 : Nat) (x2 : Nat) (x3 : Int32) : Option (Int32 × CH) := gd (ix (x3 + (1 : Int32)) L) <|
    gd (isC h x1 1) <|
    bd2 (m_X0_count f h x1 (xs (Int32.toNatClampNeg (x3 + (1 : Int32))))) fun r4 h3 =>
    m_L_law_355 f xs L k18 h3 x1 x2 x3 r4
theorem mo_L_law_346 {f : Nat} {xs : Nat → Int32} {L : Nat} {k18 : CH → Nat → Nat → Int32 → Option (Int32 × CH)} (hk18 : ∀ (h : CH) (x1 : Nat) (x2 : Nat) (x3 : Int32) (r : (Int32 × CH)), k18 h x1 x2 x3 = some r → le2 h r.2) : ∀ (h : CH) (x1 : Nat) (x2 : Nat) (x3 : Int32) (r : (Int32 × CH)), m_L_law_346 f xs L k18 h x1 x2 x3 = some r → le2 h r.2 := by
  intro h x1 x2 x3 r hm
  rw [m_L_law_346] at hm
  obtain ⟨g1, hm⟩ := gdE hm
  obtain ⟨g2, hm⟩ := gdE hm
  obtain ⟨r4, h3, er4, hm⟩ := bd2E hm
  have lh3 := mo_X0_count er4
  exact (lh3.tr (mo_L_law_355 hk18 h3 x1 x2 x3 r4 _ hm))
def m_L_law_410 (f : Nat) (xs : Nat → Int32) (L : Nat) (h : CH) : Option (Int32 × CH) := some ((0 : Int32), h)
theorem mo_L_law_410 {f : Nat} {xs : Nat → Int32} {L : Nat} : ∀ (h : CH) (r : (Int32 × CH)), m_L_law_410 f xs L h = some r → le2 h r.2 := by
  intro h r hm
  rw [m_L_law_410] at hm
  cases hm
  exact le2.rf
def m_L_law_388 (f : Nat) (xs : Nat → Int32) (L : Nat) (k18 : CH → Nat → Nat → Int32 → Option (Int32 × CH)) (h : CH) (x1 : Nat) (x2 : Nat) (x3 : Int32) (y0 : Int32) : Option (Int32 × CH) := gd (ix (x3 + (1 : Int32)) L) <|
    gd (ix (x3 + (2 : Int32)) L) <|
    gd (ix (x3 + (3 : Int32)) L) <|
    bd2 (tcr h x2 (fun z => m_X3_row f z (xs (Int32.toNatClampNeg (x3 + (1 : Int32)))) (xs (Int32.toNatClampNeg (x3 + (2 : Int32)))) (xs (Int32.toNatClampNeg (x3 + (3 : Int32)))))) fun r5 h4 =>
    if y0 = r5 then
    m_L_law_1975 f xs L k18 h4 x1 x2 x3
    else m_L_law_410 f xs L h4
theorem mo_L_law_388 {f : Nat} {xs : Nat → Int32} {L : Nat} {k18 : CH → Nat → Nat → Int32 → Option (Int32 × CH)} (hk18 : ∀ (h : CH) (x1 : Nat) (x2 : Nat) (x3 : Int32) (r : (Int32 × CH)), k18 h x1 x2 x3 = some r → le2 h r.2) : ∀ (h : CH) (x1 : Nat) (x2 : Nat) (x3 : Int32) (y0 : Int32) (r : (Int32 × CH)), m_L_law_388 f xs L k18 h x1 x2 x3 y0 = some r → le2 h r.2 := by
  intro h x1 x2 x3 y0 r hm
  rw [m_L_law_388] at hm
  obtain ⟨g1, hm⟩ := gdE hm
  obtain ⟨g2, hm⟩ := gdE hm
  obtain ⟨g3, hm⟩ := gdE hm
  obtain ⟨r5, h4, er5, hm⟩ := bd2E hm
  have lh4 := tcr_le er5
  by_cases c6 : y0 = r5
  · have hm := ifT hm c6
    exact (lh4.tr (mo_L_law_1975 hk18 h4 x1 x2 x3 _ hm))
  · have hm := ifF hm c6
    exact (lh4.tr (mo_L_law_410  h4 _ hm))
def m_L_law_369 (f : Nat) (xs : Nat → Int32) (L : Nat) (k18 : CH → Nat → Nat → Int32 → Option (Int32 × CH)) (h : CH) (x1 : Nat) (x2 : Nat) (x3 : Int32) : Option (Int32 × CH) := gd (ix (x3 + (1 : Int32)) L) <|
    gd (ix (x3 + (2 : Int32)) L) <|
    gd (ix (x3 + (3 : Int32)) L) <|
    gd (isC h x1 1) <|
    bd2 (m_X0_row f h x1 (xs (Int32.toNatClampNeg (x3 + (1 : Int32)))) (xs (Int32.toNatClampNeg (x3 + (2 : Int32)))) (xs (Int32.toNatClampNeg (x3 + (3 : Int32))))) fun r6 h5 =>
    m_L_law_388 f xs L k18 h5 x1 x2 x3 r6
theorem mo_L_law_369 {f : Nat} {xs : Nat → Int32} {L : Nat} {k18 : CH → Nat → Nat → Int32 → Option (Int32 × CH)} (hk18 : ∀ (h : CH) (x1 : Nat) (x2 : Nat) (x3 : Int32) (r : (Int32 × CH)), k18 h x1 x2 x3 = some r → le2 h r.2) : ∀ (h : CH) (x1 : Nat) (x2 : Nat) (x3 : Int32) (r : (Int32 × CH)), m_L_law_369 f xs L k18 h x1 x2 x3 = some r → le2 h r.2 := by
  intro h x1 x2 x3 r hm
  rw [m_L_law_369] at hm
  obtain ⟨g1, hm⟩ := gdE hm
  obtain ⟨g2, hm⟩ := gdE hm
  obtain ⟨g3, hm⟩ := gdE hm
  obtain ⟨g4, hm⟩ := gdE hm
  obtain ⟨r6, h5, er6, hm⟩ := bd2E hm
  have lh5 := mo_X0_row er6
  exact (lh5.tr (mo_L_law_388 hk18 h5 x1 x2 x3 r6 _ hm))
def m_L_law_433 (f : Nat) (xs : Nat → Int32) (L : Nat) (h : CH) : Option (Int32 × CH) := some ((0 : Int32), h)
theorem mo_L_law_433 {f : Nat} {xs : Nat → Int32} {L : Nat} : ∀ (h : CH) (r : (Int32 × CH)), m_L_law_433 f xs L h = some r → le2 h r.2 := by
  intro h r hm
  rw [m_L_law_433] at hm
  cases hm
  exact le2.rf
def m_L_law_421 (f : Nat) (xs : Nat → Int32) (L : Nat) (k18 : CH → Nat → Nat → Int32 → Option (Int32 × CH)) (h : CH) (x1 : Nat) (x2 : Nat) (x3 : Int32) (y0 : Int32) : Option (Int32 × CH) := gd (ix (x3 + (1 : Int32)) L) <|
    bd2 (tcr h x2 (fun z => m_X3_over f z (xs (Int32.toNatClampNeg (x3 + (1 : Int32)))))) fun r3 h2 =>
    if y0 = r3 then
    m_L_law_1975 f xs L k18 h2 x1 x2 x3
    else m_L_law_433 f xs L h2
theorem mo_L_law_421 {f : Nat} {xs : Nat → Int32} {L : Nat} {k18 : CH → Nat → Nat → Int32 → Option (Int32 × CH)} (hk18 : ∀ (h : CH) (x1 : Nat) (x2 : Nat) (x3 : Int32) (r : (Int32 × CH)), k18 h x1 x2 x3 = some r → le2 h r.2) : ∀ (h : CH) (x1 : Nat) (x2 : Nat) (x3 : Int32) (y0 : Int32) (r : (Int32 × CH)), m_L_law_421 f xs L k18 h x1 x2 x3 y0 = some r → le2 h r.2 := by
  intro h x1 x2 x3 y0 r hm
  rw [m_L_law_421] at hm
  obtain ⟨g1, hm⟩ := gdE hm
  obtain ⟨r3, h2, er3, hm⟩ := bd2E hm
  have lh2 := tcr_le er3
  by_cases c4 : y0 = r3
  · have hm := ifT hm c4
    exact (lh2.tr (mo_L_law_1975 hk18 h2 x1 x2 x3 _ hm))
  · have hm := ifF hm c4
    exact (lh2.tr (mo_L_law_433  h2 _ hm))
def m_L_law_412 (f : Nat) (xs : Nat → Int32) (L : Nat) (k18 : CH → Nat → Nat → Int32 → Option (Int32 × CH)) (h : CH) (x1 : Nat) (x2 : Nat) (x3 : Int32) : Option (Int32 × CH) := gd (ix (x3 + (1 : Int32)) L) <|
    gd (isC h x1 1) <|
    bd2 (m_X0_over f h x1 (xs (Int32.toNatClampNeg (x3 + (1 : Int32))))) fun r4 h3 =>
    m_L_law_421 f xs L k18 h3 x1 x2 x3 r4
theorem mo_L_law_412 {f : Nat} {xs : Nat → Int32} {L : Nat} {k18 : CH → Nat → Nat → Int32 → Option (Int32 × CH)} (hk18 : ∀ (h : CH) (x1 : Nat) (x2 : Nat) (x3 : Int32) (r : (Int32 × CH)), k18 h x1 x2 x3 = some r → le2 h r.2) : ∀ (h : CH) (x1 : Nat) (x2 : Nat) (x3 : Int32) (r : (Int32 × CH)), m_L_law_412 f xs L k18 h x1 x2 x3 = some r → le2 h r.2 := by
  intro h x1 x2 x3 r hm
  rw [m_L_law_412] at hm
  obtain ⟨g1, hm⟩ := gdE hm
  obtain ⟨g2, hm⟩ := gdE hm
  obtain ⟨r4, h3, er4, hm⟩ := bd2E hm
  have lh3 := mo_X0_over er4
  exact (lh3.tr (mo_L_law_421 hk18 h3 x1 x2 x3 r4 _ hm))
def m_L_law_477 (f : Nat) (xs : Nat → Int32) (L : Nat) (h : CH) : Option (Int32 × CH) := some ((0 : Int32), h)
theorem mo_L_law_477 {f : Nat} {xs : Nat → Int32} {L : Nat} : ∀ (h : CH) (r : (Int32 × CH)), m_L_law_477 f xs L h = some r → le2 h r.2 := by
  intro h r hm
  rw [m_L_law_477] at hm
  cases hm
  exact le2.rf
def m_L_law_454 (f : Nat) (xs : Nat → Int32) (L : Nat) (k18 : CH → Nat → Nat → Int32 → Option (Int32 × CH)) (h : CH) (x1 : Nat) (x2 : Nat) (x3 : Int32) (y0 : Int64) : Option (Int32 × CH) := gd (ix (x3 + (1 : Int32)) L) <|
    gd (ix (x3 + (2 : Int32)) L) <|
    gd (ix (x3 + (3 : Int32)) L) <|
    bd2 (tcr h x2 (fun z => m_X3_hermite f z (xs (Int32.toNatClampNeg (x3 + (1 : Int32)))) (xs (Int32.toNatClampNeg (x3 + (2 : Int32)))) (xs (Int32.toNatClampNeg (x3 + (3 : Int32)))))) fun r5 h4 =>
    if y0 = r5 then
    m_L_law_1975 f xs L k18 h4 x1 x2 x3
    else m_L_law_477 f xs L h4
theorem mo_L_law_454 {f : Nat} {xs : Nat → Int32} {L : Nat} {k18 : CH → Nat → Nat → Int32 → Option (Int32 × CH)} (hk18 : ∀ (h : CH) (x1 : Nat) (x2 : Nat) (x3 : Int32) (r : (Int32 × CH)), k18 h x1 x2 x3 = some r → le2 h r.2) : ∀ (h : CH) (x1 : Nat) (x2 : Nat) (x3 : Int32) (y0 : Int64) (r : (Int32 × CH)), m_L_law_454 f xs L k18 h x1 x2 x3 y0 = some r → le2 h r.2 := by
  intro h x1 x2 x3 y0 r hm
  rw [m_L_law_454] at hm
  obtain ⟨g1, hm⟩ := gdE hm
  obtain ⟨g2, hm⟩ := gdE hm
  obtain ⟨g3, hm⟩ := gdE hm
  obtain ⟨r5, h4, er5, hm⟩ := bd2E hm
  have lh4 := tcr_le er5
  by_cases c6 : y0 = r5
  · have hm := ifT hm c6
    exact (lh4.tr (mo_L_law_1975 hk18 h4 x1 x2 x3 _ hm))
  · have hm := ifF hm c6
    exact (lh4.tr (mo_L_law_477  h4 _ hm))
def m_L_law_435 (f : Nat) (xs : Nat → Int32) (L : Nat) (k18 : CH → Nat → Nat → Int32 → Option (Int32 × CH)) (h : CH) (x1 : Nat) (x2 : Nat) (x3 : Int32) : Option (Int32 × CH) := gd (ix (x3 + (1 : Int32)) L) <|
    gd (ix (x3 + (2 : Int32)) L) <|
    gd (ix (x3 + (3 : Int32)) L) <|
    gd (isC h x1 1) <|
    bd2 (m_X0_hermite f h x1 (xs (Int32.toNatClampNeg (x3 + (1 : Int32)))) (xs (Int32.toNatClampNeg (x3 + (2 : Int32)))) (xs (Int32.toNatClampNeg (x3 + (3 : Int32))))) fun r6 h5 =>
    m_L_law_454 f xs L k18 h5 x1 x2 x3 r6
theorem mo_L_law_435 {f : Nat} {xs : Nat → Int32} {L : Nat} {k18 : CH → Nat → Nat → Int32 → Option (Int32 × CH)} (hk18 : ∀ (h : CH) (x1 : Nat) (x2 : Nat) (x3 : Int32) (r : (Int32 × CH)), k18 h x1 x2 x3 = some r → le2 h r.2) : ∀ (h : CH) (x1 : Nat) (x2 : Nat) (x3 : Int32) (r : (Int32 × CH)), m_L_law_435 f xs L k18 h x1 x2 x3 = some r → le2 h r.2 := by
  intro h x1 x2 x3 r hm
  rw [m_L_law_435] at hm
  obtain ⟨g1, hm⟩ := gdE hm
  obtain ⟨g2, hm⟩ := gdE hm
  obtain ⟨g3, hm⟩ := gdE hm
  obtain ⟨g4, hm⟩ := gdE hm
  obtain ⟨r6, h5, er6, hm⟩ := bd2E hm
  have lh5 := mo_X0_hermite er6
  exact (lh5.tr (mo_L_law_454 hk18 h5 x1 x2 x3 r6 _ hm))
def m_L_law_500 (f : Nat) (xs : Nat → Int32) (L : Nat) (h : CH) : Option (Int32 × CH) := some ((0 : Int32), h)
theorem mo_L_law_500 {f : Nat} {xs : Nat → Int32} {L : Nat} : ∀ (h : CH) (r : (Int32 × CH)), m_L_law_500 f xs L h = some r → le2 h r.2 := by
  intro h r hm
  rw [m_L_law_500] at hm
  cases hm
  exact le2.rf
def m_L_law_488 (f : Nat) (xs : Nat → Int32) (L : Nat) (k18 : CH → Nat → Nat → Int32 → Option (Int32 × CH)) (h : CH) (x1 : Nat) (x2 : Nat) (x3 : Int32) (y0 : Int32) : Option (Int32 × CH) := gd (ix (x3 + (1 : Int32)) L) <|
    bd2 (tcr h x2 (fun z => m_X3_steps f z (xs (Int32.toNatClampNeg (x3 + (1 : Int32)))))) fun r3 h2 =>
    if y0 = r3 then
    m_L_law_1975 f xs L k18 h2 x1 x2 x3
    else m_L_law_500 f xs L h2
theorem mo_L_law_488 {f : Nat} {xs : Nat → Int32} {L : Nat} {k18 : CH → Nat → Nat → Int32 → Option (Int32 × CH)} (hk18 : ∀ (h : CH) (x1 : Nat) (x2 : Nat) (x3 : Int32) (r : (Int32 × CH)), k18 h x1 x2 x3 = some r → le2 h r.2) : ∀ (h : CH) (x1 : Nat) (x2 : Nat) (x3 : Int32) (y0 : Int32) (r : (Int32 × CH)), m_L_law_488 f xs L k18 h x1 x2 x3 y0 = some r → le2 h r.2 := by
  intro h x1 x2 x3 y0 r hm
  rw [m_L_law_488] at hm
  obtain ⟨g1, hm⟩ := gdE hm
  obtain ⟨r3, h2, er3, hm⟩ := bd2E hm
  have lh2 := tcr_le er3
  by_cases c4 : y0 = r3
  · have hm := ifT hm c4
    exact (lh2.tr (mo_L_law_1975 hk18 h2 x1 x2 x3 _ hm))
  · have hm := ifF hm c4
    exact (lh2.tr (mo_L_law_500  h2 _ hm))
def m_L_law_479 (f : Nat) (xs : Nat → Int32) (L : Nat) (k18 : CH → Nat → Nat → Int32 → Option (Int32 × CH)) (h : CH) (x1 : Nat) (x2 : Nat) (x3 : Int32) : Option (Int32 × CH) := gd (ix (x3 + (1 : Int32)) L) <|
    gd (isC h x1 1) <|
    bd2 (m_X0_steps f h x1 (xs (Int32.toNatClampNeg (x3 + (1 : Int32))))) fun r4 h3 =>
    m_L_law_488 f xs L k18 h3 x1 x2 x3 r4
theorem mo_L_law_479 {f : Nat} {xs : Nat → Int32} {L : Nat} {k18 : CH → Nat → Nat → Int32 → Option (Int32 × CH)} (hk18 : ∀ (h : CH) (x1 : Nat) (x2 : Nat) (x3 : Int32) (r : (Int32 × CH)), k18 h x1 x2 x3 = some r → le2 h r.2) : ∀ (h : CH) (x1 : Nat) (x2 : Nat) (x3 : Int32) (r : (Int32 × CH)), m_L_law_479 f xs L k18 h x1 x2 x3 = some r → le2 h r.2 := by
  intro h x1 x2 x3 r hm
  rw [m_L_law_479] at hm
  obtain ⟨g1, hm⟩ := gdE hm
  obtain ⟨g2, hm⟩ := gdE hm
  obtain ⟨r4, h3, er4, hm⟩ := bd2E hm
  have lh3 := mo_X0_steps er4
  exact (lh3.tr (mo_L_law_488 hk18 h3 x1 x2 x3 r4 _ hm))
def m_L_law_543 (f : Nat) (xs : Nat → Int32) (L : Nat) (h : CH) : Option (Int32 × CH) := some ((0 : Int32), h)
theorem mo_L_law_543 {f : Nat} {xs : Nat → Int32} {L : Nat} : ∀ (h : CH) (r : (Int32 × CH)), m_L_law_543 f xs L h = some r → le2 h r.2 := by
  intro h r hm
  rw [m_L_law_543] at hm
  cases hm
  exact le2.rf
def m_L_law_521 (f : Nat) (xs : Nat → Int32) (L : Nat) (k18 : CH → Nat → Nat → Int32 → Option (Int32 × CH)) (h : CH) (x1 : Nat) (x2 : Nat) (x3 : Int32) (y0 : Int32) : Option (Int32 × CH) := gd (ix (x3 + (1 : Int32)) L) <|
    gd (ix (x3 + (2 : Int32)) L) <|
    gd (ix (x3 + (3 : Int32)) L) <|
    bd2 (tcr h x2 (fun z => m_X3_step_2 f z (xs (Int32.toNatClampNeg (x3 + (1 : Int32)))) (xs (Int32.toNatClampNeg (x3 + (2 : Int32)))) (xs (Int32.toNatClampNeg (x3 + (3 : Int32)))))) fun r5 h4 =>
    if y0 = r5 then
    m_L_law_1975 f xs L k18 h4 x1 x2 x3
    else m_L_law_543 f xs L h4
theorem mo_L_law_521 {f : Nat} {xs : Nat → Int32} {L : Nat} {k18 : CH → Nat → Nat → Int32 → Option (Int32 × CH)} (hk18 : ∀ (h : CH) (x1 : Nat) (x2 : Nat) (x3 : Int32) (r : (Int32 × CH)), k18 h x1 x2 x3 = some r → le2 h r.2) : ∀ (h : CH) (x1 : Nat) (x2 : Nat) (x3 : Int32) (y0 : Int32) (r : (Int32 × CH)), m_L_law_521 f xs L k18 h x1 x2 x3 y0 = some r → le2 h r.2 := by
  intro h x1 x2 x3 y0 r hm
  rw [m_L_law_521] at hm
  obtain ⟨g1, hm⟩ := gdE hm
  obtain ⟨g2, hm⟩ := gdE hm
  obtain ⟨g3, hm⟩ := gdE hm
  obtain ⟨r5, h4, er5, hm⟩ := bd2E hm
  have lh4 := tcr_le er5
  by_cases c6 : y0 = r5
  · have hm := ifT hm c6
    exact (lh4.tr (mo_L_law_1975 hk18 h4 x1 x2 x3 _ hm))
  · have hm := ifF hm c6
    exact (lh4.tr (mo_L_law_543  h4 _ hm))
def m_L_law_502 (f : Nat) (xs : Nat → Int32) (L : Nat) (k18 : CH → Nat → Nat → Int32 → Option (Int32 × CH)) (h : CH) (x1 : Nat) (x2 : Nat) (x3 : Int32) : Option (Int32 × CH) := gd (ix (x3 + (1 : Int32)) L) <|
    gd (ix (x3 + (2 : Int32)) L) <|
    gd (ix (x3 + (3 : Int32)) L) <|
    gd (isC h x1 1) <|
    bd2 (m_X0_step f h x1 (xs (Int32.toNatClampNeg (x3 + (1 : Int32)))) (xs (Int32.toNatClampNeg (x3 + (2 : Int32)))) (xs (Int32.toNatClampNeg (x3 + (3 : Int32))))) fun r6 h5 =>
    m_L_law_521 f xs L k18 h5 x1 x2 x3 r6
theorem mo_L_law_502 {f : Nat} {xs : Nat → Int32} {L : Nat} {k18 : CH → Nat → Nat → Int32 → Option (Int32 × CH)} (hk18 : ∀ (h : CH) (x1 : Nat) (x2 : Nat) (x3 : Int32) (r : (Int32 × CH)), k18 h x1 x2 x3 = some r → le2 h r.2) : ∀ (h : CH) (x1 : Nat) (x2 : Nat) (x3 : Int32) (r : (Int32 × CH)), m_L_law_502 f xs L k18 h x1 x2 x3 = some r → le2 h r.2 := by
  intro h x1 x2 x3 r hm
  rw [m_L_law_502] at hm
  obtain ⟨g1, hm⟩ := gdE hm
  obtain ⟨g2, hm⟩ := gdE hm
  obtain ⟨g3, hm⟩ := gdE hm
  obtain ⟨g4, hm⟩ := gdE hm
  obtain ⟨r6, h5, er6, hm⟩ := bd2E hm
  have lh5 := mo_X0_step er6
  exact (lh5.tr (mo_L_law_521 hk18 h5 x1 x2 x3 r6 _ hm))
def m_L_law_577 (f : Nat) (xs : Nat → Int32) (L : Nat) (h : CH) : Option (Int32 × CH) := some ((0 : Int32), h)
theorem mo_L_law_577 {f : Nat} {xs : Nat → Int32} {L : Nat} : ∀ (h : CH) (r : (Int32 × CH)), m_L_law_577 f xs L h = some r → le2 h r.2 := by
  intro h r hm
  rw [m_L_law_577] at hm
  cases hm
  exact le2.rf
def m_L_law_559 (f : Nat) (xs : Nat → Int32) (L : Nat) (k18 : CH → Nat → Nat → Int32 → Option (Int32 × CH)) (h : CH) (x1 : Nat) (x2 : Nat) (x3 : Int32) (y0 : Int64) : Option (Int32 × CH) := gd (ix (x3 + (1 : Int32)) L) <|
    gd (ix (x3 + (2 : Int32)) L) <|
    bd2 (tcr h x2 (fun z => m_X3_volume f z (xs (Int32.toNatClampNeg (x3 + (1 : Int32)))) (xs (Int32.toNatClampNeg (x3 + (2 : Int32)))))) fun r4 h3 =>
    if y0 = r4 then
    m_L_law_1975 f xs L k18 h3 x1 x2 x3
    else m_L_law_577 f xs L h3
theorem mo_L_law_559 {f : Nat} {xs : Nat → Int32} {L : Nat} {k18 : CH → Nat → Nat → Int32 → Option (Int32 × CH)} (hk18 : ∀ (h : CH) (x1 : Nat) (x2 : Nat) (x3 : Int32) (r : (Int32 × CH)), k18 h x1 x2 x3 = some r → le2 h r.2) : ∀ (h : CH) (x1 : Nat) (x2 : Nat) (x3 : Int32) (y0 : Int64) (r : (Int32 × CH)), m_L_law_559 f xs L k18 h x1 x2 x3 y0 = some r → le2 h r.2 := by
  intro h x1 x2 x3 y0 r hm
  rw [m_L_law_559] at hm
  obtain ⟨g1, hm⟩ := gdE hm
  obtain ⟨g2, hm⟩ := gdE hm
  obtain ⟨r4, h3, er4, hm⟩ := bd2E hm
  have lh3 := tcr_le er4
  by_cases c5 : y0 = r4
  · have hm := ifT hm c5
    exact (lh3.tr (mo_L_law_1975 hk18 h3 x1 x2 x3 _ hm))
  · have hm := ifF hm c5
    exact (lh3.tr (mo_L_law_577  h3 _ hm))
def m_L_law_545 (f : Nat) (xs : Nat → Int32) (L : Nat) (k18 : CH → Nat → Nat → Int32 → Option (Int32 × CH)) (h : CH) (x1 : Nat) (x2 : Nat) (x3 : Int32) : Option (Int32 × CH) := gd (ix (x3 + (1 : Int32)) L) <|
    gd (ix (x3 + (2 : Int32)) L) <|
    gd (isC h x1 1) <|
    bd2 (m_X0_volume f h x1 (xs (Int32.toNatClampNeg (x3 + (1 : Int32)))) (xs (Int32.toNatClampNeg (x3 + (2 : Int32))))) fun r5 h4 =>
    m_L_law_559 f xs L k18 h4 x1 x2 x3 r5
theorem mo_L_law_545 {f : Nat} {xs : Nat → Int32} {L : Nat} {k18 : CH → Nat → Nat → Int32 → Option (Int32 × CH)} (hk18 : ∀ (h : CH) (x1 : Nat) (x2 : Nat) (x3 : Int32) (r : (Int32 × CH)), k18 h x1 x2 x3 = some r → le2 h r.2) : ∀ (h : CH) (x1 : Nat) (x2 : Nat) (x3 : Int32) (r : (Int32 × CH)), m_L_law_545 f xs L k18 h x1 x2 x3 = some r → le2 h r.2 := by
  intro h x1 x2 x3 r hm
  rw [m_L_law_545] at hm
  obtain ⟨g1, hm⟩ := gdE hm
  obtain ⟨g2, hm⟩ := gdE hm
  obtain ⟨g3, hm⟩ := gdE hm
  obtain ⟨r5, h4, er5, hm⟩ := bd2E hm
  have lh4 := mo_X0_volume er5
  exact (lh4.tr (mo_L_law_559 hk18 h4 x1 x2 x3 r5 _ hm))
def m_L_law_611 (f : Nat) (xs : Nat → Int32) (L : Nat) (h : CH) : Option (Int32 × CH) := some ((0 : Int32), h)
theorem mo_L_law_611 {f : Nat} {xs : Nat → Int32} {L : Nat} : ∀ (h : CH) (r : (Int32 × CH)), m_L_law_611 f xs L h = some r → le2 h r.2 := by
  intro h r hm
  rw [m_L_law_611] at hm
  cases hm
  exact le2.rf
def m_L_law_593 (f : Nat) (xs : Nat → Int32) (L : Nat) (k18 : CH → Nat → Nat → Int32 → Option (Int32 × CH)) (h : CH) (x1 : Nat) (x2 : Nat) (x3 : Int32) (y0 : Int64) : Option (Int32 × CH) := gd (ix (x3 + (1 : Int32)) L) <|
    gd (ix (x3 + (2 : Int32)) L) <|
    bd2 (tcr h x2 (fun z => m_X3_smith f z (xs (Int32.toNatClampNeg (x3 + (1 : Int32)))) (xs (Int32.toNatClampNeg (x3 + (2 : Int32)))))) fun r4 h3 =>
    if y0 = r4 then
    m_L_law_1975 f xs L k18 h3 x1 x2 x3
    else m_L_law_611 f xs L h3
theorem mo_L_law_593 {f : Nat} {xs : Nat → Int32} {L : Nat} {k18 : CH → Nat → Nat → Int32 → Option (Int32 × CH)} (hk18 : ∀ (h : CH) (x1 : Nat) (x2 : Nat) (x3 : Int32) (r : (Int32 × CH)), k18 h x1 x2 x3 = some r → le2 h r.2) : ∀ (h : CH) (x1 : Nat) (x2 : Nat) (x3 : Int32) (y0 : Int64) (r : (Int32 × CH)), m_L_law_593 f xs L k18 h x1 x2 x3 y0 = some r → le2 h r.2 := by
  intro h x1 x2 x3 y0 r hm
  rw [m_L_law_593] at hm
  obtain ⟨g1, hm⟩ := gdE hm
  obtain ⟨g2, hm⟩ := gdE hm
  obtain ⟨r4, h3, er4, hm⟩ := bd2E hm
  have lh3 := tcr_le er4
  by_cases c5 : y0 = r4
  · have hm := ifT hm c5
    exact (lh3.tr (mo_L_law_1975 hk18 h3 x1 x2 x3 _ hm))
  · have hm := ifF hm c5
    exact (lh3.tr (mo_L_law_611  h3 _ hm))
def m_L_law_579 (f : Nat) (xs : Nat → Int32) (L : Nat) (k18 : CH → Nat → Nat → Int32 → Option (Int32 × CH)) (h : CH) (x1 : Nat) (x2 : Nat) (x3 : Int32) : Option (Int32 × CH) := gd (ix (x3 + (1 : Int32)) L) <|
    gd (ix (x3 + (2 : Int32)) L) <|
    gd (isC h x1 1) <|
    bd2 (m_X0_smith f h x1 (xs (Int32.toNatClampNeg (x3 + (1 : Int32)))) (xs (Int32.toNatClampNeg (x3 + (2 : Int32))))) fun r5 h4 =>
    m_L_law_593 f xs L k18 h4 x1 x2 x3 r5
theorem mo_L_law_579 {f : Nat} {xs : Nat → Int32} {L : Nat} {k18 : CH → Nat → Nat → Int32 → Option (Int32 × CH)} (hk18 : ∀ (h : CH) (x1 : Nat) (x2 : Nat) (x3 : Int32) (r : (Int32 × CH)), k18 h x1 x2 x3 = some r → le2 h r.2) : ∀ (h : CH) (x1 : Nat) (x2 : Nat) (x3 : Int32) (r : (Int32 × CH)), m_L_law_579 f xs L k18 h x1 x2 x3 = some r → le2 h r.2 := by
  intro h x1 x2 x3 r hm
  rw [m_L_law_579] at hm
  obtain ⟨g1, hm⟩ := gdE hm
  obtain ⟨g2, hm⟩ := gdE hm
  obtain ⟨g3, hm⟩ := gdE hm
  obtain ⟨r5, h4, er5, hm⟩ := bd2E hm
  have lh4 := mo_X0_smith er5
  exact (lh4.tr (mo_L_law_593 hk18 h4 x1 x2 x3 r5 _ hm))
def m_L_law_674 (f : Nat) (xs : Nat → Int32) (L : Nat) (h : CH) : Option (Int32 × CH) := some ((0 : Int32), h)
theorem mo_L_law_674 {f : Nat} {xs : Nat → Int32} {L : Nat} : ∀ (h : CH) (r : (Int32 × CH)), m_L_law_674 f xs L h = some r → le2 h r.2 := by
  intro h r hm
  rw [m_L_law_674] at hm
  cases hm
  exact le2.rf
def m_L_law_642 (f : Nat) (xs : Nat → Int32) (L : Nat) (k18 : CH → Nat → Nat → Int32 → Option (Int32 × CH)) (h : CH) (x1 : Nat) (x2 : Nat) (x3 : Int32) (y0 : Int32) : Option (Int32 × CH) := gd (ix (x3 + (1 : Int32)) L) <|
    gd (ix (x3 + (2 : Int32)) L) <|
    gd (ix (x3 + (3 : Int32)) L) <|
    gd (ix (x3 + (4 : Int32)) L) <|
    gd (ix (x3 + (5 : Int32)) L) <|
    bd2 (tcr h x2 (fun z => m_X3_has f z (xs (Int32.toNatClampNeg (x3 + (1 : Int32)))) (xs (Int32.toNatClampNeg (x3 + (2 : Int32)))) (xs (Int32.toNatClampNeg (x3 + (3 : Int32)))) (xs (Int32.toNatClampNeg (x3 + (4 : Int32)))) (xs (Int32.toNatClampNeg (x3 + (5 : Int32)))))) fun r7 h6 =>
    if y0 = r7 then
    m_L_law_1975 f xs L k18 h6 x1 x2 x3
    else m_L_law_674 f xs L h6
theorem mo_L_law_642 {f : Nat} {xs : Nat → Int32} {L : Nat} {k18 : CH → Nat → Nat → Int32 → Option (Int32 × CH)} (hk18 : ∀ (h : CH) (x1 : Nat) (x2 : Nat) (x3 : Int32) (r : (Int32 × CH)), k18 h x1 x2 x3 = some r → le2 h r.2) : ∀ (h : CH) (x1 : Nat) (x2 : Nat) (x3 : Int32) (y0 : Int32) (r : (Int32 × CH)), m_L_law_642 f xs L k18 h x1 x2 x3 y0 = some r → le2 h r.2 := by
  intro h x1 x2 x3 y0 r hm
  rw [m_L_law_642] at hm
  obtain ⟨g1, hm⟩ := gdE hm
  obtain ⟨g2, hm⟩ := gdE hm
  obtain ⟨g3, hm⟩ := gdE hm
  obtain ⟨g4, hm⟩ := gdE hm
  obtain ⟨g5, hm⟩ := gdE hm
  obtain ⟨r7, h6, er7, hm⟩ := bd2E hm
  have lh6 := tcr_le er7
  by_cases c8 : y0 = r7
  · have hm := ifT hm c8
    exact (lh6.tr (mo_L_law_1975 hk18 h6 x1 x2 x3 _ hm))
  · have hm := ifF hm c8
    exact (lh6.tr (mo_L_law_674  h6 _ hm))
def m_L_law_613 (f : Nat) (xs : Nat → Int32) (L : Nat) (k18 : CH → Nat → Nat → Int32 → Option (Int32 × CH)) (h : CH) (x1 : Nat) (x2 : Nat) (x3 : Int32) : Option (Int32 × CH) := gd (ix (x3 + (1 : Int32)) L) <|
    gd (ix (x3 + (2 : Int32)) L) <|
    gd (ix (x3 + (3 : Int32)) L) <|
    gd (ix (x3 + (4 : Int32)) L) <|
    gd (ix (x3 + (5 : Int32)) L) <|
    gd (isC h x1 1) <|
    bd2 (m_X0_has f h x1 (xs (Int32.toNatClampNeg (x3 + (1 : Int32)))) (xs (Int32.toNatClampNeg (x3 + (2 : Int32)))) (xs (Int32.toNatClampNeg (x3 + (3 : Int32)))) (xs (Int32.toNatClampNeg (x3 + (4 : Int32)))) (xs (Int32.toNatClampNeg (x3 + (5 : Int32))))) fun r8 h7 =>
    m_L_law_642 f xs L k18 h7 x1 x2 x3 r8
theorem mo_L_law_613 {f : Nat} {xs : Nat → Int32} {L : Nat} {k18 : CH → Nat → Nat → Int32 → Option (Int32 × CH)} (hk18 : ∀ (h : CH) (x1 : Nat) (x2 : Nat) (x3 : Int32) (r : (Int32 × CH)), k18 h x1 x2 x3 = some r → le2 h r.2) : ∀ (h : CH) (x1 : Nat) (x2 : Nat) (x3 : Int32) (r : (Int32 × CH)), m_L_law_613 f xs L k18 h x1 x2 x3 = some r → le2 h r.2 := by
  intro h x1 x2 x3 r hm
  rw [m_L_law_613] at hm
  obtain ⟨g1, hm⟩ := gdE hm
  obtain ⟨g2, hm⟩ := gdE hm
  obtain ⟨g3, hm⟩ := gdE hm
  obtain ⟨g4, hm⟩ := gdE hm
  obtain ⟨g5, hm⟩ := gdE hm
  obtain ⟨g6, hm⟩ := gdE hm
  obtain ⟨r8, h7, er8, hm⟩ := bd2E hm
  have lh7 := mo_X0_has er8
  exact (lh7.tr (mo_L_law_642 hk18 h7 x1 x2 x3 r8 _ hm))
def m_L_law_707 (f : Nat) (xs : Nat → Int32) (L : Nat) (h : CH) : Option (Int32 × CH) := some ((0 : Int32), h)
theorem mo_L_law_707 {f : Nat} {xs : Nat → Int32} {L : Nat} : ∀ (h : CH) (r : (Int32 × CH)), m_L_law_707 f xs L h = some r → le2 h r.2 := by
  intro h r hm
  rw [m_L_law_707] at hm
  cases hm
  exact le2.rf
def m_L_law_690 (f : Nat) (xs : Nat → Int32) (L : Nat) (k18 : CH → Nat → Nat → Int32 → Option (Int32 × CH)) (h : CH) (x1 : Nat) (x2 : Nat) (x3 : Int32) (y0 : Int32) : Option (Int32 × CH) := gd (ix (x3 + (1 : Int32)) L) <|
    gd (ix (x3 + (2 : Int32)) L) <|
    bd2 (tcr h x2 (fun z => m_X3_inside f z (xs (Int32.toNatClampNeg (x3 + (1 : Int32)))) (xs (Int32.toNatClampNeg (x3 + (2 : Int32)))))) fun r4 h3 =>
    if y0 = r4 then
    m_L_law_1975 f xs L k18 h3 x1 x2 x3
    else m_L_law_707 f xs L h3
theorem mo_L_law_690 {f : Nat} {xs : Nat → Int32} {L : Nat} {k18 : CH → Nat → Nat → Int32 → Option (Int32 × CH)} (hk18 : ∀ (h : CH) (x1 : Nat) (x2 : Nat) (x3 : Int32) (r : (Int32 × CH)), k18 h x1 x2 x3 = some r → le2 h r.2) : ∀ (h : CH) (x1 : Nat) (x2 : Nat) (x3 : Int32) (y0 : Int32) (r : (Int32 × CH)), m_L_law_690 f xs L k18 h x1 x2 x3 y0 = some r → le2 h r.2 := by
  intro h x1 x2 x3 y0 r hm
  rw [m_L_law_690] at hm
  obtain ⟨g1, hm⟩ := gdE hm
  obtain ⟨g2, hm⟩ := gdE hm
  obtain ⟨r4, h3, er4, hm⟩ := bd2E hm
  have lh3 := tcr_le er4
  by_cases c5 : y0 = r4
  · have hm := ifT hm c5
    exact (lh3.tr (mo_L_law_1975 hk18 h3 x1 x2 x3 _ hm))
  · have hm := ifF hm c5
    exact (lh3.tr (mo_L_law_707  h3 _ hm))
def m_L_law_676 (f : Nat) (xs : Nat → Int32) (L : Nat) (k18 : CH → Nat → Nat → Int32 → Option (Int32 × CH)) (h : CH) (x1 : Nat) (x2 : Nat) (x3 : Int32) : Option (Int32 × CH) := gd (ix (x3 + (1 : Int32)) L) <|
    gd (ix (x3 + (2 : Int32)) L) <|
    gd (isC h x1 1) <|
    bd2 (m_X0_inside f h x1 (xs (Int32.toNatClampNeg (x3 + (1 : Int32)))) (xs (Int32.toNatClampNeg (x3 + (2 : Int32))))) fun r5 h4 =>
    m_L_law_690 f xs L k18 h4 x1 x2 x3 r5
theorem mo_L_law_676 {f : Nat} {xs : Nat → Int32} {L : Nat} {k18 : CH → Nat → Nat → Int32 → Option (Int32 × CH)} (hk18 : ∀ (h : CH) (x1 : Nat) (x2 : Nat) (x3 : Int32) (r : (Int32 × CH)), k18 h x1 x2 x3 = some r → le2 h r.2) : ∀ (h : CH) (x1 : Nat) (x2 : Nat) (x3 : Int32) (r : (Int32 × CH)), m_L_law_676 f xs L k18 h x1 x2 x3 = some r → le2 h r.2 := by
  intro h x1 x2 x3 r hm
  rw [m_L_law_676] at hm
  obtain ⟨g1, hm⟩ := gdE hm
  obtain ⟨g2, hm⟩ := gdE hm
  obtain ⟨g3, hm⟩ := gdE hm
  obtain ⟨r5, h4, er5, hm⟩ := bd2E hm
  have lh4 := mo_X0_inside er5
  exact (lh4.tr (mo_L_law_690 hk18 h4 x1 x2 x3 r5 _ hm))
def m_L_law_740 (f : Nat) (xs : Nat → Int32) (L : Nat) (h : CH) : Option (Int32 × CH) := some ((0 : Int32), h)
theorem mo_L_law_740 {f : Nat} {xs : Nat → Int32} {L : Nat} : ∀ (h : CH) (r : (Int32 × CH)), m_L_law_740 f xs L h = some r → le2 h r.2 := by
  intro h r hm
  rw [m_L_law_740] at hm
  cases hm
  exact le2.rf
def m_L_law_723 (f : Nat) (xs : Nat → Int32) (L : Nat) (k18 : CH → Nat → Nat → Int32 → Option (Int32 × CH)) (h : CH) (x1 : Nat) (x2 : Nat) (x3 : Int32) (y0 : Int32) : Option (Int32 × CH) := gd (ix (x3 + (1 : Int32)) L) <|
    gd (ix (x3 + (2 : Int32)) L) <|
    bd2 (tcr h x2 (fun z => m_X3_meetOver f z (xs (Int32.toNatClampNeg (x3 + (1 : Int32)))) (xs (Int32.toNatClampNeg (x3 + (2 : Int32)))))) fun r4 h3 =>
    if y0 = r4 then
    m_L_law_1975 f xs L k18 h3 x1 x2 x3
    else m_L_law_740 f xs L h3
theorem mo_L_law_723 {f : Nat} {xs : Nat → Int32} {L : Nat} {k18 : CH → Nat → Nat → Int32 → Option (Int32 × CH)} (hk18 : ∀ (h : CH) (x1 : Nat) (x2 : Nat) (x3 : Int32) (r : (Int32 × CH)), k18 h x1 x2 x3 = some r → le2 h r.2) : ∀ (h : CH) (x1 : Nat) (x2 : Nat) (x3 : Int32) (y0 : Int32) (r : (Int32 × CH)), m_L_law_723 f xs L k18 h x1 x2 x3 y0 = some r → le2 h r.2 := by
  intro h x1 x2 x3 y0 r hm
  rw [m_L_law_723] at hm
  obtain ⟨g1, hm⟩ := gdE hm
  obtain ⟨g2, hm⟩ := gdE hm
  obtain ⟨r4, h3, er4, hm⟩ := bd2E hm
  have lh3 := tcr_le er4
  by_cases c5 : y0 = r4
  · have hm := ifT hm c5
    exact (lh3.tr (mo_L_law_1975 hk18 h3 x1 x2 x3 _ hm))
  · have hm := ifF hm c5
    exact (lh3.tr (mo_L_law_740  h3 _ hm))
def m_L_law_709 (f : Nat) (xs : Nat → Int32) (L : Nat) (k18 : CH → Nat → Nat → Int32 → Option (Int32 × CH)) (h : CH) (x1 : Nat) (x2 : Nat) (x3 : Int32) : Option (Int32 × CH) := gd (ix (x3 + (1 : Int32)) L) <|
    gd (ix (x3 + (2 : Int32)) L) <|
    gd (isC h x1 1) <|
    bd2 (m_X0_meetOver f h x1 (xs (Int32.toNatClampNeg (x3 + (1 : Int32)))) (xs (Int32.toNatClampNeg (x3 + (2 : Int32))))) fun r5 h4 =>
    m_L_law_723 f xs L k18 h4 x1 x2 x3 r5
theorem mo_L_law_709 {f : Nat} {xs : Nat → Int32} {L : Nat} {k18 : CH → Nat → Nat → Int32 → Option (Int32 × CH)} (hk18 : ∀ (h : CH) (x1 : Nat) (x2 : Nat) (x3 : Int32) (r : (Int32 × CH)), k18 h x1 x2 x3 = some r → le2 h r.2) : ∀ (h : CH) (x1 : Nat) (x2 : Nat) (x3 : Int32) (r : (Int32 × CH)), m_L_law_709 f xs L k18 h x1 x2 x3 = some r → le2 h r.2 := by
  intro h x1 x2 x3 r hm
  rw [m_L_law_709] at hm
  obtain ⟨g1, hm⟩ := gdE hm
  obtain ⟨g2, hm⟩ := gdE hm
  obtain ⟨g3, hm⟩ := gdE hm
  obtain ⟨r5, h4, er5, hm⟩ := bd2E hm
  have lh4 := mo_X0_meetOver er5
  exact (lh4.tr (mo_L_law_723 hk18 h4 x1 x2 x3 r5 _ hm))
def m_L_law_794 (f : Nat) (xs : Nat → Int32) (L : Nat) (h : CH) : Option (Int32 × CH) := some ((0 : Int32), h)
theorem mo_L_law_794 {f : Nat} {xs : Nat → Int32} {L : Nat} : ∀ (h : CH) (r : (Int32 × CH)), m_L_law_794 f xs L h = some r → le2 h r.2 := by
  intro h r hm
  rw [m_L_law_794] at hm
  cases hm
  exact le2.rf
def m_L_law_766 (f : Nat) (xs : Nat → Int32) (L : Nat) (k18 : CH → Nat → Nat → Int32 → Option (Int32 × CH)) (h : CH) (x1 : Nat) (x2 : Nat) (x3 : Int32) (y0 : Int64) : Option (Int32 × CH) := gd (ix (x3 + (1 : Int32)) L) <|
    gd (ix (x3 + (2 : Int32)) L) <|
    gd (ix (x3 + (3 : Int32)) L) <|
    gd (ix (x3 + (4 : Int32)) L) <|
    bd2 (tcr h x2 (fun z => m_X3_meet f z (xs (Int32.toNatClampNeg (x3 + (1 : Int32)))) (xs (Int32.toNatClampNeg (x3 + (2 : Int32)))) (xs (Int32.toNatClampNeg (x3 + (3 : Int32)))) (xs (Int32.toNatClampNeg (x3 + (4 : Int32)))))) fun r6 h5 =>
    if y0 = r6 then
    m_L_law_1975 f xs L k18 h5 x1 x2 x3
    else m_L_law_794 f xs L h5
theorem mo_L_law_766 {f : Nat} {xs : Nat → Int32} {L : Nat} {k18 : CH → Nat → Nat → Int32 → Option (Int32 × CH)} (hk18 : ∀ (h : CH) (x1 : Nat) (x2 : Nat) (x3 : Int32) (r : (Int32 × CH)), k18 h x1 x2 x3 = some r → le2 h r.2) : ∀ (h : CH) (x1 : Nat) (x2 : Nat) (x3 : Int32) (y0 : Int64) (r : (Int32 × CH)), m_L_law_766 f xs L k18 h x1 x2 x3 y0 = some r → le2 h r.2 := by
  intro h x1 x2 x3 y0 r hm
  rw [m_L_law_766] at hm
  obtain ⟨g1, hm⟩ := gdE hm
  obtain ⟨g2, hm⟩ := gdE hm
  obtain ⟨g3, hm⟩ := gdE hm
  obtain ⟨g4, hm⟩ := gdE hm
  obtain ⟨r6, h5, er6, hm⟩ := bd2E hm
  have lh5 := tcr_le er6
  by_cases c7 : y0 = r6
  · have hm := ifT hm c7
    exact (lh5.tr (mo_L_law_1975 hk18 h5 x1 x2 x3 _ hm))
  · have hm := ifF hm c7
    exact (lh5.tr (mo_L_law_794  h5 _ hm))
def m_L_law_742 (f : Nat) (xs : Nat → Int32) (L : Nat) (k18 : CH → Nat → Nat → Int32 → Option (Int32 × CH)) (h : CH) (x1 : Nat) (x2 : Nat) (x3 : Int32) : Option (Int32 × CH) := gd (ix (x3 + (1 : Int32)) L) <|
    gd (ix (x3 + (2 : Int32)) L) <|
    gd (ix (x3 + (3 : Int32)) L) <|
    gd (ix (x3 + (4 : Int32)) L) <|
    gd (isC h x1 1) <|
    bd2 (m_X0_meet f h x1 (xs (Int32.toNatClampNeg (x3 + (1 : Int32)))) (xs (Int32.toNatClampNeg (x3 + (2 : Int32)))) (xs (Int32.toNatClampNeg (x3 + (3 : Int32)))) (xs (Int32.toNatClampNeg (x3 + (4 : Int32))))) fun r7 h6 =>
    m_L_law_766 f xs L k18 h6 x1 x2 x3 r7
theorem mo_L_law_742 {f : Nat} {xs : Nat → Int32} {L : Nat} {k18 : CH → Nat → Nat → Int32 → Option (Int32 × CH)} (hk18 : ∀ (h : CH) (x1 : Nat) (x2 : Nat) (x3 : Int32) (r : (Int32 × CH)), k18 h x1 x2 x3 = some r → le2 h r.2) : ∀ (h : CH) (x1 : Nat) (x2 : Nat) (x3 : Int32) (r : (Int32 × CH)), m_L_law_742 f xs L k18 h x1 x2 x3 = some r → le2 h r.2 := by
  intro h x1 x2 x3 r hm
  rw [m_L_law_742] at hm
  obtain ⟨g1, hm⟩ := gdE hm
  obtain ⟨g2, hm⟩ := gdE hm
  obtain ⟨g3, hm⟩ := gdE hm
  obtain ⟨g4, hm⟩ := gdE hm
  obtain ⟨g5, hm⟩ := gdE hm
  obtain ⟨r7, h6, er7, hm⟩ := bd2E hm
  have lh6 := mo_X0_meet er7
  exact (lh6.tr (mo_L_law_766 hk18 h6 x1 x2 x3 r7 _ hm))
def m_L_law_827 (f : Nat) (xs : Nat → Int32) (L : Nat) (h : CH) : Option (Int32 × CH) := some ((0 : Int32), h)
theorem mo_L_law_827 {f : Nat} {xs : Nat → Int32} {L : Nat} : ∀ (h : CH) (r : (Int32 × CH)), m_L_law_827 f xs L h = some r → le2 h r.2 := by
  intro h r hm
  rw [m_L_law_827] at hm
  cases hm
  exact le2.rf
def m_L_law_810 (f : Nat) (xs : Nat → Int32) (L : Nat) (k18 : CH → Nat → Nat → Int32 → Option (Int32 × CH)) (h : CH) (x1 : Nat) (x2 : Nat) (x3 : Int32) (y0 : Int32) : Option (Int32 × CH) := gd (ix (x3 + (1 : Int32)) L) <|
    gd (ix (x3 + (2 : Int32)) L) <|
    bd2 (tcr h x2 (fun z => m_X3_joinOver f z (xs (Int32.toNatClampNeg (x3 + (1 : Int32)))) (xs (Int32.toNatClampNeg (x3 + (2 : Int32)))))) fun r4 h3 =>
    if y0 = r4 then
    m_L_law_1975 f xs L k18 h3 x1 x2 x3
    else m_L_law_827 f xs L h3
theorem mo_L_law_810 {f : Nat} {xs : Nat → Int32} {L : Nat} {k18 : CH → Nat → Nat → Int32 → Option (Int32 × CH)} (hk18 : ∀ (h : CH) (x1 : Nat) (x2 : Nat) (x3 : Int32) (r : (Int32 × CH)), k18 h x1 x2 x3 = some r → le2 h r.2) : ∀ (h : CH) (x1 : Nat) (x2 : Nat) (x3 : Int32) (y0 : Int32) (r : (Int32 × CH)), m_L_law_810 f xs L k18 h x1 x2 x3 y0 = some r → le2 h r.2 := by
  intro h x1 x2 x3 y0 r hm
  rw [m_L_law_810] at hm
  obtain ⟨g1, hm⟩ := gdE hm
  obtain ⟨g2, hm⟩ := gdE hm
  obtain ⟨r4, h3, er4, hm⟩ := bd2E hm
  have lh3 := tcr_le er4
  by_cases c5 : y0 = r4
  · have hm := ifT hm c5
    exact (lh3.tr (mo_L_law_1975 hk18 h3 x1 x2 x3 _ hm))
  · have hm := ifF hm c5
    exact (lh3.tr (mo_L_law_827  h3 _ hm))
def m_L_law_796 (f : Nat) (xs : Nat → Int32) (L : Nat) (k18 : CH → Nat → Nat → Int32 → Option (Int32 × CH)) (h : CH) (x1 : Nat) (x2 : Nat) (x3 : Int32) : Option (Int32 × CH) := gd (ix (x3 + (1 : Int32)) L) <|
    gd (ix (x3 + (2 : Int32)) L) <|
    gd (isC h x1 1) <|
    bd2 (m_X0_joinOver f h x1 (xs (Int32.toNatClampNeg (x3 + (1 : Int32)))) (xs (Int32.toNatClampNeg (x3 + (2 : Int32))))) fun r5 h4 =>
    m_L_law_810 f xs L k18 h4 x1 x2 x3 r5
theorem mo_L_law_796 {f : Nat} {xs : Nat → Int32} {L : Nat} {k18 : CH → Nat → Nat → Int32 → Option (Int32 × CH)} (hk18 : ∀ (h : CH) (x1 : Nat) (x2 : Nat) (x3 : Int32) (r : (Int32 × CH)), k18 h x1 x2 x3 = some r → le2 h r.2) : ∀ (h : CH) (x1 : Nat) (x2 : Nat) (x3 : Int32) (r : (Int32 × CH)), m_L_law_796 f xs L k18 h x1 x2 x3 = some r → le2 h r.2 := by
  intro h x1 x2 x3 r hm
  rw [m_L_law_796] at hm
  obtain ⟨g1, hm⟩ := gdE hm
  obtain ⟨g2, hm⟩ := gdE hm
  obtain ⟨g3, hm⟩ := gdE hm
  obtain ⟨r5, h4, er5, hm⟩ := bd2E hm
  have lh4 := mo_X0_joinOver er5
  exact (lh4.tr (mo_L_law_810 hk18 h4 x1 x2 x3 r5 _ hm))
def m_L_law_881 (f : Nat) (xs : Nat → Int32) (L : Nat) (h : CH) : Option (Int32 × CH) := some ((0 : Int32), h)
theorem mo_L_law_881 {f : Nat} {xs : Nat → Int32} {L : Nat} : ∀ (h : CH) (r : (Int32 × CH)), m_L_law_881 f xs L h = some r → le2 h r.2 := by
  intro h r hm
  rw [m_L_law_881] at hm
  cases hm
  exact le2.rf
def m_L_law_853 (f : Nat) (xs : Nat → Int32) (L : Nat) (k18 : CH → Nat → Nat → Int32 → Option (Int32 × CH)) (h : CH) (x1 : Nat) (x2 : Nat) (x3 : Int32) (y0 : Int64) : Option (Int32 × CH) := gd (ix (x3 + (1 : Int32)) L) <|
    gd (ix (x3 + (2 : Int32)) L) <|
    gd (ix (x3 + (3 : Int32)) L) <|
    gd (ix (x3 + (4 : Int32)) L) <|
    bd2 (tcr h x2 (fun z => m_X3_join f z (xs (Int32.toNatClampNeg (x3 + (1 : Int32)))) (xs (Int32.toNatClampNeg (x3 + (2 : Int32)))) (xs (Int32.toNatClampNeg (x3 + (3 : Int32)))) (xs (Int32.toNatClampNeg (x3 + (4 : Int32)))))) fun r6 h5 =>
    if y0 = r6 then
    m_L_law_1975 f xs L k18 h5 x1 x2 x3
    else m_L_law_881 f xs L h5
theorem mo_L_law_853 {f : Nat} {xs : Nat → Int32} {L : Nat} {k18 : CH → Nat → Nat → Int32 → Option (Int32 × CH)} (hk18 : ∀ (h : CH) (x1 : Nat) (x2 : Nat) (x3 : Int32) (r : (Int32 × CH)), k18 h x1 x2 x3 = some r → le2 h r.2) : ∀ (h : CH) (x1 : Nat) (x2 : Nat) (x3 : Int32) (y0 : Int64) (r : (Int32 × CH)), m_L_law_853 f xs L k18 h x1 x2 x3 y0 = some r → le2 h r.2 := by
  intro h x1 x2 x3 y0 r hm
  rw [m_L_law_853] at hm
  obtain ⟨g1, hm⟩ := gdE hm
  obtain ⟨g2, hm⟩ := gdE hm
  obtain ⟨g3, hm⟩ := gdE hm
  obtain ⟨g4, hm⟩ := gdE hm
  obtain ⟨r6, h5, er6, hm⟩ := bd2E hm
  have lh5 := tcr_le er6
  by_cases c7 : y0 = r6
  · have hm := ifT hm c7
    exact (lh5.tr (mo_L_law_1975 hk18 h5 x1 x2 x3 _ hm))
  · have hm := ifF hm c7
    exact (lh5.tr (mo_L_law_881  h5 _ hm))
def m_L_law_829 (f : Nat) (xs : Nat → Int32) (L : Nat) (k18 : CH → Nat → Nat → Int32 → Option (Int32 × CH)) (h : CH) (x1 : Nat) (x2 : Nat) (x3 : Int32) : Option (Int32 × CH) := gd (ix (x3 + (1 : Int32)) L) <|
    gd (ix (x3 + (2 : Int32)) L) <|
    gd (ix (x3 + (3 : Int32)) L) <|
    gd (ix (x3 + (4 : Int32)) L) <|
    gd (isC h x1 1) <|
    bd2 (m_X0_join f h x1 (xs (Int32.toNatClampNeg (x3 + (1 : Int32)))) (xs (Int32.toNatClampNeg (x3 + (2 : Int32)))) (xs (Int32.toNatClampNeg (x3 + (3 : Int32)))) (xs (Int32.toNatClampNeg (x3 + (4 : Int32))))) fun r7 h6 =>
    m_L_law_853 f xs L k18 h6 x1 x2 x3 r7
theorem mo_L_law_829 {f : Nat} {xs : Nat → Int32} {L : Nat} {k18 : CH → Nat → Nat → Int32 → Option (Int32 × CH)} (hk18 : ∀ (h : CH) (x1 : Nat) (x2 : Nat) (x3 : Int32) (r : (Int32 × CH)), k18 h x1 x2 x3 = some r → le2 h r.2) : ∀ (h : CH) (x1 : Nat) (x2 : Nat) (x3 : Int32) (r : (Int32 × CH)), m_L_law_829 f xs L k18 h x1 x2 x3 = some r → le2 h r.2 := by
  intro h x1 x2 x3 r hm
  rw [m_L_law_829] at hm
  obtain ⟨g1, hm⟩ := gdE hm
  obtain ⟨g2, hm⟩ := gdE hm
  obtain ⟨g3, hm⟩ := gdE hm
  obtain ⟨g4, hm⟩ := gdE hm
  obtain ⟨g5, hm⟩ := gdE hm
  obtain ⟨r7, h6, er7, hm⟩ := bd2E hm
  have lh6 := mo_X0_join er7
  exact (lh6.tr (mo_L_law_853 hk18 h6 x1 x2 x3 r7 _ hm))
def m_L_law_915 (f : Nat) (xs : Nat → Int32) (L : Nat) (h : CH) : Option (Int32 × CH) := some ((0 : Int32), h)
theorem mo_L_law_915 {f : Nat} {xs : Nat → Int32} {L : Nat} : ∀ (h : CH) (r : (Int32 × CH)), m_L_law_915 f xs L h = some r → le2 h r.2 := by
  intro h r hm
  rw [m_L_law_915] at hm
  cases hm
  exact le2.rf
def m_L_law_897 (f : Nat) (xs : Nat → Int32) (L : Nat) (k18 : CH → Nat → Nat → Int32 → Option (Int32 × CH)) (h : CH) (x1 : Nat) (x2 : Nat) (x3 : Int32) (y0 : Int64) : Option (Int32 × CH) := gd (ix (x3 + (1 : Int32)) L) <|
    gd (ix (x3 + (2 : Int32)) L) <|
    bd2 (tcr h x2 (fun z => m_X3_index f z (xs (Int32.toNatClampNeg (x3 + (1 : Int32)))) (xs (Int32.toNatClampNeg (x3 + (2 : Int32)))))) fun r4 h3 =>
    if y0 = r4 then
    m_L_law_1975 f xs L k18 h3 x1 x2 x3
    else m_L_law_915 f xs L h3
theorem mo_L_law_897 {f : Nat} {xs : Nat → Int32} {L : Nat} {k18 : CH → Nat → Nat → Int32 → Option (Int32 × CH)} (hk18 : ∀ (h : CH) (x1 : Nat) (x2 : Nat) (x3 : Int32) (r : (Int32 × CH)), k18 h x1 x2 x3 = some r → le2 h r.2) : ∀ (h : CH) (x1 : Nat) (x2 : Nat) (x3 : Int32) (y0 : Int64) (r : (Int32 × CH)), m_L_law_897 f xs L k18 h x1 x2 x3 y0 = some r → le2 h r.2 := by
  intro h x1 x2 x3 y0 r hm
  rw [m_L_law_897] at hm
  obtain ⟨g1, hm⟩ := gdE hm
  obtain ⟨g2, hm⟩ := gdE hm
  obtain ⟨r4, h3, er4, hm⟩ := bd2E hm
  have lh3 := tcr_le er4
  by_cases c5 : y0 = r4
  · have hm := ifT hm c5
    exact (lh3.tr (mo_L_law_1975 hk18 h3 x1 x2 x3 _ hm))
  · have hm := ifF hm c5
    exact (lh3.tr (mo_L_law_915  h3 _ hm))
def m_L_law_883 (f : Nat) (xs : Nat → Int32) (L : Nat) (k18 : CH → Nat → Nat → Int32 → Option (Int32 × CH)) (h : CH) (x1 : Nat) (x2 : Nat) (x3 : Int32) : Option (Int32 × CH) := gd (ix (x3 + (1 : Int32)) L) <|
    gd (ix (x3 + (2 : Int32)) L) <|
    gd (isC h x1 1) <|
    bd2 (m_X0_index f h x1 (xs (Int32.toNatClampNeg (x3 + (1 : Int32)))) (xs (Int32.toNatClampNeg (x3 + (2 : Int32))))) fun r5 h4 =>
    m_L_law_897 f xs L k18 h4 x1 x2 x3 r5
theorem mo_L_law_883 {f : Nat} {xs : Nat → Int32} {L : Nat} {k18 : CH → Nat → Nat → Int32 → Option (Int32 × CH)} (hk18 : ∀ (h : CH) (x1 : Nat) (x2 : Nat) (x3 : Int32) (r : (Int32 × CH)), k18 h x1 x2 x3 = some r → le2 h r.2) : ∀ (h : CH) (x1 : Nat) (x2 : Nat) (x3 : Int32) (r : (Int32 × CH)), m_L_law_883 f xs L k18 h x1 x2 x3 = some r → le2 h r.2 := by
  intro h x1 x2 x3 r hm
  rw [m_L_law_883] at hm
  obtain ⟨g1, hm⟩ := gdE hm
  obtain ⟨g2, hm⟩ := gdE hm
  obtain ⟨g3, hm⟩ := gdE hm
  obtain ⟨r5, h4, er5, hm⟩ := bd2E hm
  have lh4 := mo_X0_index er5
  exact (lh4.tr (mo_L_law_897 hk18 h4 x1 x2 x3 r5 _ hm))
def m_L_law_959 (f : Nat) (xs : Nat → Int32) (L : Nat) (h : CH) : Option (Int32 × CH) := some ((0 : Int32), h)
theorem mo_L_law_959 {f : Nat} {xs : Nat → Int32} {L : Nat} : ∀ (h : CH) (r : (Int32 × CH)), m_L_law_959 f xs L h = some r → le2 h r.2 := by
  intro h r hm
  rw [m_L_law_959] at hm
  cases hm
  exact le2.rf
def m_L_law_936 (f : Nat) (xs : Nat → Int32) (L : Nat) (k18 : CH → Nat → Nat → Int32 → Option (Int32 × CH)) (h : CH) (x1 : Nat) (x2 : Nat) (x3 : Int32) (y0 : Int64) : Option (Int32 × CH) := gd (ix (x3 + (1 : Int32)) L) <|
    gd (ix (x3 + (2 : Int32)) L) <|
    gd (ix (x3 + (3 : Int32)) L) <|
    bd2 (tcr h x2 (fun z => m_X3_group f z (xs (Int32.toNatClampNeg (x3 + (1 : Int32)))) (xs (Int32.toNatClampNeg (x3 + (2 : Int32)))) (xs (Int32.toNatClampNeg (x3 + (3 : Int32)))))) fun r5 h4 =>
    if y0 = r5 then
    m_L_law_1975 f xs L k18 h4 x1 x2 x3
    else m_L_law_959 f xs L h4
theorem mo_L_law_936 {f : Nat} {xs : Nat → Int32} {L : Nat} {k18 : CH → Nat → Nat → Int32 → Option (Int32 × CH)} (hk18 : ∀ (h : CH) (x1 : Nat) (x2 : Nat) (x3 : Int32) (r : (Int32 × CH)), k18 h x1 x2 x3 = some r → le2 h r.2) : ∀ (h : CH) (x1 : Nat) (x2 : Nat) (x3 : Int32) (y0 : Int64) (r : (Int32 × CH)), m_L_law_936 f xs L k18 h x1 x2 x3 y0 = some r → le2 h r.2 := by
  intro h x1 x2 x3 y0 r hm
  rw [m_L_law_936] at hm
  obtain ⟨g1, hm⟩ := gdE hm
  obtain ⟨g2, hm⟩ := gdE hm
  obtain ⟨g3, hm⟩ := gdE hm
  obtain ⟨r5, h4, er5, hm⟩ := bd2E hm
  have lh4 := tcr_le er5
  by_cases c6 : y0 = r5
  · have hm := ifT hm c6
    exact (lh4.tr (mo_L_law_1975 hk18 h4 x1 x2 x3 _ hm))
  · have hm := ifF hm c6
    exact (lh4.tr (mo_L_law_959  h4 _ hm))
def m_L_law_917 (f : Nat) (xs : Nat → Int32) (L : Nat) (k18 : CH → Nat → Nat → Int32 → Option (Int32 × CH)) (h : CH) (x1 : Nat) (x2 : Nat) (x3 : Int32) : Option (Int32 × CH) := gd (ix (x3 + (1 : Int32)) L) <|
    gd (ix (x3 + (2 : Int32)) L) <|
    gd (ix (x3 + (3 : Int32)) L) <|
    gd (isC h x1 1) <|
    bd2 (m_X0_group f h x1 (xs (Int32.toNatClampNeg (x3 + (1 : Int32)))) (xs (Int32.toNatClampNeg (x3 + (2 : Int32)))) (xs (Int32.toNatClampNeg (x3 + (3 : Int32))))) fun r6 h5 =>
    m_L_law_936 f xs L k18 h5 x1 x2 x3 r6
theorem mo_L_law_917 {f : Nat} {xs : Nat → Int32} {L : Nat} {k18 : CH → Nat → Nat → Int32 → Option (Int32 × CH)} (hk18 : ∀ (h : CH) (x1 : Nat) (x2 : Nat) (x3 : Int32) (r : (Int32 × CH)), k18 h x1 x2 x3 = some r → le2 h r.2) : ∀ (h : CH) (x1 : Nat) (x2 : Nat) (x3 : Int32) (r : (Int32 × CH)), m_L_law_917 f xs L k18 h x1 x2 x3 = some r → le2 h r.2 := by
  intro h x1 x2 x3 r hm
  rw [m_L_law_917] at hm
  obtain ⟨g1, hm⟩ := gdE hm
  obtain ⟨g2, hm⟩ := gdE hm
  obtain ⟨g3, hm⟩ := gdE hm
  obtain ⟨g4, hm⟩ := gdE hm
  obtain ⟨r6, h5, er6, hm⟩ := bd2E hm
  have lh5 := mo_X0_group er6
  exact (lh5.tr (mo_L_law_936 hk18 h5 x1 x2 x3 r6 _ hm))
def m_L_law_1034 (f : Nat) (xs : Nat → Int32) (L : Nat) (h : CH) : Option (Int32 × CH) := some ((0 : Int32), h)
theorem mo_L_law_1034 {f : Nat} {xs : Nat → Int32} {L : Nat} : ∀ (h : CH) (r : (Int32 × CH)), m_L_law_1034 f xs L h = some r → le2 h r.2 := by
  intro h r hm
  rw [m_L_law_1034] at hm
  cases hm
  exact le2.rf
def m_L_law_996 (f : Nat) (xs : Nat → Int32) (L : Nat) (k18 : CH → Nat → Nat → Int32 → Option (Int32 × CH)) (h : CH) (x1 : Nat) (x2 : Nat) (x3 : Int32) (y0 : Int32) : Option (Int32 × CH) := gd (ix (x3 + (1 : Int32)) L) <|
    gd (ix (x3 + (2 : Int32)) L) <|
    gd (ix (x3 + (3 : Int32)) L) <|
    gd (ix (x3 + (4 : Int32)) L) <|
    gd (ix (x3 + (5 : Int32)) L) <|
    gd (ix (x3 + (6 : Int32)) L) <|
    bd2 (tcr h x2 (fun z => m_X3_met f z (xs (Int32.toNatClampNeg (x3 + (1 : Int32)))) (xs (Int32.toNatClampNeg (x3 + (2 : Int32)))) (xs (Int32.toNatClampNeg (x3 + (3 : Int32)))) (xs (Int32.toNatClampNeg (x3 + (4 : Int32)))) (xs (Int32.toNatClampNeg (x3 + (5 : Int32)))) (xs (Int32.toNatClampNeg (x3 + (6 : Int32)))))) fun r8 h7 =>
    if y0 = r8 then
    m_L_law_1975 f xs L k18 h7 x1 x2 x3
    else m_L_law_1034 f xs L h7
theorem mo_L_law_996 {f : Nat} {xs : Nat → Int32} {L : Nat} {k18 : CH → Nat → Nat → Int32 → Option (Int32 × CH)} (hk18 : ∀ (h : CH) (x1 : Nat) (x2 : Nat) (x3 : Int32) (r : (Int32 × CH)), k18 h x1 x2 x3 = some r → le2 h r.2) : ∀ (h : CH) (x1 : Nat) (x2 : Nat) (x3 : Int32) (y0 : Int32) (r : (Int32 × CH)), m_L_law_996 f xs L k18 h x1 x2 x3 y0 = some r → le2 h r.2 := by
  intro h x1 x2 x3 y0 r hm
  rw [m_L_law_996] at hm
  obtain ⟨g1, hm⟩ := gdE hm
  obtain ⟨g2, hm⟩ := gdE hm
  obtain ⟨g3, hm⟩ := gdE hm
  obtain ⟨g4, hm⟩ := gdE hm
  obtain ⟨g5, hm⟩ := gdE hm
  obtain ⟨g6, hm⟩ := gdE hm
  obtain ⟨r8, h7, er8, hm⟩ := bd2E hm
  have lh7 := tcr_le er8
  by_cases c9 : y0 = r8
  · have hm := ifT hm c9
    exact (lh7.tr (mo_L_law_1975 hk18 h7 x1 x2 x3 _ hm))
  · have hm := ifF hm c9
    exact (lh7.tr (mo_L_law_1034  h7 _ hm))
def m_L_law_961 (f : Nat) (xs : Nat → Int32) (L : Nat) (k18 : CH → Nat → Nat → Int32 → Option (Int32 × CH)) (h : CH) (x1 : Nat) (x2 : Nat) (x3 : Int32) : Option (Int32 × CH) := gd (ix (x3 + (1 : Int32)) L) <|
    gd (ix (x3 + (2 : Int32)) L) <|
    gd (ix (x3 + (3 : Int32)) L) <|
    gd (ix (x3 + (4 : Int32)) L) <|
    gd (ix (x3 + (5 : Int32)) L) <|
    gd (ix (x3 + (6 : Int32)) L) <|
    gd (isC h x1 1) <|
    bd2 (m_X0_met f h x1 (xs (Int32.toNatClampNeg (x3 + (1 : Int32)))) (xs (Int32.toNatClampNeg (x3 + (2 : Int32)))) (xs (Int32.toNatClampNeg (x3 + (3 : Int32)))) (xs (Int32.toNatClampNeg (x3 + (4 : Int32)))) (xs (Int32.toNatClampNeg (x3 + (5 : Int32)))) (xs (Int32.toNatClampNeg (x3 + (6 : Int32))))) fun r9 h8 =>
    m_L_law_996 f xs L k18 h8 x1 x2 x3 r9
theorem mo_L_law_961 {f : Nat} {xs : Nat → Int32} {L : Nat} {k18 : CH → Nat → Nat → Int32 → Option (Int32 × CH)} (hk18 : ∀ (h : CH) (x1 : Nat) (x2 : Nat) (x3 : Int32) (r : (Int32 × CH)), k18 h x1 x2 x3 = some r → le2 h r.2) : ∀ (h : CH) (x1 : Nat) (x2 : Nat) (x3 : Int32) (r : (Int32 × CH)), m_L_law_961 f xs L k18 h x1 x2 x3 = some r → le2 h r.2 := by
  intro h x1 x2 x3 r hm
  rw [m_L_law_961] at hm
  obtain ⟨g1, hm⟩ := gdE hm
  obtain ⟨g2, hm⟩ := gdE hm
  obtain ⟨g3, hm⟩ := gdE hm
  obtain ⟨g4, hm⟩ := gdE hm
  obtain ⟨g5, hm⟩ := gdE hm
  obtain ⟨g6, hm⟩ := gdE hm
  obtain ⟨g7, hm⟩ := gdE hm
  obtain ⟨r9, h8, er9, hm⟩ := bd2E hm
  have lh8 := mo_X0_met er9
  exact (lh8.tr (mo_L_law_996 hk18 h8 x1 x2 x3 r9 _ hm))
def m_L_law_1109 (f : Nat) (xs : Nat → Int32) (L : Nat) (h : CH) : Option (Int32 × CH) := some ((0 : Int32), h)
theorem mo_L_law_1109 {f : Nat} {xs : Nat → Int32} {L : Nat} : ∀ (h : CH) (r : (Int32 × CH)), m_L_law_1109 f xs L h = some r → le2 h r.2 := by
  intro h r hm
  rw [m_L_law_1109] at hm
  cases hm
  exact le2.rf
def m_L_law_1071 (f : Nat) (xs : Nat → Int32) (L : Nat) (k18 : CH → Nat → Nat → Int32 → Option (Int32 × CH)) (h : CH) (x1 : Nat) (x2 : Nat) (x3 : Int32) (y0 : Int32) : Option (Int32 × CH) := gd (ix (x3 + (1 : Int32)) L) <|
    gd (ix (x3 + (2 : Int32)) L) <|
    gd (ix (x3 + (3 : Int32)) L) <|
    gd (ix (x3 + (4 : Int32)) L) <|
    gd (ix (x3 + (5 : Int32)) L) <|
    gd (ix (x3 + (6 : Int32)) L) <|
    bd2 (tcr h x2 (fun z => m_X3_order f z (xs (Int32.toNatClampNeg (x3 + (1 : Int32)))) (xs (Int32.toNatClampNeg (x3 + (2 : Int32)))) (xs (Int32.toNatClampNeg (x3 + (3 : Int32)))) (xs (Int32.toNatClampNeg (x3 + (4 : Int32)))) (xs (Int32.toNatClampNeg (x3 + (5 : Int32)))) (xs (Int32.toNatClampNeg (x3 + (6 : Int32)))))) fun r8 h7 =>
    if y0 = r8 then
    m_L_law_1975 f xs L k18 h7 x1 x2 x3
    else m_L_law_1109 f xs L h7
theorem mo_L_law_1071 {f : Nat} {xs : Nat → Int32} {L : Nat} {k18 : CH → Nat → Nat → Int32 → Option (Int32 × CH)} (hk18 : ∀ (h : CH) (x1 : Nat) (x2 : Nat) (x3 : Int32) (r : (Int32 × CH)), k18 h x1 x2 x3 = some r → le2 h r.2) : ∀ (h : CH) (x1 : Nat) (x2 : Nat) (x3 : Int32) (y0 : Int32) (r : (Int32 × CH)), m_L_law_1071 f xs L k18 h x1 x2 x3 y0 = some r → le2 h r.2 := by
  intro h x1 x2 x3 y0 r hm
  rw [m_L_law_1071] at hm
  obtain ⟨g1, hm⟩ := gdE hm
  obtain ⟨g2, hm⟩ := gdE hm
  obtain ⟨g3, hm⟩ := gdE hm
  obtain ⟨g4, hm⟩ := gdE hm
  obtain ⟨g5, hm⟩ := gdE hm
  obtain ⟨g6, hm⟩ := gdE hm
  obtain ⟨r8, h7, er8, hm⟩ := bd2E hm
  have lh7 := tcr_le er8
  by_cases c9 : y0 = r8
  · have hm := ifT hm c9
    exact (lh7.tr (mo_L_law_1975 hk18 h7 x1 x2 x3 _ hm))
  · have hm := ifF hm c9
    exact (lh7.tr (mo_L_law_1109  h7 _ hm))
def m_L_law_1036 (f : Nat) (xs : Nat → Int32) (L : Nat) (k18 : CH → Nat → Nat → Int32 → Option (Int32 × CH)) (h : CH) (x1 : Nat) (x2 : Nat) (x3 : Int32) : Option (Int32 × CH) := gd (ix (x3 + (1 : Int32)) L) <|
    gd (ix (x3 + (2 : Int32)) L) <|
    gd (ix (x3 + (3 : Int32)) L) <|
    gd (ix (x3 + (4 : Int32)) L) <|
    gd (ix (x3 + (5 : Int32)) L) <|
    gd (ix (x3 + (6 : Int32)) L) <|
    gd (isC h x1 1) <|
    bd2 (m_X0_order f h x1 (xs (Int32.toNatClampNeg (x3 + (1 : Int32)))) (xs (Int32.toNatClampNeg (x3 + (2 : Int32)))) (xs (Int32.toNatClampNeg (x3 + (3 : Int32)))) (xs (Int32.toNatClampNeg (x3 + (4 : Int32)))) (xs (Int32.toNatClampNeg (x3 + (5 : Int32)))) (xs (Int32.toNatClampNeg (x3 + (6 : Int32))))) fun r9 h8 =>
    m_L_law_1071 f xs L k18 h8 x1 x2 x3 r9
theorem mo_L_law_1036 {f : Nat} {xs : Nat → Int32} {L : Nat} {k18 : CH → Nat → Nat → Int32 → Option (Int32 × CH)} (hk18 : ∀ (h : CH) (x1 : Nat) (x2 : Nat) (x3 : Int32) (r : (Int32 × CH)), k18 h x1 x2 x3 = some r → le2 h r.2) : ∀ (h : CH) (x1 : Nat) (x2 : Nat) (x3 : Int32) (r : (Int32 × CH)), m_L_law_1036 f xs L k18 h x1 x2 x3 = some r → le2 h r.2 := by
  intro h x1 x2 x3 r hm
  rw [m_L_law_1036] at hm
  obtain ⟨g1, hm⟩ := gdE hm
  obtain ⟨g2, hm⟩ := gdE hm
  obtain ⟨g3, hm⟩ := gdE hm
  obtain ⟨g4, hm⟩ := gdE hm
  obtain ⟨g5, hm⟩ := gdE hm
  obtain ⟨g6, hm⟩ := gdE hm
  obtain ⟨g7, hm⟩ := gdE hm
  obtain ⟨r9, h8, er9, hm⟩ := bd2E hm
  have lh8 := mo_X0_order er9
  exact (lh8.tr (mo_L_law_1071 hk18 h8 x1 x2 x3 r9 _ hm))
def m_L_law_1152 (f : Nat) (xs : Nat → Int32) (L : Nat) (h : CH) : Option (Int32 × CH) := some ((0 : Int32), h)
theorem mo_L_law_1152 {f : Nat} {xs : Nat → Int32} {L : Nat} : ∀ (h : CH) (r : (Int32 × CH)), m_L_law_1152 f xs L h = some r → le2 h r.2 := by
  intro h r hm
  rw [m_L_law_1152] at hm
  cases hm
  exact le2.rf
def m_L_law_1130 (f : Nat) (xs : Nat → Int32) (L : Nat) (k18 : CH → Nat → Nat → Int32 → Option (Int32 × CH)) (h : CH) (x1 : Nat) (x2 : Nat) (x3 : Int32) (y0 : Int32) : Option (Int32 × CH) := gd (ix (x3 + (1 : Int32)) L) <|
    gd (ix (x3 + (2 : Int32)) L) <|
    gd (ix (x3 + (3 : Int32)) L) <|
    bd2 (tcr h x2 (fun z => m_X3_reduced f z (xs (Int32.toNatClampNeg (x3 + (1 : Int32)))) (xs (Int32.toNatClampNeg (x3 + (2 : Int32)))) (xs (Int32.toNatClampNeg (x3 + (3 : Int32)))))) fun r5 h4 =>
    if y0 = r5 then
    m_L_law_1975 f xs L k18 h4 x1 x2 x3
    else m_L_law_1152 f xs L h4
theorem mo_L_law_1130 {f : Nat} {xs : Nat → Int32} {L : Nat} {k18 : CH → Nat → Nat → Int32 → Option (Int32 × CH)} (hk18 : ∀ (h : CH) (x1 : Nat) (x2 : Nat) (x3 : Int32) (r : (Int32 × CH)), k18 h x1 x2 x3 = some r → le2 h r.2) : ∀ (h : CH) (x1 : Nat) (x2 : Nat) (x3 : Int32) (y0 : Int32) (r : (Int32 × CH)), m_L_law_1130 f xs L k18 h x1 x2 x3 y0 = some r → le2 h r.2 := by
  intro h x1 x2 x3 y0 r hm
  rw [m_L_law_1130] at hm
  obtain ⟨g1, hm⟩ := gdE hm
  obtain ⟨g2, hm⟩ := gdE hm
  obtain ⟨g3, hm⟩ := gdE hm
  obtain ⟨r5, h4, er5, hm⟩ := bd2E hm
  have lh4 := tcr_le er5
  by_cases c6 : y0 = r5
  · have hm := ifT hm c6
    exact (lh4.tr (mo_L_law_1975 hk18 h4 x1 x2 x3 _ hm))
  · have hm := ifF hm c6
    exact (lh4.tr (mo_L_law_1152  h4 _ hm))
def m_L_law_1111 (f : Nat) (xs : Nat → Int32) (L : Nat) (k18 : CH → Nat → Nat → Int32 → Option (Int32 × CH)) (h : CH) (x1 : Nat) (x2 : Nat) (x3 : Int32) : Option (Int32 × CH) := gd (ix (x3 + (1 : Int32)) L) <|
    gd (ix (x3 + (2 : Int32)) L) <|
    gd (ix (x3 + (3 : Int32)) L) <|
    gd (isC h x1 1) <|
    bd2 (m_X0_reduced f h x1 (xs (Int32.toNatClampNeg (x3 + (1 : Int32)))) (xs (Int32.toNatClampNeg (x3 + (2 : Int32)))) (xs (Int32.toNatClampNeg (x3 + (3 : Int32))))) fun r6 h5 =>
    m_L_law_1130 f xs L k18 h5 x1 x2 x3 r6
theorem mo_L_law_1111 {f : Nat} {xs : Nat → Int32} {L : Nat} {k18 : CH → Nat → Nat → Int32 → Option (Int32 × CH)} (hk18 : ∀ (h : CH) (x1 : Nat) (x2 : Nat) (x3 : Int32) (r : (Int32 × CH)), k18 h x1 x2 x3 = some r → le2 h r.2) : ∀ (h : CH) (x1 : Nat) (x2 : Nat) (x3 : Int32) (r : (Int32 × CH)), m_L_law_1111 f xs L k18 h x1 x2 x3 = some r → le2 h r.2 := by
  intro h x1 x2 x3 r hm
  rw [m_L_law_1111] at hm
  obtain ⟨g1, hm⟩ := gdE hm
  obtain ⟨g2, hm⟩ := gdE hm
  obtain ⟨g3, hm⟩ := gdE hm
  obtain ⟨g4, hm⟩ := gdE hm
  obtain ⟨r6, h5, er6, hm⟩ := bd2E hm
  have lh5 := mo_X0_reduced er6
  exact (lh5.tr (mo_L_law_1130 hk18 h5 x1 x2 x3 r6 _ hm))
def m_L_law_1175 (f : Nat) (xs : Nat → Int32) (L : Nat) (h : CH) : Option (Int32 × CH) := some ((0 : Int32), h)
theorem mo_L_law_1175 {f : Nat} {xs : Nat → Int32} {L : Nat} : ∀ (h : CH) (r : (Int32 × CH)), m_L_law_1175 f xs L h = some r → le2 h r.2 := by
  intro h r hm
  rw [m_L_law_1175] at hm
  cases hm
  exact le2.rf
def m_L_law_1163 (f : Nat) (xs : Nat → Int32) (L : Nat) (k18 : CH → Nat → Nat → Int32 → Option (Int32 × CH)) (h : CH) (x1 : Nat) (x2 : Nat) (x3 : Int32) (y0 : Int32) : Option (Int32 × CH) := gd (ix (x3 + (1 : Int32)) L) <|
    bd2 (tcr h x2 (fun z => m_X3_bettered f z (xs (Int32.toNatClampNeg (x3 + (1 : Int32)))))) fun r3 h2 =>
    if y0 = r3 then
    m_L_law_1975 f xs L k18 h2 x1 x2 x3
    else m_L_law_1175 f xs L h2
theorem mo_L_law_1163 {f : Nat} {xs : Nat → Int32} {L : Nat} {k18 : CH → Nat → Nat → Int32 → Option (Int32 × CH)} (hk18 : ∀ (h : CH) (x1 : Nat) (x2 : Nat) (x3 : Int32) (r : (Int32 × CH)), k18 h x1 x2 x3 = some r → le2 h r.2) : ∀ (h : CH) (x1 : Nat) (x2 : Nat) (x3 : Int32) (y0 : Int32) (r : (Int32 × CH)), m_L_law_1163 f xs L k18 h x1 x2 x3 y0 = some r → le2 h r.2 := by
  intro h x1 x2 x3 y0 r hm
  rw [m_L_law_1163] at hm
  obtain ⟨g1, hm⟩ := gdE hm
  obtain ⟨r3, h2, er3, hm⟩ := bd2E hm
  have lh2 := tcr_le er3
  by_cases c4 : y0 = r3
  · have hm := ifT hm c4
    exact (lh2.tr (mo_L_law_1975 hk18 h2 x1 x2 x3 _ hm))
  · have hm := ifF hm c4
    exact (lh2.tr (mo_L_law_1175  h2 _ hm))
def m_L_law_1154 (f : Nat) (xs : Nat → Int32) (L : Nat) (k18 : CH → Nat → Nat → Int32 → Option (Int32 × CH)) (h : CH) (x1 : Nat) (x2 : Nat) (x3 : Int32) : Option (Int32 × CH) := gd (ix (x3 + (1 : Int32)) L) <|
    gd (isC h x1 1) <|
    bd2 (m_X0_bettered f h x1 (xs (Int32.toNatClampNeg (x3 + (1 : Int32))))) fun r4 h3 =>
    m_L_law_1163 f xs L k18 h3 x1 x2 x3 r4
theorem mo_L_law_1154 {f : Nat} {xs : Nat → Int32} {L : Nat} {k18 : CH → Nat → Nat → Int32 → Option (Int32 × CH)} (hk18 : ∀ (h : CH) (x1 : Nat) (x2 : Nat) (x3 : Int32) (r : (Int32 × CH)), k18 h x1 x2 x3 = some r → le2 h r.2) : ∀ (h : CH) (x1 : Nat) (x2 : Nat) (x3 : Int32) (r : (Int32 × CH)), m_L_law_1154 f xs L k18 h x1 x2 x3 = some r → le2 h r.2 := by
  intro h x1 x2 x3 r hm
  rw [m_L_law_1154] at hm
  obtain ⟨g1, hm⟩ := gdE hm
  obtain ⟨g2, hm⟩ := gdE hm
  obtain ⟨r4, h3, er4, hm⟩ := bd2E hm
  have lh3 := mo_X0_bettered er4
  exact (lh3.tr (mo_L_law_1163 hk18 h3 x1 x2 x3 r4 _ hm))
def m_L_law_1219 (f : Nat) (xs : Nat → Int32) (L : Nat) (h : CH) : Option (Int32 × CH) := some ((0 : Int32), h)
theorem mo_L_law_1219 {f : Nat} {xs : Nat → Int32} {L : Nat} : ∀ (h : CH) (r : (Int32 × CH)), m_L_law_1219 f xs L h = some r → le2 h r.2 := by
  intro h r hm
  rw [m_L_law_1219] at hm
  cases hm
  exact le2.rf
def m_L_law_1196 (f : Nat) (xs : Nat → Int32) (L : Nat) (k18 : CH → Nat → Nat → Int32 → Option (Int32 × CH)) (h : CH) (x1 : Nat) (x2 : Nat) (x3 : Int32) (y0 : Int64) : Option (Int32 × CH) := gd (ix (x3 + (1 : Int32)) L) <|
    gd (ix (x3 + (2 : Int32)) L) <|
    gd (ix (x3 + (3 : Int32)) L) <|
    bd2 (tcr h x2 (fun z => m_X3_length f z (xs (Int32.toNatClampNeg (x3 + (1 : Int32)))) (xs (Int32.toNatClampNeg (x3 + (2 : Int32)))) (xs (Int32.toNatClampNeg (x3 + (3 : Int32)))))) fun r5 h4 =>
    if y0 = r5 then
    m_L_law_1975 f xs L k18 h4 x1 x2 x3
    else m_L_law_1219 f xs L h4
theorem mo_L_law_1196 {f : Nat} {xs : Nat → Int32} {L : Nat} {k18 : CH → Nat → Nat → Int32 → Option (Int32 × CH)} (hk18 : ∀ (h : CH) (x1 : Nat) (x2 : Nat) (x3 : Int32) (r : (Int32 × CH)), k18 h x1 x2 x3 = some r → le2 h r.2) : ∀ (h : CH) (x1 : Nat) (x2 : Nat) (x3 : Int32) (y0 : Int64) (r : (Int32 × CH)), m_L_law_1196 f xs L k18 h x1 x2 x3 y0 = some r → le2 h r.2 := by
  intro h x1 x2 x3 y0 r hm
  rw [m_L_law_1196] at hm
  obtain ⟨g1, hm⟩ := gdE hm
  obtain ⟨g2, hm⟩ := gdE hm
  obtain ⟨g3, hm⟩ := gdE hm
  obtain ⟨r5, h4, er5, hm⟩ := bd2E hm
  have lh4 := tcr_le er5
  by_cases c6 : y0 = r5
  · have hm := ifT hm c6
    exact (lh4.tr (mo_L_law_1975 hk18 h4 x1 x2 x3 _ hm))
  · have hm := ifF hm c6
    exact (lh4.tr (mo_L_law_1219  h4 _ hm))
def m_L_law_1177 (f : Nat) (xs : Nat → Int32) (L : Nat) (k18 : CH → Nat → Nat → Int32 → Option (Int32 × CH)) (h : CH) (x1 : Nat) (x2 : Nat) (x3 : Int32) : Option (Int32 × CH) := gd (ix (x3 + (1 : Int32)) L) <|
    gd (ix (x3 + (2 : Int32)) L) <|
    gd (ix (x3 + (3 : Int32)) L) <|
    gd (isC h x1 1) <|
    bd2 (m_X0_length f h x1 (xs (Int32.toNatClampNeg (x3 + (1 : Int32)))) (xs (Int32.toNatClampNeg (x3 + (2 : Int32)))) (xs (Int32.toNatClampNeg (x3 + (3 : Int32))))) fun r6 h5 =>
    m_L_law_1196 f xs L k18 h5 x1 x2 x3 r6
theorem mo_L_law_1177 {f : Nat} {xs : Nat → Int32} {L : Nat} {k18 : CH → Nat → Nat → Int32 → Option (Int32 × CH)} (hk18 : ∀ (h : CH) (x1 : Nat) (x2 : Nat) (x3 : Int32) (r : (Int32 × CH)), k18 h x1 x2 x3 = some r → le2 h r.2) : ∀ (h : CH) (x1 : Nat) (x2 : Nat) (x3 : Int32) (r : (Int32 × CH)), m_L_law_1177 f xs L k18 h x1 x2 x3 = some r → le2 h r.2 := by
  intro h x1 x2 x3 r hm
  rw [m_L_law_1177] at hm
  obtain ⟨g1, hm⟩ := gdE hm
  obtain ⟨g2, hm⟩ := gdE hm
  obtain ⟨g3, hm⟩ := gdE hm
  obtain ⟨g4, hm⟩ := gdE hm
  obtain ⟨r6, h5, er6, hm⟩ := bd2E hm
  have lh5 := mo_X0_length er6
  exact (lh5.tr (mo_L_law_1196 hk18 h5 x1 x2 x3 r6 _ hm))
def m_L_law_1242 (f : Nat) (xs : Nat → Int32) (L : Nat) (h : CH) : Option (Int32 × CH) := some ((0 : Int32), h)
theorem mo_L_law_1242 {f : Nat} {xs : Nat → Int32} {L : Nat} : ∀ (h : CH) (r : (Int32 × CH)), m_L_law_1242 f xs L h = some r → le2 h r.2 := by
  intro h r hm
  rw [m_L_law_1242] at hm
  cases hm
  exact le2.rf
def m_L_law_1230 (f : Nat) (xs : Nat → Int32) (L : Nat) (k18 : CH → Nat → Nat → Int32 → Option (Int32 × CH)) (h : CH) (x1 : Nat) (x2 : Nat) (x3 : Int32) (y0 : Int32) : Option (Int32 × CH) := gd (ix (x3 + (1 : Int32)) L) <|
    bd2 (tcr h x2 (fun z => m_X3_kiss f z (xs (Int32.toNatClampNeg (x3 + (1 : Int32)))))) fun r3 h2 =>
    if y0 = r3 then
    m_L_law_1975 f xs L k18 h2 x1 x2 x3
    else m_L_law_1242 f xs L h2
theorem mo_L_law_1230 {f : Nat} {xs : Nat → Int32} {L : Nat} {k18 : CH → Nat → Nat → Int32 → Option (Int32 × CH)} (hk18 : ∀ (h : CH) (x1 : Nat) (x2 : Nat) (x3 : Int32) (r : (Int32 × CH)), k18 h x1 x2 x3 = some r → le2 h r.2) : ∀ (h : CH) (x1 : Nat) (x2 : Nat) (x3 : Int32) (y0 : Int32) (r : (Int32 × CH)), m_L_law_1230 f xs L k18 h x1 x2 x3 y0 = some r → le2 h r.2 := by
  intro h x1 x2 x3 y0 r hm
  rw [m_L_law_1230] at hm
  obtain ⟨g1, hm⟩ := gdE hm
  obtain ⟨r3, h2, er3, hm⟩ := bd2E hm
  have lh2 := tcr_le er3
  by_cases c4 : y0 = r3
  · have hm := ifT hm c4
    exact (lh2.tr (mo_L_law_1975 hk18 h2 x1 x2 x3 _ hm))
  · have hm := ifF hm c4
    exact (lh2.tr (mo_L_law_1242  h2 _ hm))
def m_L_law_1221 (f : Nat) (xs : Nat → Int32) (L : Nat) (k18 : CH → Nat → Nat → Int32 → Option (Int32 × CH)) (h : CH) (x1 : Nat) (x2 : Nat) (x3 : Int32) : Option (Int32 × CH) := gd (ix (x3 + (1 : Int32)) L) <|
    gd (isC h x1 1) <|
    bd2 (m_X0_kiss f h x1 (xs (Int32.toNatClampNeg (x3 + (1 : Int32))))) fun r4 h3 =>
    m_L_law_1230 f xs L k18 h3 x1 x2 x3 r4
theorem mo_L_law_1221 {f : Nat} {xs : Nat → Int32} {L : Nat} {k18 : CH → Nat → Nat → Int32 → Option (Int32 × CH)} (hk18 : ∀ (h : CH) (x1 : Nat) (x2 : Nat) (x3 : Int32) (r : (Int32 × CH)), k18 h x1 x2 x3 = some r → le2 h r.2) : ∀ (h : CH) (x1 : Nat) (x2 : Nat) (x3 : Int32) (r : (Int32 × CH)), m_L_law_1221 f xs L k18 h x1 x2 x3 = some r → le2 h r.2 := by
  intro h x1 x2 x3 r hm
  rw [m_L_law_1221] at hm
  obtain ⟨g1, hm⟩ := gdE hm
  obtain ⟨g2, hm⟩ := gdE hm
  obtain ⟨r4, h3, er4, hm⟩ := bd2E hm
  have lh3 := mo_X0_kiss er4
  exact (lh3.tr (mo_L_law_1230 hk18 h3 x1 x2 x3 r4 _ hm))
def m_L_law_1286 (f : Nat) (xs : Nat → Int32) (L : Nat) (h : CH) : Option (Int32 × CH) := some ((0 : Int32), h)
theorem mo_L_law_1286 {f : Nat} {xs : Nat → Int32} {L : Nat} : ∀ (h : CH) (r : (Int32 × CH)), m_L_law_1286 f xs L h = some r → le2 h r.2 := by
  intro h r hm
  rw [m_L_law_1286] at hm
  cases hm
  exact le2.rf
def m_L_law_1263 (f : Nat) (xs : Nat → Int32) (L : Nat) (k18 : CH → Nat → Nat → Int32 → Option (Int32 × CH)) (h : CH) (x1 : Nat) (x2 : Nat) (x3 : Int32) (y0 : Int64) : Option (Int32 × CH) := gd (ix (x3 + (1 : Int32)) L) <|
    gd (ix (x3 + (2 : Int32)) L) <|
    gd (ix (x3 + (3 : Int32)) L) <|
    bd2 (tcr h x2 (fun z => m_X3_meetLength f z (xs (Int32.toNatClampNeg (x3 + (1 : Int32)))) (xs (Int32.toNatClampNeg (x3 + (2 : Int32)))) (xs (Int32.toNatClampNeg (x3 + (3 : Int32)))))) fun r5 h4 =>
    if y0 = r5 then
    m_L_law_1975 f xs L k18 h4 x1 x2 x3
    else m_L_law_1286 f xs L h4
theorem mo_L_law_1263 {f : Nat} {xs : Nat → Int32} {L : Nat} {k18 : CH → Nat → Nat → Int32 → Option (Int32 × CH)} (hk18 : ∀ (h : CH) (x1 : Nat) (x2 : Nat) (x3 : Int32) (r : (Int32 × CH)), k18 h x1 x2 x3 = some r → le2 h r.2) : ∀ (h : CH) (x1 : Nat) (x2 : Nat) (x3 : Int32) (y0 : Int64) (r : (Int32 × CH)), m_L_law_1263 f xs L k18 h x1 x2 x3 y0 = some r → le2 h r.2 := by
  intro h x1 x2 x3 y0 r hm
  rw [m_L_law_1263] at hm
  obtain ⟨g1, hm⟩ := gdE hm
  obtain ⟨g2, hm⟩ := gdE hm
  obtain ⟨g3, hm⟩ := gdE hm
  obtain ⟨r5, h4, er5, hm⟩ := bd2E hm
  have lh4 := tcr_le er5
  by_cases c6 : y0 = r5
  · have hm := ifT hm c6
    exact (lh4.tr (mo_L_law_1975 hk18 h4 x1 x2 x3 _ hm))
  · have hm := ifF hm c6
    exact (lh4.tr (mo_L_law_1286  h4 _ hm))
def m_L_law_1244 (f : Nat) (xs : Nat → Int32) (L : Nat) (k18 : CH → Nat → Nat → Int32 → Option (Int32 × CH)) (h : CH) (x1 : Nat) (x2 : Nat) (x3 : Int32) : Option (Int32 × CH) := gd (ix (x3 + (1 : Int32)) L) <|
    gd (ix (x3 + (2 : Int32)) L) <|
    gd (ix (x3 + (3 : Int32)) L) <|
    gd (isC h x1 1) <|
    bd2 (m_X0_meetLength f h x1 (xs (Int32.toNatClampNeg (x3 + (1 : Int32)))) (xs (Int32.toNatClampNeg (x3 + (2 : Int32)))) (xs (Int32.toNatClampNeg (x3 + (3 : Int32))))) fun r6 h5 =>
    m_L_law_1263 f xs L k18 h5 x1 x2 x3 r6
theorem mo_L_law_1244 {f : Nat} {xs : Nat → Int32} {L : Nat} {k18 : CH → Nat → Nat → Int32 → Option (Int32 × CH)} (hk18 : ∀ (h : CH) (x1 : Nat) (x2 : Nat) (x3 : Int32) (r : (Int32 × CH)), k18 h x1 x2 x3 = some r → le2 h r.2) : ∀ (h : CH) (x1 : Nat) (x2 : Nat) (x3 : Int32) (r : (Int32 × CH)), m_L_law_1244 f xs L k18 h x1 x2 x3 = some r → le2 h r.2 := by
  intro h x1 x2 x3 r hm
  rw [m_L_law_1244] at hm
  obtain ⟨g1, hm⟩ := gdE hm
  obtain ⟨g2, hm⟩ := gdE hm
  obtain ⟨g3, hm⟩ := gdE hm
  obtain ⟨g4, hm⟩ := gdE hm
  obtain ⟨r6, h5, er6, hm⟩ := bd2E hm
  have lh5 := mo_X0_meetLength er6
  exact (lh5.tr (mo_L_law_1263 hk18 h5 x1 x2 x3 r6 _ hm))
def m_L_law_1350 (f : Nat) (xs : Nat → Int32) (L : Nat) (h : CH) : Option (Int32 × CH) := some ((0 : Int32), h)
theorem mo_L_law_1350 {f : Nat} {xs : Nat → Int32} {L : Nat} : ∀ (h : CH) (r : (Int32 × CH)), m_L_law_1350 f xs L h = some r → le2 h r.2 := by
  intro h r hm
  rw [m_L_law_1350] at hm
  cases hm
  exact le2.rf
def m_L_law_1317 (f : Nat) (xs : Nat → Int32) (L : Nat) (k18 : CH → Nat → Nat → Int32 → Option (Int32 × CH)) (h : CH) (x1 : Nat) (x2 : Nat) (x3 : Int32) (y0 : Int64) : Option (Int32 × CH) := gd (ix (x3 + (1 : Int32)) L) <|
    gd (ix (x3 + (2 : Int32)) L) <|
    gd (ix (x3 + (3 : Int32)) L) <|
    gd (ix (x3 + (4 : Int32)) L) <|
    gd (ix (x3 + (5 : Int32)) L) <|
    bd2 (tcr h x2 (fun z => m_X3_area f z (xs (Int32.toNatClampNeg (x3 + (1 : Int32)))) (xs (Int32.toNatClampNeg (x3 + (2 : Int32)))) (xs (Int32.toNatClampNeg (x3 + (3 : Int32)))) (xs (Int32.toNatClampNeg (x3 + (4 : Int32)))) (xs (Int32.toNatClampNeg (x3 + (5 : Int32)))))) fun r7 h6 =>
    if y0 = r7 then
    m_L_law_1975 f xs L k18 h6 x1 x2 x3
    else m_L_law_1350 f xs L h6
theorem mo_L_law_1317 {f : Nat} {xs : Nat → Int32} {L : Nat} {k18 : CH → Nat → Nat → Int32 → Option (Int32 × CH)} (hk18 : ∀ (h : CH) (x1 : Nat) (x2 : Nat) (x3 : Int32) (r : (Int32 × CH)), k18 h x1 x2 x3 = some r → le2 h r.2) : ∀ (h : CH) (x1 : Nat) (x2 : Nat) (x3 : Int32) (y0 : Int64) (r : (Int32 × CH)), m_L_law_1317 f xs L k18 h x1 x2 x3 y0 = some r → le2 h r.2 := by
  intro h x1 x2 x3 y0 r hm
  rw [m_L_law_1317] at hm
  obtain ⟨g1, hm⟩ := gdE hm
  obtain ⟨g2, hm⟩ := gdE hm
  obtain ⟨g3, hm⟩ := gdE hm
  obtain ⟨g4, hm⟩ := gdE hm
  obtain ⟨g5, hm⟩ := gdE hm
  obtain ⟨r7, h6, er7, hm⟩ := bd2E hm
  have lh6 := tcr_le er7
  by_cases c8 : y0 = r7
  · have hm := ifT hm c8
    exact (lh6.tr (mo_L_law_1975 hk18 h6 x1 x2 x3 _ hm))
  · have hm := ifF hm c8
    exact (lh6.tr (mo_L_law_1350  h6 _ hm))
def m_L_law_1288 (f : Nat) (xs : Nat → Int32) (L : Nat) (k18 : CH → Nat → Nat → Int32 → Option (Int32 × CH)) (h : CH) (x1 : Nat) (x2 : Nat) (x3 : Int32) : Option (Int32 × CH) := gd (ix (x3 + (1 : Int32)) L) <|
    gd (ix (x3 + (2 : Int32)) L) <|
    gd (ix (x3 + (3 : Int32)) L) <|
    gd (ix (x3 + (4 : Int32)) L) <|
    gd (ix (x3 + (5 : Int32)) L) <|
    gd (isC h x1 1) <|
    bd2 (m_X0_area f h x1 (xs (Int32.toNatClampNeg (x3 + (1 : Int32)))) (xs (Int32.toNatClampNeg (x3 + (2 : Int32)))) (xs (Int32.toNatClampNeg (x3 + (3 : Int32)))) (xs (Int32.toNatClampNeg (x3 + (4 : Int32)))) (xs (Int32.toNatClampNeg (x3 + (5 : Int32))))) fun r8 h7 =>
    m_L_law_1317 f xs L k18 h7 x1 x2 x3 r8
theorem mo_L_law_1288 {f : Nat} {xs : Nat → Int32} {L : Nat} {k18 : CH → Nat → Nat → Int32 → Option (Int32 × CH)} (hk18 : ∀ (h : CH) (x1 : Nat) (x2 : Nat) (x3 : Int32) (r : (Int32 × CH)), k18 h x1 x2 x3 = some r → le2 h r.2) : ∀ (h : CH) (x1 : Nat) (x2 : Nat) (x3 : Int32) (r : (Int32 × CH)), m_L_law_1288 f xs L k18 h x1 x2 x3 = some r → le2 h r.2 := by
  intro h x1 x2 x3 r hm
  rw [m_L_law_1288] at hm
  obtain ⟨g1, hm⟩ := gdE hm
  obtain ⟨g2, hm⟩ := gdE hm
  obtain ⟨g3, hm⟩ := gdE hm
  obtain ⟨g4, hm⟩ := gdE hm
  obtain ⟨g5, hm⟩ := gdE hm
  obtain ⟨g6, hm⟩ := gdE hm
  obtain ⟨r8, h7, er8, hm⟩ := bd2E hm
  have lh7 := mo_X0_area er8
  exact (lh7.tr (mo_L_law_1317 hk18 h7 x1 x2 x3 r8 _ hm))
def m_L_law_1414 (f : Nat) (xs : Nat → Int32) (L : Nat) (h : CH) : Option (Int32 × CH) := some ((0 : Int32), h)
theorem mo_L_law_1414 {f : Nat} {xs : Nat → Int32} {L : Nat} : ∀ (h : CH) (r : (Int32 × CH)), m_L_law_1414 f xs L h = some r → le2 h r.2 := by
  intro h r hm
  rw [m_L_law_1414] at hm
  cases hm
  exact le2.rf
def m_L_law_1381 (f : Nat) (xs : Nat → Int32) (L : Nat) (k18 : CH → Nat → Nat → Int32 → Option (Int32 × CH)) (h : CH) (x1 : Nat) (x2 : Nat) (x3 : Int32) (y0 : Int64) : Option (Int32 × CH) := gd (ix (x3 + (1 : Int32)) L) <|
    gd (ix (x3 + (2 : Int32)) L) <|
    gd (ix (x3 + (3 : Int32)) L) <|
    gd (ix (x3 + (4 : Int32)) L) <|
    gd (ix (x3 + (5 : Int32)) L) <|
    bd2 (tcr h x2 (fun z => m_X3_layers f z (xs (Int32.toNatClampNeg (x3 + (1 : Int32)))) (xs (Int32.toNatClampNeg (x3 + (2 : Int32)))) (xs (Int32.toNatClampNeg (x3 + (3 : Int32)))) (xs (Int32.toNatClampNeg (x3 + (4 : Int32)))) (xs (Int32.toNatClampNeg (x3 + (5 : Int32)))))) fun r7 h6 =>
    if y0 = r7 then
    m_L_law_1975 f xs L k18 h6 x1 x2 x3
    else m_L_law_1414 f xs L h6
theorem mo_L_law_1381 {f : Nat} {xs : Nat → Int32} {L : Nat} {k18 : CH → Nat → Nat → Int32 → Option (Int32 × CH)} (hk18 : ∀ (h : CH) (x1 : Nat) (x2 : Nat) (x3 : Int32) (r : (Int32 × CH)), k18 h x1 x2 x3 = some r → le2 h r.2) : ∀ (h : CH) (x1 : Nat) (x2 : Nat) (x3 : Int32) (y0 : Int64) (r : (Int32 × CH)), m_L_law_1381 f xs L k18 h x1 x2 x3 y0 = some r → le2 h r.2 := by
  intro h x1 x2 x3 y0 r hm
  rw [m_L_law_1381] at hm
  obtain ⟨g1, hm⟩ := gdE hm
  obtain ⟨g2, hm⟩ := gdE hm
  obtain ⟨g3, hm⟩ := gdE hm
  obtain ⟨g4, hm⟩ := gdE hm
  obtain ⟨g5, hm⟩ := gdE hm
  obtain ⟨r7, h6, er7, hm⟩ := bd2E hm
  have lh6 := tcr_le er7
  by_cases c8 : y0 = r7
  · have hm := ifT hm c8
    exact (lh6.tr (mo_L_law_1975 hk18 h6 x1 x2 x3 _ hm))
  · have hm := ifF hm c8
    exact (lh6.tr (mo_L_law_1414  h6 _ hm))
def m_L_law_1352 (f : Nat) (xs : Nat → Int32) (L : Nat) (k18 : CH → Nat → Nat → Int32 → Option (Int32 × CH)) (h : CH) (x1 : Nat) (x2 : Nat) (x3 : Int32) : Option (Int32 × CH) := gd (ix (x3 + (1 : Int32)) L) <|
    gd (ix (x3 + (2 : Int32)) L) <|
    gd (ix (x3 + (3 : Int32)) L) <|
    gd (ix (x3 + (4 : Int32)) L) <|
    gd (ix (x3 + (5 : Int32)) L) <|
    gd (isC h x1 1) <|
    bd2 (m_X0_layers f h x1 (xs (Int32.toNatClampNeg (x3 + (1 : Int32)))) (xs (Int32.toNatClampNeg (x3 + (2 : Int32)))) (xs (Int32.toNatClampNeg (x3 + (3 : Int32)))) (xs (Int32.toNatClampNeg (x3 + (4 : Int32)))) (xs (Int32.toNatClampNeg (x3 + (5 : Int32))))) fun r8 h7 =>
    m_L_law_1381 f xs L k18 h7 x1 x2 x3 r8
theorem mo_L_law_1352 {f : Nat} {xs : Nat → Int32} {L : Nat} {k18 : CH → Nat → Nat → Int32 → Option (Int32 × CH)} (hk18 : ∀ (h : CH) (x1 : Nat) (x2 : Nat) (x3 : Int32) (r : (Int32 × CH)), k18 h x1 x2 x3 = some r → le2 h r.2) : ∀ (h : CH) (x1 : Nat) (x2 : Nat) (x3 : Int32) (r : (Int32 × CH)), m_L_law_1352 f xs L k18 h x1 x2 x3 = some r → le2 h r.2 := by
  intro h x1 x2 x3 r hm
  rw [m_L_law_1352] at hm
  obtain ⟨g1, hm⟩ := gdE hm
  obtain ⟨g2, hm⟩ := gdE hm
  obtain ⟨g3, hm⟩ := gdE hm
  obtain ⟨g4, hm⟩ := gdE hm
  obtain ⟨g5, hm⟩ := gdE hm
  obtain ⟨g6, hm⟩ := gdE hm
  obtain ⟨r8, h7, er8, hm⟩ := bd2E hm
  have lh7 := mo_X0_layers er8
  exact (lh7.tr (mo_L_law_1381 hk18 h7 x1 x2 x3 r8 _ hm))
def m_L_law_1478 (f : Nat) (xs : Nat → Int32) (L : Nat) (h : CH) : Option (Int32 × CH) := some ((0 : Int32), h)
theorem mo_L_law_1478 {f : Nat} {xs : Nat → Int32} {L : Nat} : ∀ (h : CH) (r : (Int32 × CH)), m_L_law_1478 f xs L h = some r → le2 h r.2 := by
  intro h r hm
  rw [m_L_law_1478] at hm
  cases hm
  exact le2.rf
def m_L_law_1445 (f : Nat) (xs : Nat → Int32) (L : Nat) (k18 : CH → Nat → Nat → Int32 → Option (Int32 × CH)) (h : CH) (x1 : Nat) (x2 : Nat) (x3 : Int32) (y0 : Int64) : Option (Int32 × CH) := gd (ix (x3 + (1 : Int32)) L) <|
    gd (ix (x3 + (2 : Int32)) L) <|
    gd (ix (x3 + (3 : Int32)) L) <|
    gd (ix (x3 + (4 : Int32)) L) <|
    gd (ix (x3 + (5 : Int32)) L) <|
    bd2 (tcr h x2 (fun z => m_X3_planar f z (xs (Int32.toNatClampNeg (x3 + (1 : Int32)))) (xs (Int32.toNatClampNeg (x3 + (2 : Int32)))) (xs (Int32.toNatClampNeg (x3 + (3 : Int32)))) (xs (Int32.toNatClampNeg (x3 + (4 : Int32)))) (xs (Int32.toNatClampNeg (x3 + (5 : Int32)))))) fun r7 h6 =>
    if y0 = r7 then
    m_L_law_1975 f xs L k18 h6 x1 x2 x3
    else m_L_law_1478 f xs L h6
theorem mo_L_law_1445 {f : Nat} {xs : Nat → Int32} {L : Nat} {k18 : CH → Nat → Nat → Int32 → Option (Int32 × CH)} (hk18 : ∀ (h : CH) (x1 : Nat) (x2 : Nat) (x3 : Int32) (r : (Int32 × CH)), k18 h x1 x2 x3 = some r → le2 h r.2) : ∀ (h : CH) (x1 : Nat) (x2 : Nat) (x3 : Int32) (y0 : Int64) (r : (Int32 × CH)), m_L_law_1445 f xs L k18 h x1 x2 x3 y0 = some r → le2 h r.2 := by
  intro h x1 x2 x3 y0 r hm
  rw [m_L_law_1445] at hm
  obtain ⟨g1, hm⟩ := gdE hm
  obtain ⟨g2, hm⟩ := gdE hm
  obtain ⟨g3, hm⟩ := gdE hm
  obtain ⟨g4, hm⟩ := gdE hm
  obtain ⟨g5, hm⟩ := gdE hm
  obtain ⟨r7, h6, er7, hm⟩ := bd2E hm
  have lh6 := tcr_le er7
  by_cases c8 : y0 = r7
  · have hm := ifT hm c8
    exact (lh6.tr (mo_L_law_1975 hk18 h6 x1 x2 x3 _ hm))
  · have hm := ifF hm c8
    exact (lh6.tr (mo_L_law_1478  h6 _ hm))
def m_L_law_1416 (f : Nat) (xs : Nat → Int32) (L : Nat) (k18 : CH → Nat → Nat → Int32 → Option (Int32 × CH)) (h : CH) (x1 : Nat) (x2 : Nat) (x3 : Int32) : Option (Int32 × CH) := gd (ix (x3 + (1 : Int32)) L) <|
    gd (ix (x3 + (2 : Int32)) L) <|
    gd (ix (x3 + (3 : Int32)) L) <|
    gd (ix (x3 + (4 : Int32)) L) <|
    gd (ix (x3 + (5 : Int32)) L) <|
    gd (isC h x1 1) <|
    bd2 (m_X0_planar f h x1 (xs (Int32.toNatClampNeg (x3 + (1 : Int32)))) (xs (Int32.toNatClampNeg (x3 + (2 : Int32)))) (xs (Int32.toNatClampNeg (x3 + (3 : Int32)))) (xs (Int32.toNatClampNeg (x3 + (4 : Int32)))) (xs (Int32.toNatClampNeg (x3 + (5 : Int32))))) fun r8 h7 =>
    m_L_law_1445 f xs L k18 h7 x1 x2 x3 r8
theorem mo_L_law_1416 {f : Nat} {xs : Nat → Int32} {L : Nat} {k18 : CH → Nat → Nat → Int32 → Option (Int32 × CH)} (hk18 : ∀ (h : CH) (x1 : Nat) (x2 : Nat) (x3 : Int32) (r : (Int32 × CH)), k18 h x1 x2 x3 = some r → le2 h r.2) : ∀ (h : CH) (x1 : Nat) (x2 : Nat) (x3 : Int32) (r : (Int32 × CH)), m_L_law_1416 f xs L k18 h x1 x2 x3 = some r → le2 h r.2 := by
  intro h x1 x2 x3 r hm
  rw [m_L_law_1416] at hm
  obtain ⟨g1, hm⟩ := gdE hm
  obtain ⟨g2, hm⟩ := gdE hm
  obtain ⟨g3, hm⟩ := gdE hm
  obtain ⟨g4, hm⟩ := gdE hm
  obtain ⟨g5, hm⟩ := gdE hm
  obtain ⟨g6, hm⟩ := gdE hm
  obtain ⟨r8, h7, er8, hm⟩ := bd2E hm
  have lh7 := mo_X0_planar er8
  exact (lh7.tr (mo_L_law_1445 hk18 h7 x1 x2 x3 r8 _ hm))
def m_L_law_1511 (f : Nat) (xs : Nat → Int32) (L : Nat) (h : CH) : Option (Int32 × CH) := some ((0 : Int32), h)
theorem mo_L_law_1511 {f : Nat} {xs : Nat → Int32} {L : Nat} : ∀ (h : CH) (r : (Int32 × CH)), m_L_law_1511 f xs L h = some r → le2 h r.2 := by
  intro h r hm
  rw [m_L_law_1511] at hm
  cases hm
  exact le2.rf
def m_L_law_1494 (f : Nat) (xs : Nat → Int32) (L : Nat) (k18 : CH → Nat → Nat → Int32 → Option (Int32 × CH)) (h : CH) (x1 : Nat) (x2 : Nat) (x3 : Int32) (y0 : Int32) : Option (Int32 × CH) := gd (ix (x3 + (1 : Int32)) L) <|
    gd (ix (x3 + (2 : Int32)) L) <|
    bd2 (tcr h x2 (fun z => m_X3_best f z (xs (Int32.toNatClampNeg (x3 + (1 : Int32)))) (xs (Int32.toNatClampNeg (x3 + (2 : Int32)))))) fun r4 h3 =>
    if y0 = r4 then
    m_L_law_1975 f xs L k18 h3 x1 x2 x3
    else m_L_law_1511 f xs L h3
theorem mo_L_law_1494 {f : Nat} {xs : Nat → Int32} {L : Nat} {k18 : CH → Nat → Nat → Int32 → Option (Int32 × CH)} (hk18 : ∀ (h : CH) (x1 : Nat) (x2 : Nat) (x3 : Int32) (r : (Int32 × CH)), k18 h x1 x2 x3 = some r → le2 h r.2) : ∀ (h : CH) (x1 : Nat) (x2 : Nat) (x3 : Int32) (y0 : Int32) (r : (Int32 × CH)), m_L_law_1494 f xs L k18 h x1 x2 x3 y0 = some r → le2 h r.2 := by
  intro h x1 x2 x3 y0 r hm
  rw [m_L_law_1494] at hm
  obtain ⟨g1, hm⟩ := gdE hm
  obtain ⟨g2, hm⟩ := gdE hm
  obtain ⟨r4, h3, er4, hm⟩ := bd2E hm
  have lh3 := tcr_le er4
  by_cases c5 : y0 = r4
  · have hm := ifT hm c5
    exact (lh3.tr (mo_L_law_1975 hk18 h3 x1 x2 x3 _ hm))
  · have hm := ifF hm c5
    exact (lh3.tr (mo_L_law_1511  h3 _ hm))
def m_L_law_1480 (f : Nat) (xs : Nat → Int32) (L : Nat) (k18 : CH → Nat → Nat → Int32 → Option (Int32 × CH)) (h : CH) (x1 : Nat) (x2 : Nat) (x3 : Int32) : Option (Int32 × CH) := gd (ix (x3 + (1 : Int32)) L) <|
    gd (ix (x3 + (2 : Int32)) L) <|
    gd (isC h x1 1) <|
    bd2 (m_X0_best f h x1 (xs (Int32.toNatClampNeg (x3 + (1 : Int32)))) (xs (Int32.toNatClampNeg (x3 + (2 : Int32))))) fun r5 h4 =>
    m_L_law_1494 f xs L k18 h4 x1 x2 x3 r5
theorem mo_L_law_1480 {f : Nat} {xs : Nat → Int32} {L : Nat} {k18 : CH → Nat → Nat → Int32 → Option (Int32 × CH)} (hk18 : ∀ (h : CH) (x1 : Nat) (x2 : Nat) (x3 : Int32) (r : (Int32 × CH)), k18 h x1 x2 x3 = some r → le2 h r.2) : ∀ (h : CH) (x1 : Nat) (x2 : Nat) (x3 : Int32) (r : (Int32 × CH)), m_L_law_1480 f xs L k18 h x1 x2 x3 = some r → le2 h r.2 := by
  intro h x1 x2 x3 r hm
  rw [m_L_law_1480] at hm
  obtain ⟨g1, hm⟩ := gdE hm
  obtain ⟨g2, hm⟩ := gdE hm
  obtain ⟨g3, hm⟩ := gdE hm
  obtain ⟨r5, h4, er5, hm⟩ := bd2E hm
  have lh4 := mo_X0_best er5
  exact (lh4.tr (mo_L_law_1494 hk18 h4 x1 x2 x3 r5 _ hm))
def m_L_law_1544 (f : Nat) (xs : Nat → Int32) (L : Nat) (h : CH) : Option (Int32 × CH) := some ((0 : Int32), h)
theorem mo_L_law_1544 {f : Nat} {xs : Nat → Int32} {L : Nat} : ∀ (h : CH) (r : (Int32 × CH)), m_L_law_1544 f xs L h = some r → le2 h r.2 := by
  intro h r hm
  rw [m_L_law_1544] at hm
  cases hm
  exact le2.rf
def m_L_law_1527 (f : Nat) (xs : Nat → Int32) (L : Nat) (k18 : CH → Nat → Nat → Int32 → Option (Int32 × CH)) (h : CH) (x1 : Nat) (x2 : Nat) (x3 : Int32) (y0 : Int32) : Option (Int32 × CH) := gd (ix (x3 + (1 : Int32)) L) <|
    gd (ix (x3 + (2 : Int32)) L) <|
    bd2 (tcr h x2 (fun z => m_X3_cosine f z (xs (Int32.toNatClampNeg (x3 + (1 : Int32)))) (xs (Int32.toNatClampNeg (x3 + (2 : Int32)))))) fun r4 h3 =>
    if y0 = r4 then
    m_L_law_1975 f xs L k18 h3 x1 x2 x3
    else m_L_law_1544 f xs L h3
theorem mo_L_law_1527 {f : Nat} {xs : Nat → Int32} {L : Nat} {k18 : CH → Nat → Nat → Int32 → Option (Int32 × CH)} (hk18 : ∀ (h : CH) (x1 : Nat) (x2 : Nat) (x3 : Int32) (r : (Int32 × CH)), k18 h x1 x2 x3 = some r → le2 h r.2) : ∀ (h : CH) (x1 : Nat) (x2 : Nat) (x3 : Int32) (y0 : Int32) (r : (Int32 × CH)), m_L_law_1527 f xs L k18 h x1 x2 x3 y0 = some r → le2 h r.2 := by
  intro h x1 x2 x3 y0 r hm
  rw [m_L_law_1527] at hm
  obtain ⟨g1, hm⟩ := gdE hm
  obtain ⟨g2, hm⟩ := gdE hm
  obtain ⟨r4, h3, er4, hm⟩ := bd2E hm
  have lh3 := tcr_le er4
  by_cases c5 : y0 = r4
  · have hm := ifT hm c5
    exact (lh3.tr (mo_L_law_1975 hk18 h3 x1 x2 x3 _ hm))
  · have hm := ifF hm c5
    exact (lh3.tr (mo_L_law_1544  h3 _ hm))
def m_L_law_1513 (f : Nat) (xs : Nat → Int32) (L : Nat) (k18 : CH → Nat → Nat → Int32 → Option (Int32 × CH)) (h : CH) (x1 : Nat) (x2 : Nat) (x3 : Int32) : Option (Int32 × CH) := gd (ix (x3 + (1 : Int32)) L) <|
    gd (ix (x3 + (2 : Int32)) L) <|
    gd (isC h x1 1) <|
    bd2 (m_X0_cosine f h x1 (xs (Int32.toNatClampNeg (x3 + (1 : Int32)))) (xs (Int32.toNatClampNeg (x3 + (2 : Int32))))) fun r5 h4 =>
    m_L_law_1527 f xs L k18 h4 x1 x2 x3 r5
theorem mo_L_law_1513 {f : Nat} {xs : Nat → Int32} {L : Nat} {k18 : CH → Nat → Nat → Int32 → Option (Int32 × CH)} (hk18 : ∀ (h : CH) (x1 : Nat) (x2 : Nat) (x3 : Int32) (r : (Int32 × CH)), k18 h x1 x2 x3 = some r → le2 h r.2) : ∀ (h : CH) (x1 : Nat) (x2 : Nat) (x3 : Int32) (r : (Int32 × CH)), m_L_law_1513 f xs L k18 h x1 x2 x3 = some r → le2 h r.2 := by
  intro h x1 x2 x3 r hm
  rw [m_L_law_1513] at hm
  obtain ⟨g1, hm⟩ := gdE hm
  obtain ⟨g2, hm⟩ := gdE hm
  obtain ⟨g3, hm⟩ := gdE hm
  obtain ⟨r5, h4, er5, hm⟩ := bd2E hm
  have lh4 := mo_X0_cosine er5
  exact (lh4.tr (mo_L_law_1527 hk18 h4 x1 x2 x3 r5 _ hm))
def m_L_law_1620 (f : Nat) (xs : Nat → Int32) (L : Nat) (h : CH) : Option (Int32 × CH) := some ((0 : Int32), h)
theorem mo_L_law_1620 {f : Nat} {xs : Nat → Int32} {L : Nat} : ∀ (h : CH) (r : (Int32 × CH)), m_L_law_1620 f xs L h = some r → le2 h r.2 := by
  intro h r hm
  rw [m_L_law_1620] at hm
  cases hm
  exact le2.rf
def m_L_law_1616 (f : Nat) (xs : Nat → Int32) (L : Nat) (k18 : CH → Nat → Nat → Int32 → Option (Int32 × CH)) (h : CH) (x1 : Nat) (x2 : Nat) (x3 : Int32) (y0 : Int64) (y1 : Int64) : Option (Int32 × CH) := if y0 = y1 then
    m_L_law_1975 f xs L k18 h x1 x2 x3
    else m_L_law_1620 f xs L h
theorem mo_L_law_1616 {f : Nat} {xs : Nat → Int32} {L : Nat} {k18 : CH → Nat → Nat → Int32 → Option (Int32 × CH)} (hk18 : ∀ (h : CH) (x1 : Nat) (x2 : Nat) (x3 : Int32) (r : (Int32 × CH)), k18 h x1 x2 x3 = some r → le2 h r.2) : ∀ (h : CH) (x1 : Nat) (x2 : Nat) (x3 : Int32) (y0 : Int64) (y1 : Int64) (r : (Int32 × CH)), m_L_law_1616 f xs L k18 h x1 x2 x3 y0 y1 = some r → le2 h r.2 := by
  intro h x1 x2 x3 y0 y1 r hm
  rw [m_L_law_1616] at hm
  by_cases c1 : y0 = y1
  · have hm := ifT hm c1
    exact (mo_L_law_1975 hk18 h x1 x2 x3 _ hm)
  · have hm := ifF hm c1
    exact (mo_L_law_1620  h _ hm)
def m_L_law_1581 (f : Nat) (xs : Nat → Int32) (L : Nat) (k18 : CH → Nat → Nat → Int32 → Option (Int32 × CH)) (h : CH) (x1 : Nat) (x2 : Nat) (x3 : Int32) (y0 : Int64) : Option (Int32 × CH) := gd (ix (x3 + (1 : Int32)) L) <|
    gd (ix (x3 + (2 : Int32)) L) <|
    gd (ix (x3 + (3 : Int32)) L) <|
    gd (ix (x3 + (4 : Int32)) L) <|
    gd (ix (x3 + (5 : Int32)) L) <|
    gd (ix (x3 + (6 : Int32)) L) <|
    gd (isC h x2 0) <|
    bd2 (m_X3_coset f h x2 (xs (Int32.toNatClampNeg (x3 + (1 : Int32)))) (xs (Int32.toNatClampNeg (x3 + (2 : Int32)))) (xs (Int32.toNatClampNeg (x3 + (3 : Int32)))) (xs (Int32.toNatClampNeg (x3 + (4 : Int32)))) (xs (Int32.toNatClampNeg (x3 + (5 : Int32)))) (xs (Int32.toNatClampNeg (x3 + (6 : Int32))))) fun r9 h8 =>
    m_L_law_1616 f xs L k18 h8 x1 x2 x3 y0 r9
theorem mo_L_law_1581 {f : Nat} {xs : Nat → Int32} {L : Nat} {k18 : CH → Nat → Nat → Int32 → Option (Int32 × CH)} (hk18 : ∀ (h : CH) (x1 : Nat) (x2 : Nat) (x3 : Int32) (r : (Int32 × CH)), k18 h x1 x2 x3 = some r → le2 h r.2) : ∀ (h : CH) (x1 : Nat) (x2 : Nat) (x3 : Int32) (y0 : Int64) (r : (Int32 × CH)), m_L_law_1581 f xs L k18 h x1 x2 x3 y0 = some r → le2 h r.2 := by
  intro h x1 x2 x3 y0 r hm
  rw [m_L_law_1581] at hm
  obtain ⟨g1, hm⟩ := gdE hm
  obtain ⟨g2, hm⟩ := gdE hm
  obtain ⟨g3, hm⟩ := gdE hm
  obtain ⟨g4, hm⟩ := gdE hm
  obtain ⟨g5, hm⟩ := gdE hm
  obtain ⟨g6, hm⟩ := gdE hm
  obtain ⟨g7, hm⟩ := gdE hm
  obtain ⟨r9, h8, er9, hm⟩ := bd2E hm
  have lh8 := mo_X3_coset er9
  exact (lh8.tr (mo_L_law_1616 hk18 h8 x1 x2 x3 y0 r9 _ hm))
def m_L_law_1546 (f : Nat) (xs : Nat → Int32) (L : Nat) (k18 : CH → Nat → Nat → Int32 → Option (Int32 × CH)) (h : CH) (x1 : Nat) (x2 : Nat) (x3 : Int32) : Option (Int32 × CH) := gd (ix (x3 + (1 : Int32)) L) <|
    gd (ix (x3 + (2 : Int32)) L) <|
    gd (ix (x3 + (3 : Int32)) L) <|
    gd (ix (x3 + (4 : Int32)) L) <|
    gd (ix (x3 + (5 : Int32)) L) <|
    gd (ix (x3 + (6 : Int32)) L) <|
    gd (isC h x1 1) <|
    bd2 (m_X0_coset f h x1 (xs (Int32.toNatClampNeg (x3 + (1 : Int32)))) (xs (Int32.toNatClampNeg (x3 + (2 : Int32)))) (xs (Int32.toNatClampNeg (x3 + (3 : Int32)))) (xs (Int32.toNatClampNeg (x3 + (4 : Int32)))) (xs (Int32.toNatClampNeg (x3 + (5 : Int32)))) (xs (Int32.toNatClampNeg (x3 + (6 : Int32))))) fun r9 h8 =>
    m_L_law_1581 f xs L k18 h8 x1 x2 x3 r9
theorem mo_L_law_1546 {f : Nat} {xs : Nat → Int32} {L : Nat} {k18 : CH → Nat → Nat → Int32 → Option (Int32 × CH)} (hk18 : ∀ (h : CH) (x1 : Nat) (x2 : Nat) (x3 : Int32) (r : (Int32 × CH)), k18 h x1 x2 x3 = some r → le2 h r.2) : ∀ (h : CH) (x1 : Nat) (x2 : Nat) (x3 : Int32) (r : (Int32 × CH)), m_L_law_1546 f xs L k18 h x1 x2 x3 = some r → le2 h r.2 := by
  intro h x1 x2 x3 r hm
  rw [m_L_law_1546] at hm
  obtain ⟨g1, hm⟩ := gdE hm
  obtain ⟨g2, hm⟩ := gdE hm
  obtain ⟨g3, hm⟩ := gdE hm
  obtain ⟨g4, hm⟩ := gdE hm
  obtain ⟨g5, hm⟩ := gdE hm
  obtain ⟨g6, hm⟩ := gdE hm
  obtain ⟨g7, hm⟩ := gdE hm
  obtain ⟨r9, h8, er9, hm⟩ := bd2E hm
  have lh8 := mo_X0_coset er9
  exact (lh8.tr (mo_L_law_1581 hk18 h8 x1 x2 x3 r9 _ hm))
def m_L_law_1653 (f : Nat) (xs : Nat → Int32) (L : Nat) (h : CH) : Option (Int32 × CH) := some ((0 : Int32), h)
theorem mo_L_law_1653 {f : Nat} {xs : Nat → Int32} {L : Nat} : ∀ (h : CH) (r : (Int32 × CH)), m_L_law_1653 f xs L h = some r → le2 h r.2 := by
  intro h r hm
  rw [m_L_law_1653] at hm
  cases hm
  exact le2.rf
def m_L_law_1636 (f : Nat) (xs : Nat → Int32) (L : Nat) (k18 : CH → Nat → Nat → Int32 → Option (Int32 × CH)) (h : CH) (x1 : Nat) (x2 : Nat) (x3 : Int32) (y0 : Int32) : Option (Int32 × CH) := gd (ix (x3 + (1 : Int32)) L) <|
    gd (ix (x3 + (2 : Int32)) L) <|
    bd2 (tcr h x2 (fun z => m_X3_turned f z (xs (Int32.toNatClampNeg (x3 + (1 : Int32)))) (xs (Int32.toNatClampNeg (x3 + (2 : Int32)))))) fun r4 h3 =>
    if y0 = r4 then
    m_L_law_1975 f xs L k18 h3 x1 x2 x3
    else m_L_law_1653 f xs L h3
theorem mo_L_law_1636 {f : Nat} {xs : Nat → Int32} {L : Nat} {k18 : CH → Nat → Nat → Int32 → Option (Int32 × CH)} (hk18 : ∀ (h : CH) (x1 : Nat) (x2 : Nat) (x3 : Int32) (r : (Int32 × CH)), k18 h x1 x2 x3 = some r → le2 h r.2) : ∀ (h : CH) (x1 : Nat) (x2 : Nat) (x3 : Int32) (y0 : Int32) (r : (Int32 × CH)), m_L_law_1636 f xs L k18 h x1 x2 x3 y0 = some r → le2 h r.2 := by
  intro h x1 x2 x3 y0 r hm
  rw [m_L_law_1636] at hm
  obtain ⟨g1, hm⟩ := gdE hm
  obtain ⟨g2, hm⟩ := gdE hm
  obtain ⟨r4, h3, er4, hm⟩ := bd2E hm
  have lh3 := tcr_le er4
  by_cases c5 : y0 = r4
  · have hm := ifT hm c5
    exact (lh3.tr (mo_L_law_1975 hk18 h3 x1 x2 x3 _ hm))
  · have hm := ifF hm c5
    exact (lh3.tr (mo_L_law_1653  h3 _ hm))
def m_L_law_1622 (f : Nat) (xs : Nat → Int32) (L : Nat) (k18 : CH → Nat → Nat → Int32 → Option (Int32 × CH)) (h : CH) (x1 : Nat) (x2 : Nat) (x3 : Int32) : Option (Int32 × CH) := gd (ix (x3 + (1 : Int32)) L) <|
    gd (ix (x3 + (2 : Int32)) L) <|
    gd (isC h x1 1) <|
    bd2 (m_X0_turned f h x1 (xs (Int32.toNatClampNeg (x3 + (1 : Int32)))) (xs (Int32.toNatClampNeg (x3 + (2 : Int32))))) fun r5 h4 =>
    m_L_law_1636 f xs L k18 h4 x1 x2 x3 r5
theorem mo_L_law_1622 {f : Nat} {xs : Nat → Int32} {L : Nat} {k18 : CH → Nat → Nat → Int32 → Option (Int32 × CH)} (hk18 : ∀ (h : CH) (x1 : Nat) (x2 : Nat) (x3 : Int32) (r : (Int32 × CH)), k18 h x1 x2 x3 = some r → le2 h r.2) : ∀ (h : CH) (x1 : Nat) (x2 : Nat) (x3 : Int32) (r : (Int32 × CH)), m_L_law_1622 f xs L k18 h x1 x2 x3 = some r → le2 h r.2 := by
  intro h x1 x2 x3 r hm
  rw [m_L_law_1622] at hm
  obtain ⟨g1, hm⟩ := gdE hm
  obtain ⟨g2, hm⟩ := gdE hm
  obtain ⟨g3, hm⟩ := gdE hm
  obtain ⟨r5, h4, er5, hm⟩ := bd2E hm
  have lh4 := mo_X0_turned er5
  exact (lh4.tr (mo_L_law_1636 hk18 h4 x1 x2 x3 r5 _ hm))
def m_L_law_1686 (f : Nat) (xs : Nat → Int32) (L : Nat) (h : CH) : Option (Int32 × CH) := some ((0 : Int32), h)
theorem mo_L_law_1686 {f : Nat} {xs : Nat → Int32} {L : Nat} : ∀ (h : CH) (r : (Int32 × CH)), m_L_law_1686 f xs L h = some r → le2 h r.2 := by
  intro h r hm
  rw [m_L_law_1686] at hm
  cases hm
  exact le2.rf
def m_L_law_1669 (f : Nat) (xs : Nat → Int32) (L : Nat) (k18 : CH → Nat → Nat → Int32 → Option (Int32 × CH)) (h : CH) (x1 : Nat) (x2 : Nat) (x3 : Int32) (y0 : Int32) : Option (Int32 × CH) := gd (ix (x3 + (1 : Int32)) L) <|
    gd (ix (x3 + (2 : Int32)) L) <|
    bd2 (tcr h x2 (fun z => m_X3_turnOf f z (xs (Int32.toNatClampNeg (x3 + (1 : Int32)))) (xs (Int32.toNatClampNeg (x3 + (2 : Int32)))))) fun r4 h3 =>
    if y0 = r4 then
    m_L_law_1975 f xs L k18 h3 x1 x2 x3
    else m_L_law_1686 f xs L h3
theorem mo_L_law_1669 {f : Nat} {xs : Nat → Int32} {L : Nat} {k18 : CH → Nat → Nat → Int32 → Option (Int32 × CH)} (hk18 : ∀ (h : CH) (x1 : Nat) (x2 : Nat) (x3 : Int32) (r : (Int32 × CH)), k18 h x1 x2 x3 = some r → le2 h r.2) : ∀ (h : CH) (x1 : Nat) (x2 : Nat) (x3 : Int32) (y0 : Int32) (r : (Int32 × CH)), m_L_law_1669 f xs L k18 h x1 x2 x3 y0 = some r → le2 h r.2 := by
  intro h x1 x2 x3 y0 r hm
  rw [m_L_law_1669] at hm
  obtain ⟨g1, hm⟩ := gdE hm
  obtain ⟨g2, hm⟩ := gdE hm
  obtain ⟨r4, h3, er4, hm⟩ := bd2E hm
  have lh3 := tcr_le er4
  by_cases c5 : y0 = r4
  · have hm := ifT hm c5
    exact (lh3.tr (mo_L_law_1975 hk18 h3 x1 x2 x3 _ hm))
  · have hm := ifF hm c5
    exact (lh3.tr (mo_L_law_1686  h3 _ hm))
def m_L_law_1655 (f : Nat) (xs : Nat → Int32) (L : Nat) (k18 : CH → Nat → Nat → Int32 → Option (Int32 × CH)) (h : CH) (x1 : Nat) (x2 : Nat) (x3 : Int32) : Option (Int32 × CH) := gd (ix (x3 + (1 : Int32)) L) <|
    gd (ix (x3 + (2 : Int32)) L) <|
    gd (isC h x1 1) <|
    bd2 (m_X0_turnOf f h x1 (xs (Int32.toNatClampNeg (x3 + (1 : Int32)))) (xs (Int32.toNatClampNeg (x3 + (2 : Int32))))) fun r5 h4 =>
    m_L_law_1669 f xs L k18 h4 x1 x2 x3 r5
theorem mo_L_law_1655 {f : Nat} {xs : Nat → Int32} {L : Nat} {k18 : CH → Nat → Nat → Int32 → Option (Int32 × CH)} (hk18 : ∀ (h : CH) (x1 : Nat) (x2 : Nat) (x3 : Int32) (r : (Int32 × CH)), k18 h x1 x2 x3 = some r → le2 h r.2) : ∀ (h : CH) (x1 : Nat) (x2 : Nat) (x3 : Int32) (r : (Int32 × CH)), m_L_law_1655 f xs L k18 h x1 x2 x3 = some r → le2 h r.2 := by
  intro h x1 x2 x3 r hm
  rw [m_L_law_1655] at hm
  obtain ⟨g1, hm⟩ := gdE hm
  obtain ⟨g2, hm⟩ := gdE hm
  obtain ⟨g3, hm⟩ := gdE hm
  obtain ⟨r5, h4, er5, hm⟩ := bd2E hm
  have lh4 := mo_X0_turnOf er5
  exact (lh4.tr (mo_L_law_1669 hk18 h4 x1 x2 x3 r5 _ hm))
def m_L_law_1709 (f : Nat) (xs : Nat → Int32) (L : Nat) (h : CH) : Option (Int32 × CH) := some ((0 : Int32), h)
theorem mo_L_law_1709 {f : Nat} {xs : Nat → Int32} {L : Nat} : ∀ (h : CH) (r : (Int32 × CH)), m_L_law_1709 f xs L h = some r → le2 h r.2 := by
  intro h r hm
  rw [m_L_law_1709] at hm
  cases hm
  exact le2.rf
def m_L_law_1706 (f : Nat) (xs : Nat → Int32) (L : Nat) (k18 : CH → Nat → Nat → Int32 → Option (Int32 × CH)) (h : CH) (x1 : Nat) (x2 : Nat) (x3 : Int32) (y0 : Int32) (y1 : Int32) : Option (Int32 × CH) := if y0 = y1 then
    m_L_law_1975 f xs L k18 h x1 x2 x3
    else m_L_law_1709 f xs L h
theorem mo_L_law_1706 {f : Nat} {xs : Nat → Int32} {L : Nat} {k18 : CH → Nat → Nat → Int32 → Option (Int32 × CH)} (hk18 : ∀ (h : CH) (x1 : Nat) (x2 : Nat) (x3 : Int32) (r : (Int32 × CH)), k18 h x1 x2 x3 = some r → le2 h r.2) : ∀ (h : CH) (x1 : Nat) (x2 : Nat) (x3 : Int32) (y0 : Int32) (y1 : Int32) (r : (Int32 × CH)), m_L_law_1706 f xs L k18 h x1 x2 x3 y0 y1 = some r → le2 h r.2 := by
  intro h x1 x2 x3 y0 y1 r hm
  rw [m_L_law_1706] at hm
  by_cases c1 : y0 = y1
  · have hm := ifT hm c1
    exact (mo_L_law_1975 hk18 h x1 x2 x3 _ hm)
  · have hm := ifF hm c1
    exact (mo_L_law_1709  h _ hm)
def m_L_law_1697 (f : Nat) (xs : Nat → Int32) (L : Nat) (k18 : CH → Nat → Nat → Int32 → Option (Int32 × CH)) (h : CH) (x1 : Nat) (x2 : Nat) (x3 : Int32) (y0 : Int32) : Option (Int32 × CH) := gd (ix (x3 + (1 : Int32)) L) <|
    gd (isC h x2 0) <|
    bd2 (m_X3_symmetries f h x2 (xs (Int32.toNatClampNeg (x3 + (1 : Int32))))) fun r4 h3 =>
    m_L_law_1706 f xs L k18 h3 x1 x2 x3 y0 r4
theorem mo_L_law_1697 {f : Nat} {xs : Nat → Int32} {L : Nat} {k18 : CH → Nat → Nat → Int32 → Option (Int32 × CH)} (hk18 : ∀ (h : CH) (x1 : Nat) (x2 : Nat) (x3 : Int32) (r : (Int32 × CH)), k18 h x1 x2 x3 = some r → le2 h r.2) : ∀ (h : CH) (x1 : Nat) (x2 : Nat) (x3 : Int32) (y0 : Int32) (r : (Int32 × CH)), m_L_law_1697 f xs L k18 h x1 x2 x3 y0 = some r → le2 h r.2 := by
  intro h x1 x2 x3 y0 r hm
  rw [m_L_law_1697] at hm
  obtain ⟨g1, hm⟩ := gdE hm
  obtain ⟨g2, hm⟩ := gdE hm
  obtain ⟨r4, h3, er4, hm⟩ := bd2E hm
  have lh3 := mo_X3_symmetries er4
  exact (lh3.tr (mo_L_law_1706 hk18 h3 x1 x2 x3 y0 r4 _ hm))
def m_L_law_1688 (f : Nat) (xs : Nat → Int32) (L : Nat) (k18 : CH → Nat → Nat → Int32 → Option (Int32 × CH)) (h : CH) (x1 : Nat) (x2 : Nat) (x3 : Int32) : Option (Int32 × CH) := gd (ix (x3 + (1 : Int32)) L) <|
    gd (isC h x1 1) <|
    bd2 (m_X0_symmetries f h x1 (xs (Int32.toNatClampNeg (x3 + (1 : Int32))))) fun r4 h3 =>
    m_L_law_1697 f xs L k18 h3 x1 x2 x3 r4
theorem mo_L_law_1688 {f : Nat} {xs : Nat → Int32} {L : Nat} {k18 : CH → Nat → Nat → Int32 → Option (Int32 × CH)} (hk18 : ∀ (h : CH) (x1 : Nat) (x2 : Nat) (x3 : Int32) (r : (Int32 × CH)), k18 h x1 x2 x3 = some r → le2 h r.2) : ∀ (h : CH) (x1 : Nat) (x2 : Nat) (x3 : Int32) (r : (Int32 × CH)), m_L_law_1688 f xs L k18 h x1 x2 x3 = some r → le2 h r.2 := by
  intro h x1 x2 x3 r hm
  rw [m_L_law_1688] at hm
  obtain ⟨g1, hm⟩ := gdE hm
  obtain ⟨g2, hm⟩ := gdE hm
  obtain ⟨r4, h3, er4, hm⟩ := bd2E hm
  have lh3 := mo_X0_symmetries er4
  exact (lh3.tr (mo_L_law_1697 hk18 h3 x1 x2 x3 r4 _ hm))
def m_L_law_1742 (f : Nat) (xs : Nat → Int32) (L : Nat) (h : CH) : Option (Int32 × CH) := some ((0 : Int32), h)
theorem mo_L_law_1742 {f : Nat} {xs : Nat → Int32} {L : Nat} : ∀ (h : CH) (r : (Int32 × CH)), m_L_law_1742 f xs L h = some r → le2 h r.2 := by
  intro h r hm
  rw [m_L_law_1742] at hm
  cases hm
  exact le2.rf
def m_L_law_1739 (f : Nat) (xs : Nat → Int32) (L : Nat) (k18 : CH → Nat → Nat → Int32 → Option (Int32 × CH)) (h : CH) (x1 : Nat) (x2 : Nat) (x3 : Int32) (y0 : Int32) (y1 : Int32) : Option (Int32 × CH) := if y0 = y1 then
    m_L_law_1975 f xs L k18 h x1 x2 x3
    else m_L_law_1742 f xs L h
theorem mo_L_law_1739 {f : Nat} {xs : Nat → Int32} {L : Nat} {k18 : CH → Nat → Nat → Int32 → Option (Int32 × CH)} (hk18 : ∀ (h : CH) (x1 : Nat) (x2 : Nat) (x3 : Int32) (r : (Int32 × CH)), k18 h x1 x2 x3 = some r → le2 h r.2) : ∀ (h : CH) (x1 : Nat) (x2 : Nat) (x3 : Int32) (y0 : Int32) (y1 : Int32) (r : (Int32 × CH)), m_L_law_1739 f xs L k18 h x1 x2 x3 y0 y1 = some r → le2 h r.2 := by
  intro h x1 x2 x3 y0 y1 r hm
  rw [m_L_law_1739] at hm
  by_cases c1 : y0 = y1
  · have hm := ifT hm c1
    exact (mo_L_law_1975 hk18 h x1 x2 x3 _ hm)
  · have hm := ifF hm c1
    exact (mo_L_law_1742  h _ hm)
def m_L_law_1725 (f : Nat) (xs : Nat → Int32) (L : Nat) (k18 : CH → Nat → Nat → Int32 → Option (Int32 × CH)) (h : CH) (x1 : Nat) (x2 : Nat) (x3 : Int32) (y0 : Int32) : Option (Int32 × CH) := gd (ix (x3 + (1 : Int32)) L) <|
    gd (ix (x3 + (2 : Int32)) L) <|
    gd (isC h x2 0) <|
    bd2 (m_X3_takes f h x2 (xs (Int32.toNatClampNeg (x3 + (1 : Int32)))) (xs (Int32.toNatClampNeg (x3 + (2 : Int32))))) fun r5 h4 =>
    m_L_law_1739 f xs L k18 h4 x1 x2 x3 y0 r5
theorem mo_L_law_1725 {f : Nat} {xs : Nat → Int32} {L : Nat} {k18 : CH → Nat → Nat → Int32 → Option (Int32 × CH)} (hk18 : ∀ (h : CH) (x1 : Nat) (x2 : Nat) (x3 : Int32) (r : (Int32 × CH)), k18 h x1 x2 x3 = some r → le2 h r.2) : ∀ (h : CH) (x1 : Nat) (x2 : Nat) (x3 : Int32) (y0 : Int32) (r : (Int32 × CH)), m_L_law_1725 f xs L k18 h x1 x2 x3 y0 = some r → le2 h r.2 := by
  intro h x1 x2 x3 y0 r hm
  rw [m_L_law_1725] at hm
  obtain ⟨g1, hm⟩ := gdE hm
  obtain ⟨g2, hm⟩ := gdE hm
  obtain ⟨g3, hm⟩ := gdE hm
  obtain ⟨r5, h4, er5, hm⟩ := bd2E hm
  have lh4 := mo_X3_takes er5
  exact (lh4.tr (mo_L_law_1739 hk18 h4 x1 x2 x3 y0 r5 _ hm))
def m_L_law_1711 (f : Nat) (xs : Nat → Int32) (L : Nat) (k18 : CH → Nat → Nat → Int32 → Option (Int32 × CH)) (h : CH) (x1 : Nat) (x2 : Nat) (x3 : Int32) : Option (Int32 × CH) := gd (ix (x3 + (1 : Int32)) L) <|
    gd (ix (x3 + (2 : Int32)) L) <|
    gd (isC h x1 1) <|
    bd2 (m_X0_takes f h x1 (xs (Int32.toNatClampNeg (x3 + (1 : Int32)))) (xs (Int32.toNatClampNeg (x3 + (2 : Int32))))) fun r5 h4 =>
    m_L_law_1725 f xs L k18 h4 x1 x2 x3 r5
theorem mo_L_law_1711 {f : Nat} {xs : Nat → Int32} {L : Nat} {k18 : CH → Nat → Nat → Int32 → Option (Int32 × CH)} (hk18 : ∀ (h : CH) (x1 : Nat) (x2 : Nat) (x3 : Int32) (r : (Int32 × CH)), k18 h x1 x2 x3 = some r → le2 h r.2) : ∀ (h : CH) (x1 : Nat) (x2 : Nat) (x3 : Int32) (r : (Int32 × CH)), m_L_law_1711 f xs L k18 h x1 x2 x3 = some r → le2 h r.2 := by
  intro h x1 x2 x3 r hm
  rw [m_L_law_1711] at hm
  obtain ⟨g1, hm⟩ := gdE hm
  obtain ⟨g2, hm⟩ := gdE hm
  obtain ⟨g3, hm⟩ := gdE hm
  obtain ⟨r5, h4, er5, hm⟩ := bd2E hm
  have lh4 := mo_X0_takes er5
  exact (lh4.tr (mo_L_law_1725 hk18 h4 x1 x2 x3 r5 _ hm))
def m_L_law_1795 (f : Nat) (xs : Nat → Int32) (L : Nat) (h : CH) : Option (Int32 × CH) := some ((0 : Int32), h)
theorem mo_L_law_1795 {f : Nat} {xs : Nat → Int32} {L : Nat} : ∀ (h : CH) (r : (Int32 × CH)), m_L_law_1795 f xs L h = some r → le2 h r.2 := by
  intro h r hm
  rw [m_L_law_1795] at hm
  cases hm
  exact le2.rf
def m_L_law_1768 (f : Nat) (xs : Nat → Int32) (L : Nat) (k18 : CH → Nat → Nat → Int32 → Option (Int32 × CH)) (h : CH) (x1 : Nat) (x2 : Nat) (x3 : Int32) (y0 : Int32) : Option (Int32 × CH) := gd (ix (x3 + (1 : Int32)) L) <|
    gd (ix (x3 + (2 : Int32)) L) <|
    gd (ix (x3 + (3 : Int32)) L) <|
    gd (ix (x3 + (4 : Int32)) L) <|
    bd2 (tcr h x2 (fun z => m_X3_add f z (xs (Int32.toNatClampNeg (x3 + (1 : Int32)))) (xs (Int32.toNatClampNeg (x3 + (2 : Int32)))) (xs (Int32.toNatClampNeg (x3 + (3 : Int32)))) (xs (Int32.toNatClampNeg (x3 + (4 : Int32)))))) fun r6 h5 =>
    if y0 = r6 then
    m_L_law_1975 f xs L k18 h5 x1 x2 x3
    else m_L_law_1795 f xs L h5
theorem mo_L_law_1768 {f : Nat} {xs : Nat → Int32} {L : Nat} {k18 : CH → Nat → Nat → Int32 → Option (Int32 × CH)} (hk18 : ∀ (h : CH) (x1 : Nat) (x2 : Nat) (x3 : Int32) (r : (Int32 × CH)), k18 h x1 x2 x3 = some r → le2 h r.2) : ∀ (h : CH) (x1 : Nat) (x2 : Nat) (x3 : Int32) (y0 : Int32) (r : (Int32 × CH)), m_L_law_1768 f xs L k18 h x1 x2 x3 y0 = some r → le2 h r.2 := by
  intro h x1 x2 x3 y0 r hm
  rw [m_L_law_1768] at hm
  obtain ⟨g1, hm⟩ := gdE hm
  obtain ⟨g2, hm⟩ := gdE hm
  obtain ⟨g3, hm⟩ := gdE hm
  obtain ⟨g4, hm⟩ := gdE hm
  obtain ⟨r6, h5, er6, hm⟩ := bd2E hm
  have lh5 := tcr_le er6
  by_cases c7 : y0 = r6
  · have hm := ifT hm c7
    exact (lh5.tr (mo_L_law_1975 hk18 h5 x1 x2 x3 _ hm))
  · have hm := ifF hm c7
    exact (lh5.tr (mo_L_law_1795  h5 _ hm))
def m_L_law_1744 (f : Nat) (xs : Nat → Int32) (L : Nat) (k18 : CH → Nat → Nat → Int32 → Option (Int32 × CH)) (h : CH) (x1 : Nat) (x2 : Nat) (x3 : Int32) : Option (Int32 × CH) := gd (ix (x3 + (1 : Int32)) L) <|
    gd (ix (x3 + (2 : Int32)) L) <|
    gd (ix (x3 + (3 : Int32)) L) <|
    gd (ix (x3 + (4 : Int32)) L) <|
    gd (isC h x1 1) <|
    bd2 (m_X0_add f h x1 (xs (Int32.toNatClampNeg (x3 + (1 : Int32)))) (xs (Int32.toNatClampNeg (x3 + (2 : Int32)))) (xs (Int32.toNatClampNeg (x3 + (3 : Int32)))) (xs (Int32.toNatClampNeg (x3 + (4 : Int32))))) fun r7 h6 =>
    m_L_law_1768 f xs L k18 h6 x1 x2 x3 r7
theorem mo_L_law_1744 {f : Nat} {xs : Nat → Int32} {L : Nat} {k18 : CH → Nat → Nat → Int32 → Option (Int32 × CH)} (hk18 : ∀ (h : CH) (x1 : Nat) (x2 : Nat) (x3 : Int32) (r : (Int32 × CH)), k18 h x1 x2 x3 = some r → le2 h r.2) : ∀ (h : CH) (x1 : Nat) (x2 : Nat) (x3 : Int32) (r : (Int32 × CH)), m_L_law_1744 f xs L k18 h x1 x2 x3 = some r → le2 h r.2 := by
  intro h x1 x2 x3 r hm
  rw [m_L_law_1744] at hm
  obtain ⟨g1, hm⟩ := gdE hm
  obtain ⟨g2, hm⟩ := gdE hm
  obtain ⟨g3, hm⟩ := gdE hm
  obtain ⟨g4, hm⟩ := gdE hm
  obtain ⟨g5, hm⟩ := gdE hm
  obtain ⟨r7, h6, er7, hm⟩ := bd2E hm
  have lh6 := mo_X0_add er7
  exact (lh6.tr (mo_L_law_1768 hk18 h6 x1 x2 x3 r7 _ hm))
def m_L_law_1838 (f : Nat) (xs : Nat → Int32) (L : Nat) (h : CH) : Option (Int32 × CH) := some ((0 : Int32), h)
theorem mo_L_law_1838 {f : Nat} {xs : Nat → Int32} {L : Nat} : ∀ (h : CH) (r : (Int32 × CH)), m_L_law_1838 f xs L h = some r → le2 h r.2 := by
  intro h r hm
  rw [m_L_law_1838] at hm
  cases hm
  exact le2.rf
def m_L_law_1816 (f : Nat) (xs : Nat → Int32) (L : Nat) (k18 : CH → Nat → Nat → Int32 → Option (Int32 × CH)) (h : CH) (x1 : Nat) (x2 : Nat) (x3 : Int32) (y0 : Int32) : Option (Int32 × CH) := gd (ix (x3 + (1 : Int32)) L) <|
    gd (ix (x3 + (2 : Int32)) L) <|
    gd (ix (x3 + (3 : Int32)) L) <|
    bd2 (tcr h x2 (fun z => m_X3_exchange f z (xs (Int32.toNatClampNeg (x3 + (1 : Int32)))) (xs (Int32.toNatClampNeg (x3 + (2 : Int32)))) (xs (Int32.toNatClampNeg (x3 + (3 : Int32)))))) fun r5 h4 =>
    if y0 = r5 then
    m_L_law_1975 f xs L k18 h4 x1 x2 x3
    else m_L_law_1838 f xs L h4
theorem mo_L_law_1816 {f : Nat} {xs : Nat → Int32} {L : Nat} {k18 : CH → Nat → Nat → Int32 → Option (Int32 × CH)} (hk18 : ∀ (h : CH) (x1 : Nat) (x2 : Nat) (x3 : Int32) (r : (Int32 × CH)), k18 h x1 x2 x3 = some r → le2 h r.2) : ∀ (h : CH) (x1 : Nat) (x2 : Nat) (x3 : Int32) (y0 : Int32) (r : (Int32 × CH)), m_L_law_1816 f xs L k18 h x1 x2 x3 y0 = some r → le2 h r.2 := by
  intro h x1 x2 x3 y0 r hm
  rw [m_L_law_1816] at hm
  obtain ⟨g1, hm⟩ := gdE hm
  obtain ⟨g2, hm⟩ := gdE hm
  obtain ⟨g3, hm⟩ := gdE hm
  obtain ⟨r5, h4, er5, hm⟩ := bd2E hm
  have lh4 := tcr_le er5
  by_cases c6 : y0 = r5
  · have hm := ifT hm c6
    exact (lh4.tr (mo_L_law_1975 hk18 h4 x1 x2 x3 _ hm))
  · have hm := ifF hm c6
    exact (lh4.tr (mo_L_law_1838  h4 _ hm))
def m_L_law_1797 (f : Nat) (xs : Nat → Int32) (L : Nat) (k18 : CH → Nat → Nat → Int32 → Option (Int32 × CH)) (h : CH) (x1 : Nat) (x2 : Nat) (x3 : Int32) : Option (Int32 × CH) := gd (ix (x3 + (1 : Int32)) L) <|
    gd (ix (x3 + (2 : Int32)) L) <|
    gd (ix (x3 + (3 : Int32)) L) <|
    gd (isC h x1 1) <|
    bd2 (m_X0_exchange f h x1 (xs (Int32.toNatClampNeg (x3 + (1 : Int32)))) (xs (Int32.toNatClampNeg (x3 + (2 : Int32)))) (xs (Int32.toNatClampNeg (x3 + (3 : Int32))))) fun r6 h5 =>
    m_L_law_1816 f xs L k18 h5 x1 x2 x3 r6
theorem mo_L_law_1797 {f : Nat} {xs : Nat → Int32} {L : Nat} {k18 : CH → Nat → Nat → Int32 → Option (Int32 × CH)} (hk18 : ∀ (h : CH) (x1 : Nat) (x2 : Nat) (x3 : Int32) (r : (Int32 × CH)), k18 h x1 x2 x3 = some r → le2 h r.2) : ∀ (h : CH) (x1 : Nat) (x2 : Nat) (x3 : Int32) (r : (Int32 × CH)), m_L_law_1797 f xs L k18 h x1 x2 x3 = some r → le2 h r.2 := by
  intro h x1 x2 x3 r hm
  rw [m_L_law_1797] at hm
  obtain ⟨g1, hm⟩ := gdE hm
  obtain ⟨g2, hm⟩ := gdE hm
  obtain ⟨g3, hm⟩ := gdE hm
  obtain ⟨g4, hm⟩ := gdE hm
  obtain ⟨r6, h5, er6, hm⟩ := bd2E hm
  have lh5 := mo_X0_exchange er6
  exact (lh5.tr (mo_L_law_1816 hk18 h5 x1 x2 x3 r6 _ hm))
def m_L_law_1871 (f : Nat) (xs : Nat → Int32) (L : Nat) (h : CH) : Option (Int32 × CH) := some ((0 : Int32), h)
theorem mo_L_law_1871 {f : Nat} {xs : Nat → Int32} {L : Nat} : ∀ (h : CH) (r : (Int32 × CH)), m_L_law_1871 f xs L h = some r → le2 h r.2 := by
  intro h r hm
  rw [m_L_law_1871] at hm
  cases hm
  exact le2.rf
def m_L_law_1854 (f : Nat) (xs : Nat → Int32) (L : Nat) (k18 : CH → Nat → Nat → Int32 → Option (Int32 × CH)) (h : CH) (x1 : Nat) (x2 : Nat) (x3 : Int32) (y0 : Int32) : Option (Int32 × CH) := gd (ix (x3 + (1 : Int32)) L) <|
    gd (ix (x3 + (2 : Int32)) L) <|
    bd2 (tcr h x2 (fun z => m_X3_negate f z (xs (Int32.toNatClampNeg (x3 + (1 : Int32)))) (xs (Int32.toNatClampNeg (x3 + (2 : Int32)))))) fun r4 h3 =>
    if y0 = r4 then
    m_L_law_1975 f xs L k18 h3 x1 x2 x3
    else m_L_law_1871 f xs L h3
theorem mo_L_law_1854 {f : Nat} {xs : Nat → Int32} {L : Nat} {k18 : CH → Nat → Nat → Int32 → Option (Int32 × CH)} (hk18 : ∀ (h : CH) (x1 : Nat) (x2 : Nat) (x3 : Int32) (r : (Int32 × CH)), k18 h x1 x2 x3 = some r → le2 h r.2) : ∀ (h : CH) (x1 : Nat) (x2 : Nat) (x3 : Int32) (y0 : Int32) (r : (Int32 × CH)), m_L_law_1854 f xs L k18 h x1 x2 x3 y0 = some r → le2 h r.2 := by
  intro h x1 x2 x3 y0 r hm
  rw [m_L_law_1854] at hm
  obtain ⟨g1, hm⟩ := gdE hm
  obtain ⟨g2, hm⟩ := gdE hm
  obtain ⟨r4, h3, er4, hm⟩ := bd2E hm
  have lh3 := tcr_le er4
  by_cases c5 : y0 = r4
  · have hm := ifT hm c5
    exact (lh3.tr (mo_L_law_1975 hk18 h3 x1 x2 x3 _ hm))
  · have hm := ifF hm c5
    exact (lh3.tr (mo_L_law_1871  h3 _ hm))
def m_L_law_1840 (f : Nat) (xs : Nat → Int32) (L : Nat) (k18 : CH → Nat → Nat → Int32 → Option (Int32 × CH)) (h : CH) (x1 : Nat) (x2 : Nat) (x3 : Int32) : Option (Int32 × CH) := gd (ix (x3 + (1 : Int32)) L) <|
    gd (ix (x3 + (2 : Int32)) L) <|
    gd (isC h x1 1) <|
    bd2 (m_X0_negate f h x1 (xs (Int32.toNatClampNeg (x3 + (1 : Int32)))) (xs (Int32.toNatClampNeg (x3 + (2 : Int32))))) fun r5 h4 =>
    m_L_law_1854 f xs L k18 h4 x1 x2 x3 r5
theorem mo_L_law_1840 {f : Nat} {xs : Nat → Int32} {L : Nat} {k18 : CH → Nat → Nat → Int32 → Option (Int32 × CH)} (hk18 : ∀ (h : CH) (x1 : Nat) (x2 : Nat) (x3 : Int32) (r : (Int32 × CH)), k18 h x1 x2 x3 = some r → le2 h r.2) : ∀ (h : CH) (x1 : Nat) (x2 : Nat) (x3 : Int32) (r : (Int32 × CH)), m_L_law_1840 f xs L k18 h x1 x2 x3 = some r → le2 h r.2 := by
  intro h x1 x2 x3 r hm
  rw [m_L_law_1840] at hm
  obtain ⟨g1, hm⟩ := gdE hm
  obtain ⟨g2, hm⟩ := gdE hm
  obtain ⟨g3, hm⟩ := gdE hm
  obtain ⟨r5, h4, er5, hm⟩ := bd2E hm
  have lh4 := mo_X0_negate er5
  exact (lh4.tr (mo_L_law_1854 hk18 h4 x1 x2 x3 r5 _ hm))
def m_L_law_1924 (f : Nat) (xs : Nat → Int32) (L : Nat) (h : CH) : Option (Int32 × CH) := some ((0 : Int32), h)
theorem mo_L_law_1924 {f : Nat} {xs : Nat → Int32} {L : Nat} : ∀ (h : CH) (r : (Int32 × CH)), m_L_law_1924 f xs L h = some r → le2 h r.2 := by
  intro h r hm
  rw [m_L_law_1924] at hm
  cases hm
  exact le2.rf
def m_L_law_1897 (f : Nat) (xs : Nat → Int32) (L : Nat) (k18 : CH → Nat → Nat → Int32 → Option (Int32 × CH)) (h : CH) (x1 : Nat) (x2 : Nat) (x3 : Int32) (y0 : Int32) : Option (Int32 × CH) := gd (ix (x3 + (1 : Int32)) L) <|
    gd (ix (x3 + (2 : Int32)) L) <|
    gd (ix (x3 + (3 : Int32)) L) <|
    gd (ix (x3 + (4 : Int32)) L) <|
    bd2 (tcr h x2 (fun z => m_X3_put f z (xs (Int32.toNatClampNeg (x3 + (1 : Int32)))) (xs (Int32.toNatClampNeg (x3 + (2 : Int32)))) (xs (Int32.toNatClampNeg (x3 + (3 : Int32)))) (xs (Int32.toNatClampNeg (x3 + (4 : Int32)))))) fun r6 h5 =>
    if y0 = r6 then
    m_L_law_1975 f xs L k18 h5 x1 x2 x3
    else m_L_law_1924 f xs L h5
theorem mo_L_law_1897 {f : Nat} {xs : Nat → Int32} {L : Nat} {k18 : CH → Nat → Nat → Int32 → Option (Int32 × CH)} (hk18 : ∀ (h : CH) (x1 : Nat) (x2 : Nat) (x3 : Int32) (r : (Int32 × CH)), k18 h x1 x2 x3 = some r → le2 h r.2) : ∀ (h : CH) (x1 : Nat) (x2 : Nat) (x3 : Int32) (y0 : Int32) (r : (Int32 × CH)), m_L_law_1897 f xs L k18 h x1 x2 x3 y0 = some r → le2 h r.2 := by
  intro h x1 x2 x3 y0 r hm
  rw [m_L_law_1897] at hm
  obtain ⟨g1, hm⟩ := gdE hm
  obtain ⟨g2, hm⟩ := gdE hm
  obtain ⟨g3, hm⟩ := gdE hm
  obtain ⟨g4, hm⟩ := gdE hm
  obtain ⟨r6, h5, er6, hm⟩ := bd2E hm
  have lh5 := tcr_le er6
  by_cases c7 : y0 = r6
  · have hm := ifT hm c7
    exact (lh5.tr (mo_L_law_1975 hk18 h5 x1 x2 x3 _ hm))
  · have hm := ifF hm c7
    exact (lh5.tr (mo_L_law_1924  h5 _ hm))
def m_L_law_1873 (f : Nat) (xs : Nat → Int32) (L : Nat) (k18 : CH → Nat → Nat → Int32 → Option (Int32 × CH)) (h : CH) (x1 : Nat) (x2 : Nat) (x3 : Int32) : Option (Int32 × CH) := gd (ix (x3 + (1 : Int32)) L) <|
    gd (ix (x3 + (2 : Int32)) L) <|
    gd (ix (x3 + (3 : Int32)) L) <|
    gd (ix (x3 + (4 : Int32)) L) <|
    gd (isC h x1 1) <|
    bx (m_X0_put f h x1 (xs (Int32.toNatClampNeg (x3 + (1 : Int32)))) (xs (Int32.toNatClampNeg (x3 + (2 : Int32)))) (xs (Int32.toNatClampNeg (x3 + (3 : Int32)))) (xs (Int32.toNatClampNeg (x3 + (4 : Int32))))) (fun r7 h6 =>
    m_L_law_1897 f xs L k18 h6 x1 x2 x3 r7) (fun q8 h6 =>
    none)
theorem mo_L_law_1873 {f : Nat} {xs : Nat → Int32} {L : Nat} {k18 : CH → Nat → Nat → Int32 → Option (Int32 × CH)} (hk18 : ∀ (h : CH) (x1 : Nat) (x2 : Nat) (x3 : Int32) (r : (Int32 × CH)), k18 h x1 x2 x3 = some r → le2 h r.2) : ∀ (h : CH) (x1 : Nat) (x2 : Nat) (x3 : Int32) (r : (Int32 × CH)), m_L_law_1873 f xs L k18 h x1 x2 x3 = some r → le2 h r.2 := by
  intro h x1 x2 x3 r hm
  rw [m_L_law_1873] at hm
  obtain ⟨g1, hm⟩ := gdE hm
  obtain ⟨g2, hm⟩ := gdE hm
  obtain ⟨g3, hm⟩ := gdE hm
  obtain ⟨g4, hm⟩ := gdE hm
  obtain ⟨g5, hm⟩ := gdE hm
  rcases bxE hm with ⟨r7, h6, eh6, hm⟩ | ⟨q8, h6, eh6, hm⟩
  · have lh6 := mo_X0_put eh6
    exact (lh6.tr (mo_L_law_1897 hk18 h6 x1 x2 x3 r7 _ hm))
  · exact noE hm
def m_L_law_1947 (f : Nat) (xs : Nat → Int32) (L : Nat) (h : CH) : Option (Int32 × CH) := some ((0 : Int32), h)
theorem mo_L_law_1947 {f : Nat} {xs : Nat → Int32} {L : Nat} : ∀ (h : CH) (r : (Int32 × CH)), m_L_law_1947 f xs L h = some r → le2 h r.2 := by
  intro h r hm
  rw [m_L_law_1947] at hm
  cases hm
  exact le2.rf
def m_L_law_1935 (f : Nat) (xs : Nat → Int32) (L : Nat) (k18 : CH → Nat → Nat → Int32 → Option (Int32 × CH)) (h : CH) (x1 : Nat) (x2 : Nat) (x3 : Int32) (y0 : Int32) : Option (Int32 × CH) := gd (ix (x3 + (1 : Int32)) L) <|
    bd2 (tcr h x2 (fun z => m_X3_why f z (xs (Int32.toNatClampNeg (x3 + (1 : Int32)))))) fun r3 h2 =>
    if y0 = r3 then
    m_L_law_1975 f xs L k18 h2 x1 x2 x3
    else m_L_law_1947 f xs L h2
theorem mo_L_law_1935 {f : Nat} {xs : Nat → Int32} {L : Nat} {k18 : CH → Nat → Nat → Int32 → Option (Int32 × CH)} (hk18 : ∀ (h : CH) (x1 : Nat) (x2 : Nat) (x3 : Int32) (r : (Int32 × CH)), k18 h x1 x2 x3 = some r → le2 h r.2) : ∀ (h : CH) (x1 : Nat) (x2 : Nat) (x3 : Int32) (y0 : Int32) (r : (Int32 × CH)), m_L_law_1935 f xs L k18 h x1 x2 x3 y0 = some r → le2 h r.2 := by
  intro h x1 x2 x3 y0 r hm
  rw [m_L_law_1935] at hm
  obtain ⟨g1, hm⟩ := gdE hm
  obtain ⟨r3, h2, er3, hm⟩ := bd2E hm
  have lh2 := tcr_le er3
  by_cases c4 : y0 = r3
  · have hm := ifT hm c4
    exact (lh2.tr (mo_L_law_1975 hk18 h2 x1 x2 x3 _ hm))
  · have hm := ifF hm c4
    exact (lh2.tr (mo_L_law_1947  h2 _ hm))
def m_L_law_1926 (f : Nat) (xs : Nat → Int32) (L : Nat) (k18 : CH → Nat → Nat → Int32 → Option (Int32 × CH)) (h : CH) (x1 : Nat) (x2 : Nat) (x3 : Int32) : Option (Int32 × CH) := gd (ix (x3 + (1 : Int32)) L) <|
    gd (isC h x1 1) <|
    bd2 (m_X0_why f h x1 (xs (Int32.toNatClampNeg (x3 + (1 : Int32))))) fun r4 h3 =>
    m_L_law_1935 f xs L k18 h3 x1 x2 x3 r4
theorem mo_L_law_1926 {f : Nat} {xs : Nat → Int32} {L : Nat} {k18 : CH → Nat → Nat → Int32 → Option (Int32 × CH)} (hk18 : ∀ (h : CH) (x1 : Nat) (x2 : Nat) (x3 : Int32) (r : (Int32 × CH)), k18 h x1 x2 x3 = some r → le2 h r.2) : ∀ (h : CH) (x1 : Nat) (x2 : Nat) (x3 : Int32) (r : (Int32 × CH)), m_L_law_1926 f xs L k18 h x1 x2 x3 = some r → le2 h r.2 := by
  intro h x1 x2 x3 r hm
  rw [m_L_law_1926] at hm
  obtain ⟨g1, hm⟩ := gdE hm
  obtain ⟨g2, hm⟩ := gdE hm
  obtain ⟨r4, h3, er4, hm⟩ := bd2E hm
  have lh3 := mo_X0_why er4
  exact (lh3.tr (mo_L_law_1935 hk18 h3 x1 x2 x3 r4 _ hm))
def m_L_law_1960 (f : Nat) (xs : Nat → Int32) (L : Nat) (h : CH) : Option (Int32 × CH) := some ((0 : Int32), h)
theorem mo_L_law_1960 {f : Nat} {xs : Nat → Int32} {L : Nat} : ∀ (h : CH) (r : (Int32 × CH)), m_L_law_1960 f xs L h = some r → le2 h r.2 := by
  intro h r hm
  rw [m_L_law_1960] at hm
  cases hm
  exact le2.rf
def m_L_law_1953 (f : Nat) (xs : Nat → Int32) (L : Nat) (k18 : CH → Nat → Nat → Int32 → Option (Int32 × CH)) (h : CH) (x1 : Nat) (x2 : Nat) (x3 : Int32) (y0 : Int32) : Option (Int32 × CH) := bd2 (tcr h x2 (fun z => m_X3_undo f z)) fun r2 h1 =>
    if y0 = r2 then
    m_L_law_1975 f xs L k18 h1 x1 x2 x3
    else m_L_law_1960 f xs L h1
theorem mo_L_law_1953 {f : Nat} {xs : Nat → Int32} {L : Nat} {k18 : CH → Nat → Nat → Int32 → Option (Int32 × CH)} (hk18 : ∀ (h : CH) (x1 : Nat) (x2 : Nat) (x3 : Int32) (r : (Int32 × CH)), k18 h x1 x2 x3 = some r → le2 h r.2) : ∀ (h : CH) (x1 : Nat) (x2 : Nat) (x3 : Int32) (y0 : Int32) (r : (Int32 × CH)), m_L_law_1953 f xs L k18 h x1 x2 x3 y0 = some r → le2 h r.2 := by
  intro h x1 x2 x3 y0 r hm
  rw [m_L_law_1953] at hm
  obtain ⟨r2, h1, er2, hm⟩ := bd2E hm
  have lh1 := tcr_le er2
  by_cases c3 : y0 = r2
  · have hm := ifT hm c3
    exact (lh1.tr (mo_L_law_1975 hk18 h1 x1 x2 x3 _ hm))
  · have hm := ifF hm c3
    exact (lh1.tr (mo_L_law_1960  h1 _ hm))
def m_L_law_1949 (f : Nat) (xs : Nat → Int32) (L : Nat) (k18 : CH → Nat → Nat → Int32 → Option (Int32 × CH)) (h : CH) (x1 : Nat) (x2 : Nat) (x3 : Int32) : Option (Int32 × CH) := gd (isC h x1 1) <|
    bd2 (m_X0_undo f h x1) fun r3 h2 =>
    m_L_law_1953 f xs L k18 h2 x1 x2 x3 r3
theorem mo_L_law_1949 {f : Nat} {xs : Nat → Int32} {L : Nat} {k18 : CH → Nat → Nat → Int32 → Option (Int32 × CH)} (hk18 : ∀ (h : CH) (x1 : Nat) (x2 : Nat) (x3 : Int32) (r : (Int32 × CH)), k18 h x1 x2 x3 = some r → le2 h r.2) : ∀ (h : CH) (x1 : Nat) (x2 : Nat) (x3 : Int32) (r : (Int32 × CH)), m_L_law_1949 f xs L k18 h x1 x2 x3 = some r → le2 h r.2 := by
  intro h x1 x2 x3 r hm
  rw [m_L_law_1949] at hm
  obtain ⟨g1, hm⟩ := gdE hm
  obtain ⟨r3, h2, er3, hm⟩ := bd2E hm
  have lh2 := mo_X0_undo er3
  exact (lh2.tr (mo_L_law_1953 hk18 h2 x1 x2 x3 r3 _ hm))
def m_L_law_1973 (f : Nat) (xs : Nat → Int32) (L : Nat) (h : CH) : Option (Int32 × CH) := some ((0 : Int32), h)
theorem mo_L_law_1973 {f : Nat} {xs : Nat → Int32} {L : Nat} : ∀ (h : CH) (r : (Int32 × CH)), m_L_law_1973 f xs L h = some r → le2 h r.2 := by
  intro h r hm
  rw [m_L_law_1973] at hm
  cases hm
  exact le2.rf
def m_L_law_1966 (f : Nat) (xs : Nat → Int32) (L : Nat) (k18 : CH → Nat → Nat → Int32 → Option (Int32 × CH)) (h : CH) (x1 : Nat) (x2 : Nat) (x3 : Int32) (y0 : Int32) : Option (Int32 × CH) := bd2 (tcr h x2 (fun z => m_X3_anew f z)) fun r2 h1 =>
    if y0 = r2 then
    m_L_law_1975 f xs L k18 h1 x1 x2 x3
    else m_L_law_1973 f xs L h1
theorem mo_L_law_1966 {f : Nat} {xs : Nat → Int32} {L : Nat} {k18 : CH → Nat → Nat → Int32 → Option (Int32 × CH)} (hk18 : ∀ (h : CH) (x1 : Nat) (x2 : Nat) (x3 : Int32) (r : (Int32 × CH)), k18 h x1 x2 x3 = some r → le2 h r.2) : ∀ (h : CH) (x1 : Nat) (x2 : Nat) (x3 : Int32) (y0 : Int32) (r : (Int32 × CH)), m_L_law_1966 f xs L k18 h x1 x2 x3 y0 = some r → le2 h r.2 := by
  intro h x1 x2 x3 y0 r hm
  rw [m_L_law_1966] at hm
  obtain ⟨r2, h1, er2, hm⟩ := bd2E hm
  have lh1 := tcr_le er2
  by_cases c3 : y0 = r2
  · have hm := ifT hm c3
    exact (lh1.tr (mo_L_law_1975 hk18 h1 x1 x2 x3 _ hm))
  · have hm := ifF hm c3
    exact (lh1.tr (mo_L_law_1973  h1 _ hm))
def m_L_law_1962 (f : Nat) (xs : Nat → Int32) (L : Nat) (k18 : CH → Nat → Nat → Int32 → Option (Int32 × CH)) (h : CH) (x1 : Nat) (x2 : Nat) (x3 : Int32) : Option (Int32 × CH) := gd (isC h x1 1) <|
    bd2 (m_X0_anew f h x1) fun r3 h2 =>
    m_L_law_1966 f xs L k18 h2 x1 x2 x3 r3
theorem mo_L_law_1962 {f : Nat} {xs : Nat → Int32} {L : Nat} {k18 : CH → Nat → Nat → Int32 → Option (Int32 × CH)} (hk18 : ∀ (h : CH) (x1 : Nat) (x2 : Nat) (x3 : Int32) (r : (Int32 × CH)), k18 h x1 x2 x3 = some r → le2 h r.2) : ∀ (h : CH) (x1 : Nat) (x2 : Nat) (x3 : Int32) (r : (Int32 × CH)), m_L_law_1962 f xs L k18 h x1 x2 x3 = some r → le2 h r.2 := by
  intro h x1 x2 x3 r hm
  rw [m_L_law_1962] at hm
  obtain ⟨g1, hm⟩ := gdE hm
  obtain ⟨r3, h2, er3, hm⟩ := bd2E hm
  have lh2 := mo_X0_anew er3
  exact (lh2.tr (mo_L_law_1966 hk18 h2 x1 x2 x3 r3 _ hm))
def m_L_law_18 (f : Nat) (xs : Nat → Int32) (L : Nat) : Nat → CH → Nat → Nat → Int32 → Option (Int32 × CH)
  | 0, _, _, _, _ => none
  | n18 + 1, h, x1, x2, x3 => if ((Int32.ofNat L) - (7 : Int32)) < x3 then
    m_L_law_1981 f xs L h
    else gd (ix x3 L) <|
    if ((xs (Int32.toNatClampNeg x3)) &&& (63 : Int32)) = (0 : Int32) then
    m_L_law_224 f xs L (m_L_law_18 f xs L n18) h x1 x2 x3
    else if ((xs (Int32.toNatClampNeg x3)) &&& (63 : Int32)) = (1 : Int32) then
    m_L_law_287 f xs L (m_L_law_18 f xs L n18) h x1 x2 x3
    else if ((xs (Int32.toNatClampNeg x3)) &&& (63 : Int32)) = (2 : Int32) then
    m_L_law_310 f xs L (m_L_law_18 f xs L n18) h x1 x2 x3
    else if ((xs (Int32.toNatClampNeg x3)) &&& (63 : Int32)) = (3 : Int32) then
    m_L_law_323 f xs L (m_L_law_18 f xs L n18) h x1 x2 x3
    else if ((xs (Int32.toNatClampNeg x3)) &&& (63 : Int32)) = (4 : Int32) then
    m_L_law_346 f xs L (m_L_law_18 f xs L n18) h x1 x2 x3
    else if ((xs (Int32.toNatClampNeg x3)) &&& (63 : Int32)) = (5 : Int32) then
    m_L_law_369 f xs L (m_L_law_18 f xs L n18) h x1 x2 x3
    else if ((xs (Int32.toNatClampNeg x3)) &&& (63 : Int32)) = (6 : Int32) then
    m_L_law_412 f xs L (m_L_law_18 f xs L n18) h x1 x2 x3
    else if ((xs (Int32.toNatClampNeg x3)) &&& (63 : Int32)) = (7 : Int32) then
    m_L_law_435 f xs L (m_L_law_18 f xs L n18) h x1 x2 x3
    else if ((xs (Int32.toNatClampNeg x3)) &&& (63 : Int32)) = (8 : Int32) then
    m_L_law_479 f xs L (m_L_law_18 f xs L n18) h x1 x2 x3
    else if ((xs (Int32.toNatClampNeg x3)) &&& (63 : Int32)) = (9 : Int32) then
    m_L_law_502 f xs L (m_L_law_18 f xs L n18) h x1 x2 x3
    else if ((xs (Int32.toNatClampNeg x3)) &&& (63 : Int32)) = (10 : Int32) then
    m_L_law_545 f xs L (m_L_law_18 f xs L n18) h x1 x2 x3
    else if ((xs (Int32.toNatClampNeg x3)) &&& (63 : Int32)) = (11 : Int32) then
    m_L_law_579 f xs L (m_L_law_18 f xs L n18) h x1 x2 x3
    else if ((xs (Int32.toNatClampNeg x3)) &&& (63 : Int32)) = (12 : Int32) then
    m_L_law_613 f xs L (m_L_law_18 f xs L n18) h x1 x2 x3
    else if ((xs (Int32.toNatClampNeg x3)) &&& (63 : Int32)) = (13 : Int32) then
    m_L_law_676 f xs L (m_L_law_18 f xs L n18) h x1 x2 x3
    else if ((xs (Int32.toNatClampNeg x3)) &&& (63 : Int32)) = (14 : Int32) then
    m_L_law_709 f xs L (m_L_law_18 f xs L n18) h x1 x2 x3
    else if ((xs (Int32.toNatClampNeg x3)) &&& (63 : Int32)) = (15 : Int32) then
    m_L_law_742 f xs L (m_L_law_18 f xs L n18) h x1 x2 x3
    else if ((xs (Int32.toNatClampNeg x3)) &&& (63 : Int32)) = (16 : Int32) then
    m_L_law_796 f xs L (m_L_law_18 f xs L n18) h x1 x2 x3
    else if ((xs (Int32.toNatClampNeg x3)) &&& (63 : Int32)) = (17 : Int32) then
    m_L_law_829 f xs L (m_L_law_18 f xs L n18) h x1 x2 x3
    else if ((xs (Int32.toNatClampNeg x3)) &&& (63 : Int32)) = (18 : Int32) then
    m_L_law_883 f xs L (m_L_law_18 f xs L n18) h x1 x2 x3
    else if ((xs (Int32.toNatClampNeg x3)) &&& (63 : Int32)) = (19 : Int32) then
    m_L_law_917 f xs L (m_L_law_18 f xs L n18) h x1 x2 x3
    else if ((xs (Int32.toNatClampNeg x3)) &&& (63 : Int32)) = (20 : Int32) then
    m_L_law_961 f xs L (m_L_law_18 f xs L n18) h x1 x2 x3
    else if ((xs (Int32.toNatClampNeg x3)) &&& (63 : Int32)) = (21 : Int32) then
    m_L_law_1036 f xs L (m_L_law_18 f xs L n18) h x1 x2 x3
    else if ((xs (Int32.toNatClampNeg x3)) &&& (63 : Int32)) = (22 : Int32) then
    m_L_law_1111 f xs L (m_L_law_18 f xs L n18) h x1 x2 x3
    else if ((xs (Int32.toNatClampNeg x3)) &&& (63 : Int32)) = (23 : Int32) then
    m_L_law_1154 f xs L (m_L_law_18 f xs L n18) h x1 x2 x3
    else if ((xs (Int32.toNatClampNeg x3)) &&& (63 : Int32)) = (24 : Int32) then
    m_L_law_1177 f xs L (m_L_law_18 f xs L n18) h x1 x2 x3
    else if ((xs (Int32.toNatClampNeg x3)) &&& (63 : Int32)) = (25 : Int32) then
    m_L_law_1221 f xs L (m_L_law_18 f xs L n18) h x1 x2 x3
    else if ((xs (Int32.toNatClampNeg x3)) &&& (63 : Int32)) = (26 : Int32) then
    m_L_law_1244 f xs L (m_L_law_18 f xs L n18) h x1 x2 x3
    else if ((xs (Int32.toNatClampNeg x3)) &&& (63 : Int32)) = (27 : Int32) then
    m_L_law_1288 f xs L (m_L_law_18 f xs L n18) h x1 x2 x3
    else if ((xs (Int32.toNatClampNeg x3)) &&& (63 : Int32)) = (28 : Int32) then
    m_L_law_1352 f xs L (m_L_law_18 f xs L n18) h x1 x2 x3
    else if ((xs (Int32.toNatClampNeg x3)) &&& (63 : Int32)) = (29 : Int32) then
    m_L_law_1416 f xs L (m_L_law_18 f xs L n18) h x1 x2 x3
    else if ((xs (Int32.toNatClampNeg x3)) &&& (63 : Int32)) = (30 : Int32) then
    m_L_law_1480 f xs L (m_L_law_18 f xs L n18) h x1 x2 x3
    else if ((xs (Int32.toNatClampNeg x3)) &&& (63 : Int32)) = (31 : Int32) then
    m_L_law_1513 f xs L (m_L_law_18 f xs L n18) h x1 x2 x3
    else if ((xs (Int32.toNatClampNeg x3)) &&& (63 : Int32)) = (32 : Int32) then
    m_L_law_1546 f xs L (m_L_law_18 f xs L n18) h x1 x2 x3
    else if ((xs (Int32.toNatClampNeg x3)) &&& (63 : Int32)) = (33 : Int32) then
    m_L_law_1622 f xs L (m_L_law_18 f xs L n18) h x1 x2 x3
    else if ((xs (Int32.toNatClampNeg x3)) &&& (63 : Int32)) = (34 : Int32) then
    m_L_law_1655 f xs L (m_L_law_18 f xs L n18) h x1 x2 x3
    else if ((xs (Int32.toNatClampNeg x3)) &&& (63 : Int32)) = (35 : Int32) then
    m_L_law_1688 f xs L (m_L_law_18 f xs L n18) h x1 x2 x3
    else if ((xs (Int32.toNatClampNeg x3)) &&& (63 : Int32)) = (36 : Int32) then
    m_L_law_1711 f xs L (m_L_law_18 f xs L n18) h x1 x2 x3
    else if ((xs (Int32.toNatClampNeg x3)) &&& (63 : Int32)) = (37 : Int32) then
    m_L_law_1744 f xs L (m_L_law_18 f xs L n18) h x1 x2 x3
    else if ((xs (Int32.toNatClampNeg x3)) &&& (63 : Int32)) = (38 : Int32) then
    m_L_law_1797 f xs L (m_L_law_18 f xs L n18) h x1 x2 x3
    else if ((xs (Int32.toNatClampNeg x3)) &&& (63 : Int32)) = (39 : Int32) then
    m_L_law_1840 f xs L (m_L_law_18 f xs L n18) h x1 x2 x3
    else if ((xs (Int32.toNatClampNeg x3)) &&& (63 : Int32)) = (40 : Int32) then
    m_L_law_1873 f xs L (m_L_law_18 f xs L n18) h x1 x2 x3
    else if ((xs (Int32.toNatClampNeg x3)) &&& (63 : Int32)) = (41 : Int32) then
    m_L_law_1926 f xs L (m_L_law_18 f xs L n18) h x1 x2 x3
    else if ((xs (Int32.toNatClampNeg x3)) &&& (63 : Int32)) = (42 : Int32) then
    m_L_law_1949 f xs L (m_L_law_18 f xs L n18) h x1 x2 x3
    else if ((xs (Int32.toNatClampNeg x3)) &&& (63 : Int32)) = (43 : Int32) then
    m_L_law_1962 f xs L (m_L_law_18 f xs L n18) h x1 x2 x3
    else m_L_law_1975 f xs L (m_L_law_18 f xs L n18) h x1 x2 x3
theorem mo_L_law_18 {f : Nat} {xs : Nat → Int32} {L : Nat} : ∀ (n18 : Nat) (h : CH) (x1 : Nat) (x2 : Nat) (x3 : Int32) (r : (Int32 × CH)), m_L_law_18 f xs L n18 h x1 x2 x3 = some r → le2 h r.2 := by
  intro n18
  induction n18 with
  | zero => intro h x1 x2 x3 r hm; rw [m_L_law_18] at hm; exact noE hm
  | succ n18 ihm =>
    intro h x1 x2 x3 r hm
    rw [m_L_law_18] at hm
    by_cases c1 : ((Int32.ofNat L) - (7 : Int32)) < x3
    · have hm := ifT hm c1
      exact (mo_L_law_1981  h _ hm)
    · have hm := ifF hm c1
      obtain ⟨g2, hm⟩ := gdE hm
      by_cases c3 : ((xs (Int32.toNatClampNeg x3)) &&& (63 : Int32)) = (0 : Int32)
      · have hm := ifT hm c3
        exact (mo_L_law_224 ihm h x1 x2 x3 _ hm)
      · have hm := ifF hm c3
        by_cases c4 : ((xs (Int32.toNatClampNeg x3)) &&& (63 : Int32)) = (1 : Int32)
        · have hm := ifT hm c4
          exact (mo_L_law_287 ihm h x1 x2 x3 _ hm)
        · have hm := ifF hm c4
          by_cases c5 : ((xs (Int32.toNatClampNeg x3)) &&& (63 : Int32)) = (2 : Int32)
          · have hm := ifT hm c5
            exact (mo_L_law_310 ihm h x1 x2 x3 _ hm)
          · have hm := ifF hm c5
            by_cases c6 : ((xs (Int32.toNatClampNeg x3)) &&& (63 : Int32)) = (3 : Int32)
            · have hm := ifT hm c6
              exact (mo_L_law_323 ihm h x1 x2 x3 _ hm)
            · have hm := ifF hm c6
              by_cases c7 : ((xs (Int32.toNatClampNeg x3)) &&& (63 : Int32)) = (4 : Int32)
              · have hm := ifT hm c7
                exact (mo_L_law_346 ihm h x1 x2 x3 _ hm)
              · have hm := ifF hm c7
                by_cases c8 : ((xs (Int32.toNatClampNeg x3)) &&& (63 : Int32)) = (5 : Int32)
                · have hm := ifT hm c8
                  exact (mo_L_law_369 ihm h x1 x2 x3 _ hm)
                · have hm := ifF hm c8
                  by_cases c9 : ((xs (Int32.toNatClampNeg x3)) &&& (63 : Int32)) = (6 : Int32)
                  · have hm := ifT hm c9
                    exact (mo_L_law_412 ihm h x1 x2 x3 _ hm)
                  · have hm := ifF hm c9
                    by_cases c10 : ((xs (Int32.toNatClampNeg x3)) &&& (63 : Int32)) = (7 : Int32)
                    · have hm := ifT hm c10
                      exact (mo_L_law_435 ihm h x1 x2 x3 _ hm)
                    · have hm := ifF hm c10
                      by_cases c11 : ((xs (Int32.toNatClampNeg x3)) &&& (63 : Int32)) = (8 : Int32)
                      · have hm := ifT hm c11
                        exact (mo_L_law_479 ihm h x1 x2 x3 _ hm)
                      · have hm := ifF hm c11
                        by_cases c12 : ((xs (Int32.toNatClampNeg x3)) &&& (63 : Int32)) = (9 : Int32)
                        · have hm := ifT hm c12
                          exact (mo_L_law_502 ihm h x1 x2 x3 _ hm)
                        · have hm := ifF hm c12
                          by_cases c13 : ((xs (Int32.toNatClampNeg x3)) &&& (63 : Int32)) = (10 : Int32)
                          · have hm := ifT hm c13
                            exact (mo_L_law_545 ihm h x1 x2 x3 _ hm)
                          · have hm := ifF hm c13
                            by_cases c14 : ((xs (Int32.toNatClampNeg x3)) &&& (63 : Int32)) = (11 : Int32)
                            · have hm := ifT hm c14
                              exact (mo_L_law_579 ihm h x1 x2 x3 _ hm)
                            · have hm := ifF hm c14
                              by_cases c15 : ((xs (Int32.toNatClampNeg x3)) &&& (63 : Int32)) = (12 : Int32)
                              · have hm := ifT hm c15
                                exact (mo_L_law_613 ihm h x1 x2 x3 _ hm)
                              · have hm := ifF hm c15
                                by_cases c16 : ((xs (Int32.toNatClampNeg x3)) &&& (63 : Int32)) = (13 : Int32)
                                · have hm := ifT hm c16
                                  exact (mo_L_law_676 ihm h x1 x2 x3 _ hm)
                                · have hm := ifF hm c16
                                  by_cases c17 : ((xs (Int32.toNatClampNeg x3)) &&& (63 : Int32)) = (14 : Int32)
                                  · have hm := ifT hm c17
                                    exact (mo_L_law_709 ihm h x1 x2 x3 _ hm)
                                  · have hm := ifF hm c17
                                    by_cases c18 : ((xs (Int32.toNatClampNeg x3)) &&& (63 : Int32)) = (15 : Int32)
                                    · have hm := ifT hm c18
                                      exact (mo_L_law_742 ihm h x1 x2 x3 _ hm)
                                    · have hm := ifF hm c18
                                      by_cases c19 : ((xs (Int32.toNatClampNeg x3)) &&& (63 : Int32)) = (16 : Int32)
                                      · have hm := ifT hm c19
                                        exact (mo_L_law_796 ihm h x1 x2 x3 _ hm)
                                      · have hm := ifF hm c19
                                        by_cases c20 : ((xs (Int32.toNatClampNeg x3)) &&& (63 : Int32)) = (17 : Int32)
                                        · have hm := ifT hm c20
                                          exact (mo_L_law_829 ihm h x1 x2 x3 _ hm)
                                        · have hm := ifF hm c20
                                          by_cases c21 : ((xs (Int32.toNatClampNeg x3)) &&& (63 : Int32)) = (18 : Int32)
                                          · have hm := ifT hm c21
                                            exact (mo_L_law_883 ihm h x1 x2 x3 _ hm)
                                          · have hm := ifF hm c21
                                            by_cases c22 : ((xs (Int32.toNatClampNeg x3)) &&& (63 : Int32)) = (19 : Int32)
                                            · have hm := ifT hm c22
                                              exact (mo_L_law_917 ihm h x1 x2 x3 _ hm)
                                            · have hm := ifF hm c22
                                              by_cases c23 : ((xs (Int32.toNatClampNeg x3)) &&& (63 : Int32)) = (20 : Int32)
                                              · have hm := ifT hm c23
                                                exact (mo_L_law_961 ihm h x1 x2 x3 _ hm)
                                              · have hm := ifF hm c23
                                                by_cases c24 : ((xs (Int32.toNatClampNeg x3)) &&& (63 : Int32)) = (21 : Int32)
                                                · have hm := ifT hm c24
                                                  exact (mo_L_law_1036 ihm h x1 x2 x3 _ hm)
                                                · have hm := ifF hm c24
                                                  by_cases c25 : ((xs (Int32.toNatClampNeg x3)) &&& (63 : Int32)) = (22 : Int32)
                                                  · have hm := ifT hm c25
                                                    exact (mo_L_law_1111 ihm h x1 x2 x3 _ hm)
                                                  · have hm := ifF hm c25
                                                    by_cases c26 : ((xs (Int32.toNatClampNeg x3)) &&& (63 : Int32)) = (23 : Int32)
                                                    · have hm := ifT hm c26
                                                      exact (mo_L_law_1154 ihm h x1 x2 x3 _ hm)
                                                    · have hm := ifF hm c26
                                                      by_cases c27 : ((xs (Int32.toNatClampNeg x3)) &&& (63 : Int32)) = (24 : Int32)
                                                      · have hm := ifT hm c27
                                                        exact (mo_L_law_1177 ihm h x1 x2 x3 _ hm)
                                                      · have hm := ifF hm c27
                                                        by_cases c28 : ((xs (Int32.toNatClampNeg x3)) &&& (63 : Int32)) = (25 : Int32)
                                                        · have hm := ifT hm c28
                                                          exact (mo_L_law_1221 ihm h x1 x2 x3 _ hm)
                                                        · have hm := ifF hm c28
                                                          by_cases c29 : ((xs (Int32.toNatClampNeg x3)) &&& (63 : Int32)) = (26 : Int32)
                                                          · have hm := ifT hm c29
                                                            exact (mo_L_law_1244 ihm h x1 x2 x3 _ hm)
                                                          · have hm := ifF hm c29
                                                            by_cases c30 : ((xs (Int32.toNatClampNeg x3)) &&& (63 : Int32)) = (27 : Int32)
                                                            · have hm := ifT hm c30
                                                              exact (mo_L_law_1288 ihm h x1 x2 x3 _ hm)
                                                            · have hm := ifF hm c30
                                                              by_cases c31 : ((xs (Int32.toNatClampNeg x3)) &&& (63 : Int32)) = (28 : Int32)
                                                              · have hm := ifT hm c31
                                                                exact (mo_L_law_1352 ihm h x1 x2 x3 _ hm)
                                                              · have hm := ifF hm c31
                                                                by_cases c32 : ((xs (Int32.toNatClampNeg x3)) &&& (63 : Int32)) = (29 : Int32)
                                                                · have hm := ifT hm c32
                                                                  exact (mo_L_law_1416 ihm h x1 x2 x3 _ hm)
                                                                · have hm := ifF hm c32
                                                                  by_cases c33 : ((xs (Int32.toNatClampNeg x3)) &&& (63 : Int32)) = (30 : Int32)
                                                                  · have hm := ifT hm c33
                                                                    exact (mo_L_law_1480 ihm h x1 x2 x3 _ hm)
                                                                  · have hm := ifF hm c33
                                                                    by_cases c34 : ((xs (Int32.toNatClampNeg x3)) &&& (63 : Int32)) = (31 : Int32)
                                                                    · have hm := ifT hm c34
                                                                      exact (mo_L_law_1513 ihm h x1 x2 x3 _ hm)
                                                                    · have hm := ifF hm c34
                                                                      by_cases c35 : ((xs (Int32.toNatClampNeg x3)) &&& (63 : Int32)) = (32 : Int32)
                                                                      · have hm := ifT hm c35
                                                                        exact (mo_L_law_1546 ihm h x1 x2 x3 _ hm)
                                                                      · have hm := ifF hm c35
                                                                        by_cases c36 : ((xs (Int32.toNatClampNeg x3)) &&& (63 : Int32)) = (33 : Int32)
                                                                        · have hm := ifT hm c36
                                                                          exact (mo_L_law_1622 ihm h x1 x2 x3 _ hm)
                                                                        · have hm := ifF hm c36
                                                                          by_cases c37 : ((xs (Int32.toNatClampNeg x3)) &&& (63 : Int32)) = (34 : Int32)
                                                                          · have hm := ifT hm c37
                                                                            exact (mo_L_law_1655 ihm h x1 x2 x3 _ hm)
                                                                          · have hm := ifF hm c37
                                                                            by_cases c38 : ((xs (Int32.toNatClampNeg x3)) &&& (63 : Int32)) = (35 : Int32)
                                                                            · have hm := ifT hm c38
                                                                              exact (mo_L_law_1688 ihm h x1 x2 x3 _ hm)
                                                                            · have hm := ifF hm c38
                                                                              by_cases c39 : ((xs (Int32.toNatClampNeg x3)) &&& (63 : Int32)) = (36 : Int32)
                                                                              · have hm := ifT hm c39
                                                                                exact (mo_L_law_1711 ihm h x1 x2 x3 _ hm)
                                                                              · have hm := ifF hm c39
                                                                                by_cases c40 : ((xs (Int32.toNatClampNeg x3)) &&& (63 : Int32)) = (37 : Int32)
                                                                                · have hm := ifT hm c40
                                                                                  exact (mo_L_law_1744 ihm h x1 x2 x3 _ hm)
                                                                                · have hm := ifF hm c40
                                                                                  by_cases c41 : ((xs (Int32.toNatClampNeg x3)) &&& (63 : Int32)) = (38 : Int32)
                                                                                  · have hm := ifT hm c41
                                                                                    exact (mo_L_law_1797 ihm h x1 x2 x3 _ hm)
                                                                                  · have hm := ifF hm c41
                                                                                    by_cases c42 : ((xs (Int32.toNatClampNeg x3)) &&& (63 : Int32)) = (39 : Int32)
                                                                                    · have hm := ifT hm c42
                                                                                      exact (mo_L_law_1840 ihm h x1 x2 x3 _ hm)
                                                                                    · have hm := ifF hm c42
                                                                                      by_cases c43 : ((xs (Int32.toNatClampNeg x3)) &&& (63 : Int32)) = (40 : Int32)
                                                                                      · have hm := ifT hm c43
                                                                                        exact (mo_L_law_1873 ihm h x1 x2 x3 _ hm)
                                                                                      · have hm := ifF hm c43
                                                                                        by_cases c44 : ((xs (Int32.toNatClampNeg x3)) &&& (63 : Int32)) = (41 : Int32)
                                                                                        · have hm := ifT hm c44
                                                                                          exact (mo_L_law_1926 ihm h x1 x2 x3 _ hm)
                                                                                        · have hm := ifF hm c44
                                                                                          by_cases c45 : ((xs (Int32.toNatClampNeg x3)) &&& (63 : Int32)) = (42 : Int32)
                                                                                          · have hm := ifT hm c45
                                                                                            exact (mo_L_law_1949 ihm h x1 x2 x3 _ hm)
                                                                                          · have hm := ifF hm c45
                                                                                            by_cases c46 : ((xs (Int32.toNatClampNeg x3)) &&& (63 : Int32)) = (43 : Int32)
                                                                                            · have hm := ifT hm c46
                                                                                              exact (mo_L_law_1962 ihm h x1 x2 x3 _ hm)
                                                                                            · have hm := ifF hm c46
                                                                                              exact (mo_L_law_1975 ihm h x1 x2 x3 _ hm)
def m_L_law_15 (f : Nat) (xs : Nat → Int32) (L : Nat) (h : CH) (x1 : Nat) (y0 : Nat) : Option (Int32 × CH) := m_L_law_18 f xs L f h x1 y0 (0 : Int32)
theorem mo_L_law_15 {f : Nat} {xs : Nat → Int32} {L : Nat} : ∀ (h : CH) (x1 : Nat) (y0 : Nat) (r : (Int32 × CH)), m_L_law_15 f xs L h x1 y0 = some r → le2 h r.2 := by
  intro h x1 y0 r hm
  rw [m_L_law_15] at hm
  exact (mo_L_law_18  f h x1 y0 (0 : Int32) _ hm)
def m_L_law_11 (f : Nat) (xs : Nat → Int32) (L : Nat) (h : CH) (x1 : Nat) (y0 : Nat) : Option (Int32 × CH) := bd (m_X3_init f h y0) fun h1 =>
    m_L_law_15 f xs L h1 x1 y0
theorem mo_L_law_11 {f : Nat} {xs : Nat → Int32} {L : Nat} : ∀ (h : CH) (x1 : Nat) (y0 : Nat) (r : (Int32 × CH)), m_L_law_11 f xs L h x1 y0 = some r → le2 h r.2 := by
  intro h x1 y0 r hm
  rw [m_L_law_11] at hm
  obtain ⟨h1, eh1, hm⟩ := bdE hm
  have lh1 := mo_X3_init eh1
  exact (lh1.tr (mo_L_law_15  h1 x1 y0 _ hm))
def m_L_law_7 (f : Nat) (xs : Nat → Int32) (L : Nat) (h : CH) (y0 : Nat) : Option (Int32 × CH) := nmv (cn h 40 (.inl (0, [.null, .null, .null, .null, .int 0, .int 0, .int 0, .int 0, .int 0, .int 0, .int 0, .int 0, .int 0, .int 0, .int 0, .int 0, .null, .null, .null, .long 0, .null, .null, .null, .null, .null, .int 0, .null, .null, .long 0, .null, .long 0, .long 0, .null, .null, .null, .int 0, .null, .null, .null, .null]))) fun h1 =>
    nmv (h.1 : Nat) fun a2 =>
    m_L_law_11 f xs L h1 y0 a2
theorem mo_L_law_7 {f : Nat} {xs : Nat → Int32} {L : Nat} : ∀ (h : CH) (y0 : Nat) (r : (Int32 × CH)), m_L_law_7 f xs L h y0 = some r → le2 h r.2 := by
  intro h y0 r hm
  rw [m_L_law_7] at hm
  obtain ⟨h1, eh1, hm⟩ := nmE hm
  have lh1 := cn_le eh1
  obtain ⟨a2, ea2, hm⟩ := nmE hm
  exact (lh1.tr (mo_L_law_11  h1 y0 a2 _ hm))
def m_L_law_3 (f : Nat) (xs : Nat → Int32) (L : Nat) (h : CH) (y0 : Nat) : Option (Int32 × CH) := bd (m_X0_init f h y0) fun h1 =>
    m_L_law_7 f xs L h1 y0
theorem mo_L_law_3 {f : Nat} {xs : Nat → Int32} {L : Nat} : ∀ (h : CH) (y0 : Nat) (r : (Int32 × CH)), m_L_law_3 f xs L h y0 = some r → le2 h r.2 := by
  intro h y0 r hm
  rw [m_L_law_3] at hm
  obtain ⟨h1, eh1, hm⟩ := bdE hm
  have lh1 := mo_X0_init eh1
  exact (lh1.tr (mo_L_law_7  h1 y0 _ hm))
def m_L_law (f : Nat) (xs : Nat → Int32) (L : Nat) (u : CH) (x0 : Nat) : Option (Int32 × CH) := nmv (cn u 15 (.inl (1, [.null, .int 0, .null, .int 0, .int 0, .int 0, .null, .null, .null, .null, .int 0, .int 0, .null, .null, .null]))) fun h1 =>
    nmv (u.1 : Nat) fun a2 =>
    m_L_law_3 f xs L h1 a2
theorem mo_L_law {f : Nat} {xs : Nat → Int32} {L : Nat} {u : CH} {x0 : Nat} {r0 : Int32} {u9 : CH} (hm : m_L_law f xs L u x0 = some (r0, u9)) : le2 u u9 := by
  rw [m_L_law] at hm
  obtain ⟨h1, eh1, hm⟩ := nmE hm
  have lh1 := cn_le eh1
  obtain ⟨a2, ea2, hm⟩ := nmE hm
  exact (lh1.tr (mo_L_law_3  h1 a2 _ hm))
set_option maxHeartbeats 8000000 in
set_option maxRecDepth 100000 in
theorem w_law {p : Program} {e : Env} {s : State} {m : MethodId} {below : List Frame} {meth : Method} {c : Code} (l : Launch) (htl : l.stackTraces = false) {b : Nat} {D : va_G} {dA : Nat → ClassId} {A : Nat → Prop} {f : Nat} {xs : Nat → Int32} {L : Nat} {u u9 : CH} (hm : m_L_law f xs L u b = some (1, u9)) (hbc : u9.1 - u.1 ≤ 601024) (hbs : u9.2.1 - u.2.1 ≤ 7293034) (hx : p.tables.exec = Jvm.exec) (hb : c.code = cL_law) (hr : meth.sig.returnType = ret) (hml : c.maxLocals = 4) (hown : s.vm.findClass "CoincideBenchLaw" = some m.cls) (hts : ∀ w ∈ lw_all, w.before #[Value.ref b] s = true) (hX : va_X b L xs s s.heap) (hbl : b < s.heap.size) (hlocks : meth.locks = false) (hAe : ∀ q, A q ↔ s.heap.size ≤ q) (hv : CPre D dA A u s) : W p l e room_1 s m #[Value.ref b] below meth c s.heap [] 0 0 (lw_Z below #[Value.ref b] s) (entryFrame m ([Value.ref b] : List Value).toArray 4) := by
  have hbA : ¬ A b := fun q => Nat.not_le.mpr hbl ((hAe b).mp q)
  have C : CX p s m #[Value.ref b] c cL_law "CoincideBenchLaw" D dA := ⟨hx, hb, hown, hts, hv.2⟩
  have hw : CW D dA A s u s.heap [] := hv.1
  have hs0 : s.heap.size = u.1 := hv.1.1
  generalize hQ : lw_Z below #[Value.ref b] s = QQ
  have hent := lg_entry_eq m [Value.ref b] 4
  rw [hent]
  have hl := lv_entry ([Value.ref b]) (n := 4) (Nat.le_of_ble_eq_true rfl)
  generalize (lg_sl ([Value.ref b]) ++ List.replicate (4 - (lg_sl ([Value.ref b])).length) Slot.unset).toArray = ls at hl ⊢
  have hl : lv_has ls 4 [(0, .ref b)] := hl
  obtain ⟨cc, ecc⟩ : ∃ z : Nat, z = 0 := ⟨0, rfl⟩
  obtain ⟨ss, ess⟩ : ∃ z : Nat, z = 0 := ⟨0, rfl⟩
  have hcc : cc + u.1 = u.1 := by omega
  have hss : ss + u.2.1 = u.2.1 := by omega
  suffices hgo : W p l e room_1 s m #[Value.ref b] below meth c s.heap [] cc ss QQ (F0 m 0 ls []) by rw [ecc, ess] at hgo; exact hgo
  have ⟨pu, qu, _, _⟩ := mo_L_law hm
  have hB1981 : ∀ (h : CH) (cc ss : Nat) (H : Heap) (locs : List Loc) (ls : Array Slot), m_L_law_1981 f xs L h = some (1, u9) → CW D dA A s h H locs → cc + u.1 = h.1 → ss + u.2.1 = h.2.1 → lv_has ls 4 [] → W p l e room_1 s m #[Value.ref b] below meth c H locs cc ss QQ (F0 m 1981 ls []) := by
    intro h cc ss H locs ls hm hw hcc hss hl
    have hmo := mo_L_law_1981  h _ hm
    have sb_ : h.1 ≤ u9.1 := hmo.1
    have tb_ : h.2.1 ≤ u9.2.1 := hmo.2.1
    rw [m_L_law_1981] at hm
    refine lv_iconst (v := 1) hx hb dL_law_1981 (by decide) ?_
    have eh := (retE hm).2
    rw [← eh] at hbc hbs
    refine va_forget (fun q hq => (hAe _).mp (hw.2.2.1.2.2 q hq)) ?_
    refine W.widen (k := 601024) (n := 7293034) (by omega) (by omega) ?_
    rw [← hQ]
    exact lw_ret hx hb hr hlocks dL_law_1982
  have hB285 : ∀ (h : CH) (cc ss : Nat) (H : Heap) (locs : List Loc) (ls : Array Slot), m_L_law_285 f xs L h = some (1, u9) → CW D dA A s h H locs → cc + u.1 = h.1 → ss + u.2.1 = h.2.1 → lv_has ls 4 [] → W p l e room_1 s m #[Value.ref b] below meth c H locs cc ss QQ (F0 m 285 ls []) := by
    intro h cc ss H locs ls hm hw hcc hss hl
    have hmo := mo_L_law_285  h _ hm
    have sb_ : h.1 ≤ u9.1 := hmo.1
    have tb_ : h.2.1 ≤ u9.2.1 := hmo.2.1
    rw [m_L_law_285] at hm
    refine lv_iconst (v := 0) hx hb dL_law_285 (by decide) ?_
    exact absurd (retE hm).1 (by decide)
  have hB308 : ∀ (h : CH) (cc ss : Nat) (H : Heap) (locs : List Loc) (ls : Array Slot), m_L_law_308 f xs L h = some (1, u9) → CW D dA A s h H locs → cc + u.1 = h.1 → ss + u.2.1 = h.2.1 → lv_has ls 4 [] → W p l e room_1 s m #[Value.ref b] below meth c H locs cc ss QQ (F0 m 308 ls []) := by
    intro h cc ss H locs ls hm hw hcc hss hl
    have hmo := mo_L_law_308  h _ hm
    have sb_ : h.1 ≤ u9.1 := hmo.1
    have tb_ : h.2.1 ≤ u9.2.1 := hmo.2.1
    rw [m_L_law_308] at hm
    refine lv_iconst (v := 0) hx hb dL_law_308 (by decide) ?_
    exact absurd (retE hm).1 (by decide)
  have hB321 : ∀ (h : CH) (cc ss : Nat) (H : Heap) (locs : List Loc) (ls : Array Slot), m_L_law_321 f xs L h = some (1, u9) → CW D dA A s h H locs → cc + u.1 = h.1 → ss + u.2.1 = h.2.1 → lv_has ls 4 [] → W p l e room_1 s m #[Value.ref b] below meth c H locs cc ss QQ (F0 m 321 ls []) := by
    intro h cc ss H locs ls hm hw hcc hss hl
    have hmo := mo_L_law_321  h _ hm
    have sb_ : h.1 ≤ u9.1 := hmo.1
    have tb_ : h.2.1 ≤ u9.2.1 := hmo.2.1
    rw [m_L_law_321] at hm
    refine lv_iconst (v := 0) hx hb dL_law_321 (by decide) ?_
    exact absurd (retE hm).1 (by decide)
  have hB344 : ∀ (h : CH) (cc ss : Nat) (H : Heap) (locs : List Loc) (ls : Array Slot), m_L_law_344 f xs L h = some (1, u9) → CW D dA A s h H locs → cc + u.1 = h.1 → ss + u.2.1 = h.2.1 → lv_has ls 4 [] → W p l e room_1 s m #[Value.ref b] below meth c H locs cc ss QQ (F0 m 344 ls []) := by
    intro h cc ss H locs ls hm hw hcc hss hl
    have hmo := mo_L_law_344  h _ hm
    have sb_ : h.1 ≤ u9.1 := hmo.1
    have tb_ : h.2.1 ≤ u9.2.1 := hmo.2.1
    rw [m_L_law_344] at hm
    refine lv_iconst (v := 0) hx hb dL_law_344 (by decide) ?_
    exact absurd (retE hm).1 (by decide)
  have hB367 : ∀ (h : CH) (cc ss : Nat) (H : Heap) (locs : List Loc) (ls : Array Slot), m_L_law_367 f xs L h = some (1, u9) → CW D dA A s h H locs → cc + u.1 = h.1 → ss + u.2.1 = h.2.1 → lv_has ls 4 [] → W p l e room_1 s m #[Value.ref b] below meth c H locs cc ss QQ (F0 m 367 ls []) := by
    intro h cc ss H locs ls hm hw hcc hss hl
    have hmo := mo_L_law_367  h _ hm
    have sb_ : h.1 ≤ u9.1 := hmo.1
    have tb_ : h.2.1 ≤ u9.2.1 := hmo.2.1
    rw [m_L_law_367] at hm
    refine lv_iconst (v := 0) hx hb dL_law_367 (by decide) ?_
    exact absurd (retE hm).1 (by decide)
  have hB410 : ∀ (h : CH) (cc ss : Nat) (H : Heap) (locs : List Loc) (ls : Array Slot), m_L_law_410 f xs L h = some (1, u9) → CW D dA A s h H locs → cc + u.1 = h.1 → ss + u.2.1 = h.2.1 → lv_has ls 4 [] → W p l e room_1 s m #[Value.ref b] below meth c H locs cc ss QQ (F0 m 410 ls []) := by
    intro h cc ss H locs ls hm hw hcc hss hl
    have hmo := mo_L_law_410  h _ hm
    have sb_ : h.1 ≤ u9.1 := hmo.1
    have tb_ : h.2.1 ≤ u9.2.1 := hmo.2.1
    rw [m_L_law_410] at hm
    refine lv_iconst (v := 0) hx hb dL_law_410 (by decide) ?_
    exact absurd (retE hm).1 (by decide)
  have hB433 : ∀ (h : CH) (cc ss : Nat) (H : Heap) (locs : List Loc) (ls : Array Slot), m_L_law_433 f xs L h = some (1, u9) → CW D dA A s h H locs → cc + u.1 = h.1 → ss + u.2.1 = h.2.1 → lv_has ls 4 [] → W p l e room_1 s m #[Value.ref b] below meth c H locs cc ss QQ (F0 m 433 ls []) := by
    intro h cc ss H locs ls hm hw hcc hss hl
    have hmo := mo_L_law_433  h _ hm
    have sb_ : h.1 ≤ u9.1 := hmo.1
    have tb_ : h.2.1 ≤ u9.2.1 := hmo.2.1
    rw [m_L_law_433] at hm
    refine lv_iconst (v := 0) hx hb dL_law_433 (by decide) ?_
    exact absurd (retE hm).1 (by decide)
  have hB477 : ∀ (h : CH) (cc ss : Nat) (H : Heap) (locs : List Loc) (ls : Array Slot), m_L_law_477 f xs L h = some (1, u9) → CW D dA A s h H locs → cc + u.1 = h.1 → ss + u.2.1 = h.2.1 → lv_has ls 4 [] → W p l e room_1 s m #[Value.ref b] below meth c H locs cc ss QQ (F0 m 477 ls []) := by
    intro h cc ss H locs ls hm hw hcc hss hl
    have hmo := mo_L_law_477  h _ hm
    have sb_ : h.1 ≤ u9.1 := hmo.1
    have tb_ : h.2.1 ≤ u9.2.1 := hmo.2.1
    rw [m_L_law_477] at hm
    refine lv_iconst (v := 0) hx hb dL_law_477 (by decide) ?_
    exact absurd (retE hm).1 (by decide)
  have hB500 : ∀ (h : CH) (cc ss : Nat) (H : Heap) (locs : List Loc) (ls : Array Slot), m_L_law_500 f xs L h = some (1, u9) → CW D dA A s h H locs → cc + u.1 = h.1 → ss + u.2.1 = h.2.1 → lv_has ls 4 [] → W p l e room_1 s m #[Value.ref b] below meth c H locs cc ss QQ (F0 m 500 ls []) := by
    intro h cc ss H locs ls hm hw hcc hss hl
    have hmo := mo_L_law_500  h _ hm
    have sb_ : h.1 ≤ u9.1 := hmo.1
    have tb_ : h.2.1 ≤ u9.2.1 := hmo.2.1
    rw [m_L_law_500] at hm
    refine lv_iconst (v := 0) hx hb dL_law_500 (by decide) ?_
    exact absurd (retE hm).1 (by decide)
  have hB543 : ∀ (h : CH) (cc ss : Nat) (H : Heap) (locs : List Loc) (ls : Array Slot), m_L_law_543 f xs L h = some (1, u9) → CW D dA A s h H locs → cc + u.1 = h.1 → ss + u.2.1 = h.2.1 → lv_has ls 4 [] → W p l e room_1 s m #[Value.ref b] below meth c H locs cc ss QQ (F0 m 543 ls []) := by
    intro h cc ss H locs ls hm hw hcc hss hl
    have hmo := mo_L_law_543  h _ hm
    have sb_ : h.1 ≤ u9.1 := hmo.1
    have tb_ : h.2.1 ≤ u9.2.1 := hmo.2.1
    rw [m_L_law_543] at hm
    refine lv_iconst (v := 0) hx hb dL_law_543 (by decide) ?_
    exact absurd (retE hm).1 (by decide)
  have hB577 : ∀ (h : CH) (cc ss : Nat) (H : Heap) (locs : List Loc) (ls : Array Slot), m_L_law_577 f xs L h = some (1, u9) → CW D dA A s h H locs → cc + u.1 = h.1 → ss + u.2.1 = h.2.1 → lv_has ls 4 [] → W p l e room_1 s m #[Value.ref b] below meth c H locs cc ss QQ (F0 m 577 ls []) := by
    intro h cc ss H locs ls hm hw hcc hss hl
    have hmo := mo_L_law_577  h _ hm
    have sb_ : h.1 ≤ u9.1 := hmo.1
    have tb_ : h.2.1 ≤ u9.2.1 := hmo.2.1
    rw [m_L_law_577] at hm
    refine lv_iconst (v := 0) hx hb dL_law_577 (by decide) ?_
    exact absurd (retE hm).1 (by decide)
  have hB611 : ∀ (h : CH) (cc ss : Nat) (H : Heap) (locs : List Loc) (ls : Array Slot), m_L_law_611 f xs L h = some (1, u9) → CW D dA A s h H locs → cc + u.1 = h.1 → ss + u.2.1 = h.2.1 → lv_has ls 4 [] → W p l e room_1 s m #[Value.ref b] below meth c H locs cc ss QQ (F0 m 611 ls []) := by
    intro h cc ss H locs ls hm hw hcc hss hl
    have hmo := mo_L_law_611  h _ hm
    have sb_ : h.1 ≤ u9.1 := hmo.1
    have tb_ : h.2.1 ≤ u9.2.1 := hmo.2.1
    rw [m_L_law_611] at hm
    refine lv_iconst (v := 0) hx hb dL_law_611 (by decide) ?_
    exact absurd (retE hm).1 (by decide)
  have hB674 : ∀ (h : CH) (cc ss : Nat) (H : Heap) (locs : List Loc) (ls : Array Slot), m_L_law_674 f xs L h = some (1, u9) → CW D dA A s h H locs → cc + u.1 = h.1 → ss + u.2.1 = h.2.1 → lv_has ls 4 [] → W p l e room_1 s m #[Value.ref b] below meth c H locs cc ss QQ (F0 m 674 ls []) := by
    intro h cc ss H locs ls hm hw hcc hss hl
    have hmo := mo_L_law_674  h _ hm
    have sb_ : h.1 ≤ u9.1 := hmo.1
    have tb_ : h.2.1 ≤ u9.2.1 := hmo.2.1
    rw [m_L_law_674] at hm
    refine lv_iconst (v := 0) hx hb dL_law_674 (by decide) ?_
    exact absurd (retE hm).1 (by decide)
  have hB707 : ∀ (h : CH) (cc ss : Nat) (H : Heap) (locs : List Loc) (ls : Array Slot), m_L_law_707 f xs L h = some (1, u9) → CW D dA A s h H locs → cc + u.1 = h.1 → ss + u.2.1 = h.2.1 → lv_has ls 4 [] → W p l e room_1 s m #[Value.ref b] below meth c H locs cc ss QQ (F0 m 707 ls []) := by
    intro h cc ss H locs ls hm hw hcc hss hl
    have hmo := mo_L_law_707  h _ hm
    have sb_ : h.1 ≤ u9.1 := hmo.1
    have tb_ : h.2.1 ≤ u9.2.1 := hmo.2.1
    rw [m_L_law_707] at hm
    refine lv_iconst (v := 0) hx hb dL_law_707 (by decide) ?_
    exact absurd (retE hm).1 (by decide)
  have hB740 : ∀ (h : CH) (cc ss : Nat) (H : Heap) (locs : List Loc) (ls : Array Slot), m_L_law_740 f xs L h = some (1, u9) → CW D dA A s h H locs → cc + u.1 = h.1 → ss + u.2.1 = h.2.1 → lv_has ls 4 [] → W p l e room_1 s m #[Value.ref b] below meth c H locs cc ss QQ (F0 m 740 ls []) := by
    intro h cc ss H locs ls hm hw hcc hss hl
    have hmo := mo_L_law_740  h _ hm
    have sb_ : h.1 ≤ u9.1 := hmo.1
    have tb_ : h.2.1 ≤ u9.2.1 := hmo.2.1
    rw [m_L_law_740] at hm
    refine lv_iconst (v := 0) hx hb dL_law_740 (by decide) ?_
    exact absurd (retE hm).1 (by decide)
  have hB794 : ∀ (h : CH) (cc ss : Nat) (H : Heap) (locs : List Loc) (ls : Array Slot), m_L_law_794 f xs L h = some (1, u9) → CW D dA A s h H locs → cc + u.1 = h.1 → ss + u.2.1 = h.2.1 → lv_has ls 4 [] → W p l e room_1 s m #[Value.ref b] below meth c H locs cc ss QQ (F0 m 794 ls []) := by
    intro h cc ss H locs ls hm hw hcc hss hl
    have hmo := mo_L_law_794  h _ hm
    have sb_ : h.1 ≤ u9.1 := hmo.1
    have tb_ : h.2.1 ≤ u9.2.1 := hmo.2.1
    rw [m_L_law_794] at hm
    refine lv_iconst (v := 0) hx hb dL_law_794 (by decide) ?_
    exact absurd (retE hm).1 (by decide)
  have hB827 : ∀ (h : CH) (cc ss : Nat) (H : Heap) (locs : List Loc) (ls : Array Slot), m_L_law_827 f xs L h = some (1, u9) → CW D dA A s h H locs → cc + u.1 = h.1 → ss + u.2.1 = h.2.1 → lv_has ls 4 [] → W p l e room_1 s m #[Value.ref b] below meth c H locs cc ss QQ (F0 m 827 ls []) := by
    intro h cc ss H locs ls hm hw hcc hss hl
    have hmo := mo_L_law_827  h _ hm
    have sb_ : h.1 ≤ u9.1 := hmo.1
    have tb_ : h.2.1 ≤ u9.2.1 := hmo.2.1
    rw [m_L_law_827] at hm
    refine lv_iconst (v := 0) hx hb dL_law_827 (by decide) ?_
    exact absurd (retE hm).1 (by decide)
  have hB881 : ∀ (h : CH) (cc ss : Nat) (H : Heap) (locs : List Loc) (ls : Array Slot), m_L_law_881 f xs L h = some (1, u9) → CW D dA A s h H locs → cc + u.1 = h.1 → ss + u.2.1 = h.2.1 → lv_has ls 4 [] → W p l e room_1 s m #[Value.ref b] below meth c H locs cc ss QQ (F0 m 881 ls []) := by
    intro h cc ss H locs ls hm hw hcc hss hl
    have hmo := mo_L_law_881  h _ hm
    have sb_ : h.1 ≤ u9.1 := hmo.1
    have tb_ : h.2.1 ≤ u9.2.1 := hmo.2.1
    rw [m_L_law_881] at hm
    refine lv_iconst (v := 0) hx hb dL_law_881 (by decide) ?_
    exact absurd (retE hm).1 (by decide)
  have hB915 : ∀ (h : CH) (cc ss : Nat) (H : Heap) (locs : List Loc) (ls : Array Slot), m_L_law_915 f xs L h = some (1, u9) → CW D dA A s h H locs → cc + u.1 = h.1 → ss + u.2.1 = h.2.1 → lv_has ls 4 [] → W p l e room_1 s m #[Value.ref b] below meth c H locs cc ss QQ (F0 m 915 ls []) := by
    intro h cc ss H locs ls hm hw hcc hss hl
    have hmo := mo_L_law_915  h _ hm
    have sb_ : h.1 ≤ u9.1 := hmo.1
    have tb_ : h.2.1 ≤ u9.2.1 := hmo.2.1
    rw [m_L_law_915] at hm
    refine lv_iconst (v := 0) hx hb dL_law_915 (by decide) ?_
    exact absurd (retE hm).1 (by decide)
  have hB959 : ∀ (h : CH) (cc ss : Nat) (H : Heap) (locs : List Loc) (ls : Array Slot), m_L_law_959 f xs L h = some (1, u9) → CW D dA A s h H locs → cc + u.1 = h.1 → ss + u.2.1 = h.2.1 → lv_has ls 4 [] → W p l e room_1 s m #[Value.ref b] below meth c H locs cc ss QQ (F0 m 959 ls []) := by
    intro h cc ss H locs ls hm hw hcc hss hl
    have hmo := mo_L_law_959  h _ hm
    have sb_ : h.1 ≤ u9.1 := hmo.1
    have tb_ : h.2.1 ≤ u9.2.1 := hmo.2.1
    rw [m_L_law_959] at hm
    refine lv_iconst (v := 0) hx hb dL_law_959 (by decide) ?_
    exact absurd (retE hm).1 (by decide)
  have hB1034 : ∀ (h : CH) (cc ss : Nat) (H : Heap) (locs : List Loc) (ls : Array Slot), m_L_law_1034 f xs L h = some (1, u9) → CW D dA A s h H locs → cc + u.1 = h.1 → ss + u.2.1 = h.2.1 → lv_has ls 4 [] → W p l e room_1 s m #[Value.ref b] below meth c H locs cc ss QQ (F0 m 1034 ls []) := by
    intro h cc ss H locs ls hm hw hcc hss hl
    have hmo := mo_L_law_1034  h _ hm
    have sb_ : h.1 ≤ u9.1 := hmo.1
    have tb_ : h.2.1 ≤ u9.2.1 := hmo.2.1
    rw [m_L_law_1034] at hm
    refine lv_iconst (v := 0) hx hb dL_law_1034 (by decide) ?_
    exact absurd (retE hm).1 (by decide)
  have hB1109 : ∀ (h : CH) (cc ss : Nat) (H : Heap) (locs : List Loc) (ls : Array Slot), m_L_law_1109 f xs L h = some (1, u9) → CW D dA A s h H locs → cc + u.1 = h.1 → ss + u.2.1 = h.2.1 → lv_has ls 4 [] → W p l e room_1 s m #[Value.ref b] below meth c H locs cc ss QQ (F0 m 1109 ls []) := by
    intro h cc ss H locs ls hm hw hcc hss hl
    have hmo := mo_L_law_1109  h _ hm
    have sb_ : h.1 ≤ u9.1 := hmo.1
    have tb_ : h.2.1 ≤ u9.2.1 := hmo.2.1
    rw [m_L_law_1109] at hm
    refine lv_iconst (v := 0) hx hb dL_law_1109 (by decide) ?_
    exact absurd (retE hm).1 (by decide)
  have hB1152 : ∀ (h : CH) (cc ss : Nat) (H : Heap) (locs : List Loc) (ls : Array Slot), m_L_law_1152 f xs L h = some (1, u9) → CW D dA A s h H locs → cc + u.1 = h.1 → ss + u.2.1 = h.2.1 → lv_has ls 4 [] → W p l e room_1 s m #[Value.ref b] below meth c H locs cc ss QQ (F0 m 1152 ls []) := by
    intro h cc ss H locs ls hm hw hcc hss hl
    have hmo := mo_L_law_1152  h _ hm
    have sb_ : h.1 ≤ u9.1 := hmo.1
    have tb_ : h.2.1 ≤ u9.2.1 := hmo.2.1
    rw [m_L_law_1152] at hm
    refine lv_iconst (v := 0) hx hb dL_law_1152 (by decide) ?_
    exact absurd (retE hm).1 (by decide)
  have hB1175 : ∀ (h : CH) (cc ss : Nat) (H : Heap) (locs : List Loc) (ls : Array Slot), m_L_law_1175 f xs L h = some (1, u9) → CW D dA A s h H locs → cc + u.1 = h.1 → ss + u.2.1 = h.2.1 → lv_has ls 4 [] → W p l e room_1 s m #[Value.ref b] below meth c H locs cc ss QQ (F0 m 1175 ls []) := by
    intro h cc ss H locs ls hm hw hcc hss hl
    have hmo := mo_L_law_1175  h _ hm
    have sb_ : h.1 ≤ u9.1 := hmo.1
    have tb_ : h.2.1 ≤ u9.2.1 := hmo.2.1
    rw [m_L_law_1175] at hm
    refine lv_iconst (v := 0) hx hb dL_law_1175 (by decide) ?_
    exact absurd (retE hm).1 (by decide)
  have hB1219 : ∀ (h : CH) (cc ss : Nat) (H : Heap) (locs : List Loc) (ls : Array Slot), m_L_law_1219 f xs L h = some (1, u9) → CW D dA A s h H locs → cc + u.1 = h.1 → ss + u.2.1 = h.2.1 → lv_has ls 4 [] → W p l e room_1 s m #[Value.ref b] below meth c H locs cc ss QQ (F0 m 1219 ls []) := by
    intro h cc ss H locs ls hm hw hcc hss hl
    have hmo := mo_L_law_1219  h _ hm
    have sb_ : h.1 ≤ u9.1 := hmo.1
    have tb_ : h.2.1 ≤ u9.2.1 := hmo.2.1
    rw [m_L_law_1219] at hm
    refine lv_iconst (v := 0) hx hb dL_law_1219 (by decide) ?_
    exact absurd (retE hm).1 (by decide)
  have hB1242 : ∀ (h : CH) (cc ss : Nat) (H : Heap) (locs : List Loc) (ls : Array Slot), m_L_law_1242 f xs L h = some (1, u9) → CW D dA A s h H locs → cc + u.1 = h.1 → ss + u.2.1 = h.2.1 → lv_has ls 4 [] → W p l e room_1 s m #[Value.ref b] below meth c H locs cc ss QQ (F0 m 1242 ls []) := by
    intro h cc ss H locs ls hm hw hcc hss hl
    have hmo := mo_L_law_1242  h _ hm
    have sb_ : h.1 ≤ u9.1 := hmo.1
    have tb_ : h.2.1 ≤ u9.2.1 := hmo.2.1
    rw [m_L_law_1242] at hm
    refine lv_iconst (v := 0) hx hb dL_law_1242 (by decide) ?_
    exact absurd (retE hm).1 (by decide)
  have hB1286 : ∀ (h : CH) (cc ss : Nat) (H : Heap) (locs : List Loc) (ls : Array Slot), m_L_law_1286 f xs L h = some (1, u9) → CW D dA A s h H locs → cc + u.1 = h.1 → ss + u.2.1 = h.2.1 → lv_has ls 4 [] → W p l e room_1 s m #[Value.ref b] below meth c H locs cc ss QQ (F0 m 1286 ls []) := by
    intro h cc ss H locs ls hm hw hcc hss hl
    have hmo := mo_L_law_1286  h _ hm
    have sb_ : h.1 ≤ u9.1 := hmo.1
    have tb_ : h.2.1 ≤ u9.2.1 := hmo.2.1
    rw [m_L_law_1286] at hm
    refine lv_iconst (v := 0) hx hb dL_law_1286 (by decide) ?_
    exact absurd (retE hm).1 (by decide)
  have hB1350 : ∀ (h : CH) (cc ss : Nat) (H : Heap) (locs : List Loc) (ls : Array Slot), m_L_law_1350 f xs L h = some (1, u9) → CW D dA A s h H locs → cc + u.1 = h.1 → ss + u.2.1 = h.2.1 → lv_has ls 4 [] → W p l e room_1 s m #[Value.ref b] below meth c H locs cc ss QQ (F0 m 1350 ls []) := by
    intro h cc ss H locs ls hm hw hcc hss hl
    have hmo := mo_L_law_1350  h _ hm
    have sb_ : h.1 ≤ u9.1 := hmo.1
    have tb_ : h.2.1 ≤ u9.2.1 := hmo.2.1
    rw [m_L_law_1350] at hm
    refine lv_iconst (v := 0) hx hb dL_law_1350 (by decide) ?_
    exact absurd (retE hm).1 (by decide)
  have hB1414 : ∀ (h : CH) (cc ss : Nat) (H : Heap) (locs : List Loc) (ls : Array Slot), m_L_law_1414 f xs L h = some (1, u9) → CW D dA A s h H locs → cc + u.1 = h.1 → ss + u.2.1 = h.2.1 → lv_has ls 4 [] → W p l e room_1 s m #[Value.ref b] below meth c H locs cc ss QQ (F0 m 1414 ls []) := by
    intro h cc ss H locs ls hm hw hcc hss hl
    have hmo := mo_L_law_1414  h _ hm
    have sb_ : h.1 ≤ u9.1 := hmo.1
    have tb_ : h.2.1 ≤ u9.2.1 := hmo.2.1
    rw [m_L_law_1414] at hm
    refine lv_iconst (v := 0) hx hb dL_law_1414 (by decide) ?_
    exact absurd (retE hm).1 (by decide)
  have hB1478 : ∀ (h : CH) (cc ss : Nat) (H : Heap) (locs : List Loc) (ls : Array Slot), m_L_law_1478 f xs L h = some (1, u9) → CW D dA A s h H locs → cc + u.1 = h.1 → ss + u.2.1 = h.2.1 → lv_has ls 4 [] → W p l e room_1 s m #[Value.ref b] below meth c H locs cc ss QQ (F0 m 1478 ls []) := by
    intro h cc ss H locs ls hm hw hcc hss hl
    have hmo := mo_L_law_1478  h _ hm
    have sb_ : h.1 ≤ u9.1 := hmo.1
    have tb_ : h.2.1 ≤ u9.2.1 := hmo.2.1
    rw [m_L_law_1478] at hm
    refine lv_iconst (v := 0) hx hb dL_law_1478 (by decide) ?_
    exact absurd (retE hm).1 (by decide)
  have hB1511 : ∀ (h : CH) (cc ss : Nat) (H : Heap) (locs : List Loc) (ls : Array Slot), m_L_law_1511 f xs L h = some (1, u9) → CW D dA A s h H locs → cc + u.1 = h.1 → ss + u.2.1 = h.2.1 → lv_has ls 4 [] → W p l e room_1 s m #[Value.ref b] below meth c H locs cc ss QQ (F0 m 1511 ls []) := by
    intro h cc ss H locs ls hm hw hcc hss hl
    have hmo := mo_L_law_1511  h _ hm
    have sb_ : h.1 ≤ u9.1 := hmo.1
    have tb_ : h.2.1 ≤ u9.2.1 := hmo.2.1
    rw [m_L_law_1511] at hm
    refine lv_iconst (v := 0) hx hb dL_law_1511 (by decide) ?_
    exact absurd (retE hm).1 (by decide)
  have hB1544 : ∀ (h : CH) (cc ss : Nat) (H : Heap) (locs : List Loc) (ls : Array Slot), m_L_law_1544 f xs L h = some (1, u9) → CW D dA A s h H locs → cc + u.1 = h.1 → ss + u.2.1 = h.2.1 → lv_has ls 4 [] → W p l e room_1 s m #[Value.ref b] below meth c H locs cc ss QQ (F0 m 1544 ls []) := by
    intro h cc ss H locs ls hm hw hcc hss hl
    have hmo := mo_L_law_1544  h _ hm
    have sb_ : h.1 ≤ u9.1 := hmo.1
    have tb_ : h.2.1 ≤ u9.2.1 := hmo.2.1
    rw [m_L_law_1544] at hm
    refine lv_iconst (v := 0) hx hb dL_law_1544 (by decide) ?_
    exact absurd (retE hm).1 (by decide)
  have hB1620 : ∀ (h : CH) (cc ss : Nat) (H : Heap) (locs : List Loc) (ls : Array Slot), m_L_law_1620 f xs L h = some (1, u9) → CW D dA A s h H locs → cc + u.1 = h.1 → ss + u.2.1 = h.2.1 → lv_has ls 4 [] → W p l e room_1 s m #[Value.ref b] below meth c H locs cc ss QQ (F0 m 1620 ls []) := by
    intro h cc ss H locs ls hm hw hcc hss hl
    have hmo := mo_L_law_1620  h _ hm
    have sb_ : h.1 ≤ u9.1 := hmo.1
    have tb_ : h.2.1 ≤ u9.2.1 := hmo.2.1
    rw [m_L_law_1620] at hm
    refine lv_iconst (v := 0) hx hb dL_law_1620 (by decide) ?_
    exact absurd (retE hm).1 (by decide)
  have hB1653 : ∀ (h : CH) (cc ss : Nat) (H : Heap) (locs : List Loc) (ls : Array Slot), m_L_law_1653 f xs L h = some (1, u9) → CW D dA A s h H locs → cc + u.1 = h.1 → ss + u.2.1 = h.2.1 → lv_has ls 4 [] → W p l e room_1 s m #[Value.ref b] below meth c H locs cc ss QQ (F0 m 1653 ls []) := by
    intro h cc ss H locs ls hm hw hcc hss hl
    have hmo := mo_L_law_1653  h _ hm
    have sb_ : h.1 ≤ u9.1 := hmo.1
    have tb_ : h.2.1 ≤ u9.2.1 := hmo.2.1
    rw [m_L_law_1653] at hm
    refine lv_iconst (v := 0) hx hb dL_law_1653 (by decide) ?_
    exact absurd (retE hm).1 (by decide)
  have hB1686 : ∀ (h : CH) (cc ss : Nat) (H : Heap) (locs : List Loc) (ls : Array Slot), m_L_law_1686 f xs L h = some (1, u9) → CW D dA A s h H locs → cc + u.1 = h.1 → ss + u.2.1 = h.2.1 → lv_has ls 4 [] → W p l e room_1 s m #[Value.ref b] below meth c H locs cc ss QQ (F0 m 1686 ls []) := by
    intro h cc ss H locs ls hm hw hcc hss hl
    have hmo := mo_L_law_1686  h _ hm
    have sb_ : h.1 ≤ u9.1 := hmo.1
    have tb_ : h.2.1 ≤ u9.2.1 := hmo.2.1
    rw [m_L_law_1686] at hm
    refine lv_iconst (v := 0) hx hb dL_law_1686 (by decide) ?_
    exact absurd (retE hm).1 (by decide)
  have hB1709 : ∀ (h : CH) (cc ss : Nat) (H : Heap) (locs : List Loc) (ls : Array Slot), m_L_law_1709 f xs L h = some (1, u9) → CW D dA A s h H locs → cc + u.1 = h.1 → ss + u.2.1 = h.2.1 → lv_has ls 4 [] → W p l e room_1 s m #[Value.ref b] below meth c H locs cc ss QQ (F0 m 1709 ls []) := by
    intro h cc ss H locs ls hm hw hcc hss hl
    have hmo := mo_L_law_1709  h _ hm
    have sb_ : h.1 ≤ u9.1 := hmo.1
    have tb_ : h.2.1 ≤ u9.2.1 := hmo.2.1
    rw [m_L_law_1709] at hm
    refine lv_iconst (v := 0) hx hb dL_law_1709 (by decide) ?_
    exact absurd (retE hm).1 (by decide)
  have hB1742 : ∀ (h : CH) (cc ss : Nat) (H : Heap) (locs : List Loc) (ls : Array Slot), m_L_law_1742 f xs L h = some (1, u9) → CW D dA A s h H locs → cc + u.1 = h.1 → ss + u.2.1 = h.2.1 → lv_has ls 4 [] → W p l e room_1 s m #[Value.ref b] below meth c H locs cc ss QQ (F0 m 1742 ls []) := by
    intro h cc ss H locs ls hm hw hcc hss hl
    have hmo := mo_L_law_1742  h _ hm
    have sb_ : h.1 ≤ u9.1 := hmo.1
    have tb_ : h.2.1 ≤ u9.2.1 := hmo.2.1
    rw [m_L_law_1742] at hm
    refine lv_iconst (v := 0) hx hb dL_law_1742 (by decide) ?_
    exact absurd (retE hm).1 (by decide)
  have hB1795 : ∀ (h : CH) (cc ss : Nat) (H : Heap) (locs : List Loc) (ls : Array Slot), m_L_law_1795 f xs L h = some (1, u9) → CW D dA A s h H locs → cc + u.1 = h.1 → ss + u.2.1 = h.2.1 → lv_has ls 4 [] → W p l e room_1 s m #[Value.ref b] below meth c H locs cc ss QQ (F0 m 1795 ls []) := by
    intro h cc ss H locs ls hm hw hcc hss hl
    have hmo := mo_L_law_1795  h _ hm
    have sb_ : h.1 ≤ u9.1 := hmo.1
    have tb_ : h.2.1 ≤ u9.2.1 := hmo.2.1
    rw [m_L_law_1795] at hm
    refine lv_iconst (v := 0) hx hb dL_law_1795 (by decide) ?_
    exact absurd (retE hm).1 (by decide)
  have hB1838 : ∀ (h : CH) (cc ss : Nat) (H : Heap) (locs : List Loc) (ls : Array Slot), m_L_law_1838 f xs L h = some (1, u9) → CW D dA A s h H locs → cc + u.1 = h.1 → ss + u.2.1 = h.2.1 → lv_has ls 4 [] → W p l e room_1 s m #[Value.ref b] below meth c H locs cc ss QQ (F0 m 1838 ls []) := by
    intro h cc ss H locs ls hm hw hcc hss hl
    have hmo := mo_L_law_1838  h _ hm
    have sb_ : h.1 ≤ u9.1 := hmo.1
    have tb_ : h.2.1 ≤ u9.2.1 := hmo.2.1
    rw [m_L_law_1838] at hm
    refine lv_iconst (v := 0) hx hb dL_law_1838 (by decide) ?_
    exact absurd (retE hm).1 (by decide)
  have hB1871 : ∀ (h : CH) (cc ss : Nat) (H : Heap) (locs : List Loc) (ls : Array Slot), m_L_law_1871 f xs L h = some (1, u9) → CW D dA A s h H locs → cc + u.1 = h.1 → ss + u.2.1 = h.2.1 → lv_has ls 4 [] → W p l e room_1 s m #[Value.ref b] below meth c H locs cc ss QQ (F0 m 1871 ls []) := by
    intro h cc ss H locs ls hm hw hcc hss hl
    have hmo := mo_L_law_1871  h _ hm
    have sb_ : h.1 ≤ u9.1 := hmo.1
    have tb_ : h.2.1 ≤ u9.2.1 := hmo.2.1
    rw [m_L_law_1871] at hm
    refine lv_iconst (v := 0) hx hb dL_law_1871 (by decide) ?_
    exact absurd (retE hm).1 (by decide)
  have hB1924 : ∀ (h : CH) (cc ss : Nat) (H : Heap) (locs : List Loc) (ls : Array Slot), m_L_law_1924 f xs L h = some (1, u9) → CW D dA A s h H locs → cc + u.1 = h.1 → ss + u.2.1 = h.2.1 → lv_has ls 4 [] → W p l e room_1 s m #[Value.ref b] below meth c H locs cc ss QQ (F0 m 1924 ls []) := by
    intro h cc ss H locs ls hm hw hcc hss hl
    have hmo := mo_L_law_1924  h _ hm
    have sb_ : h.1 ≤ u9.1 := hmo.1
    have tb_ : h.2.1 ≤ u9.2.1 := hmo.2.1
    rw [m_L_law_1924] at hm
    refine lv_iconst (v := 0) hx hb dL_law_1924 (by decide) ?_
    exact absurd (retE hm).1 (by decide)
  have hB1947 : ∀ (h : CH) (cc ss : Nat) (H : Heap) (locs : List Loc) (ls : Array Slot), m_L_law_1947 f xs L h = some (1, u9) → CW D dA A s h H locs → cc + u.1 = h.1 → ss + u.2.1 = h.2.1 → lv_has ls 4 [] → W p l e room_1 s m #[Value.ref b] below meth c H locs cc ss QQ (F0 m 1947 ls []) := by
    intro h cc ss H locs ls hm hw hcc hss hl
    have hmo := mo_L_law_1947  h _ hm
    have sb_ : h.1 ≤ u9.1 := hmo.1
    have tb_ : h.2.1 ≤ u9.2.1 := hmo.2.1
    rw [m_L_law_1947] at hm
    refine lv_iconst (v := 0) hx hb dL_law_1947 (by decide) ?_
    exact absurd (retE hm).1 (by decide)
  have hB1960 : ∀ (h : CH) (cc ss : Nat) (H : Heap) (locs : List Loc) (ls : Array Slot), m_L_law_1960 f xs L h = some (1, u9) → CW D dA A s h H locs → cc + u.1 = h.1 → ss + u.2.1 = h.2.1 → lv_has ls 4 [] → W p l e room_1 s m #[Value.ref b] below meth c H locs cc ss QQ (F0 m 1960 ls []) := by
    intro h cc ss H locs ls hm hw hcc hss hl
    have hmo := mo_L_law_1960  h _ hm
    have sb_ : h.1 ≤ u9.1 := hmo.1
    have tb_ : h.2.1 ≤ u9.2.1 := hmo.2.1
    rw [m_L_law_1960] at hm
    refine lv_iconst (v := 0) hx hb dL_law_1960 (by decide) ?_
    exact absurd (retE hm).1 (by decide)
  have hB1973 : ∀ (h : CH) (cc ss : Nat) (H : Heap) (locs : List Loc) (ls : Array Slot), m_L_law_1973 f xs L h = some (1, u9) → CW D dA A s h H locs → cc + u.1 = h.1 → ss + u.2.1 = h.2.1 → lv_has ls 4 [] → W p l e room_1 s m #[Value.ref b] below meth c H locs cc ss QQ (F0 m 1973 ls []) := by
    intro h cc ss H locs ls hm hw hcc hss hl
    have hmo := mo_L_law_1973  h _ hm
    have sb_ : h.1 ≤ u9.1 := hmo.1
    have tb_ : h.2.1 ≤ u9.2.1 := hmo.2.1
    rw [m_L_law_1973] at hm
    refine lv_iconst (v := 0) hx hb dL_law_1973 (by decide) ?_
    exact absurd (retE hm).1 (by decide)
  have hB18 : ∀ (n18 : Nat), ∀ (h : CH) (x1 : Nat) (x2 : Nat) (x3 : Int32) (cc ss : Nat) (H : Heap) (locs : List Loc) (ls : Array Slot), m_L_law_18 f xs L n18 h x1 x2 x3 = some (1, u9) → CW D dA A s h H locs → cc + u.1 = h.1 → ss + u.2.1 = h.2.1 → lv_has ls 4 [(0, .ref b), (1, .ref x1), (2, .ref x2), (3, .int x3)] → W p l e room_1 s m #[Value.ref b] below meth c H locs cc ss QQ (F0 m 18 ls []) := by
    intro n18
    induction n18 with
    | zero => intro h x1 x2 x3 cc ss H locs ls hm hw hcc hss hl; rw [m_L_law_18] at hm; exact noE hm
    | succ n18 ih18 =>
      have hB1975 : ∀ (h : CH) (x1 : Nat) (x2 : Nat) (x3 : Int32) (cc ss : Nat) (H : Heap) (locs : List Loc) (ls : Array Slot), m_L_law_1975 f xs L (m_L_law_18 f xs L n18) h x1 x2 x3 = some (1, u9) → CW D dA A s h H locs → cc + u.1 = h.1 → ss + u.2.1 = h.2.1 → lv_has ls 4 [(0, .ref b), (1, .ref x1), (2, .ref x2), (3, .int x3)] → W p l e room_1 s m #[Value.ref b] below meth c H locs cc ss QQ (F0 m 1975 ls []) := by
        intro h x1 x2 x3 cc ss H locs ls hm hw hcc hss hl
        have hmo := mo_L_law_1975 (mo_L_law_18 n18) h x1 x2 x3 _ hm
        have sb_ : h.1 ≤ u9.1 := hmo.1
        have tb_ : h.2.1 ≤ u9.2.1 := hmo.2.1
        rw [m_L_law_1975] at hm
        obtain ⟨v1, ev1, hm⟩ := nmE hm
        refine lv_iinc (v := v1) (lv' := [(3, .int v1), (0, .ref b), (1, .ref x1), (2, .ref x2)]) hx hb dL_law_1975 hl (k := 3) rfl (by rw [ev1]; rfl) (by decide) rfl (fun ls hl => ?_)
        refine lv_goto (tgt := 18) hx hb dL_law_1978 (by decide) ?_
        exact ih18 h x1 x2 v1 _ _ _ _ _ hm hw (by omega) (by omega) (lv_sub hl [1, 2, 3, 0] rfl)
      have hB282 : ∀ (h : CH) (x1 : Nat) (x2 : Nat) (x3 : Int32) (y0 : Int32) (y1 : Int32) (cc ss : Nat) (H : Heap) (locs : List Loc) (ls : Array Slot), m_L_law_282 f xs L (m_L_law_18 f xs L n18) h x1 x2 x3 y0 y1 = some (1, u9) → CW D dA A s h H locs → cc + u.1 = h.1 → ss + u.2.1 = h.2.1 → lv_has ls 4 [(0, .ref b), (1, .ref x1), (2, .ref x2), (3, .int x3)] → W p l e room_1 s m #[Value.ref b] below meth c H locs cc ss QQ (F0 m 282 ls [.int y1, .int y0]) := by
        intro h x1 x2 x3 y0 y1 cc ss H locs ls hm hw hcc hss hl
        have hmo := mo_L_law_282 (mo_L_law_18 n18) h x1 x2 x3 y0 y1 _ hm
        have sb_ : h.1 ≤ u9.1 := hmo.1
        have tb_ : h.2.1 ≤ u9.2.1 := hmo.2.1
        rw [m_L_law_282] at hm
        refine lv_icmp_eq (tgt := 1975) hx hb dL_law_282 (by decide) (fun c1 => ?_) (fun c1 => ?_)
        · have hm := ifT hm c1
          exact hB1975 h x1 x2 x3 _ _ _ _ _ hm hw (by omega) (by omega) (lv_sub hl [0, 1, 2, 3] rfl)
        · have hm := ifF hm c1
          exact hB285 h _ _ _ _ _ hm hw (by omega) (by omega) (lv_sub hl [] rfl)
      have hB253 : ∀ (h : CH) (x1 : Nat) (x2 : Nat) (x3 : Int32) (y0 : Int32) (cc ss : Nat) (H : Heap) (locs : List Loc) (ls : Array Slot), m_L_law_253 f xs L (m_L_law_18 f xs L n18) h x1 x2 x3 y0 = some (1, u9) → CW D dA A s h H locs → cc + u.1 = h.1 → ss + u.2.1 = h.2.1 → lv_has ls 4 [(0, .ref b), (1, .ref x1), (2, .ref x2), (3, .int x3)] → W p l e room_1 s m #[Value.ref b] below meth c H locs cc ss QQ (F0 m 253 ls [.int y0]) := by
        intro h x1 x2 x3 y0 cc ss H locs ls hm hw hcc hss hl
        have hmo := mo_L_law_253 (mo_L_law_18 n18) h x1 x2 x3 y0 _ hm
        have sb_ : h.1 ≤ u9.1 := hmo.1
        have tb_ : h.2.1 ≤ u9.2.1 := hmo.2.1
        rw [m_L_law_253] at hm
        refine lv_aload_n hx hb dL_law_253 rfl (lv_at hl 2 rfl) ?_
        refine lv_aload_n hx hb dL_law_254 rfl (lv_at hl 0 rfl) ?_
        refine lv_iload_n hx hb dL_law_255 rfl (lv_at hl 3 rfl) ?_
        refine lv_iconst (v := 1) hx hb dL_law_256 (by decide) ?_
        refine lv_iadd hx hb dL_law_257 ?_
        obtain ⟨g1, hm⟩ := gdE hm
        refine va_sld hx hb hX hbl hbA hw.2.2.1 (ix_in g1) dL_law_258 ?_
        refine lv_aload_n hx hb dL_law_259 rfl (lv_at hl 0 rfl) ?_
        refine lv_iload_n hx hb dL_law_260 rfl (lv_at hl 3 rfl) ?_
        refine lv_iconst (v := 2) hx hb dL_law_261 (by decide) ?_
        refine lv_iadd hx hb dL_law_262 ?_
        obtain ⟨g2, hm⟩ := gdE hm
        refine va_sld hx hb hX hbl hbA hw.2.2.1 (ix_in g2) dL_law_263 ?_
        refine lv_aload_n hx hb dL_law_264 rfl (lv_at hl 0 rfl) ?_
        refine lv_iload_n hx hb dL_law_265 rfl (lv_at hl 3 rfl) ?_
        refine lv_iconst (v := 3) hx hb dL_law_266 (by decide) ?_
        refine lv_iadd hx hb dL_law_267 ?_
        obtain ⟨g3, hm⟩ := gdE hm
        refine va_sld hx hb hX hbl hbA hw.2.2.1 (ix_in g3) dL_law_268 ?_
        refine lv_aload_n hx hb dL_law_269 rfl (lv_at hl 0 rfl) ?_
        refine lv_iload_n hx hb dL_law_270 rfl (lv_at hl 3 rfl) ?_
        refine lv_iconst (v := 4) hx hb dL_law_271 (by decide) ?_
        refine lv_iadd hx hb dL_law_272 ?_
        obtain ⟨g4, hm⟩ := gdE hm
        refine va_sld hx hb hX hbl hbA hw.2.2.1 (ix_in g4) dL_law_273 ?_
        refine lv_aload_n hx hb dL_law_274 rfl (lv_at hl 0 rfl) ?_
        refine lv_iload_n hx hb dL_law_275 rfl (lv_at hl 3 rfl) ?_
        refine lv_iconst (v := 5) hx hb dL_law_276 (by decide) ?_
        refine lv_iadd hx hb dL_law_277 ?_
        obtain ⟨g5, hm⟩ := gdE hm
        refine va_sld hx hb hX hbl hbA hw.2.2.1 (ix_in g5) dL_law_278 ?_
        obtain ⟨g6, hm⟩ := gdE hm
        obtain ⟨r8, h7, er8, hm⟩ := bd2E hm
        have lh7 := mo_X3_feed er8
        have ph7 : h.1 ≤ h7.1 := lh7.1
        have qh7 : h.2.1 ≤ h7.2.1 := lh7.2.1
        have hmo := mo_L_law_282 (mo_L_law_18 n18)  h7 x1 x2 x3 y0 r8 _ hm
        have sh7 : h7.1 ≤ u9.1 := hmo.1
        have th7 : h7.2.1 ≤ u9.2.1 := hmo.2.1
        refine cg_calli hw lh7 (va_runV (As := [.int (xs (Int32.toNatClampNeg (x3 + (1 : Int32)))), .int (xs (Int32.toNatClampNeg (x3 + (2 : Int32)))), .int (xs (Int32.toNatClampNeg (x3 + (3 : Int32)))), .int (xs (Int32.toNatClampNeg (x3 + (4 : Int32)))), .int (xs (Int32.toNatClampNeg (x3 + (5 : Int32))))]) (rest := [.int y0]) ⟨hx, hb, hml, hown, hts⟩ (w_X3_feed l er8) (cw_X3_feed hts q1687 ⟨Nat.le_of_ble_eq_true rfl, Nat.le_of_ble_eq_true rfl⟩) (cg_preV C hw g6 rfl _) rfl rfl hl.1 rfl (lv_room (Nat.le_of_ble_eq_true rfl)) dL_law_279 ⟨show cc + (h7.1 - h.1) ≤ 601024 by omega, show ss + (h7.2.1 - h.2.1) ≤ 7293034 by omega⟩) (fun H locs hw => ?_)
        exact hB282 h7 x1 x2 x3 y0 r8 _ _ _ _ _ hm hw (by omega) (by omega) (lv_sub hl [0, 1, 2, 3] rfl)
      have hB224 : ∀ (h : CH) (x1 : Nat) (x2 : Nat) (x3 : Int32) (cc ss : Nat) (H : Heap) (locs : List Loc) (ls : Array Slot), m_L_law_224 f xs L (m_L_law_18 f xs L n18) h x1 x2 x3 = some (1, u9) → CW D dA A s h H locs → cc + u.1 = h.1 → ss + u.2.1 = h.2.1 → lv_has ls 4 [(0, .ref b), (1, .ref x1), (2, .ref x2), (3, .int x3)] → W p l e room_1 s m #[Value.ref b] below meth c H locs cc ss QQ (F0 m 224 ls []) := by
        intro h x1 x2 x3 cc ss H locs ls hm hw hcc hss hl
        have hmo := mo_L_law_224 (mo_L_law_18 n18) h x1 x2 x3 _ hm
        have sb_ : h.1 ≤ u9.1 := hmo.1
        have tb_ : h.2.1 ≤ u9.2.1 := hmo.2.1
        rw [m_L_law_224] at hm
        refine lv_aload_n hx hb dL_law_224 rfl (lv_at hl 1 rfl) ?_
        refine lv_aload_n hx hb dL_law_225 rfl (lv_at hl 0 rfl) ?_
        refine lv_iload_n hx hb dL_law_226 rfl (lv_at hl 3 rfl) ?_
        refine lv_iconst (v := 1) hx hb dL_law_227 (by decide) ?_
        refine lv_iadd hx hb dL_law_228 ?_
        obtain ⟨g1, hm⟩ := gdE hm
        refine va_sld hx hb hX hbl hbA hw.2.2.1 (ix_in g1) dL_law_229 ?_
        refine lv_aload_n hx hb dL_law_230 rfl (lv_at hl 0 rfl) ?_
        refine lv_iload_n hx hb dL_law_231 rfl (lv_at hl 3 rfl) ?_
        refine lv_iconst (v := 2) hx hb dL_law_232 (by decide) ?_
        refine lv_iadd hx hb dL_law_233 ?_
        obtain ⟨g2, hm⟩ := gdE hm
        refine va_sld hx hb hX hbl hbA hw.2.2.1 (ix_in g2) dL_law_234 ?_
        refine lv_aload_n hx hb dL_law_235 rfl (lv_at hl 0 rfl) ?_
        refine lv_iload_n hx hb dL_law_236 rfl (lv_at hl 3 rfl) ?_
        refine lv_iconst (v := 3) hx hb dL_law_237 (by decide) ?_
        refine lv_iadd hx hb dL_law_238 ?_
        obtain ⟨g3, hm⟩ := gdE hm
        refine va_sld hx hb hX hbl hbA hw.2.2.1 (ix_in g3) dL_law_239 ?_
        refine lv_aload_n hx hb dL_law_240 rfl (lv_at hl 0 rfl) ?_
        refine lv_iload_n hx hb dL_law_241 rfl (lv_at hl 3 rfl) ?_
        refine lv_iconst (v := 4) hx hb dL_law_242 (by decide) ?_
        refine lv_iadd hx hb dL_law_243 ?_
        obtain ⟨g4, hm⟩ := gdE hm
        refine va_sld hx hb hX hbl hbA hw.2.2.1 (ix_in g4) dL_law_244 ?_
        refine lv_aload_n hx hb dL_law_245 rfl (lv_at hl 0 rfl) ?_
        refine lv_iload_n hx hb dL_law_246 rfl (lv_at hl 3 rfl) ?_
        refine lv_iconst (v := 5) hx hb dL_law_247 (by decide) ?_
        refine lv_iadd hx hb dL_law_248 ?_
        obtain ⟨g5, hm⟩ := gdE hm
        refine va_sld hx hb hX hbl hbA hw.2.2.1 (ix_in g5) dL_law_249 ?_
        obtain ⟨g6, hm⟩ := gdE hm
        obtain ⟨r8, h7, er8, hm⟩ := bd2E hm
        have lh7 := mo_X0_feed er8
        have ph7 : h.1 ≤ h7.1 := lh7.1
        have qh7 : h.2.1 ≤ h7.2.1 := lh7.2.1
        have hmo := mo_L_law_253 (mo_L_law_18 n18)  h7 x1 x2 x3 r8 _ hm
        have sh7 : h7.1 ≤ u9.1 := hmo.1
        have th7 : h7.2.1 ≤ u9.2.1 := hmo.2.1
        refine cg_calli hw lh7 (va_runV (As := [.int (xs (Int32.toNatClampNeg (x3 + (1 : Int32)))), .int (xs (Int32.toNatClampNeg (x3 + (2 : Int32)))), .int (xs (Int32.toNatClampNeg (x3 + (3 : Int32)))), .int (xs (Int32.toNatClampNeg (x3 + (4 : Int32)))), .int (xs (Int32.toNatClampNeg (x3 + (5 : Int32))))]) (rest := []) ⟨hx, hb, hml, hown, hts⟩ (w_X0_feed l er8) (cw_X0_feed hts q285 ⟨Nat.le_of_ble_eq_true rfl, Nat.le_of_ble_eq_true rfl⟩) (cg_preV C hw g6 rfl _) rfl rfl hl.1 rfl (lv_room (Nat.le_of_ble_eq_true rfl)) dL_law_250 ⟨show cc + (h7.1 - h.1) ≤ 601024 by omega, show ss + (h7.2.1 - h.2.1) ≤ 7293034 by omega⟩) (fun H locs hw => ?_)
        exact hB253 h7 x1 x2 x3 r8 _ _ _ _ _ hm hw (by omega) (by omega) (lv_sub hl [0, 1, 2, 3] rfl)
      have hB296 : ∀ (h : CH) (x1 : Nat) (x2 : Nat) (x3 : Int32) (y0 : Int32) (cc ss : Nat) (H : Heap) (locs : List Loc) (ls : Array Slot), m_L_law_296 f xs L (m_L_law_18 f xs L n18) h x1 x2 x3 y0 = some (1, u9) → CW D dA A s h H locs → cc + u.1 = h.1 → ss + u.2.1 = h.2.1 → lv_has ls 4 [(0, .ref b), (1, .ref x1), (2, .ref x2), (3, .int x3)] → W p l e room_1 s m #[Value.ref b] below meth c H locs cc ss QQ (F0 m 296 ls [.int y0]) := by
        intro h x1 x2 x3 y0 cc ss H locs ls hm hw hcc hss hl
        have hmo := mo_L_law_296 (mo_L_law_18 n18) h x1 x2 x3 y0 _ hm
        have sb_ : h.1 ≤ u9.1 := hmo.1
        have tb_ : h.2.1 ≤ u9.2.1 := hmo.2.1
        rw [m_L_law_296] at hm
        refine lv_aload_n hx hb dL_law_296 rfl (lv_at hl 2 rfl) ?_
        refine lv_aload_n hx hb dL_law_297 rfl (lv_at hl 0 rfl) ?_
        refine lv_iload_n hx hb dL_law_298 rfl (lv_at hl 3 rfl) ?_
        refine lv_iconst (v := 1) hx hb dL_law_299 (by decide) ?_
        refine lv_iadd hx hb dL_law_300 ?_
        obtain ⟨g1, hm⟩ := gdE hm
        refine va_sld hx hb hX hbl hbA hw.2.2.1 (ix_in g1) dL_law_301 ?_
        obtain ⟨r3, h2, er3, hm⟩ := bd2E hm
        refine cg_tci C hw er3 (show cc + s.heap.size = h.1 by rw [hs0]; omega) (fun _ hk hm9 => va_runV (As := [.int (xs (Int32.toNatClampNeg (x3 + (1 : Int32))))]) (rest := [.int y0]) ⟨hx, hb, hml, hown, hts⟩ (w_X3_end l hm9) (cw_X3_end hts q1691 ⟨Nat.le_of_ble_eq_true rfl, Nat.le_of_ble_eq_true rfl⟩) (tb_pre C hw hk _) rfl rfl hl.1 rfl (lv_room (Nat.le_of_ble_eq_true rfl)) dL_law_302 ⟨show cc + 0 ≤ 601024 by omega, show ss + 0 ≤ 7293034 by omega⟩) (fun H locs hw => ?_)
        have zh2 := tcr_sz er3
        refine lv_icmp_eq (tgt := 1975) hx hb dL_law_305 (by decide) (fun c4 => ?_) (fun c4 => ?_)
        · have hm := ifT hm c4
          exact hB1975 h2 x1 x2 x3 _ _ _ _ _ hm hw (by omega) (by omega) (lv_sub hl [0, 1, 2, 3] rfl)
        · have hm := ifF hm c4
          exact hB308 h2 _ _ _ _ _ hm hw (by omega) (by omega) (lv_sub hl [] rfl)
      have hB287 : ∀ (h : CH) (x1 : Nat) (x2 : Nat) (x3 : Int32) (cc ss : Nat) (H : Heap) (locs : List Loc) (ls : Array Slot), m_L_law_287 f xs L (m_L_law_18 f xs L n18) h x1 x2 x3 = some (1, u9) → CW D dA A s h H locs → cc + u.1 = h.1 → ss + u.2.1 = h.2.1 → lv_has ls 4 [(0, .ref b), (1, .ref x1), (2, .ref x2), (3, .int x3)] → W p l e room_1 s m #[Value.ref b] below meth c H locs cc ss QQ (F0 m 287 ls []) := by
        intro h x1 x2 x3 cc ss H locs ls hm hw hcc hss hl
        have hmo := mo_L_law_287 (mo_L_law_18 n18) h x1 x2 x3 _ hm
        have sb_ : h.1 ≤ u9.1 := hmo.1
        have tb_ : h.2.1 ≤ u9.2.1 := hmo.2.1
        rw [m_L_law_287] at hm
        refine lv_aload_n hx hb dL_law_287 rfl (lv_at hl 1 rfl) ?_
        refine lv_aload_n hx hb dL_law_288 rfl (lv_at hl 0 rfl) ?_
        refine lv_iload_n hx hb dL_law_289 rfl (lv_at hl 3 rfl) ?_
        refine lv_iconst (v := 1) hx hb dL_law_290 (by decide) ?_
        refine lv_iadd hx hb dL_law_291 ?_
        obtain ⟨g1, hm⟩ := gdE hm
        refine va_sld hx hb hX hbl hbA hw.2.2.1 (ix_in g1) dL_law_292 ?_
        obtain ⟨g2, hm⟩ := gdE hm
        obtain ⟨r4, h3, er4, hm⟩ := bd2E hm
        have lh3 := mo_X0_end er4
        have ph3 : h.1 ≤ h3.1 := lh3.1
        have qh3 : h.2.1 ≤ h3.2.1 := lh3.2.1
        have hmo := mo_L_law_296 (mo_L_law_18 n18)  h3 x1 x2 x3 r4 _ hm
        have sh3 : h3.1 ≤ u9.1 := hmo.1
        have th3 : h3.2.1 ≤ u9.2.1 := hmo.2.1
        refine cg_calli hw lh3 (va_runV (As := [.int (xs (Int32.toNatClampNeg (x3 + (1 : Int32))))]) (rest := []) ⟨hx, hb, hml, hown, hts⟩ (w_X0_end l er4) (cw_X0_end hts q293 ⟨Nat.le_of_ble_eq_true rfl, Nat.le_of_ble_eq_true rfl⟩) (cg_preV C hw g2 rfl _) rfl rfl hl.1 rfl (lv_room (Nat.le_of_ble_eq_true rfl)) dL_law_293 ⟨show cc + (h3.1 - h.1) ≤ 601024 by omega, show ss + (h3.2.1 - h.2.1) ≤ 7293034 by omega⟩) (fun H locs hw => ?_)
        exact hB296 h3 x1 x2 x3 r4 _ _ _ _ _ hm hw (by omega) (by omega) (lv_sub hl [0, 1, 2, 3] rfl)
      have hB318 : ∀ (h : CH) (x1 : Nat) (x2 : Nat) (x3 : Int32) (y0 : Int32) (y1 : Int32) (cc ss : Nat) (H : Heap) (locs : List Loc) (ls : Array Slot), m_L_law_318 f xs L (m_L_law_18 f xs L n18) h x1 x2 x3 y0 y1 = some (1, u9) → CW D dA A s h H locs → cc + u.1 = h.1 → ss + u.2.1 = h.2.1 → lv_has ls 4 [(0, .ref b), (1, .ref x1), (2, .ref x2), (3, .int x3)] → W p l e room_1 s m #[Value.ref b] below meth c H locs cc ss QQ (F0 m 318 ls [.int y1, .int y0]) := by
        intro h x1 x2 x3 y0 y1 cc ss H locs ls hm hw hcc hss hl
        have hmo := mo_L_law_318 (mo_L_law_18 n18) h x1 x2 x3 y0 y1 _ hm
        have sb_ : h.1 ≤ u9.1 := hmo.1
        have tb_ : h.2.1 ≤ u9.2.1 := hmo.2.1
        rw [m_L_law_318] at hm
        refine lv_icmp_eq (tgt := 1975) hx hb dL_law_318 (by decide) (fun c1 => ?_) (fun c1 => ?_)
        · have hm := ifT hm c1
          exact hB1975 h x1 x2 x3 _ _ _ _ _ hm hw (by omega) (by omega) (lv_sub hl [0, 1, 2, 3] rfl)
        · have hm := ifF hm c1
          exact hB321 h _ _ _ _ _ hm hw (by omega) (by omega) (lv_sub hl [] rfl)
      have hB314 : ∀ (h : CH) (x1 : Nat) (x2 : Nat) (x3 : Int32) (y0 : Int32) (cc ss : Nat) (H : Heap) (locs : List Loc) (ls : Array Slot), m_L_law_314 f xs L (m_L_law_18 f xs L n18) h x1 x2 x3 y0 = some (1, u9) → CW D dA A s h H locs → cc + u.1 = h.1 → ss + u.2.1 = h.2.1 → lv_has ls 4 [(0, .ref b), (1, .ref x1), (2, .ref x2), (3, .int x3)] → W p l e room_1 s m #[Value.ref b] below meth c H locs cc ss QQ (F0 m 314 ls [.int y0]) := by
        intro h x1 x2 x3 y0 cc ss H locs ls hm hw hcc hss hl
        have hmo := mo_L_law_314 (mo_L_law_18 n18) h x1 x2 x3 y0 _ hm
        have sb_ : h.1 ≤ u9.1 := hmo.1
        have tb_ : h.2.1 ≤ u9.2.1 := hmo.2.1
        rw [m_L_law_314] at hm
        refine lv_aload_n hx hb dL_law_314 rfl (lv_at hl 2 rfl) ?_
        obtain ⟨g1, hm⟩ := gdE hm
        obtain ⟨r3, h2, er3, hm⟩ := bd2E hm
        have lh2 := mo_X3_lattices er3
        have ph2 : h.1 ≤ h2.1 := lh2.1
        have qh2 : h.2.1 ≤ h2.2.1 := lh2.2.1
        have hmo := mo_L_law_318 (mo_L_law_18 n18)  h2 x1 x2 x3 y0 r3 _ hm
        have sh2 : h2.1 ≤ u9.1 := hmo.1
        have th2 : h2.2.1 ≤ u9.2.1 := hmo.2.1
        refine cg_calli hw lh2 (va_runV (As := []) (rest := [.int y0]) ⟨hx, hb, hml, hown, hts⟩ (w_X3_lattices l er3) (cw_X3_lattices hts q1698 ⟨Nat.le_of_ble_eq_true rfl, Nat.le_of_ble_eq_true rfl⟩) (cg_preV C hw g1 rfl _) rfl rfl hl.1 rfl (lv_room (Nat.le_of_ble_eq_true rfl)) dL_law_315 ⟨show cc + (h2.1 - h.1) ≤ 601024 by omega, show ss + (h2.2.1 - h.2.1) ≤ 7293034 by omega⟩) (fun H locs hw => ?_)
        exact hB318 h2 x1 x2 x3 y0 r3 _ _ _ _ _ hm hw (by omega) (by omega) (lv_sub hl [0, 1, 2, 3] rfl)
      have hB310 : ∀ (h : CH) (x1 : Nat) (x2 : Nat) (x3 : Int32) (cc ss : Nat) (H : Heap) (locs : List Loc) (ls : Array Slot), m_L_law_310 f xs L (m_L_law_18 f xs L n18) h x1 x2 x3 = some (1, u9) → CW D dA A s h H locs → cc + u.1 = h.1 → ss + u.2.1 = h.2.1 → lv_has ls 4 [(0, .ref b), (1, .ref x1), (2, .ref x2), (3, .int x3)] → W p l e room_1 s m #[Value.ref b] below meth c H locs cc ss QQ (F0 m 310 ls []) := by
        intro h x1 x2 x3 cc ss H locs ls hm hw hcc hss hl
        have hmo := mo_L_law_310 (mo_L_law_18 n18) h x1 x2 x3 _ hm
        have sb_ : h.1 ≤ u9.1 := hmo.1
        have tb_ : h.2.1 ≤ u9.2.1 := hmo.2.1
        rw [m_L_law_310] at hm
        refine lv_aload_n hx hb dL_law_310 rfl (lv_at hl 1 rfl) ?_
        obtain ⟨g1, hm⟩ := gdE hm
        rcases bxE hm with ⟨r3, h2, eh2, hm⟩ | ⟨q4, h2, eh2, hm⟩
        · have lh2 := mo_X0_lattices eh2
          have ph2 : h.1 ≤ h2.1 := lh2.1
          have qh2 : h.2.1 ≤ h2.2.1 := lh2.2.1
          have hmo := mo_L_law_314 (mo_L_law_18 n18)  h2 x1 x2 x3 r3 _ hm
          have sh2 : h2.1 ≤ u9.1 := hmo.1
          have th2 : h2.2.1 ≤ u9.2.1 := hmo.2.1
          refine cx_calli hw lh2 (vy_runVX (As := []) (rest := []) ⟨hx, hb, hml, hown, hts⟩ (w_X0_lattices l htl eh2) (cw_X0_lattices hts q300 ⟨Nat.le_of_ble_eq_true rfl, Nat.le_of_ble_eq_true rfl⟩) (cg_preV C hw g1 rfl _) rfl rfl hl.1 rfl (lv_room (Nat.le_of_ble_eq_true rfl)) dL_law_311 ⟨show cc + (h2.1 - h.1) ≤ 601024 by omega, show ss + (h2.2.1 - h.2.1) ≤ 7293034 by omega⟩) (fun H locs hw => ?_)
          exact hB314 h2 x1 x2 x3 r3 _ _ _ _ _ hm hw (by omega) (by omega) (lv_sub hl [0, 1, 2, 3] rfl)
        · exact noE hm
      have hB332 : ∀ (h : CH) (x1 : Nat) (x2 : Nat) (x3 : Int32) (y0 : Int32) (cc ss : Nat) (H : Heap) (locs : List Loc) (ls : Array Slot), m_L_law_332 f xs L (m_L_law_18 f xs L n18) h x1 x2 x3 y0 = some (1, u9) → CW D dA A s h H locs → cc + u.1 = h.1 → ss + u.2.1 = h.2.1 → lv_has ls 4 [(0, .ref b), (1, .ref x1), (2, .ref x2), (3, .int x3)] → W p l e room_1 s m #[Value.ref b] below meth c H locs cc ss QQ (F0 m 332 ls [.int y0]) := by
        intro h x1 x2 x3 y0 cc ss H locs ls hm hw hcc hss hl
        have hmo := mo_L_law_332 (mo_L_law_18 n18) h x1 x2 x3 y0 _ hm
        have sb_ : h.1 ≤ u9.1 := hmo.1
        have tb_ : h.2.1 ≤ u9.2.1 := hmo.2.1
        rw [m_L_law_332] at hm
        refine lv_aload_n hx hb dL_law_332 rfl (lv_at hl 2 rfl) ?_
        refine lv_aload_n hx hb dL_law_333 rfl (lv_at hl 0 rfl) ?_
        refine lv_iload_n hx hb dL_law_334 rfl (lv_at hl 3 rfl) ?_
        refine lv_iconst (v := 1) hx hb dL_law_335 (by decide) ?_
        refine lv_iadd hx hb dL_law_336 ?_
        obtain ⟨g1, hm⟩ := gdE hm
        refine va_sld hx hb hX hbl hbA hw.2.2.1 (ix_in g1) dL_law_337 ?_
        obtain ⟨r3, h2, er3, hm⟩ := bd2E hm
        refine cg_tci C hw er3 (show cc + s.heap.size = h.1 by rw [hs0]; omega) (fun _ hk hm9 => va_runV (As := [.int (xs (Int32.toNatClampNeg (x3 + (1 : Int32))))]) (rest := [.int y0]) ⟨hx, hb, hml, hown, hts⟩ (w_X3_fault l hm9) (cw_X3_fault hts q1780 ⟨Nat.le_of_ble_eq_true rfl, Nat.le_of_ble_eq_true rfl⟩) (tb_pre C hw hk _) rfl rfl hl.1 rfl (lv_room (Nat.le_of_ble_eq_true rfl)) dL_law_338 ⟨show cc + 0 ≤ 601024 by omega, show ss + 0 ≤ 7293034 by omega⟩) (fun H locs hw => ?_)
        have zh2 := tcr_sz er3
        refine lv_icmp_eq (tgt := 1975) hx hb dL_law_341 (by decide) (fun c4 => ?_) (fun c4 => ?_)
        · have hm := ifT hm c4
          exact hB1975 h2 x1 x2 x3 _ _ _ _ _ hm hw (by omega) (by omega) (lv_sub hl [0, 1, 2, 3] rfl)
        · have hm := ifF hm c4
          exact hB344 h2 _ _ _ _ _ hm hw (by omega) (by omega) (lv_sub hl [] rfl)
      have hB323 : ∀ (h : CH) (x1 : Nat) (x2 : Nat) (x3 : Int32) (cc ss : Nat) (H : Heap) (locs : List Loc) (ls : Array Slot), m_L_law_323 f xs L (m_L_law_18 f xs L n18) h x1 x2 x3 = some (1, u9) → CW D dA A s h H locs → cc + u.1 = h.1 → ss + u.2.1 = h.2.1 → lv_has ls 4 [(0, .ref b), (1, .ref x1), (2, .ref x2), (3, .int x3)] → W p l e room_1 s m #[Value.ref b] below meth c H locs cc ss QQ (F0 m 323 ls []) := by
        intro h x1 x2 x3 cc ss H locs ls hm hw hcc hss hl
        have hmo := mo_L_law_323 (mo_L_law_18 n18) h x1 x2 x3 _ hm
        have sb_ : h.1 ≤ u9.1 := hmo.1
        have tb_ : h.2.1 ≤ u9.2.1 := hmo.2.1
        rw [m_L_law_323] at hm
        refine lv_aload_n hx hb dL_law_323 rfl (lv_at hl 1 rfl) ?_
        refine lv_aload_n hx hb dL_law_324 rfl (lv_at hl 0 rfl) ?_
        refine lv_iload_n hx hb dL_law_325 rfl (lv_at hl 3 rfl) ?_
        refine lv_iconst (v := 1) hx hb dL_law_326 (by decide) ?_
        refine lv_iadd hx hb dL_law_327 ?_
        obtain ⟨g1, hm⟩ := gdE hm
        refine va_sld hx hb hX hbl hbA hw.2.2.1 (ix_in g1) dL_law_328 ?_
        obtain ⟨g2, hm⟩ := gdE hm
        obtain ⟨r4, h3, er4, hm⟩ := bd2E hm
        have lh3 := mo_X0_fault er4
        have ph3 : h.1 ≤ h3.1 := lh3.1
        have qh3 : h.2.1 ≤ h3.2.1 := lh3.2.1
        have hmo := mo_L_law_332 (mo_L_law_18 n18)  h3 x1 x2 x3 r4 _ hm
        have sh3 : h3.1 ≤ u9.1 := hmo.1
        have th3 : h3.2.1 ≤ u9.2.1 := hmo.2.1
        refine cg_calli hw lh3 (va_runV (As := [.int (xs (Int32.toNatClampNeg (x3 + (1 : Int32))))]) (rest := []) ⟨hx, hb, hml, hown, hts⟩ (w_X0_fault l er4) (cw_X0_fault hts q872 ⟨Nat.le_of_ble_eq_true rfl, Nat.le_of_ble_eq_true rfl⟩) (cg_preV C hw g2 rfl _) rfl rfl hl.1 rfl (lv_room (Nat.le_of_ble_eq_true rfl)) dL_law_329 ⟨show cc + (h3.1 - h.1) ≤ 601024 by omega, show ss + (h3.2.1 - h.2.1) ≤ 7293034 by omega⟩) (fun H locs hw => ?_)
        exact hB332 h3 x1 x2 x3 r4 _ _ _ _ _ hm hw (by omega) (by omega) (lv_sub hl [0, 1, 2, 3] rfl)
      have hB355 : ∀ (h : CH) (x1 : Nat) (x2 : Nat) (x3 : Int32) (y0 : Int32) (cc ss : Nat) (H : Heap) (locs : List Loc) (ls : Array Slot), m_L_law_355 f xs L (m_L_law_18 f xs L n18) h x1 x2 x3 y0 = some (1, u9) → CW D dA A s h H locs → cc + u.1 = h.1 → ss + u.2.1 = h.2.1 → lv_has ls 4 [(0, .ref b), (1, .ref x1), (2, .ref x2), (3, .int x3)] → W p l e room_1 s m #[Value.ref b] below meth c H locs cc ss QQ (F0 m 355 ls [.int y0]) := by
        intro h x1 x2 x3 y0 cc ss H locs ls hm hw hcc hss hl
        have hmo := mo_L_law_355 (mo_L_law_18 n18) h x1 x2 x3 y0 _ hm
        have sb_ : h.1 ≤ u9.1 := hmo.1
        have tb_ : h.2.1 ≤ u9.2.1 := hmo.2.1
        rw [m_L_law_355] at hm
        refine lv_aload_n hx hb dL_law_355 rfl (lv_at hl 2 rfl) ?_
        refine lv_aload_n hx hb dL_law_356 rfl (lv_at hl 0 rfl) ?_
        refine lv_iload_n hx hb dL_law_357 rfl (lv_at hl 3 rfl) ?_
        refine lv_iconst (v := 1) hx hb dL_law_358 (by decide) ?_
        refine lv_iadd hx hb dL_law_359 ?_
        obtain ⟨g1, hm⟩ := gdE hm
        refine va_sld hx hb hX hbl hbA hw.2.2.1 (ix_in g1) dL_law_360 ?_
        obtain ⟨r3, h2, er3, hm⟩ := bd2E hm
        refine cg_tci C hw er3 (show cc + s.heap.size = h.1 by rw [hs0]; omega) (fun _ hk hm9 => va_runV (As := [.int (xs (Int32.toNatClampNeg (x3 + (1 : Int32))))]) (rest := [.int y0]) ⟨hx, hb, hml, hown, hts⟩ (w_X3_count l hm9) (cw_X3_count hts q1784 ⟨Nat.le_of_ble_eq_true rfl, Nat.le_of_ble_eq_true rfl⟩) (tb_pre C hw hk _) rfl rfl hl.1 rfl (lv_room (Nat.le_of_ble_eq_true rfl)) dL_law_361 ⟨show cc + 0 ≤ 601024 by omega, show ss + 0 ≤ 7293034 by omega⟩) (fun H locs hw => ?_)
        have zh2 := tcr_sz er3
        refine lv_icmp_eq (tgt := 1975) hx hb dL_law_364 (by decide) (fun c4 => ?_) (fun c4 => ?_)
        · have hm := ifT hm c4
          exact hB1975 h2 x1 x2 x3 _ _ _ _ _ hm hw (by omega) (by omega) (lv_sub hl [0, 1, 2, 3] rfl)
        · have hm := ifF hm c4
          exact hB367 h2 _ _ _ _ _ hm hw (by omega) (by omega) (lv_sub hl [] rfl)
      have hB346 : ∀ (h : CH) (x1 : Nat) (x2 : Nat) (x3 : Int32) (cc ss : Nat) (H : Heap) (locs : List Loc) (ls : Array Slot), m_L_law_346 f xs L (m_L_law_18 f xs L n18) h x1 x2 x3 = some (1, u9) → CW D dA A s h H locs → cc + u.1 = h.1 → ss + u.2.1 = h.2.1 → lv_has ls 4 [(0, .ref b), (1, .ref x1), (2, .ref x2), (3, .int x3)] → W p l e room_1 s m #[Value.ref b] below meth c H locs cc ss QQ (F0 m 346 ls []) := by
        intro h x1 x2 x3 cc ss H locs ls hm hw hcc hss hl
        have hmo := mo_L_law_346 (mo_L_law_18 n18) h x1 x2 x3 _ hm
        have sb_ : h.1 ≤ u9.1 := hmo.1
        have tb_ : h.2.1 ≤ u9.2.1 := hmo.2.1
        rw [m_L_law_346] at hm
        refine lv_aload_n hx hb dL_law_346 rfl (lv_at hl 1 rfl) ?_
        refine lv_aload_n hx hb dL_law_347 rfl (lv_at hl 0 rfl) ?_
        refine lv_iload_n hx hb dL_law_348 rfl (lv_at hl 3 rfl) ?_
        refine lv_iconst (v := 1) hx hb dL_law_349 (by decide) ?_
        refine lv_iadd hx hb dL_law_350 ?_
        obtain ⟨g1, hm⟩ := gdE hm
        refine va_sld hx hb hX hbl hbA hw.2.2.1 (ix_in g1) dL_law_351 ?_
        obtain ⟨g2, hm⟩ := gdE hm
        obtain ⟨r4, h3, er4, hm⟩ := bd2E hm
        have lh3 := mo_X0_count er4
        have ph3 : h.1 ≤ h3.1 := lh3.1
        have qh3 : h.2.1 ≤ h3.2.1 := lh3.2.1
        have hmo := mo_L_law_355 (mo_L_law_18 n18)  h3 x1 x2 x3 r4 _ hm
        have sh3 : h3.1 ≤ u9.1 := hmo.1
        have th3 : h3.2.1 ≤ u9.2.1 := hmo.2.1
        refine cg_calli hw lh3 (va_runV (As := [.int (xs (Int32.toNatClampNeg (x3 + (1 : Int32))))]) (rest := []) ⟨hx, hb, hml, hown, hts⟩ (w_X0_count l er4) (cw_X0_count hts q876 ⟨Nat.le_of_ble_eq_true rfl, Nat.le_of_ble_eq_true rfl⟩) (cg_preV C hw g2 rfl _) rfl rfl hl.1 rfl (lv_room (Nat.le_of_ble_eq_true rfl)) dL_law_352 ⟨show cc + (h3.1 - h.1) ≤ 601024 by omega, show ss + (h3.2.1 - h.2.1) ≤ 7293034 by omega⟩) (fun H locs hw => ?_)
        exact hB355 h3 x1 x2 x3 r4 _ _ _ _ _ hm hw (by omega) (by omega) (lv_sub hl [0, 1, 2, 3] rfl)
      have hB388 : ∀ (h : CH) (x1 : Nat) (x2 : Nat) (x3 : Int32) (y0 : Int32) (cc ss : Nat) (H : Heap) (locs : List Loc) (ls : Array Slot), m_L_law_388 f xs L (m_L_law_18 f xs L n18) h x1 x2 x3 y0 = some (1, u9) → CW D dA A s h H locs → cc + u.1 = h.1 → ss + u.2.1 = h.2.1 → lv_has ls 4 [(0, .ref b), (1, .ref x1), (2, .ref x2), (3, .int x3)] → W p l e room_1 s m #[Value.ref b] below meth c H locs cc ss QQ (F0 m 388 ls [.int y0]) := by
        intro h x1 x2 x3 y0 cc ss H locs ls hm hw hcc hss hl
        have hmo := mo_L_law_388 (mo_L_law_18 n18) h x1 x2 x3 y0 _ hm
        have sb_ : h.1 ≤ u9.1 := hmo.1
        have tb_ : h.2.1 ≤ u9.2.1 := hmo.2.1
        rw [m_L_law_388] at hm
        refine lv_aload_n hx hb dL_law_388 rfl (lv_at hl 2 rfl) ?_
        refine lv_aload_n hx hb dL_law_389 rfl (lv_at hl 0 rfl) ?_
        refine lv_iload_n hx hb dL_law_390 rfl (lv_at hl 3 rfl) ?_
        refine lv_iconst (v := 1) hx hb dL_law_391 (by decide) ?_
        refine lv_iadd hx hb dL_law_392 ?_
        obtain ⟨g1, hm⟩ := gdE hm
        refine va_sld hx hb hX hbl hbA hw.2.2.1 (ix_in g1) dL_law_393 ?_
        refine lv_aload_n hx hb dL_law_394 rfl (lv_at hl 0 rfl) ?_
        refine lv_iload_n hx hb dL_law_395 rfl (lv_at hl 3 rfl) ?_
        refine lv_iconst (v := 2) hx hb dL_law_396 (by decide) ?_
        refine lv_iadd hx hb dL_law_397 ?_
        obtain ⟨g2, hm⟩ := gdE hm
        refine va_sld hx hb hX hbl hbA hw.2.2.1 (ix_in g2) dL_law_398 ?_
        refine lv_aload_n hx hb dL_law_399 rfl (lv_at hl 0 rfl) ?_
        refine lv_iload_n hx hb dL_law_400 rfl (lv_at hl 3 rfl) ?_
        refine lv_iconst (v := 3) hx hb dL_law_401 (by decide) ?_
        refine lv_iadd hx hb dL_law_402 ?_
        obtain ⟨g3, hm⟩ := gdE hm
        refine va_sld hx hb hX hbl hbA hw.2.2.1 (ix_in g3) dL_law_403 ?_
        obtain ⟨r5, h4, er5, hm⟩ := bd2E hm
        refine cg_tci C hw er5 (show cc + s.heap.size = h.1 by rw [hs0]; omega) (fun _ hk hm9 => va_runV (As := [.int (xs (Int32.toNatClampNeg (x3 + (1 : Int32)))), .int (xs (Int32.toNatClampNeg (x3 + (2 : Int32)))), .int (xs (Int32.toNatClampNeg (x3 + (3 : Int32))))]) (rest := [.int y0]) ⟨hx, hb, hml, hown, hts⟩ (w_X3_row l hm9) (cw_X3_row hts q1792 ⟨Nat.le_of_ble_eq_true rfl, Nat.le_of_ble_eq_true rfl⟩) (tb_pre C hw hk _) rfl rfl hl.1 rfl (lv_room (Nat.le_of_ble_eq_true rfl)) dL_law_404 ⟨show cc + 0 ≤ 601024 by omega, show ss + 0 ≤ 7293034 by omega⟩) (fun H locs hw => ?_)
        have zh4 := tcr_sz er5
        refine lv_icmp_eq (tgt := 1975) hx hb dL_law_407 (by decide) (fun c6 => ?_) (fun c6 => ?_)
        · have hm := ifT hm c6
          exact hB1975 h4 x1 x2 x3 _ _ _ _ _ hm hw (by omega) (by omega) (lv_sub hl [0, 1, 2, 3] rfl)
        · have hm := ifF hm c6
          exact hB410 h4 _ _ _ _ _ hm hw (by omega) (by omega) (lv_sub hl [] rfl)
      have hB369 : ∀ (h : CH) (x1 : Nat) (x2 : Nat) (x3 : Int32) (cc ss : Nat) (H : Heap) (locs : List Loc) (ls : Array Slot), m_L_law_369 f xs L (m_L_law_18 f xs L n18) h x1 x2 x3 = some (1, u9) → CW D dA A s h H locs → cc + u.1 = h.1 → ss + u.2.1 = h.2.1 → lv_has ls 4 [(0, .ref b), (1, .ref x1), (2, .ref x2), (3, .int x3)] → W p l e room_1 s m #[Value.ref b] below meth c H locs cc ss QQ (F0 m 369 ls []) := by
        intro h x1 x2 x3 cc ss H locs ls hm hw hcc hss hl
        have hmo := mo_L_law_369 (mo_L_law_18 n18) h x1 x2 x3 _ hm
        have sb_ : h.1 ≤ u9.1 := hmo.1
        have tb_ : h.2.1 ≤ u9.2.1 := hmo.2.1
        rw [m_L_law_369] at hm
        refine lv_aload_n hx hb dL_law_369 rfl (lv_at hl 1 rfl) ?_
        refine lv_aload_n hx hb dL_law_370 rfl (lv_at hl 0 rfl) ?_
        refine lv_iload_n hx hb dL_law_371 rfl (lv_at hl 3 rfl) ?_
        refine lv_iconst (v := 1) hx hb dL_law_372 (by decide) ?_
        refine lv_iadd hx hb dL_law_373 ?_
        obtain ⟨g1, hm⟩ := gdE hm
        refine va_sld hx hb hX hbl hbA hw.2.2.1 (ix_in g1) dL_law_374 ?_
        refine lv_aload_n hx hb dL_law_375 rfl (lv_at hl 0 rfl) ?_
        refine lv_iload_n hx hb dL_law_376 rfl (lv_at hl 3 rfl) ?_
        refine lv_iconst (v := 2) hx hb dL_law_377 (by decide) ?_
        refine lv_iadd hx hb dL_law_378 ?_
        obtain ⟨g2, hm⟩ := gdE hm
        refine va_sld hx hb hX hbl hbA hw.2.2.1 (ix_in g2) dL_law_379 ?_
        refine lv_aload_n hx hb dL_law_380 rfl (lv_at hl 0 rfl) ?_
        refine lv_iload_n hx hb dL_law_381 rfl (lv_at hl 3 rfl) ?_
        refine lv_iconst (v := 3) hx hb dL_law_382 (by decide) ?_
        refine lv_iadd hx hb dL_law_383 ?_
        obtain ⟨g3, hm⟩ := gdE hm
        refine va_sld hx hb hX hbl hbA hw.2.2.1 (ix_in g3) dL_law_384 ?_
        obtain ⟨g4, hm⟩ := gdE hm
        obtain ⟨r6, h5, er6, hm⟩ := bd2E hm
        have lh5 := mo_X0_row er6
        have ph5 : h.1 ≤ h5.1 := lh5.1
        have qh5 : h.2.1 ≤ h5.2.1 := lh5.2.1
        have hmo := mo_L_law_388 (mo_L_law_18 n18)  h5 x1 x2 x3 r6 _ hm
        have sh5 : h5.1 ≤ u9.1 := hmo.1
        have th5 : h5.2.1 ≤ u9.2.1 := hmo.2.1
        refine cg_calli hw lh5 (va_runV (As := [.int (xs (Int32.toNatClampNeg (x3 + (1 : Int32)))), .int (xs (Int32.toNatClampNeg (x3 + (2 : Int32)))), .int (xs (Int32.toNatClampNeg (x3 + (3 : Int32))))]) (rest := []) ⟨hx, hb, hml, hown, hts⟩ (w_X0_row l er6) (cw_X0_row hts q884 ⟨Nat.le_of_ble_eq_true rfl, Nat.le_of_ble_eq_true rfl⟩) (cg_preV C hw g4 rfl _) rfl rfl hl.1 rfl (lv_room (Nat.le_of_ble_eq_true rfl)) dL_law_385 ⟨show cc + (h5.1 - h.1) ≤ 601024 by omega, show ss + (h5.2.1 - h.2.1) ≤ 7293034 by omega⟩) (fun H locs hw => ?_)
        exact hB388 h5 x1 x2 x3 r6 _ _ _ _ _ hm hw (by omega) (by omega) (lv_sub hl [0, 1, 2, 3] rfl)
      have hB421 : ∀ (h : CH) (x1 : Nat) (x2 : Nat) (x3 : Int32) (y0 : Int32) (cc ss : Nat) (H : Heap) (locs : List Loc) (ls : Array Slot), m_L_law_421 f xs L (m_L_law_18 f xs L n18) h x1 x2 x3 y0 = some (1, u9) → CW D dA A s h H locs → cc + u.1 = h.1 → ss + u.2.1 = h.2.1 → lv_has ls 4 [(0, .ref b), (1, .ref x1), (2, .ref x2), (3, .int x3)] → W p l e room_1 s m #[Value.ref b] below meth c H locs cc ss QQ (F0 m 421 ls [.int y0]) := by
        intro h x1 x2 x3 y0 cc ss H locs ls hm hw hcc hss hl
        have hmo := mo_L_law_421 (mo_L_law_18 n18) h x1 x2 x3 y0 _ hm
        have sb_ : h.1 ≤ u9.1 := hmo.1
        have tb_ : h.2.1 ≤ u9.2.1 := hmo.2.1
        rw [m_L_law_421] at hm
        refine lv_aload_n hx hb dL_law_421 rfl (lv_at hl 2 rfl) ?_
        refine lv_aload_n hx hb dL_law_422 rfl (lv_at hl 0 rfl) ?_
        refine lv_iload_n hx hb dL_law_423 rfl (lv_at hl 3 rfl) ?_
        refine lv_iconst (v := 1) hx hb dL_law_424 (by decide) ?_
        refine lv_iadd hx hb dL_law_425 ?_
        obtain ⟨g1, hm⟩ := gdE hm
        refine va_sld hx hb hX hbl hbA hw.2.2.1 (ix_in g1) dL_law_426 ?_
        obtain ⟨r3, h2, er3, hm⟩ := bd2E hm
        refine cg_tci C hw er3 (show cc + s.heap.size = h.1 by rw [hs0]; omega) (fun _ hk hm9 => va_runV (As := [.int (xs (Int32.toNatClampNeg (x3 + (1 : Int32))))]) (rest := [.int y0]) ⟨hx, hb, hml, hown, hts⟩ (w_X3_over l hm9) (cw_X3_over hts q1823 ⟨Nat.le_of_ble_eq_true rfl, Nat.le_of_ble_eq_true rfl⟩) (tb_pre C hw hk _) rfl rfl hl.1 rfl (lv_room (Nat.le_of_ble_eq_true rfl)) dL_law_427 ⟨show cc + 0 ≤ 601024 by omega, show ss + 0 ≤ 7293034 by omega⟩) (fun H locs hw => ?_)
        have zh2 := tcr_sz er3
        refine lv_icmp_eq (tgt := 1975) hx hb dL_law_430 (by decide) (fun c4 => ?_) (fun c4 => ?_)
        · have hm := ifT hm c4
          exact hB1975 h2 x1 x2 x3 _ _ _ _ _ hm hw (by omega) (by omega) (lv_sub hl [0, 1, 2, 3] rfl)
        · have hm := ifF hm c4
          exact hB433 h2 _ _ _ _ _ hm hw (by omega) (by omega) (lv_sub hl [] rfl)
      have hB412 : ∀ (h : CH) (x1 : Nat) (x2 : Nat) (x3 : Int32) (cc ss : Nat) (H : Heap) (locs : List Loc) (ls : Array Slot), m_L_law_412 f xs L (m_L_law_18 f xs L n18) h x1 x2 x3 = some (1, u9) → CW D dA A s h H locs → cc + u.1 = h.1 → ss + u.2.1 = h.2.1 → lv_has ls 4 [(0, .ref b), (1, .ref x1), (2, .ref x2), (3, .int x3)] → W p l e room_1 s m #[Value.ref b] below meth c H locs cc ss QQ (F0 m 412 ls []) := by
        intro h x1 x2 x3 cc ss H locs ls hm hw hcc hss hl
        have hmo := mo_L_law_412 (mo_L_law_18 n18) h x1 x2 x3 _ hm
        have sb_ : h.1 ≤ u9.1 := hmo.1
        have tb_ : h.2.1 ≤ u9.2.1 := hmo.2.1
        rw [m_L_law_412] at hm
        refine lv_aload_n hx hb dL_law_412 rfl (lv_at hl 1 rfl) ?_
        refine lv_aload_n hx hb dL_law_413 rfl (lv_at hl 0 rfl) ?_
        refine lv_iload_n hx hb dL_law_414 rfl (lv_at hl 3 rfl) ?_
        refine lv_iconst (v := 1) hx hb dL_law_415 (by decide) ?_
        refine lv_iadd hx hb dL_law_416 ?_
        obtain ⟨g1, hm⟩ := gdE hm
        refine va_sld hx hb hX hbl hbA hw.2.2.1 (ix_in g1) dL_law_417 ?_
        obtain ⟨g2, hm⟩ := gdE hm
        obtain ⟨r4, h3, er4, hm⟩ := bd2E hm
        have lh3 := mo_X0_over er4
        have ph3 : h.1 ≤ h3.1 := lh3.1
        have qh3 : h.2.1 ≤ h3.2.1 := lh3.2.1
        have hmo := mo_L_law_421 (mo_L_law_18 n18)  h3 x1 x2 x3 r4 _ hm
        have sh3 : h3.1 ≤ u9.1 := hmo.1
        have th3 : h3.2.1 ≤ u9.2.1 := hmo.2.1
        refine cg_calli hw lh3 (va_runV (As := [.int (xs (Int32.toNatClampNeg (x3 + (1 : Int32))))]) (rest := []) ⟨hx, hb, hml, hown, hts⟩ (w_X0_over l er4) (cw_X0_over hts q941 ⟨Nat.le_of_ble_eq_true rfl, Nat.le_of_ble_eq_true rfl⟩) (cg_preV C hw g2 rfl _) rfl rfl hl.1 rfl (lv_room (Nat.le_of_ble_eq_true rfl)) dL_law_418 ⟨show cc + (h3.1 - h.1) ≤ 601024 by omega, show ss + (h3.2.1 - h.2.1) ≤ 7293034 by omega⟩) (fun H locs hw => ?_)
        exact hB421 h3 x1 x2 x3 r4 _ _ _ _ _ hm hw (by omega) (by omega) (lv_sub hl [0, 1, 2, 3] rfl)
      have hB454 : ∀ (h : CH) (x1 : Nat) (x2 : Nat) (x3 : Int32) (y0 : Int64) (cc ss : Nat) (H : Heap) (locs : List Loc) (ls : Array Slot), m_L_law_454 f xs L (m_L_law_18 f xs L n18) h x1 x2 x3 y0 = some (1, u9) → CW D dA A s h H locs → cc + u.1 = h.1 → ss + u.2.1 = h.2.1 → lv_has ls 4 [(0, .ref b), (1, .ref x1), (2, .ref x2), (3, .int x3)] → W p l e room_1 s m #[Value.ref b] below meth c H locs cc ss QQ (F0 m 454 ls [.long y0]) := by
        intro h x1 x2 x3 y0 cc ss H locs ls hm hw hcc hss hl
        have hmo := mo_L_law_454 (mo_L_law_18 n18) h x1 x2 x3 y0 _ hm
        have sb_ : h.1 ≤ u9.1 := hmo.1
        have tb_ : h.2.1 ≤ u9.2.1 := hmo.2.1
        rw [m_L_law_454] at hm
        refine lv_aload_n hx hb dL_law_454 rfl (lv_at hl 2 rfl) ?_
        refine lv_aload_n hx hb dL_law_455 rfl (lv_at hl 0 rfl) ?_
        refine lv_iload_n hx hb dL_law_456 rfl (lv_at hl 3 rfl) ?_
        refine lv_iconst (v := 1) hx hb dL_law_457 (by decide) ?_
        refine lv_iadd hx hb dL_law_458 ?_
        obtain ⟨g1, hm⟩ := gdE hm
        refine va_sld hx hb hX hbl hbA hw.2.2.1 (ix_in g1) dL_law_459 ?_
        refine lv_aload_n hx hb dL_law_460 rfl (lv_at hl 0 rfl) ?_
        refine lv_iload_n hx hb dL_law_461 rfl (lv_at hl 3 rfl) ?_
        refine lv_iconst (v := 2) hx hb dL_law_462 (by decide) ?_
        refine lv_iadd hx hb dL_law_463 ?_
        obtain ⟨g2, hm⟩ := gdE hm
        refine va_sld hx hb hX hbl hbA hw.2.2.1 (ix_in g2) dL_law_464 ?_
        refine lv_aload_n hx hb dL_law_465 rfl (lv_at hl 0 rfl) ?_
        refine lv_iload_n hx hb dL_law_466 rfl (lv_at hl 3 rfl) ?_
        refine lv_iconst (v := 3) hx hb dL_law_467 (by decide) ?_
        refine lv_iadd hx hb dL_law_468 ?_
        obtain ⟨g3, hm⟩ := gdE hm
        refine va_sld hx hb hX hbl hbA hw.2.2.1 (ix_in g3) dL_law_469 ?_
        obtain ⟨r5, h4, er5, hm⟩ := bd2E hm
        refine cg_tcl C hw er5 (show cc + s.heap.size = h.1 by rw [hs0]; omega) (fun _ hk hm9 => va_runV (As := [.int (xs (Int32.toNatClampNeg (x3 + (1 : Int32)))), .int (xs (Int32.toNatClampNeg (x3 + (2 : Int32)))), .int (xs (Int32.toNatClampNeg (x3 + (3 : Int32))))]) (rest := [.long y0]) ⟨hx, hb, hml, hown, hts⟩ (w_X3_hermite l hm9) (cw_X3_hermite hts q1827 ⟨Nat.le_of_ble_eq_true rfl, Nat.le_of_ble_eq_true rfl⟩) (tb_pre C hw hk _) rfl rfl hl.1 rfl (lv_room (Nat.le_of_ble_eq_true rfl)) dL_law_470 ⟨show cc + 0 ≤ 601024 by omega, show ss + 0 ≤ 7293034 by omega⟩) (fun H locs hw => ?_)
        have zh4 := tcr_sz er5
        refine lc_eq (tgt := 1975) hx hb dL_law_473 dL_law_474 (by decide) (fun c6 => ?_) (fun c6 => ?_)
        · have hm := ifT hm c6
          exact hB1975 h4 x1 x2 x3 _ _ _ _ _ hm hw (by omega) (by omega) (lv_sub hl [0, 1, 2, 3] rfl)
        · have hm := ifF hm c6
          exact hB477 h4 _ _ _ _ _ hm hw (by omega) (by omega) (lv_sub hl [] rfl)
      have hB435 : ∀ (h : CH) (x1 : Nat) (x2 : Nat) (x3 : Int32) (cc ss : Nat) (H : Heap) (locs : List Loc) (ls : Array Slot), m_L_law_435 f xs L (m_L_law_18 f xs L n18) h x1 x2 x3 = some (1, u9) → CW D dA A s h H locs → cc + u.1 = h.1 → ss + u.2.1 = h.2.1 → lv_has ls 4 [(0, .ref b), (1, .ref x1), (2, .ref x2), (3, .int x3)] → W p l e room_1 s m #[Value.ref b] below meth c H locs cc ss QQ (F0 m 435 ls []) := by
        intro h x1 x2 x3 cc ss H locs ls hm hw hcc hss hl
        have hmo := mo_L_law_435 (mo_L_law_18 n18) h x1 x2 x3 _ hm
        have sb_ : h.1 ≤ u9.1 := hmo.1
        have tb_ : h.2.1 ≤ u9.2.1 := hmo.2.1
        rw [m_L_law_435] at hm
        refine lv_aload_n hx hb dL_law_435 rfl (lv_at hl 1 rfl) ?_
        refine lv_aload_n hx hb dL_law_436 rfl (lv_at hl 0 rfl) ?_
        refine lv_iload_n hx hb dL_law_437 rfl (lv_at hl 3 rfl) ?_
        refine lv_iconst (v := 1) hx hb dL_law_438 (by decide) ?_
        refine lv_iadd hx hb dL_law_439 ?_
        obtain ⟨g1, hm⟩ := gdE hm
        refine va_sld hx hb hX hbl hbA hw.2.2.1 (ix_in g1) dL_law_440 ?_
        refine lv_aload_n hx hb dL_law_441 rfl (lv_at hl 0 rfl) ?_
        refine lv_iload_n hx hb dL_law_442 rfl (lv_at hl 3 rfl) ?_
        refine lv_iconst (v := 2) hx hb dL_law_443 (by decide) ?_
        refine lv_iadd hx hb dL_law_444 ?_
        obtain ⟨g2, hm⟩ := gdE hm
        refine va_sld hx hb hX hbl hbA hw.2.2.1 (ix_in g2) dL_law_445 ?_
        refine lv_aload_n hx hb dL_law_446 rfl (lv_at hl 0 rfl) ?_
        refine lv_iload_n hx hb dL_law_447 rfl (lv_at hl 3 rfl) ?_
        refine lv_iconst (v := 3) hx hb dL_law_448 (by decide) ?_
        refine lv_iadd hx hb dL_law_449 ?_
        obtain ⟨g3, hm⟩ := gdE hm
        refine va_sld hx hb hX hbl hbA hw.2.2.1 (ix_in g3) dL_law_450 ?_
        obtain ⟨g4, hm⟩ := gdE hm
        obtain ⟨r6, h5, er6, hm⟩ := bd2E hm
        have lh5 := mo_X0_hermite er6
        have ph5 : h.1 ≤ h5.1 := lh5.1
        have qh5 : h.2.1 ≤ h5.2.1 := lh5.2.1
        have hmo := mo_L_law_454 (mo_L_law_18 n18)  h5 x1 x2 x3 r6 _ hm
        have sh5 : h5.1 ≤ u9.1 := hmo.1
        have th5 : h5.2.1 ≤ u9.2.1 := hmo.2.1
        refine cg_calll hw lh5 (va_runV (As := [.int (xs (Int32.toNatClampNeg (x3 + (1 : Int32)))), .int (xs (Int32.toNatClampNeg (x3 + (2 : Int32)))), .int (xs (Int32.toNatClampNeg (x3 + (3 : Int32))))]) (rest := []) ⟨hx, hb, hml, hown, hts⟩ (w_X0_hermite l er6) (cw_X0_hermite hts q953 ⟨Nat.le_of_ble_eq_true rfl, Nat.le_of_ble_eq_true rfl⟩) (cg_preV C hw g4 rfl _) rfl rfl hl.1 rfl (lv_room (Nat.le_of_ble_eq_true rfl)) dL_law_451 ⟨show cc + (h5.1 - h.1) ≤ 601024 by omega, show ss + (h5.2.1 - h.2.1) ≤ 7293034 by omega⟩) (fun H locs hw => ?_)
        exact hB454 h5 x1 x2 x3 r6 _ _ _ _ _ hm hw (by omega) (by omega) (lv_sub hl [0, 1, 2, 3] rfl)
      have hB488 : ∀ (h : CH) (x1 : Nat) (x2 : Nat) (x3 : Int32) (y0 : Int32) (cc ss : Nat) (H : Heap) (locs : List Loc) (ls : Array Slot), m_L_law_488 f xs L (m_L_law_18 f xs L n18) h x1 x2 x3 y0 = some (1, u9) → CW D dA A s h H locs → cc + u.1 = h.1 → ss + u.2.1 = h.2.1 → lv_has ls 4 [(0, .ref b), (1, .ref x1), (2, .ref x2), (3, .int x3)] → W p l e room_1 s m #[Value.ref b] below meth c H locs cc ss QQ (F0 m 488 ls [.int y0]) := by
        intro h x1 x2 x3 y0 cc ss H locs ls hm hw hcc hss hl
        have hmo := mo_L_law_488 (mo_L_law_18 n18) h x1 x2 x3 y0 _ hm
        have sb_ : h.1 ≤ u9.1 := hmo.1
        have tb_ : h.2.1 ≤ u9.2.1 := hmo.2.1
        rw [m_L_law_488] at hm
        refine lv_aload_n hx hb dL_law_488 rfl (lv_at hl 2 rfl) ?_
        refine lv_aload_n hx hb dL_law_489 rfl (lv_at hl 0 rfl) ?_
        refine lv_iload_n hx hb dL_law_490 rfl (lv_at hl 3 rfl) ?_
        refine lv_iconst (v := 1) hx hb dL_law_491 (by decide) ?_
        refine lv_iadd hx hb dL_law_492 ?_
        obtain ⟨g1, hm⟩ := gdE hm
        refine va_sld hx hb hX hbl hbA hw.2.2.1 (ix_in g1) dL_law_493 ?_
        obtain ⟨r3, h2, er3, hm⟩ := bd2E hm
        refine cg_tci C hw er3 (show cc + s.heap.size = h.1 by rw [hs0]; omega) (fun _ hk hm9 => va_runV (As := [.int (xs (Int32.toNatClampNeg (x3 + (1 : Int32))))]) (rest := [.int y0]) ⟨hx, hb, hml, hown, hts⟩ (w_X3_steps l hm9) (cw_X3_steps hts q1857 ⟨Nat.le_of_ble_eq_true rfl, Nat.le_of_ble_eq_true rfl⟩) (tb_pre C hw hk _) rfl rfl hl.1 rfl (lv_room (Nat.le_of_ble_eq_true rfl)) dL_law_494 ⟨show cc + 0 ≤ 601024 by omega, show ss + 0 ≤ 7293034 by omega⟩) (fun H locs hw => ?_)
        have zh2 := tcr_sz er3
        refine lv_icmp_eq (tgt := 1975) hx hb dL_law_497 (by decide) (fun c4 => ?_) (fun c4 => ?_)
        · have hm := ifT hm c4
          exact hB1975 h2 x1 x2 x3 _ _ _ _ _ hm hw (by omega) (by omega) (lv_sub hl [0, 1, 2, 3] rfl)
        · have hm := ifF hm c4
          exact hB500 h2 _ _ _ _ _ hm hw (by omega) (by omega) (lv_sub hl [] rfl)
      have hB479 : ∀ (h : CH) (x1 : Nat) (x2 : Nat) (x3 : Int32) (cc ss : Nat) (H : Heap) (locs : List Loc) (ls : Array Slot), m_L_law_479 f xs L (m_L_law_18 f xs L n18) h x1 x2 x3 = some (1, u9) → CW D dA A s h H locs → cc + u.1 = h.1 → ss + u.2.1 = h.2.1 → lv_has ls 4 [(0, .ref b), (1, .ref x1), (2, .ref x2), (3, .int x3)] → W p l e room_1 s m #[Value.ref b] below meth c H locs cc ss QQ (F0 m 479 ls []) := by
        intro h x1 x2 x3 cc ss H locs ls hm hw hcc hss hl
        have hmo := mo_L_law_479 (mo_L_law_18 n18) h x1 x2 x3 _ hm
        have sb_ : h.1 ≤ u9.1 := hmo.1
        have tb_ : h.2.1 ≤ u9.2.1 := hmo.2.1
        rw [m_L_law_479] at hm
        refine lv_aload_n hx hb dL_law_479 rfl (lv_at hl 1 rfl) ?_
        refine lv_aload_n hx hb dL_law_480 rfl (lv_at hl 0 rfl) ?_
        refine lv_iload_n hx hb dL_law_481 rfl (lv_at hl 3 rfl) ?_
        refine lv_iconst (v := 1) hx hb dL_law_482 (by decide) ?_
        refine lv_iadd hx hb dL_law_483 ?_
        obtain ⟨g1, hm⟩ := gdE hm
        refine va_sld hx hb hX hbl hbA hw.2.2.1 (ix_in g1) dL_law_484 ?_
        obtain ⟨g2, hm⟩ := gdE hm
        obtain ⟨r4, h3, er4, hm⟩ := bd2E hm
        have lh3 := mo_X0_steps er4
        have ph3 : h.1 ≤ h3.1 := lh3.1
        have qh3 : h.2.1 ≤ h3.2.1 := lh3.2.1
        have hmo := mo_L_law_488 (mo_L_law_18 n18)  h3 x1 x2 x3 r4 _ hm
        have sh3 : h3.1 ≤ u9.1 := hmo.1
        have th3 : h3.2.1 ≤ u9.2.1 := hmo.2.1
        refine cg_calli hw lh3 (va_runV (As := [.int (xs (Int32.toNatClampNeg (x3 + (1 : Int32))))]) (rest := []) ⟨hx, hb, hml, hown, hts⟩ (w_X0_steps l er4) (cw_X0_steps hts q1041 ⟨Nat.le_of_ble_eq_true rfl, Nat.le_of_ble_eq_true rfl⟩) (cg_preV C hw g2 rfl _) rfl rfl hl.1 rfl (lv_room (Nat.le_of_ble_eq_true rfl)) dL_law_485 ⟨show cc + (h3.1 - h.1) ≤ 601024 by omega, show ss + (h3.2.1 - h.2.1) ≤ 7293034 by omega⟩) (fun H locs hw => ?_)
        exact hB488 h3 x1 x2 x3 r4 _ _ _ _ _ hm hw (by omega) (by omega) (lv_sub hl [0, 1, 2, 3] rfl)
      have hB521 : ∀ (h : CH) (x1 : Nat) (x2 : Nat) (x3 : Int32) (y0 : Int32) (cc ss : Nat) (H : Heap) (locs : List Loc) (ls : Array Slot), m_L_law_521 f xs L (m_L_law_18 f xs L n18) h x1 x2 x3 y0 = some (1, u9) → CW D dA A s h H locs → cc + u.1 = h.1 → ss + u.2.1 = h.2.1 → lv_has ls 4 [(0, .ref b), (1, .ref x1), (2, .ref x2), (3, .int x3)] → W p l e room_1 s m #[Value.ref b] below meth c H locs cc ss QQ (F0 m 521 ls [.int y0]) := by
        intro h x1 x2 x3 y0 cc ss H locs ls hm hw hcc hss hl
        have hmo := mo_L_law_521 (mo_L_law_18 n18) h x1 x2 x3 y0 _ hm
        have sb_ : h.1 ≤ u9.1 := hmo.1
        have tb_ : h.2.1 ≤ u9.2.1 := hmo.2.1
        rw [m_L_law_521] at hm
        refine lv_aload_n hx hb dL_law_521 rfl (lv_at hl 2 rfl) ?_
        refine lv_aload_n hx hb dL_law_522 rfl (lv_at hl 0 rfl) ?_
        refine lv_iload_n hx hb dL_law_523 rfl (lv_at hl 3 rfl) ?_
        refine lv_iconst (v := 1) hx hb dL_law_524 (by decide) ?_
        refine lv_iadd hx hb dL_law_525 ?_
        obtain ⟨g1, hm⟩ := gdE hm
        refine va_sld hx hb hX hbl hbA hw.2.2.1 (ix_in g1) dL_law_526 ?_
        refine lv_aload_n hx hb dL_law_527 rfl (lv_at hl 0 rfl) ?_
        refine lv_iload_n hx hb dL_law_528 rfl (lv_at hl 3 rfl) ?_
        refine lv_iconst (v := 2) hx hb dL_law_529 (by decide) ?_
        refine lv_iadd hx hb dL_law_530 ?_
        obtain ⟨g2, hm⟩ := gdE hm
        refine va_sld hx hb hX hbl hbA hw.2.2.1 (ix_in g2) dL_law_531 ?_
        refine lv_aload_n hx hb dL_law_532 rfl (lv_at hl 0 rfl) ?_
        refine lv_iload_n hx hb dL_law_533 rfl (lv_at hl 3 rfl) ?_
        refine lv_iconst (v := 3) hx hb dL_law_534 (by decide) ?_
        refine lv_iadd hx hb dL_law_535 ?_
        obtain ⟨g3, hm⟩ := gdE hm
        refine va_sld hx hb hX hbl hbA hw.2.2.1 (ix_in g3) dL_law_536 ?_
        obtain ⟨r5, h4, er5, hm⟩ := bd2E hm
        refine cg_tci C hw er5 (show cc + s.heap.size = h.1 by rw [hs0]; omega) (fun _ hk hm9 => va_runV (As := [.int (xs (Int32.toNatClampNeg (x3 + (1 : Int32)))), .int (xs (Int32.toNatClampNeg (x3 + (2 : Int32)))), .int (xs (Int32.toNatClampNeg (x3 + (3 : Int32))))]) (rest := [.int y0]) ⟨hx, hb, hml, hown, hts⟩ (w_X3_step_2 l hm9) (cw_X3_step_2 hts q1861 ⟨Nat.le_of_ble_eq_true rfl, Nat.le_of_ble_eq_true rfl⟩) (tb_pre C hw hk _) rfl rfl hl.1 rfl (lv_room (Nat.le_of_ble_eq_true rfl)) dL_law_537 ⟨show cc + 0 ≤ 601024 by omega, show ss + 0 ≤ 7293034 by omega⟩) (fun H locs hw => ?_)
        have zh4 := tcr_sz er5
        refine lv_icmp_eq (tgt := 1975) hx hb dL_law_540 (by decide) (fun c6 => ?_) (fun c6 => ?_)
        · have hm := ifT hm c6
          exact hB1975 h4 x1 x2 x3 _ _ _ _ _ hm hw (by omega) (by omega) (lv_sub hl [0, 1, 2, 3] rfl)
        · have hm := ifF hm c6
          exact hB543 h4 _ _ _ _ _ hm hw (by omega) (by omega) (lv_sub hl [] rfl)
      have hB502 : ∀ (h : CH) (x1 : Nat) (x2 : Nat) (x3 : Int32) (cc ss : Nat) (H : Heap) (locs : List Loc) (ls : Array Slot), m_L_law_502 f xs L (m_L_law_18 f xs L n18) h x1 x2 x3 = some (1, u9) → CW D dA A s h H locs → cc + u.1 = h.1 → ss + u.2.1 = h.2.1 → lv_has ls 4 [(0, .ref b), (1, .ref x1), (2, .ref x2), (3, .int x3)] → W p l e room_1 s m #[Value.ref b] below meth c H locs cc ss QQ (F0 m 502 ls []) := by
        intro h x1 x2 x3 cc ss H locs ls hm hw hcc hss hl
        have hmo := mo_L_law_502 (mo_L_law_18 n18) h x1 x2 x3 _ hm
        have sb_ : h.1 ≤ u9.1 := hmo.1
        have tb_ : h.2.1 ≤ u9.2.1 := hmo.2.1
        rw [m_L_law_502] at hm
        refine lv_aload_n hx hb dL_law_502 rfl (lv_at hl 1 rfl) ?_
        refine lv_aload_n hx hb dL_law_503 rfl (lv_at hl 0 rfl) ?_
        refine lv_iload_n hx hb dL_law_504 rfl (lv_at hl 3 rfl) ?_
        refine lv_iconst (v := 1) hx hb dL_law_505 (by decide) ?_
        refine lv_iadd hx hb dL_law_506 ?_
        obtain ⟨g1, hm⟩ := gdE hm
        refine va_sld hx hb hX hbl hbA hw.2.2.1 (ix_in g1) dL_law_507 ?_
        refine lv_aload_n hx hb dL_law_508 rfl (lv_at hl 0 rfl) ?_
        refine lv_iload_n hx hb dL_law_509 rfl (lv_at hl 3 rfl) ?_
        refine lv_iconst (v := 2) hx hb dL_law_510 (by decide) ?_
        refine lv_iadd hx hb dL_law_511 ?_
        obtain ⟨g2, hm⟩ := gdE hm
        refine va_sld hx hb hX hbl hbA hw.2.2.1 (ix_in g2) dL_law_512 ?_
        refine lv_aload_n hx hb dL_law_513 rfl (lv_at hl 0 rfl) ?_
        refine lv_iload_n hx hb dL_law_514 rfl (lv_at hl 3 rfl) ?_
        refine lv_iconst (v := 3) hx hb dL_law_515 (by decide) ?_
        refine lv_iadd hx hb dL_law_516 ?_
        obtain ⟨g3, hm⟩ := gdE hm
        refine va_sld hx hb hX hbl hbA hw.2.2.1 (ix_in g3) dL_law_517 ?_
        obtain ⟨g4, hm⟩ := gdE hm
        obtain ⟨r6, h5, er6, hm⟩ := bd2E hm
        have lh5 := mo_X0_step er6
        have ph5 : h.1 ≤ h5.1 := lh5.1
        have qh5 : h.2.1 ≤ h5.2.1 := lh5.2.1
        have hmo := mo_L_law_521 (mo_L_law_18 n18)  h5 x1 x2 x3 r6 _ hm
        have sh5 : h5.1 ≤ u9.1 := hmo.1
        have th5 : h5.2.1 ≤ u9.2.1 := hmo.2.1
        refine cg_calli hw lh5 (va_runV (As := [.int (xs (Int32.toNatClampNeg (x3 + (1 : Int32)))), .int (xs (Int32.toNatClampNeg (x3 + (2 : Int32)))), .int (xs (Int32.toNatClampNeg (x3 + (3 : Int32))))]) (rest := []) ⟨hx, hb, hml, hown, hts⟩ (w_X0_step l er6) (cw_X0_step hts q1045 ⟨Nat.le_of_ble_eq_true rfl, Nat.le_of_ble_eq_true rfl⟩) (cg_preV C hw g4 rfl _) rfl rfl hl.1 rfl (lv_room (Nat.le_of_ble_eq_true rfl)) dL_law_518 ⟨show cc + (h5.1 - h.1) ≤ 601024 by omega, show ss + (h5.2.1 - h.2.1) ≤ 7293034 by omega⟩) (fun H locs hw => ?_)
        exact hB521 h5 x1 x2 x3 r6 _ _ _ _ _ hm hw (by omega) (by omega) (lv_sub hl [0, 1, 2, 3] rfl)
      have hB559 : ∀ (h : CH) (x1 : Nat) (x2 : Nat) (x3 : Int32) (y0 : Int64) (cc ss : Nat) (H : Heap) (locs : List Loc) (ls : Array Slot), m_L_law_559 f xs L (m_L_law_18 f xs L n18) h x1 x2 x3 y0 = some (1, u9) → CW D dA A s h H locs → cc + u.1 = h.1 → ss + u.2.1 = h.2.1 → lv_has ls 4 [(0, .ref b), (1, .ref x1), (2, .ref x2), (3, .int x3)] → W p l e room_1 s m #[Value.ref b] below meth c H locs cc ss QQ (F0 m 559 ls [.long y0]) := by
        intro h x1 x2 x3 y0 cc ss H locs ls hm hw hcc hss hl
        have hmo := mo_L_law_559 (mo_L_law_18 n18) h x1 x2 x3 y0 _ hm
        have sb_ : h.1 ≤ u9.1 := hmo.1
        have tb_ : h.2.1 ≤ u9.2.1 := hmo.2.1
        rw [m_L_law_559] at hm
        refine lv_aload_n hx hb dL_law_559 rfl (lv_at hl 2 rfl) ?_
        refine lv_aload_n hx hb dL_law_560 rfl (lv_at hl 0 rfl) ?_
        refine lv_iload_n hx hb dL_law_561 rfl (lv_at hl 3 rfl) ?_
        refine lv_iconst (v := 1) hx hb dL_law_562 (by decide) ?_
        refine lv_iadd hx hb dL_law_563 ?_
        obtain ⟨g1, hm⟩ := gdE hm
        refine va_sld hx hb hX hbl hbA hw.2.2.1 (ix_in g1) dL_law_564 ?_
        refine lv_aload_n hx hb dL_law_565 rfl (lv_at hl 0 rfl) ?_
        refine lv_iload_n hx hb dL_law_566 rfl (lv_at hl 3 rfl) ?_
        refine lv_iconst (v := 2) hx hb dL_law_567 (by decide) ?_
        refine lv_iadd hx hb dL_law_568 ?_
        obtain ⟨g2, hm⟩ := gdE hm
        refine va_sld hx hb hX hbl hbA hw.2.2.1 (ix_in g2) dL_law_569 ?_
        obtain ⟨r4, h3, er4, hm⟩ := bd2E hm
        refine cg_tcl C hw er4 (show cc + s.heap.size = h.1 by rw [hs0]; omega) (fun _ hk hm9 => va_runV (As := [.int (xs (Int32.toNatClampNeg (x3 + (1 : Int32)))), .int (xs (Int32.toNatClampNeg (x3 + (2 : Int32))))]) (rest := [.long y0]) ⟨hx, hb, hml, hown, hts⟩ (w_X3_volume l hm9) (cw_X3_volume hts q1867 ⟨Nat.le_of_ble_eq_true rfl, Nat.le_of_ble_eq_true rfl⟩) (tb_pre C hw hk _) rfl rfl hl.1 rfl (lv_room (Nat.le_of_ble_eq_true rfl)) dL_law_570 ⟨show cc + 0 ≤ 601024 by omega, show ss + 0 ≤ 7293034 by omega⟩) (fun H locs hw => ?_)
        have zh3 := tcr_sz er4
        refine lc_eq (tgt := 1975) hx hb dL_law_573 dL_law_574 (by decide) (fun c5 => ?_) (fun c5 => ?_)
        · have hm := ifT hm c5
          exact hB1975 h3 x1 x2 x3 _ _ _ _ _ hm hw (by omega) (by omega) (lv_sub hl [0, 1, 2, 3] rfl)
        · have hm := ifF hm c5
          exact hB577 h3 _ _ _ _ _ hm hw (by omega) (by omega) (lv_sub hl [] rfl)
      have hB545 : ∀ (h : CH) (x1 : Nat) (x2 : Nat) (x3 : Int32) (cc ss : Nat) (H : Heap) (locs : List Loc) (ls : Array Slot), m_L_law_545 f xs L (m_L_law_18 f xs L n18) h x1 x2 x3 = some (1, u9) → CW D dA A s h H locs → cc + u.1 = h.1 → ss + u.2.1 = h.2.1 → lv_has ls 4 [(0, .ref b), (1, .ref x1), (2, .ref x2), (3, .int x3)] → W p l e room_1 s m #[Value.ref b] below meth c H locs cc ss QQ (F0 m 545 ls []) := by
        intro h x1 x2 x3 cc ss H locs ls hm hw hcc hss hl
        have hmo := mo_L_law_545 (mo_L_law_18 n18) h x1 x2 x3 _ hm
        have sb_ : h.1 ≤ u9.1 := hmo.1
        have tb_ : h.2.1 ≤ u9.2.1 := hmo.2.1
        rw [m_L_law_545] at hm
        refine lv_aload_n hx hb dL_law_545 rfl (lv_at hl 1 rfl) ?_
        refine lv_aload_n hx hb dL_law_546 rfl (lv_at hl 0 rfl) ?_
        refine lv_iload_n hx hb dL_law_547 rfl (lv_at hl 3 rfl) ?_
        refine lv_iconst (v := 1) hx hb dL_law_548 (by decide) ?_
        refine lv_iadd hx hb dL_law_549 ?_
        obtain ⟨g1, hm⟩ := gdE hm
        refine va_sld hx hb hX hbl hbA hw.2.2.1 (ix_in g1) dL_law_550 ?_
        refine lv_aload_n hx hb dL_law_551 rfl (lv_at hl 0 rfl) ?_
        refine lv_iload_n hx hb dL_law_552 rfl (lv_at hl 3 rfl) ?_
        refine lv_iconst (v := 2) hx hb dL_law_553 (by decide) ?_
        refine lv_iadd hx hb dL_law_554 ?_
        obtain ⟨g2, hm⟩ := gdE hm
        refine va_sld hx hb hX hbl hbA hw.2.2.1 (ix_in g2) dL_law_555 ?_
        obtain ⟨g3, hm⟩ := gdE hm
        obtain ⟨r5, h4, er5, hm⟩ := bd2E hm
        have lh4 := mo_X0_volume er5
        have ph4 : h.1 ≤ h4.1 := lh4.1
        have qh4 : h.2.1 ≤ h4.2.1 := lh4.2.1
        have hmo := mo_L_law_559 (mo_L_law_18 n18)  h4 x1 x2 x3 r5 _ hm
        have sh4 : h4.1 ≤ u9.1 := hmo.1
        have th4 : h4.2.1 ≤ u9.2.1 := hmo.2.1
        refine cg_calll hw lh4 (va_runV (As := [.int (xs (Int32.toNatClampNeg (x3 + (1 : Int32)))), .int (xs (Int32.toNatClampNeg (x3 + (2 : Int32))))]) (rest := []) ⟨hx, hb, hml, hown, hts⟩ (w_X0_volume l er5) (cw_X0_volume hts q1052 ⟨Nat.le_of_ble_eq_true rfl, Nat.le_of_ble_eq_true rfl⟩) (cg_preV C hw g3 rfl _) rfl rfl hl.1 rfl (lv_room (Nat.le_of_ble_eq_true rfl)) dL_law_556 ⟨show cc + (h4.1 - h.1) ≤ 601024 by omega, show ss + (h4.2.1 - h.2.1) ≤ 7293034 by omega⟩) (fun H locs hw => ?_)
        exact hB559 h4 x1 x2 x3 r5 _ _ _ _ _ hm hw (by omega) (by omega) (lv_sub hl [0, 1, 2, 3] rfl)
      have hB593 : ∀ (h : CH) (x1 : Nat) (x2 : Nat) (x3 : Int32) (y0 : Int64) (cc ss : Nat) (H : Heap) (locs : List Loc) (ls : Array Slot), m_L_law_593 f xs L (m_L_law_18 f xs L n18) h x1 x2 x3 y0 = some (1, u9) → CW D dA A s h H locs → cc + u.1 = h.1 → ss + u.2.1 = h.2.1 → lv_has ls 4 [(0, .ref b), (1, .ref x1), (2, .ref x2), (3, .int x3)] → W p l e room_1 s m #[Value.ref b] below meth c H locs cc ss QQ (F0 m 593 ls [.long y0]) := by
        intro h x1 x2 x3 y0 cc ss H locs ls hm hw hcc hss hl
        have hmo := mo_L_law_593 (mo_L_law_18 n18) h x1 x2 x3 y0 _ hm
        have sb_ : h.1 ≤ u9.1 := hmo.1
        have tb_ : h.2.1 ≤ u9.2.1 := hmo.2.1
        rw [m_L_law_593] at hm
        refine lv_aload_n hx hb dL_law_593 rfl (lv_at hl 2 rfl) ?_
        refine lv_aload_n hx hb dL_law_594 rfl (lv_at hl 0 rfl) ?_
        refine lv_iload_n hx hb dL_law_595 rfl (lv_at hl 3 rfl) ?_
        refine lv_iconst (v := 1) hx hb dL_law_596 (by decide) ?_
        refine lv_iadd hx hb dL_law_597 ?_
        obtain ⟨g1, hm⟩ := gdE hm
        refine va_sld hx hb hX hbl hbA hw.2.2.1 (ix_in g1) dL_law_598 ?_
        refine lv_aload_n hx hb dL_law_599 rfl (lv_at hl 0 rfl) ?_
        refine lv_iload_n hx hb dL_law_600 rfl (lv_at hl 3 rfl) ?_
        refine lv_iconst (v := 2) hx hb dL_law_601 (by decide) ?_
        refine lv_iadd hx hb dL_law_602 ?_
        obtain ⟨g2, hm⟩ := gdE hm
        refine va_sld hx hb hX hbl hbA hw.2.2.1 (ix_in g2) dL_law_603 ?_
        obtain ⟨r4, h3, er4, hm⟩ := bd2E hm
        refine cg_tcl C hw er4 (show cc + s.heap.size = h.1 by rw [hs0]; omega) (fun _ hk hm9 => va_runV (As := [.int (xs (Int32.toNatClampNeg (x3 + (1 : Int32)))), .int (xs (Int32.toNatClampNeg (x3 + (2 : Int32))))]) (rest := [.long y0]) ⟨hx, hb, hml, hown, hts⟩ (w_X3_smith l hm9) (cw_X3_smith hts q1879 ⟨Nat.le_of_ble_eq_true rfl, Nat.le_of_ble_eq_true rfl⟩) (tb_pre C hw hk _) rfl rfl hl.1 rfl (lv_room (Nat.le_of_ble_eq_true rfl)) dL_law_604 ⟨show cc + 0 ≤ 601024 by omega, show ss + 0 ≤ 7293034 by omega⟩) (fun H locs hw => ?_)
        have zh3 := tcr_sz er4
        refine lc_eq (tgt := 1975) hx hb dL_law_607 dL_law_608 (by decide) (fun c5 => ?_) (fun c5 => ?_)
        · have hm := ifT hm c5
          exact hB1975 h3 x1 x2 x3 _ _ _ _ _ hm hw (by omega) (by omega) (lv_sub hl [0, 1, 2, 3] rfl)
        · have hm := ifF hm c5
          exact hB611 h3 _ _ _ _ _ hm hw (by omega) (by omega) (lv_sub hl [] rfl)
      have hB579 : ∀ (h : CH) (x1 : Nat) (x2 : Nat) (x3 : Int32) (cc ss : Nat) (H : Heap) (locs : List Loc) (ls : Array Slot), m_L_law_579 f xs L (m_L_law_18 f xs L n18) h x1 x2 x3 = some (1, u9) → CW D dA A s h H locs → cc + u.1 = h.1 → ss + u.2.1 = h.2.1 → lv_has ls 4 [(0, .ref b), (1, .ref x1), (2, .ref x2), (3, .int x3)] → W p l e room_1 s m #[Value.ref b] below meth c H locs cc ss QQ (F0 m 579 ls []) := by
        intro h x1 x2 x3 cc ss H locs ls hm hw hcc hss hl
        have hmo := mo_L_law_579 (mo_L_law_18 n18) h x1 x2 x3 _ hm
        have sb_ : h.1 ≤ u9.1 := hmo.1
        have tb_ : h.2.1 ≤ u9.2.1 := hmo.2.1
        rw [m_L_law_579] at hm
        refine lv_aload_n hx hb dL_law_579 rfl (lv_at hl 1 rfl) ?_
        refine lv_aload_n hx hb dL_law_580 rfl (lv_at hl 0 rfl) ?_
        refine lv_iload_n hx hb dL_law_581 rfl (lv_at hl 3 rfl) ?_
        refine lv_iconst (v := 1) hx hb dL_law_582 (by decide) ?_
        refine lv_iadd hx hb dL_law_583 ?_
        obtain ⟨g1, hm⟩ := gdE hm
        refine va_sld hx hb hX hbl hbA hw.2.2.1 (ix_in g1) dL_law_584 ?_
        refine lv_aload_n hx hb dL_law_585 rfl (lv_at hl 0 rfl) ?_
        refine lv_iload_n hx hb dL_law_586 rfl (lv_at hl 3 rfl) ?_
        refine lv_iconst (v := 2) hx hb dL_law_587 (by decide) ?_
        refine lv_iadd hx hb dL_law_588 ?_
        obtain ⟨g2, hm⟩ := gdE hm
        refine va_sld hx hb hX hbl hbA hw.2.2.1 (ix_in g2) dL_law_589 ?_
        obtain ⟨g3, hm⟩ := gdE hm
        obtain ⟨r5, h4, er5, hm⟩ := bd2E hm
        have lh4 := mo_X0_smith er5
        have ph4 : h.1 ≤ h4.1 := lh4.1
        have qh4 : h.2.1 ≤ h4.2.1 := lh4.2.1
        have hmo := mo_L_law_593 (mo_L_law_18 n18)  h4 x1 x2 x3 r5 _ hm
        have sh4 : h4.1 ≤ u9.1 := hmo.1
        have th4 : h4.2.1 ≤ u9.2.1 := hmo.2.1
        refine cg_calll hw lh4 (va_runV (As := [.int (xs (Int32.toNatClampNeg (x3 + (1 : Int32)))), .int (xs (Int32.toNatClampNeg (x3 + (2 : Int32))))]) (rest := []) ⟨hx, hb, hml, hown, hts⟩ (w_X0_smith l er5) (cw_X0_smith hts q1064 ⟨Nat.le_of_ble_eq_true rfl, Nat.le_of_ble_eq_true rfl⟩) (cg_preV C hw g3 rfl _) rfl rfl hl.1 rfl (lv_room (Nat.le_of_ble_eq_true rfl)) dL_law_590 ⟨show cc + (h4.1 - h.1) ≤ 601024 by omega, show ss + (h4.2.1 - h.2.1) ≤ 7293034 by omega⟩) (fun H locs hw => ?_)
        exact hB593 h4 x1 x2 x3 r5 _ _ _ _ _ hm hw (by omega) (by omega) (lv_sub hl [0, 1, 2, 3] rfl)
      have hB642 : ∀ (h : CH) (x1 : Nat) (x2 : Nat) (x3 : Int32) (y0 : Int32) (cc ss : Nat) (H : Heap) (locs : List Loc) (ls : Array Slot), m_L_law_642 f xs L (m_L_law_18 f xs L n18) h x1 x2 x3 y0 = some (1, u9) → CW D dA A s h H locs → cc + u.1 = h.1 → ss + u.2.1 = h.2.1 → lv_has ls 4 [(0, .ref b), (1, .ref x1), (2, .ref x2), (3, .int x3)] → W p l e room_1 s m #[Value.ref b] below meth c H locs cc ss QQ (F0 m 642 ls [.int y0]) := by
        intro h x1 x2 x3 y0 cc ss H locs ls hm hw hcc hss hl
        have hmo := mo_L_law_642 (mo_L_law_18 n18) h x1 x2 x3 y0 _ hm
        have sb_ : h.1 ≤ u9.1 := hmo.1
        have tb_ : h.2.1 ≤ u9.2.1 := hmo.2.1
        rw [m_L_law_642] at hm
        refine lv_aload_n hx hb dL_law_642 rfl (lv_at hl 2 rfl) ?_
        refine lv_aload_n hx hb dL_law_643 rfl (lv_at hl 0 rfl) ?_
        refine lv_iload_n hx hb dL_law_644 rfl (lv_at hl 3 rfl) ?_
        refine lv_iconst (v := 1) hx hb dL_law_645 (by decide) ?_
        refine lv_iadd hx hb dL_law_646 ?_
        obtain ⟨g1, hm⟩ := gdE hm
        refine va_sld hx hb hX hbl hbA hw.2.2.1 (ix_in g1) dL_law_647 ?_
        refine lv_aload_n hx hb dL_law_648 rfl (lv_at hl 0 rfl) ?_
        refine lv_iload_n hx hb dL_law_649 rfl (lv_at hl 3 rfl) ?_
        refine lv_iconst (v := 2) hx hb dL_law_650 (by decide) ?_
        refine lv_iadd hx hb dL_law_651 ?_
        obtain ⟨g2, hm⟩ := gdE hm
        refine va_sld hx hb hX hbl hbA hw.2.2.1 (ix_in g2) dL_law_652 ?_
        refine lv_aload_n hx hb dL_law_653 rfl (lv_at hl 0 rfl) ?_
        refine lv_iload_n hx hb dL_law_654 rfl (lv_at hl 3 rfl) ?_
        refine lv_iconst (v := 3) hx hb dL_law_655 (by decide) ?_
        refine lv_iadd hx hb dL_law_656 ?_
        obtain ⟨g3, hm⟩ := gdE hm
        refine va_sld hx hb hX hbl hbA hw.2.2.1 (ix_in g3) dL_law_657 ?_
        refine lv_aload_n hx hb dL_law_658 rfl (lv_at hl 0 rfl) ?_
        refine lv_iload_n hx hb dL_law_659 rfl (lv_at hl 3 rfl) ?_
        refine lv_iconst (v := 4) hx hb dL_law_660 (by decide) ?_
        refine lv_iadd hx hb dL_law_661 ?_
        obtain ⟨g4, hm⟩ := gdE hm
        refine va_sld hx hb hX hbl hbA hw.2.2.1 (ix_in g4) dL_law_662 ?_
        refine lv_aload_n hx hb dL_law_663 rfl (lv_at hl 0 rfl) ?_
        refine lv_iload_n hx hb dL_law_664 rfl (lv_at hl 3 rfl) ?_
        refine lv_iconst (v := 5) hx hb dL_law_665 (by decide) ?_
        refine lv_iadd hx hb dL_law_666 ?_
        obtain ⟨g5, hm⟩ := gdE hm
        refine va_sld hx hb hX hbl hbA hw.2.2.1 (ix_in g5) dL_law_667 ?_
        obtain ⟨r7, h6, er7, hm⟩ := bd2E hm
        refine cg_tci C hw er7 (show cc + s.heap.size = h.1 by rw [hs0]; omega) (fun _ hk hm9 => va_runV (As := [.int (xs (Int32.toNatClampNeg (x3 + (1 : Int32)))), .int (xs (Int32.toNatClampNeg (x3 + (2 : Int32)))), .int (xs (Int32.toNatClampNeg (x3 + (3 : Int32)))), .int (xs (Int32.toNatClampNeg (x3 + (4 : Int32)))), .int (xs (Int32.toNatClampNeg (x3 + (5 : Int32))))]) (rest := [.int y0]) ⟨hx, hb, hml, hown, hts⟩ (w_X3_has l hm9) (cw_X3_has hts q1887 ⟨Nat.le_of_ble_eq_true rfl, Nat.le_of_ble_eq_true rfl⟩) (tb_pre C hw hk _) rfl rfl hl.1 rfl (lv_room (Nat.le_of_ble_eq_true rfl)) dL_law_668 ⟨show cc + 0 ≤ 601024 by omega, show ss + 0 ≤ 7293034 by omega⟩) (fun H locs hw => ?_)
        have zh6 := tcr_sz er7
        refine lv_icmp_eq (tgt := 1975) hx hb dL_law_671 (by decide) (fun c8 => ?_) (fun c8 => ?_)
        · have hm := ifT hm c8
          exact hB1975 h6 x1 x2 x3 _ _ _ _ _ hm hw (by omega) (by omega) (lv_sub hl [0, 1, 2, 3] rfl)
        · have hm := ifF hm c8
          exact hB674 h6 _ _ _ _ _ hm hw (by omega) (by omega) (lv_sub hl [] rfl)
      have hB613 : ∀ (h : CH) (x1 : Nat) (x2 : Nat) (x3 : Int32) (cc ss : Nat) (H : Heap) (locs : List Loc) (ls : Array Slot), m_L_law_613 f xs L (m_L_law_18 f xs L n18) h x1 x2 x3 = some (1, u9) → CW D dA A s h H locs → cc + u.1 = h.1 → ss + u.2.1 = h.2.1 → lv_has ls 4 [(0, .ref b), (1, .ref x1), (2, .ref x2), (3, .int x3)] → W p l e room_1 s m #[Value.ref b] below meth c H locs cc ss QQ (F0 m 613 ls []) := by
        intro h x1 x2 x3 cc ss H locs ls hm hw hcc hss hl
        have hmo := mo_L_law_613 (mo_L_law_18 n18) h x1 x2 x3 _ hm
        have sb_ : h.1 ≤ u9.1 := hmo.1
        have tb_ : h.2.1 ≤ u9.2.1 := hmo.2.1
        rw [m_L_law_613] at hm
        refine lv_aload_n hx hb dL_law_613 rfl (lv_at hl 1 rfl) ?_
        refine lv_aload_n hx hb dL_law_614 rfl (lv_at hl 0 rfl) ?_
        refine lv_iload_n hx hb dL_law_615 rfl (lv_at hl 3 rfl) ?_
        refine lv_iconst (v := 1) hx hb dL_law_616 (by decide) ?_
        refine lv_iadd hx hb dL_law_617 ?_
        obtain ⟨g1, hm⟩ := gdE hm
        refine va_sld hx hb hX hbl hbA hw.2.2.1 (ix_in g1) dL_law_618 ?_
        refine lv_aload_n hx hb dL_law_619 rfl (lv_at hl 0 rfl) ?_
        refine lv_iload_n hx hb dL_law_620 rfl (lv_at hl 3 rfl) ?_
        refine lv_iconst (v := 2) hx hb dL_law_621 (by decide) ?_
        refine lv_iadd hx hb dL_law_622 ?_
        obtain ⟨g2, hm⟩ := gdE hm
        refine va_sld hx hb hX hbl hbA hw.2.2.1 (ix_in g2) dL_law_623 ?_
        refine lv_aload_n hx hb dL_law_624 rfl (lv_at hl 0 rfl) ?_
        refine lv_iload_n hx hb dL_law_625 rfl (lv_at hl 3 rfl) ?_
        refine lv_iconst (v := 3) hx hb dL_law_626 (by decide) ?_
        refine lv_iadd hx hb dL_law_627 ?_
        obtain ⟨g3, hm⟩ := gdE hm
        refine va_sld hx hb hX hbl hbA hw.2.2.1 (ix_in g3) dL_law_628 ?_
        refine lv_aload_n hx hb dL_law_629 rfl (lv_at hl 0 rfl) ?_
        refine lv_iload_n hx hb dL_law_630 rfl (lv_at hl 3 rfl) ?_
        refine lv_iconst (v := 4) hx hb dL_law_631 (by decide) ?_
        refine lv_iadd hx hb dL_law_632 ?_
        obtain ⟨g4, hm⟩ := gdE hm
        refine va_sld hx hb hX hbl hbA hw.2.2.1 (ix_in g4) dL_law_633 ?_
        refine lv_aload_n hx hb dL_law_634 rfl (lv_at hl 0 rfl) ?_
        refine lv_iload_n hx hb dL_law_635 rfl (lv_at hl 3 rfl) ?_
        refine lv_iconst (v := 5) hx hb dL_law_636 (by decide) ?_
        refine lv_iadd hx hb dL_law_637 ?_
        obtain ⟨g5, hm⟩ := gdE hm
        refine va_sld hx hb hX hbl hbA hw.2.2.1 (ix_in g5) dL_law_638 ?_
        obtain ⟨g6, hm⟩ := gdE hm
        obtain ⟨r8, h7, er8, hm⟩ := bd2E hm
        have lh7 := mo_X0_has er8
        have ph7 : h.1 ≤ h7.1 := lh7.1
        have qh7 : h.2.1 ≤ h7.2.1 := lh7.2.1
        have hmo := mo_L_law_642 (mo_L_law_18 n18)  h7 x1 x2 x3 r8 _ hm
        have sh7 : h7.1 ≤ u9.1 := hmo.1
        have th7 : h7.2.1 ≤ u9.2.1 := hmo.2.1
        refine cg_calli hw lh7 (va_runV (As := [.int (xs (Int32.toNatClampNeg (x3 + (1 : Int32)))), .int (xs (Int32.toNatClampNeg (x3 + (2 : Int32)))), .int (xs (Int32.toNatClampNeg (x3 + (3 : Int32)))), .int (xs (Int32.toNatClampNeg (x3 + (4 : Int32)))), .int (xs (Int32.toNatClampNeg (x3 + (5 : Int32))))]) (rest := []) ⟨hx, hb, hml, hown, hts⟩ (w_X0_has l er8) (cw_X0_has hts q1075 ⟨Nat.le_of_ble_eq_true rfl, Nat.le_of_ble_eq_true rfl⟩) (cg_preV C hw g6 rfl _) rfl rfl hl.1 rfl (lv_room (Nat.le_of_ble_eq_true rfl)) dL_law_639 ⟨show cc + (h7.1 - h.1) ≤ 601024 by omega, show ss + (h7.2.1 - h.2.1) ≤ 7293034 by omega⟩) (fun H locs hw => ?_)
        exact hB642 h7 x1 x2 x3 r8 _ _ _ _ _ hm hw (by omega) (by omega) (lv_sub hl [0, 1, 2, 3] rfl)
      have hB690 : ∀ (h : CH) (x1 : Nat) (x2 : Nat) (x3 : Int32) (y0 : Int32) (cc ss : Nat) (H : Heap) (locs : List Loc) (ls : Array Slot), m_L_law_690 f xs L (m_L_law_18 f xs L n18) h x1 x2 x3 y0 = some (1, u9) → CW D dA A s h H locs → cc + u.1 = h.1 → ss + u.2.1 = h.2.1 → lv_has ls 4 [(0, .ref b), (1, .ref x1), (2, .ref x2), (3, .int x3)] → W p l e room_1 s m #[Value.ref b] below meth c H locs cc ss QQ (F0 m 690 ls [.int y0]) := by
        intro h x1 x2 x3 y0 cc ss H locs ls hm hw hcc hss hl
        have hmo := mo_L_law_690 (mo_L_law_18 n18) h x1 x2 x3 y0 _ hm
        have sb_ : h.1 ≤ u9.1 := hmo.1
        have tb_ : h.2.1 ≤ u9.2.1 := hmo.2.1
        rw [m_L_law_690] at hm
        refine lv_aload_n hx hb dL_law_690 rfl (lv_at hl 2 rfl) ?_
        refine lv_aload_n hx hb dL_law_691 rfl (lv_at hl 0 rfl) ?_
        refine lv_iload_n hx hb dL_law_692 rfl (lv_at hl 3 rfl) ?_
        refine lv_iconst (v := 1) hx hb dL_law_693 (by decide) ?_
        refine lv_iadd hx hb dL_law_694 ?_
        obtain ⟨g1, hm⟩ := gdE hm
        refine va_sld hx hb hX hbl hbA hw.2.2.1 (ix_in g1) dL_law_695 ?_
        refine lv_aload_n hx hb dL_law_696 rfl (lv_at hl 0 rfl) ?_
        refine lv_iload_n hx hb dL_law_697 rfl (lv_at hl 3 rfl) ?_
        refine lv_iconst (v := 2) hx hb dL_law_698 (by decide) ?_
        refine lv_iadd hx hb dL_law_699 ?_
        obtain ⟨g2, hm⟩ := gdE hm
        refine va_sld hx hb hX hbl hbA hw.2.2.1 (ix_in g2) dL_law_700 ?_
        obtain ⟨r4, h3, er4, hm⟩ := bd2E hm
        refine cg_tci C hw er4 (show cc + s.heap.size = h.1 by rw [hs0]; omega) (fun _ hk hm9 => va_runV (As := [.int (xs (Int32.toNatClampNeg (x3 + (1 : Int32)))), .int (xs (Int32.toNatClampNeg (x3 + (2 : Int32))))]) (rest := [.int y0]) ⟨hx, hb, hml, hown, hts⟩ (w_X3_inside l hm9) (cw_X3_inside hts q1905 ⟨Nat.le_of_ble_eq_true rfl, Nat.le_of_ble_eq_true rfl⟩) (tb_pre C hw hk _) rfl rfl hl.1 rfl (lv_room (Nat.le_of_ble_eq_true rfl)) dL_law_701 ⟨show cc + 0 ≤ 601024 by omega, show ss + 0 ≤ 7293034 by omega⟩) (fun H locs hw => ?_)
        have zh3 := tcr_sz er4
        refine lv_icmp_eq (tgt := 1975) hx hb dL_law_704 (by decide) (fun c5 => ?_) (fun c5 => ?_)
        · have hm := ifT hm c5
          exact hB1975 h3 x1 x2 x3 _ _ _ _ _ hm hw (by omega) (by omega) (lv_sub hl [0, 1, 2, 3] rfl)
        · have hm := ifF hm c5
          exact hB707 h3 _ _ _ _ _ hm hw (by omega) (by omega) (lv_sub hl [] rfl)
      have hB676 : ∀ (h : CH) (x1 : Nat) (x2 : Nat) (x3 : Int32) (cc ss : Nat) (H : Heap) (locs : List Loc) (ls : Array Slot), m_L_law_676 f xs L (m_L_law_18 f xs L n18) h x1 x2 x3 = some (1, u9) → CW D dA A s h H locs → cc + u.1 = h.1 → ss + u.2.1 = h.2.1 → lv_has ls 4 [(0, .ref b), (1, .ref x1), (2, .ref x2), (3, .int x3)] → W p l e room_1 s m #[Value.ref b] below meth c H locs cc ss QQ (F0 m 676 ls []) := by
        intro h x1 x2 x3 cc ss H locs ls hm hw hcc hss hl
        have hmo := mo_L_law_676 (mo_L_law_18 n18) h x1 x2 x3 _ hm
        have sb_ : h.1 ≤ u9.1 := hmo.1
        have tb_ : h.2.1 ≤ u9.2.1 := hmo.2.1
        rw [m_L_law_676] at hm
        refine lv_aload_n hx hb dL_law_676 rfl (lv_at hl 1 rfl) ?_
        refine lv_aload_n hx hb dL_law_677 rfl (lv_at hl 0 rfl) ?_
        refine lv_iload_n hx hb dL_law_678 rfl (lv_at hl 3 rfl) ?_
        refine lv_iconst (v := 1) hx hb dL_law_679 (by decide) ?_
        refine lv_iadd hx hb dL_law_680 ?_
        obtain ⟨g1, hm⟩ := gdE hm
        refine va_sld hx hb hX hbl hbA hw.2.2.1 (ix_in g1) dL_law_681 ?_
        refine lv_aload_n hx hb dL_law_682 rfl (lv_at hl 0 rfl) ?_
        refine lv_iload_n hx hb dL_law_683 rfl (lv_at hl 3 rfl) ?_
        refine lv_iconst (v := 2) hx hb dL_law_684 (by decide) ?_
        refine lv_iadd hx hb dL_law_685 ?_
        obtain ⟨g2, hm⟩ := gdE hm
        refine va_sld hx hb hX hbl hbA hw.2.2.1 (ix_in g2) dL_law_686 ?_
        obtain ⟨g3, hm⟩ := gdE hm
        obtain ⟨r5, h4, er5, hm⟩ := bd2E hm
        have lh4 := mo_X0_inside er5
        have ph4 : h.1 ≤ h4.1 := lh4.1
        have qh4 : h.2.1 ≤ h4.2.1 := lh4.2.1
        have hmo := mo_L_law_690 (mo_L_law_18 n18)  h4 x1 x2 x3 r5 _ hm
        have sh4 : h4.1 ≤ u9.1 := hmo.1
        have th4 : h4.2.1 ≤ u9.2.1 := hmo.2.1
        refine cg_calli hw lh4 (va_runV (As := [.int (xs (Int32.toNatClampNeg (x3 + (1 : Int32)))), .int (xs (Int32.toNatClampNeg (x3 + (2 : Int32))))]) (rest := []) ⟨hx, hb, hml, hown, hts⟩ (w_X0_inside l er5) (cw_X0_inside hts q1092 ⟨Nat.le_of_ble_eq_true rfl, Nat.le_of_ble_eq_true rfl⟩) (cg_preV C hw g3 rfl _) rfl rfl hl.1 rfl (lv_room (Nat.le_of_ble_eq_true rfl)) dL_law_687 ⟨show cc + (h4.1 - h.1) ≤ 601024 by omega, show ss + (h4.2.1 - h.2.1) ≤ 7293034 by omega⟩) (fun H locs hw => ?_)
        exact hB690 h4 x1 x2 x3 r5 _ _ _ _ _ hm hw (by omega) (by omega) (lv_sub hl [0, 1, 2, 3] rfl)
      have hB723 : ∀ (h : CH) (x1 : Nat) (x2 : Nat) (x3 : Int32) (y0 : Int32) (cc ss : Nat) (H : Heap) (locs : List Loc) (ls : Array Slot), m_L_law_723 f xs L (m_L_law_18 f xs L n18) h x1 x2 x3 y0 = some (1, u9) → CW D dA A s h H locs → cc + u.1 = h.1 → ss + u.2.1 = h.2.1 → lv_has ls 4 [(0, .ref b), (1, .ref x1), (2, .ref x2), (3, .int x3)] → W p l e room_1 s m #[Value.ref b] below meth c H locs cc ss QQ (F0 m 723 ls [.int y0]) := by
        intro h x1 x2 x3 y0 cc ss H locs ls hm hw hcc hss hl
        have hmo := mo_L_law_723 (mo_L_law_18 n18) h x1 x2 x3 y0 _ hm
        have sb_ : h.1 ≤ u9.1 := hmo.1
        have tb_ : h.2.1 ≤ u9.2.1 := hmo.2.1
        rw [m_L_law_723] at hm
        refine lv_aload_n hx hb dL_law_723 rfl (lv_at hl 2 rfl) ?_
        refine lv_aload_n hx hb dL_law_724 rfl (lv_at hl 0 rfl) ?_
        refine lv_iload_n hx hb dL_law_725 rfl (lv_at hl 3 rfl) ?_
        refine lv_iconst (v := 1) hx hb dL_law_726 (by decide) ?_
        refine lv_iadd hx hb dL_law_727 ?_
        obtain ⟨g1, hm⟩ := gdE hm
        refine va_sld hx hb hX hbl hbA hw.2.2.1 (ix_in g1) dL_law_728 ?_
        refine lv_aload_n hx hb dL_law_729 rfl (lv_at hl 0 rfl) ?_
        refine lv_iload_n hx hb dL_law_730 rfl (lv_at hl 3 rfl) ?_
        refine lv_iconst (v := 2) hx hb dL_law_731 (by decide) ?_
        refine lv_iadd hx hb dL_law_732 ?_
        obtain ⟨g2, hm⟩ := gdE hm
        refine va_sld hx hb hX hbl hbA hw.2.2.1 (ix_in g2) dL_law_733 ?_
        obtain ⟨r4, h3, er4, hm⟩ := bd2E hm
        refine cg_tci C hw er4 (show cc + s.heap.size = h.1 by rw [hs0]; omega) (fun _ hk hm9 => va_runV (As := [.int (xs (Int32.toNatClampNeg (x3 + (1 : Int32)))), .int (xs (Int32.toNatClampNeg (x3 + (2 : Int32))))]) (rest := [.int y0]) ⟨hx, hb, hml, hown, hts⟩ (w_X3_meetOver l hm9) (cw_X3_meetOver hts q1925 ⟨Nat.le_of_ble_eq_true rfl, Nat.le_of_ble_eq_true rfl⟩) (tb_pre C hw hk _) rfl rfl hl.1 rfl (lv_room (Nat.le_of_ble_eq_true rfl)) dL_law_734 ⟨show cc + 0 ≤ 601024 by omega, show ss + 0 ≤ 7293034 by omega⟩) (fun H locs hw => ?_)
        have zh3 := tcr_sz er4
        refine lv_icmp_eq (tgt := 1975) hx hb dL_law_737 (by decide) (fun c5 => ?_) (fun c5 => ?_)
        · have hm := ifT hm c5
          exact hB1975 h3 x1 x2 x3 _ _ _ _ _ hm hw (by omega) (by omega) (lv_sub hl [0, 1, 2, 3] rfl)
        · have hm := ifF hm c5
          exact hB740 h3 _ _ _ _ _ hm hw (by omega) (by omega) (lv_sub hl [] rfl)
      have hB709 : ∀ (h : CH) (x1 : Nat) (x2 : Nat) (x3 : Int32) (cc ss : Nat) (H : Heap) (locs : List Loc) (ls : Array Slot), m_L_law_709 f xs L (m_L_law_18 f xs L n18) h x1 x2 x3 = some (1, u9) → CW D dA A s h H locs → cc + u.1 = h.1 → ss + u.2.1 = h.2.1 → lv_has ls 4 [(0, .ref b), (1, .ref x1), (2, .ref x2), (3, .int x3)] → W p l e room_1 s m #[Value.ref b] below meth c H locs cc ss QQ (F0 m 709 ls []) := by
        intro h x1 x2 x3 cc ss H locs ls hm hw hcc hss hl
        have hmo := mo_L_law_709 (mo_L_law_18 n18) h x1 x2 x3 _ hm
        have sb_ : h.1 ≤ u9.1 := hmo.1
        have tb_ : h.2.1 ≤ u9.2.1 := hmo.2.1
        rw [m_L_law_709] at hm
        refine lv_aload_n hx hb dL_law_709 rfl (lv_at hl 1 rfl) ?_
        refine lv_aload_n hx hb dL_law_710 rfl (lv_at hl 0 rfl) ?_
        refine lv_iload_n hx hb dL_law_711 rfl (lv_at hl 3 rfl) ?_
        refine lv_iconst (v := 1) hx hb dL_law_712 (by decide) ?_
        refine lv_iadd hx hb dL_law_713 ?_
        obtain ⟨g1, hm⟩ := gdE hm
        refine va_sld hx hb hX hbl hbA hw.2.2.1 (ix_in g1) dL_law_714 ?_
        refine lv_aload_n hx hb dL_law_715 rfl (lv_at hl 0 rfl) ?_
        refine lv_iload_n hx hb dL_law_716 rfl (lv_at hl 3 rfl) ?_
        refine lv_iconst (v := 2) hx hb dL_law_717 (by decide) ?_
        refine lv_iadd hx hb dL_law_718 ?_
        obtain ⟨g2, hm⟩ := gdE hm
        refine va_sld hx hb hX hbl hbA hw.2.2.1 (ix_in g2) dL_law_719 ?_
        obtain ⟨g3, hm⟩ := gdE hm
        obtain ⟨r5, h4, er5, hm⟩ := bd2E hm
        have lh4 := mo_X0_meetOver er5
        have ph4 : h.1 ≤ h4.1 := lh4.1
        have qh4 : h.2.1 ≤ h4.2.1 := lh4.2.1
        have hmo := mo_L_law_723 (mo_L_law_18 n18)  h4 x1 x2 x3 r5 _ hm
        have sh4 : h4.1 ≤ u9.1 := hmo.1
        have th4 : h4.2.1 ≤ u9.2.1 := hmo.2.1
        refine cg_calli hw lh4 (va_runV (As := [.int (xs (Int32.toNatClampNeg (x3 + (1 : Int32)))), .int (xs (Int32.toNatClampNeg (x3 + (2 : Int32))))]) (rest := []) ⟨hx, hb, hml, hown, hts⟩ (w_X0_meetOver l er5) (cw_X0_meetOver hts q1100 ⟨Nat.le_of_ble_eq_true rfl, Nat.le_of_ble_eq_true rfl⟩) (cg_preV C hw g3 rfl _) rfl rfl hl.1 rfl (lv_room (Nat.le_of_ble_eq_true rfl)) dL_law_720 ⟨show cc + (h4.1 - h.1) ≤ 601024 by omega, show ss + (h4.2.1 - h.2.1) ≤ 7293034 by omega⟩) (fun H locs hw => ?_)
        exact hB723 h4 x1 x2 x3 r5 _ _ _ _ _ hm hw (by omega) (by omega) (lv_sub hl [0, 1, 2, 3] rfl)
      have hB766 : ∀ (h : CH) (x1 : Nat) (x2 : Nat) (x3 : Int32) (y0 : Int64) (cc ss : Nat) (H : Heap) (locs : List Loc) (ls : Array Slot), m_L_law_766 f xs L (m_L_law_18 f xs L n18) h x1 x2 x3 y0 = some (1, u9) → CW D dA A s h H locs → cc + u.1 = h.1 → ss + u.2.1 = h.2.1 → lv_has ls 4 [(0, .ref b), (1, .ref x1), (2, .ref x2), (3, .int x3)] → W p l e room_1 s m #[Value.ref b] below meth c H locs cc ss QQ (F0 m 766 ls [.long y0]) := by
        intro h x1 x2 x3 y0 cc ss H locs ls hm hw hcc hss hl
        have hmo := mo_L_law_766 (mo_L_law_18 n18) h x1 x2 x3 y0 _ hm
        have sb_ : h.1 ≤ u9.1 := hmo.1
        have tb_ : h.2.1 ≤ u9.2.1 := hmo.2.1
        rw [m_L_law_766] at hm
        refine lv_aload_n hx hb dL_law_766 rfl (lv_at hl 2 rfl) ?_
        refine lv_aload_n hx hb dL_law_767 rfl (lv_at hl 0 rfl) ?_
        refine lv_iload_n hx hb dL_law_768 rfl (lv_at hl 3 rfl) ?_
        refine lv_iconst (v := 1) hx hb dL_law_769 (by decide) ?_
        refine lv_iadd hx hb dL_law_770 ?_
        obtain ⟨g1, hm⟩ := gdE hm
        refine va_sld hx hb hX hbl hbA hw.2.2.1 (ix_in g1) dL_law_771 ?_
        refine lv_aload_n hx hb dL_law_772 rfl (lv_at hl 0 rfl) ?_
        refine lv_iload_n hx hb dL_law_773 rfl (lv_at hl 3 rfl) ?_
        refine lv_iconst (v := 2) hx hb dL_law_774 (by decide) ?_
        refine lv_iadd hx hb dL_law_775 ?_
        obtain ⟨g2, hm⟩ := gdE hm
        refine va_sld hx hb hX hbl hbA hw.2.2.1 (ix_in g2) dL_law_776 ?_
        refine lv_aload_n hx hb dL_law_777 rfl (lv_at hl 0 rfl) ?_
        refine lv_iload_n hx hb dL_law_778 rfl (lv_at hl 3 rfl) ?_
        refine lv_iconst (v := 3) hx hb dL_law_779 (by decide) ?_
        refine lv_iadd hx hb dL_law_780 ?_
        obtain ⟨g3, hm⟩ := gdE hm
        refine va_sld hx hb hX hbl hbA hw.2.2.1 (ix_in g3) dL_law_781 ?_
        refine lv_aload_n hx hb dL_law_782 rfl (lv_at hl 0 rfl) ?_
        refine lv_iload_n hx hb dL_law_783 rfl (lv_at hl 3 rfl) ?_
        refine lv_iconst (v := 4) hx hb dL_law_784 (by decide) ?_
        refine lv_iadd hx hb dL_law_785 ?_
        obtain ⟨g4, hm⟩ := gdE hm
        refine va_sld hx hb hX hbl hbA hw.2.2.1 (ix_in g4) dL_law_786 ?_
        obtain ⟨r6, h5, er6, hm⟩ := bd2E hm
        refine cg_tcl C hw er6 (show cc + s.heap.size = h.1 by rw [hs0]; omega) (fun _ hk hm9 => va_runV (As := [.int (xs (Int32.toNatClampNeg (x3 + (1 : Int32)))), .int (xs (Int32.toNatClampNeg (x3 + (2 : Int32)))), .int (xs (Int32.toNatClampNeg (x3 + (3 : Int32)))), .int (xs (Int32.toNatClampNeg (x3 + (4 : Int32))))]) (rest := [.long y0]) ⟨hx, hb, hml, hown, hts⟩ (w_X3_meet l hm9) (cw_X3_meet hts q1954 ⟨Nat.le_of_ble_eq_true rfl, Nat.le_of_ble_eq_true rfl⟩) (tb_pre C hw hk _) rfl rfl hl.1 rfl (lv_room (Nat.le_of_ble_eq_true rfl)) dL_law_787 ⟨show cc + 0 ≤ 601024 by omega, show ss + 0 ≤ 7293034 by omega⟩) (fun H locs hw => ?_)
        have zh5 := tcr_sz er6
        refine lc_eq (tgt := 1975) hx hb dL_law_790 dL_law_791 (by decide) (fun c7 => ?_) (fun c7 => ?_)
        · have hm := ifT hm c7
          exact hB1975 h5 x1 x2 x3 _ _ _ _ _ hm hw (by omega) (by omega) (lv_sub hl [0, 1, 2, 3] rfl)
        · have hm := ifF hm c7
          exact hB794 h5 _ _ _ _ _ hm hw (by omega) (by omega) (lv_sub hl [] rfl)
      have hB742 : ∀ (h : CH) (x1 : Nat) (x2 : Nat) (x3 : Int32) (cc ss : Nat) (H : Heap) (locs : List Loc) (ls : Array Slot), m_L_law_742 f xs L (m_L_law_18 f xs L n18) h x1 x2 x3 = some (1, u9) → CW D dA A s h H locs → cc + u.1 = h.1 → ss + u.2.1 = h.2.1 → lv_has ls 4 [(0, .ref b), (1, .ref x1), (2, .ref x2), (3, .int x3)] → W p l e room_1 s m #[Value.ref b] below meth c H locs cc ss QQ (F0 m 742 ls []) := by
        intro h x1 x2 x3 cc ss H locs ls hm hw hcc hss hl
        have hmo := mo_L_law_742 (mo_L_law_18 n18) h x1 x2 x3 _ hm
        have sb_ : h.1 ≤ u9.1 := hmo.1
        have tb_ : h.2.1 ≤ u9.2.1 := hmo.2.1
        rw [m_L_law_742] at hm
        refine lv_aload_n hx hb dL_law_742 rfl (lv_at hl 1 rfl) ?_
        refine lv_aload_n hx hb dL_law_743 rfl (lv_at hl 0 rfl) ?_
        refine lv_iload_n hx hb dL_law_744 rfl (lv_at hl 3 rfl) ?_
        refine lv_iconst (v := 1) hx hb dL_law_745 (by decide) ?_
        refine lv_iadd hx hb dL_law_746 ?_
        obtain ⟨g1, hm⟩ := gdE hm
        refine va_sld hx hb hX hbl hbA hw.2.2.1 (ix_in g1) dL_law_747 ?_
        refine lv_aload_n hx hb dL_law_748 rfl (lv_at hl 0 rfl) ?_
        refine lv_iload_n hx hb dL_law_749 rfl (lv_at hl 3 rfl) ?_
        refine lv_iconst (v := 2) hx hb dL_law_750 (by decide) ?_
        refine lv_iadd hx hb dL_law_751 ?_
        obtain ⟨g2, hm⟩ := gdE hm
        refine va_sld hx hb hX hbl hbA hw.2.2.1 (ix_in g2) dL_law_752 ?_
        refine lv_aload_n hx hb dL_law_753 rfl (lv_at hl 0 rfl) ?_
        refine lv_iload_n hx hb dL_law_754 rfl (lv_at hl 3 rfl) ?_
        refine lv_iconst (v := 3) hx hb dL_law_755 (by decide) ?_
        refine lv_iadd hx hb dL_law_756 ?_
        obtain ⟨g3, hm⟩ := gdE hm
        refine va_sld hx hb hX hbl hbA hw.2.2.1 (ix_in g3) dL_law_757 ?_
        refine lv_aload_n hx hb dL_law_758 rfl (lv_at hl 0 rfl) ?_
        refine lv_iload_n hx hb dL_law_759 rfl (lv_at hl 3 rfl) ?_
        refine lv_iconst (v := 4) hx hb dL_law_760 (by decide) ?_
        refine lv_iadd hx hb dL_law_761 ?_
        obtain ⟨g4, hm⟩ := gdE hm
        refine va_sld hx hb hX hbl hbA hw.2.2.1 (ix_in g4) dL_law_762 ?_
        obtain ⟨g5, hm⟩ := gdE hm
        obtain ⟨r7, h6, er7, hm⟩ := bd2E hm
        have lh6 := mo_X0_meet er7
        have ph6 : h.1 ≤ h6.1 := lh6.1
        have qh6 : h.2.1 ≤ h6.2.1 := lh6.2.1
        have hmo := mo_L_law_766 (mo_L_law_18 n18)  h6 x1 x2 x3 r7 _ hm
        have sh6 : h6.1 ≤ u9.1 := hmo.1
        have th6 : h6.2.1 ≤ u9.2.1 := hmo.2.1
        refine cg_calll hw lh6 (va_runV (As := [.int (xs (Int32.toNatClampNeg (x3 + (1 : Int32)))), .int (xs (Int32.toNatClampNeg (x3 + (2 : Int32)))), .int (xs (Int32.toNatClampNeg (x3 + (3 : Int32)))), .int (xs (Int32.toNatClampNeg (x3 + (4 : Int32))))]) (rest := []) ⟨hx, hb, hml, hown, hts⟩ (w_X0_meet l er7) (cw_X0_meet hts q1167 ⟨Nat.le_of_ble_eq_true rfl, Nat.le_of_ble_eq_true rfl⟩) (cg_preV C hw g5 rfl _) rfl rfl hl.1 rfl (lv_room (Nat.le_of_ble_eq_true rfl)) dL_law_763 ⟨show cc + (h6.1 - h.1) ≤ 601024 by omega, show ss + (h6.2.1 - h.2.1) ≤ 7293034 by omega⟩) (fun H locs hw => ?_)
        exact hB766 h6 x1 x2 x3 r7 _ _ _ _ _ hm hw (by omega) (by omega) (lv_sub hl [0, 1, 2, 3] rfl)
      have hB810 : ∀ (h : CH) (x1 : Nat) (x2 : Nat) (x3 : Int32) (y0 : Int32) (cc ss : Nat) (H : Heap) (locs : List Loc) (ls : Array Slot), m_L_law_810 f xs L (m_L_law_18 f xs L n18) h x1 x2 x3 y0 = some (1, u9) → CW D dA A s h H locs → cc + u.1 = h.1 → ss + u.2.1 = h.2.1 → lv_has ls 4 [(0, .ref b), (1, .ref x1), (2, .ref x2), (3, .int x3)] → W p l e room_1 s m #[Value.ref b] below meth c H locs cc ss QQ (F0 m 810 ls [.int y0]) := by
        intro h x1 x2 x3 y0 cc ss H locs ls hm hw hcc hss hl
        have hmo := mo_L_law_810 (mo_L_law_18 n18) h x1 x2 x3 y0 _ hm
        have sb_ : h.1 ≤ u9.1 := hmo.1
        have tb_ : h.2.1 ≤ u9.2.1 := hmo.2.1
        rw [m_L_law_810] at hm
        refine lv_aload_n hx hb dL_law_810 rfl (lv_at hl 2 rfl) ?_
        refine lv_aload_n hx hb dL_law_811 rfl (lv_at hl 0 rfl) ?_
        refine lv_iload_n hx hb dL_law_812 rfl (lv_at hl 3 rfl) ?_
        refine lv_iconst (v := 1) hx hb dL_law_813 (by decide) ?_
        refine lv_iadd hx hb dL_law_814 ?_
        obtain ⟨g1, hm⟩ := gdE hm
        refine va_sld hx hb hX hbl hbA hw.2.2.1 (ix_in g1) dL_law_815 ?_
        refine lv_aload_n hx hb dL_law_816 rfl (lv_at hl 0 rfl) ?_
        refine lv_iload_n hx hb dL_law_817 rfl (lv_at hl 3 rfl) ?_
        refine lv_iconst (v := 2) hx hb dL_law_818 (by decide) ?_
        refine lv_iadd hx hb dL_law_819 ?_
        obtain ⟨g2, hm⟩ := gdE hm
        refine va_sld hx hb hX hbl hbA hw.2.2.1 (ix_in g2) dL_law_820 ?_
        obtain ⟨r4, h3, er4, hm⟩ := bd2E hm
        refine cg_tci C hw er4 (show cc + s.heap.size = h.1 by rw [hs0]; omega) (fun _ hk hm9 => va_runV (As := [.int (xs (Int32.toNatClampNeg (x3 + (1 : Int32)))), .int (xs (Int32.toNatClampNeg (x3 + (2 : Int32))))]) (rest := [.int y0]) ⟨hx, hb, hml, hown, hts⟩ (w_X3_joinOver l hm9) (cw_X3_joinOver hts q1958 ⟨Nat.le_of_ble_eq_true rfl, Nat.le_of_ble_eq_true rfl⟩) (tb_pre C hw hk _) rfl rfl hl.1 rfl (lv_room (Nat.le_of_ble_eq_true rfl)) dL_law_821 ⟨show cc + 0 ≤ 601024 by omega, show ss + 0 ≤ 7293034 by omega⟩) (fun H locs hw => ?_)
        have zh3 := tcr_sz er4
        refine lv_icmp_eq (tgt := 1975) hx hb dL_law_824 (by decide) (fun c5 => ?_) (fun c5 => ?_)
        · have hm := ifT hm c5
          exact hB1975 h3 x1 x2 x3 _ _ _ _ _ hm hw (by omega) (by omega) (lv_sub hl [0, 1, 2, 3] rfl)
        · have hm := ifF hm c5
          exact hB827 h3 _ _ _ _ _ hm hw (by omega) (by omega) (lv_sub hl [] rfl)
      have hB796 : ∀ (h : CH) (x1 : Nat) (x2 : Nat) (x3 : Int32) (cc ss : Nat) (H : Heap) (locs : List Loc) (ls : Array Slot), m_L_law_796 f xs L (m_L_law_18 f xs L n18) h x1 x2 x3 = some (1, u9) → CW D dA A s h H locs → cc + u.1 = h.1 → ss + u.2.1 = h.2.1 → lv_has ls 4 [(0, .ref b), (1, .ref x1), (2, .ref x2), (3, .int x3)] → W p l e room_1 s m #[Value.ref b] below meth c H locs cc ss QQ (F0 m 796 ls []) := by
        intro h x1 x2 x3 cc ss H locs ls hm hw hcc hss hl
        have hmo := mo_L_law_796 (mo_L_law_18 n18) h x1 x2 x3 _ hm
        have sb_ : h.1 ≤ u9.1 := hmo.1
        have tb_ : h.2.1 ≤ u9.2.1 := hmo.2.1
        rw [m_L_law_796] at hm
        refine lv_aload_n hx hb dL_law_796 rfl (lv_at hl 1 rfl) ?_
        refine lv_aload_n hx hb dL_law_797 rfl (lv_at hl 0 rfl) ?_
        refine lv_iload_n hx hb dL_law_798 rfl (lv_at hl 3 rfl) ?_
        refine lv_iconst (v := 1) hx hb dL_law_799 (by decide) ?_
        refine lv_iadd hx hb dL_law_800 ?_
        obtain ⟨g1, hm⟩ := gdE hm
        refine va_sld hx hb hX hbl hbA hw.2.2.1 (ix_in g1) dL_law_801 ?_
        refine lv_aload_n hx hb dL_law_802 rfl (lv_at hl 0 rfl) ?_
        refine lv_iload_n hx hb dL_law_803 rfl (lv_at hl 3 rfl) ?_
        refine lv_iconst (v := 2) hx hb dL_law_804 (by decide) ?_
        refine lv_iadd hx hb dL_law_805 ?_
        obtain ⟨g2, hm⟩ := gdE hm
        refine va_sld hx hb hX hbl hbA hw.2.2.1 (ix_in g2) dL_law_806 ?_
        obtain ⟨g3, hm⟩ := gdE hm
        obtain ⟨r5, h4, er5, hm⟩ := bd2E hm
        have lh4 := mo_X0_joinOver er5
        have ph4 : h.1 ≤ h4.1 := lh4.1
        have qh4 : h.2.1 ≤ h4.2.1 := lh4.2.1
        have hmo := mo_L_law_810 (mo_L_law_18 n18)  h4 x1 x2 x3 r5 _ hm
        have sh4 : h4.1 ≤ u9.1 := hmo.1
        have th4 : h4.2.1 ≤ u9.2.1 := hmo.2.1
        refine cg_calli hw lh4 (va_runV (As := [.int (xs (Int32.toNatClampNeg (x3 + (1 : Int32)))), .int (xs (Int32.toNatClampNeg (x3 + (2 : Int32))))]) (rest := []) ⟨hx, hb, hml, hown, hts⟩ (w_X0_joinOver l er5) (cw_X0_joinOver hts q1171 ⟨Nat.le_of_ble_eq_true rfl, Nat.le_of_ble_eq_true rfl⟩) (cg_preV C hw g3 rfl _) rfl rfl hl.1 rfl (lv_room (Nat.le_of_ble_eq_true rfl)) dL_law_807 ⟨show cc + (h4.1 - h.1) ≤ 601024 by omega, show ss + (h4.2.1 - h.2.1) ≤ 7293034 by omega⟩) (fun H locs hw => ?_)
        exact hB810 h4 x1 x2 x3 r5 _ _ _ _ _ hm hw (by omega) (by omega) (lv_sub hl [0, 1, 2, 3] rfl)
      have hB853 : ∀ (h : CH) (x1 : Nat) (x2 : Nat) (x3 : Int32) (y0 : Int64) (cc ss : Nat) (H : Heap) (locs : List Loc) (ls : Array Slot), m_L_law_853 f xs L (m_L_law_18 f xs L n18) h x1 x2 x3 y0 = some (1, u9) → CW D dA A s h H locs → cc + u.1 = h.1 → ss + u.2.1 = h.2.1 → lv_has ls 4 [(0, .ref b), (1, .ref x1), (2, .ref x2), (3, .int x3)] → W p l e room_1 s m #[Value.ref b] below meth c H locs cc ss QQ (F0 m 853 ls [.long y0]) := by
        intro h x1 x2 x3 y0 cc ss H locs ls hm hw hcc hss hl
        have hmo := mo_L_law_853 (mo_L_law_18 n18) h x1 x2 x3 y0 _ hm
        have sb_ : h.1 ≤ u9.1 := hmo.1
        have tb_ : h.2.1 ≤ u9.2.1 := hmo.2.1
        rw [m_L_law_853] at hm
        refine lv_aload_n hx hb dL_law_853 rfl (lv_at hl 2 rfl) ?_
        refine lv_aload_n hx hb dL_law_854 rfl (lv_at hl 0 rfl) ?_
        refine lv_iload_n hx hb dL_law_855 rfl (lv_at hl 3 rfl) ?_
        refine lv_iconst (v := 1) hx hb dL_law_856 (by decide) ?_
        refine lv_iadd hx hb dL_law_857 ?_
        obtain ⟨g1, hm⟩ := gdE hm
        refine va_sld hx hb hX hbl hbA hw.2.2.1 (ix_in g1) dL_law_858 ?_
        refine lv_aload_n hx hb dL_law_859 rfl (lv_at hl 0 rfl) ?_
        refine lv_iload_n hx hb dL_law_860 rfl (lv_at hl 3 rfl) ?_
        refine lv_iconst (v := 2) hx hb dL_law_861 (by decide) ?_
        refine lv_iadd hx hb dL_law_862 ?_
        obtain ⟨g2, hm⟩ := gdE hm
        refine va_sld hx hb hX hbl hbA hw.2.2.1 (ix_in g2) dL_law_863 ?_
        refine lv_aload_n hx hb dL_law_864 rfl (lv_at hl 0 rfl) ?_
        refine lv_iload_n hx hb dL_law_865 rfl (lv_at hl 3 rfl) ?_
        refine lv_iconst (v := 3) hx hb dL_law_866 (by decide) ?_
        refine lv_iadd hx hb dL_law_867 ?_
        obtain ⟨g3, hm⟩ := gdE hm
        refine va_sld hx hb hX hbl hbA hw.2.2.1 (ix_in g3) dL_law_868 ?_
        refine lv_aload_n hx hb dL_law_869 rfl (lv_at hl 0 rfl) ?_
        refine lv_iload_n hx hb dL_law_870 rfl (lv_at hl 3 rfl) ?_
        refine lv_iconst (v := 4) hx hb dL_law_871 (by decide) ?_
        refine lv_iadd hx hb dL_law_872 ?_
        obtain ⟨g4, hm⟩ := gdE hm
        refine va_sld hx hb hX hbl hbA hw.2.2.1 (ix_in g4) dL_law_873 ?_
        obtain ⟨r6, h5, er6, hm⟩ := bd2E hm
        refine cg_tcl C hw er6 (show cc + s.heap.size = h.1 by rw [hs0]; omega) (fun _ hk hm9 => va_runV (As := [.int (xs (Int32.toNatClampNeg (x3 + (1 : Int32)))), .int (xs (Int32.toNatClampNeg (x3 + (2 : Int32)))), .int (xs (Int32.toNatClampNeg (x3 + (3 : Int32)))), .int (xs (Int32.toNatClampNeg (x3 + (4 : Int32))))]) (rest := [.long y0]) ⟨hx, hb, hml, hown, hts⟩ (w_X3_join l hm9) (cw_X3_join hts q1970 ⟨Nat.le_of_ble_eq_true rfl, Nat.le_of_ble_eq_true rfl⟩) (tb_pre C hw hk _) rfl rfl hl.1 rfl (lv_room (Nat.le_of_ble_eq_true rfl)) dL_law_874 ⟨show cc + 0 ≤ 601024 by omega, show ss + 0 ≤ 7293034 by omega⟩) (fun H locs hw => ?_)
        have zh5 := tcr_sz er6
        refine lc_eq (tgt := 1975) hx hb dL_law_877 dL_law_878 (by decide) (fun c7 => ?_) (fun c7 => ?_)
        · have hm := ifT hm c7
          exact hB1975 h5 x1 x2 x3 _ _ _ _ _ hm hw (by omega) (by omega) (lv_sub hl [0, 1, 2, 3] rfl)
        · have hm := ifF hm c7
          exact hB881 h5 _ _ _ _ _ hm hw (by omega) (by omega) (lv_sub hl [] rfl)
      have hB829 : ∀ (h : CH) (x1 : Nat) (x2 : Nat) (x3 : Int32) (cc ss : Nat) (H : Heap) (locs : List Loc) (ls : Array Slot), m_L_law_829 f xs L (m_L_law_18 f xs L n18) h x1 x2 x3 = some (1, u9) → CW D dA A s h H locs → cc + u.1 = h.1 → ss + u.2.1 = h.2.1 → lv_has ls 4 [(0, .ref b), (1, .ref x1), (2, .ref x2), (3, .int x3)] → W p l e room_1 s m #[Value.ref b] below meth c H locs cc ss QQ (F0 m 829 ls []) := by
        intro h x1 x2 x3 cc ss H locs ls hm hw hcc hss hl
        have hmo := mo_L_law_829 (mo_L_law_18 n18) h x1 x2 x3 _ hm
        have sb_ : h.1 ≤ u9.1 := hmo.1
        have tb_ : h.2.1 ≤ u9.2.1 := hmo.2.1
        rw [m_L_law_829] at hm
        refine lv_aload_n hx hb dL_law_829 rfl (lv_at hl 1 rfl) ?_
        refine lv_aload_n hx hb dL_law_830 rfl (lv_at hl 0 rfl) ?_
        refine lv_iload_n hx hb dL_law_831 rfl (lv_at hl 3 rfl) ?_
        refine lv_iconst (v := 1) hx hb dL_law_832 (by decide) ?_
        refine lv_iadd hx hb dL_law_833 ?_
        obtain ⟨g1, hm⟩ := gdE hm
        refine va_sld hx hb hX hbl hbA hw.2.2.1 (ix_in g1) dL_law_834 ?_
        refine lv_aload_n hx hb dL_law_835 rfl (lv_at hl 0 rfl) ?_
        refine lv_iload_n hx hb dL_law_836 rfl (lv_at hl 3 rfl) ?_
        refine lv_iconst (v := 2) hx hb dL_law_837 (by decide) ?_
        refine lv_iadd hx hb dL_law_838 ?_
        obtain ⟨g2, hm⟩ := gdE hm
        refine va_sld hx hb hX hbl hbA hw.2.2.1 (ix_in g2) dL_law_839 ?_
        refine lv_aload_n hx hb dL_law_840 rfl (lv_at hl 0 rfl) ?_
        refine lv_iload_n hx hb dL_law_841 rfl (lv_at hl 3 rfl) ?_
        refine lv_iconst (v := 3) hx hb dL_law_842 (by decide) ?_
        refine lv_iadd hx hb dL_law_843 ?_
        obtain ⟨g3, hm⟩ := gdE hm
        refine va_sld hx hb hX hbl hbA hw.2.2.1 (ix_in g3) dL_law_844 ?_
        refine lv_aload_n hx hb dL_law_845 rfl (lv_at hl 0 rfl) ?_
        refine lv_iload_n hx hb dL_law_846 rfl (lv_at hl 3 rfl) ?_
        refine lv_iconst (v := 4) hx hb dL_law_847 (by decide) ?_
        refine lv_iadd hx hb dL_law_848 ?_
        obtain ⟨g4, hm⟩ := gdE hm
        refine va_sld hx hb hX hbl hbA hw.2.2.1 (ix_in g4) dL_law_849 ?_
        obtain ⟨g5, hm⟩ := gdE hm
        obtain ⟨r7, h6, er7, hm⟩ := bd2E hm
        have lh6 := mo_X0_join er7
        have ph6 : h.1 ≤ h6.1 := lh6.1
        have qh6 : h.2.1 ≤ h6.2.1 := lh6.2.1
        have hmo := mo_L_law_853 (mo_L_law_18 n18)  h6 x1 x2 x3 r7 _ hm
        have sh6 : h6.1 ≤ u9.1 := hmo.1
        have th6 : h6.2.1 ≤ u9.2.1 := hmo.2.1
        refine cg_calll hw lh6 (va_runV (As := [.int (xs (Int32.toNatClampNeg (x3 + (1 : Int32)))), .int (xs (Int32.toNatClampNeg (x3 + (2 : Int32)))), .int (xs (Int32.toNatClampNeg (x3 + (3 : Int32)))), .int (xs (Int32.toNatClampNeg (x3 + (4 : Int32))))]) (rest := []) ⟨hx, hb, hml, hown, hts⟩ (w_X0_join l er7) (cw_X0_join hts q1179 ⟨Nat.le_of_ble_eq_true rfl, Nat.le_of_ble_eq_true rfl⟩) (cg_preV C hw g5 rfl _) rfl rfl hl.1 rfl (lv_room (Nat.le_of_ble_eq_true rfl)) dL_law_850 ⟨show cc + (h6.1 - h.1) ≤ 601024 by omega, show ss + (h6.2.1 - h.2.1) ≤ 7293034 by omega⟩) (fun H locs hw => ?_)
        exact hB853 h6 x1 x2 x3 r7 _ _ _ _ _ hm hw (by omega) (by omega) (lv_sub hl [0, 1, 2, 3] rfl)
      have hB897 : ∀ (h : CH) (x1 : Nat) (x2 : Nat) (x3 : Int32) (y0 : Int64) (cc ss : Nat) (H : Heap) (locs : List Loc) (ls : Array Slot), m_L_law_897 f xs L (m_L_law_18 f xs L n18) h x1 x2 x3 y0 = some (1, u9) → CW D dA A s h H locs → cc + u.1 = h.1 → ss + u.2.1 = h.2.1 → lv_has ls 4 [(0, .ref b), (1, .ref x1), (2, .ref x2), (3, .int x3)] → W p l e room_1 s m #[Value.ref b] below meth c H locs cc ss QQ (F0 m 897 ls [.long y0]) := by
        intro h x1 x2 x3 y0 cc ss H locs ls hm hw hcc hss hl
        have hmo := mo_L_law_897 (mo_L_law_18 n18) h x1 x2 x3 y0 _ hm
        have sb_ : h.1 ≤ u9.1 := hmo.1
        have tb_ : h.2.1 ≤ u9.2.1 := hmo.2.1
        rw [m_L_law_897] at hm
        refine lv_aload_n hx hb dL_law_897 rfl (lv_at hl 2 rfl) ?_
        refine lv_aload_n hx hb dL_law_898 rfl (lv_at hl 0 rfl) ?_
        refine lv_iload_n hx hb dL_law_899 rfl (lv_at hl 3 rfl) ?_
        refine lv_iconst (v := 1) hx hb dL_law_900 (by decide) ?_
        refine lv_iadd hx hb dL_law_901 ?_
        obtain ⟨g1, hm⟩ := gdE hm
        refine va_sld hx hb hX hbl hbA hw.2.2.1 (ix_in g1) dL_law_902 ?_
        refine lv_aload_n hx hb dL_law_903 rfl (lv_at hl 0 rfl) ?_
        refine lv_iload_n hx hb dL_law_904 rfl (lv_at hl 3 rfl) ?_
        refine lv_iconst (v := 2) hx hb dL_law_905 (by decide) ?_
        refine lv_iadd hx hb dL_law_906 ?_
        obtain ⟨g2, hm⟩ := gdE hm
        refine va_sld hx hb hX hbl hbA hw.2.2.1 (ix_in g2) dL_law_907 ?_
        obtain ⟨r4, h3, er4, hm⟩ := bd2E hm
        refine cg_tcl C hw er4 (show cc + s.heap.size = h.1 by rw [hs0]; omega) (fun _ hk hm9 => va_runV (As := [.int (xs (Int32.toNatClampNeg (x3 + (1 : Int32)))), .int (xs (Int32.toNatClampNeg (x3 + (2 : Int32))))]) (rest := [.long y0]) ⟨hx, hb, hml, hown, hts⟩ (w_X3_index l hm9) (cw_X3_index hts q1974 ⟨Nat.le_of_ble_eq_true rfl, Nat.le_of_ble_eq_true rfl⟩) (tb_pre C hw hk _) rfl rfl hl.1 rfl (lv_room (Nat.le_of_ble_eq_true rfl)) dL_law_908 ⟨show cc + 0 ≤ 601024 by omega, show ss + 0 ≤ 7293034 by omega⟩) (fun H locs hw => ?_)
        have zh3 := tcr_sz er4
        refine lc_eq (tgt := 1975) hx hb dL_law_911 dL_law_912 (by decide) (fun c5 => ?_) (fun c5 => ?_)
        · have hm := ifT hm c5
          exact hB1975 h3 x1 x2 x3 _ _ _ _ _ hm hw (by omega) (by omega) (lv_sub hl [0, 1, 2, 3] rfl)
        · have hm := ifF hm c5
          exact hB915 h3 _ _ _ _ _ hm hw (by omega) (by omega) (lv_sub hl [] rfl)
      have hB883 : ∀ (h : CH) (x1 : Nat) (x2 : Nat) (x3 : Int32) (cc ss : Nat) (H : Heap) (locs : List Loc) (ls : Array Slot), m_L_law_883 f xs L (m_L_law_18 f xs L n18) h x1 x2 x3 = some (1, u9) → CW D dA A s h H locs → cc + u.1 = h.1 → ss + u.2.1 = h.2.1 → lv_has ls 4 [(0, .ref b), (1, .ref x1), (2, .ref x2), (3, .int x3)] → W p l e room_1 s m #[Value.ref b] below meth c H locs cc ss QQ (F0 m 883 ls []) := by
        intro h x1 x2 x3 cc ss H locs ls hm hw hcc hss hl
        have hmo := mo_L_law_883 (mo_L_law_18 n18) h x1 x2 x3 _ hm
        have sb_ : h.1 ≤ u9.1 := hmo.1
        have tb_ : h.2.1 ≤ u9.2.1 := hmo.2.1
        rw [m_L_law_883] at hm
        refine lv_aload_n hx hb dL_law_883 rfl (lv_at hl 1 rfl) ?_
        refine lv_aload_n hx hb dL_law_884 rfl (lv_at hl 0 rfl) ?_
        refine lv_iload_n hx hb dL_law_885 rfl (lv_at hl 3 rfl) ?_
        refine lv_iconst (v := 1) hx hb dL_law_886 (by decide) ?_
        refine lv_iadd hx hb dL_law_887 ?_
        obtain ⟨g1, hm⟩ := gdE hm
        refine va_sld hx hb hX hbl hbA hw.2.2.1 (ix_in g1) dL_law_888 ?_
        refine lv_aload_n hx hb dL_law_889 rfl (lv_at hl 0 rfl) ?_
        refine lv_iload_n hx hb dL_law_890 rfl (lv_at hl 3 rfl) ?_
        refine lv_iconst (v := 2) hx hb dL_law_891 (by decide) ?_
        refine lv_iadd hx hb dL_law_892 ?_
        obtain ⟨g2, hm⟩ := gdE hm
        refine va_sld hx hb hX hbl hbA hw.2.2.1 (ix_in g2) dL_law_893 ?_
        obtain ⟨g3, hm⟩ := gdE hm
        obtain ⟨r5, h4, er5, hm⟩ := bd2E hm
        have lh4 := mo_X0_index er5
        have ph4 : h.1 ≤ h4.1 := lh4.1
        have qh4 : h.2.1 ≤ h4.2.1 := lh4.2.1
        have hmo := mo_L_law_897 (mo_L_law_18 n18)  h4 x1 x2 x3 r5 _ hm
        have sh4 : h4.1 ≤ u9.1 := hmo.1
        have th4 : h4.2.1 ≤ u9.2.1 := hmo.2.1
        refine cg_calll hw lh4 (va_runV (As := [.int (xs (Int32.toNatClampNeg (x3 + (1 : Int32)))), .int (xs (Int32.toNatClampNeg (x3 + (2 : Int32))))]) (rest := []) ⟨hx, hb, hml, hown, hts⟩ (w_X0_index l er5) (cw_X0_index hts q1183 ⟨Nat.le_of_ble_eq_true rfl, Nat.le_of_ble_eq_true rfl⟩) (cg_preV C hw g3 rfl _) rfl rfl hl.1 rfl (lv_room (Nat.le_of_ble_eq_true rfl)) dL_law_894 ⟨show cc + (h4.1 - h.1) ≤ 601024 by omega, show ss + (h4.2.1 - h.2.1) ≤ 7293034 by omega⟩) (fun H locs hw => ?_)
        exact hB897 h4 x1 x2 x3 r5 _ _ _ _ _ hm hw (by omega) (by omega) (lv_sub hl [0, 1, 2, 3] rfl)
      have hB936 : ∀ (h : CH) (x1 : Nat) (x2 : Nat) (x3 : Int32) (y0 : Int64) (cc ss : Nat) (H : Heap) (locs : List Loc) (ls : Array Slot), m_L_law_936 f xs L (m_L_law_18 f xs L n18) h x1 x2 x3 y0 = some (1, u9) → CW D dA A s h H locs → cc + u.1 = h.1 → ss + u.2.1 = h.2.1 → lv_has ls 4 [(0, .ref b), (1, .ref x1), (2, .ref x2), (3, .int x3)] → W p l e room_1 s m #[Value.ref b] below meth c H locs cc ss QQ (F0 m 936 ls [.long y0]) := by
        intro h x1 x2 x3 y0 cc ss H locs ls hm hw hcc hss hl
        have hmo := mo_L_law_936 (mo_L_law_18 n18) h x1 x2 x3 y0 _ hm
        have sb_ : h.1 ≤ u9.1 := hmo.1
        have tb_ : h.2.1 ≤ u9.2.1 := hmo.2.1
        rw [m_L_law_936] at hm
        refine lv_aload_n hx hb dL_law_936 rfl (lv_at hl 2 rfl) ?_
        refine lv_aload_n hx hb dL_law_937 rfl (lv_at hl 0 rfl) ?_
        refine lv_iload_n hx hb dL_law_938 rfl (lv_at hl 3 rfl) ?_
        refine lv_iconst (v := 1) hx hb dL_law_939 (by decide) ?_
        refine lv_iadd hx hb dL_law_940 ?_
        obtain ⟨g1, hm⟩ := gdE hm
        refine va_sld hx hb hX hbl hbA hw.2.2.1 (ix_in g1) dL_law_941 ?_
        refine lv_aload_n hx hb dL_law_942 rfl (lv_at hl 0 rfl) ?_
        refine lv_iload_n hx hb dL_law_943 rfl (lv_at hl 3 rfl) ?_
        refine lv_iconst (v := 2) hx hb dL_law_944 (by decide) ?_
        refine lv_iadd hx hb dL_law_945 ?_
        obtain ⟨g2, hm⟩ := gdE hm
        refine va_sld hx hb hX hbl hbA hw.2.2.1 (ix_in g2) dL_law_946 ?_
        refine lv_aload_n hx hb dL_law_947 rfl (lv_at hl 0 rfl) ?_
        refine lv_iload_n hx hb dL_law_948 rfl (lv_at hl 3 rfl) ?_
        refine lv_iconst (v := 3) hx hb dL_law_949 (by decide) ?_
        refine lv_iadd hx hb dL_law_950 ?_
        obtain ⟨g3, hm⟩ := gdE hm
        refine va_sld hx hb hX hbl hbA hw.2.2.1 (ix_in g3) dL_law_951 ?_
        obtain ⟨r5, h4, er5, hm⟩ := bd2E hm
        refine cg_tcl C hw er5 (show cc + s.heap.size = h.1 by rw [hs0]; omega) (fun _ hk hm9 => va_runV (As := [.int (xs (Int32.toNatClampNeg (x3 + (1 : Int32)))), .int (xs (Int32.toNatClampNeg (x3 + (2 : Int32)))), .int (xs (Int32.toNatClampNeg (x3 + (3 : Int32))))]) (rest := [.long y0]) ⟨hx, hb, hml, hown, hts⟩ (w_X3_group l hm9) (cw_X3_group hts q1982 ⟨Nat.le_of_ble_eq_true rfl, Nat.le_of_ble_eq_true rfl⟩) (tb_pre C hw hk _) rfl rfl hl.1 rfl (lv_room (Nat.le_of_ble_eq_true rfl)) dL_law_952 ⟨show cc + 0 ≤ 601024 by omega, show ss + 0 ≤ 7293034 by omega⟩) (fun H locs hw => ?_)
        have zh4 := tcr_sz er5
        refine lc_eq (tgt := 1975) hx hb dL_law_955 dL_law_956 (by decide) (fun c6 => ?_) (fun c6 => ?_)
        · have hm := ifT hm c6
          exact hB1975 h4 x1 x2 x3 _ _ _ _ _ hm hw (by omega) (by omega) (lv_sub hl [0, 1, 2, 3] rfl)
        · have hm := ifF hm c6
          exact hB959 h4 _ _ _ _ _ hm hw (by omega) (by omega) (lv_sub hl [] rfl)
      have hB917 : ∀ (h : CH) (x1 : Nat) (x2 : Nat) (x3 : Int32) (cc ss : Nat) (H : Heap) (locs : List Loc) (ls : Array Slot), m_L_law_917 f xs L (m_L_law_18 f xs L n18) h x1 x2 x3 = some (1, u9) → CW D dA A s h H locs → cc + u.1 = h.1 → ss + u.2.1 = h.2.1 → lv_has ls 4 [(0, .ref b), (1, .ref x1), (2, .ref x2), (3, .int x3)] → W p l e room_1 s m #[Value.ref b] below meth c H locs cc ss QQ (F0 m 917 ls []) := by
        intro h x1 x2 x3 cc ss H locs ls hm hw hcc hss hl
        have hmo := mo_L_law_917 (mo_L_law_18 n18) h x1 x2 x3 _ hm
        have sb_ : h.1 ≤ u9.1 := hmo.1
        have tb_ : h.2.1 ≤ u9.2.1 := hmo.2.1
        rw [m_L_law_917] at hm
        refine lv_aload_n hx hb dL_law_917 rfl (lv_at hl 1 rfl) ?_
        refine lv_aload_n hx hb dL_law_918 rfl (lv_at hl 0 rfl) ?_
        refine lv_iload_n hx hb dL_law_919 rfl (lv_at hl 3 rfl) ?_
        refine lv_iconst (v := 1) hx hb dL_law_920 (by decide) ?_
        refine lv_iadd hx hb dL_law_921 ?_
        obtain ⟨g1, hm⟩ := gdE hm
        refine va_sld hx hb hX hbl hbA hw.2.2.1 (ix_in g1) dL_law_922 ?_
        refine lv_aload_n hx hb dL_law_923 rfl (lv_at hl 0 rfl) ?_
        refine lv_iload_n hx hb dL_law_924 rfl (lv_at hl 3 rfl) ?_
        refine lv_iconst (v := 2) hx hb dL_law_925 (by decide) ?_
        refine lv_iadd hx hb dL_law_926 ?_
        obtain ⟨g2, hm⟩ := gdE hm
        refine va_sld hx hb hX hbl hbA hw.2.2.1 (ix_in g2) dL_law_927 ?_
        refine lv_aload_n hx hb dL_law_928 rfl (lv_at hl 0 rfl) ?_
        refine lv_iload_n hx hb dL_law_929 rfl (lv_at hl 3 rfl) ?_
        refine lv_iconst (v := 3) hx hb dL_law_930 (by decide) ?_
        refine lv_iadd hx hb dL_law_931 ?_
        obtain ⟨g3, hm⟩ := gdE hm
        refine va_sld hx hb hX hbl hbA hw.2.2.1 (ix_in g3) dL_law_932 ?_
        obtain ⟨g4, hm⟩ := gdE hm
        obtain ⟨r6, h5, er6, hm⟩ := bd2E hm
        have lh5 := mo_X0_group er6
        have ph5 : h.1 ≤ h5.1 := lh5.1
        have qh5 : h.2.1 ≤ h5.2.1 := lh5.2.1
        have hmo := mo_L_law_936 (mo_L_law_18 n18)  h5 x1 x2 x3 r6 _ hm
        have sh5 : h5.1 ≤ u9.1 := hmo.1
        have th5 : h5.2.1 ≤ u9.2.1 := hmo.2.1
        refine cg_calll hw lh5 (va_runV (As := [.int (xs (Int32.toNatClampNeg (x3 + (1 : Int32)))), .int (xs (Int32.toNatClampNeg (x3 + (2 : Int32)))), .int (xs (Int32.toNatClampNeg (x3 + (3 : Int32))))]) (rest := []) ⟨hx, hb, hml, hown, hts⟩ (w_X0_group l er6) (cw_X0_group hts q1192 ⟨Nat.le_of_ble_eq_true rfl, Nat.le_of_ble_eq_true rfl⟩) (cg_preV C hw g4 rfl _) rfl rfl hl.1 rfl (lv_room (Nat.le_of_ble_eq_true rfl)) dL_law_933 ⟨show cc + (h5.1 - h.1) ≤ 601024 by omega, show ss + (h5.2.1 - h.2.1) ≤ 7293034 by omega⟩) (fun H locs hw => ?_)
        exact hB936 h5 x1 x2 x3 r6 _ _ _ _ _ hm hw (by omega) (by omega) (lv_sub hl [0, 1, 2, 3] rfl)
      have hB996 : ∀ (h : CH) (x1 : Nat) (x2 : Nat) (x3 : Int32) (y0 : Int32) (cc ss : Nat) (H : Heap) (locs : List Loc) (ls : Array Slot), m_L_law_996 f xs L (m_L_law_18 f xs L n18) h x1 x2 x3 y0 = some (1, u9) → CW D dA A s h H locs → cc + u.1 = h.1 → ss + u.2.1 = h.2.1 → lv_has ls 4 [(0, .ref b), (1, .ref x1), (2, .ref x2), (3, .int x3)] → W p l e room_1 s m #[Value.ref b] below meth c H locs cc ss QQ (F0 m 996 ls [.int y0]) := by
        intro h x1 x2 x3 y0 cc ss H locs ls hm hw hcc hss hl
        have hmo := mo_L_law_996 (mo_L_law_18 n18) h x1 x2 x3 y0 _ hm
        have sb_ : h.1 ≤ u9.1 := hmo.1
        have tb_ : h.2.1 ≤ u9.2.1 := hmo.2.1
        rw [m_L_law_996] at hm
        refine lv_aload_n hx hb dL_law_996 rfl (lv_at hl 2 rfl) ?_
        refine lv_aload_n hx hb dL_law_997 rfl (lv_at hl 0 rfl) ?_
        refine lv_iload_n hx hb dL_law_998 rfl (lv_at hl 3 rfl) ?_
        refine lv_iconst (v := 1) hx hb dL_law_999 (by decide) ?_
        refine lv_iadd hx hb dL_law_1000 ?_
        obtain ⟨g1, hm⟩ := gdE hm
        refine va_sld hx hb hX hbl hbA hw.2.2.1 (ix_in g1) dL_law_1001 ?_
        refine lv_aload_n hx hb dL_law_1002 rfl (lv_at hl 0 rfl) ?_
        refine lv_iload_n hx hb dL_law_1003 rfl (lv_at hl 3 rfl) ?_
        refine lv_iconst (v := 2) hx hb dL_law_1004 (by decide) ?_
        refine lv_iadd hx hb dL_law_1005 ?_
        obtain ⟨g2, hm⟩ := gdE hm
        refine va_sld hx hb hX hbl hbA hw.2.2.1 (ix_in g2) dL_law_1006 ?_
        refine lv_aload_n hx hb dL_law_1007 rfl (lv_at hl 0 rfl) ?_
        refine lv_iload_n hx hb dL_law_1008 rfl (lv_at hl 3 rfl) ?_
        refine lv_iconst (v := 3) hx hb dL_law_1009 (by decide) ?_
        refine lv_iadd hx hb dL_law_1010 ?_
        obtain ⟨g3, hm⟩ := gdE hm
        refine va_sld hx hb hX hbl hbA hw.2.2.1 (ix_in g3) dL_law_1011 ?_
        refine lv_aload_n hx hb dL_law_1012 rfl (lv_at hl 0 rfl) ?_
        refine lv_iload_n hx hb dL_law_1013 rfl (lv_at hl 3 rfl) ?_
        refine lv_iconst (v := 4) hx hb dL_law_1014 (by decide) ?_
        refine lv_iadd hx hb dL_law_1015 ?_
        obtain ⟨g4, hm⟩ := gdE hm
        refine va_sld hx hb hX hbl hbA hw.2.2.1 (ix_in g4) dL_law_1016 ?_
        refine lv_aload_n hx hb dL_law_1017 rfl (lv_at hl 0 rfl) ?_
        refine lv_iload_n hx hb dL_law_1018 rfl (lv_at hl 3 rfl) ?_
        refine lv_iconst (v := 5) hx hb dL_law_1019 (by decide) ?_
        refine lv_iadd hx hb dL_law_1020 ?_
        obtain ⟨g5, hm⟩ := gdE hm
        refine va_sld hx hb hX hbl hbA hw.2.2.1 (ix_in g5) dL_law_1021 ?_
        refine lv_aload_n hx hb dL_law_1022 rfl (lv_at hl 0 rfl) ?_
        refine lv_iload_n hx hb dL_law_1023 rfl (lv_at hl 3 rfl) ?_
        refine lv_bipush (v := 6) hx hb dL_law_1024 (by decide) ?_
        refine lv_iadd hx hb dL_law_1026 ?_
        obtain ⟨g6, hm⟩ := gdE hm
        refine va_sld hx hb hX hbl hbA hw.2.2.1 (ix_in g6) dL_law_1027 ?_
        obtain ⟨r8, h7, er8, hm⟩ := bd2E hm
        refine cg_tci C hw er8 (show cc + s.heap.size = h.1 by rw [hs0]; omega) (fun _ hk hm9 => va_runV (As := [.int (xs (Int32.toNatClampNeg (x3 + (1 : Int32)))), .int (xs (Int32.toNatClampNeg (x3 + (2 : Int32)))), .int (xs (Int32.toNatClampNeg (x3 + (3 : Int32)))), .int (xs (Int32.toNatClampNeg (x3 + (4 : Int32)))), .int (xs (Int32.toNatClampNeg (x3 + (5 : Int32)))), .int (xs (Int32.toNatClampNeg (x3 + (6 : Int32))))]) (rest := [.int y0]) ⟨hx, hb, hml, hown, hts⟩ (w_X3_met l hm9) (cw_X3_met hts q1986 ⟨Nat.le_of_ble_eq_true rfl, Nat.le_of_ble_eq_true rfl⟩) (tb_pre C hw hk _) rfl rfl hl.1 rfl (lv_room (Nat.le_of_ble_eq_true rfl)) dL_law_1028 ⟨show cc + 0 ≤ 601024 by omega, show ss + 0 ≤ 7293034 by omega⟩) (fun H locs hw => ?_)
        have zh7 := tcr_sz er8
        refine lv_icmp_eq (tgt := 1975) hx hb dL_law_1031 (by decide) (fun c9 => ?_) (fun c9 => ?_)
        · have hm := ifT hm c9
          exact hB1975 h7 x1 x2 x3 _ _ _ _ _ hm hw (by omega) (by omega) (lv_sub hl [0, 1, 2, 3] rfl)
        · have hm := ifF hm c9
          exact hB1034 h7 _ _ _ _ _ hm hw (by omega) (by omega) (lv_sub hl [] rfl)
      have hB961 : ∀ (h : CH) (x1 : Nat) (x2 : Nat) (x3 : Int32) (cc ss : Nat) (H : Heap) (locs : List Loc) (ls : Array Slot), m_L_law_961 f xs L (m_L_law_18 f xs L n18) h x1 x2 x3 = some (1, u9) → CW D dA A s h H locs → cc + u.1 = h.1 → ss + u.2.1 = h.2.1 → lv_has ls 4 [(0, .ref b), (1, .ref x1), (2, .ref x2), (3, .int x3)] → W p l e room_1 s m #[Value.ref b] below meth c H locs cc ss QQ (F0 m 961 ls []) := by
        intro h x1 x2 x3 cc ss H locs ls hm hw hcc hss hl
        have hmo := mo_L_law_961 (mo_L_law_18 n18) h x1 x2 x3 _ hm
        have sb_ : h.1 ≤ u9.1 := hmo.1
        have tb_ : h.2.1 ≤ u9.2.1 := hmo.2.1
        rw [m_L_law_961] at hm
        refine lv_aload_n hx hb dL_law_961 rfl (lv_at hl 1 rfl) ?_
        refine lv_aload_n hx hb dL_law_962 rfl (lv_at hl 0 rfl) ?_
        refine lv_iload_n hx hb dL_law_963 rfl (lv_at hl 3 rfl) ?_
        refine lv_iconst (v := 1) hx hb dL_law_964 (by decide) ?_
        refine lv_iadd hx hb dL_law_965 ?_
        obtain ⟨g1, hm⟩ := gdE hm
        refine va_sld hx hb hX hbl hbA hw.2.2.1 (ix_in g1) dL_law_966 ?_
        refine lv_aload_n hx hb dL_law_967 rfl (lv_at hl 0 rfl) ?_
        refine lv_iload_n hx hb dL_law_968 rfl (lv_at hl 3 rfl) ?_
        refine lv_iconst (v := 2) hx hb dL_law_969 (by decide) ?_
        refine lv_iadd hx hb dL_law_970 ?_
        obtain ⟨g2, hm⟩ := gdE hm
        refine va_sld hx hb hX hbl hbA hw.2.2.1 (ix_in g2) dL_law_971 ?_
        refine lv_aload_n hx hb dL_law_972 rfl (lv_at hl 0 rfl) ?_
        refine lv_iload_n hx hb dL_law_973 rfl (lv_at hl 3 rfl) ?_
        refine lv_iconst (v := 3) hx hb dL_law_974 (by decide) ?_
        refine lv_iadd hx hb dL_law_975 ?_
        obtain ⟨g3, hm⟩ := gdE hm
        refine va_sld hx hb hX hbl hbA hw.2.2.1 (ix_in g3) dL_law_976 ?_
        refine lv_aload_n hx hb dL_law_977 rfl (lv_at hl 0 rfl) ?_
        refine lv_iload_n hx hb dL_law_978 rfl (lv_at hl 3 rfl) ?_
        refine lv_iconst (v := 4) hx hb dL_law_979 (by decide) ?_
        refine lv_iadd hx hb dL_law_980 ?_
        obtain ⟨g4, hm⟩ := gdE hm
        refine va_sld hx hb hX hbl hbA hw.2.2.1 (ix_in g4) dL_law_981 ?_
        refine lv_aload_n hx hb dL_law_982 rfl (lv_at hl 0 rfl) ?_
        refine lv_iload_n hx hb dL_law_983 rfl (lv_at hl 3 rfl) ?_
        refine lv_iconst (v := 5) hx hb dL_law_984 (by decide) ?_
        refine lv_iadd hx hb dL_law_985 ?_
        obtain ⟨g5, hm⟩ := gdE hm
        refine va_sld hx hb hX hbl hbA hw.2.2.1 (ix_in g5) dL_law_986 ?_
        refine lv_aload_n hx hb dL_law_987 rfl (lv_at hl 0 rfl) ?_
        refine lv_iload_n hx hb dL_law_988 rfl (lv_at hl 3 rfl) ?_
        refine lv_bipush (v := 6) hx hb dL_law_989 (by decide) ?_
        refine lv_iadd hx hb dL_law_991 ?_
        obtain ⟨g6, hm⟩ := gdE hm
        refine va_sld hx hb hX hbl hbA hw.2.2.1 (ix_in g6) dL_law_992 ?_
        obtain ⟨g7, hm⟩ := gdE hm
        obtain ⟨r9, h8, er9, hm⟩ := bd2E hm
        have lh8 := mo_X0_met er9
        have ph8 : h.1 ≤ h8.1 := lh8.1
        have qh8 : h.2.1 ≤ h8.2.1 := lh8.2.1
        have hmo := mo_L_law_996 (mo_L_law_18 n18)  h8 x1 x2 x3 r9 _ hm
        have sh8 : h8.1 ≤ u9.1 := hmo.1
        have th8 : h8.2.1 ≤ u9.2.1 := hmo.2.1
        refine cg_calli hw lh8 (va_runV (As := [.int (xs (Int32.toNatClampNeg (x3 + (1 : Int32)))), .int (xs (Int32.toNatClampNeg (x3 + (2 : Int32)))), .int (xs (Int32.toNatClampNeg (x3 + (3 : Int32)))), .int (xs (Int32.toNatClampNeg (x3 + (4 : Int32)))), .int (xs (Int32.toNatClampNeg (x3 + (5 : Int32)))), .int (xs (Int32.toNatClampNeg (x3 + (6 : Int32))))]) (rest := []) ⟨hx, hb, hml, hown, hts⟩ (w_X0_met l er9) (cw_X0_met hts q1196 ⟨Nat.le_of_ble_eq_true rfl, Nat.le_of_ble_eq_true rfl⟩) (cg_preV C hw g7 rfl _) rfl rfl hl.1 rfl (lv_room (Nat.le_of_ble_eq_true rfl)) dL_law_993 ⟨show cc + (h8.1 - h.1) ≤ 601024 by omega, show ss + (h8.2.1 - h.2.1) ≤ 7293034 by omega⟩) (fun H locs hw => ?_)
        exact hB996 h8 x1 x2 x3 r9 _ _ _ _ _ hm hw (by omega) (by omega) (lv_sub hl [0, 1, 2, 3] rfl)
      have hB1071 : ∀ (h : CH) (x1 : Nat) (x2 : Nat) (x3 : Int32) (y0 : Int32) (cc ss : Nat) (H : Heap) (locs : List Loc) (ls : Array Slot), m_L_law_1071 f xs L (m_L_law_18 f xs L n18) h x1 x2 x3 y0 = some (1, u9) → CW D dA A s h H locs → cc + u.1 = h.1 → ss + u.2.1 = h.2.1 → lv_has ls 4 [(0, .ref b), (1, .ref x1), (2, .ref x2), (3, .int x3)] → W p l e room_1 s m #[Value.ref b] below meth c H locs cc ss QQ (F0 m 1071 ls [.int y0]) := by
        intro h x1 x2 x3 y0 cc ss H locs ls hm hw hcc hss hl
        have hmo := mo_L_law_1071 (mo_L_law_18 n18) h x1 x2 x3 y0 _ hm
        have sb_ : h.1 ≤ u9.1 := hmo.1
        have tb_ : h.2.1 ≤ u9.2.1 := hmo.2.1
        rw [m_L_law_1071] at hm
        refine lv_aload_n hx hb dL_law_1071 rfl (lv_at hl 2 rfl) ?_
        refine lv_aload_n hx hb dL_law_1072 rfl (lv_at hl 0 rfl) ?_
        refine lv_iload_n hx hb dL_law_1073 rfl (lv_at hl 3 rfl) ?_
        refine lv_iconst (v := 1) hx hb dL_law_1074 (by decide) ?_
        refine lv_iadd hx hb dL_law_1075 ?_
        obtain ⟨g1, hm⟩ := gdE hm
        refine va_sld hx hb hX hbl hbA hw.2.2.1 (ix_in g1) dL_law_1076 ?_
        refine lv_aload_n hx hb dL_law_1077 rfl (lv_at hl 0 rfl) ?_
        refine lv_iload_n hx hb dL_law_1078 rfl (lv_at hl 3 rfl) ?_
        refine lv_iconst (v := 2) hx hb dL_law_1079 (by decide) ?_
        refine lv_iadd hx hb dL_law_1080 ?_
        obtain ⟨g2, hm⟩ := gdE hm
        refine va_sld hx hb hX hbl hbA hw.2.2.1 (ix_in g2) dL_law_1081 ?_
        refine lv_aload_n hx hb dL_law_1082 rfl (lv_at hl 0 rfl) ?_
        refine lv_iload_n hx hb dL_law_1083 rfl (lv_at hl 3 rfl) ?_
        refine lv_iconst (v := 3) hx hb dL_law_1084 (by decide) ?_
        refine lv_iadd hx hb dL_law_1085 ?_
        obtain ⟨g3, hm⟩ := gdE hm
        refine va_sld hx hb hX hbl hbA hw.2.2.1 (ix_in g3) dL_law_1086 ?_
        refine lv_aload_n hx hb dL_law_1087 rfl (lv_at hl 0 rfl) ?_
        refine lv_iload_n hx hb dL_law_1088 rfl (lv_at hl 3 rfl) ?_
        refine lv_iconst (v := 4) hx hb dL_law_1089 (by decide) ?_
        refine lv_iadd hx hb dL_law_1090 ?_
        obtain ⟨g4, hm⟩ := gdE hm
        refine va_sld hx hb hX hbl hbA hw.2.2.1 (ix_in g4) dL_law_1091 ?_
        refine lv_aload_n hx hb dL_law_1092 rfl (lv_at hl 0 rfl) ?_
        refine lv_iload_n hx hb dL_law_1093 rfl (lv_at hl 3 rfl) ?_
        refine lv_iconst (v := 5) hx hb dL_law_1094 (by decide) ?_
        refine lv_iadd hx hb dL_law_1095 ?_
        obtain ⟨g5, hm⟩ := gdE hm
        refine va_sld hx hb hX hbl hbA hw.2.2.1 (ix_in g5) dL_law_1096 ?_
        refine lv_aload_n hx hb dL_law_1097 rfl (lv_at hl 0 rfl) ?_
        refine lv_iload_n hx hb dL_law_1098 rfl (lv_at hl 3 rfl) ?_
        refine lv_bipush (v := 6) hx hb dL_law_1099 (by decide) ?_
        refine lv_iadd hx hb dL_law_1101 ?_
        obtain ⟨g6, hm⟩ := gdE hm
        refine va_sld hx hb hX hbl hbA hw.2.2.1 (ix_in g6) dL_law_1102 ?_
        obtain ⟨r8, h7, er8, hm⟩ := bd2E hm
        refine cg_tci C hw er8 (show cc + s.heap.size = h.1 by rw [hs0]; omega) (fun _ hk hm9 => va_runV (As := [.int (xs (Int32.toNatClampNeg (x3 + (1 : Int32)))), .int (xs (Int32.toNatClampNeg (x3 + (2 : Int32)))), .int (xs (Int32.toNatClampNeg (x3 + (3 : Int32)))), .int (xs (Int32.toNatClampNeg (x3 + (4 : Int32)))), .int (xs (Int32.toNatClampNeg (x3 + (5 : Int32)))), .int (xs (Int32.toNatClampNeg (x3 + (6 : Int32))))]) (rest := [.int y0]) ⟨hx, hb, hml, hown, hts⟩ (w_X3_order l hm9) (cw_X3_order hts q1994 ⟨Nat.le_of_ble_eq_true rfl, Nat.le_of_ble_eq_true rfl⟩) (tb_pre C hw hk _) rfl rfl hl.1 rfl (lv_room (Nat.le_of_ble_eq_true rfl)) dL_law_1103 ⟨show cc + 0 ≤ 601024 by omega, show ss + 0 ≤ 7293034 by omega⟩) (fun H locs hw => ?_)
        have zh7 := tcr_sz er8
        refine lv_icmp_eq (tgt := 1975) hx hb dL_law_1106 (by decide) (fun c9 => ?_) (fun c9 => ?_)
        · have hm := ifT hm c9
          exact hB1975 h7 x1 x2 x3 _ _ _ _ _ hm hw (by omega) (by omega) (lv_sub hl [0, 1, 2, 3] rfl)
        · have hm := ifF hm c9
          exact hB1109 h7 _ _ _ _ _ hm hw (by omega) (by omega) (lv_sub hl [] rfl)
      have hB1036 : ∀ (h : CH) (x1 : Nat) (x2 : Nat) (x3 : Int32) (cc ss : Nat) (H : Heap) (locs : List Loc) (ls : Array Slot), m_L_law_1036 f xs L (m_L_law_18 f xs L n18) h x1 x2 x3 = some (1, u9) → CW D dA A s h H locs → cc + u.1 = h.1 → ss + u.2.1 = h.2.1 → lv_has ls 4 [(0, .ref b), (1, .ref x1), (2, .ref x2), (3, .int x3)] → W p l e room_1 s m #[Value.ref b] below meth c H locs cc ss QQ (F0 m 1036 ls []) := by
        intro h x1 x2 x3 cc ss H locs ls hm hw hcc hss hl
        have hmo := mo_L_law_1036 (mo_L_law_18 n18) h x1 x2 x3 _ hm
        have sb_ : h.1 ≤ u9.1 := hmo.1
        have tb_ : h.2.1 ≤ u9.2.1 := hmo.2.1
        rw [m_L_law_1036] at hm
        refine lv_aload_n hx hb dL_law_1036 rfl (lv_at hl 1 rfl) ?_
        refine lv_aload_n hx hb dL_law_1037 rfl (lv_at hl 0 rfl) ?_
        refine lv_iload_n hx hb dL_law_1038 rfl (lv_at hl 3 rfl) ?_
        refine lv_iconst (v := 1) hx hb dL_law_1039 (by decide) ?_
        refine lv_iadd hx hb dL_law_1040 ?_
        obtain ⟨g1, hm⟩ := gdE hm
        refine va_sld hx hb hX hbl hbA hw.2.2.1 (ix_in g1) dL_law_1041 ?_
        refine lv_aload_n hx hb dL_law_1042 rfl (lv_at hl 0 rfl) ?_
        refine lv_iload_n hx hb dL_law_1043 rfl (lv_at hl 3 rfl) ?_
        refine lv_iconst (v := 2) hx hb dL_law_1044 (by decide) ?_
        refine lv_iadd hx hb dL_law_1045 ?_
        obtain ⟨g2, hm⟩ := gdE hm
        refine va_sld hx hb hX hbl hbA hw.2.2.1 (ix_in g2) dL_law_1046 ?_
        refine lv_aload_n hx hb dL_law_1047 rfl (lv_at hl 0 rfl) ?_
        refine lv_iload_n hx hb dL_law_1048 rfl (lv_at hl 3 rfl) ?_
        refine lv_iconst (v := 3) hx hb dL_law_1049 (by decide) ?_
        refine lv_iadd hx hb dL_law_1050 ?_
        obtain ⟨g3, hm⟩ := gdE hm
        refine va_sld hx hb hX hbl hbA hw.2.2.1 (ix_in g3) dL_law_1051 ?_
        refine lv_aload_n hx hb dL_law_1052 rfl (lv_at hl 0 rfl) ?_
        refine lv_iload_n hx hb dL_law_1053 rfl (lv_at hl 3 rfl) ?_
        refine lv_iconst (v := 4) hx hb dL_law_1054 (by decide) ?_
        refine lv_iadd hx hb dL_law_1055 ?_
        obtain ⟨g4, hm⟩ := gdE hm
        refine va_sld hx hb hX hbl hbA hw.2.2.1 (ix_in g4) dL_law_1056 ?_
        refine lv_aload_n hx hb dL_law_1057 rfl (lv_at hl 0 rfl) ?_
        refine lv_iload_n hx hb dL_law_1058 rfl (lv_at hl 3 rfl) ?_
        refine lv_iconst (v := 5) hx hb dL_law_1059 (by decide) ?_
        refine lv_iadd hx hb dL_law_1060 ?_
        obtain ⟨g5, hm⟩ := gdE hm
        refine va_sld hx hb hX hbl hbA hw.2.2.1 (ix_in g5) dL_law_1061 ?_
        refine lv_aload_n hx hb dL_law_1062 rfl (lv_at hl 0 rfl) ?_
        refine lv_iload_n hx hb dL_law_1063 rfl (lv_at hl 3 rfl) ?_
        refine lv_bipush (v := 6) hx hb dL_law_1064 (by decide) ?_
        refine lv_iadd hx hb dL_law_1066 ?_
        obtain ⟨g6, hm⟩ := gdE hm
        refine va_sld hx hb hX hbl hbA hw.2.2.1 (ix_in g6) dL_law_1067 ?_
        obtain ⟨g7, hm⟩ := gdE hm
        obtain ⟨r9, h8, er9, hm⟩ := bd2E hm
        have lh8 := mo_X0_order er9
        have ph8 : h.1 ≤ h8.1 := lh8.1
        have qh8 : h.2.1 ≤ h8.2.1 := lh8.2.1
        have hmo := mo_L_law_1071 (mo_L_law_18 n18)  h8 x1 x2 x3 r9 _ hm
        have sh8 : h8.1 ≤ u9.1 := hmo.1
        have th8 : h8.2.1 ≤ u9.2.1 := hmo.2.1
        refine cg_calli hw lh8 (va_runV (As := [.int (xs (Int32.toNatClampNeg (x3 + (1 : Int32)))), .int (xs (Int32.toNatClampNeg (x3 + (2 : Int32)))), .int (xs (Int32.toNatClampNeg (x3 + (3 : Int32)))), .int (xs (Int32.toNatClampNeg (x3 + (4 : Int32)))), .int (xs (Int32.toNatClampNeg (x3 + (5 : Int32)))), .int (xs (Int32.toNatClampNeg (x3 + (6 : Int32))))]) (rest := []) ⟨hx, hb, hml, hown, hts⟩ (w_X0_order l er9) (cw_X0_order hts q1209 ⟨Nat.le_of_ble_eq_true rfl, Nat.le_of_ble_eq_true rfl⟩) (cg_preV C hw g7 rfl _) rfl rfl hl.1 rfl (lv_room (Nat.le_of_ble_eq_true rfl)) dL_law_1068 ⟨show cc + (h8.1 - h.1) ≤ 601024 by omega, show ss + (h8.2.1 - h.2.1) ≤ 7293034 by omega⟩) (fun H locs hw => ?_)
        exact hB1071 h8 x1 x2 x3 r9 _ _ _ _ _ hm hw (by omega) (by omega) (lv_sub hl [0, 1, 2, 3] rfl)
      have hB1130 : ∀ (h : CH) (x1 : Nat) (x2 : Nat) (x3 : Int32) (y0 : Int32) (cc ss : Nat) (H : Heap) (locs : List Loc) (ls : Array Slot), m_L_law_1130 f xs L (m_L_law_18 f xs L n18) h x1 x2 x3 y0 = some (1, u9) → CW D dA A s h H locs → cc + u.1 = h.1 → ss + u.2.1 = h.2.1 → lv_has ls 4 [(0, .ref b), (1, .ref x1), (2, .ref x2), (3, .int x3)] → W p l e room_1 s m #[Value.ref b] below meth c H locs cc ss QQ (F0 m 1130 ls [.int y0]) := by
        intro h x1 x2 x3 y0 cc ss H locs ls hm hw hcc hss hl
        have hmo := mo_L_law_1130 (mo_L_law_18 n18) h x1 x2 x3 y0 _ hm
        have sb_ : h.1 ≤ u9.1 := hmo.1
        have tb_ : h.2.1 ≤ u9.2.1 := hmo.2.1
        rw [m_L_law_1130] at hm
        refine lv_aload_n hx hb dL_law_1130 rfl (lv_at hl 2 rfl) ?_
        refine lv_aload_n hx hb dL_law_1131 rfl (lv_at hl 0 rfl) ?_
        refine lv_iload_n hx hb dL_law_1132 rfl (lv_at hl 3 rfl) ?_
        refine lv_iconst (v := 1) hx hb dL_law_1133 (by decide) ?_
        refine lv_iadd hx hb dL_law_1134 ?_
        obtain ⟨g1, hm⟩ := gdE hm
        refine va_sld hx hb hX hbl hbA hw.2.2.1 (ix_in g1) dL_law_1135 ?_
        refine lv_aload_n hx hb dL_law_1136 rfl (lv_at hl 0 rfl) ?_
        refine lv_iload_n hx hb dL_law_1137 rfl (lv_at hl 3 rfl) ?_
        refine lv_iconst (v := 2) hx hb dL_law_1138 (by decide) ?_
        refine lv_iadd hx hb dL_law_1139 ?_
        obtain ⟨g2, hm⟩ := gdE hm
        refine va_sld hx hb hX hbl hbA hw.2.2.1 (ix_in g2) dL_law_1140 ?_
        refine lv_aload_n hx hb dL_law_1141 rfl (lv_at hl 0 rfl) ?_
        refine lv_iload_n hx hb dL_law_1142 rfl (lv_at hl 3 rfl) ?_
        refine lv_iconst (v := 3) hx hb dL_law_1143 (by decide) ?_
        refine lv_iadd hx hb dL_law_1144 ?_
        obtain ⟨g3, hm⟩ := gdE hm
        refine va_sld hx hb hX hbl hbA hw.2.2.1 (ix_in g3) dL_law_1145 ?_
        obtain ⟨r5, h4, er5, hm⟩ := bd2E hm
        refine cg_tci C hw er5 (show cc + s.heap.size = h.1 by rw [hs0]; omega) (fun _ hk hm9 => va_runV (As := [.int (xs (Int32.toNatClampNeg (x3 + (1 : Int32)))), .int (xs (Int32.toNatClampNeg (x3 + (2 : Int32)))), .int (xs (Int32.toNatClampNeg (x3 + (3 : Int32))))]) (rest := [.int y0]) ⟨hx, hb, hml, hown, hts⟩ (w_X3_reduced l hm9) (cw_X3_reduced hts q2039 ⟨Nat.le_of_ble_eq_true rfl, Nat.le_of_ble_eq_true rfl⟩) (tb_pre C hw hk _) rfl rfl hl.1 rfl (lv_room (Nat.le_of_ble_eq_true rfl)) dL_law_1146 ⟨show cc + 0 ≤ 601024 by omega, show ss + 0 ≤ 7293034 by omega⟩) (fun H locs hw => ?_)
        have zh4 := tcr_sz er5
        refine lv_icmp_eq (tgt := 1975) hx hb dL_law_1149 (by decide) (fun c6 => ?_) (fun c6 => ?_)
        · have hm := ifT hm c6
          exact hB1975 h4 x1 x2 x3 _ _ _ _ _ hm hw (by omega) (by omega) (lv_sub hl [0, 1, 2, 3] rfl)
        · have hm := ifF hm c6
          exact hB1152 h4 _ _ _ _ _ hm hw (by omega) (by omega) (lv_sub hl [] rfl)
      have hB1111 : ∀ (h : CH) (x1 : Nat) (x2 : Nat) (x3 : Int32) (cc ss : Nat) (H : Heap) (locs : List Loc) (ls : Array Slot), m_L_law_1111 f xs L (m_L_law_18 f xs L n18) h x1 x2 x3 = some (1, u9) → CW D dA A s h H locs → cc + u.1 = h.1 → ss + u.2.1 = h.2.1 → lv_has ls 4 [(0, .ref b), (1, .ref x1), (2, .ref x2), (3, .int x3)] → W p l e room_1 s m #[Value.ref b] below meth c H locs cc ss QQ (F0 m 1111 ls []) := by
        intro h x1 x2 x3 cc ss H locs ls hm hw hcc hss hl
        have hmo := mo_L_law_1111 (mo_L_law_18 n18) h x1 x2 x3 _ hm
        have sb_ : h.1 ≤ u9.1 := hmo.1
        have tb_ : h.2.1 ≤ u9.2.1 := hmo.2.1
        rw [m_L_law_1111] at hm
        refine lv_aload_n hx hb dL_law_1111 rfl (lv_at hl 1 rfl) ?_
        refine lv_aload_n hx hb dL_law_1112 rfl (lv_at hl 0 rfl) ?_
        refine lv_iload_n hx hb dL_law_1113 rfl (lv_at hl 3 rfl) ?_
        refine lv_iconst (v := 1) hx hb dL_law_1114 (by decide) ?_
        refine lv_iadd hx hb dL_law_1115 ?_
        obtain ⟨g1, hm⟩ := gdE hm
        refine va_sld hx hb hX hbl hbA hw.2.2.1 (ix_in g1) dL_law_1116 ?_
        refine lv_aload_n hx hb dL_law_1117 rfl (lv_at hl 0 rfl) ?_
        refine lv_iload_n hx hb dL_law_1118 rfl (lv_at hl 3 rfl) ?_
        refine lv_iconst (v := 2) hx hb dL_law_1119 (by decide) ?_
        refine lv_iadd hx hb dL_law_1120 ?_
        obtain ⟨g2, hm⟩ := gdE hm
        refine va_sld hx hb hX hbl hbA hw.2.2.1 (ix_in g2) dL_law_1121 ?_
        refine lv_aload_n hx hb dL_law_1122 rfl (lv_at hl 0 rfl) ?_
        refine lv_iload_n hx hb dL_law_1123 rfl (lv_at hl 3 rfl) ?_
        refine lv_iconst (v := 3) hx hb dL_law_1124 (by decide) ?_
        refine lv_iadd hx hb dL_law_1125 ?_
        obtain ⟨g3, hm⟩ := gdE hm
        refine va_sld hx hb hX hbl hbA hw.2.2.1 (ix_in g3) dL_law_1126 ?_
        obtain ⟨g4, hm⟩ := gdE hm
        obtain ⟨r6, h5, er6, hm⟩ := bd2E hm
        have lh5 := mo_X0_reduced er6
        have ph5 : h.1 ≤ h5.1 := lh5.1
        have qh5 : h.2.1 ≤ h5.2.1 := lh5.2.1
        have hmo := mo_L_law_1130 (mo_L_law_18 n18)  h5 x1 x2 x3 r6 _ hm
        have sh5 : h5.1 ≤ u9.1 := hmo.1
        have th5 : h5.2.1 ≤ u9.2.1 := hmo.2.1
        refine cg_calli hw lh5 (va_runV (As := [.int (xs (Int32.toNatClampNeg (x3 + (1 : Int32)))), .int (xs (Int32.toNatClampNeg (x3 + (2 : Int32)))), .int (xs (Int32.toNatClampNeg (x3 + (3 : Int32))))]) (rest := []) ⟨hx, hb, hml, hown, hts⟩ (w_X0_reduced l er6) (cw_X0_reduced hts q1213 ⟨Nat.le_of_ble_eq_true rfl, Nat.le_of_ble_eq_true rfl⟩) (cg_preV C hw g4 rfl _) rfl rfl hl.1 rfl (lv_room (Nat.le_of_ble_eq_true rfl)) dL_law_1127 ⟨show cc + (h5.1 - h.1) ≤ 601024 by omega, show ss + (h5.2.1 - h.2.1) ≤ 7293034 by omega⟩) (fun H locs hw => ?_)
        exact hB1130 h5 x1 x2 x3 r6 _ _ _ _ _ hm hw (by omega) (by omega) (lv_sub hl [0, 1, 2, 3] rfl)
      have hB1163 : ∀ (h : CH) (x1 : Nat) (x2 : Nat) (x3 : Int32) (y0 : Int32) (cc ss : Nat) (H : Heap) (locs : List Loc) (ls : Array Slot), m_L_law_1163 f xs L (m_L_law_18 f xs L n18) h x1 x2 x3 y0 = some (1, u9) → CW D dA A s h H locs → cc + u.1 = h.1 → ss + u.2.1 = h.2.1 → lv_has ls 4 [(0, .ref b), (1, .ref x1), (2, .ref x2), (3, .int x3)] → W p l e room_1 s m #[Value.ref b] below meth c H locs cc ss QQ (F0 m 1163 ls [.int y0]) := by
        intro h x1 x2 x3 y0 cc ss H locs ls hm hw hcc hss hl
        have hmo := mo_L_law_1163 (mo_L_law_18 n18) h x1 x2 x3 y0 _ hm
        have sb_ : h.1 ≤ u9.1 := hmo.1
        have tb_ : h.2.1 ≤ u9.2.1 := hmo.2.1
        rw [m_L_law_1163] at hm
        refine lv_aload_n hx hb dL_law_1163 rfl (lv_at hl 2 rfl) ?_
        refine lv_aload_n hx hb dL_law_1164 rfl (lv_at hl 0 rfl) ?_
        refine lv_iload_n hx hb dL_law_1165 rfl (lv_at hl 3 rfl) ?_
        refine lv_iconst (v := 1) hx hb dL_law_1166 (by decide) ?_
        refine lv_iadd hx hb dL_law_1167 ?_
        obtain ⟨g1, hm⟩ := gdE hm
        refine va_sld hx hb hX hbl hbA hw.2.2.1 (ix_in g1) dL_law_1168 ?_
        obtain ⟨r3, h2, er3, hm⟩ := bd2E hm
        refine cg_tci C hw er3 (show cc + s.heap.size = h.1 by rw [hs0]; omega) (fun _ hk hm9 => va_runV (As := [.int (xs (Int32.toNatClampNeg (x3 + (1 : Int32))))]) (rest := [.int y0]) ⟨hx, hb, hml, hown, hts⟩ (w_X3_bettered l hm9) (cw_X3_bettered hts q2067 ⟨Nat.le_of_ble_eq_true rfl, Nat.le_of_ble_eq_true rfl⟩) (tb_pre C hw hk _) rfl rfl hl.1 rfl (lv_room (Nat.le_of_ble_eq_true rfl)) dL_law_1169 ⟨show cc + 0 ≤ 601024 by omega, show ss + 0 ≤ 7293034 by omega⟩) (fun H locs hw => ?_)
        have zh2 := tcr_sz er3
        refine lv_icmp_eq (tgt := 1975) hx hb dL_law_1172 (by decide) (fun c4 => ?_) (fun c4 => ?_)
        · have hm := ifT hm c4
          exact hB1975 h2 x1 x2 x3 _ _ _ _ _ hm hw (by omega) (by omega) (lv_sub hl [0, 1, 2, 3] rfl)
        · have hm := ifF hm c4
          exact hB1175 h2 _ _ _ _ _ hm hw (by omega) (by omega) (lv_sub hl [] rfl)
      have hB1154 : ∀ (h : CH) (x1 : Nat) (x2 : Nat) (x3 : Int32) (cc ss : Nat) (H : Heap) (locs : List Loc) (ls : Array Slot), m_L_law_1154 f xs L (m_L_law_18 f xs L n18) h x1 x2 x3 = some (1, u9) → CW D dA A s h H locs → cc + u.1 = h.1 → ss + u.2.1 = h.2.1 → lv_has ls 4 [(0, .ref b), (1, .ref x1), (2, .ref x2), (3, .int x3)] → W p l e room_1 s m #[Value.ref b] below meth c H locs cc ss QQ (F0 m 1154 ls []) := by
        intro h x1 x2 x3 cc ss H locs ls hm hw hcc hss hl
        have hmo := mo_L_law_1154 (mo_L_law_18 n18) h x1 x2 x3 _ hm
        have sb_ : h.1 ≤ u9.1 := hmo.1
        have tb_ : h.2.1 ≤ u9.2.1 := hmo.2.1
        rw [m_L_law_1154] at hm
        refine lv_aload_n hx hb dL_law_1154 rfl (lv_at hl 1 rfl) ?_
        refine lv_aload_n hx hb dL_law_1155 rfl (lv_at hl 0 rfl) ?_
        refine lv_iload_n hx hb dL_law_1156 rfl (lv_at hl 3 rfl) ?_
        refine lv_iconst (v := 1) hx hb dL_law_1157 (by decide) ?_
        refine lv_iadd hx hb dL_law_1158 ?_
        obtain ⟨g1, hm⟩ := gdE hm
        refine va_sld hx hb hX hbl hbA hw.2.2.1 (ix_in g1) dL_law_1159 ?_
        obtain ⟨g2, hm⟩ := gdE hm
        obtain ⟨r4, h3, er4, hm⟩ := bd2E hm
        have lh3 := mo_X0_bettered er4
        have ph3 : h.1 ≤ h3.1 := lh3.1
        have qh3 : h.2.1 ≤ h3.2.1 := lh3.2.1
        have hmo := mo_L_law_1163 (mo_L_law_18 n18)  h3 x1 x2 x3 r4 _ hm
        have sh3 : h3.1 ≤ u9.1 := hmo.1
        have th3 : h3.2.1 ≤ u9.2.1 := hmo.2.1
        refine cg_calli hw lh3 (va_runV (As := [.int (xs (Int32.toNatClampNeg (x3 + (1 : Int32))))]) (rest := []) ⟨hx, hb, hml, hown, hts⟩ (w_X0_bettered l er4) (cw_X0_bettered hts q1264 ⟨Nat.le_of_ble_eq_true rfl, Nat.le_of_ble_eq_true rfl⟩) (cg_preV C hw g2 rfl _) rfl rfl hl.1 rfl (lv_room (Nat.le_of_ble_eq_true rfl)) dL_law_1160 ⟨show cc + (h3.1 - h.1) ≤ 601024 by omega, show ss + (h3.2.1 - h.2.1) ≤ 7293034 by omega⟩) (fun H locs hw => ?_)
        exact hB1163 h3 x1 x2 x3 r4 _ _ _ _ _ hm hw (by omega) (by omega) (lv_sub hl [0, 1, 2, 3] rfl)
      have hB1196 : ∀ (h : CH) (x1 : Nat) (x2 : Nat) (x3 : Int32) (y0 : Int64) (cc ss : Nat) (H : Heap) (locs : List Loc) (ls : Array Slot), m_L_law_1196 f xs L (m_L_law_18 f xs L n18) h x1 x2 x3 y0 = some (1, u9) → CW D dA A s h H locs → cc + u.1 = h.1 → ss + u.2.1 = h.2.1 → lv_has ls 4 [(0, .ref b), (1, .ref x1), (2, .ref x2), (3, .int x3)] → W p l e room_1 s m #[Value.ref b] below meth c H locs cc ss QQ (F0 m 1196 ls [.long y0]) := by
        intro h x1 x2 x3 y0 cc ss H locs ls hm hw hcc hss hl
        have hmo := mo_L_law_1196 (mo_L_law_18 n18) h x1 x2 x3 y0 _ hm
        have sb_ : h.1 ≤ u9.1 := hmo.1
        have tb_ : h.2.1 ≤ u9.2.1 := hmo.2.1
        rw [m_L_law_1196] at hm
        refine lv_aload_n hx hb dL_law_1196 rfl (lv_at hl 2 rfl) ?_
        refine lv_aload_n hx hb dL_law_1197 rfl (lv_at hl 0 rfl) ?_
        refine lv_iload_n hx hb dL_law_1198 rfl (lv_at hl 3 rfl) ?_
        refine lv_iconst (v := 1) hx hb dL_law_1199 (by decide) ?_
        refine lv_iadd hx hb dL_law_1200 ?_
        obtain ⟨g1, hm⟩ := gdE hm
        refine va_sld hx hb hX hbl hbA hw.2.2.1 (ix_in g1) dL_law_1201 ?_
        refine lv_aload_n hx hb dL_law_1202 rfl (lv_at hl 0 rfl) ?_
        refine lv_iload_n hx hb dL_law_1203 rfl (lv_at hl 3 rfl) ?_
        refine lv_iconst (v := 2) hx hb dL_law_1204 (by decide) ?_
        refine lv_iadd hx hb dL_law_1205 ?_
        obtain ⟨g2, hm⟩ := gdE hm
        refine va_sld hx hb hX hbl hbA hw.2.2.1 (ix_in g2) dL_law_1206 ?_
        refine lv_aload_n hx hb dL_law_1207 rfl (lv_at hl 0 rfl) ?_
        refine lv_iload_n hx hb dL_law_1208 rfl (lv_at hl 3 rfl) ?_
        refine lv_iconst (v := 3) hx hb dL_law_1209 (by decide) ?_
        refine lv_iadd hx hb dL_law_1210 ?_
        obtain ⟨g3, hm⟩ := gdE hm
        refine va_sld hx hb hX hbl hbA hw.2.2.1 (ix_in g3) dL_law_1211 ?_
        obtain ⟨r5, h4, er5, hm⟩ := bd2E hm
        refine cg_tcl C hw er5 (show cc + s.heap.size = h.1 by rw [hs0]; omega) (fun _ hk hm9 => va_runV (As := [.int (xs (Int32.toNatClampNeg (x3 + (1 : Int32)))), .int (xs (Int32.toNatClampNeg (x3 + (2 : Int32)))), .int (xs (Int32.toNatClampNeg (x3 + (3 : Int32))))]) (rest := [.long y0]) ⟨hx, hb, hml, hown, hts⟩ (w_X3_length l hm9) (cw_X3_length hts q2071 ⟨Nat.le_of_ble_eq_true rfl, Nat.le_of_ble_eq_true rfl⟩) (tb_pre C hw hk _) rfl rfl hl.1 rfl (lv_room (Nat.le_of_ble_eq_true rfl)) dL_law_1212 ⟨show cc + 0 ≤ 601024 by omega, show ss + 0 ≤ 7293034 by omega⟩) (fun H locs hw => ?_)
        have zh4 := tcr_sz er5
        refine lc_eq (tgt := 1975) hx hb dL_law_1215 dL_law_1216 (by decide) (fun c6 => ?_) (fun c6 => ?_)
        · have hm := ifT hm c6
          exact hB1975 h4 x1 x2 x3 _ _ _ _ _ hm hw (by omega) (by omega) (lv_sub hl [0, 1, 2, 3] rfl)
        · have hm := ifF hm c6
          exact hB1219 h4 _ _ _ _ _ hm hw (by omega) (by omega) (lv_sub hl [] rfl)
      have hB1177 : ∀ (h : CH) (x1 : Nat) (x2 : Nat) (x3 : Int32) (cc ss : Nat) (H : Heap) (locs : List Loc) (ls : Array Slot), m_L_law_1177 f xs L (m_L_law_18 f xs L n18) h x1 x2 x3 = some (1, u9) → CW D dA A s h H locs → cc + u.1 = h.1 → ss + u.2.1 = h.2.1 → lv_has ls 4 [(0, .ref b), (1, .ref x1), (2, .ref x2), (3, .int x3)] → W p l e room_1 s m #[Value.ref b] below meth c H locs cc ss QQ (F0 m 1177 ls []) := by
        intro h x1 x2 x3 cc ss H locs ls hm hw hcc hss hl
        have hmo := mo_L_law_1177 (mo_L_law_18 n18) h x1 x2 x3 _ hm
        have sb_ : h.1 ≤ u9.1 := hmo.1
        have tb_ : h.2.1 ≤ u9.2.1 := hmo.2.1
        rw [m_L_law_1177] at hm
        refine lv_aload_n hx hb dL_law_1177 rfl (lv_at hl 1 rfl) ?_
        refine lv_aload_n hx hb dL_law_1178 rfl (lv_at hl 0 rfl) ?_
        refine lv_iload_n hx hb dL_law_1179 rfl (lv_at hl 3 rfl) ?_
        refine lv_iconst (v := 1) hx hb dL_law_1180 (by decide) ?_
        refine lv_iadd hx hb dL_law_1181 ?_
        obtain ⟨g1, hm⟩ := gdE hm
        refine va_sld hx hb hX hbl hbA hw.2.2.1 (ix_in g1) dL_law_1182 ?_
        refine lv_aload_n hx hb dL_law_1183 rfl (lv_at hl 0 rfl) ?_
        refine lv_iload_n hx hb dL_law_1184 rfl (lv_at hl 3 rfl) ?_
        refine lv_iconst (v := 2) hx hb dL_law_1185 (by decide) ?_
        refine lv_iadd hx hb dL_law_1186 ?_
        obtain ⟨g2, hm⟩ := gdE hm
        refine va_sld hx hb hX hbl hbA hw.2.2.1 (ix_in g2) dL_law_1187 ?_
        refine lv_aload_n hx hb dL_law_1188 rfl (lv_at hl 0 rfl) ?_
        refine lv_iload_n hx hb dL_law_1189 rfl (lv_at hl 3 rfl) ?_
        refine lv_iconst (v := 3) hx hb dL_law_1190 (by decide) ?_
        refine lv_iadd hx hb dL_law_1191 ?_
        obtain ⟨g3, hm⟩ := gdE hm
        refine va_sld hx hb hX hbl hbA hw.2.2.1 (ix_in g3) dL_law_1192 ?_
        obtain ⟨g4, hm⟩ := gdE hm
        obtain ⟨r6, h5, er6, hm⟩ := bd2E hm
        have lh5 := mo_X0_length er6
        have ph5 : h.1 ≤ h5.1 := lh5.1
        have qh5 : h.2.1 ≤ h5.2.1 := lh5.2.1
        have hmo := mo_L_law_1196 (mo_L_law_18 n18)  h5 x1 x2 x3 r6 _ hm
        have sh5 : h5.1 ≤ u9.1 := hmo.1
        have th5 : h5.2.1 ≤ u9.2.1 := hmo.2.1
        refine cg_calll hw lh5 (va_runV (As := [.int (xs (Int32.toNatClampNeg (x3 + (1 : Int32)))), .int (xs (Int32.toNatClampNeg (x3 + (2 : Int32)))), .int (xs (Int32.toNatClampNeg (x3 + (3 : Int32))))]) (rest := []) ⟨hx, hb, hml, hown, hts⟩ (w_X0_length l er6) (cw_X0_length hts q1268 ⟨Nat.le_of_ble_eq_true rfl, Nat.le_of_ble_eq_true rfl⟩) (cg_preV C hw g4 rfl _) rfl rfl hl.1 rfl (lv_room (Nat.le_of_ble_eq_true rfl)) dL_law_1193 ⟨show cc + (h5.1 - h.1) ≤ 601024 by omega, show ss + (h5.2.1 - h.2.1) ≤ 7293034 by omega⟩) (fun H locs hw => ?_)
        exact hB1196 h5 x1 x2 x3 r6 _ _ _ _ _ hm hw (by omega) (by omega) (lv_sub hl [0, 1, 2, 3] rfl)
      have hB1230 : ∀ (h : CH) (x1 : Nat) (x2 : Nat) (x3 : Int32) (y0 : Int32) (cc ss : Nat) (H : Heap) (locs : List Loc) (ls : Array Slot), m_L_law_1230 f xs L (m_L_law_18 f xs L n18) h x1 x2 x3 y0 = some (1, u9) → CW D dA A s h H locs → cc + u.1 = h.1 → ss + u.2.1 = h.2.1 → lv_has ls 4 [(0, .ref b), (1, .ref x1), (2, .ref x2), (3, .int x3)] → W p l e room_1 s m #[Value.ref b] below meth c H locs cc ss QQ (F0 m 1230 ls [.int y0]) := by
        intro h x1 x2 x3 y0 cc ss H locs ls hm hw hcc hss hl
        have hmo := mo_L_law_1230 (mo_L_law_18 n18) h x1 x2 x3 y0 _ hm
        have sb_ : h.1 ≤ u9.1 := hmo.1
        have tb_ : h.2.1 ≤ u9.2.1 := hmo.2.1
        rw [m_L_law_1230] at hm
        refine lv_aload_n hx hb dL_law_1230 rfl (lv_at hl 2 rfl) ?_
        refine lv_aload_n hx hb dL_law_1231 rfl (lv_at hl 0 rfl) ?_
        refine lv_iload_n hx hb dL_law_1232 rfl (lv_at hl 3 rfl) ?_
        refine lv_iconst (v := 1) hx hb dL_law_1233 (by decide) ?_
        refine lv_iadd hx hb dL_law_1234 ?_
        obtain ⟨g1, hm⟩ := gdE hm
        refine va_sld hx hb hX hbl hbA hw.2.2.1 (ix_in g1) dL_law_1235 ?_
        obtain ⟨r3, h2, er3, hm⟩ := bd2E hm
        refine cg_tci C hw er3 (show cc + s.heap.size = h.1 by rw [hs0]; omega) (fun _ hk hm9 => va_runV (As := [.int (xs (Int32.toNatClampNeg (x3 + (1 : Int32))))]) (rest := [.int y0]) ⟨hx, hb, hml, hown, hts⟩ (w_X3_kiss l hm9) (cw_X3_kiss hts q2075 ⟨Nat.le_of_ble_eq_true rfl, Nat.le_of_ble_eq_true rfl⟩) (tb_pre C hw hk _) rfl rfl hl.1 rfl (lv_room (Nat.le_of_ble_eq_true rfl)) dL_law_1236 ⟨show cc + 0 ≤ 601024 by omega, show ss + 0 ≤ 7293034 by omega⟩) (fun H locs hw => ?_)
        have zh2 := tcr_sz er3
        refine lv_icmp_eq (tgt := 1975) hx hb dL_law_1239 (by decide) (fun c4 => ?_) (fun c4 => ?_)
        · have hm := ifT hm c4
          exact hB1975 h2 x1 x2 x3 _ _ _ _ _ hm hw (by omega) (by omega) (lv_sub hl [0, 1, 2, 3] rfl)
        · have hm := ifF hm c4
          exact hB1242 h2 _ _ _ _ _ hm hw (by omega) (by omega) (lv_sub hl [] rfl)
      have hB1221 : ∀ (h : CH) (x1 : Nat) (x2 : Nat) (x3 : Int32) (cc ss : Nat) (H : Heap) (locs : List Loc) (ls : Array Slot), m_L_law_1221 f xs L (m_L_law_18 f xs L n18) h x1 x2 x3 = some (1, u9) → CW D dA A s h H locs → cc + u.1 = h.1 → ss + u.2.1 = h.2.1 → lv_has ls 4 [(0, .ref b), (1, .ref x1), (2, .ref x2), (3, .int x3)] → W p l e room_1 s m #[Value.ref b] below meth c H locs cc ss QQ (F0 m 1221 ls []) := by
        intro h x1 x2 x3 cc ss H locs ls hm hw hcc hss hl
        have hmo := mo_L_law_1221 (mo_L_law_18 n18) h x1 x2 x3 _ hm
        have sb_ : h.1 ≤ u9.1 := hmo.1
        have tb_ : h.2.1 ≤ u9.2.1 := hmo.2.1
        rw [m_L_law_1221] at hm
        refine lv_aload_n hx hb dL_law_1221 rfl (lv_at hl 1 rfl) ?_
        refine lv_aload_n hx hb dL_law_1222 rfl (lv_at hl 0 rfl) ?_
        refine lv_iload_n hx hb dL_law_1223 rfl (lv_at hl 3 rfl) ?_
        refine lv_iconst (v := 1) hx hb dL_law_1224 (by decide) ?_
        refine lv_iadd hx hb dL_law_1225 ?_
        obtain ⟨g1, hm⟩ := gdE hm
        refine va_sld hx hb hX hbl hbA hw.2.2.1 (ix_in g1) dL_law_1226 ?_
        obtain ⟨g2, hm⟩ := gdE hm
        obtain ⟨r4, h3, er4, hm⟩ := bd2E hm
        have lh3 := mo_X0_kiss er4
        have ph3 : h.1 ≤ h3.1 := lh3.1
        have qh3 : h.2.1 ≤ h3.2.1 := lh3.2.1
        have hmo := mo_L_law_1230 (mo_L_law_18 n18)  h3 x1 x2 x3 r4 _ hm
        have sh3 : h3.1 ≤ u9.1 := hmo.1
        have th3 : h3.2.1 ≤ u9.2.1 := hmo.2.1
        refine cg_calli hw lh3 (va_runV (As := [.int (xs (Int32.toNatClampNeg (x3 + (1 : Int32))))]) (rest := []) ⟨hx, hb, hml, hown, hts⟩ (w_X0_kiss l er4) (cw_X0_kiss hts q1273 ⟨Nat.le_of_ble_eq_true rfl, Nat.le_of_ble_eq_true rfl⟩) (cg_preV C hw g2 rfl _) rfl rfl hl.1 rfl (lv_room (Nat.le_of_ble_eq_true rfl)) dL_law_1227 ⟨show cc + (h3.1 - h.1) ≤ 601024 by omega, show ss + (h3.2.1 - h.2.1) ≤ 7293034 by omega⟩) (fun H locs hw => ?_)
        exact hB1230 h3 x1 x2 x3 r4 _ _ _ _ _ hm hw (by omega) (by omega) (lv_sub hl [0, 1, 2, 3] rfl)
      have hB1263 : ∀ (h : CH) (x1 : Nat) (x2 : Nat) (x3 : Int32) (y0 : Int64) (cc ss : Nat) (H : Heap) (locs : List Loc) (ls : Array Slot), m_L_law_1263 f xs L (m_L_law_18 f xs L n18) h x1 x2 x3 y0 = some (1, u9) → CW D dA A s h H locs → cc + u.1 = h.1 → ss + u.2.1 = h.2.1 → lv_has ls 4 [(0, .ref b), (1, .ref x1), (2, .ref x2), (3, .int x3)] → W p l e room_1 s m #[Value.ref b] below meth c H locs cc ss QQ (F0 m 1263 ls [.long y0]) := by
        intro h x1 x2 x3 y0 cc ss H locs ls hm hw hcc hss hl
        have hmo := mo_L_law_1263 (mo_L_law_18 n18) h x1 x2 x3 y0 _ hm
        have sb_ : h.1 ≤ u9.1 := hmo.1
        have tb_ : h.2.1 ≤ u9.2.1 := hmo.2.1
        rw [m_L_law_1263] at hm
        refine lv_aload_n hx hb dL_law_1263 rfl (lv_at hl 2 rfl) ?_
        refine lv_aload_n hx hb dL_law_1264 rfl (lv_at hl 0 rfl) ?_
        refine lv_iload_n hx hb dL_law_1265 rfl (lv_at hl 3 rfl) ?_
        refine lv_iconst (v := 1) hx hb dL_law_1266 (by decide) ?_
        refine lv_iadd hx hb dL_law_1267 ?_
        obtain ⟨g1, hm⟩ := gdE hm
        refine va_sld hx hb hX hbl hbA hw.2.2.1 (ix_in g1) dL_law_1268 ?_
        refine lv_aload_n hx hb dL_law_1269 rfl (lv_at hl 0 rfl) ?_
        refine lv_iload_n hx hb dL_law_1270 rfl (lv_at hl 3 rfl) ?_
        refine lv_iconst (v := 2) hx hb dL_law_1271 (by decide) ?_
        refine lv_iadd hx hb dL_law_1272 ?_
        obtain ⟨g2, hm⟩ := gdE hm
        refine va_sld hx hb hX hbl hbA hw.2.2.1 (ix_in g2) dL_law_1273 ?_
        refine lv_aload_n hx hb dL_law_1274 rfl (lv_at hl 0 rfl) ?_
        refine lv_iload_n hx hb dL_law_1275 rfl (lv_at hl 3 rfl) ?_
        refine lv_iconst (v := 3) hx hb dL_law_1276 (by decide) ?_
        refine lv_iadd hx hb dL_law_1277 ?_
        obtain ⟨g3, hm⟩ := gdE hm
        refine va_sld hx hb hX hbl hbA hw.2.2.1 (ix_in g3) dL_law_1278 ?_
        obtain ⟨r5, h4, er5, hm⟩ := bd2E hm
        refine cg_tcl C hw er5 (show cc + s.heap.size = h.1 by rw [hs0]; omega) (fun _ hk hm9 => va_runV (As := [.int (xs (Int32.toNatClampNeg (x3 + (1 : Int32)))), .int (xs (Int32.toNatClampNeg (x3 + (2 : Int32)))), .int (xs (Int32.toNatClampNeg (x3 + (3 : Int32))))]) (rest := [.long y0]) ⟨hx, hb, hml, hown, hts⟩ (w_X3_meetLength l hm9) (cw_X3_meetLength hts q2087 ⟨Nat.le_of_ble_eq_true rfl, Nat.le_of_ble_eq_true rfl⟩) (tb_pre C hw hk _) rfl rfl hl.1 rfl (lv_room (Nat.le_of_ble_eq_true rfl)) dL_law_1279 ⟨show cc + 0 ≤ 601024 by omega, show ss + 0 ≤ 7293034 by omega⟩) (fun H locs hw => ?_)
        have zh4 := tcr_sz er5
        refine lc_eq (tgt := 1975) hx hb dL_law_1282 dL_law_1283 (by decide) (fun c6 => ?_) (fun c6 => ?_)
        · have hm := ifT hm c6
          exact hB1975 h4 x1 x2 x3 _ _ _ _ _ hm hw (by omega) (by omega) (lv_sub hl [0, 1, 2, 3] rfl)
        · have hm := ifF hm c6
          exact hB1286 h4 _ _ _ _ _ hm hw (by omega) (by omega) (lv_sub hl [] rfl)
      have hB1244 : ∀ (h : CH) (x1 : Nat) (x2 : Nat) (x3 : Int32) (cc ss : Nat) (H : Heap) (locs : List Loc) (ls : Array Slot), m_L_law_1244 f xs L (m_L_law_18 f xs L n18) h x1 x2 x3 = some (1, u9) → CW D dA A s h H locs → cc + u.1 = h.1 → ss + u.2.1 = h.2.1 → lv_has ls 4 [(0, .ref b), (1, .ref x1), (2, .ref x2), (3, .int x3)] → W p l e room_1 s m #[Value.ref b] below meth c H locs cc ss QQ (F0 m 1244 ls []) := by
        intro h x1 x2 x3 cc ss H locs ls hm hw hcc hss hl
        have hmo := mo_L_law_1244 (mo_L_law_18 n18) h x1 x2 x3 _ hm
        have sb_ : h.1 ≤ u9.1 := hmo.1
        have tb_ : h.2.1 ≤ u9.2.1 := hmo.2.1
        rw [m_L_law_1244] at hm
        refine lv_aload_n hx hb dL_law_1244 rfl (lv_at hl 1 rfl) ?_
        refine lv_aload_n hx hb dL_law_1245 rfl (lv_at hl 0 rfl) ?_
        refine lv_iload_n hx hb dL_law_1246 rfl (lv_at hl 3 rfl) ?_
        refine lv_iconst (v := 1) hx hb dL_law_1247 (by decide) ?_
        refine lv_iadd hx hb dL_law_1248 ?_
        obtain ⟨g1, hm⟩ := gdE hm
        refine va_sld hx hb hX hbl hbA hw.2.2.1 (ix_in g1) dL_law_1249 ?_
        refine lv_aload_n hx hb dL_law_1250 rfl (lv_at hl 0 rfl) ?_
        refine lv_iload_n hx hb dL_law_1251 rfl (lv_at hl 3 rfl) ?_
        refine lv_iconst (v := 2) hx hb dL_law_1252 (by decide) ?_
        refine lv_iadd hx hb dL_law_1253 ?_
        obtain ⟨g2, hm⟩ := gdE hm
        refine va_sld hx hb hX hbl hbA hw.2.2.1 (ix_in g2) dL_law_1254 ?_
        refine lv_aload_n hx hb dL_law_1255 rfl (lv_at hl 0 rfl) ?_
        refine lv_iload_n hx hb dL_law_1256 rfl (lv_at hl 3 rfl) ?_
        refine lv_iconst (v := 3) hx hb dL_law_1257 (by decide) ?_
        refine lv_iadd hx hb dL_law_1258 ?_
        obtain ⟨g3, hm⟩ := gdE hm
        refine va_sld hx hb hX hbl hbA hw.2.2.1 (ix_in g3) dL_law_1259 ?_
        obtain ⟨g4, hm⟩ := gdE hm
        obtain ⟨r6, h5, er6, hm⟩ := bd2E hm
        have lh5 := mo_X0_meetLength er6
        have ph5 : h.1 ≤ h5.1 := lh5.1
        have qh5 : h.2.1 ≤ h5.2.1 := lh5.2.1
        have hmo := mo_L_law_1263 (mo_L_law_18 n18)  h5 x1 x2 x3 r6 _ hm
        have sh5 : h5.1 ≤ u9.1 := hmo.1
        have th5 : h5.2.1 ≤ u9.2.1 := hmo.2.1
        refine cg_calll hw lh5 (va_runV (As := [.int (xs (Int32.toNatClampNeg (x3 + (1 : Int32)))), .int (xs (Int32.toNatClampNeg (x3 + (2 : Int32)))), .int (xs (Int32.toNatClampNeg (x3 + (3 : Int32))))]) (rest := []) ⟨hx, hb, hml, hown, hts⟩ (w_X0_meetLength l er6) (cw_X0_meetLength hts q1281 ⟨Nat.le_of_ble_eq_true rfl, Nat.le_of_ble_eq_true rfl⟩) (cg_preV C hw g4 rfl _) rfl rfl hl.1 rfl (lv_room (Nat.le_of_ble_eq_true rfl)) dL_law_1260 ⟨show cc + (h5.1 - h.1) ≤ 601024 by omega, show ss + (h5.2.1 - h.2.1) ≤ 7293034 by omega⟩) (fun H locs hw => ?_)
        exact hB1263 h5 x1 x2 x3 r6 _ _ _ _ _ hm hw (by omega) (by omega) (lv_sub hl [0, 1, 2, 3] rfl)
      have hB1317 : ∀ (h : CH) (x1 : Nat) (x2 : Nat) (x3 : Int32) (y0 : Int64) (cc ss : Nat) (H : Heap) (locs : List Loc) (ls : Array Slot), m_L_law_1317 f xs L (m_L_law_18 f xs L n18) h x1 x2 x3 y0 = some (1, u9) → CW D dA A s h H locs → cc + u.1 = h.1 → ss + u.2.1 = h.2.1 → lv_has ls 4 [(0, .ref b), (1, .ref x1), (2, .ref x2), (3, .int x3)] → W p l e room_1 s m #[Value.ref b] below meth c H locs cc ss QQ (F0 m 1317 ls [.long y0]) := by
        intro h x1 x2 x3 y0 cc ss H locs ls hm hw hcc hss hl
        have hmo := mo_L_law_1317 (mo_L_law_18 n18) h x1 x2 x3 y0 _ hm
        have sb_ : h.1 ≤ u9.1 := hmo.1
        have tb_ : h.2.1 ≤ u9.2.1 := hmo.2.1
        rw [m_L_law_1317] at hm
        refine lv_aload_n hx hb dL_law_1317 rfl (lv_at hl 2 rfl) ?_
        refine lv_aload_n hx hb dL_law_1318 rfl (lv_at hl 0 rfl) ?_
        refine lv_iload_n hx hb dL_law_1319 rfl (lv_at hl 3 rfl) ?_
        refine lv_iconst (v := 1) hx hb dL_law_1320 (by decide) ?_
        refine lv_iadd hx hb dL_law_1321 ?_
        obtain ⟨g1, hm⟩ := gdE hm
        refine va_sld hx hb hX hbl hbA hw.2.2.1 (ix_in g1) dL_law_1322 ?_
        refine lv_aload_n hx hb dL_law_1323 rfl (lv_at hl 0 rfl) ?_
        refine lv_iload_n hx hb dL_law_1324 rfl (lv_at hl 3 rfl) ?_
        refine lv_iconst (v := 2) hx hb dL_law_1325 (by decide) ?_
        refine lv_iadd hx hb dL_law_1326 ?_
        obtain ⟨g2, hm⟩ := gdE hm
        refine va_sld hx hb hX hbl hbA hw.2.2.1 (ix_in g2) dL_law_1327 ?_
        refine lv_aload_n hx hb dL_law_1328 rfl (lv_at hl 0 rfl) ?_
        refine lv_iload_n hx hb dL_law_1329 rfl (lv_at hl 3 rfl) ?_
        refine lv_iconst (v := 3) hx hb dL_law_1330 (by decide) ?_
        refine lv_iadd hx hb dL_law_1331 ?_
        obtain ⟨g3, hm⟩ := gdE hm
        refine va_sld hx hb hX hbl hbA hw.2.2.1 (ix_in g3) dL_law_1332 ?_
        refine lv_aload_n hx hb dL_law_1333 rfl (lv_at hl 0 rfl) ?_
        refine lv_iload_n hx hb dL_law_1334 rfl (lv_at hl 3 rfl) ?_
        refine lv_iconst (v := 4) hx hb dL_law_1335 (by decide) ?_
        refine lv_iadd hx hb dL_law_1336 ?_
        obtain ⟨g4, hm⟩ := gdE hm
        refine va_sld hx hb hX hbl hbA hw.2.2.1 (ix_in g4) dL_law_1337 ?_
        refine lv_aload_n hx hb dL_law_1338 rfl (lv_at hl 0 rfl) ?_
        refine lv_iload_n hx hb dL_law_1339 rfl (lv_at hl 3 rfl) ?_
        refine lv_iconst (v := 5) hx hb dL_law_1340 (by decide) ?_
        refine lv_iadd hx hb dL_law_1341 ?_
        obtain ⟨g5, hm⟩ := gdE hm
        refine va_sld hx hb hX hbl hbA hw.2.2.1 (ix_in g5) dL_law_1342 ?_
        obtain ⟨r7, h6, er7, hm⟩ := bd2E hm
        refine cg_tcl C hw er7 (show cc + s.heap.size = h.1 by rw [hs0]; omega) (fun _ hk hm9 => va_runV (As := [.int (xs (Int32.toNatClampNeg (x3 + (1 : Int32)))), .int (xs (Int32.toNatClampNeg (x3 + (2 : Int32)))), .int (xs (Int32.toNatClampNeg (x3 + (3 : Int32)))), .int (xs (Int32.toNatClampNeg (x3 + (4 : Int32)))), .int (xs (Int32.toNatClampNeg (x3 + (5 : Int32))))]) (rest := [.long y0]) ⟨hx, hb, hml, hown, hts⟩ (w_X3_area l hm9) (cw_X3_area hts q2091 ⟨Nat.le_of_ble_eq_true rfl, Nat.le_of_ble_eq_true rfl⟩) (tb_pre C hw hk _) rfl rfl hl.1 rfl (lv_room (Nat.le_of_ble_eq_true rfl)) dL_law_1343 ⟨show cc + 0 ≤ 601024 by omega, show ss + 0 ≤ 7293034 by omega⟩) (fun H locs hw => ?_)
        have zh6 := tcr_sz er7
        refine lc_eq (tgt := 1975) hx hb dL_law_1346 dL_law_1347 (by decide) (fun c8 => ?_) (fun c8 => ?_)
        · have hm := ifT hm c8
          exact hB1975 h6 x1 x2 x3 _ _ _ _ _ hm hw (by omega) (by omega) (lv_sub hl [0, 1, 2, 3] rfl)
        · have hm := ifF hm c8
          exact hB1350 h6 _ _ _ _ _ hm hw (by omega) (by omega) (lv_sub hl [] rfl)
      have hB1288 : ∀ (h : CH) (x1 : Nat) (x2 : Nat) (x3 : Int32) (cc ss : Nat) (H : Heap) (locs : List Loc) (ls : Array Slot), m_L_law_1288 f xs L (m_L_law_18 f xs L n18) h x1 x2 x3 = some (1, u9) → CW D dA A s h H locs → cc + u.1 = h.1 → ss + u.2.1 = h.2.1 → lv_has ls 4 [(0, .ref b), (1, .ref x1), (2, .ref x2), (3, .int x3)] → W p l e room_1 s m #[Value.ref b] below meth c H locs cc ss QQ (F0 m 1288 ls []) := by
        intro h x1 x2 x3 cc ss H locs ls hm hw hcc hss hl
        have hmo := mo_L_law_1288 (mo_L_law_18 n18) h x1 x2 x3 _ hm
        have sb_ : h.1 ≤ u9.1 := hmo.1
        have tb_ : h.2.1 ≤ u9.2.1 := hmo.2.1
        rw [m_L_law_1288] at hm
        refine lv_aload_n hx hb dL_law_1288 rfl (lv_at hl 1 rfl) ?_
        refine lv_aload_n hx hb dL_law_1289 rfl (lv_at hl 0 rfl) ?_
        refine lv_iload_n hx hb dL_law_1290 rfl (lv_at hl 3 rfl) ?_
        refine lv_iconst (v := 1) hx hb dL_law_1291 (by decide) ?_
        refine lv_iadd hx hb dL_law_1292 ?_
        obtain ⟨g1, hm⟩ := gdE hm
        refine va_sld hx hb hX hbl hbA hw.2.2.1 (ix_in g1) dL_law_1293 ?_
        refine lv_aload_n hx hb dL_law_1294 rfl (lv_at hl 0 rfl) ?_
        refine lv_iload_n hx hb dL_law_1295 rfl (lv_at hl 3 rfl) ?_
        refine lv_iconst (v := 2) hx hb dL_law_1296 (by decide) ?_
        refine lv_iadd hx hb dL_law_1297 ?_
        obtain ⟨g2, hm⟩ := gdE hm
        refine va_sld hx hb hX hbl hbA hw.2.2.1 (ix_in g2) dL_law_1298 ?_
        refine lv_aload_n hx hb dL_law_1299 rfl (lv_at hl 0 rfl) ?_
        refine lv_iload_n hx hb dL_law_1300 rfl (lv_at hl 3 rfl) ?_
        refine lv_iconst (v := 3) hx hb dL_law_1301 (by decide) ?_
        refine lv_iadd hx hb dL_law_1302 ?_
        obtain ⟨g3, hm⟩ := gdE hm
        refine va_sld hx hb hX hbl hbA hw.2.2.1 (ix_in g3) dL_law_1303 ?_
        refine lv_aload_n hx hb dL_law_1304 rfl (lv_at hl 0 rfl) ?_
        refine lv_iload_n hx hb dL_law_1305 rfl (lv_at hl 3 rfl) ?_
        refine lv_iconst (v := 4) hx hb dL_law_1306 (by decide) ?_
        refine lv_iadd hx hb dL_law_1307 ?_
        obtain ⟨g4, hm⟩ := gdE hm
        refine va_sld hx hb hX hbl hbA hw.2.2.1 (ix_in g4) dL_law_1308 ?_
        refine lv_aload_n hx hb dL_law_1309 rfl (lv_at hl 0 rfl) ?_
        refine lv_iload_n hx hb dL_law_1310 rfl (lv_at hl 3 rfl) ?_
        refine lv_iconst (v := 5) hx hb dL_law_1311 (by decide) ?_
        refine lv_iadd hx hb dL_law_1312 ?_
        obtain ⟨g5, hm⟩ := gdE hm
        refine va_sld hx hb hX hbl hbA hw.2.2.1 (ix_in g5) dL_law_1313 ?_
        obtain ⟨g6, hm⟩ := gdE hm
        obtain ⟨r8, h7, er8, hm⟩ := bd2E hm
        have lh7 := mo_X0_area er8
        have ph7 : h.1 ≤ h7.1 := lh7.1
        have qh7 : h.2.1 ≤ h7.2.1 := lh7.2.1
        have hmo := mo_L_law_1317 (mo_L_law_18 n18)  h7 x1 x2 x3 r8 _ hm
        have sh7 : h7.1 ≤ u9.1 := hmo.1
        have th7 : h7.2.1 ≤ u9.2.1 := hmo.2.1
        refine cg_calll hw lh7 (va_runV (As := [.int (xs (Int32.toNatClampNeg (x3 + (1 : Int32)))), .int (xs (Int32.toNatClampNeg (x3 + (2 : Int32)))), .int (xs (Int32.toNatClampNeg (x3 + (3 : Int32)))), .int (xs (Int32.toNatClampNeg (x3 + (4 : Int32)))), .int (xs (Int32.toNatClampNeg (x3 + (5 : Int32))))]) (rest := []) ⟨hx, hb, hml, hown, hts⟩ (w_X0_area l er8) (cw_X0_area hts q1285 ⟨Nat.le_of_ble_eq_true rfl, Nat.le_of_ble_eq_true rfl⟩) (cg_preV C hw g6 rfl _) rfl rfl hl.1 rfl (lv_room (Nat.le_of_ble_eq_true rfl)) dL_law_1314 ⟨show cc + (h7.1 - h.1) ≤ 601024 by omega, show ss + (h7.2.1 - h.2.1) ≤ 7293034 by omega⟩) (fun H locs hw => ?_)
        exact hB1317 h7 x1 x2 x3 r8 _ _ _ _ _ hm hw (by omega) (by omega) (lv_sub hl [0, 1, 2, 3] rfl)
      have hB1381 : ∀ (h : CH) (x1 : Nat) (x2 : Nat) (x3 : Int32) (y0 : Int64) (cc ss : Nat) (H : Heap) (locs : List Loc) (ls : Array Slot), m_L_law_1381 f xs L (m_L_law_18 f xs L n18) h x1 x2 x3 y0 = some (1, u9) → CW D dA A s h H locs → cc + u.1 = h.1 → ss + u.2.1 = h.2.1 → lv_has ls 4 [(0, .ref b), (1, .ref x1), (2, .ref x2), (3, .int x3)] → W p l e room_1 s m #[Value.ref b] below meth c H locs cc ss QQ (F0 m 1381 ls [.long y0]) := by
        intro h x1 x2 x3 y0 cc ss H locs ls hm hw hcc hss hl
        have hmo := mo_L_law_1381 (mo_L_law_18 n18) h x1 x2 x3 y0 _ hm
        have sb_ : h.1 ≤ u9.1 := hmo.1
        have tb_ : h.2.1 ≤ u9.2.1 := hmo.2.1
        rw [m_L_law_1381] at hm
        refine lv_aload_n hx hb dL_law_1381 rfl (lv_at hl 2 rfl) ?_
        refine lv_aload_n hx hb dL_law_1382 rfl (lv_at hl 0 rfl) ?_
        refine lv_iload_n hx hb dL_law_1383 rfl (lv_at hl 3 rfl) ?_
        refine lv_iconst (v := 1) hx hb dL_law_1384 (by decide) ?_
        refine lv_iadd hx hb dL_law_1385 ?_
        obtain ⟨g1, hm⟩ := gdE hm
        refine va_sld hx hb hX hbl hbA hw.2.2.1 (ix_in g1) dL_law_1386 ?_
        refine lv_aload_n hx hb dL_law_1387 rfl (lv_at hl 0 rfl) ?_
        refine lv_iload_n hx hb dL_law_1388 rfl (lv_at hl 3 rfl) ?_
        refine lv_iconst (v := 2) hx hb dL_law_1389 (by decide) ?_
        refine lv_iadd hx hb dL_law_1390 ?_
        obtain ⟨g2, hm⟩ := gdE hm
        refine va_sld hx hb hX hbl hbA hw.2.2.1 (ix_in g2) dL_law_1391 ?_
        refine lv_aload_n hx hb dL_law_1392 rfl (lv_at hl 0 rfl) ?_
        refine lv_iload_n hx hb dL_law_1393 rfl (lv_at hl 3 rfl) ?_
        refine lv_iconst (v := 3) hx hb dL_law_1394 (by decide) ?_
        refine lv_iadd hx hb dL_law_1395 ?_
        obtain ⟨g3, hm⟩ := gdE hm
        refine va_sld hx hb hX hbl hbA hw.2.2.1 (ix_in g3) dL_law_1396 ?_
        refine lv_aload_n hx hb dL_law_1397 rfl (lv_at hl 0 rfl) ?_
        refine lv_iload_n hx hb dL_law_1398 rfl (lv_at hl 3 rfl) ?_
        refine lv_iconst (v := 4) hx hb dL_law_1399 (by decide) ?_
        refine lv_iadd hx hb dL_law_1400 ?_
        obtain ⟨g4, hm⟩ := gdE hm
        refine va_sld hx hb hX hbl hbA hw.2.2.1 (ix_in g4) dL_law_1401 ?_
        refine lv_aload_n hx hb dL_law_1402 rfl (lv_at hl 0 rfl) ?_
        refine lv_iload_n hx hb dL_law_1403 rfl (lv_at hl 3 rfl) ?_
        refine lv_iconst (v := 5) hx hb dL_law_1404 (by decide) ?_
        refine lv_iadd hx hb dL_law_1405 ?_
        obtain ⟨g5, hm⟩ := gdE hm
        refine va_sld hx hb hX hbl hbA hw.2.2.1 (ix_in g5) dL_law_1406 ?_
        obtain ⟨r7, h6, er7, hm⟩ := bd2E hm
        refine cg_tcl C hw er7 (show cc + s.heap.size = h.1 by rw [hs0]; omega) (fun _ hk hm9 => va_runV (As := [.int (xs (Int32.toNatClampNeg (x3 + (1 : Int32)))), .int (xs (Int32.toNatClampNeg (x3 + (2 : Int32)))), .int (xs (Int32.toNatClampNeg (x3 + (3 : Int32)))), .int (xs (Int32.toNatClampNeg (x3 + (4 : Int32)))), .int (xs (Int32.toNatClampNeg (x3 + (5 : Int32))))]) (rest := [.long y0]) ⟨hx, hb, hml, hown, hts⟩ (w_X3_layers l hm9) (cw_X3_layers hts q2104 ⟨Nat.le_of_ble_eq_true rfl, Nat.le_of_ble_eq_true rfl⟩) (tb_pre C hw hk _) rfl rfl hl.1 rfl (lv_room (Nat.le_of_ble_eq_true rfl)) dL_law_1407 ⟨show cc + 0 ≤ 601024 by omega, show ss + 0 ≤ 7293034 by omega⟩) (fun H locs hw => ?_)
        have zh6 := tcr_sz er7
        refine lc_eq (tgt := 1975) hx hb dL_law_1410 dL_law_1411 (by decide) (fun c8 => ?_) (fun c8 => ?_)
        · have hm := ifT hm c8
          exact hB1975 h6 x1 x2 x3 _ _ _ _ _ hm hw (by omega) (by omega) (lv_sub hl [0, 1, 2, 3] rfl)
        · have hm := ifF hm c8
          exact hB1414 h6 _ _ _ _ _ hm hw (by omega) (by omega) (lv_sub hl [] rfl)
      have hB1352 : ∀ (h : CH) (x1 : Nat) (x2 : Nat) (x3 : Int32) (cc ss : Nat) (H : Heap) (locs : List Loc) (ls : Array Slot), m_L_law_1352 f xs L (m_L_law_18 f xs L n18) h x1 x2 x3 = some (1, u9) → CW D dA A s h H locs → cc + u.1 = h.1 → ss + u.2.1 = h.2.1 → lv_has ls 4 [(0, .ref b), (1, .ref x1), (2, .ref x2), (3, .int x3)] → W p l e room_1 s m #[Value.ref b] below meth c H locs cc ss QQ (F0 m 1352 ls []) := by
        intro h x1 x2 x3 cc ss H locs ls hm hw hcc hss hl
        have hmo := mo_L_law_1352 (mo_L_law_18 n18) h x1 x2 x3 _ hm
        have sb_ : h.1 ≤ u9.1 := hmo.1
        have tb_ : h.2.1 ≤ u9.2.1 := hmo.2.1
        rw [m_L_law_1352] at hm
        refine lv_aload_n hx hb dL_law_1352 rfl (lv_at hl 1 rfl) ?_
        refine lv_aload_n hx hb dL_law_1353 rfl (lv_at hl 0 rfl) ?_
        refine lv_iload_n hx hb dL_law_1354 rfl (lv_at hl 3 rfl) ?_
        refine lv_iconst (v := 1) hx hb dL_law_1355 (by decide) ?_
        refine lv_iadd hx hb dL_law_1356 ?_
        obtain ⟨g1, hm⟩ := gdE hm
        refine va_sld hx hb hX hbl hbA hw.2.2.1 (ix_in g1) dL_law_1357 ?_
        refine lv_aload_n hx hb dL_law_1358 rfl (lv_at hl 0 rfl) ?_
        refine lv_iload_n hx hb dL_law_1359 rfl (lv_at hl 3 rfl) ?_
        refine lv_iconst (v := 2) hx hb dL_law_1360 (by decide) ?_
        refine lv_iadd hx hb dL_law_1361 ?_
        obtain ⟨g2, hm⟩ := gdE hm
        refine va_sld hx hb hX hbl hbA hw.2.2.1 (ix_in g2) dL_law_1362 ?_
        refine lv_aload_n hx hb dL_law_1363 rfl (lv_at hl 0 rfl) ?_
        refine lv_iload_n hx hb dL_law_1364 rfl (lv_at hl 3 rfl) ?_
        refine lv_iconst (v := 3) hx hb dL_law_1365 (by decide) ?_
        refine lv_iadd hx hb dL_law_1366 ?_
        obtain ⟨g3, hm⟩ := gdE hm
        refine va_sld hx hb hX hbl hbA hw.2.2.1 (ix_in g3) dL_law_1367 ?_
        refine lv_aload_n hx hb dL_law_1368 rfl (lv_at hl 0 rfl) ?_
        refine lv_iload_n hx hb dL_law_1369 rfl (lv_at hl 3 rfl) ?_
        refine lv_iconst (v := 4) hx hb dL_law_1370 (by decide) ?_
        refine lv_iadd hx hb dL_law_1371 ?_
        obtain ⟨g4, hm⟩ := gdE hm
        refine va_sld hx hb hX hbl hbA hw.2.2.1 (ix_in g4) dL_law_1372 ?_
        refine lv_aload_n hx hb dL_law_1373 rfl (lv_at hl 0 rfl) ?_
        refine lv_iload_n hx hb dL_law_1374 rfl (lv_at hl 3 rfl) ?_
        refine lv_iconst (v := 5) hx hb dL_law_1375 (by decide) ?_
        refine lv_iadd hx hb dL_law_1376 ?_
        obtain ⟨g5, hm⟩ := gdE hm
        refine va_sld hx hb hX hbl hbA hw.2.2.1 (ix_in g5) dL_law_1377 ?_
        obtain ⟨g6, hm⟩ := gdE hm
        obtain ⟨r8, h7, er8, hm⟩ := bd2E hm
        have lh7 := mo_X0_layers er8
        have ph7 : h.1 ≤ h7.1 := lh7.1
        have qh7 : h.2.1 ≤ h7.2.1 := lh7.2.1
        have hmo := mo_L_law_1381 (mo_L_law_18 n18)  h7 x1 x2 x3 r8 _ hm
        have sh7 : h7.1 ≤ u9.1 := hmo.1
        have th7 : h7.2.1 ≤ u9.2.1 := hmo.2.1
        refine cg_calll hw lh7 (va_runV (As := [.int (xs (Int32.toNatClampNeg (x3 + (1 : Int32)))), .int (xs (Int32.toNatClampNeg (x3 + (2 : Int32)))), .int (xs (Int32.toNatClampNeg (x3 + (3 : Int32)))), .int (xs (Int32.toNatClampNeg (x3 + (4 : Int32)))), .int (xs (Int32.toNatClampNeg (x3 + (5 : Int32))))]) (rest := []) ⟨hx, hb, hml, hown, hts⟩ (w_X0_layers l er8) (cw_X0_layers hts q1299 ⟨Nat.le_of_ble_eq_true rfl, Nat.le_of_ble_eq_true rfl⟩) (cg_preV C hw g6 rfl _) rfl rfl hl.1 rfl (lv_room (Nat.le_of_ble_eq_true rfl)) dL_law_1378 ⟨show cc + (h7.1 - h.1) ≤ 601024 by omega, show ss + (h7.2.1 - h.2.1) ≤ 7293034 by omega⟩) (fun H locs hw => ?_)
        exact hB1381 h7 x1 x2 x3 r8 _ _ _ _ _ hm hw (by omega) (by omega) (lv_sub hl [0, 1, 2, 3] rfl)
      have hB1445 : ∀ (h : CH) (x1 : Nat) (x2 : Nat) (x3 : Int32) (y0 : Int64) (cc ss : Nat) (H : Heap) (locs : List Loc) (ls : Array Slot), m_L_law_1445 f xs L (m_L_law_18 f xs L n18) h x1 x2 x3 y0 = some (1, u9) → CW D dA A s h H locs → cc + u.1 = h.1 → ss + u.2.1 = h.2.1 → lv_has ls 4 [(0, .ref b), (1, .ref x1), (2, .ref x2), (3, .int x3)] → W p l e room_1 s m #[Value.ref b] below meth c H locs cc ss QQ (F0 m 1445 ls [.long y0]) := by
        intro h x1 x2 x3 y0 cc ss H locs ls hm hw hcc hss hl
        have hmo := mo_L_law_1445 (mo_L_law_18 n18) h x1 x2 x3 y0 _ hm
        have sb_ : h.1 ≤ u9.1 := hmo.1
        have tb_ : h.2.1 ≤ u9.2.1 := hmo.2.1
        rw [m_L_law_1445] at hm
        refine lv_aload_n hx hb dL_law_1445 rfl (lv_at hl 2 rfl) ?_
        refine lv_aload_n hx hb dL_law_1446 rfl (lv_at hl 0 rfl) ?_
        refine lv_iload_n hx hb dL_law_1447 rfl (lv_at hl 3 rfl) ?_
        refine lv_iconst (v := 1) hx hb dL_law_1448 (by decide) ?_
        refine lv_iadd hx hb dL_law_1449 ?_
        obtain ⟨g1, hm⟩ := gdE hm
        refine va_sld hx hb hX hbl hbA hw.2.2.1 (ix_in g1) dL_law_1450 ?_
        refine lv_aload_n hx hb dL_law_1451 rfl (lv_at hl 0 rfl) ?_
        refine lv_iload_n hx hb dL_law_1452 rfl (lv_at hl 3 rfl) ?_
        refine lv_iconst (v := 2) hx hb dL_law_1453 (by decide) ?_
        refine lv_iadd hx hb dL_law_1454 ?_
        obtain ⟨g2, hm⟩ := gdE hm
        refine va_sld hx hb hX hbl hbA hw.2.2.1 (ix_in g2) dL_law_1455 ?_
        refine lv_aload_n hx hb dL_law_1456 rfl (lv_at hl 0 rfl) ?_
        refine lv_iload_n hx hb dL_law_1457 rfl (lv_at hl 3 rfl) ?_
        refine lv_iconst (v := 3) hx hb dL_law_1458 (by decide) ?_
        refine lv_iadd hx hb dL_law_1459 ?_
        obtain ⟨g3, hm⟩ := gdE hm
        refine va_sld hx hb hX hbl hbA hw.2.2.1 (ix_in g3) dL_law_1460 ?_
        refine lv_aload_n hx hb dL_law_1461 rfl (lv_at hl 0 rfl) ?_
        refine lv_iload_n hx hb dL_law_1462 rfl (lv_at hl 3 rfl) ?_
        refine lv_iconst (v := 4) hx hb dL_law_1463 (by decide) ?_
        refine lv_iadd hx hb dL_law_1464 ?_
        obtain ⟨g4, hm⟩ := gdE hm
        refine va_sld hx hb hX hbl hbA hw.2.2.1 (ix_in g4) dL_law_1465 ?_
        refine lv_aload_n hx hb dL_law_1466 rfl (lv_at hl 0 rfl) ?_
        refine lv_iload_n hx hb dL_law_1467 rfl (lv_at hl 3 rfl) ?_
        refine lv_iconst (v := 5) hx hb dL_law_1468 (by decide) ?_
        refine lv_iadd hx hb dL_law_1469 ?_
        obtain ⟨g5, hm⟩ := gdE hm
        refine va_sld hx hb hX hbl hbA hw.2.2.1 (ix_in g5) dL_law_1470 ?_
        obtain ⟨r7, h6, er7, hm⟩ := bd2E hm
        refine cg_tcl C hw er7 (show cc + s.heap.size = h.1 by rw [hs0]; omega) (fun _ hk hm9 => va_runV (As := [.int (xs (Int32.toNatClampNeg (x3 + (1 : Int32)))), .int (xs (Int32.toNatClampNeg (x3 + (2 : Int32)))), .int (xs (Int32.toNatClampNeg (x3 + (3 : Int32)))), .int (xs (Int32.toNatClampNeg (x3 + (4 : Int32)))), .int (xs (Int32.toNatClampNeg (x3 + (5 : Int32))))]) (rest := [.long y0]) ⟨hx, hb, hml, hown, hts⟩ (w_X3_planar l hm9) (cw_X3_planar hts q2121 ⟨Nat.le_of_ble_eq_true rfl, Nat.le_of_ble_eq_true rfl⟩) (tb_pre C hw hk _) rfl rfl hl.1 rfl (lv_room (Nat.le_of_ble_eq_true rfl)) dL_law_1471 ⟨show cc + 0 ≤ 601024 by omega, show ss + 0 ≤ 7293034 by omega⟩) (fun H locs hw => ?_)
        have zh6 := tcr_sz er7
        refine lc_eq (tgt := 1975) hx hb dL_law_1474 dL_law_1475 (by decide) (fun c8 => ?_) (fun c8 => ?_)
        · have hm := ifT hm c8
          exact hB1975 h6 x1 x2 x3 _ _ _ _ _ hm hw (by omega) (by omega) (lv_sub hl [0, 1, 2, 3] rfl)
        · have hm := ifF hm c8
          exact hB1478 h6 _ _ _ _ _ hm hw (by omega) (by omega) (lv_sub hl [] rfl)
      have hB1416 : ∀ (h : CH) (x1 : Nat) (x2 : Nat) (x3 : Int32) (cc ss : Nat) (H : Heap) (locs : List Loc) (ls : Array Slot), m_L_law_1416 f xs L (m_L_law_18 f xs L n18) h x1 x2 x3 = some (1, u9) → CW D dA A s h H locs → cc + u.1 = h.1 → ss + u.2.1 = h.2.1 → lv_has ls 4 [(0, .ref b), (1, .ref x1), (2, .ref x2), (3, .int x3)] → W p l e room_1 s m #[Value.ref b] below meth c H locs cc ss QQ (F0 m 1416 ls []) := by
        intro h x1 x2 x3 cc ss H locs ls hm hw hcc hss hl
        have hmo := mo_L_law_1416 (mo_L_law_18 n18) h x1 x2 x3 _ hm
        have sb_ : h.1 ≤ u9.1 := hmo.1
        have tb_ : h.2.1 ≤ u9.2.1 := hmo.2.1
        rw [m_L_law_1416] at hm
        refine lv_aload_n hx hb dL_law_1416 rfl (lv_at hl 1 rfl) ?_
        refine lv_aload_n hx hb dL_law_1417 rfl (lv_at hl 0 rfl) ?_
        refine lv_iload_n hx hb dL_law_1418 rfl (lv_at hl 3 rfl) ?_
        refine lv_iconst (v := 1) hx hb dL_law_1419 (by decide) ?_
        refine lv_iadd hx hb dL_law_1420 ?_
        obtain ⟨g1, hm⟩ := gdE hm
        refine va_sld hx hb hX hbl hbA hw.2.2.1 (ix_in g1) dL_law_1421 ?_
        refine lv_aload_n hx hb dL_law_1422 rfl (lv_at hl 0 rfl) ?_
        refine lv_iload_n hx hb dL_law_1423 rfl (lv_at hl 3 rfl) ?_
        refine lv_iconst (v := 2) hx hb dL_law_1424 (by decide) ?_
        refine lv_iadd hx hb dL_law_1425 ?_
        obtain ⟨g2, hm⟩ := gdE hm
        refine va_sld hx hb hX hbl hbA hw.2.2.1 (ix_in g2) dL_law_1426 ?_
        refine lv_aload_n hx hb dL_law_1427 rfl (lv_at hl 0 rfl) ?_
        refine lv_iload_n hx hb dL_law_1428 rfl (lv_at hl 3 rfl) ?_
        refine lv_iconst (v := 3) hx hb dL_law_1429 (by decide) ?_
        refine lv_iadd hx hb dL_law_1430 ?_
        obtain ⟨g3, hm⟩ := gdE hm
        refine va_sld hx hb hX hbl hbA hw.2.2.1 (ix_in g3) dL_law_1431 ?_
        refine lv_aload_n hx hb dL_law_1432 rfl (lv_at hl 0 rfl) ?_
        refine lv_iload_n hx hb dL_law_1433 rfl (lv_at hl 3 rfl) ?_
        refine lv_iconst (v := 4) hx hb dL_law_1434 (by decide) ?_
        refine lv_iadd hx hb dL_law_1435 ?_
        obtain ⟨g4, hm⟩ := gdE hm
        refine va_sld hx hb hX hbl hbA hw.2.2.1 (ix_in g4) dL_law_1436 ?_
        refine lv_aload_n hx hb dL_law_1437 rfl (lv_at hl 0 rfl) ?_
        refine lv_iload_n hx hb dL_law_1438 rfl (lv_at hl 3 rfl) ?_
        refine lv_iconst (v := 5) hx hb dL_law_1439 (by decide) ?_
        refine lv_iadd hx hb dL_law_1440 ?_
        obtain ⟨g5, hm⟩ := gdE hm
        refine va_sld hx hb hX hbl hbA hw.2.2.1 (ix_in g5) dL_law_1441 ?_
        obtain ⟨g6, hm⟩ := gdE hm
        obtain ⟨r8, h7, er8, hm⟩ := bd2E hm
        have lh7 := mo_X0_planar er8
        have ph7 : h.1 ≤ h7.1 := lh7.1
        have qh7 : h.2.1 ≤ h7.2.1 := lh7.2.1
        have hmo := mo_L_law_1445 (mo_L_law_18 n18)  h7 x1 x2 x3 r8 _ hm
        have sh7 : h7.1 ≤ u9.1 := hmo.1
        have th7 : h7.2.1 ≤ u9.2.1 := hmo.2.1
        refine cg_calll hw lh7 (va_runV (As := [.int (xs (Int32.toNatClampNeg (x3 + (1 : Int32)))), .int (xs (Int32.toNatClampNeg (x3 + (2 : Int32)))), .int (xs (Int32.toNatClampNeg (x3 + (3 : Int32)))), .int (xs (Int32.toNatClampNeg (x3 + (4 : Int32)))), .int (xs (Int32.toNatClampNeg (x3 + (5 : Int32))))]) (rest := []) ⟨hx, hb, hml, hown, hts⟩ (w_X0_planar l er8) (cw_X0_planar hts q1311 ⟨Nat.le_of_ble_eq_true rfl, Nat.le_of_ble_eq_true rfl⟩) (cg_preV C hw g6 rfl _) rfl rfl hl.1 rfl (lv_room (Nat.le_of_ble_eq_true rfl)) dL_law_1442 ⟨show cc + (h7.1 - h.1) ≤ 601024 by omega, show ss + (h7.2.1 - h.2.1) ≤ 7293034 by omega⟩) (fun H locs hw => ?_)
        exact hB1445 h7 x1 x2 x3 r8 _ _ _ _ _ hm hw (by omega) (by omega) (lv_sub hl [0, 1, 2, 3] rfl)
      have hB1494 : ∀ (h : CH) (x1 : Nat) (x2 : Nat) (x3 : Int32) (y0 : Int32) (cc ss : Nat) (H : Heap) (locs : List Loc) (ls : Array Slot), m_L_law_1494 f xs L (m_L_law_18 f xs L n18) h x1 x2 x3 y0 = some (1, u9) → CW D dA A s h H locs → cc + u.1 = h.1 → ss + u.2.1 = h.2.1 → lv_has ls 4 [(0, .ref b), (1, .ref x1), (2, .ref x2), (3, .int x3)] → W p l e room_1 s m #[Value.ref b] below meth c H locs cc ss QQ (F0 m 1494 ls [.int y0]) := by
        intro h x1 x2 x3 y0 cc ss H locs ls hm hw hcc hss hl
        have hmo := mo_L_law_1494 (mo_L_law_18 n18) h x1 x2 x3 y0 _ hm
        have sb_ : h.1 ≤ u9.1 := hmo.1
        have tb_ : h.2.1 ≤ u9.2.1 := hmo.2.1
        rw [m_L_law_1494] at hm
        refine lv_aload_n hx hb dL_law_1494 rfl (lv_at hl 2 rfl) ?_
        refine lv_aload_n hx hb dL_law_1495 rfl (lv_at hl 0 rfl) ?_
        refine lv_iload_n hx hb dL_law_1496 rfl (lv_at hl 3 rfl) ?_
        refine lv_iconst (v := 1) hx hb dL_law_1497 (by decide) ?_
        refine lv_iadd hx hb dL_law_1498 ?_
        obtain ⟨g1, hm⟩ := gdE hm
        refine va_sld hx hb hX hbl hbA hw.2.2.1 (ix_in g1) dL_law_1499 ?_
        refine lv_aload_n hx hb dL_law_1500 rfl (lv_at hl 0 rfl) ?_
        refine lv_iload_n hx hb dL_law_1501 rfl (lv_at hl 3 rfl) ?_
        refine lv_iconst (v := 2) hx hb dL_law_1502 (by decide) ?_
        refine lv_iadd hx hb dL_law_1503 ?_
        obtain ⟨g2, hm⟩ := gdE hm
        refine va_sld hx hb hX hbl hbA hw.2.2.1 (ix_in g2) dL_law_1504 ?_
        obtain ⟨r4, h3, er4, hm⟩ := bd2E hm
        refine cg_tci C hw er4 (show cc + s.heap.size = h.1 by rw [hs0]; omega) (fun _ hk hm9 => va_runV (As := [.int (xs (Int32.toNatClampNeg (x3 + (1 : Int32)))), .int (xs (Int32.toNatClampNeg (x3 + (2 : Int32))))]) (rest := [.int y0]) ⟨hx, hb, hml, hown, hts⟩ (w_X3_best l hm9) (cw_X3_best hts q2125 ⟨Nat.le_of_ble_eq_true rfl, Nat.le_of_ble_eq_true rfl⟩) (tb_pre C hw hk _) rfl rfl hl.1 rfl (lv_room (Nat.le_of_ble_eq_true rfl)) dL_law_1505 ⟨show cc + 0 ≤ 601024 by omega, show ss + 0 ≤ 7293034 by omega⟩) (fun H locs hw => ?_)
        have zh3 := tcr_sz er4
        refine lv_icmp_eq (tgt := 1975) hx hb dL_law_1508 (by decide) (fun c5 => ?_) (fun c5 => ?_)
        · have hm := ifT hm c5
          exact hB1975 h3 x1 x2 x3 _ _ _ _ _ hm hw (by omega) (by omega) (lv_sub hl [0, 1, 2, 3] rfl)
        · have hm := ifF hm c5
          exact hB1511 h3 _ _ _ _ _ hm hw (by omega) (by omega) (lv_sub hl [] rfl)
      have hB1480 : ∀ (h : CH) (x1 : Nat) (x2 : Nat) (x3 : Int32) (cc ss : Nat) (H : Heap) (locs : List Loc) (ls : Array Slot), m_L_law_1480 f xs L (m_L_law_18 f xs L n18) h x1 x2 x3 = some (1, u9) → CW D dA A s h H locs → cc + u.1 = h.1 → ss + u.2.1 = h.2.1 → lv_has ls 4 [(0, .ref b), (1, .ref x1), (2, .ref x2), (3, .int x3)] → W p l e room_1 s m #[Value.ref b] below meth c H locs cc ss QQ (F0 m 1480 ls []) := by
        intro h x1 x2 x3 cc ss H locs ls hm hw hcc hss hl
        have hmo := mo_L_law_1480 (mo_L_law_18 n18) h x1 x2 x3 _ hm
        have sb_ : h.1 ≤ u9.1 := hmo.1
        have tb_ : h.2.1 ≤ u9.2.1 := hmo.2.1
        rw [m_L_law_1480] at hm
        refine lv_aload_n hx hb dL_law_1480 rfl (lv_at hl 1 rfl) ?_
        refine lv_aload_n hx hb dL_law_1481 rfl (lv_at hl 0 rfl) ?_
        refine lv_iload_n hx hb dL_law_1482 rfl (lv_at hl 3 rfl) ?_
        refine lv_iconst (v := 1) hx hb dL_law_1483 (by decide) ?_
        refine lv_iadd hx hb dL_law_1484 ?_
        obtain ⟨g1, hm⟩ := gdE hm
        refine va_sld hx hb hX hbl hbA hw.2.2.1 (ix_in g1) dL_law_1485 ?_
        refine lv_aload_n hx hb dL_law_1486 rfl (lv_at hl 0 rfl) ?_
        refine lv_iload_n hx hb dL_law_1487 rfl (lv_at hl 3 rfl) ?_
        refine lv_iconst (v := 2) hx hb dL_law_1488 (by decide) ?_
        refine lv_iadd hx hb dL_law_1489 ?_
        obtain ⟨g2, hm⟩ := gdE hm
        refine va_sld hx hb hX hbl hbA hw.2.2.1 (ix_in g2) dL_law_1490 ?_
        obtain ⟨g3, hm⟩ := gdE hm
        obtain ⟨r5, h4, er5, hm⟩ := bd2E hm
        have lh4 := mo_X0_best er5
        have ph4 : h.1 ≤ h4.1 := lh4.1
        have qh4 : h.2.1 ≤ h4.2.1 := lh4.2.1
        have hmo := mo_L_law_1494 (mo_L_law_18 n18)  h4 x1 x2 x3 r5 _ hm
        have sh4 : h4.1 ≤ u9.1 := hmo.1
        have th4 : h4.2.1 ≤ u9.2.1 := hmo.2.1
        refine cg_calli hw lh4 (va_runV (As := [.int (xs (Int32.toNatClampNeg (x3 + (1 : Int32)))), .int (xs (Int32.toNatClampNeg (x3 + (2 : Int32))))]) (rest := []) ⟨hx, hb, hml, hown, hts⟩ (w_X0_best l er5) (cw_X0_best hts q1316 ⟨Nat.le_of_ble_eq_true rfl, Nat.le_of_ble_eq_true rfl⟩) (cg_preV C hw g3 rfl _) rfl rfl hl.1 rfl (lv_room (Nat.le_of_ble_eq_true rfl)) dL_law_1491 ⟨show cc + (h4.1 - h.1) ≤ 601024 by omega, show ss + (h4.2.1 - h.2.1) ≤ 7293034 by omega⟩) (fun H locs hw => ?_)
        exact hB1494 h4 x1 x2 x3 r5 _ _ _ _ _ hm hw (by omega) (by omega) (lv_sub hl [0, 1, 2, 3] rfl)
      have hB1527 : ∀ (h : CH) (x1 : Nat) (x2 : Nat) (x3 : Int32) (y0 : Int32) (cc ss : Nat) (H : Heap) (locs : List Loc) (ls : Array Slot), m_L_law_1527 f xs L (m_L_law_18 f xs L n18) h x1 x2 x3 y0 = some (1, u9) → CW D dA A s h H locs → cc + u.1 = h.1 → ss + u.2.1 = h.2.1 → lv_has ls 4 [(0, .ref b), (1, .ref x1), (2, .ref x2), (3, .int x3)] → W p l e room_1 s m #[Value.ref b] below meth c H locs cc ss QQ (F0 m 1527 ls [.int y0]) := by
        intro h x1 x2 x3 y0 cc ss H locs ls hm hw hcc hss hl
        have hmo := mo_L_law_1527 (mo_L_law_18 n18) h x1 x2 x3 y0 _ hm
        have sb_ : h.1 ≤ u9.1 := hmo.1
        have tb_ : h.2.1 ≤ u9.2.1 := hmo.2.1
        rw [m_L_law_1527] at hm
        refine lv_aload_n hx hb dL_law_1527 rfl (lv_at hl 2 rfl) ?_
        refine lv_aload_n hx hb dL_law_1528 rfl (lv_at hl 0 rfl) ?_
        refine lv_iload_n hx hb dL_law_1529 rfl (lv_at hl 3 rfl) ?_
        refine lv_iconst (v := 1) hx hb dL_law_1530 (by decide) ?_
        refine lv_iadd hx hb dL_law_1531 ?_
        obtain ⟨g1, hm⟩ := gdE hm
        refine va_sld hx hb hX hbl hbA hw.2.2.1 (ix_in g1) dL_law_1532 ?_
        refine lv_aload_n hx hb dL_law_1533 rfl (lv_at hl 0 rfl) ?_
        refine lv_iload_n hx hb dL_law_1534 rfl (lv_at hl 3 rfl) ?_
        refine lv_iconst (v := 2) hx hb dL_law_1535 (by decide) ?_
        refine lv_iadd hx hb dL_law_1536 ?_
        obtain ⟨g2, hm⟩ := gdE hm
        refine va_sld hx hb hX hbl hbA hw.2.2.1 (ix_in g2) dL_law_1537 ?_
        obtain ⟨r4, h3, er4, hm⟩ := bd2E hm
        refine cg_tci C hw er4 (show cc + s.heap.size = h.1 by rw [hs0]; omega) (fun _ hk hm9 => va_runV (As := [.int (xs (Int32.toNatClampNeg (x3 + (1 : Int32)))), .int (xs (Int32.toNatClampNeg (x3 + (2 : Int32))))]) (rest := [.int y0]) ⟨hx, hb, hml, hown, hts⟩ (w_X3_cosine l hm9) (cw_X3_cosine hts q1998 ⟨Nat.le_of_ble_eq_true rfl, Nat.le_of_ble_eq_true rfl⟩) (tb_pre C hw hk _) rfl rfl hl.1 rfl (lv_room (Nat.le_of_ble_eq_true rfl)) dL_law_1538 ⟨show cc + 0 ≤ 601024 by omega, show ss + 0 ≤ 7293034 by omega⟩) (fun H locs hw => ?_)
        have zh3 := tcr_sz er4
        refine lv_icmp_eq (tgt := 1975) hx hb dL_law_1541 (by decide) (fun c5 => ?_) (fun c5 => ?_)
        · have hm := ifT hm c5
          exact hB1975 h3 x1 x2 x3 _ _ _ _ _ hm hw (by omega) (by omega) (lv_sub hl [0, 1, 2, 3] rfl)
        · have hm := ifF hm c5
          exact hB1544 h3 _ _ _ _ _ hm hw (by omega) (by omega) (lv_sub hl [] rfl)
      have hB1513 : ∀ (h : CH) (x1 : Nat) (x2 : Nat) (x3 : Int32) (cc ss : Nat) (H : Heap) (locs : List Loc) (ls : Array Slot), m_L_law_1513 f xs L (m_L_law_18 f xs L n18) h x1 x2 x3 = some (1, u9) → CW D dA A s h H locs → cc + u.1 = h.1 → ss + u.2.1 = h.2.1 → lv_has ls 4 [(0, .ref b), (1, .ref x1), (2, .ref x2), (3, .int x3)] → W p l e room_1 s m #[Value.ref b] below meth c H locs cc ss QQ (F0 m 1513 ls []) := by
        intro h x1 x2 x3 cc ss H locs ls hm hw hcc hss hl
        have hmo := mo_L_law_1513 (mo_L_law_18 n18) h x1 x2 x3 _ hm
        have sb_ : h.1 ≤ u9.1 := hmo.1
        have tb_ : h.2.1 ≤ u9.2.1 := hmo.2.1
        rw [m_L_law_1513] at hm
        refine lv_aload_n hx hb dL_law_1513 rfl (lv_at hl 1 rfl) ?_
        refine lv_aload_n hx hb dL_law_1514 rfl (lv_at hl 0 rfl) ?_
        refine lv_iload_n hx hb dL_law_1515 rfl (lv_at hl 3 rfl) ?_
        refine lv_iconst (v := 1) hx hb dL_law_1516 (by decide) ?_
        refine lv_iadd hx hb dL_law_1517 ?_
        obtain ⟨g1, hm⟩ := gdE hm
        refine va_sld hx hb hX hbl hbA hw.2.2.1 (ix_in g1) dL_law_1518 ?_
        refine lv_aload_n hx hb dL_law_1519 rfl (lv_at hl 0 rfl) ?_
        refine lv_iload_n hx hb dL_law_1520 rfl (lv_at hl 3 rfl) ?_
        refine lv_iconst (v := 2) hx hb dL_law_1521 (by decide) ?_
        refine lv_iadd hx hb dL_law_1522 ?_
        obtain ⟨g2, hm⟩ := gdE hm
        refine va_sld hx hb hX hbl hbA hw.2.2.1 (ix_in g2) dL_law_1523 ?_
        obtain ⟨g3, hm⟩ := gdE hm
        obtain ⟨r5, h4, er5, hm⟩ := bd2E hm
        have lh4 := mo_X0_cosine er5
        have ph4 : h.1 ≤ h4.1 := lh4.1
        have qh4 : h.2.1 ≤ h4.2.1 := lh4.2.1
        have hmo := mo_L_law_1527 (mo_L_law_18 n18)  h4 x1 x2 x3 r5 _ hm
        have sh4 : h4.1 ≤ u9.1 := hmo.1
        have th4 : h4.2.1 ≤ u9.2.1 := hmo.2.1
        refine cg_calli hw lh4 (va_runV (As := [.int (xs (Int32.toNatClampNeg (x3 + (1 : Int32)))), .int (xs (Int32.toNatClampNeg (x3 + (2 : Int32))))]) (rest := []) ⟨hx, hb, hml, hown, hts⟩ (w_X0_cosine l er5) (cw_X0_cosine hts q1323 ⟨Nat.le_of_ble_eq_true rfl, Nat.le_of_ble_eq_true rfl⟩) (cg_preV C hw g3 rfl _) rfl rfl hl.1 rfl (lv_room (Nat.le_of_ble_eq_true rfl)) dL_law_1524 ⟨show cc + (h4.1 - h.1) ≤ 601024 by omega, show ss + (h4.2.1 - h.2.1) ≤ 7293034 by omega⟩) (fun H locs hw => ?_)
        exact hB1527 h4 x1 x2 x3 r5 _ _ _ _ _ hm hw (by omega) (by omega) (lv_sub hl [0, 1, 2, 3] rfl)
      have hB1616 : ∀ (h : CH) (x1 : Nat) (x2 : Nat) (x3 : Int32) (y0 : Int64) (y1 : Int64) (cc ss : Nat) (H : Heap) (locs : List Loc) (ls : Array Slot), m_L_law_1616 f xs L (m_L_law_18 f xs L n18) h x1 x2 x3 y0 y1 = some (1, u9) → CW D dA A s h H locs → cc + u.1 = h.1 → ss + u.2.1 = h.2.1 → lv_has ls 4 [(0, .ref b), (1, .ref x1), (2, .ref x2), (3, .int x3)] → W p l e room_1 s m #[Value.ref b] below meth c H locs cc ss QQ (F0 m 1616 ls [.long y1, .long y0]) := by
        intro h x1 x2 x3 y0 y1 cc ss H locs ls hm hw hcc hss hl
        have hmo := mo_L_law_1616 (mo_L_law_18 n18) h x1 x2 x3 y0 y1 _ hm
        have sb_ : h.1 ≤ u9.1 := hmo.1
        have tb_ : h.2.1 ≤ u9.2.1 := hmo.2.1
        rw [m_L_law_1616] at hm
        refine lc_eq (tgt := 1975) hx hb dL_law_1616 dL_law_1617 (by decide) (fun c1 => ?_) (fun c1 => ?_)
        · have hm := ifT hm c1
          exact hB1975 h x1 x2 x3 _ _ _ _ _ hm hw (by omega) (by omega) (lv_sub hl [0, 1, 2, 3] rfl)
        · have hm := ifF hm c1
          exact hB1620 h _ _ _ _ _ hm hw (by omega) (by omega) (lv_sub hl [] rfl)
      have hB1581 : ∀ (h : CH) (x1 : Nat) (x2 : Nat) (x3 : Int32) (y0 : Int64) (cc ss : Nat) (H : Heap) (locs : List Loc) (ls : Array Slot), m_L_law_1581 f xs L (m_L_law_18 f xs L n18) h x1 x2 x3 y0 = some (1, u9) → CW D dA A s h H locs → cc + u.1 = h.1 → ss + u.2.1 = h.2.1 → lv_has ls 4 [(0, .ref b), (1, .ref x1), (2, .ref x2), (3, .int x3)] → W p l e room_1 s m #[Value.ref b] below meth c H locs cc ss QQ (F0 m 1581 ls [.long y0]) := by
        intro h x1 x2 x3 y0 cc ss H locs ls hm hw hcc hss hl
        have hmo := mo_L_law_1581 (mo_L_law_18 n18) h x1 x2 x3 y0 _ hm
        have sb_ : h.1 ≤ u9.1 := hmo.1
        have tb_ : h.2.1 ≤ u9.2.1 := hmo.2.1
        rw [m_L_law_1581] at hm
        refine lv_aload_n hx hb dL_law_1581 rfl (lv_at hl 2 rfl) ?_
        refine lv_aload_n hx hb dL_law_1582 rfl (lv_at hl 0 rfl) ?_
        refine lv_iload_n hx hb dL_law_1583 rfl (lv_at hl 3 rfl) ?_
        refine lv_iconst (v := 1) hx hb dL_law_1584 (by decide) ?_
        refine lv_iadd hx hb dL_law_1585 ?_
        obtain ⟨g1, hm⟩ := gdE hm
        refine va_sld hx hb hX hbl hbA hw.2.2.1 (ix_in g1) dL_law_1586 ?_
        refine lv_aload_n hx hb dL_law_1587 rfl (lv_at hl 0 rfl) ?_
        refine lv_iload_n hx hb dL_law_1588 rfl (lv_at hl 3 rfl) ?_
        refine lv_iconst (v := 2) hx hb dL_law_1589 (by decide) ?_
        refine lv_iadd hx hb dL_law_1590 ?_
        obtain ⟨g2, hm⟩ := gdE hm
        refine va_sld hx hb hX hbl hbA hw.2.2.1 (ix_in g2) dL_law_1591 ?_
        refine lv_aload_n hx hb dL_law_1592 rfl (lv_at hl 0 rfl) ?_
        refine lv_iload_n hx hb dL_law_1593 rfl (lv_at hl 3 rfl) ?_
        refine lv_iconst (v := 3) hx hb dL_law_1594 (by decide) ?_
        refine lv_iadd hx hb dL_law_1595 ?_
        obtain ⟨g3, hm⟩ := gdE hm
        refine va_sld hx hb hX hbl hbA hw.2.2.1 (ix_in g3) dL_law_1596 ?_
        refine lv_aload_n hx hb dL_law_1597 rfl (lv_at hl 0 rfl) ?_
        refine lv_iload_n hx hb dL_law_1598 rfl (lv_at hl 3 rfl) ?_
        refine lv_iconst (v := 4) hx hb dL_law_1599 (by decide) ?_
        refine lv_iadd hx hb dL_law_1600 ?_
        obtain ⟨g4, hm⟩ := gdE hm
        refine va_sld hx hb hX hbl hbA hw.2.2.1 (ix_in g4) dL_law_1601 ?_
        refine lv_aload_n hx hb dL_law_1602 rfl (lv_at hl 0 rfl) ?_
        refine lv_iload_n hx hb dL_law_1603 rfl (lv_at hl 3 rfl) ?_
        refine lv_iconst (v := 5) hx hb dL_law_1604 (by decide) ?_
        refine lv_iadd hx hb dL_law_1605 ?_
        obtain ⟨g5, hm⟩ := gdE hm
        refine va_sld hx hb hX hbl hbA hw.2.2.1 (ix_in g5) dL_law_1606 ?_
        refine lv_aload_n hx hb dL_law_1607 rfl (lv_at hl 0 rfl) ?_
        refine lv_iload_n hx hb dL_law_1608 rfl (lv_at hl 3 rfl) ?_
        refine lv_bipush (v := 6) hx hb dL_law_1609 (by decide) ?_
        refine lv_iadd hx hb dL_law_1611 ?_
        obtain ⟨g6, hm⟩ := gdE hm
        refine va_sld hx hb hX hbl hbA hw.2.2.1 (ix_in g6) dL_law_1612 ?_
        obtain ⟨g7, hm⟩ := gdE hm
        obtain ⟨r9, h8, er9, hm⟩ := bd2E hm
        have lh8 := mo_X3_coset er9
        have ph8 : h.1 ≤ h8.1 := lh8.1
        have qh8 : h.2.1 ≤ h8.2.1 := lh8.2.1
        have hmo := mo_L_law_1616 (mo_L_law_18 n18)  h8 x1 x2 x3 y0 r9 _ hm
        have sh8 : h8.1 ≤ u9.1 := hmo.1
        have th8 : h8.2.1 ≤ u9.2.1 := hmo.2.1
        refine cg_calll hw lh8 (va_runV (As := [.int (xs (Int32.toNatClampNeg (x3 + (1 : Int32)))), .int (xs (Int32.toNatClampNeg (x3 + (2 : Int32)))), .int (xs (Int32.toNatClampNeg (x3 + (3 : Int32)))), .int (xs (Int32.toNatClampNeg (x3 + (4 : Int32)))), .int (xs (Int32.toNatClampNeg (x3 + (5 : Int32)))), .int (xs (Int32.toNatClampNeg (x3 + (6 : Int32))))]) (rest := [.long y0]) ⟨hx, hb, hml, hown, hts⟩ (w_X3_coset l er9) (cw_X3_coset hts q2002 ⟨Nat.le_of_ble_eq_true rfl, Nat.le_of_ble_eq_true rfl⟩) (cg_preV C hw g7 rfl _) rfl rfl hl.1 rfl (lv_room (Nat.le_of_ble_eq_true rfl)) dL_law_1613 ⟨show cc + (h8.1 - h.1) ≤ 601024 by omega, show ss + (h8.2.1 - h.2.1) ≤ 7293034 by omega⟩) (fun H locs hw => ?_)
        exact hB1616 h8 x1 x2 x3 y0 r9 _ _ _ _ _ hm hw (by omega) (by omega) (lv_sub hl [0, 1, 2, 3] rfl)
      have hB1546 : ∀ (h : CH) (x1 : Nat) (x2 : Nat) (x3 : Int32) (cc ss : Nat) (H : Heap) (locs : List Loc) (ls : Array Slot), m_L_law_1546 f xs L (m_L_law_18 f xs L n18) h x1 x2 x3 = some (1, u9) → CW D dA A s h H locs → cc + u.1 = h.1 → ss + u.2.1 = h.2.1 → lv_has ls 4 [(0, .ref b), (1, .ref x1), (2, .ref x2), (3, .int x3)] → W p l e room_1 s m #[Value.ref b] below meth c H locs cc ss QQ (F0 m 1546 ls []) := by
        intro h x1 x2 x3 cc ss H locs ls hm hw hcc hss hl
        have hmo := mo_L_law_1546 (mo_L_law_18 n18) h x1 x2 x3 _ hm
        have sb_ : h.1 ≤ u9.1 := hmo.1
        have tb_ : h.2.1 ≤ u9.2.1 := hmo.2.1
        rw [m_L_law_1546] at hm
        refine lv_aload_n hx hb dL_law_1546 rfl (lv_at hl 1 rfl) ?_
        refine lv_aload_n hx hb dL_law_1547 rfl (lv_at hl 0 rfl) ?_
        refine lv_iload_n hx hb dL_law_1548 rfl (lv_at hl 3 rfl) ?_
        refine lv_iconst (v := 1) hx hb dL_law_1549 (by decide) ?_
        refine lv_iadd hx hb dL_law_1550 ?_
        obtain ⟨g1, hm⟩ := gdE hm
        refine va_sld hx hb hX hbl hbA hw.2.2.1 (ix_in g1) dL_law_1551 ?_
        refine lv_aload_n hx hb dL_law_1552 rfl (lv_at hl 0 rfl) ?_
        refine lv_iload_n hx hb dL_law_1553 rfl (lv_at hl 3 rfl) ?_
        refine lv_iconst (v := 2) hx hb dL_law_1554 (by decide) ?_
        refine lv_iadd hx hb dL_law_1555 ?_
        obtain ⟨g2, hm⟩ := gdE hm
        refine va_sld hx hb hX hbl hbA hw.2.2.1 (ix_in g2) dL_law_1556 ?_
        refine lv_aload_n hx hb dL_law_1557 rfl (lv_at hl 0 rfl) ?_
        refine lv_iload_n hx hb dL_law_1558 rfl (lv_at hl 3 rfl) ?_
        refine lv_iconst (v := 3) hx hb dL_law_1559 (by decide) ?_
        refine lv_iadd hx hb dL_law_1560 ?_
        obtain ⟨g3, hm⟩ := gdE hm
        refine va_sld hx hb hX hbl hbA hw.2.2.1 (ix_in g3) dL_law_1561 ?_
        refine lv_aload_n hx hb dL_law_1562 rfl (lv_at hl 0 rfl) ?_
        refine lv_iload_n hx hb dL_law_1563 rfl (lv_at hl 3 rfl) ?_
        refine lv_iconst (v := 4) hx hb dL_law_1564 (by decide) ?_
        refine lv_iadd hx hb dL_law_1565 ?_
        obtain ⟨g4, hm⟩ := gdE hm
        refine va_sld hx hb hX hbl hbA hw.2.2.1 (ix_in g4) dL_law_1566 ?_
        refine lv_aload_n hx hb dL_law_1567 rfl (lv_at hl 0 rfl) ?_
        refine lv_iload_n hx hb dL_law_1568 rfl (lv_at hl 3 rfl) ?_
        refine lv_iconst (v := 5) hx hb dL_law_1569 (by decide) ?_
        refine lv_iadd hx hb dL_law_1570 ?_
        obtain ⟨g5, hm⟩ := gdE hm
        refine va_sld hx hb hX hbl hbA hw.2.2.1 (ix_in g5) dL_law_1571 ?_
        refine lv_aload_n hx hb dL_law_1572 rfl (lv_at hl 0 rfl) ?_
        refine lv_iload_n hx hb dL_law_1573 rfl (lv_at hl 3 rfl) ?_
        refine lv_bipush (v := 6) hx hb dL_law_1574 (by decide) ?_
        refine lv_iadd hx hb dL_law_1576 ?_
        obtain ⟨g6, hm⟩ := gdE hm
        refine va_sld hx hb hX hbl hbA hw.2.2.1 (ix_in g6) dL_law_1577 ?_
        obtain ⟨g7, hm⟩ := gdE hm
        obtain ⟨r9, h8, er9, hm⟩ := bd2E hm
        have lh8 := mo_X0_coset er9
        have ph8 : h.1 ≤ h8.1 := lh8.1
        have qh8 : h.2.1 ≤ h8.2.1 := lh8.2.1
        have hmo := mo_L_law_1581 (mo_L_law_18 n18)  h8 x1 x2 x3 r9 _ hm
        have sh8 : h8.1 ≤ u9.1 := hmo.1
        have th8 : h8.2.1 ≤ u9.2.1 := hmo.2.1
        refine cg_calll hw lh8 (va_runV (As := [.int (xs (Int32.toNatClampNeg (x3 + (1 : Int32)))), .int (xs (Int32.toNatClampNeg (x3 + (2 : Int32)))), .int (xs (Int32.toNatClampNeg (x3 + (3 : Int32)))), .int (xs (Int32.toNatClampNeg (x3 + (4 : Int32)))), .int (xs (Int32.toNatClampNeg (x3 + (5 : Int32)))), .int (xs (Int32.toNatClampNeg (x3 + (6 : Int32))))]) (rest := []) ⟨hx, hb, hml, hown, hts⟩ (w_X0_coset l er9) (cw_X0_coset hts q1328 ⟨Nat.le_of_ble_eq_true rfl, Nat.le_of_ble_eq_true rfl⟩) (cg_preV C hw g7 rfl _) rfl rfl hl.1 rfl (lv_room (Nat.le_of_ble_eq_true rfl)) dL_law_1578 ⟨show cc + (h8.1 - h.1) ≤ 601024 by omega, show ss + (h8.2.1 - h.2.1) ≤ 7293034 by omega⟩) (fun H locs hw => ?_)
        exact hB1581 h8 x1 x2 x3 r9 _ _ _ _ _ hm hw (by omega) (by omega) (lv_sub hl [0, 1, 2, 3] rfl)
      have hB1636 : ∀ (h : CH) (x1 : Nat) (x2 : Nat) (x3 : Int32) (y0 : Int32) (cc ss : Nat) (H : Heap) (locs : List Loc) (ls : Array Slot), m_L_law_1636 f xs L (m_L_law_18 f xs L n18) h x1 x2 x3 y0 = some (1, u9) → CW D dA A s h H locs → cc + u.1 = h.1 → ss + u.2.1 = h.2.1 → lv_has ls 4 [(0, .ref b), (1, .ref x1), (2, .ref x2), (3, .int x3)] → W p l e room_1 s m #[Value.ref b] below meth c H locs cc ss QQ (F0 m 1636 ls [.int y0]) := by
        intro h x1 x2 x3 y0 cc ss H locs ls hm hw hcc hss hl
        have hmo := mo_L_law_1636 (mo_L_law_18 n18) h x1 x2 x3 y0 _ hm
        have sb_ : h.1 ≤ u9.1 := hmo.1
        have tb_ : h.2.1 ≤ u9.2.1 := hmo.2.1
        rw [m_L_law_1636] at hm
        refine lv_aload_n hx hb dL_law_1636 rfl (lv_at hl 2 rfl) ?_
        refine lv_aload_n hx hb dL_law_1637 rfl (lv_at hl 0 rfl) ?_
        refine lv_iload_n hx hb dL_law_1638 rfl (lv_at hl 3 rfl) ?_
        refine lv_iconst (v := 1) hx hb dL_law_1639 (by decide) ?_
        refine lv_iadd hx hb dL_law_1640 ?_
        obtain ⟨g1, hm⟩ := gdE hm
        refine va_sld hx hb hX hbl hbA hw.2.2.1 (ix_in g1) dL_law_1641 ?_
        refine lv_aload_n hx hb dL_law_1642 rfl (lv_at hl 0 rfl) ?_
        refine lv_iload_n hx hb dL_law_1643 rfl (lv_at hl 3 rfl) ?_
        refine lv_iconst (v := 2) hx hb dL_law_1644 (by decide) ?_
        refine lv_iadd hx hb dL_law_1645 ?_
        obtain ⟨g2, hm⟩ := gdE hm
        refine va_sld hx hb hX hbl hbA hw.2.2.1 (ix_in g2) dL_law_1646 ?_
        obtain ⟨r4, h3, er4, hm⟩ := bd2E hm
        refine cg_tci C hw er4 (show cc + s.heap.size = h.1 by rw [hs0]; omega) (fun _ hk hm9 => va_runV (As := [.int (xs (Int32.toNatClampNeg (x3 + (1 : Int32)))), .int (xs (Int32.toNatClampNeg (x3 + (2 : Int32))))]) (rest := [.int y0]) ⟨hx, hb, hml, hown, hts⟩ (w_X3_turned l hm9) (cw_X3_turned hts q2010 ⟨Nat.le_of_ble_eq_true rfl, Nat.le_of_ble_eq_true rfl⟩) (tb_pre C hw hk _) rfl rfl hl.1 rfl (lv_room (Nat.le_of_ble_eq_true rfl)) dL_law_1647 ⟨show cc + 0 ≤ 601024 by omega, show ss + 0 ≤ 7293034 by omega⟩) (fun H locs hw => ?_)
        have zh3 := tcr_sz er4
        refine lv_icmp_eq (tgt := 1975) hx hb dL_law_1650 (by decide) (fun c5 => ?_) (fun c5 => ?_)
        · have hm := ifT hm c5
          exact hB1975 h3 x1 x2 x3 _ _ _ _ _ hm hw (by omega) (by omega) (lv_sub hl [0, 1, 2, 3] rfl)
        · have hm := ifF hm c5
          exact hB1653 h3 _ _ _ _ _ hm hw (by omega) (by omega) (lv_sub hl [] rfl)
      have hB1622 : ∀ (h : CH) (x1 : Nat) (x2 : Nat) (x3 : Int32) (cc ss : Nat) (H : Heap) (locs : List Loc) (ls : Array Slot), m_L_law_1622 f xs L (m_L_law_18 f xs L n18) h x1 x2 x3 = some (1, u9) → CW D dA A s h H locs → cc + u.1 = h.1 → ss + u.2.1 = h.2.1 → lv_has ls 4 [(0, .ref b), (1, .ref x1), (2, .ref x2), (3, .int x3)] → W p l e room_1 s m #[Value.ref b] below meth c H locs cc ss QQ (F0 m 1622 ls []) := by
        intro h x1 x2 x3 cc ss H locs ls hm hw hcc hss hl
        have hmo := mo_L_law_1622 (mo_L_law_18 n18) h x1 x2 x3 _ hm
        have sb_ : h.1 ≤ u9.1 := hmo.1
        have tb_ : h.2.1 ≤ u9.2.1 := hmo.2.1
        rw [m_L_law_1622] at hm
        refine lv_aload_n hx hb dL_law_1622 rfl (lv_at hl 1 rfl) ?_
        refine lv_aload_n hx hb dL_law_1623 rfl (lv_at hl 0 rfl) ?_
        refine lv_iload_n hx hb dL_law_1624 rfl (lv_at hl 3 rfl) ?_
        refine lv_iconst (v := 1) hx hb dL_law_1625 (by decide) ?_
        refine lv_iadd hx hb dL_law_1626 ?_
        obtain ⟨g1, hm⟩ := gdE hm
        refine va_sld hx hb hX hbl hbA hw.2.2.1 (ix_in g1) dL_law_1627 ?_
        refine lv_aload_n hx hb dL_law_1628 rfl (lv_at hl 0 rfl) ?_
        refine lv_iload_n hx hb dL_law_1629 rfl (lv_at hl 3 rfl) ?_
        refine lv_iconst (v := 2) hx hb dL_law_1630 (by decide) ?_
        refine lv_iadd hx hb dL_law_1631 ?_
        obtain ⟨g2, hm⟩ := gdE hm
        refine va_sld hx hb hX hbl hbA hw.2.2.1 (ix_in g2) dL_law_1632 ?_
        obtain ⟨g3, hm⟩ := gdE hm
        obtain ⟨r5, h4, er5, hm⟩ := bd2E hm
        have lh4 := mo_X0_turned er5
        have ph4 : h.1 ≤ h4.1 := lh4.1
        have qh4 : h.2.1 ≤ h4.2.1 := lh4.2.1
        have hmo := mo_L_law_1636 (mo_L_law_18 n18)  h4 x1 x2 x3 r5 _ hm
        have sh4 : h4.1 ≤ u9.1 := hmo.1
        have th4 : h4.2.1 ≤ u9.2.1 := hmo.2.1
        refine cg_calli hw lh4 (va_runV (As := [.int (xs (Int32.toNatClampNeg (x3 + (1 : Int32)))), .int (xs (Int32.toNatClampNeg (x3 + (2 : Int32))))]) (rest := []) ⟨hx, hb, hml, hown, hts⟩ (w_X0_turned l er5) (cw_X0_turned hts q1333 ⟨Nat.le_of_ble_eq_true rfl, Nat.le_of_ble_eq_true rfl⟩) (cg_preV C hw g3 rfl _) rfl rfl hl.1 rfl (lv_room (Nat.le_of_ble_eq_true rfl)) dL_law_1633 ⟨show cc + (h4.1 - h.1) ≤ 601024 by omega, show ss + (h4.2.1 - h.2.1) ≤ 7293034 by omega⟩) (fun H locs hw => ?_)
        exact hB1636 h4 x1 x2 x3 r5 _ _ _ _ _ hm hw (by omega) (by omega) (lv_sub hl [0, 1, 2, 3] rfl)
      have hB1669 : ∀ (h : CH) (x1 : Nat) (x2 : Nat) (x3 : Int32) (y0 : Int32) (cc ss : Nat) (H : Heap) (locs : List Loc) (ls : Array Slot), m_L_law_1669 f xs L (m_L_law_18 f xs L n18) h x1 x2 x3 y0 = some (1, u9) → CW D dA A s h H locs → cc + u.1 = h.1 → ss + u.2.1 = h.2.1 → lv_has ls 4 [(0, .ref b), (1, .ref x1), (2, .ref x2), (3, .int x3)] → W p l e room_1 s m #[Value.ref b] below meth c H locs cc ss QQ (F0 m 1669 ls [.int y0]) := by
        intro h x1 x2 x3 y0 cc ss H locs ls hm hw hcc hss hl
        have hmo := mo_L_law_1669 (mo_L_law_18 n18) h x1 x2 x3 y0 _ hm
        have sb_ : h.1 ≤ u9.1 := hmo.1
        have tb_ : h.2.1 ≤ u9.2.1 := hmo.2.1
        rw [m_L_law_1669] at hm
        refine lv_aload_n hx hb dL_law_1669 rfl (lv_at hl 2 rfl) ?_
        refine lv_aload_n hx hb dL_law_1670 rfl (lv_at hl 0 rfl) ?_
        refine lv_iload_n hx hb dL_law_1671 rfl (lv_at hl 3 rfl) ?_
        refine lv_iconst (v := 1) hx hb dL_law_1672 (by decide) ?_
        refine lv_iadd hx hb dL_law_1673 ?_
        obtain ⟨g1, hm⟩ := gdE hm
        refine va_sld hx hb hX hbl hbA hw.2.2.1 (ix_in g1) dL_law_1674 ?_
        refine lv_aload_n hx hb dL_law_1675 rfl (lv_at hl 0 rfl) ?_
        refine lv_iload_n hx hb dL_law_1676 rfl (lv_at hl 3 rfl) ?_
        refine lv_iconst (v := 2) hx hb dL_law_1677 (by decide) ?_
        refine lv_iadd hx hb dL_law_1678 ?_
        obtain ⟨g2, hm⟩ := gdE hm
        refine va_sld hx hb hX hbl hbA hw.2.2.1 (ix_in g2) dL_law_1679 ?_
        obtain ⟨r4, h3, er4, hm⟩ := bd2E hm
        refine cg_tci C hw er4 (show cc + s.heap.size = h.1 by rw [hs0]; omega) (fun _ hk hm9 => va_runV (As := [.int (xs (Int32.toNatClampNeg (x3 + (1 : Int32)))), .int (xs (Int32.toNatClampNeg (x3 + (2 : Int32))))]) (rest := [.int y0]) ⟨hx, hb, hml, hown, hts⟩ (w_X3_turnOf l hm9) (cw_X3_turnOf hts q2022 ⟨Nat.le_of_ble_eq_true rfl, Nat.le_of_ble_eq_true rfl⟩) (tb_pre C hw hk _) rfl rfl hl.1 rfl (lv_room (Nat.le_of_ble_eq_true rfl)) dL_law_1680 ⟨show cc + 0 ≤ 601024 by omega, show ss + 0 ≤ 7293034 by omega⟩) (fun H locs hw => ?_)
        have zh3 := tcr_sz er4
        refine lv_icmp_eq (tgt := 1975) hx hb dL_law_1683 (by decide) (fun c5 => ?_) (fun c5 => ?_)
        · have hm := ifT hm c5
          exact hB1975 h3 x1 x2 x3 _ _ _ _ _ hm hw (by omega) (by omega) (lv_sub hl [0, 1, 2, 3] rfl)
        · have hm := ifF hm c5
          exact hB1686 h3 _ _ _ _ _ hm hw (by omega) (by omega) (lv_sub hl [] rfl)
      have hB1655 : ∀ (h : CH) (x1 : Nat) (x2 : Nat) (x3 : Int32) (cc ss : Nat) (H : Heap) (locs : List Loc) (ls : Array Slot), m_L_law_1655 f xs L (m_L_law_18 f xs L n18) h x1 x2 x3 = some (1, u9) → CW D dA A s h H locs → cc + u.1 = h.1 → ss + u.2.1 = h.2.1 → lv_has ls 4 [(0, .ref b), (1, .ref x1), (2, .ref x2), (3, .int x3)] → W p l e room_1 s m #[Value.ref b] below meth c H locs cc ss QQ (F0 m 1655 ls []) := by
        intro h x1 x2 x3 cc ss H locs ls hm hw hcc hss hl
        have hmo := mo_L_law_1655 (mo_L_law_18 n18) h x1 x2 x3 _ hm
        have sb_ : h.1 ≤ u9.1 := hmo.1
        have tb_ : h.2.1 ≤ u9.2.1 := hmo.2.1
        rw [m_L_law_1655] at hm
        refine lv_aload_n hx hb dL_law_1655 rfl (lv_at hl 1 rfl) ?_
        refine lv_aload_n hx hb dL_law_1656 rfl (lv_at hl 0 rfl) ?_
        refine lv_iload_n hx hb dL_law_1657 rfl (lv_at hl 3 rfl) ?_
        refine lv_iconst (v := 1) hx hb dL_law_1658 (by decide) ?_
        refine lv_iadd hx hb dL_law_1659 ?_
        obtain ⟨g1, hm⟩ := gdE hm
        refine va_sld hx hb hX hbl hbA hw.2.2.1 (ix_in g1) dL_law_1660 ?_
        refine lv_aload_n hx hb dL_law_1661 rfl (lv_at hl 0 rfl) ?_
        refine lv_iload_n hx hb dL_law_1662 rfl (lv_at hl 3 rfl) ?_
        refine lv_iconst (v := 2) hx hb dL_law_1663 (by decide) ?_
        refine lv_iadd hx hb dL_law_1664 ?_
        obtain ⟨g2, hm⟩ := gdE hm
        refine va_sld hx hb hX hbl hbA hw.2.2.1 (ix_in g2) dL_law_1665 ?_
        obtain ⟨g3, hm⟩ := gdE hm
        obtain ⟨r5, h4, er5, hm⟩ := bd2E hm
        have lh4 := mo_X0_turnOf er5
        have ph4 : h.1 ≤ h4.1 := lh4.1
        have qh4 : h.2.1 ≤ h4.2.1 := lh4.2.1
        have hmo := mo_L_law_1669 (mo_L_law_18 n18)  h4 x1 x2 x3 r5 _ hm
        have sh4 : h4.1 ≤ u9.1 := hmo.1
        have th4 : h4.2.1 ≤ u9.2.1 := hmo.2.1
        refine cg_calli hw lh4 (va_runV (As := [.int (xs (Int32.toNatClampNeg (x3 + (1 : Int32)))), .int (xs (Int32.toNatClampNeg (x3 + (2 : Int32))))]) (rest := []) ⟨hx, hb, hml, hown, hts⟩ (w_X0_turnOf l er5) (cw_X0_turnOf hts q1354 ⟨Nat.le_of_ble_eq_true rfl, Nat.le_of_ble_eq_true rfl⟩) (cg_preV C hw g3 rfl _) rfl rfl hl.1 rfl (lv_room (Nat.le_of_ble_eq_true rfl)) dL_law_1666 ⟨show cc + (h4.1 - h.1) ≤ 601024 by omega, show ss + (h4.2.1 - h.2.1) ≤ 7293034 by omega⟩) (fun H locs hw => ?_)
        exact hB1669 h4 x1 x2 x3 r5 _ _ _ _ _ hm hw (by omega) (by omega) (lv_sub hl [0, 1, 2, 3] rfl)
      have hB1706 : ∀ (h : CH) (x1 : Nat) (x2 : Nat) (x3 : Int32) (y0 : Int32) (y1 : Int32) (cc ss : Nat) (H : Heap) (locs : List Loc) (ls : Array Slot), m_L_law_1706 f xs L (m_L_law_18 f xs L n18) h x1 x2 x3 y0 y1 = some (1, u9) → CW D dA A s h H locs → cc + u.1 = h.1 → ss + u.2.1 = h.2.1 → lv_has ls 4 [(0, .ref b), (1, .ref x1), (2, .ref x2), (3, .int x3)] → W p l e room_1 s m #[Value.ref b] below meth c H locs cc ss QQ (F0 m 1706 ls [.int y1, .int y0]) := by
        intro h x1 x2 x3 y0 y1 cc ss H locs ls hm hw hcc hss hl
        have hmo := mo_L_law_1706 (mo_L_law_18 n18) h x1 x2 x3 y0 y1 _ hm
        have sb_ : h.1 ≤ u9.1 := hmo.1
        have tb_ : h.2.1 ≤ u9.2.1 := hmo.2.1
        rw [m_L_law_1706] at hm
        refine lv_icmp_eq (tgt := 1975) hx hb dL_law_1706 (by decide) (fun c1 => ?_) (fun c1 => ?_)
        · have hm := ifT hm c1
          exact hB1975 h x1 x2 x3 _ _ _ _ _ hm hw (by omega) (by omega) (lv_sub hl [0, 1, 2, 3] rfl)
        · have hm := ifF hm c1
          exact hB1709 h _ _ _ _ _ hm hw (by omega) (by omega) (lv_sub hl [] rfl)
      have hB1697 : ∀ (h : CH) (x1 : Nat) (x2 : Nat) (x3 : Int32) (y0 : Int32) (cc ss : Nat) (H : Heap) (locs : List Loc) (ls : Array Slot), m_L_law_1697 f xs L (m_L_law_18 f xs L n18) h x1 x2 x3 y0 = some (1, u9) → CW D dA A s h H locs → cc + u.1 = h.1 → ss + u.2.1 = h.2.1 → lv_has ls 4 [(0, .ref b), (1, .ref x1), (2, .ref x2), (3, .int x3)] → W p l e room_1 s m #[Value.ref b] below meth c H locs cc ss QQ (F0 m 1697 ls [.int y0]) := by
        intro h x1 x2 x3 y0 cc ss H locs ls hm hw hcc hss hl
        have hmo := mo_L_law_1697 (mo_L_law_18 n18) h x1 x2 x3 y0 _ hm
        have sb_ : h.1 ≤ u9.1 := hmo.1
        have tb_ : h.2.1 ≤ u9.2.1 := hmo.2.1
        rw [m_L_law_1697] at hm
        refine lv_aload_n hx hb dL_law_1697 rfl (lv_at hl 2 rfl) ?_
        refine lv_aload_n hx hb dL_law_1698 rfl (lv_at hl 0 rfl) ?_
        refine lv_iload_n hx hb dL_law_1699 rfl (lv_at hl 3 rfl) ?_
        refine lv_iconst (v := 1) hx hb dL_law_1700 (by decide) ?_
        refine lv_iadd hx hb dL_law_1701 ?_
        obtain ⟨g1, hm⟩ := gdE hm
        refine va_sld hx hb hX hbl hbA hw.2.2.1 (ix_in g1) dL_law_1702 ?_
        obtain ⟨g2, hm⟩ := gdE hm
        obtain ⟨r4, h3, er4, hm⟩ := bd2E hm
        have lh3 := mo_X3_symmetries er4
        have ph3 : h.1 ≤ h3.1 := lh3.1
        have qh3 : h.2.1 ≤ h3.2.1 := lh3.2.1
        have hmo := mo_L_law_1706 (mo_L_law_18 n18)  h3 x1 x2 x3 y0 r4 _ hm
        have sh3 : h3.1 ≤ u9.1 := hmo.1
        have th3 : h3.2.1 ≤ u9.2.1 := hmo.2.1
        refine cg_calli hw lh3 (va_runV (As := [.int (xs (Int32.toNatClampNeg (x3 + (1 : Int32))))]) (rest := [.int y0]) ⟨hx, hb, hml, hown, hts⟩ (w_X3_symmetries l er4) (cw_X3_symmetries hts q2026 ⟨Nat.le_of_ble_eq_true rfl, Nat.le_of_ble_eq_true rfl⟩) (cg_preV C hw g2 rfl _) rfl rfl hl.1 rfl (lv_room (Nat.le_of_ble_eq_true rfl)) dL_law_1703 ⟨show cc + (h3.1 - h.1) ≤ 601024 by omega, show ss + (h3.2.1 - h.2.1) ≤ 7293034 by omega⟩) (fun H locs hw => ?_)
        exact hB1706 h3 x1 x2 x3 y0 r4 _ _ _ _ _ hm hw (by omega) (by omega) (lv_sub hl [0, 1, 2, 3] rfl)
      have hB1688 : ∀ (h : CH) (x1 : Nat) (x2 : Nat) (x3 : Int32) (cc ss : Nat) (H : Heap) (locs : List Loc) (ls : Array Slot), m_L_law_1688 f xs L (m_L_law_18 f xs L n18) h x1 x2 x3 = some (1, u9) → CW D dA A s h H locs → cc + u.1 = h.1 → ss + u.2.1 = h.2.1 → lv_has ls 4 [(0, .ref b), (1, .ref x1), (2, .ref x2), (3, .int x3)] → W p l e room_1 s m #[Value.ref b] below meth c H locs cc ss QQ (F0 m 1688 ls []) := by
        intro h x1 x2 x3 cc ss H locs ls hm hw hcc hss hl
        have hmo := mo_L_law_1688 (mo_L_law_18 n18) h x1 x2 x3 _ hm
        have sb_ : h.1 ≤ u9.1 := hmo.1
        have tb_ : h.2.1 ≤ u9.2.1 := hmo.2.1
        rw [m_L_law_1688] at hm
        refine lv_aload_n hx hb dL_law_1688 rfl (lv_at hl 1 rfl) ?_
        refine lv_aload_n hx hb dL_law_1689 rfl (lv_at hl 0 rfl) ?_
        refine lv_iload_n hx hb dL_law_1690 rfl (lv_at hl 3 rfl) ?_
        refine lv_iconst (v := 1) hx hb dL_law_1691 (by decide) ?_
        refine lv_iadd hx hb dL_law_1692 ?_
        obtain ⟨g1, hm⟩ := gdE hm
        refine va_sld hx hb hX hbl hbA hw.2.2.1 (ix_in g1) dL_law_1693 ?_
        obtain ⟨g2, hm⟩ := gdE hm
        obtain ⟨r4, h3, er4, hm⟩ := bd2E hm
        have lh3 := mo_X0_symmetries er4
        have ph3 : h.1 ≤ h3.1 := lh3.1
        have qh3 : h.2.1 ≤ h3.2.1 := lh3.2.1
        have hmo := mo_L_law_1697 (mo_L_law_18 n18)  h3 x1 x2 x3 r4 _ hm
        have sh3 : h3.1 ≤ u9.1 := hmo.1
        have th3 : h3.2.1 ≤ u9.2.1 := hmo.2.1
        refine cg_calli hw lh3 (va_runV (As := [.int (xs (Int32.toNatClampNeg (x3 + (1 : Int32))))]) (rest := []) ⟨hx, hb, hml, hown, hts⟩ (w_X0_symmetries l er4) (cw_X0_symmetries hts q1358 ⟨Nat.le_of_ble_eq_true rfl, Nat.le_of_ble_eq_true rfl⟩) (cg_preV C hw g2 rfl _) rfl rfl hl.1 rfl (lv_room (Nat.le_of_ble_eq_true rfl)) dL_law_1694 ⟨show cc + (h3.1 - h.1) ≤ 601024 by omega, show ss + (h3.2.1 - h.2.1) ≤ 7293034 by omega⟩) (fun H locs hw => ?_)
        exact hB1697 h3 x1 x2 x3 r4 _ _ _ _ _ hm hw (by omega) (by omega) (lv_sub hl [0, 1, 2, 3] rfl)
      have hB1739 : ∀ (h : CH) (x1 : Nat) (x2 : Nat) (x3 : Int32) (y0 : Int32) (y1 : Int32) (cc ss : Nat) (H : Heap) (locs : List Loc) (ls : Array Slot), m_L_law_1739 f xs L (m_L_law_18 f xs L n18) h x1 x2 x3 y0 y1 = some (1, u9) → CW D dA A s h H locs → cc + u.1 = h.1 → ss + u.2.1 = h.2.1 → lv_has ls 4 [(0, .ref b), (1, .ref x1), (2, .ref x2), (3, .int x3)] → W p l e room_1 s m #[Value.ref b] below meth c H locs cc ss QQ (F0 m 1739 ls [.int y1, .int y0]) := by
        intro h x1 x2 x3 y0 y1 cc ss H locs ls hm hw hcc hss hl
        have hmo := mo_L_law_1739 (mo_L_law_18 n18) h x1 x2 x3 y0 y1 _ hm
        have sb_ : h.1 ≤ u9.1 := hmo.1
        have tb_ : h.2.1 ≤ u9.2.1 := hmo.2.1
        rw [m_L_law_1739] at hm
        refine lv_icmp_eq (tgt := 1975) hx hb dL_law_1739 (by decide) (fun c1 => ?_) (fun c1 => ?_)
        · have hm := ifT hm c1
          exact hB1975 h x1 x2 x3 _ _ _ _ _ hm hw (by omega) (by omega) (lv_sub hl [0, 1, 2, 3] rfl)
        · have hm := ifF hm c1
          exact hB1742 h _ _ _ _ _ hm hw (by omega) (by omega) (lv_sub hl [] rfl)
      have hB1725 : ∀ (h : CH) (x1 : Nat) (x2 : Nat) (x3 : Int32) (y0 : Int32) (cc ss : Nat) (H : Heap) (locs : List Loc) (ls : Array Slot), m_L_law_1725 f xs L (m_L_law_18 f xs L n18) h x1 x2 x3 y0 = some (1, u9) → CW D dA A s h H locs → cc + u.1 = h.1 → ss + u.2.1 = h.2.1 → lv_has ls 4 [(0, .ref b), (1, .ref x1), (2, .ref x2), (3, .int x3)] → W p l e room_1 s m #[Value.ref b] below meth c H locs cc ss QQ (F0 m 1725 ls [.int y0]) := by
        intro h x1 x2 x3 y0 cc ss H locs ls hm hw hcc hss hl
        have hmo := mo_L_law_1725 (mo_L_law_18 n18) h x1 x2 x3 y0 _ hm
        have sb_ : h.1 ≤ u9.1 := hmo.1
        have tb_ : h.2.1 ≤ u9.2.1 := hmo.2.1
        rw [m_L_law_1725] at hm
        refine lv_aload_n hx hb dL_law_1725 rfl (lv_at hl 2 rfl) ?_
        refine lv_aload_n hx hb dL_law_1726 rfl (lv_at hl 0 rfl) ?_
        refine lv_iload_n hx hb dL_law_1727 rfl (lv_at hl 3 rfl) ?_
        refine lv_iconst (v := 1) hx hb dL_law_1728 (by decide) ?_
        refine lv_iadd hx hb dL_law_1729 ?_
        obtain ⟨g1, hm⟩ := gdE hm
        refine va_sld hx hb hX hbl hbA hw.2.2.1 (ix_in g1) dL_law_1730 ?_
        refine lv_aload_n hx hb dL_law_1731 rfl (lv_at hl 0 rfl) ?_
        refine lv_iload_n hx hb dL_law_1732 rfl (lv_at hl 3 rfl) ?_
        refine lv_iconst (v := 2) hx hb dL_law_1733 (by decide) ?_
        refine lv_iadd hx hb dL_law_1734 ?_
        obtain ⟨g2, hm⟩ := gdE hm
        refine va_sld hx hb hX hbl hbA hw.2.2.1 (ix_in g2) dL_law_1735 ?_
        obtain ⟨g3, hm⟩ := gdE hm
        obtain ⟨r5, h4, er5, hm⟩ := bd2E hm
        have lh4 := mo_X3_takes er5
        have ph4 : h.1 ≤ h4.1 := lh4.1
        have qh4 : h.2.1 ≤ h4.2.1 := lh4.2.1
        have hmo := mo_L_law_1739 (mo_L_law_18 n18)  h4 x1 x2 x3 y0 r5 _ hm
        have sh4 : h4.1 ≤ u9.1 := hmo.1
        have th4 : h4.2.1 ≤ u9.2.1 := hmo.2.1
        refine cg_calli hw lh4 (va_runV (As := [.int (xs (Int32.toNatClampNeg (x3 + (1 : Int32)))), .int (xs (Int32.toNatClampNeg (x3 + (2 : Int32))))]) (rest := [.int y0]) ⟨hx, hb, hml, hown, hts⟩ (w_X3_takes l er5) (cw_X3_takes hts q2035 ⟨Nat.le_of_ble_eq_true rfl, Nat.le_of_ble_eq_true rfl⟩) (cg_preV C hw g3 rfl _) rfl rfl hl.1 rfl (lv_room (Nat.le_of_ble_eq_true rfl)) dL_law_1736 ⟨show cc + (h4.1 - h.1) ≤ 601024 by omega, show ss + (h4.2.1 - h.2.1) ≤ 7293034 by omega⟩) (fun H locs hw => ?_)
        exact hB1739 h4 x1 x2 x3 y0 r5 _ _ _ _ _ hm hw (by omega) (by omega) (lv_sub hl [0, 1, 2, 3] rfl)
      have hB1711 : ∀ (h : CH) (x1 : Nat) (x2 : Nat) (x3 : Int32) (cc ss : Nat) (H : Heap) (locs : List Loc) (ls : Array Slot), m_L_law_1711 f xs L (m_L_law_18 f xs L n18) h x1 x2 x3 = some (1, u9) → CW D dA A s h H locs → cc + u.1 = h.1 → ss + u.2.1 = h.2.1 → lv_has ls 4 [(0, .ref b), (1, .ref x1), (2, .ref x2), (3, .int x3)] → W p l e room_1 s m #[Value.ref b] below meth c H locs cc ss QQ (F0 m 1711 ls []) := by
        intro h x1 x2 x3 cc ss H locs ls hm hw hcc hss hl
        have hmo := mo_L_law_1711 (mo_L_law_18 n18) h x1 x2 x3 _ hm
        have sb_ : h.1 ≤ u9.1 := hmo.1
        have tb_ : h.2.1 ≤ u9.2.1 := hmo.2.1
        rw [m_L_law_1711] at hm
        refine lv_aload_n hx hb dL_law_1711 rfl (lv_at hl 1 rfl) ?_
        refine lv_aload_n hx hb dL_law_1712 rfl (lv_at hl 0 rfl) ?_
        refine lv_iload_n hx hb dL_law_1713 rfl (lv_at hl 3 rfl) ?_
        refine lv_iconst (v := 1) hx hb dL_law_1714 (by decide) ?_
        refine lv_iadd hx hb dL_law_1715 ?_
        obtain ⟨g1, hm⟩ := gdE hm
        refine va_sld hx hb hX hbl hbA hw.2.2.1 (ix_in g1) dL_law_1716 ?_
        refine lv_aload_n hx hb dL_law_1717 rfl (lv_at hl 0 rfl) ?_
        refine lv_iload_n hx hb dL_law_1718 rfl (lv_at hl 3 rfl) ?_
        refine lv_iconst (v := 2) hx hb dL_law_1719 (by decide) ?_
        refine lv_iadd hx hb dL_law_1720 ?_
        obtain ⟨g2, hm⟩ := gdE hm
        refine va_sld hx hb hX hbl hbA hw.2.2.1 (ix_in g2) dL_law_1721 ?_
        obtain ⟨g3, hm⟩ := gdE hm
        obtain ⟨r5, h4, er5, hm⟩ := bd2E hm
        have lh4 := mo_X0_takes er5
        have ph4 : h.1 ≤ h4.1 := lh4.1
        have qh4 : h.2.1 ≤ h4.2.1 := lh4.2.1
        have hmo := mo_L_law_1725 (mo_L_law_18 n18)  h4 x1 x2 x3 r5 _ hm
        have sh4 : h4.1 ≤ u9.1 := hmo.1
        have th4 : h4.2.1 ≤ u9.2.1 := hmo.2.1
        refine cg_calli hw lh4 (va_runV (As := [.int (xs (Int32.toNatClampNeg (x3 + (1 : Int32)))), .int (xs (Int32.toNatClampNeg (x3 + (2 : Int32))))]) (rest := []) ⟨hx, hb, hml, hown, hts⟩ (w_X0_takes l er5) (cw_X0_takes hts q1366 ⟨Nat.le_of_ble_eq_true rfl, Nat.le_of_ble_eq_true rfl⟩) (cg_preV C hw g3 rfl _) rfl rfl hl.1 rfl (lv_room (Nat.le_of_ble_eq_true rfl)) dL_law_1722 ⟨show cc + (h4.1 - h.1) ≤ 601024 by omega, show ss + (h4.2.1 - h.2.1) ≤ 7293034 by omega⟩) (fun H locs hw => ?_)
        exact hB1725 h4 x1 x2 x3 r5 _ _ _ _ _ hm hw (by omega) (by omega) (lv_sub hl [0, 1, 2, 3] rfl)
      have hB1768 : ∀ (h : CH) (x1 : Nat) (x2 : Nat) (x3 : Int32) (y0 : Int32) (cc ss : Nat) (H : Heap) (locs : List Loc) (ls : Array Slot), m_L_law_1768 f xs L (m_L_law_18 f xs L n18) h x1 x2 x3 y0 = some (1, u9) → CW D dA A s h H locs → cc + u.1 = h.1 → ss + u.2.1 = h.2.1 → lv_has ls 4 [(0, .ref b), (1, .ref x1), (2, .ref x2), (3, .int x3)] → W p l e room_1 s m #[Value.ref b] below meth c H locs cc ss QQ (F0 m 1768 ls [.int y0]) := by
        intro h x1 x2 x3 y0 cc ss H locs ls hm hw hcc hss hl
        have hmo := mo_L_law_1768 (mo_L_law_18 n18) h x1 x2 x3 y0 _ hm
        have sb_ : h.1 ≤ u9.1 := hmo.1
        have tb_ : h.2.1 ≤ u9.2.1 := hmo.2.1
        rw [m_L_law_1768] at hm
        refine lv_aload_n hx hb dL_law_1768 rfl (lv_at hl 2 rfl) ?_
        refine lv_aload_n hx hb dL_law_1769 rfl (lv_at hl 0 rfl) ?_
        refine lv_iload_n hx hb dL_law_1770 rfl (lv_at hl 3 rfl) ?_
        refine lv_iconst (v := 1) hx hb dL_law_1771 (by decide) ?_
        refine lv_iadd hx hb dL_law_1772 ?_
        obtain ⟨g1, hm⟩ := gdE hm
        refine va_sld hx hb hX hbl hbA hw.2.2.1 (ix_in g1) dL_law_1773 ?_
        refine lv_aload_n hx hb dL_law_1774 rfl (lv_at hl 0 rfl) ?_
        refine lv_iload_n hx hb dL_law_1775 rfl (lv_at hl 3 rfl) ?_
        refine lv_iconst (v := 2) hx hb dL_law_1776 (by decide) ?_
        refine lv_iadd hx hb dL_law_1777 ?_
        obtain ⟨g2, hm⟩ := gdE hm
        refine va_sld hx hb hX hbl hbA hw.2.2.1 (ix_in g2) dL_law_1778 ?_
        refine lv_aload_n hx hb dL_law_1779 rfl (lv_at hl 0 rfl) ?_
        refine lv_iload_n hx hb dL_law_1780 rfl (lv_at hl 3 rfl) ?_
        refine lv_iconst (v := 3) hx hb dL_law_1781 (by decide) ?_
        refine lv_iadd hx hb dL_law_1782 ?_
        obtain ⟨g3, hm⟩ := gdE hm
        refine va_sld hx hb hX hbl hbA hw.2.2.1 (ix_in g3) dL_law_1783 ?_
        refine lv_aload_n hx hb dL_law_1784 rfl (lv_at hl 0 rfl) ?_
        refine lv_iload_n hx hb dL_law_1785 rfl (lv_at hl 3 rfl) ?_
        refine lv_iconst (v := 4) hx hb dL_law_1786 (by decide) ?_
        refine lv_iadd hx hb dL_law_1787 ?_
        obtain ⟨g4, hm⟩ := gdE hm
        refine va_sld hx hb hX hbl hbA hw.2.2.1 (ix_in g4) dL_law_1788 ?_
        obtain ⟨r6, h5, er6, hm⟩ := bd2E hm
        refine cg_tci C hw er6 (show cc + s.heap.size = h.1 by rw [hs0]; omega) (fun _ hk hm9 => va_runV (As := [.int (xs (Int32.toNatClampNeg (x3 + (1 : Int32)))), .int (xs (Int32.toNatClampNeg (x3 + (2 : Int32)))), .int (xs (Int32.toNatClampNeg (x3 + (3 : Int32)))), .int (xs (Int32.toNatClampNeg (x3 + (4 : Int32))))]) (rest := [.int y0]) ⟨hx, hb, hml, hown, hts⟩ (w_X3_add l hm9) (cw_X3_add hts q2129 ⟨Nat.le_of_ble_eq_true rfl, Nat.le_of_ble_eq_true rfl⟩) (tb_pre C hw hk _) rfl rfl hl.1 rfl (lv_room (Nat.le_of_ble_eq_true rfl)) dL_law_1789 ⟨show cc + 0 ≤ 601024 by omega, show ss + 0 ≤ 7293034 by omega⟩) (fun H locs hw => ?_)
        have zh5 := tcr_sz er6
        refine lv_icmp_eq (tgt := 1975) hx hb dL_law_1792 (by decide) (fun c7 => ?_) (fun c7 => ?_)
        · have hm := ifT hm c7
          exact hB1975 h5 x1 x2 x3 _ _ _ _ _ hm hw (by omega) (by omega) (lv_sub hl [0, 1, 2, 3] rfl)
        · have hm := ifF hm c7
          exact hB1795 h5 _ _ _ _ _ hm hw (by omega) (by omega) (lv_sub hl [] rfl)
      have hB1744 : ∀ (h : CH) (x1 : Nat) (x2 : Nat) (x3 : Int32) (cc ss : Nat) (H : Heap) (locs : List Loc) (ls : Array Slot), m_L_law_1744 f xs L (m_L_law_18 f xs L n18) h x1 x2 x3 = some (1, u9) → CW D dA A s h H locs → cc + u.1 = h.1 → ss + u.2.1 = h.2.1 → lv_has ls 4 [(0, .ref b), (1, .ref x1), (2, .ref x2), (3, .int x3)] → W p l e room_1 s m #[Value.ref b] below meth c H locs cc ss QQ (F0 m 1744 ls []) := by
        intro h x1 x2 x3 cc ss H locs ls hm hw hcc hss hl
        have hmo := mo_L_law_1744 (mo_L_law_18 n18) h x1 x2 x3 _ hm
        have sb_ : h.1 ≤ u9.1 := hmo.1
        have tb_ : h.2.1 ≤ u9.2.1 := hmo.2.1
        rw [m_L_law_1744] at hm
        refine lv_aload_n hx hb dL_law_1744 rfl (lv_at hl 1 rfl) ?_
        refine lv_aload_n hx hb dL_law_1745 rfl (lv_at hl 0 rfl) ?_
        refine lv_iload_n hx hb dL_law_1746 rfl (lv_at hl 3 rfl) ?_
        refine lv_iconst (v := 1) hx hb dL_law_1747 (by decide) ?_
        refine lv_iadd hx hb dL_law_1748 ?_
        obtain ⟨g1, hm⟩ := gdE hm
        refine va_sld hx hb hX hbl hbA hw.2.2.1 (ix_in g1) dL_law_1749 ?_
        refine lv_aload_n hx hb dL_law_1750 rfl (lv_at hl 0 rfl) ?_
        refine lv_iload_n hx hb dL_law_1751 rfl (lv_at hl 3 rfl) ?_
        refine lv_iconst (v := 2) hx hb dL_law_1752 (by decide) ?_
        refine lv_iadd hx hb dL_law_1753 ?_
        obtain ⟨g2, hm⟩ := gdE hm
        refine va_sld hx hb hX hbl hbA hw.2.2.1 (ix_in g2) dL_law_1754 ?_
        refine lv_aload_n hx hb dL_law_1755 rfl (lv_at hl 0 rfl) ?_
        refine lv_iload_n hx hb dL_law_1756 rfl (lv_at hl 3 rfl) ?_
        refine lv_iconst (v := 3) hx hb dL_law_1757 (by decide) ?_
        refine lv_iadd hx hb dL_law_1758 ?_
        obtain ⟨g3, hm⟩ := gdE hm
        refine va_sld hx hb hX hbl hbA hw.2.2.1 (ix_in g3) dL_law_1759 ?_
        refine lv_aload_n hx hb dL_law_1760 rfl (lv_at hl 0 rfl) ?_
        refine lv_iload_n hx hb dL_law_1761 rfl (lv_at hl 3 rfl) ?_
        refine lv_iconst (v := 4) hx hb dL_law_1762 (by decide) ?_
        refine lv_iadd hx hb dL_law_1763 ?_
        obtain ⟨g4, hm⟩ := gdE hm
        refine va_sld hx hb hX hbl hbA hw.2.2.1 (ix_in g4) dL_law_1764 ?_
        obtain ⟨g5, hm⟩ := gdE hm
        obtain ⟨r7, h6, er7, hm⟩ := bd2E hm
        have lh6 := mo_X0_add er7
        have ph6 : h.1 ≤ h6.1 := lh6.1
        have qh6 : h.2.1 ≤ h6.2.1 := lh6.2.1
        have hmo := mo_L_law_1768 (mo_L_law_18 n18)  h6 x1 x2 x3 r7 _ hm
        have sh6 : h6.1 ≤ u9.1 := hmo.1
        have th6 : h6.2.1 ≤ u9.2.1 := hmo.2.1
        refine cg_calli hw lh6 (va_runV (As := [.int (xs (Int32.toNatClampNeg (x3 + (1 : Int32)))), .int (xs (Int32.toNatClampNeg (x3 + (2 : Int32)))), .int (xs (Int32.toNatClampNeg (x3 + (3 : Int32)))), .int (xs (Int32.toNatClampNeg (x3 + (4 : Int32))))]) (rest := []) ⟨hx, hb, hml, hown, hts⟩ (w_X0_add l htl er7) (cw_X0_add hts q1370 ⟨Nat.le_of_ble_eq_true rfl, Nat.le_of_ble_eq_true rfl⟩) (cg_preV C hw g5 rfl _) rfl rfl hl.1 rfl (lv_room (Nat.le_of_ble_eq_true rfl)) dL_law_1765 ⟨show cc + (h6.1 - h.1) ≤ 601024 by omega, show ss + (h6.2.1 - h.2.1) ≤ 7293034 by omega⟩) (fun H locs hw => ?_)
        exact hB1768 h6 x1 x2 x3 r7 _ _ _ _ _ hm hw (by omega) (by omega) (lv_sub hl [0, 1, 2, 3] rfl)
      have hB1816 : ∀ (h : CH) (x1 : Nat) (x2 : Nat) (x3 : Int32) (y0 : Int32) (cc ss : Nat) (H : Heap) (locs : List Loc) (ls : Array Slot), m_L_law_1816 f xs L (m_L_law_18 f xs L n18) h x1 x2 x3 y0 = some (1, u9) → CW D dA A s h H locs → cc + u.1 = h.1 → ss + u.2.1 = h.2.1 → lv_has ls 4 [(0, .ref b), (1, .ref x1), (2, .ref x2), (3, .int x3)] → W p l e room_1 s m #[Value.ref b] below meth c H locs cc ss QQ (F0 m 1816 ls [.int y0]) := by
        intro h x1 x2 x3 y0 cc ss H locs ls hm hw hcc hss hl
        have hmo := mo_L_law_1816 (mo_L_law_18 n18) h x1 x2 x3 y0 _ hm
        have sb_ : h.1 ≤ u9.1 := hmo.1
        have tb_ : h.2.1 ≤ u9.2.1 := hmo.2.1
        rw [m_L_law_1816] at hm
        refine lv_aload_n hx hb dL_law_1816 rfl (lv_at hl 2 rfl) ?_
        refine lv_aload_n hx hb dL_law_1817 rfl (lv_at hl 0 rfl) ?_
        refine lv_iload_n hx hb dL_law_1818 rfl (lv_at hl 3 rfl) ?_
        refine lv_iconst (v := 1) hx hb dL_law_1819 (by decide) ?_
        refine lv_iadd hx hb dL_law_1820 ?_
        obtain ⟨g1, hm⟩ := gdE hm
        refine va_sld hx hb hX hbl hbA hw.2.2.1 (ix_in g1) dL_law_1821 ?_
        refine lv_aload_n hx hb dL_law_1822 rfl (lv_at hl 0 rfl) ?_
        refine lv_iload_n hx hb dL_law_1823 rfl (lv_at hl 3 rfl) ?_
        refine lv_iconst (v := 2) hx hb dL_law_1824 (by decide) ?_
        refine lv_iadd hx hb dL_law_1825 ?_
        obtain ⟨g2, hm⟩ := gdE hm
        refine va_sld hx hb hX hbl hbA hw.2.2.1 (ix_in g2) dL_law_1826 ?_
        refine lv_aload_n hx hb dL_law_1827 rfl (lv_at hl 0 rfl) ?_
        refine lv_iload_n hx hb dL_law_1828 rfl (lv_at hl 3 rfl) ?_
        refine lv_iconst (v := 3) hx hb dL_law_1829 (by decide) ?_
        refine lv_iadd hx hb dL_law_1830 ?_
        obtain ⟨g3, hm⟩ := gdE hm
        refine va_sld hx hb hX hbl hbA hw.2.2.1 (ix_in g3) dL_law_1831 ?_
        obtain ⟨r5, h4, er5, hm⟩ := bd2E hm
        refine cg_tci C hw er5 (show cc + s.heap.size = h.1 by rw [hs0]; omega) (fun _ hk hm9 => va_runV (As := [.int (xs (Int32.toNatClampNeg (x3 + (1 : Int32)))), .int (xs (Int32.toNatClampNeg (x3 + (2 : Int32)))), .int (xs (Int32.toNatClampNeg (x3 + (3 : Int32))))]) (rest := [.int y0]) ⟨hx, hb, hml, hown, hts⟩ (w_X3_exchange l hm9) (cw_X3_exchange hts q2160 ⟨Nat.le_of_ble_eq_true rfl, Nat.le_of_ble_eq_true rfl⟩) (tb_pre C hw hk _) rfl rfl hl.1 rfl (lv_room (Nat.le_of_ble_eq_true rfl)) dL_law_1832 ⟨show cc + 0 ≤ 601024 by omega, show ss + 0 ≤ 7293034 by omega⟩) (fun H locs hw => ?_)
        have zh4 := tcr_sz er5
        refine lv_icmp_eq (tgt := 1975) hx hb dL_law_1835 (by decide) (fun c6 => ?_) (fun c6 => ?_)
        · have hm := ifT hm c6
          exact hB1975 h4 x1 x2 x3 _ _ _ _ _ hm hw (by omega) (by omega) (lv_sub hl [0, 1, 2, 3] rfl)
        · have hm := ifF hm c6
          exact hB1838 h4 _ _ _ _ _ hm hw (by omega) (by omega) (lv_sub hl [] rfl)
      have hB1797 : ∀ (h : CH) (x1 : Nat) (x2 : Nat) (x3 : Int32) (cc ss : Nat) (H : Heap) (locs : List Loc) (ls : Array Slot), m_L_law_1797 f xs L (m_L_law_18 f xs L n18) h x1 x2 x3 = some (1, u9) → CW D dA A s h H locs → cc + u.1 = h.1 → ss + u.2.1 = h.2.1 → lv_has ls 4 [(0, .ref b), (1, .ref x1), (2, .ref x2), (3, .int x3)] → W p l e room_1 s m #[Value.ref b] below meth c H locs cc ss QQ (F0 m 1797 ls []) := by
        intro h x1 x2 x3 cc ss H locs ls hm hw hcc hss hl
        have hmo := mo_L_law_1797 (mo_L_law_18 n18) h x1 x2 x3 _ hm
        have sb_ : h.1 ≤ u9.1 := hmo.1
        have tb_ : h.2.1 ≤ u9.2.1 := hmo.2.1
        rw [m_L_law_1797] at hm
        refine lv_aload_n hx hb dL_law_1797 rfl (lv_at hl 1 rfl) ?_
        refine lv_aload_n hx hb dL_law_1798 rfl (lv_at hl 0 rfl) ?_
        refine lv_iload_n hx hb dL_law_1799 rfl (lv_at hl 3 rfl) ?_
        refine lv_iconst (v := 1) hx hb dL_law_1800 (by decide) ?_
        refine lv_iadd hx hb dL_law_1801 ?_
        obtain ⟨g1, hm⟩ := gdE hm
        refine va_sld hx hb hX hbl hbA hw.2.2.1 (ix_in g1) dL_law_1802 ?_
        refine lv_aload_n hx hb dL_law_1803 rfl (lv_at hl 0 rfl) ?_
        refine lv_iload_n hx hb dL_law_1804 rfl (lv_at hl 3 rfl) ?_
        refine lv_iconst (v := 2) hx hb dL_law_1805 (by decide) ?_
        refine lv_iadd hx hb dL_law_1806 ?_
        obtain ⟨g2, hm⟩ := gdE hm
        refine va_sld hx hb hX hbl hbA hw.2.2.1 (ix_in g2) dL_law_1807 ?_
        refine lv_aload_n hx hb dL_law_1808 rfl (lv_at hl 0 rfl) ?_
        refine lv_iload_n hx hb dL_law_1809 rfl (lv_at hl 3 rfl) ?_
        refine lv_iconst (v := 3) hx hb dL_law_1810 (by decide) ?_
        refine lv_iadd hx hb dL_law_1811 ?_
        obtain ⟨g3, hm⟩ := gdE hm
        refine va_sld hx hb hX hbl hbA hw.2.2.1 (ix_in g3) dL_law_1812 ?_
        obtain ⟨g4, hm⟩ := gdE hm
        obtain ⟨r6, h5, er6, hm⟩ := bd2E hm
        have lh5 := mo_X0_exchange er6
        have ph5 : h.1 ≤ h5.1 := lh5.1
        have qh5 : h.2.1 ≤ h5.2.1 := lh5.2.1
        have hmo := mo_L_law_1816 (mo_L_law_18 n18)  h5 x1 x2 x3 r6 _ hm
        have sh5 : h5.1 ≤ u9.1 := hmo.1
        have th5 : h5.2.1 ≤ u9.2.1 := hmo.2.1
        refine cg_calli hw lh5 (va_runV (As := [.int (xs (Int32.toNatClampNeg (x3 + (1 : Int32)))), .int (xs (Int32.toNatClampNeg (x3 + (2 : Int32)))), .int (xs (Int32.toNatClampNeg (x3 + (3 : Int32))))]) (rest := []) ⟨hx, hb, hml, hown, hts⟩ (w_X0_exchange l htl er6) (cw_X0_exchange hts q1495 ⟨Nat.le_of_ble_eq_true rfl, Nat.le_of_ble_eq_true rfl⟩) (cg_preV C hw g4 rfl _) rfl rfl hl.1 rfl (lv_room (Nat.le_of_ble_eq_true rfl)) dL_law_1813 ⟨show cc + (h5.1 - h.1) ≤ 601024 by omega, show ss + (h5.2.1 - h.2.1) ≤ 7293034 by omega⟩) (fun H locs hw => ?_)
        exact hB1816 h5 x1 x2 x3 r6 _ _ _ _ _ hm hw (by omega) (by omega) (lv_sub hl [0, 1, 2, 3] rfl)
      have hB1854 : ∀ (h : CH) (x1 : Nat) (x2 : Nat) (x3 : Int32) (y0 : Int32) (cc ss : Nat) (H : Heap) (locs : List Loc) (ls : Array Slot), m_L_law_1854 f xs L (m_L_law_18 f xs L n18) h x1 x2 x3 y0 = some (1, u9) → CW D dA A s h H locs → cc + u.1 = h.1 → ss + u.2.1 = h.2.1 → lv_has ls 4 [(0, .ref b), (1, .ref x1), (2, .ref x2), (3, .int x3)] → W p l e room_1 s m #[Value.ref b] below meth c H locs cc ss QQ (F0 m 1854 ls [.int y0]) := by
        intro h x1 x2 x3 y0 cc ss H locs ls hm hw hcc hss hl
        have hmo := mo_L_law_1854 (mo_L_law_18 n18) h x1 x2 x3 y0 _ hm
        have sb_ : h.1 ≤ u9.1 := hmo.1
        have tb_ : h.2.1 ≤ u9.2.1 := hmo.2.1
        rw [m_L_law_1854] at hm
        refine lv_aload_n hx hb dL_law_1854 rfl (lv_at hl 2 rfl) ?_
        refine lv_aload_n hx hb dL_law_1855 rfl (lv_at hl 0 rfl) ?_
        refine lv_iload_n hx hb dL_law_1856 rfl (lv_at hl 3 rfl) ?_
        refine lv_iconst (v := 1) hx hb dL_law_1857 (by decide) ?_
        refine lv_iadd hx hb dL_law_1858 ?_
        obtain ⟨g1, hm⟩ := gdE hm
        refine va_sld hx hb hX hbl hbA hw.2.2.1 (ix_in g1) dL_law_1859 ?_
        refine lv_aload_n hx hb dL_law_1860 rfl (lv_at hl 0 rfl) ?_
        refine lv_iload_n hx hb dL_law_1861 rfl (lv_at hl 3 rfl) ?_
        refine lv_iconst (v := 2) hx hb dL_law_1862 (by decide) ?_
        refine lv_iadd hx hb dL_law_1863 ?_
        obtain ⟨g2, hm⟩ := gdE hm
        refine va_sld hx hb hX hbl hbA hw.2.2.1 (ix_in g2) dL_law_1864 ?_
        obtain ⟨r4, h3, er4, hm⟩ := bd2E hm
        refine cg_tci C hw er4 (show cc + s.heap.size = h.1 by rw [hs0]; omega) (fun _ hk hm9 => va_runV (As := [.int (xs (Int32.toNatClampNeg (x3 + (1 : Int32)))), .int (xs (Int32.toNatClampNeg (x3 + (2 : Int32))))]) (rest := [.int y0]) ⟨hx, hb, hml, hown, hts⟩ (w_X3_negate l hm9) (cw_X3_negate hts q2164 ⟨Nat.le_of_ble_eq_true rfl, Nat.le_of_ble_eq_true rfl⟩) (tb_pre C hw hk _) rfl rfl hl.1 rfl (lv_room (Nat.le_of_ble_eq_true rfl)) dL_law_1865 ⟨show cc + 0 ≤ 601024 by omega, show ss + 0 ≤ 7293034 by omega⟩) (fun H locs hw => ?_)
        have zh3 := tcr_sz er4
        refine lv_icmp_eq (tgt := 1975) hx hb dL_law_1868 (by decide) (fun c5 => ?_) (fun c5 => ?_)
        · have hm := ifT hm c5
          exact hB1975 h3 x1 x2 x3 _ _ _ _ _ hm hw (by omega) (by omega) (lv_sub hl [0, 1, 2, 3] rfl)
        · have hm := ifF hm c5
          exact hB1871 h3 _ _ _ _ _ hm hw (by omega) (by omega) (lv_sub hl [] rfl)
      have hB1840 : ∀ (h : CH) (x1 : Nat) (x2 : Nat) (x3 : Int32) (cc ss : Nat) (H : Heap) (locs : List Loc) (ls : Array Slot), m_L_law_1840 f xs L (m_L_law_18 f xs L n18) h x1 x2 x3 = some (1, u9) → CW D dA A s h H locs → cc + u.1 = h.1 → ss + u.2.1 = h.2.1 → lv_has ls 4 [(0, .ref b), (1, .ref x1), (2, .ref x2), (3, .int x3)] → W p l e room_1 s m #[Value.ref b] below meth c H locs cc ss QQ (F0 m 1840 ls []) := by
        intro h x1 x2 x3 cc ss H locs ls hm hw hcc hss hl
        have hmo := mo_L_law_1840 (mo_L_law_18 n18) h x1 x2 x3 _ hm
        have sb_ : h.1 ≤ u9.1 := hmo.1
        have tb_ : h.2.1 ≤ u9.2.1 := hmo.2.1
        rw [m_L_law_1840] at hm
        refine lv_aload_n hx hb dL_law_1840 rfl (lv_at hl 1 rfl) ?_
        refine lv_aload_n hx hb dL_law_1841 rfl (lv_at hl 0 rfl) ?_
        refine lv_iload_n hx hb dL_law_1842 rfl (lv_at hl 3 rfl) ?_
        refine lv_iconst (v := 1) hx hb dL_law_1843 (by decide) ?_
        refine lv_iadd hx hb dL_law_1844 ?_
        obtain ⟨g1, hm⟩ := gdE hm
        refine va_sld hx hb hX hbl hbA hw.2.2.1 (ix_in g1) dL_law_1845 ?_
        refine lv_aload_n hx hb dL_law_1846 rfl (lv_at hl 0 rfl) ?_
        refine lv_iload_n hx hb dL_law_1847 rfl (lv_at hl 3 rfl) ?_
        refine lv_iconst (v := 2) hx hb dL_law_1848 (by decide) ?_
        refine lv_iadd hx hb dL_law_1849 ?_
        obtain ⟨g2, hm⟩ := gdE hm
        refine va_sld hx hb hX hbl hbA hw.2.2.1 (ix_in g2) dL_law_1850 ?_
        obtain ⟨g3, hm⟩ := gdE hm
        obtain ⟨r5, h4, er5, hm⟩ := bd2E hm
        have lh4 := mo_X0_negate er5
        have ph4 : h.1 ≤ h4.1 := lh4.1
        have qh4 : h.2.1 ≤ h4.2.1 := lh4.2.1
        have hmo := mo_L_law_1854 (mo_L_law_18 n18)  h4 x1 x2 x3 r5 _ hm
        have sh4 : h4.1 ≤ u9.1 := hmo.1
        have th4 : h4.2.1 ≤ u9.2.1 := hmo.2.1
        refine cg_calli hw lh4 (va_runV (As := [.int (xs (Int32.toNatClampNeg (x3 + (1 : Int32)))), .int (xs (Int32.toNatClampNeg (x3 + (2 : Int32))))]) (rest := []) ⟨hx, hb, hml, hown, hts⟩ (w_X0_negate l htl er5) (cw_X0_negate hts q1499 ⟨Nat.le_of_ble_eq_true rfl, Nat.le_of_ble_eq_true rfl⟩) (cg_preV C hw g3 rfl _) rfl rfl hl.1 rfl (lv_room (Nat.le_of_ble_eq_true rfl)) dL_law_1851 ⟨show cc + (h4.1 - h.1) ≤ 601024 by omega, show ss + (h4.2.1 - h.2.1) ≤ 7293034 by omega⟩) (fun H locs hw => ?_)
        exact hB1854 h4 x1 x2 x3 r5 _ _ _ _ _ hm hw (by omega) (by omega) (lv_sub hl [0, 1, 2, 3] rfl)
      have hB1897 : ∀ (h : CH) (x1 : Nat) (x2 : Nat) (x3 : Int32) (y0 : Int32) (cc ss : Nat) (H : Heap) (locs : List Loc) (ls : Array Slot), m_L_law_1897 f xs L (m_L_law_18 f xs L n18) h x1 x2 x3 y0 = some (1, u9) → CW D dA A s h H locs → cc + u.1 = h.1 → ss + u.2.1 = h.2.1 → lv_has ls 4 [(0, .ref b), (1, .ref x1), (2, .ref x2), (3, .int x3)] → W p l e room_1 s m #[Value.ref b] below meth c H locs cc ss QQ (F0 m 1897 ls [.int y0]) := by
        intro h x1 x2 x3 y0 cc ss H locs ls hm hw hcc hss hl
        have hmo := mo_L_law_1897 (mo_L_law_18 n18) h x1 x2 x3 y0 _ hm
        have sb_ : h.1 ≤ u9.1 := hmo.1
        have tb_ : h.2.1 ≤ u9.2.1 := hmo.2.1
        rw [m_L_law_1897] at hm
        refine lv_aload_n hx hb dL_law_1897 rfl (lv_at hl 2 rfl) ?_
        refine lv_aload_n hx hb dL_law_1898 rfl (lv_at hl 0 rfl) ?_
        refine lv_iload_n hx hb dL_law_1899 rfl (lv_at hl 3 rfl) ?_
        refine lv_iconst (v := 1) hx hb dL_law_1900 (by decide) ?_
        refine lv_iadd hx hb dL_law_1901 ?_
        obtain ⟨g1, hm⟩ := gdE hm
        refine va_sld hx hb hX hbl hbA hw.2.2.1 (ix_in g1) dL_law_1902 ?_
        refine lv_aload_n hx hb dL_law_1903 rfl (lv_at hl 0 rfl) ?_
        refine lv_iload_n hx hb dL_law_1904 rfl (lv_at hl 3 rfl) ?_
        refine lv_iconst (v := 2) hx hb dL_law_1905 (by decide) ?_
        refine lv_iadd hx hb dL_law_1906 ?_
        obtain ⟨g2, hm⟩ := gdE hm
        refine va_sld hx hb hX hbl hbA hw.2.2.1 (ix_in g2) dL_law_1907 ?_
        refine lv_aload_n hx hb dL_law_1908 rfl (lv_at hl 0 rfl) ?_
        refine lv_iload_n hx hb dL_law_1909 rfl (lv_at hl 3 rfl) ?_
        refine lv_iconst (v := 3) hx hb dL_law_1910 (by decide) ?_
        refine lv_iadd hx hb dL_law_1911 ?_
        obtain ⟨g3, hm⟩ := gdE hm
        refine va_sld hx hb hX hbl hbA hw.2.2.1 (ix_in g3) dL_law_1912 ?_
        refine lv_aload_n hx hb dL_law_1913 rfl (lv_at hl 0 rfl) ?_
        refine lv_iload_n hx hb dL_law_1914 rfl (lv_at hl 3 rfl) ?_
        refine lv_iconst (v := 4) hx hb dL_law_1915 (by decide) ?_
        refine lv_iadd hx hb dL_law_1916 ?_
        obtain ⟨g4, hm⟩ := gdE hm
        refine va_sld hx hb hX hbl hbA hw.2.2.1 (ix_in g4) dL_law_1917 ?_
        obtain ⟨r6, h5, er6, hm⟩ := bd2E hm
        refine cg_tci C hw er6 (show cc + s.heap.size = h.1 by rw [hs0]; omega) (fun _ hk hm9 => va_runV (As := [.int (xs (Int32.toNatClampNeg (x3 + (1 : Int32)))), .int (xs (Int32.toNatClampNeg (x3 + (2 : Int32)))), .int (xs (Int32.toNatClampNeg (x3 + (3 : Int32)))), .int (xs (Int32.toNatClampNeg (x3 + (4 : Int32))))]) (rest := [.int y0]) ⟨hx, hb, hml, hown, hts⟩ (w_X3_put l hm9) (cw_X3_put hts q2168 ⟨Nat.le_of_ble_eq_true rfl, Nat.le_of_ble_eq_true rfl⟩) (tb_pre C hw hk _) rfl rfl hl.1 rfl (lv_room (Nat.le_of_ble_eq_true rfl)) dL_law_1918 ⟨show cc + 0 ≤ 601024 by omega, show ss + 0 ≤ 7293034 by omega⟩) (fun H locs hw => ?_)
        have zh5 := tcr_sz er6
        refine lv_icmp_eq (tgt := 1975) hx hb dL_law_1921 (by decide) (fun c7 => ?_) (fun c7 => ?_)
        · have hm := ifT hm c7
          exact hB1975 h5 x1 x2 x3 _ _ _ _ _ hm hw (by omega) (by omega) (lv_sub hl [0, 1, 2, 3] rfl)
        · have hm := ifF hm c7
          exact hB1924 h5 _ _ _ _ _ hm hw (by omega) (by omega) (lv_sub hl [] rfl)
      have hB1873 : ∀ (h : CH) (x1 : Nat) (x2 : Nat) (x3 : Int32) (cc ss : Nat) (H : Heap) (locs : List Loc) (ls : Array Slot), m_L_law_1873 f xs L (m_L_law_18 f xs L n18) h x1 x2 x3 = some (1, u9) → CW D dA A s h H locs → cc + u.1 = h.1 → ss + u.2.1 = h.2.1 → lv_has ls 4 [(0, .ref b), (1, .ref x1), (2, .ref x2), (3, .int x3)] → W p l e room_1 s m #[Value.ref b] below meth c H locs cc ss QQ (F0 m 1873 ls []) := by
        intro h x1 x2 x3 cc ss H locs ls hm hw hcc hss hl
        have hmo := mo_L_law_1873 (mo_L_law_18 n18) h x1 x2 x3 _ hm
        have sb_ : h.1 ≤ u9.1 := hmo.1
        have tb_ : h.2.1 ≤ u9.2.1 := hmo.2.1
        rw [m_L_law_1873] at hm
        refine lv_aload_n hx hb dL_law_1873 rfl (lv_at hl 1 rfl) ?_
        refine lv_aload_n hx hb dL_law_1874 rfl (lv_at hl 0 rfl) ?_
        refine lv_iload_n hx hb dL_law_1875 rfl (lv_at hl 3 rfl) ?_
        refine lv_iconst (v := 1) hx hb dL_law_1876 (by decide) ?_
        refine lv_iadd hx hb dL_law_1877 ?_
        obtain ⟨g1, hm⟩ := gdE hm
        refine va_sld hx hb hX hbl hbA hw.2.2.1 (ix_in g1) dL_law_1878 ?_
        refine lv_aload_n hx hb dL_law_1879 rfl (lv_at hl 0 rfl) ?_
        refine lv_iload_n hx hb dL_law_1880 rfl (lv_at hl 3 rfl) ?_
        refine lv_iconst (v := 2) hx hb dL_law_1881 (by decide) ?_
        refine lv_iadd hx hb dL_law_1882 ?_
        obtain ⟨g2, hm⟩ := gdE hm
        refine va_sld hx hb hX hbl hbA hw.2.2.1 (ix_in g2) dL_law_1883 ?_
        refine lv_aload_n hx hb dL_law_1884 rfl (lv_at hl 0 rfl) ?_
        refine lv_iload_n hx hb dL_law_1885 rfl (lv_at hl 3 rfl) ?_
        refine lv_iconst (v := 3) hx hb dL_law_1886 (by decide) ?_
        refine lv_iadd hx hb dL_law_1887 ?_
        obtain ⟨g3, hm⟩ := gdE hm
        refine va_sld hx hb hX hbl hbA hw.2.2.1 (ix_in g3) dL_law_1888 ?_
        refine lv_aload_n hx hb dL_law_1889 rfl (lv_at hl 0 rfl) ?_
        refine lv_iload_n hx hb dL_law_1890 rfl (lv_at hl 3 rfl) ?_
        refine lv_iconst (v := 4) hx hb dL_law_1891 (by decide) ?_
        refine lv_iadd hx hb dL_law_1892 ?_
        obtain ⟨g4, hm⟩ := gdE hm
        refine va_sld hx hb hX hbl hbA hw.2.2.1 (ix_in g4) dL_law_1893 ?_
        obtain ⟨g5, hm⟩ := gdE hm
        rcases bxE hm with ⟨r7, h6, eh6, hm⟩ | ⟨q8, h6, eh6, hm⟩
        · have lh6 := mo_X0_put eh6
          have ph6 : h.1 ≤ h6.1 := lh6.1
          have qh6 : h.2.1 ≤ h6.2.1 := lh6.2.1
          have hmo := mo_L_law_1897 (mo_L_law_18 n18)  h6 x1 x2 x3 r7 _ hm
          have sh6 : h6.1 ≤ u9.1 := hmo.1
          have th6 : h6.2.1 ≤ u9.2.1 := hmo.2.1
          refine cx_calli hw lh6 (vy_runVX (As := [.int (xs (Int32.toNatClampNeg (x3 + (1 : Int32)))), .int (xs (Int32.toNatClampNeg (x3 + (2 : Int32)))), .int (xs (Int32.toNatClampNeg (x3 + (3 : Int32)))), .int (xs (Int32.toNatClampNeg (x3 + (4 : Int32))))]) (rest := []) ⟨hx, hb, hml, hown, hts⟩ (w_X0_put l htl eh6) (cw_X0_put hts q1503 ⟨Nat.le_of_ble_eq_true rfl, Nat.le_of_ble_eq_true rfl⟩) (cg_preV C hw g5 rfl _) rfl rfl hl.1 rfl (lv_room (Nat.le_of_ble_eq_true rfl)) dL_law_1894 ⟨show cc + (h6.1 - h.1) ≤ 601024 by omega, show ss + (h6.2.1 - h.2.1) ≤ 7293034 by omega⟩) (fun H locs hw => ?_)
          exact hB1897 h6 x1 x2 x3 r7 _ _ _ _ _ hm hw (by omega) (by omega) (lv_sub hl [0, 1, 2, 3] rfl)
        · exact noE hm
      have hB1935 : ∀ (h : CH) (x1 : Nat) (x2 : Nat) (x3 : Int32) (y0 : Int32) (cc ss : Nat) (H : Heap) (locs : List Loc) (ls : Array Slot), m_L_law_1935 f xs L (m_L_law_18 f xs L n18) h x1 x2 x3 y0 = some (1, u9) → CW D dA A s h H locs → cc + u.1 = h.1 → ss + u.2.1 = h.2.1 → lv_has ls 4 [(0, .ref b), (1, .ref x1), (2, .ref x2), (3, .int x3)] → W p l e room_1 s m #[Value.ref b] below meth c H locs cc ss QQ (F0 m 1935 ls [.int y0]) := by
        intro h x1 x2 x3 y0 cc ss H locs ls hm hw hcc hss hl
        have hmo := mo_L_law_1935 (mo_L_law_18 n18) h x1 x2 x3 y0 _ hm
        have sb_ : h.1 ≤ u9.1 := hmo.1
        have tb_ : h.2.1 ≤ u9.2.1 := hmo.2.1
        rw [m_L_law_1935] at hm
        refine lv_aload_n hx hb dL_law_1935 rfl (lv_at hl 2 rfl) ?_
        refine lv_aload_n hx hb dL_law_1936 rfl (lv_at hl 0 rfl) ?_
        refine lv_iload_n hx hb dL_law_1937 rfl (lv_at hl 3 rfl) ?_
        refine lv_iconst (v := 1) hx hb dL_law_1938 (by decide) ?_
        refine lv_iadd hx hb dL_law_1939 ?_
        obtain ⟨g1, hm⟩ := gdE hm
        refine va_sld hx hb hX hbl hbA hw.2.2.1 (ix_in g1) dL_law_1940 ?_
        obtain ⟨r3, h2, er3, hm⟩ := bd2E hm
        refine cg_tci C hw er3 (show cc + s.heap.size = h.1 by rw [hs0]; omega) (fun _ hk hm9 => va_runV (As := [.int (xs (Int32.toNatClampNeg (x3 + (1 : Int32))))]) (rest := [.int y0]) ⟨hx, hb, hml, hown, hts⟩ (w_X3_why l hm9) (cw_X3_why hts q2174 ⟨Nat.le_of_ble_eq_true rfl, Nat.le_of_ble_eq_true rfl⟩) (tb_pre C hw hk _) rfl rfl hl.1 rfl (lv_room (Nat.le_of_ble_eq_true rfl)) dL_law_1941 ⟨show cc + 0 ≤ 601024 by omega, show ss + 0 ≤ 7293034 by omega⟩) (fun H locs hw => ?_)
        have zh2 := tcr_sz er3
        refine lv_icmp_eq (tgt := 1975) hx hb dL_law_1944 (by decide) (fun c4 => ?_) (fun c4 => ?_)
        · have hm := ifT hm c4
          exact hB1975 h2 x1 x2 x3 _ _ _ _ _ hm hw (by omega) (by omega) (lv_sub hl [0, 1, 2, 3] rfl)
        · have hm := ifF hm c4
          exact hB1947 h2 _ _ _ _ _ hm hw (by omega) (by omega) (lv_sub hl [] rfl)
      have hB1926 : ∀ (h : CH) (x1 : Nat) (x2 : Nat) (x3 : Int32) (cc ss : Nat) (H : Heap) (locs : List Loc) (ls : Array Slot), m_L_law_1926 f xs L (m_L_law_18 f xs L n18) h x1 x2 x3 = some (1, u9) → CW D dA A s h H locs → cc + u.1 = h.1 → ss + u.2.1 = h.2.1 → lv_has ls 4 [(0, .ref b), (1, .ref x1), (2, .ref x2), (3, .int x3)] → W p l e room_1 s m #[Value.ref b] below meth c H locs cc ss QQ (F0 m 1926 ls []) := by
        intro h x1 x2 x3 cc ss H locs ls hm hw hcc hss hl
        have hmo := mo_L_law_1926 (mo_L_law_18 n18) h x1 x2 x3 _ hm
        have sb_ : h.1 ≤ u9.1 := hmo.1
        have tb_ : h.2.1 ≤ u9.2.1 := hmo.2.1
        rw [m_L_law_1926] at hm
        refine lv_aload_n hx hb dL_law_1926 rfl (lv_at hl 1 rfl) ?_
        refine lv_aload_n hx hb dL_law_1927 rfl (lv_at hl 0 rfl) ?_
        refine lv_iload_n hx hb dL_law_1928 rfl (lv_at hl 3 rfl) ?_
        refine lv_iconst (v := 1) hx hb dL_law_1929 (by decide) ?_
        refine lv_iadd hx hb dL_law_1930 ?_
        obtain ⟨g1, hm⟩ := gdE hm
        refine va_sld hx hb hX hbl hbA hw.2.2.1 (ix_in g1) dL_law_1931 ?_
        obtain ⟨g2, hm⟩ := gdE hm
        obtain ⟨r4, h3, er4, hm⟩ := bd2E hm
        have lh3 := mo_X0_why er4
        have ph3 : h.1 ≤ h3.1 := lh3.1
        have qh3 : h.2.1 ≤ h3.2.1 := lh3.2.1
        have hmo := mo_L_law_1935 (mo_L_law_18 n18)  h3 x1 x2 x3 r4 _ hm
        have sh3 : h3.1 ≤ u9.1 := hmo.1
        have th3 : h3.2.1 ≤ u9.2.1 := hmo.2.1
        refine cg_calli hw lh3 (va_runV (As := [.int (xs (Int32.toNatClampNeg (x3 + (1 : Int32))))]) (rest := []) ⟨hx, hb, hml, hown, hts⟩ (w_X0_why l er4) (cw_X0_why hts q1509 ⟨Nat.le_of_ble_eq_true rfl, Nat.le_of_ble_eq_true rfl⟩) (cg_preV C hw g2 rfl _) rfl rfl hl.1 rfl (lv_room (Nat.le_of_ble_eq_true rfl)) dL_law_1932 ⟨show cc + (h3.1 - h.1) ≤ 601024 by omega, show ss + (h3.2.1 - h.2.1) ≤ 7293034 by omega⟩) (fun H locs hw => ?_)
        exact hB1935 h3 x1 x2 x3 r4 _ _ _ _ _ hm hw (by omega) (by omega) (lv_sub hl [0, 1, 2, 3] rfl)
      have hB1953 : ∀ (h : CH) (x1 : Nat) (x2 : Nat) (x3 : Int32) (y0 : Int32) (cc ss : Nat) (H : Heap) (locs : List Loc) (ls : Array Slot), m_L_law_1953 f xs L (m_L_law_18 f xs L n18) h x1 x2 x3 y0 = some (1, u9) → CW D dA A s h H locs → cc + u.1 = h.1 → ss + u.2.1 = h.2.1 → lv_has ls 4 [(0, .ref b), (1, .ref x1), (2, .ref x2), (3, .int x3)] → W p l e room_1 s m #[Value.ref b] below meth c H locs cc ss QQ (F0 m 1953 ls [.int y0]) := by
        intro h x1 x2 x3 y0 cc ss H locs ls hm hw hcc hss hl
        have hmo := mo_L_law_1953 (mo_L_law_18 n18) h x1 x2 x3 y0 _ hm
        have sb_ : h.1 ≤ u9.1 := hmo.1
        have tb_ : h.2.1 ≤ u9.2.1 := hmo.2.1
        rw [m_L_law_1953] at hm
        refine lv_aload_n hx hb dL_law_1953 rfl (lv_at hl 2 rfl) ?_
        obtain ⟨r2, h1, er2, hm⟩ := bd2E hm
        refine cg_tci C hw er2 (show cc + s.heap.size = h.1 by rw [hs0]; omega) (fun _ hk hm9 => va_runV (As := []) (rest := [.int y0]) ⟨hx, hb, hml, hown, hts⟩ (w_X3_undo l hm9) (cw_X3_undo hts q2178 ⟨Nat.le_of_ble_eq_true rfl, Nat.le_of_ble_eq_true rfl⟩) (tb_pre C hw hk _) rfl rfl hl.1 rfl (lv_room (Nat.le_of_ble_eq_true rfl)) dL_law_1954 ⟨show cc + 0 ≤ 601024 by omega, show ss + 0 ≤ 7293034 by omega⟩) (fun H locs hw => ?_)
        have zh1 := tcr_sz er2
        refine lv_icmp_eq (tgt := 1975) hx hb dL_law_1957 (by decide) (fun c3 => ?_) (fun c3 => ?_)
        · have hm := ifT hm c3
          exact hB1975 h1 x1 x2 x3 _ _ _ _ _ hm hw (by omega) (by omega) (lv_sub hl [0, 1, 2, 3] rfl)
        · have hm := ifF hm c3
          exact hB1960 h1 _ _ _ _ _ hm hw (by omega) (by omega) (lv_sub hl [] rfl)
      have hB1949 : ∀ (h : CH) (x1 : Nat) (x2 : Nat) (x3 : Int32) (cc ss : Nat) (H : Heap) (locs : List Loc) (ls : Array Slot), m_L_law_1949 f xs L (m_L_law_18 f xs L n18) h x1 x2 x3 = some (1, u9) → CW D dA A s h H locs → cc + u.1 = h.1 → ss + u.2.1 = h.2.1 → lv_has ls 4 [(0, .ref b), (1, .ref x1), (2, .ref x2), (3, .int x3)] → W p l e room_1 s m #[Value.ref b] below meth c H locs cc ss QQ (F0 m 1949 ls []) := by
        intro h x1 x2 x3 cc ss H locs ls hm hw hcc hss hl
        have hmo := mo_L_law_1949 (mo_L_law_18 n18) h x1 x2 x3 _ hm
        have sb_ : h.1 ≤ u9.1 := hmo.1
        have tb_ : h.2.1 ≤ u9.2.1 := hmo.2.1
        rw [m_L_law_1949] at hm
        refine lv_aload_n hx hb dL_law_1949 rfl (lv_at hl 1 rfl) ?_
        obtain ⟨g1, hm⟩ := gdE hm
        obtain ⟨r3, h2, er3, hm⟩ := bd2E hm
        have lh2 := mo_X0_undo er3
        have ph2 : h.1 ≤ h2.1 := lh2.1
        have qh2 : h.2.1 ≤ h2.2.1 := lh2.2.1
        have hmo := mo_L_law_1953 (mo_L_law_18 n18)  h2 x1 x2 x3 r3 _ hm
        have sh2 : h2.1 ≤ u9.1 := hmo.1
        have th2 : h2.2.1 ≤ u9.2.1 := hmo.2.1
        refine cg_calli hw lh2 (va_runV (As := []) (rest := []) ⟨hx, hb, hml, hown, hts⟩ (w_X0_undo l er3) (cw_X0_undo hts q1536 ⟨Nat.le_of_ble_eq_true rfl, Nat.le_of_ble_eq_true rfl⟩) (cg_preV C hw g1 rfl _) rfl rfl hl.1 rfl (lv_room (Nat.le_of_ble_eq_true rfl)) dL_law_1950 ⟨show cc + (h2.1 - h.1) ≤ 601024 by omega, show ss + (h2.2.1 - h.2.1) ≤ 7293034 by omega⟩) (fun H locs hw => ?_)
        exact hB1953 h2 x1 x2 x3 r3 _ _ _ _ _ hm hw (by omega) (by omega) (lv_sub hl [0, 1, 2, 3] rfl)
      have hB1966 : ∀ (h : CH) (x1 : Nat) (x2 : Nat) (x3 : Int32) (y0 : Int32) (cc ss : Nat) (H : Heap) (locs : List Loc) (ls : Array Slot), m_L_law_1966 f xs L (m_L_law_18 f xs L n18) h x1 x2 x3 y0 = some (1, u9) → CW D dA A s h H locs → cc + u.1 = h.1 → ss + u.2.1 = h.2.1 → lv_has ls 4 [(0, .ref b), (1, .ref x1), (2, .ref x2), (3, .int x3)] → W p l e room_1 s m #[Value.ref b] below meth c H locs cc ss QQ (F0 m 1966 ls [.int y0]) := by
        intro h x1 x2 x3 y0 cc ss H locs ls hm hw hcc hss hl
        have hmo := mo_L_law_1966 (mo_L_law_18 n18) h x1 x2 x3 y0 _ hm
        have sb_ : h.1 ≤ u9.1 := hmo.1
        have tb_ : h.2.1 ≤ u9.2.1 := hmo.2.1
        rw [m_L_law_1966] at hm
        refine lv_aload_n hx hb dL_law_1966 rfl (lv_at hl 2 rfl) ?_
        obtain ⟨r2, h1, er2, hm⟩ := bd2E hm
        refine cg_tci C hw er2 (show cc + s.heap.size = h.1 by rw [hs0]; omega) (fun _ hk hm9 => va_runV (As := []) (rest := [.int y0]) ⟨hx, hb, hml, hown, hts⟩ (w_X3_anew l hm9) (cw_X3_anew hts q2182 ⟨Nat.le_of_ble_eq_true rfl, Nat.le_of_ble_eq_true rfl⟩) (tb_pre C hw hk _) rfl rfl hl.1 rfl (lv_room (Nat.le_of_ble_eq_true rfl)) dL_law_1967 ⟨show cc + 0 ≤ 601024 by omega, show ss + 0 ≤ 7293034 by omega⟩) (fun H locs hw => ?_)
        have zh1 := tcr_sz er2
        refine lv_icmp_eq (tgt := 1975) hx hb dL_law_1970 (by decide) (fun c3 => ?_) (fun c3 => ?_)
        · have hm := ifT hm c3
          exact hB1975 h1 x1 x2 x3 _ _ _ _ _ hm hw (by omega) (by omega) (lv_sub hl [0, 1, 2, 3] rfl)
        · have hm := ifF hm c3
          exact hB1973 h1 _ _ _ _ _ hm hw (by omega) (by omega) (lv_sub hl [] rfl)
      have hB1962 : ∀ (h : CH) (x1 : Nat) (x2 : Nat) (x3 : Int32) (cc ss : Nat) (H : Heap) (locs : List Loc) (ls : Array Slot), m_L_law_1962 f xs L (m_L_law_18 f xs L n18) h x1 x2 x3 = some (1, u9) → CW D dA A s h H locs → cc + u.1 = h.1 → ss + u.2.1 = h.2.1 → lv_has ls 4 [(0, .ref b), (1, .ref x1), (2, .ref x2), (3, .int x3)] → W p l e room_1 s m #[Value.ref b] below meth c H locs cc ss QQ (F0 m 1962 ls []) := by
        intro h x1 x2 x3 cc ss H locs ls hm hw hcc hss hl
        have hmo := mo_L_law_1962 (mo_L_law_18 n18) h x1 x2 x3 _ hm
        have sb_ : h.1 ≤ u9.1 := hmo.1
        have tb_ : h.2.1 ≤ u9.2.1 := hmo.2.1
        rw [m_L_law_1962] at hm
        refine lv_aload_n hx hb dL_law_1962 rfl (lv_at hl 1 rfl) ?_
        obtain ⟨g1, hm⟩ := gdE hm
        obtain ⟨r3, h2, er3, hm⟩ := bd2E hm
        have lh2 := mo_X0_anew er3
        have ph2 : h.1 ≤ h2.1 := lh2.1
        have qh2 : h.2.1 ≤ h2.2.1 := lh2.2.1
        have hmo := mo_L_law_1966 (mo_L_law_18 n18)  h2 x1 x2 x3 r3 _ hm
        have sh2 : h2.1 ≤ u9.1 := hmo.1
        have th2 : h2.2.1 ≤ u9.2.1 := hmo.2.1
        refine cg_calli hw lh2 (va_runV (As := []) (rest := []) ⟨hx, hb, hml, hown, hts⟩ (w_X0_anew l er3) (cw_X0_anew hts q1556 ⟨Nat.le_of_ble_eq_true rfl, Nat.le_of_ble_eq_true rfl⟩) (cg_preV C hw g1 rfl _) rfl rfl hl.1 rfl (lv_room (Nat.le_of_ble_eq_true rfl)) dL_law_1963 ⟨show cc + (h2.1 - h.1) ≤ 601024 by omega, show ss + (h2.2.1 - h.2.1) ≤ 7293034 by omega⟩) (fun H locs hw => ?_)
        exact hB1966 h2 x1 x2 x3 r3 _ _ _ _ _ hm hw (by omega) (by omega) (lv_sub hl [0, 1, 2, 3] rfl)
      intro h x1 x2 x3 cc ss H locs ls hm hw hcc hss hl
      have hmo := mo_L_law_18  (n18 + 1) h x1 x2 x3 _ hm
      have sb_ : h.1 ≤ u9.1 := hmo.1
      have tb_ : h.2.1 ≤ u9.2.1 := hmo.2.1
      rw [m_L_law_18] at hm
      refine lv_iload_n hx hb dL_law_18 rfl (lv_at hl 3 rfl) ?_
      refine lv_aload_n hx hb dL_law_19 rfl (lv_at hl 0 rfl) ?_
      refine va_slen hx hb hX hbl hbA hw.2.2.1 dL_law_20 ?_
      refine lv_bipush (v := 7) hx hb dL_law_21 (by decide) ?_
      refine lv_isub hx hb dL_law_23 ?_
      refine lv_icmp_gt (tgt := 1981) hx hb dL_law_24 (by decide) (fun c1 => ?_) (fun c1 => ?_)
      · have hm := ifT hm c1
        exact hB1981 h _ _ _ _ _ hm hw (by omega) (by omega) (lv_sub hl [] rfl)
      · have hm := ifF hm c1
        refine lv_aload_n hx hb dL_law_27 rfl (lv_at hl 0 rfl) ?_
        refine lv_iload_n hx hb dL_law_28 rfl (lv_at hl 3 rfl) ?_
        obtain ⟨g2, hm⟩ := gdE hm
        refine va_sld hx hb hX hbl hbA hw.2.2.1 (ix_in g2) dL_law_29 ?_
        refine lv_bipush (v := 63) hx hb dL_law_30 (by decide) ?_
        refine lv_iand hx hb dL_law_32 ?_
        by_cases c3 : ((xs (Int32.toNatClampNeg x3)) &&& (63 : Int32)) = (0 : Int32)
        · have hm := ifT hm c3
          rw [c3]
          refine lv_tableIn (tgt := 224) (off := 191) hx hb dL_law_33 (by decide) (by decide) (by decide) (by decide) ?_
          exact hB224 h x1 x2 x3 _ _ _ _ _ hm hw (by omega) (by omega) (lv_sub hl [0, 1, 2, 3] rfl)
        · have hm := ifF hm c3
          by_cases c4 : ((xs (Int32.toNatClampNeg x3)) &&& (63 : Int32)) = (1 : Int32)
          · have hm := ifT hm c4
            rw [c4]
            refine lv_tableIn (tgt := 287) (off := 254) hx hb dL_law_33 (by decide) (by decide) (by decide) (by decide) ?_
            exact hB287 h x1 x2 x3 _ _ _ _ _ hm hw (by omega) (by omega) (lv_sub hl [0, 1, 2, 3] rfl)
          · have hm := ifF hm c4
            by_cases c5 : ((xs (Int32.toNatClampNeg x3)) &&& (63 : Int32)) = (2 : Int32)
            · have hm := ifT hm c5
              rw [c5]
              refine lv_tableIn (tgt := 310) (off := 277) hx hb dL_law_33 (by decide) (by decide) (by decide) (by decide) ?_
              exact hB310 h x1 x2 x3 _ _ _ _ _ hm hw (by omega) (by omega) (lv_sub hl [0, 1, 2, 3] rfl)
            · have hm := ifF hm c5
              by_cases c6 : ((xs (Int32.toNatClampNeg x3)) &&& (63 : Int32)) = (3 : Int32)
              · have hm := ifT hm c6
                rw [c6]
                refine lv_tableIn (tgt := 323) (off := 290) hx hb dL_law_33 (by decide) (by decide) (by decide) (by decide) ?_
                exact hB323 h x1 x2 x3 _ _ _ _ _ hm hw (by omega) (by omega) (lv_sub hl [0, 1, 2, 3] rfl)
              · have hm := ifF hm c6
                by_cases c7 : ((xs (Int32.toNatClampNeg x3)) &&& (63 : Int32)) = (4 : Int32)
                · have hm := ifT hm c7
                  rw [c7]
                  refine lv_tableIn (tgt := 346) (off := 313) hx hb dL_law_33 (by decide) (by decide) (by decide) (by decide) ?_
                  exact hB346 h x1 x2 x3 _ _ _ _ _ hm hw (by omega) (by omega) (lv_sub hl [0, 1, 2, 3] rfl)
                · have hm := ifF hm c7
                  by_cases c8 : ((xs (Int32.toNatClampNeg x3)) &&& (63 : Int32)) = (5 : Int32)
                  · have hm := ifT hm c8
                    rw [c8]
                    refine lv_tableIn (tgt := 369) (off := 336) hx hb dL_law_33 (by decide) (by decide) (by decide) (by decide) ?_
                    exact hB369 h x1 x2 x3 _ _ _ _ _ hm hw (by omega) (by omega) (lv_sub hl [0, 1, 2, 3] rfl)
                  · have hm := ifF hm c8
                    by_cases c9 : ((xs (Int32.toNatClampNeg x3)) &&& (63 : Int32)) = (6 : Int32)
                    · have hm := ifT hm c9
                      rw [c9]
                      refine lv_tableIn (tgt := 412) (off := 379) hx hb dL_law_33 (by decide) (by decide) (by decide) (by decide) ?_
                      exact hB412 h x1 x2 x3 _ _ _ _ _ hm hw (by omega) (by omega) (lv_sub hl [0, 1, 2, 3] rfl)
                    · have hm := ifF hm c9
                      by_cases c10 : ((xs (Int32.toNatClampNeg x3)) &&& (63 : Int32)) = (7 : Int32)
                      · have hm := ifT hm c10
                        rw [c10]
                        refine lv_tableIn (tgt := 435) (off := 402) hx hb dL_law_33 (by decide) (by decide) (by decide) (by decide) ?_
                        exact hB435 h x1 x2 x3 _ _ _ _ _ hm hw (by omega) (by omega) (lv_sub hl [0, 1, 2, 3] rfl)
                      · have hm := ifF hm c10
                        by_cases c11 : ((xs (Int32.toNatClampNeg x3)) &&& (63 : Int32)) = (8 : Int32)
                        · have hm := ifT hm c11
                          rw [c11]
                          refine lv_tableIn (tgt := 479) (off := 446) hx hb dL_law_33 (by decide) (by decide) (by decide) (by decide) ?_
                          exact hB479 h x1 x2 x3 _ _ _ _ _ hm hw (by omega) (by omega) (lv_sub hl [0, 1, 2, 3] rfl)
                        · have hm := ifF hm c11
                          by_cases c12 : ((xs (Int32.toNatClampNeg x3)) &&& (63 : Int32)) = (9 : Int32)
                          · have hm := ifT hm c12
                            rw [c12]
                            refine lv_tableIn (tgt := 502) (off := 469) hx hb dL_law_33 (by decide) (by decide) (by decide) (by decide) ?_
                            exact hB502 h x1 x2 x3 _ _ _ _ _ hm hw (by omega) (by omega) (lv_sub hl [0, 1, 2, 3] rfl)
                          · have hm := ifF hm c12
                            by_cases c13 : ((xs (Int32.toNatClampNeg x3)) &&& (63 : Int32)) = (10 : Int32)
                            · have hm := ifT hm c13
                              rw [c13]
                              refine lv_tableIn (tgt := 545) (off := 512) hx hb dL_law_33 (by decide) (by decide) (by decide) (by decide) ?_
                              exact hB545 h x1 x2 x3 _ _ _ _ _ hm hw (by omega) (by omega) (lv_sub hl [0, 1, 2, 3] rfl)
                            · have hm := ifF hm c13
                              by_cases c14 : ((xs (Int32.toNatClampNeg x3)) &&& (63 : Int32)) = (11 : Int32)
                              · have hm := ifT hm c14
                                rw [c14]
                                refine lv_tableIn (tgt := 579) (off := 546) hx hb dL_law_33 (by decide) (by decide) (by decide) (by decide) ?_
                                exact hB579 h x1 x2 x3 _ _ _ _ _ hm hw (by omega) (by omega) (lv_sub hl [0, 1, 2, 3] rfl)
                              · have hm := ifF hm c14
                                by_cases c15 : ((xs (Int32.toNatClampNeg x3)) &&& (63 : Int32)) = (12 : Int32)
                                · have hm := ifT hm c15
                                  rw [c15]
                                  refine lv_tableIn (tgt := 613) (off := 580) hx hb dL_law_33 (by decide) (by decide) (by decide) (by decide) ?_
                                  exact hB613 h x1 x2 x3 _ _ _ _ _ hm hw (by omega) (by omega) (lv_sub hl [0, 1, 2, 3] rfl)
                                · have hm := ifF hm c15
                                  by_cases c16 : ((xs (Int32.toNatClampNeg x3)) &&& (63 : Int32)) = (13 : Int32)
                                  · have hm := ifT hm c16
                                    rw [c16]
                                    refine lv_tableIn (tgt := 676) (off := 643) hx hb dL_law_33 (by decide) (by decide) (by decide) (by decide) ?_
                                    exact hB676 h x1 x2 x3 _ _ _ _ _ hm hw (by omega) (by omega) (lv_sub hl [0, 1, 2, 3] rfl)
                                  · have hm := ifF hm c16
                                    by_cases c17 : ((xs (Int32.toNatClampNeg x3)) &&& (63 : Int32)) = (14 : Int32)
                                    · have hm := ifT hm c17
                                      rw [c17]
                                      refine lv_tableIn (tgt := 709) (off := 676) hx hb dL_law_33 (by decide) (by decide) (by decide) (by decide) ?_
                                      exact hB709 h x1 x2 x3 _ _ _ _ _ hm hw (by omega) (by omega) (lv_sub hl [0, 1, 2, 3] rfl)
                                    · have hm := ifF hm c17
                                      by_cases c18 : ((xs (Int32.toNatClampNeg x3)) &&& (63 : Int32)) = (15 : Int32)
                                      · have hm := ifT hm c18
                                        rw [c18]
                                        refine lv_tableIn (tgt := 742) (off := 709) hx hb dL_law_33 (by decide) (by decide) (by decide) (by decide) ?_
                                        exact hB742 h x1 x2 x3 _ _ _ _ _ hm hw (by omega) (by omega) (lv_sub hl [0, 1, 2, 3] rfl)
                                      · have hm := ifF hm c18
                                        by_cases c19 : ((xs (Int32.toNatClampNeg x3)) &&& (63 : Int32)) = (16 : Int32)
                                        · have hm := ifT hm c19
                                          rw [c19]
                                          refine lv_tableIn (tgt := 796) (off := 763) hx hb dL_law_33 (by decide) (by decide) (by decide) (by decide) ?_
                                          exact hB796 h x1 x2 x3 _ _ _ _ _ hm hw (by omega) (by omega) (lv_sub hl [0, 1, 2, 3] rfl)
                                        · have hm := ifF hm c19
                                          by_cases c20 : ((xs (Int32.toNatClampNeg x3)) &&& (63 : Int32)) = (17 : Int32)
                                          · have hm := ifT hm c20
                                            rw [c20]
                                            refine lv_tableIn (tgt := 829) (off := 796) hx hb dL_law_33 (by decide) (by decide) (by decide) (by decide) ?_
                                            exact hB829 h x1 x2 x3 _ _ _ _ _ hm hw (by omega) (by omega) (lv_sub hl [0, 1, 2, 3] rfl)
                                          · have hm := ifF hm c20
                                            by_cases c21 : ((xs (Int32.toNatClampNeg x3)) &&& (63 : Int32)) = (18 : Int32)
                                            · have hm := ifT hm c21
                                              rw [c21]
                                              refine lv_tableIn (tgt := 883) (off := 850) hx hb dL_law_33 (by decide) (by decide) (by decide) (by decide) ?_
                                              exact hB883 h x1 x2 x3 _ _ _ _ _ hm hw (by omega) (by omega) (lv_sub hl [0, 1, 2, 3] rfl)
                                            · have hm := ifF hm c21
                                              by_cases c22 : ((xs (Int32.toNatClampNeg x3)) &&& (63 : Int32)) = (19 : Int32)
                                              · have hm := ifT hm c22
                                                rw [c22]
                                                refine lv_tableIn (tgt := 917) (off := 884) hx hb dL_law_33 (by decide) (by decide) (by decide) (by decide) ?_
                                                exact hB917 h x1 x2 x3 _ _ _ _ _ hm hw (by omega) (by omega) (lv_sub hl [0, 1, 2, 3] rfl)
                                              · have hm := ifF hm c22
                                                by_cases c23 : ((xs (Int32.toNatClampNeg x3)) &&& (63 : Int32)) = (20 : Int32)
                                                · have hm := ifT hm c23
                                                  rw [c23]
                                                  refine lv_tableIn (tgt := 961) (off := 928) hx hb dL_law_33 (by decide) (by decide) (by decide) (by decide) ?_
                                                  exact hB961 h x1 x2 x3 _ _ _ _ _ hm hw (by omega) (by omega) (lv_sub hl [0, 1, 2, 3] rfl)
                                                · have hm := ifF hm c23
                                                  by_cases c24 : ((xs (Int32.toNatClampNeg x3)) &&& (63 : Int32)) = (21 : Int32)
                                                  · have hm := ifT hm c24
                                                    rw [c24]
                                                    refine lv_tableIn (tgt := 1036) (off := 1003) hx hb dL_law_33 (by decide) (by decide) (by decide) (by decide) ?_
                                                    exact hB1036 h x1 x2 x3 _ _ _ _ _ hm hw (by omega) (by omega) (lv_sub hl [0, 1, 2, 3] rfl)
                                                  · have hm := ifF hm c24
                                                    by_cases c25 : ((xs (Int32.toNatClampNeg x3)) &&& (63 : Int32)) = (22 : Int32)
                                                    · have hm := ifT hm c25
                                                      rw [c25]
                                                      refine lv_tableIn (tgt := 1111) (off := 1078) hx hb dL_law_33 (by decide) (by decide) (by decide) (by decide) ?_
                                                      exact hB1111 h x1 x2 x3 _ _ _ _ _ hm hw (by omega) (by omega) (lv_sub hl [0, 1, 2, 3] rfl)
                                                    · have hm := ifF hm c25
                                                      by_cases c26 : ((xs (Int32.toNatClampNeg x3)) &&& (63 : Int32)) = (23 : Int32)
                                                      · have hm := ifT hm c26
                                                        rw [c26]
                                                        refine lv_tableIn (tgt := 1154) (off := 1121) hx hb dL_law_33 (by decide) (by decide) (by decide) (by decide) ?_
                                                        exact hB1154 h x1 x2 x3 _ _ _ _ _ hm hw (by omega) (by omega) (lv_sub hl [0, 1, 2, 3] rfl)
                                                      · have hm := ifF hm c26
                                                        by_cases c27 : ((xs (Int32.toNatClampNeg x3)) &&& (63 : Int32)) = (24 : Int32)
                                                        · have hm := ifT hm c27
                                                          rw [c27]
                                                          refine lv_tableIn (tgt := 1177) (off := 1144) hx hb dL_law_33 (by decide) (by decide) (by decide) (by decide) ?_
                                                          exact hB1177 h x1 x2 x3 _ _ _ _ _ hm hw (by omega) (by omega) (lv_sub hl [0, 1, 2, 3] rfl)
                                                        · have hm := ifF hm c27
                                                          by_cases c28 : ((xs (Int32.toNatClampNeg x3)) &&& (63 : Int32)) = (25 : Int32)
                                                          · have hm := ifT hm c28
                                                            rw [c28]
                                                            refine lv_tableIn (tgt := 1221) (off := 1188) hx hb dL_law_33 (by decide) (by decide) (by decide) (by decide) ?_
                                                            exact hB1221 h x1 x2 x3 _ _ _ _ _ hm hw (by omega) (by omega) (lv_sub hl [0, 1, 2, 3] rfl)
                                                          · have hm := ifF hm c28
                                                            by_cases c29 : ((xs (Int32.toNatClampNeg x3)) &&& (63 : Int32)) = (26 : Int32)
                                                            · have hm := ifT hm c29
                                                              rw [c29]
                                                              refine lv_tableIn (tgt := 1244) (off := 1211) hx hb dL_law_33 (by decide) (by decide) (by decide) (by decide) ?_
                                                              exact hB1244 h x1 x2 x3 _ _ _ _ _ hm hw (by omega) (by omega) (lv_sub hl [0, 1, 2, 3] rfl)
                                                            · have hm := ifF hm c29
                                                              by_cases c30 : ((xs (Int32.toNatClampNeg x3)) &&& (63 : Int32)) = (27 : Int32)
                                                              · have hm := ifT hm c30
                                                                rw [c30]
                                                                refine lv_tableIn (tgt := 1288) (off := 1255) hx hb dL_law_33 (by decide) (by decide) (by decide) (by decide) ?_
                                                                exact hB1288 h x1 x2 x3 _ _ _ _ _ hm hw (by omega) (by omega) (lv_sub hl [0, 1, 2, 3] rfl)
                                                              · have hm := ifF hm c30
                                                                by_cases c31 : ((xs (Int32.toNatClampNeg x3)) &&& (63 : Int32)) = (28 : Int32)
                                                                · have hm := ifT hm c31
                                                                  rw [c31]
                                                                  refine lv_tableIn (tgt := 1352) (off := 1319) hx hb dL_law_33 (by decide) (by decide) (by decide) (by decide) ?_
                                                                  exact hB1352 h x1 x2 x3 _ _ _ _ _ hm hw (by omega) (by omega) (lv_sub hl [0, 1, 2, 3] rfl)
                                                                · have hm := ifF hm c31
                                                                  by_cases c32 : ((xs (Int32.toNatClampNeg x3)) &&& (63 : Int32)) = (29 : Int32)
                                                                  · have hm := ifT hm c32
                                                                    rw [c32]
                                                                    refine lv_tableIn (tgt := 1416) (off := 1383) hx hb dL_law_33 (by decide) (by decide) (by decide) (by decide) ?_
                                                                    exact hB1416 h x1 x2 x3 _ _ _ _ _ hm hw (by omega) (by omega) (lv_sub hl [0, 1, 2, 3] rfl)
                                                                  · have hm := ifF hm c32
                                                                    by_cases c33 : ((xs (Int32.toNatClampNeg x3)) &&& (63 : Int32)) = (30 : Int32)
                                                                    · have hm := ifT hm c33
                                                                      rw [c33]
                                                                      refine lv_tableIn (tgt := 1480) (off := 1447) hx hb dL_law_33 (by decide) (by decide) (by decide) (by decide) ?_
                                                                      exact hB1480 h x1 x2 x3 _ _ _ _ _ hm hw (by omega) (by omega) (lv_sub hl [0, 1, 2, 3] rfl)
                                                                    · have hm := ifF hm c33
                                                                      by_cases c34 : ((xs (Int32.toNatClampNeg x3)) &&& (63 : Int32)) = (31 : Int32)
                                                                      · have hm := ifT hm c34
                                                                        rw [c34]
                                                                        refine lv_tableIn (tgt := 1513) (off := 1480) hx hb dL_law_33 (by decide) (by decide) (by decide) (by decide) ?_
                                                                        exact hB1513 h x1 x2 x3 _ _ _ _ _ hm hw (by omega) (by omega) (lv_sub hl [0, 1, 2, 3] rfl)
                                                                      · have hm := ifF hm c34
                                                                        by_cases c35 : ((xs (Int32.toNatClampNeg x3)) &&& (63 : Int32)) = (32 : Int32)
                                                                        · have hm := ifT hm c35
                                                                          rw [c35]
                                                                          refine lv_tableIn (tgt := 1546) (off := 1513) hx hb dL_law_33 (by decide) (by decide) (by decide) (by decide) ?_
                                                                          exact hB1546 h x1 x2 x3 _ _ _ _ _ hm hw (by omega) (by omega) (lv_sub hl [0, 1, 2, 3] rfl)
                                                                        · have hm := ifF hm c35
                                                                          by_cases c36 : ((xs (Int32.toNatClampNeg x3)) &&& (63 : Int32)) = (33 : Int32)
                                                                          · have hm := ifT hm c36
                                                                            rw [c36]
                                                                            refine lv_tableIn (tgt := 1622) (off := 1589) hx hb dL_law_33 (by decide) (by decide) (by decide) (by decide) ?_
                                                                            exact hB1622 h x1 x2 x3 _ _ _ _ _ hm hw (by omega) (by omega) (lv_sub hl [0, 1, 2, 3] rfl)
                                                                          · have hm := ifF hm c36
                                                                            by_cases c37 : ((xs (Int32.toNatClampNeg x3)) &&& (63 : Int32)) = (34 : Int32)
                                                                            · have hm := ifT hm c37
                                                                              rw [c37]
                                                                              refine lv_tableIn (tgt := 1655) (off := 1622) hx hb dL_law_33 (by decide) (by decide) (by decide) (by decide) ?_
                                                                              exact hB1655 h x1 x2 x3 _ _ _ _ _ hm hw (by omega) (by omega) (lv_sub hl [0, 1, 2, 3] rfl)
                                                                            · have hm := ifF hm c37
                                                                              by_cases c38 : ((xs (Int32.toNatClampNeg x3)) &&& (63 : Int32)) = (35 : Int32)
                                                                              · have hm := ifT hm c38
                                                                                rw [c38]
                                                                                refine lv_tableIn (tgt := 1688) (off := 1655) hx hb dL_law_33 (by decide) (by decide) (by decide) (by decide) ?_
                                                                                exact hB1688 h x1 x2 x3 _ _ _ _ _ hm hw (by omega) (by omega) (lv_sub hl [0, 1, 2, 3] rfl)
                                                                              · have hm := ifF hm c38
                                                                                by_cases c39 : ((xs (Int32.toNatClampNeg x3)) &&& (63 : Int32)) = (36 : Int32)
                                                                                · have hm := ifT hm c39
                                                                                  rw [c39]
                                                                                  refine lv_tableIn (tgt := 1711) (off := 1678) hx hb dL_law_33 (by decide) (by decide) (by decide) (by decide) ?_
                                                                                  exact hB1711 h x1 x2 x3 _ _ _ _ _ hm hw (by omega) (by omega) (lv_sub hl [0, 1, 2, 3] rfl)
                                                                                · have hm := ifF hm c39
                                                                                  by_cases c40 : ((xs (Int32.toNatClampNeg x3)) &&& (63 : Int32)) = (37 : Int32)
                                                                                  · have hm := ifT hm c40
                                                                                    rw [c40]
                                                                                    refine lv_tableIn (tgt := 1744) (off := 1711) hx hb dL_law_33 (by decide) (by decide) (by decide) (by decide) ?_
                                                                                    exact hB1744 h x1 x2 x3 _ _ _ _ _ hm hw (by omega) (by omega) (lv_sub hl [0, 1, 2, 3] rfl)
                                                                                  · have hm := ifF hm c40
                                                                                    by_cases c41 : ((xs (Int32.toNatClampNeg x3)) &&& (63 : Int32)) = (38 : Int32)
                                                                                    · have hm := ifT hm c41
                                                                                      rw [c41]
                                                                                      refine lv_tableIn (tgt := 1797) (off := 1764) hx hb dL_law_33 (by decide) (by decide) (by decide) (by decide) ?_
                                                                                      exact hB1797 h x1 x2 x3 _ _ _ _ _ hm hw (by omega) (by omega) (lv_sub hl [0, 1, 2, 3] rfl)
                                                                                    · have hm := ifF hm c41
                                                                                      by_cases c42 : ((xs (Int32.toNatClampNeg x3)) &&& (63 : Int32)) = (39 : Int32)
                                                                                      · have hm := ifT hm c42
                                                                                        rw [c42]
                                                                                        refine lv_tableIn (tgt := 1840) (off := 1807) hx hb dL_law_33 (by decide) (by decide) (by decide) (by decide) ?_
                                                                                        exact hB1840 h x1 x2 x3 _ _ _ _ _ hm hw (by omega) (by omega) (lv_sub hl [0, 1, 2, 3] rfl)
                                                                                      · have hm := ifF hm c42
                                                                                        by_cases c43 : ((xs (Int32.toNatClampNeg x3)) &&& (63 : Int32)) = (40 : Int32)
                                                                                        · have hm := ifT hm c43
                                                                                          rw [c43]
                                                                                          refine lv_tableIn (tgt := 1873) (off := 1840) hx hb dL_law_33 (by decide) (by decide) (by decide) (by decide) ?_
                                                                                          exact hB1873 h x1 x2 x3 _ _ _ _ _ hm hw (by omega) (by omega) (lv_sub hl [0, 1, 2, 3] rfl)
                                                                                        · have hm := ifF hm c43
                                                                                          by_cases c44 : ((xs (Int32.toNatClampNeg x3)) &&& (63 : Int32)) = (41 : Int32)
                                                                                          · have hm := ifT hm c44
                                                                                            rw [c44]
                                                                                            refine lv_tableIn (tgt := 1926) (off := 1893) hx hb dL_law_33 (by decide) (by decide) (by decide) (by decide) ?_
                                                                                            exact hB1926 h x1 x2 x3 _ _ _ _ _ hm hw (by omega) (by omega) (lv_sub hl [0, 1, 2, 3] rfl)
                                                                                          · have hm := ifF hm c44
                                                                                            by_cases c45 : ((xs (Int32.toNatClampNeg x3)) &&& (63 : Int32)) = (42 : Int32)
                                                                                            · have hm := ifT hm c45
                                                                                              rw [c45]
                                                                                              refine lv_tableIn (tgt := 1949) (off := 1916) hx hb dL_law_33 (by decide) (by decide) (by decide) (by decide) ?_
                                                                                              exact hB1949 h x1 x2 x3 _ _ _ _ _ hm hw (by omega) (by omega) (lv_sub hl [0, 1, 2, 3] rfl)
                                                                                            · have hm := ifF hm c45
                                                                                              by_cases c46 : ((xs (Int32.toNatClampNeg x3)) &&& (63 : Int32)) = (43 : Int32)
                                                                                              · have hm := ifT hm c46
                                                                                                rw [c46]
                                                                                                refine lv_tableIn (tgt := 1962) (off := 1929) hx hb dL_law_33 (by decide) (by decide) (by decide) (by decide) ?_
                                                                                                exact hB1962 h x1 x2 x3 _ _ _ _ _ hm hw (by omega) (by omega) (lv_sub hl [0, 1, 2, 3] rfl)
                                                                                              · have hm := ifF hm c46
                                                                                                have c47 : Int32.toInt ((xs (Int32.toNatClampNeg x3)) &&& (63 : Int32)) < 0 ∨ 43 < Int32.toInt ((xs (Int32.toNatClampNeg x3)) &&& (63 : Int32)) := by
                                                                                                  rcases Int.lt_or_le (Int32.toInt ((xs (Int32.toNatClampNeg x3)) &&& (63 : Int32))) 0 with h | h
                                                                                                  · exact Or.inl h
                                                                                                  · rcases Int.lt_or_le 43 (Int32.toInt ((xs (Int32.toNatClampNeg x3)) &&& (63 : Int32))) with h2 | h2
                                                                                                    · exact Or.inr h2
                                                                                                    · rcases (show Int32.toInt ((xs (Int32.toNatClampNeg x3)) &&& (63 : Int32)) = 0 ∨ Int32.toInt ((xs (Int32.toNatClampNeg x3)) &&& (63 : Int32)) = 1 ∨ Int32.toInt ((xs (Int32.toNatClampNeg x3)) &&& (63 : Int32)) = 2 ∨ Int32.toInt ((xs (Int32.toNatClampNeg x3)) &&& (63 : Int32)) = 3 ∨ Int32.toInt ((xs (Int32.toNatClampNeg x3)) &&& (63 : Int32)) = 4 ∨ Int32.toInt ((xs (Int32.toNatClampNeg x3)) &&& (63 : Int32)) = 5 ∨ Int32.toInt ((xs (Int32.toNatClampNeg x3)) &&& (63 : Int32)) = 6 ∨ Int32.toInt ((xs (Int32.toNatClampNeg x3)) &&& (63 : Int32)) = 7 ∨ Int32.toInt ((xs (Int32.toNatClampNeg x3)) &&& (63 : Int32)) = 8 ∨ Int32.toInt ((xs (Int32.toNatClampNeg x3)) &&& (63 : Int32)) = 9 ∨ Int32.toInt ((xs (Int32.toNatClampNeg x3)) &&& (63 : Int32)) = 10 ∨ Int32.toInt ((xs (Int32.toNatClampNeg x3)) &&& (63 : Int32)) = 11 ∨ Int32.toInt ((xs (Int32.toNatClampNeg x3)) &&& (63 : Int32)) = 12 ∨ Int32.toInt ((xs (Int32.toNatClampNeg x3)) &&& (63 : Int32)) = 13 ∨ Int32.toInt ((xs (Int32.toNatClampNeg x3)) &&& (63 : Int32)) = 14 ∨ Int32.toInt ((xs (Int32.toNatClampNeg x3)) &&& (63 : Int32)) = 15 ∨ Int32.toInt ((xs (Int32.toNatClampNeg x3)) &&& (63 : Int32)) = 16 ∨ Int32.toInt ((xs (Int32.toNatClampNeg x3)) &&& (63 : Int32)) = 17 ∨ Int32.toInt ((xs (Int32.toNatClampNeg x3)) &&& (63 : Int32)) = 18 ∨ Int32.toInt ((xs (Int32.toNatClampNeg x3)) &&& (63 : Int32)) = 19 ∨ Int32.toInt ((xs (Int32.toNatClampNeg x3)) &&& (63 : Int32)) = 20 ∨ Int32.toInt ((xs (Int32.toNatClampNeg x3)) &&& (63 : Int32)) = 21 ∨ Int32.toInt ((xs (Int32.toNatClampNeg x3)) &&& (63 : Int32)) = 22 ∨ Int32.toInt ((xs (Int32.toNatClampNeg x3)) &&& (63 : Int32)) = 23 ∨ Int32.toInt ((xs (Int32.toNatClampNeg x3)) &&& (63 : Int32)) = 24 ∨ Int32.toInt ((xs (Int32.toNatClampNeg x3)) &&& (63 : Int32)) = 25 ∨ Int32.toInt ((xs (Int32.toNatClampNeg x3)) &&& (63 : Int32)) = 26 ∨ Int32.toInt ((xs (Int32.toNatClampNeg x3)) &&& (63 : Int32)) = 27 ∨ Int32.toInt ((xs (Int32.toNatClampNeg x3)) &&& (63 : Int32)) = 28 ∨ Int32.toInt ((xs (Int32.toNatClampNeg x3)) &&& (63 : Int32)) = 29 ∨ Int32.toInt ((xs (Int32.toNatClampNeg x3)) &&& (63 : Int32)) = 30 ∨ Int32.toInt ((xs (Int32.toNatClampNeg x3)) &&& (63 : Int32)) = 31 ∨ Int32.toInt ((xs (Int32.toNatClampNeg x3)) &&& (63 : Int32)) = 32 ∨ Int32.toInt ((xs (Int32.toNatClampNeg x3)) &&& (63 : Int32)) = 33 ∨ Int32.toInt ((xs (Int32.toNatClampNeg x3)) &&& (63 : Int32)) = 34 ∨ Int32.toInt ((xs (Int32.toNatClampNeg x3)) &&& (63 : Int32)) = 35 ∨ Int32.toInt ((xs (Int32.toNatClampNeg x3)) &&& (63 : Int32)) = 36 ∨ Int32.toInt ((xs (Int32.toNatClampNeg x3)) &&& (63 : Int32)) = 37 ∨ Int32.toInt ((xs (Int32.toNatClampNeg x3)) &&& (63 : Int32)) = 38 ∨ Int32.toInt ((xs (Int32.toNatClampNeg x3)) &&& (63 : Int32)) = 39 ∨ Int32.toInt ((xs (Int32.toNatClampNeg x3)) &&& (63 : Int32)) = 40 ∨ Int32.toInt ((xs (Int32.toNatClampNeg x3)) &&& (63 : Int32)) = 41 ∨ Int32.toInt ((xs (Int32.toNatClampNeg x3)) &&& (63 : Int32)) = 42 ∨ Int32.toInt ((xs (Int32.toNatClampNeg x3)) &&& (63 : Int32)) = 43 by omega) with h3 | h3 | h3 | h3 | h3 | h3 | h3 | h3 | h3 | h3 | h3 | h3 | h3 | h3 | h3 | h3 | h3 | h3 | h3 | h3 | h3 | h3 | h3 | h3 | h3 | h3 | h3 | h3 | h3 | h3 | h3 | h3 | h3 | h3 | h3 | h3 | h3 | h3 | h3 | h3 | h3 | h3 | h3 | h3
                                                                                                      · exact absurd (i32_of_toInt _ h3) c3
                                                                                                      · exact absurd (i32_of_toInt _ h3) c4
                                                                                                      · exact absurd (i32_of_toInt _ h3) c5
                                                                                                      · exact absurd (i32_of_toInt _ h3) c6
                                                                                                      · exact absurd (i32_of_toInt _ h3) c7
                                                                                                      · exact absurd (i32_of_toInt _ h3) c8
                                                                                                      · exact absurd (i32_of_toInt _ h3) c9
                                                                                                      · exact absurd (i32_of_toInt _ h3) c10
                                                                                                      · exact absurd (i32_of_toInt _ h3) c11
                                                                                                      · exact absurd (i32_of_toInt _ h3) c12
                                                                                                      · exact absurd (i32_of_toInt _ h3) c13
                                                                                                      · exact absurd (i32_of_toInt _ h3) c14
                                                                                                      · exact absurd (i32_of_toInt _ h3) c15
                                                                                                      · exact absurd (i32_of_toInt _ h3) c16
                                                                                                      · exact absurd (i32_of_toInt _ h3) c17
                                                                                                      · exact absurd (i32_of_toInt _ h3) c18
                                                                                                      · exact absurd (i32_of_toInt _ h3) c19
                                                                                                      · exact absurd (i32_of_toInt _ h3) c20
                                                                                                      · exact absurd (i32_of_toInt _ h3) c21
                                                                                                      · exact absurd (i32_of_toInt _ h3) c22
                                                                                                      · exact absurd (i32_of_toInt _ h3) c23
                                                                                                      · exact absurd (i32_of_toInt _ h3) c24
                                                                                                      · exact absurd (i32_of_toInt _ h3) c25
                                                                                                      · exact absurd (i32_of_toInt _ h3) c26
                                                                                                      · exact absurd (i32_of_toInt _ h3) c27
                                                                                                      · exact absurd (i32_of_toInt _ h3) c28
                                                                                                      · exact absurd (i32_of_toInt _ h3) c29
                                                                                                      · exact absurd (i32_of_toInt _ h3) c30
                                                                                                      · exact absurd (i32_of_toInt _ h3) c31
                                                                                                      · exact absurd (i32_of_toInt _ h3) c32
                                                                                                      · exact absurd (i32_of_toInt _ h3) c33
                                                                                                      · exact absurd (i32_of_toInt _ h3) c34
                                                                                                      · exact absurd (i32_of_toInt _ h3) c35
                                                                                                      · exact absurd (i32_of_toInt _ h3) c36
                                                                                                      · exact absurd (i32_of_toInt _ h3) c37
                                                                                                      · exact absurd (i32_of_toInt _ h3) c38
                                                                                                      · exact absurd (i32_of_toInt _ h3) c39
                                                                                                      · exact absurd (i32_of_toInt _ h3) c40
                                                                                                      · exact absurd (i32_of_toInt _ h3) c41
                                                                                                      · exact absurd (i32_of_toInt _ h3) c42
                                                                                                      · exact absurd (i32_of_toInt _ h3) c43
                                                                                                      · exact absurd (i32_of_toInt _ h3) c44
                                                                                                      · exact absurd (i32_of_toInt _ h3) c45
                                                                                                      · exact absurd (i32_of_toInt _ h3) c46
                                                                                                refine lv_tableOut (tgt := 1975) hx hb dL_law_33 c47 (by decide) ?_
                                                                                                exact hB1975 h x1 x2 x3 _ _ _ _ _ hm hw (by omega) (by omega) (lv_sub hl [0, 1, 2, 3] rfl)
  have hB15 : ∀ (h : CH) (x1 : Nat) (y0 : Nat) (cc ss : Nat) (H : Heap) (locs : List Loc) (ls : Array Slot), m_L_law_15 f xs L h x1 y0 = some (1, u9) → CW D dA A s h H locs → cc + u.1 = h.1 → ss + u.2.1 = h.2.1 → lv_has ls 4 [(0, .ref b), (1, .ref x1)] → W p l e room_1 s m #[Value.ref b] below meth c H locs cc ss QQ (F0 m 15 ls [.ref y0]) := by
    intro h x1 y0 cc ss H locs ls hm hw hcc hss hl
    have hmo := mo_L_law_15  h x1 y0 _ hm
    have sb_ : h.1 ≤ u9.1 := hmo.1
    have tb_ : h.2.1 ≤ u9.2.1 := hmo.2.1
    rw [m_L_law_15] at hm
    refine lv_astore_n (lv' := [(2, .ref y0), (0, .ref b), (1, .ref x1)]) hx hb dL_law_15 rfl hl (by decide) rfl (fun ls hl => ?_)
    refine lv_iconst (v := 0) hx hb dL_law_16 (by decide) ?_
    refine lv_istore_n (lv' := [(3, .int (0 : Int32)), (2, .ref y0), (0, .ref b), (1, .ref x1)]) hx hb dL_law_17 rfl hl (by decide) rfl (fun ls hl => ?_)
    exact hB18 f h x1 y0 (0 : Int32) _ _ _ _ _ hm hw (by omega) (by omega) (lv_sub hl [2, 3, 1, 0] rfl)
  have hB11 : ∀ (h : CH) (x1 : Nat) (y0 : Nat) (cc ss : Nat) (H : Heap) (locs : List Loc) (ls : Array Slot), m_L_law_11 f xs L h x1 y0 = some (1, u9) → CW D dA A s h H locs → cc + u.1 = h.1 → ss + u.2.1 = h.2.1 → lv_has ls 4 [(0, .ref b), (1, .ref x1)] → W p l e room_1 s m #[Value.ref b] below meth c H locs cc ss QQ (F0 m 11 ls [.ref y0]) := by
    intro h x1 y0 cc ss H locs ls hm hw hcc hss hl
    have hmo := mo_L_law_11  h x1 y0 _ hm
    have sb_ : h.1 ≤ u9.1 := hmo.1
    have tb_ : h.2.1 ≤ u9.2.1 := hmo.2.1
    rw [m_L_law_11] at hm
    refine lv_dup hx hb dL_law_11 rfl ?_
    obtain ⟨h1, eh1, hm⟩ := bdE hm
    have lh1 := mo_X3_init eh1
    have ph1 : h.1 ≤ h1.1 := lh1.1
    have qh1 : h.2.1 ≤ h1.2.1 := lh1.2.1
    have hmo := mo_L_law_15   h1 x1 y0 _ hm
    have sh1 : h1.1 ≤ u9.1 := hmo.1
    have th1 : h1.2.1 ≤ u9.2.1 := hmo.2.1
    refine cg_callv hw lh1 (va_runI (As := []) (rest := [.ref y0]) ⟨hx, hb, hml, hown, hts⟩ (w_X3_init l eh1) (cw_X3_init hts q1562 ⟨Nat.le_of_ble_eq_true rfl, Nat.le_of_ble_eq_true rfl⟩) (cg_preS C hw _) rfl rfl hl.1 rfl (lv_room (Nat.le_of_ble_eq_true rfl)) dL_law_12 ⟨show cc + (h1.1 - h.1) ≤ 601024 by omega, show ss + (h1.2.1 - h.2.1) ≤ 7293034 by omega⟩) (fun H locs hw => ?_)
    exact hB15 h1 x1 y0 _ _ _ _ _ hm hw (by omega) (by omega) (lv_sub hl [0, 1] rfl)
  have hB7 : ∀ (h : CH) (y0 : Nat) (cc ss : Nat) (H : Heap) (locs : List Loc) (ls : Array Slot), m_L_law_7 f xs L h y0 = some (1, u9) → CW D dA A s h H locs → cc + u.1 = h.1 → ss + u.2.1 = h.2.1 → lv_has ls 4 [(0, .ref b)] → W p l e room_1 s m #[Value.ref b] below meth c H locs cc ss QQ (F0 m 7 ls [.ref y0]) := by
    intro h y0 cc ss H locs ls hm hw hcc hss hl
    have hmo := mo_L_law_7  h y0 _ hm
    have sb_ : h.1 ≤ u9.1 := hmo.1
    have tb_ : h.2.1 ≤ u9.2.1 := hmo.2.1
    rw [m_L_law_7] at hm
    refine lv_astore_n (lv' := [(1, .ref y0), (0, .ref b)]) hx hb dL_law_7 rfl hl (by decide) rfl (fun ls hl => ?_)
    obtain ⟨h1, eh1, hm⟩ := nmE hm
    obtain ⟨_, _, hmq⟩ := nmE hm
    have hmo := mo_L_law_11   h1 y0 _ _ hmq
    have sh1 : h1.1 ≤ u9.1 := hmo.1
    have th1 : h1.2.1 ≤ u9.2.1 := hmo.2.1
    have zh1 := cn_sz eh1
    refine cg_new (C0 := C) hw (ci := 0) (fs := [.null, .null, .null, .null, .int 0, .int 0, .int 0, .int 0, .int 0, .int 0, .int 0, .int 0, .int 0, .int 0, .int 0, .int 0, .null, .null, .null, .long 0, .null, .null, .null, .null, .null, .int 0, .null, .null, .long 0, .null, .long 0, .long 0, .null, .null, .null, .int 0, .null, .null, .null, .null]) rfl in_X3 tyX3 tyX3_ok q1560 q1561 q125 (fun j hj => by rcases (show j = 0 ∨ j = 1 ∨ j = 2 ∨ j = 3 ∨ j = 4 ∨ j = 5 ∨ j = 6 ∨ j = 7 ∨ j = 8 ∨ j = 9 ∨ j = 10 ∨ j = 11 ∨ j = 12 ∨ j = 13 ∨ j = 14 ∨ j = 15 ∨ j = 16 ∨ j = 17 ∨ j = 18 ∨ j = 19 ∨ j = 20 ∨ j = 21 ∨ j = 22 ∨ j = 23 ∨ j = 24 ∨ j = 25 ∨ j = 26 ∨ j = 27 ∨ j = 28 ∨ j = 29 ∨ j = 30 ∨ j = 31 ∨ j = 32 ∨ j = 33 ∨ j = 34 ∨ j = 35 ∨ j = 36 ∨ j = 37 ∨ j = 38 ∨ j = 39 by omega) with rfl | rfl | rfl | rfl | rfl | rfl | rfl | rfl | rfl | rfl | rfl | rfl | rfl | rfl | rfl | rfl | rfl | rfl | rfl | rfl | rfl | rfl | rfl | rfl | rfl | rfl | rfl | rfl | rfl | rfl | rfl | rfl | rfl | rfl | rfl | rfl | rfl | rfl | rfl | rfl <;> rfl) (show cc + 1 ≤ 601024 by omega) (show ss + 40 ≤ 7293034 by omega) dL_law_8 (fun H hw => ?_)
    rw [← eh1] at hw
    refine lv_topr (fun a2 ea2 => ?_)
    have hm := nmK hm ea2
    exact hB11 h1 y0 a2 _ _ _ _ _ hm hw (by omega) (by omega) (lv_sub hl [1, 0] rfl)
  have hB3 : ∀ (h : CH) (y0 : Nat) (cc ss : Nat) (H : Heap) (locs : List Loc) (ls : Array Slot), m_L_law_3 f xs L h y0 = some (1, u9) → CW D dA A s h H locs → cc + u.1 = h.1 → ss + u.2.1 = h.2.1 → lv_has ls 4 [(0, .ref b)] → W p l e room_1 s m #[Value.ref b] below meth c H locs cc ss QQ (F0 m 3 ls [.ref y0]) := by
    intro h y0 cc ss H locs ls hm hw hcc hss hl
    have hmo := mo_L_law_3  h y0 _ hm
    have sb_ : h.1 ≤ u9.1 := hmo.1
    have tb_ : h.2.1 ≤ u9.2.1 := hmo.2.1
    rw [m_L_law_3] at hm
    refine lv_dup hx hb dL_law_3 rfl ?_
    obtain ⟨h1, eh1, hm⟩ := bdE hm
    have lh1 := mo_X0_init eh1
    have ph1 : h.1 ≤ h1.1 := lh1.1
    have qh1 : h.2.1 ≤ h1.2.1 := lh1.2.1
    have hmo := mo_L_law_7   h1 y0 _ hm
    have sh1 : h1.1 ≤ u9.1 := hmo.1
    have th1 : h1.2.1 ≤ u9.2.1 := hmo.2.1
    refine cg_callv hw lh1 (va_runI (As := []) (rest := [.ref y0]) ⟨hx, hb, hml, hown, hts⟩ (w_X0_init l eh1) (cw_X0_init hts q157 ⟨Nat.le_of_ble_eq_true rfl, Nat.le_of_ble_eq_true rfl⟩) (cg_preS C hw _) rfl rfl hl.1 rfl (lv_room (Nat.le_of_ble_eq_true rfl)) dL_law_4 ⟨show cc + (h1.1 - h.1) ≤ 601024 by omega, show ss + (h1.2.1 - h.2.1) ≤ 7293034 by omega⟩) (fun H locs hw => ?_)
    exact hB7 h1 y0 _ _ _ _ _ hm hw (by omega) (by omega) (lv_sub hl [0] rfl)
  rw [m_L_law] at hm
  obtain ⟨h1, eh1, hm⟩ := nmE hm
  obtain ⟨_, _, hmq⟩ := nmE hm
  have hmo := mo_L_law_3   h1 _ _ hmq
  have sh1 : h1.1 ≤ u9.1 := hmo.1
  have th1 : h1.2.1 ≤ u9.2.1 := hmo.2.1
  have zh1 := cn_sz eh1
  refine cg_new (C0 := C) hw (ci := 1) (fs := [.null, .int 0, .null, .int 0, .int 0, .int 0, .null, .null, .null, .null, .int 0, .int 0, .null, .null, .null]) rfl in_X0 tyX0 tyX0_ok q155 q156 q119 (fun j hj => by rcases (show j = 0 ∨ j = 1 ∨ j = 2 ∨ j = 3 ∨ j = 4 ∨ j = 5 ∨ j = 6 ∨ j = 7 ∨ j = 8 ∨ j = 9 ∨ j = 10 ∨ j = 11 ∨ j = 12 ∨ j = 13 ∨ j = 14 by omega) with rfl | rfl | rfl | rfl | rfl | rfl | rfl | rfl | rfl | rfl | rfl | rfl | rfl | rfl | rfl <;> rfl) (show cc + 1 ≤ 601024 by omega) (show ss + 15 ≤ 7293034 by omega) dL_law_0 (fun H hw => ?_)
  rw [← eh1] at hw
  refine lv_topr (fun a2 ea2 => ?_)
  have hm := nmK hm ea2
  exact hB3 h1 a2 _ _ _ _ _ hm hw (by omega) (by omega) (lv_sub hl [0] rfl)
end
