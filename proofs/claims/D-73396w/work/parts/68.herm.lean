/-! rows brought to their form: the way itself, and the component's -/
set_option maxRecDepth 100000
abbrev HS : Type := Mi × List St
def bel (N : Mi) (c : Nat) : Nat → Nat → Bool
  | 0, _ => false
  | k + 1, r => if N r c = 0 then bel N c k (r + 1) else true
def lst (N : Mi) (c : Nat) : Nat → Option Nat → Nat → Option Nat
  | 0, b, _ => b
  | k + 1, b, r => if N r c = 0 then lst N c k b (r + 1) else match b with
    | none => lst N c k (some r) (r + 1)
    | some b' => if (N b' c).natAbs ≤ (N r c).natAbs then lst N c k (some b') (r + 1) else lst N c k (some r) (r + 1)
def hadd (s : HS) (r c : Nat) (t : Int) : HS := (addR s.1 r c t, s.2 ++ [(1, ni r, ni c, li t)])
def hexc (s : HS) (c b : Nat) : HS := (excR s.1 c b, s.2 ++ [(0, ni c, ni b, 0)])
def hovr (s : HS) (c : Nat) : HS := (ovrR s.1 c, s.2 ++ [(2, ni c, -1, 0)])
def hpass (c : Nat) : Nat → Nat → HS → HS
  | 0, _, s => s
  | k + 1, r, s => hpass c k (r + 1) (if s.1 r c = 0 then s else hadd s r c (-(s.1 r c).tdiv (s.1 c c)))
def hpiv (c : Nat) (s : HS) : HS := match lst s.1 c (3 - c) none c with
  | none => s
  | some b => if b = c then s else hexc s c b
def hround (c : Nat) (s : HS) : HS := hpass c (2 - c) (c + 1) (hpiv c s)
def heu (c : Nat) : Nat → HS → HS
  | 0, s => s
  | n + 1, s => if bel s.1 c (2 - c) (c + 1) = true then heu c n (hround c s) else s
def hneg (c : Nat) (s : HS) : HS := if s.1 c c < 0 then hovr s c else s
def hred (c : Nat) : Nat → Nat → HS → HS
  | 0, _, s => s
  | k + 1, r, s => hred c k (r + 1) (if -(s.1 r c / s.1 c c) = 0 then s else hadd s r c (-(s.1 r c / s.1 c c)))
def hclr (c n : Nat) (s : HS) : HS := hred c c 0 (hneg c (heu c n s))
def colrg (c : Nat) (N : Mi) : Prop := ∀ r, c ≤ r → r < 3 → rg (N r c)
def euOk (c : Nat) : Nat → HS → Prop
  | 0, s => colrg c s.1 ∧ bel s.1 c (2 - c) (c + 1) = false
  | n + 1, s => colrg c s.1 ∧ (bel s.1 c (2 - c) (c + 1) = false ∨ (s.2.length ≤ 390 ∧ euOk c n (hround c s)))
def clrOk (c n : Nat) (s : HS) : Prop := euOk c n s ∧ (heu c n s).2.length ≤ 390 ∧ 0 < (hneg c (heu c n s)).1 c c ∧ rg ((hneg c (heu c n s)).1 c c) ∧ ∀ r, r < c → rg ((hneg c (heu c n s)).1 r c)
theorem le3n {r : Nat} (h : r < 3) : ¬ ((3 : Int32) ≤ ni r) := le3 h
/-! the component's -/
theorem X8_mb4 {f : Nat} {h : CH} {a L : Nat} {R : RA} {N : Mi} (ca : cm h a = some (.inl (8, [.ref R.1, .ref L]))) (hR : isN h R N) {c : Nat} (hc : c < 3) (hg : colrg c N) : ∀ k n r, c ≤ r → r + k = 3 → k < n → m_X8_isMoreBelow_4 f n h a (ni c) (ni r) = some (if bel N c k r = true then 1 else 0, h) := by
  intro k
  induction k with
  | zero =>
    intro n r _ hr hn
    obtain ⟨n, rfl⟩ : ∃ z, n = z + 1 := ⟨n - 1, by omega⟩
    have : r = 3 := by omega
    subst this
    rw [m_X8_isMoreBelow_4, if_pos le33]; rfl
  | succ k ih =>
    intro n r hcr hr hn
    obtain ⟨n, rfl⟩ : ∃ z, n = z + 1 := ⟨n - 1, by omega⟩
    have r3 : r < 3 := by omega
    rw [m_X8_isMoreBelow_4, if_neg (le3 r3), oR_c ca rfl, bd_some, oR_R hR, bd_some, aR_R hR r3, bd_some, aL_R hR r3 hc, bd_some]
    unfold bel
    by_cases hz : N r c = 0
    · rw [if_pos (show lM N r c = 0 by show li (N r c) = 0; rw [hz]; rfl), if_pos hz, nmv_eq, ni_succ]
      exact ih n (r + 1) (by omega) (by omega) (by omega)
    · rw [if_neg (show ¬ lM N r c = 0 from fun e => hz ((li_inj (hg r hcr r3) rg_0).mp e)), if_neg hz]
      rfl
theorem X8_isMoreBelow {f : Nat} (hf : 4 ≤ f) {h : CH} {a L : Nat} {R : RA} {N : Mi} (ca : cm h a = some (.inl (8, [.ref R.1, .ref L]))) (hR : isN h R N) {c : Nat} (hc : c < 3) (hg : colrg c N) : m_X8_isMoreBelow f h a (ni c) = some (if bel N c (2 - c) (c + 1) = true then 1 else 0, h) := by
  unfold m_X8_isMoreBelow
  rw [nmv_eq]
  show m_X8_isMoreBelow_4 f f h a (ni c) (ni c + 1) = _
  rw [ni_succ]
  exact X8_mb4 ca hR hc hg (2 - c) f (c + 1) (by omega) (by omega) (by omega)
def oni (b : Option Nat) : Int32 := match b with
  | none => -1
  | some b => ni b
theorem ni_m1 {b : Nat} (hb : b < 3) : ¬ ni b = (-1 : Int32) := by
  rcases (show b = 0 ∨ b = 1 ∨ b = 2 by omega) with rfl | rfl | rfl <;> decide
theorem X8_l4 {f : Nat} {h : CH} {a L : Nat} {R : RA} {N : Mi} (ca : cm h a = some (.inl (8, [.ref R.1, .ref L]))) (hR : isN h R N) {c : Nat} (hc : c < 3) (hg : colrg c N) : ∀ k n b r, c ≤ r → r + k = 3 → k < n → (∀ b', b = some b' → c ≤ b' ∧ b' < 3) → m_X8_least_4 f n h a (ni c) (oni b) (ni r) = some (oni (lst N c k b r), h) := by
  intro k
  induction k with
  | zero =>
    intro n b r _ hr hn _
    obtain ⟨n, rfl⟩ : ∃ z, n = z + 1 := ⟨n - 1, by omega⟩
    have : r = 3 := by omega
    subst this
    rw [m_X8_least_4, if_pos le33]; rfl
  | succ k ih =>
    intro n b r hcr hr hn hb
    obtain ⟨n, rfl⟩ : ∃ z, n = z + 1 := ⟨n - 1, by omega⟩
    have r3 : r < 3 := by omega
    rw [m_X8_least_4, if_neg (le3 r3), oR_c ca rfl, bd_some, oR_R hR, bd_some, aR_R hR r3, bd_some, aL_R hR r3 hc, bd_some]
    unfold m_X8_least_62 m_X8_least_64
    simp only [nmv_eq, ni_succ]
    unfold lst
    by_cases hz : N r c = 0
    · rw [if_pos (show lM N r c = 0 by show li (N r c) = 0; rw [hz]; rfl), if_pos hz]
      exact ih n b (r + 1) (by omega) (by omega) (by omega) hb
    · rw [if_neg (show ¬ lM N r c = 0 from fun e => hz ((li_inj (hg r hcr r3) rg_0).mp e)), if_neg hz]
      cases b with
      | none =>
        rw [if_pos (show oni none = -1 from rfl)]
        exact ih n (some r) (r + 1) (by omega) (by omega) (by omega) (fun b' e => by cases e; exact ⟨hcr, r3⟩)
      | some b' =>
        obtain ⟨q1, q2⟩ := hb b' rfl
        rw [if_neg (show ¬ oni (some b') = -1 from ni_m1 q2), show oni (some b') = ni b' from rfl]
        simp only [bd_some, oR_R hR, aR_R hR r3, aL_R hR r3 hc, abs_li (hg r hcr r3), aR_R hR q2, aL_R hR q2 hc, abs_li (hg b' q1 q2)]
        have g1 : rg ((N b' c).natAbs : Int) := rg_abs (k := 2 ^ 63) (by simpa using rg_nat.mp (hg b' q1 q2)) (by decide)
        have g2 : rg ((N r c).natAbs : Int) := rg_abs (k := 2 ^ 63) (by simpa using rg_nat.mp (hg r hcr r3)) (by decide)
        by_cases hle : (N b' c).natAbs ≤ (N r c).natAbs
        · rw [if_pos ((li_le g1 g2).mpr (by omega)), if_pos hle]
          exact ih n (some b') (r + 1) (by omega) (by omega) (by omega) hb
        · rw [if_neg (fun e => hle (by have := (li_le g1 g2).mp e; omega)), if_neg hle]
          exact ih n (some r) (r + 1) (by omega) (by omega) (by omega) (fun b' e => by cases e; exact ⟨hcr, r3⟩)
theorem X8_least {f : Nat} (hf : 4 ≤ f) {h : CH} {a L : Nat} {R : RA} {N : Mi} (ca : cm h a = some (.inl (8, [.ref R.1, .ref L]))) (hR : isN h R N) {c : Nat} (hc : c < 3) (hg : colrg c N) : m_X8_least f h a (ni c) = some (oni (lst N c (3 - c) none c), h) := X8_l4 ca hR hc hg (3 - c) f none c (by omega) (by omega) (by omega) (fun b' e => by cases e)
/-- the least is there, if any is -/
theorem lst_some {N : Mi} {c : Nat} : ∀ k b r, (∀ b', b = some b' → c ≤ b' ∧ b' < 3 ∧ N b' c ≠ 0) → c ≤ r → r + k = 3 → (b ≠ none ∨ bel N c k r = true) → ∃ b', lst N c k b r = some b' ∧ c ≤ b' ∧ b' < 3 ∧ N b' c ≠ 0 := by
  intro k
  induction k with
  | zero =>
    intro b r hb _ _ h
    rcases h with h | h
    · cases b with
      | none => exact absurd rfl h
      | some b' => exact ⟨b', rfl, hb b' rfl⟩
    · cases h
  | succ k ih =>
    intro b r hb hcr hr h
    unfold lst
    by_cases hz : N r c = 0
    · rw [if_pos hz]
      refine ih b (r + 1) hb (by omega) (by omega) ?_
      rcases h with h | h
      · exact .inl h
      · unfold bel at h; rw [if_pos hz] at h; exact .inr h
    · rw [if_neg hz]
      have hr2 : ∀ b', some r = some b' → c ≤ b' ∧ b' < 3 ∧ N b' c ≠ 0 := fun b' e => by cases e; exact ⟨hcr, by omega, hz⟩
      cases b with
      | none => exact ih (some r) (r + 1) hr2 (by omega) (by omega) (.inl (by simp))
      | some b' =>
        dsimp only
        split
        · exact ih (some b') (r + 1) hb (by omega) (by omega) (.inl (by simp))
        · exact ih (some r) (r + 1) hr2 (by omega) (by omega) (.inl (by simp))
theorem lst_bel {N : Mi} {c : Nat} (hc : c < 3) (h : bel N c (2 - c) (c + 1) = true) : ∃ b, lst N c (3 - c) none c = some b ∧ c ≤ b ∧ b < 3 ∧ N b c ≠ 0 := by
  refine lst_some (3 - c) none c (fun b' e => by cases e) (by omega) (by omega) (.inr ?_)
  rw [show 3 - c = (2 - c) + 1 by omega]
  unfold bel
  split
  · exact h
  · rfl
