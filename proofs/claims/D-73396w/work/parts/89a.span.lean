set_option maxRecDepth 100000
/-! what rows span; six rows gathered -/
/-- the least that holds the first R rows and all sums -/
def sp (R : Nat) (S : Mi) (w : V3) : Prop := ∀ C : V3 → Prop, C (0, 0, 0) → (∀ u v, C u → C v → C (vad u v)) → (∀ k u, C u → C (vsm k u)) → (∀ i, i < R → C (rw3 S i)) → C w
theorem sp_0 {R : Nat} {S : Mi} : sp R S (0, 0, 0) := fun _ h _ _ _ => h
theorem sp_add {R : Nat} {S : Mi} {u v : V3} (h : sp R S u) (h' : sp R S v) : sp R S (vad u v) := fun C a b c d => b _ _ (h C a b c d) (h' C a b c d)
theorem sp_sm {R : Nat} {S : Mi} (k : Int) {u : V3} (h : sp R S u) : sp R S (vsm k u) := fun C a b c d => c _ _ (h C a b c d)
theorem sp_row {R : Nat} {S : Mi} {i : Nat} (hi : i < R) : sp R S (rw3 S i) := fun _ _ _ _ d => d i hi
theorem sp_sub {R R' : Nat} {S S' : Mi} (h : ∀ i, i < R → sp R' S' (rw3 S i)) {w : V3} (hw : sp R S w) : sp R' S' w := hw _ sp_0 (fun _ _ => sp_add) (fun k _ => sp_sm k) h
theorem sp_3 {N : Mi} {w : V3} : sp 3 N w ↔ inL (m3 N) w := by
  constructor
  · intro h; exact h _ (inL_z _) (fun _ _ => inL_add) (fun k _ => inL_sm k) (fun i hi => inL_row N hi)
  · rintro ⟨a, b, c, rfl⟩
    have := sp_add (sp_add (sp_sm a (sp_row (R := 3) (S := N) (i := 0) (by decide))) (sp_sm b (sp_row (i := 1) (by decide)))) (sp_sm c (sp_row (i := 2) (by decide)))
    exact this
theorem sp_addR {R : Nat} {S : Mi} {r l : Nat} (t : Int) (hr : r < R) (hl : l < R) (hne : r ≠ l) (w : V3) : sp R (addR S r l t) w ↔ sp R S w := by
  have ro : ∀ i, i ≠ r → rw3 (addR S r l t) i = rw3 S i := fun i hi => by unfold rw3 addR; simp [hi]
  have rr : rw3 (addR S r l t) r = vad (rw3 S r) (vsm t (rw3 S l)) := by unfold rw3 addR vad vsm; simp
  constructor
  · refine sp_sub (fun i hi => ?_)
    by_cases e : i = r
    · subst e; rw [rr]; exact sp_add (sp_row hi) (sp_sm t (sp_row hl))
    · rw [ro i e]; exact sp_row hi
  · refine sp_sub (fun i hi => ?_)
    by_cases e : i = r
    · subst e
      have e2 : rw3 S i = vad (rw3 (addR S i l t) i) (vsm (-t) (rw3 (addR S i l t) l)) := by
        rw [rr, ro l (Ne.symm hne)]
        simp only [vad, vsm, rw3, Prod.mk.injEq]
        refine ⟨?_, ?_, ?_⟩ <;> grind
      rw [e2]; exact sp_add (sp_row hi) (sp_sm _ (sp_row hl))
    · rw [← ro i e]; exact sp_row hi
theorem sp_excR {R : Nat} {S : Mi} {r l : Nat} (hr : r < R) (hl : l < R) (w : V3) : sp R (excR S r l) w ↔ sp R S w := by
  have key : ∀ S : Mi, ∀ i, i < R → sp R S (rw3 (excR S r l) i) := fun S i hi => by
    by_cases e : i = r
    · have e2 : rw3 (excR S r l) i = rw3 S l := by unfold rw3 excR; simp [e]
      rw [e2]; exact sp_row hl
    · by_cases e' : i = l
      · have e2 : rw3 (excR S r l) i = rw3 S r := by subst e'; unfold rw3 excR; simp [e]
        rw [e2]; exact sp_row hr
      · have e2 : rw3 (excR S r l) i = rw3 S i := by unfold rw3 excR; simp [e, e']
        rw [e2]; exact sp_row hi
  have twice : ∀ i, rw3 S i = rw3 (excR (excR S r l) r l) i := fun i => by
    unfold rw3 excR
    by_cases e : i = r
    · by_cases e' : l = r <;> simp [e, e']
    · by_cases e' : i = l
      · subst e'; simp [e]
      · simp [e, e']
  constructor
  · exact sp_sub (key S)
  · refine sp_sub (fun i hi => ?_)
    rw [twice i]; exact key _ i hi
/-! the pass over six rows -/
def gps (c : Nat) : Nat → Nat → Mi → Mi
  | 0, _, S => S
  | k + 1, r, S => gps c k (r + 1) (addR S r c (-(S r c).tdiv (S c c)))
def gmr (S : Mi) (c : Nat) : Nat → Nat → Bool
  | 0, _ => false
  | k + 1, r => if S r c ≠ 0 then true else gmr S c k (r + 1)
def gpv (c : Nat) (S : Mi) : Mi := match lst S c (6 - c) none c with
  | none => S
  | some b => excR S c b
def ggo (c : Nat) : Nat → Mi → Mi
  | 0, S => S
  | n + 1, S => if gmr (gps c (5 - c) (c + 1) (gpv c S)) c (5 - c) (c + 1) = true then ggo c n (gps c (5 - c) (c + 1) (gpv c S)) else gps c (5 - c) (c + 1) (gpv c S)
theorem lstG {N : Mi} {c R : Nat} : ∀ k b r, (∀ b', b = some b' → c ≤ b' ∧ b' < R ∧ N b' c ≠ 0) → c ≤ r → r + k = R → (b ≠ none ∨ ∃ i, r ≤ i ∧ i < R ∧ N i c ≠ 0) → ∃ m, lst N c k b r = some m ∧ c ≤ m ∧ m < R ∧ N m c ≠ 0 ∧ (∀ i, r ≤ i → i < R → N i c ≠ 0 → (N m c).natAbs ≤ (N i c).natAbs) ∧ ∀ b', b = some b' → (N m c).natAbs ≤ (N b' c).natAbs := by
  intro k
  induction k with
  | zero =>
    intro b r hb hcr hr h
    cases b with
    | none =>
      rcases h with h | ⟨i, h1, h2, _⟩
      · exact absurd rfl h
      · omega
    | some b' =>
      obtain ⟨h1, h2, h3⟩ := hb b' rfl
      exact ⟨b', rfl, h1, h2, h3, fun i h4 h5 => by omega, fun b2 e => by cases e; exact Nat.le_refl _⟩
  | succ k ih =>
    intro b r hb hcr hr h
    unfold lst
    by_cases hz : N r c = 0
    · rw [if_pos hz]
      have h' : b ≠ none ∨ ∃ i, r + 1 ≤ i ∧ i < R ∧ N i c ≠ 0 := by
        rcases h with h | ⟨i, h1, h2, h3⟩
        · exact .inl h
        · refine .inr ⟨i, ?_, h2, h3⟩
          by_cases e : i = r
          · subst e; exact absurd hz h3
          · omega
      obtain ⟨m, m1, m2, m3', m4, m5, m6⟩ := ih b (r + 1) hb (by omega) (by omega) h'
      refine ⟨m, m1, m2, m3', m4, fun i a1 a2 a3 => ?_, m6⟩
      by_cases e : i = r
      · subst e; exact absurd hz a3
      · exact m5 i (by omega) a2 a3
    · rw [if_neg hz]
      have hr2 : ∀ b', some r = some b' → c ≤ b' ∧ b' < R ∧ N b' c ≠ 0 := fun b' e => by cases e; exact ⟨hcr, by omega, hz⟩
      cases b with
      | none =>
        obtain ⟨m, m1, m2, m3', m4, m5, m6⟩ := ih (some r) (r + 1) hr2 (by omega) (by omega) (.inl (by simp))
        refine ⟨m, m1, m2, m3', m4, fun i a1 a2 a3 => ?_, fun b' e => by cases e⟩
        by_cases e : i = r
        · subst e; exact m6 _ rfl
        · exact m5 i (by omega) a2 a3
      | some b' =>
        dsimp only
        by_cases hle : (N b' c).natAbs ≤ (N r c).natAbs
        · rw [if_pos hle]
          obtain ⟨m, m1, m2, m3', m4, m5, m6⟩ := ih (some b') (r + 1) hb (by omega) (by omega) (.inl (by simp))
          refine ⟨m, m1, m2, m3', m4, fun i a1 a2 a3 => ?_, fun b2 e => by cases e; exact m6 _ rfl⟩
          by_cases e : i = r
          · subst e; exact Nat.le_trans (m6 _ rfl) hle
          · exact m5 i (by omega) a2 a3
        · rw [if_neg hle]
          obtain ⟨m, m1, m2, m3', m4, m5, m6⟩ := ih (some r) (r + 1) hr2 (by omega) (by omega) (.inl (by simp))
          refine ⟨m, m1, m2, m3', m4, fun i a1 a2 a3 => ?_, fun b2 e => by cases e; have := m6 _ rfl; omega⟩
          by_cases e : i = r
          · subst e; exact m6 _ rfl
          · exact m5 i (by omega) a2 a3
theorem gps_fst (c : Nat) : ∀ k r S, c < r → r + k = 6 → ∀ a b, gps c k r S a b = if r ≤ a ∧ a < 6 then S a b - (S a c).tdiv (S c c) * S c b else S a b := by
  intro k
  induction k with
  | zero => intro r S _ hr a b; rw [if_neg (by omega)]; rfl
  | succ k ih =>
    intro r S hcr hr a b
    rw [gps, ih (r + 1) _ (by omega) (by omega)]
    have hc : (addR S r c (-(S r c).tdiv (S c c))) c = S c := by funext z; unfold addR; rw [if_neg (by omega)]
    rw [hc]
    by_cases e : a = r
    · subst e
      rw [if_neg (by omega), if_pos ⟨Nat.le_refl _, by omega⟩]
      unfold addR
      rw [if_pos rfl]
      grind
    · have ha : (addR S r c (-(S r c).tdiv (S c c))) a = S a := by funext z; unfold addR; rw [if_neg e]
      rw [ha]
      have e' : (r + 1 ≤ a ∧ a < 6) ↔ (r ≤ a ∧ a < 6) := by omega
      simp only [e']
theorem gps_sp {c : Nat} (w : V3) : ∀ k r S, c < r → r + k = 6 → (sp 6 (gps c k r S) w ↔ sp 6 S w) := by
  intro k
  induction k with
  | zero => intro r S _ _; exact Iff.rfl
  | succ k ih =>
    intro r S hcr hr
    rw [gps, ih (r + 1) _ (by omega) (by omega)]
    exact sp_addR _ (by omega) (by omega) (by omega) w
theorem gmr_no {S : Mi} {c : Nat} : ∀ k r, r + k = 6 → gmr S c k r = false → ∀ a, r ≤ a → a < 6 → S a c = 0 := by
  intro k
  induction k with
  | zero => intro r hr _ a h1 h2; omega
  | succ k ih =>
    intro r hr h a h1 h2
    unfold gmr at h
    by_cases hz : S r c ≠ 0
    · rw [if_pos hz] at h; cases h
    · rw [if_neg hz] at h
      by_cases e : a = r
      · subst e; simpa using hz
      · exact ih (r + 1) (by omega) h a (by omega) h2
theorem gmr_ex {S : Mi} {c : Nat} : ∀ k r, r + k = 6 → gmr S c k r = true → ∃ a, r ≤ a ∧ a < 6 ∧ S a c ≠ 0 := by
  intro k
  induction k with
  | zero => intro r _ h; cases h
  | succ k ih =>
    intro r hr h
    unfold gmr at h
    by_cases hz : S r c ≠ 0
    · exact ⟨r, Nat.le_refl _, by omega, hz⟩
    · rw [if_neg hz] at h
      obtain ⟨a, h1, h2⟩ := ih (r + 1) (by omega) h
      exact ⟨a, by omega, h2⟩
/-- what holds while column c of six rows is gathered -/
def GI (c X : Nat) (S : Mi) : Prop := (∀ i j, c ≤ i → i < 6 → j < 3 → (S i j).natAbs ≤ X) ∧ (∀ i k j, c ≤ i → i < 6 → c ≤ k → k < 6 → j < 3 → (S i j * S k c - S k j * S i c).natAbs ≤ X)
theorem GI.ps {c X : Nat} {S : Mi} (hc : c < 3) (h : GI c X S) (hz : S c c ≠ 0) : GI c X (gps c (5 - c) (c + 1) S) := by
  have e := gps_fst c (5 - c) (c + 1) S (by omega) (by omega)
  obtain ⟨h1, h2⟩ := h
  have hB : X ≤ X * (S c c).natAbs := Nat.le_mul_of_pos_right _ (by omega)
  have ec : ∀ b, gps c (5 - c) (c + 1) S c b = S c b := fun b => by rw [e, if_neg (by omega)]
  have er : ∀ a b, c < a → a < 6 → gps c (5 - c) (c + 1) S a b = S a b - (S a c).tdiv (S c c) * S c b := fun a b g1 g2 => by rw [e, if_pos ⟨by omega, g2⟩]
  have em : ∀ a, c < a → a < 6 → gps c (5 - c) (c + 1) S a c = (S a c).tmod (S c c) := fun a g1 g2 => by rw [er a c g1 g2, Int.tmod_def, Int.mul_comm]
  refine ⟨fun i j hci hi hj => ?_, fun i k j hci hi hck hk hj => ?_⟩
  · by_cases e2 : i = c
    · subst e2; rw [ec]; exact h1 i j hci hi hj
    · rw [er i j (by omega) hi]
      exact eu_col hz (h1 i j hci hi hj) (Nat.le_trans (h2 i c j hci hi (Nat.le_refl _) (by omega) hj) hB)
  · by_cases e2 : i = c
    · subst e2
      by_cases e' : k = i
      · subst e'; rw [Int.sub_self]; simp
      · rw [ec, ec, er k j (by omega) hk, em k (by omega) hk]
        have e3 : S i j * (S k i).tmod (S i i) - (S k j - (S k i).tdiv (S i i) * S i j) * S i i = S i j * S k i - S k j * S i i := by rw [Int.tmod_def]; grind
        rw [e3]
        exact h2 i k j hci hi hck hk hj
    · by_cases e' : k = c
      · subst e'
        rw [ec, ec, er i j (by omega) hi, em i (by omega) hi]
        have e3 : (S i j - (S i k).tdiv (S k k) * S k j) * S k k - S k j * (S i k).tmod (S k k) = S i j * S k k - S k j * S i k := by rw [Int.tmod_def]; grind
        rw [e3]
        exact h2 i k j hci hi hck hk hj
      · rw [er i j (by omega) hi, er k j (by omega) hk, em i (by omega) hi, em k (by omega) hk]
        exact eu_two hz (h2 i c j hci hi (Nat.le_refl _) (by omega) hj) (h2 k c j hck hk (Nat.le_refl _) (by omega) hj) (h2 i k j hci hi hck hk hj)
theorem GI.exc {c X b : Nat} {S : Mi} (hcb : c ≤ b) (hb : b < 6) (hc : c < 3) (h : GI c X S) : GI c X (excR S c b) := by
  obtain ⟨h1, h2⟩ := h
  let g : Nat → Nat := fun i => if i = c then b else if i = b then c else i
  have hg : ∀ i, c ≤ i → i < 6 → c ≤ g i ∧ g i < 6 := fun i h1 h2 => by simp only [g]; split <;> (try split) <;> omega
  have eg : ∀ i j, excR S c b i j = S (g i) j := fun i j => by unfold excR; simp only [g]; split <;> (try split) <;> rfl
  refine ⟨fun i j hci hi hj => ?_, fun i k j hci hi hck hk hj => ?_⟩
  · rw [eg]; exact h1 _ _ (hg i hci hi).1 (hg i hci hi).2 hj
  · rw [eg, eg, eg, eg]; exact h2 _ _ _ (hg i hci hi).1 (hg i hci hi).2 (hg k hck hk).1 (hg k hck hk).2 hj
/-- a column of six rows gathered -/
def ggOk (c : Nat) : Nat → Mi → Prop
  | 0, _ => False
  | n + 1, S => (∀ a, c ≤ a → a < 6 → rg (S a c)) ∧ (∃ b, lst S c (6 - c) none c = some b ∧ c ≤ b ∧ b < 6 ∧ S b c ≠ 0) ∧ (gmr (gps c (5 - c) (c + 1) (gpv c S)) c (5 - c) (c + 1) = true → ggOk c n (gps c (5 - c) (c + 1) (gpv c S)))
theorem ggo_ok {c X : Nat} (hc : c < 3) (hX : X < 2 ^ 63) : ∀ n S b, GI c X S → (∀ i j, c ≤ i → i < 6 → j < c → S i j = 0) → c ≤ b → b < 6 → S b c ≠ 0 → (S b c).natAbs ≤ n → ggOk c n S ∧ GI c X (ggo c n S) ∧ (∀ i j, c ≤ i → i < 6 → j < c → ggo c n S i j = 0) ∧ (∀ i, c < i → i < 6 → ggo c n S i c = 0) ∧ (∀ i, i < c → ∀ j, ggo c n S i j = S i j) ∧ ggo c n S c c ≠ 0 ∧ ∀ w, sp 6 (ggo c n S) w ↔ sp 6 S w := by
  intro n
  induction n with
  | zero => intro S b _ _ _ _ h1 h2; omega
  | succ n ih =>
    intro S b0 hG hZ hcb hb6 hb hn
    obtain ⟨m, m1, m2, m3', m4, m5, _⟩ := lstG (N := S) (c := c) (R := 6) (6 - c) none c (fun b' e => by cases e) (Nat.le_refl _) (by omega) (.inr ⟨b0, hcb, hb6, hb⟩)
    have hm := m5 b0 hcb hb6 hb
    have ep : gpv c S = excR S c m := by unfold gpv; rw [m1]
    have G1 := hG.exc m2 m3' hc
    have ecc : excR S c m c c = S m c := by unfold excR; rw [if_pos rfl]
    have Z1 : ∀ i j, c ≤ i → i < 6 → j < c → excR S c m i j = 0 := fun i j h1 h2 h3 => by
      unfold excR
      split
      · exact hZ m j m2 m3' h3
      · split
        · exact hZ c j (Nat.le_refl _) (by omega) h3
        · exact hZ i j h1 h2 h3
    have U1 : ∀ i, i < c → ∀ j, excR S c m i j = S i j := fun i hi j => by unfold excR; rw [if_neg (by omega), if_neg (by omega)]
    have S1 : ∀ w, sp 6 (excR S c m) w ↔ sp 6 S w := sp_excR (by omega) m3'
    have rgS : ∀ a, c ≤ a → a < 6 → rg (S a c) := fun a h1 h2 => rg_nat.mpr (Nat.lt_of_le_of_lt (hG.1 a c h1 h2 hc) hX)
    unfold ggOk ggo
    rw [ep]
    generalize hS1 : excR S c m = T at *
    have hz1 : T c c ≠ 0 := by rw [ecc]; exact m4
    have G2 := G1.ps hc hz1
    have e := gps_fst c (5 - c) (c + 1) T (by omega) (by omega)
    have em : ∀ a, c < a → a < 6 → gps c (5 - c) (c + 1) T a c = (T a c).tmod (T c c) := fun a g1 g2 => by rw [e, if_pos ⟨by omega, g2⟩, Int.tmod_def, Int.mul_comm]
    have ec : ∀ b, gps c (5 - c) (c + 1) T c b = T c b := fun b => by rw [e, if_neg (by omega)]
    have Z2 : ∀ i j, c ≤ i → i < 6 → j < c → gps c (5 - c) (c + 1) T i j = 0 := fun i j h1 h2 h3 => by
      rw [e]
      split
      · rw [Z1 i j h1 h2 h3, Z1 c j (Nat.le_refl _) (by omega) h3]; simp
      · exact Z1 i j h1 h2 h3
    have U2 : ∀ i, i < c → ∀ j, gps c (5 - c) (c + 1) T i j = S i j := fun i hi j => by rw [e, if_neg (by omega)]; exact U1 i hi j
    have S2 : ∀ w, sp 6 (gps c (5 - c) (c + 1) T) w ↔ sp 6 S w := fun w => (gps_sp w (5 - c) (c + 1) T (by omega) (by omega)).trans (S1 w)
    have hz2 : gps c (5 - c) (c + 1) T c c ≠ 0 := by rw [ec]; exact hz1
    generalize hS2 : gps c (5 - c) (c + 1) T = V at *
    cases hg : gmr V c (5 - c) (c + 1) with
    | false =>
      simp only [Bool.false_eq_true, if_false]
      exact ⟨⟨rgS, ⟨m, m1, m2, m3', m4⟩, fun h => by cases h⟩, G2, Z2, fun i h1 h2 => gmr_no (5 - c) (c + 1) (by omega) hg i (by omega) h2, U2, hz2, S2⟩
    | true =>
      simp only [if_true]
      obtain ⟨a, a1, a2, a3⟩ := gmr_ex (5 - c) (c + 1) (by omega) hg
      have lt : (V a c).natAbs < (S m c).natAbs := by
        rw [em a (by omega) a2, Int.natAbs_tmod, ← ecc]; exact Nat.mod_lt _ (by omega)
      obtain ⟨i1, i2, i3, i4, i5, i6, i7⟩ := ih V a G2 Z2 (by omega) a2 a3 (by omega)
      exact ⟨⟨rgS, ⟨m, m1, m2, m3', m4⟩, fun _ => i1⟩, i2, i3, i4, fun i hi j => (i5 i hi j).trans (U2 i hi j), i6, fun w => (i7 w).trans (S2 w)⟩
