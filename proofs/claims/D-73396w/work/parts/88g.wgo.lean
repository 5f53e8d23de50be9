set_option maxRecDepth 100000
/-! of four rows with a rest each three are left without one -/
def wls (W : Mi) : Nat → Nat → Nat → Nat
  | 0, l, _ => l
  | k + 1, l, r => wls W k (if W r 0 ≠ 0 ∧ W r 0 < W l 0 then r else l) (r + 1)
def wps (l : Nat) : Nat → Nat → Mi → Mi
  | 0, _, W => W
  | k + 1, r, W => wps l k (r + 1) (if r = l ∨ W r 0 = 0 then W else addR W r l (-(W r 0).tdiv (W l 0)))
def wmr (W : Mi) (l : Nat) : Nat → Nat → Bool
  | 0, _ => false
  | k + 1, r => if r ≠ l ∧ W r 0 ≠ 0 then true else wmr W l k (r + 1)
def wgo : Nat → Mi → Nat → Mi × Nat
  | 0, W, l => (W, l)
  | n + 1, W, l => if wmr (wps (wls W 4 l 0) 4 0 W) (wls W 4 l 0) 4 0 = true then wgo n (wps (wls W 4 l 0) 4 0 W) (wls W 4 l 0) else (wps (wls W 4 l 0) 4 0 W, wls W 4 l 0)
theorem wls_ok {W : Mi} : ∀ k l r, r + k = 4 → l < 4 → 0 < W l 0 → (∀ a, a < 4 → 0 ≤ W a 0) → wls W k l r < 4 ∧ 0 < W (wls W k l r) 0 ∧ W (wls W k l r) 0 ≤ W l 0 ∧ ∀ a, r ≤ a → a < 4 → W a 0 = 0 ∨ W (wls W k l r) 0 ≤ W a 0 := by
  intro k
  induction k with
  | zero => intro l r hr hl h0 _; exact ⟨hl, h0, Int.le_refl _, fun a h1 h2 => by omega⟩
  | succ k ih =>
    intro l r hr hl h0 hn
    rw [wls]
    by_cases h : W r 0 ≠ 0 ∧ W r 0 < W l 0
    · rw [if_pos h]
      have := hn r (by omega)
      obtain ⟨a1, a2, a3, a4⟩ := ih r (r + 1) (by omega) (by omega) (by omega) hn
      refine ⟨a1, a2, by omega, fun a h1 h2 => ?_⟩
      by_cases e : a = r
      · subst e; exact .inr a3
      · exact a4 a (by omega) h2
    · rw [if_neg h]
      obtain ⟨a1, a2, a3, a4⟩ := ih l (r + 1) (by omega) hl h0 hn
      refine ⟨a1, a2, a3, fun a h1 h2 => ?_⟩
      by_cases e : a = r
      · subst e
        by_cases hz : W a 0 = 0
        · exact .inl hz
        · right
          have : ¬ W a 0 < W l 0 := fun h' => h ⟨hz, h'⟩
          omega
      · exact a4 a (by omega) h2
theorem wps_fst (l : Nat) : ∀ k r W, r + k = 4 → ∀ a b, wps l k r W a b = if r ≤ a ∧ a < 4 ∧ a ≠ l then W a b - (W a 0).tdiv (W l 0) * W l b else W a b := by
  intro k
  induction k with
  | zero => intro r W hr a b; rw [if_neg (by omega)]; rfl
  | succ k ih =>
    intro r W hr a b
    rw [wps, ih (r + 1) _ (by omega)]
    by_cases hz : r = l ∨ W r 0 = 0
    · simp only [if_pos hz]
      by_cases e : a = r
      · subst e
        rw [if_neg (by omega)]
        rcases hz with hz | hz
        · rw [if_neg (by omega)]
        · rw [hz]; simp
      · have e' : (r + 1 ≤ a ∧ a < 4 ∧ a ≠ l) ↔ (r ≤ a ∧ a < 4 ∧ a ≠ l) := by omega
        simp only [e']
    · simp only [if_neg hz]
      have hrl : r ≠ l := fun e => hz (.inl e)
      have hc : (addR W r l (-(W r 0).tdiv (W l 0))) l = W l := by funext z; unfold addR; simp [Ne.symm hrl]
      rw [hc]
      by_cases e : a = r
      · subst e
        rw [if_neg (by omega), if_pos ⟨Nat.le_refl _, by omega, hrl⟩]
        unfold addR
        rw [if_pos rfl]
        grind
      · have ha : (addR W r l (-(W r 0).tdiv (W l 0))) a = W a := by funext z; unfold addR; simp [e]
        rw [ha]
        have e' : (r + 1 ≤ a ∧ a < 4 ∧ a ≠ l) ↔ (r ≤ a ∧ a < 4 ∧ a ≠ l) := by omega
        simp only [e']
theorem wps_ind {Pr : Mi → Prop} (h : ∀ W r l t, r < 4 → l < 4 → r ≠ l → Pr W → Pr (addR W r l t)) {l : Nat} (hl : l < 4) : ∀ k r W, r + k = 4 → Pr W → Pr (wps l k r W) := by
  intro k
  induction k with
  | zero => intro r W _ hW; exact hW
  | succ k ih =>
    intro r W hr hW
    rw [wps]
    refine ih (r + 1) _ (by omega) ?_
    split
    · exact hW
    · rename_i hh; exact h W r l _ (by omega) hl (fun e => hh (.inl e)) hW
theorem wmr_no {W : Mi} {l : Nat} : ∀ k r, r + k = 4 → wmr W l k r = false → ∀ a, r ≤ a → a < 4 → a ≠ l → W a 0 = 0 := by
  intro k
  induction k with
  | zero => intro r hr _ a h1 h2; omega
  | succ k ih =>
    intro r hr h a h1 h2 h3
    unfold wmr at h
    by_cases hz : r ≠ l ∧ W r 0 ≠ 0
    · rw [if_pos hz] at h; cases h
    · rw [if_neg hz] at h
      by_cases e : a = r
      · subst e
        rcases Decidable.em (W a 0 = 0) with h4 | h4
        · exact h4
        · exact absurd ⟨h3, h4⟩ hz
      · exact ih (r + 1) (by omega) h a (by omega) h2 h3
theorem wmr_ex {W : Mi} {l : Nat} : ∀ k r, r + k = 4 → wmr W l k r = true → ∃ a, r ≤ a ∧ a < 4 ∧ a ≠ l ∧ W a 0 ≠ 0 := by
  intro k
  induction k with
  | zero => intro r _ h; cases h
  | succ k ih =>
    intro r hr h
    unfold wmr at h
    by_cases hz : r ≠ l ∧ W r 0 ≠ 0
    · exact ⟨r, Nat.le_refl _, by omega, hz.1, hz.2⟩
    · rw [if_neg hz] at h
      obtain ⟨a, h1, h2⟩ := ih (r + 1) (by omega) h
      exact ⟨a, by omega, h2⟩
def w0 (W : Mi) : Nat := (W 0 0).toNat + (W 1 0).toNat + (W 2 0).toNat + (W 3 0).toNat
/-- one round: rests stay, are less -/
theorem wps_col {W : Mi} {l : Nat} (hl : l < 4) (h0 : 0 < W l 0) (hn : ∀ a, a < 4 → 0 ≤ W a 0) : (∀ a, a < 4 → 0 ≤ wps l 4 0 W a 0 ∧ wps l 4 0 W a 0 ≤ W a 0) ∧ wps l 4 0 W l 0 = W l 0 ∧ ∀ a, a < 4 → a ≠ l → wps l 4 0 W a 0 < W l 0 := by
  have e := wps_fst l 4 0 W rfl
  have em : ∀ a, a < 4 → a ≠ l → wps l 4 0 W a 0 = (W a 0).tmod (W l 0) := fun a h1 h2 => by rw [e, if_pos ⟨by omega, h1, h2⟩, Int.tmod_def, Int.mul_comm]
  have el : wps l 4 0 W l 0 = W l 0 := by rw [e, if_neg (by omega)]
  refine ⟨fun a ha => ?_, el, fun a h1 h2 => by rw [em a h1 h2]; exact Int.tmod_lt_of_pos _ h0⟩
  by_cases e2 : a = l
  · subst e2; rw [el]; exact ⟨hn a ha, Int.le_refl _⟩
  · rw [em a ha e2]
    have := btw_tmod (W a 0) (W l 0)
    have h1 := Int.tmod_nonneg (W l 0) (hn a ha)
    have := hn a ha
    omega
theorem wgo_ok {Pr : Mi → Prop} (h : ∀ W r l t, r < 4 → l < 4 → r ≠ l → Pr W → Pr (addR W r l t)) : ∀ n W l, l < 4 → 0 < W l 0 → (∀ a, a < 4 → 0 ≤ W a 0) → w0 W ≤ n → Pr W → (wgo n W l).2 < 4 ∧ 0 < (wgo n W l).1 (wgo n W l).2 0 ∧ (∀ a, a < 4 → a ≠ (wgo n W l).2 → (wgo n W l).1 a 0 = 0) ∧ Pr (wgo n W l).1 := by
  intro n
  induction n with
  | zero =>
    intro W l hl h0 hn hw _
    have : (W l 0).toNat ≤ w0 W := by unfold w0; rcases (show l = 0 ∨ l = 1 ∨ l = 2 ∨ l = 3 by omega) with rfl | rfl | rfl | rfl <;> omega
    omega
  | succ n ih =>
    intro W l hl h0 hn hw hP
    obtain ⟨a1, a2, a3, a4⟩ := wls_ok 4 l 0 rfl hl h0 hn
    rw [wgo]
    generalize wls W 4 l 0 = l1 at *
    obtain ⟨b1, b2, b3⟩ := wps_col a1 a2 hn
    have hP1 := wps_ind h a1 4 0 W rfl hP
    generalize hW1 : wps l1 4 0 W = W1 at *
    cases hm : wmr W1 l1 4 0 with
    | false =>
      simp only [Bool.false_eq_true, if_false]
      exact ⟨a1, by omega, fun a h1 h2 => wmr_no 4 0 rfl hm a (by omega) h1 h2, hP1⟩
    | true =>
      simp only [if_true]
      obtain ⟨a, c1, c2, c3', c4⟩ := wmr_ex 4 0 rfl hm
      refine ih W1 l1 a1 (by omega) (fun a ha => (b1 a ha).1) ?_ hP1
      -- the sum is less
      have lt : W1 a 0 < W a 0 := by
        have q1 := b3 a c2 c3'
        have q2 := (b1 a c2).1
        rcases a4 a (by omega) c2 with q | q
        · have := (b1 a c2).2; omega
        · omega
      have s0 := b1 0 (by decide)
      have s1 := b1 1 (by decide)
      have s2 := b1 2 (by decide)
      have s3 := b1 3 (by decide)
      unfold w0 at hw ⊢
      rcases (show a = 0 ∨ a = 1 ∨ a = 2 ∨ a = 3 by omega) with rfl | rfl | rfl | rfl <;> omega
/-- the rest that is left divides all -/
theorem wgo_dvd : ∀ n W l, l < 4 → 0 < W l 0 → (∀ a, a < 4 → 0 ≤ W a 0) → w0 W ≤ n → ∀ a, a < 4 → (wgo n W l).1 (wgo n W l).2 0 ∣ W a 0 := by
  intro n
  induction n with
  | zero =>
    intro W l hl h0 hn hw
    have : (W l 0).toNat ≤ w0 W := by unfold w0; rcases (show l = 0 ∨ l = 1 ∨ l = 2 ∨ l = 3 by omega) with rfl | rfl | rfl | rfl <;> omega
    omega
  | succ n ih =>
    intro W l hl h0 hn hw a ha
    obtain ⟨a1, a2, a3, a4⟩ := wls_ok 4 l 0 rfl hl h0 hn
    rw [wgo]
    generalize wls W 4 l 0 = l1 at *
    obtain ⟨b1, b2, b3⟩ := wps_col a1 a2 hn
    have e := wps_fst l1 4 0 W rfl
    have back : ∀ k : Int, (∀ a, a < 4 → k ∣ wps l1 4 0 W a 0) → ∀ a, a < 4 → k ∣ W a 0 := fun k hk a ha => by
      have kl : k ∣ W l1 0 := by have := hk l1 a1; rwa [b2] at this
      by_cases e2 : a = l1
      · subst e2; exact kl
      · have h1 := hk a ha
        rw [e, if_pos ⟨by omega, ha, e2⟩] at h1
        have h2 := Int.dvd_add h1 (Int.dvd_trans kl (Int.dvd_mul_left ((W a 0).tdiv (W l1 0)) (W l1 0)))
        rwa [Int.sub_add_cancel] at h2
    generalize hW1 : wps l1 4 0 W = W1 at *
    cases hm : wmr W1 l1 4 0 with
    | false =>
      simp only [Bool.false_eq_true, if_false]
      refine back _ (fun a h1 => ?_) a ha
      by_cases e2 : a = l1
      · subst e2; exact Int.dvd_refl _
      · rw [wmr_no 4 0 rfl hm a (by omega) h1 e2]; exact Int.dvd_zero _
    | true =>
      simp only [if_true]
      refine back _ (ih W1 l1 a1 (by omega) (fun a ha => (b1 a ha).1) ?_) a ha
      obtain ⟨a', c1, c2, c3', c4⟩ := wmr_ex 4 0 rfl hm
      have lt : W1 a' 0 < W a' 0 := by
        have q1 := b3 a' c2 c3'
        have q2 := (b1 a' c2).1
        rcases a4 a' (by omega) c2 with q | q
        · have := (b1 a' c2).2; omega
        · omega
      have s0 := b1 0 (by decide)
      have s1 := b1 1 (by decide)
      have s2 := b1 2 (by decide)
      have s3 := b1 3 (by decide)
      unfold w0 at hw ⊢
      rcases (show a' = 0 ∨ a' = 1 ∨ a' = 2 ∨ a' = 3 by omega) with rfl | rfl | rfl | rfl <;> omega
/-- what is told stays small -/
def WB (X B : Nat) (W : Mi) : Prop := ∀ j, 1 ≤ j → j < 4 → (∀ a, a < 4 → (W a j).natAbs ≤ X) ∧ ∀ a k, a < 4 → k < 4 → (W a j * W k 0 - W k j * W a 0).natAbs ≤ B
theorem WB.ps {X B : Nat} {W : Mi} {l : Nat} (hl : l < 4) (h0 : 0 < W l 0) (hB : B ≤ X * (W l 0).natAbs) (h : WB X B W) : WB X B (wps l 4 0 W) := by
  have e := wps_fst l 4 0 W rfl
  have ec : ∀ b, wps l 4 0 W l b = W l b := fun b => by rw [e, if_neg (by omega)]
  have er : ∀ a b, a < 4 → a ≠ l → wps l 4 0 W a b = W a b - (W a 0).tdiv (W l 0) * W l b := fun a b h1 h2 => by rw [e, if_pos ⟨by omega, h1, h2⟩]
  have em : ∀ a, a < 4 → a ≠ l → wps l 4 0 W a 0 = (W a 0).tmod (W l 0) := fun a h1 h2 => by rw [er a 0 h1 h2, Int.tmod_def, Int.mul_comm]
  have hz : W l 0 ≠ 0 := by omega
  intro j hj1 hj4
  obtain ⟨h1, h2⟩ := h j hj1 hj4
  refine ⟨fun i hi => ?_, fun i k hi hk => ?_⟩
  · by_cases e2 : i = l
    · subst e2; rw [ec]; exact h1 i hi
    · rw [er i j hi e2]
      exact eu_col hz (h1 i hi) (Nat.le_trans (h2 i l hi hl) hB)
  · by_cases e2 : i = l
    · subst e2
      by_cases e' : k = i
      · subst e'; rw [Int.sub_self]; simp
      · rw [ec, ec, er k j hk e', em k hk e']
        have e3 : W i j * (W k 0).tmod (W i 0) - (W k j - (W k 0).tdiv (W i 0) * W i j) * W i 0 = W i j * W k 0 - W k j * W i 0 := by rw [Int.tmod_def]; grind
        rw [e3]
        exact h2 i k hi hk
    · by_cases e' : k = l
      · subst e'
        rw [ec, ec, er i j hi e2, em i hi e2]
        have e3 : (W i j - (W i 0).tdiv (W k 0) * W k j) * W k 0 - W k j * (W i 0).tmod (W k 0) = W i j * W k 0 - W k j * W i 0 := by rw [Int.tmod_def]; grind
        rw [e3]
        exact h2 i k hi hk
      · rw [er i j hi e2, er k j hk e', em i hi e2, em k hk e']
        exact eu_two hz (h2 i l hi hl) (h2 k l hk hl) (h2 i k hi hk)
theorem wgo_WB {X B : Nat} : ∀ n W l, l < 4 → 0 < W l 0 → (∀ a, a < 4 → 0 ≤ W a 0) → w0 W ≤ n → B ≤ X * ((wgo n W l).1 (wgo n W l).2 0).natAbs → WB X B W → WB X B (wgo n W l).1 := by
  intro n
  induction n with
  | zero =>
    intro W l hl h0 hn hw
    have : (W l 0).toNat ≤ w0 W := by unfold w0; rcases (show l = 0 ∨ l = 1 ∨ l = 2 ∨ l = 3 by omega) with rfl | rfl | rfl | rfl <;> omega
    omega
  | succ n ih =>
    intro W l hl h0 hn hw hB hW
    obtain ⟨a1, a2, a3, a4⟩ := wls_ok 4 l 0 rfl hl h0 hn
    have hd := wgo_dvd (n + 1) W l hl h0 hn hw _ a1
    rw [wgo] at hB hd ⊢
    generalize wls W 4 l 0 = l1 at *
    obtain ⟨b1, b2, b3⟩ := wps_col a1 a2 hn
    have hle : ∀ k : Int, k ∣ W l1 0 → k.natAbs ≤ (W l1 0).natAbs := fun k hk => Nat.le_of_dvd (by omega) (Int.natAbs_dvd_natAbs.mpr hk)
    have hB2 : B ≤ X * (W l1 0).natAbs := Nat.le_trans hB (Nat.mul_le_mul_left _ (hle _ hd))
    have hW1' := hW.ps a1 a2 hB2
    generalize hW1 : wps l1 4 0 W = W1 at *
    cases hm : wmr W1 l1 4 0 with
    | false => simp only [hm, Bool.false_eq_true, if_false]; exact hW1'
    | true =>
      simp only [hm, if_true] at hB ⊢
      refine ih W1 l1 a1 (by omega) (fun a ha => (b1 a ha).1) ?_ hB hW1'
      obtain ⟨a', c1, c2, c3', c4⟩ := wmr_ex 4 0 rfl hm
      have lt : W1 a' 0 < W a' 0 := by
        have q1 := b3 a' c2 c3'
        have q2 := (b1 a' c2).1
        rcases a4 a' (by omega) c2 with q | q
        · have := (b1 a' c2).2; omega
        · omega
      have s0 := b1 0 (by decide)
      have s1 := b1 1 (by decide)
      have s2 := b1 2 (by decide)
      have s3 := b1 3 (by decide)
      unfold w0 at hw ⊢
      rcases (show a' = 0 ∨ a' = 1 ∨ a' = 2 ∨ a' = 3 by omega) with rfl | rfl | rfl | rfl <;> omega
