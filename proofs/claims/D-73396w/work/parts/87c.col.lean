set_option maxRecDepth 100000
/-! a column is cleared: it ends, all stays in range -/
theorem bel_ex {N : Mi} {c : Nat} : ∀ k r, r + k = 3 → bel N c k r = true → ∃ i, r ≤ i ∧ i < 3 ∧ N i c ≠ 0 := by
  intro k
  induction k with
  | zero => intro r _ h; cases h
  | succ k ih =>
    intro r hr h
    unfold bel at h
    by_cases hz : N r c = 0
    · rw [if_pos hz] at h
      obtain ⟨i, h1, h2, h3⟩ := ih (r + 1) (by omega) h
      exact ⟨i, by omega, h2, h3⟩
    · exact ⟨r, Nat.le_refl _, by omega, hz⟩
theorem bel_no {N : Mi} {c : Nat} : ∀ k r, r + k = 3 → bel N c k r = false → ∀ i, r ≤ i → i < 3 → N i c = 0 := by
  intro k
  induction k with
  | zero => intro r hr _ i h1 h2; omega
  | succ k ih =>
    intro r hr h i h1 h2
    unfold bel at h
    by_cases hz : N r c = 0
    · rw [if_pos hz] at h
      by_cases e : i = r
      · subst e; exact hz
      · exact ih (r + 1) (by omega) h i (by omega) h2
    · rw [if_neg hz] at h; cases h
theorem lst_min {N : Mi} {c : Nat} : ∀ k b r m, r + k = 3 → lst N c k b r = some m → (∀ i, r ≤ i → i < 3 → N i c ≠ 0 → (N m c).natAbs ≤ (N i c).natAbs) ∧ ∀ b', b = some b' → (N m c).natAbs ≤ (N b' c).natAbs := by
  intro k
  induction k with
  | zero =>
    intro b r m hr h
    exact ⟨fun i h1 h2 => by omega, fun b' e => by
      unfold lst at h; rw [h] at e; cases e; exact Nat.le_refl _⟩
  | succ k ih =>
    intro b r m hr h
    unfold lst at h
    by_cases hz : N r c = 0
    · rw [if_pos hz] at h
      obtain ⟨h1, h2⟩ := ih b (r + 1) m (by omega) h
      refine ⟨fun i a1 a2 a3 => ?_, h2⟩
      by_cases e : i = r
      · subst e; exact absurd hz a3
      · exact h1 i (by omega) a2 a3
    · rw [if_neg hz] at h
      cases b with
      | none =>
        obtain ⟨h1, h2⟩ := ih (some r) (r + 1) m (by omega) h
        refine ⟨fun i a1 a2 a3 => ?_, fun b' e => by cases e⟩
        by_cases e : i = r
        · subst e; exact h2 _ rfl
        · exact h1 i (by omega) a2 a3
      | some b' =>
        dsimp only at h
        by_cases hle : (N b' c).natAbs ≤ (N r c).natAbs
        · rw [if_pos hle] at h
          obtain ⟨h1, h2⟩ := ih (some b') (r + 1) m (by omega) h
          refine ⟨fun i a1 a2 a3 => ?_, fun b2 e => by cases e; exact h2 _ rfl⟩
          by_cases e : i = r
          · subst e; exact Nat.le_trans (h2 _ rfl) hle
          · exact h1 i (by omega) a2 a3
        · rw [if_neg hle] at h
          obtain ⟨h1, h2⟩ := ih (some r) (r + 1) m (by omega) h
          refine ⟨fun i a1 a2 a3 => ?_, fun b2 e => by cases e; have := h2 _ rfl; omega⟩
          by_cases e : i = r
          · subst e; exact h2 _ rfl
          · exact h1 i (by omega) a2 a3
def SE (e : Nat → Nat) : Nat := e 0 + e 1 + e 2
def dn (e : Nat → Nat) (r : Nat) : Nat → Nat := fun i => if i = r then e i - 1 else e i
theorem SE_dn {e : Nat → Nat} {r : Nat} (hr : r < 3) (h : 1 ≤ e r) : SE (dn e r) + 1 = SE e := by
  rcases c3 hr with rfl | rfl | rfl <;> simp [SE, dn] <;> omega
theorem hpass_ms {c : Nat} (hc : c < 3) : ∀ k r s e, c < r → r + k = 3 → s.1 c c ≠ 0 → (∀ i, r ≤ i → i < 3 → s.1 i c = 0 ∨ (s.1 c c).natAbs ≤ (s.1 i c).natAbs) → (∀ i, c ≤ i → i < 3 → (s.1 i c).natAbs < 2 ^ (e i)) → ∃ e' m, (∀ i, c ≤ i → i < 3 → ((hpass c k r s).1 i c).natAbs < 2 ^ (e' i)) ∧ SE e' + m = SE e ∧ (hpass c k r s).2.length = s.2.length + m ∧ ((∃ i, r ≤ i ∧ i < 3 ∧ s.1 i c ≠ 0) → 1 ≤ m) := by
  intro k
  induction k with
  | zero => intro r s e hcr hr _ _ he; exact ⟨e, 0, he, rfl, rfl, fun ⟨i, h1, h2, _⟩ => by omega⟩
  | succ k ih =>
    intro r s e hcr hr hz hm he
    rw [hpass]
    by_cases h0 : s.1 r c = 0
    · simp only [if_pos h0]
      obtain ⟨e', m, g1, g2, g3, g4⟩ := ih (r + 1) s e (by omega) (by omega) hz (fun i h1 h2 => hm i (by omega) h2) he
      refine ⟨e', m, g1, g2, g3, fun ⟨i, h1, h2, h3⟩ => g4 ⟨i, ?_, h2, h3⟩⟩
      by_cases e5 : i = r
      · subst e5; exact absurd h0 h3
      · omega
    · simp only [if_neg h0]
      have hle : (s.1 c c).natAbs ≤ (s.1 r c).natAbs := by
        rcases hm r (Nat.le_refl _) (by omega) with h | h
        · exact absurd h h0
        · exact h
      obtain ⟨q1, q2⟩ := half_tmod hz hle (he r (by omega) (by omega))
      have eo : ∀ i, i ≠ r → ∀ j, (hadd s r c (-(s.1 r c).tdiv (s.1 c c))).1 i j = s.1 i j := fun i hi j => by show addR _ _ _ _ _ _ = _; unfold addR; rw [if_neg hi]
      have er : (hadd s r c (-(s.1 r c).tdiv (s.1 c c))).1 r c = (s.1 r c).tmod (s.1 c c) := by
        show addR _ _ _ _ _ _ = _; unfold addR; rw [if_pos rfl, Int.tmod_def]; grind
      obtain ⟨e', m, g1, g2, g3, g4⟩ := ih (r + 1) (hadd s r c (-(s.1 r c).tdiv (s.1 c c))) (dn e r) (by omega) (by omega) (by rw [eo c (by omega)]; exact hz)
        (fun i h1 h2 => by rw [eo c (by omega), eo i (by omega)]; exact hm i (by omega) h2)
        (fun i h1 h2 => by
          by_cases e5 : i = r
          · subst e5; rw [er]; simp only [dn, if_true]; exact q2
          · rw [eo i e5]; simp only [dn, if_neg e5]; exact he i h1 h2)
      have l1 : (hadd s r c (-(s.1 r c).tdiv (s.1 c c))).2.length = s.2.length + 1 := by simp [hadd]
      have l2 := SE_dn (r := r) (by omega) q1
      exact ⟨e', m + 1, g1, by omega, by omega, fun _ => by omega⟩
theorem SE_sw {e : Nat → Nat} {c b : Nat} (hc : c < 3) (hb : b < 3) : SE (fun i => e (if i = c then b else if i = b then c else i)) = SE e := by
  rcases c3 hc with rfl | rfl | rfl <;> rcases c3 hb with rfl | rfl | rfl <;> simp [SE] <;> omega
/-- what holds while column c is cleared -/
def HIv (c sc X : Nat) (N0 : Mi) (s : HS) : Prop := eqL (m3 N0) (m3 s.1) ∧ Bnd c sc X s.1 ∧ (∀ i j, i < c → s.1 i j = N0 i j) ∧ ∀ i j, c ≤ i → i < 3 → j < c → s.1 i j = 0
theorem HIv.exc {c sc X b : Nat} {N0 : Mi} {s : HS} (hc : c < 3) (hcb : c ≤ b) (hb : b < 3) (h : HIv c sc X N0 s) : HIv c sc X N0 (hexc s c b) := by
  obtain ⟨h1, h2, h3, h4⟩ := h
  refine ⟨h1.tr (eqL_exc s.1 hc hb), h2.exc hc hcb hb, fun i j hi => ?_, fun i j h5 h6 h7 => ?_⟩
  · show excR s.1 c b i j = _
    unfold excR; rw [if_neg (by omega), if_neg (by omega)]; exact h3 i j hi
  · show excR s.1 c b i j = _
    unfold excR
    split
    · exact h4 b j hcb hb h7
    · split
      · exact h4 c j (Nat.le_refl _) hc h7
      · exact h4 i j h5 h6 h7
theorem HIv.pass {c sc X : Nat} {N0 : Mi} {s : HS} (hc : c < 3) (hz : s.1 c c ≠ 0) (h : HIv c sc X N0 s) : HIv c sc X N0 (hpass c (2 - c) (c + 1) s) := by
  obtain ⟨h1, h2, h3, h4⟩ := h
  have e := hpass_pas hc s
  refine ⟨h1.tr (hpass_eqL hc (2 - c) (c + 1) s (by omega) (by omega)), by rw [e]; exact Bnd_pas hc h2 hz, fun i j hi => ?_, fun i j h5 h6 h7 => ?_⟩
  · rw [e]; unfold pas; rw [if_neg (by omega)]; exact h3 i j hi
  · rw [e]; unfold pas
    split
    · rw [h4 i j h5 h6 h7, h4 c j (Nat.le_refl _) hc h7]; simp
    · exact h4 i j h5 h6 h7
def zz (c : Nat) (s : HS) : Nat := if s.1 c c = 0 then 1 else 0
theorem heu_ok {c sc X T : Nat} {N0 : Mi} (hc : c < 3) (hX : X < 2 ^ 63) (hT : T ≤ 390) : ∀ k s e, HIv c sc X N0 s → (∀ i, c ≤ i → i < 3 → (s.1 i c).natAbs < 2 ^ (e i)) → SE e + zz c s ≤ k → 2 * SE e + zz c s + s.2.length ≤ T → euOk c k s ∧ HIv c sc X N0 (heu c k s) ∧ (∀ i, c < i → i < 3 → (heu c k s).1 i c = 0) ∧ (heu c k s).2.length ≤ T := by
  intro k
  have crg : ∀ s : HS, HIv c sc X N0 s → colrg c s.1 := fun s h r h1 h2 => rg_nat.mpr (Nat.lt_of_le_of_lt (h.2.1.1 r c h1 h2 (Nat.le_refl _) hc).1 hX)
  induction k with
  | zero =>
    intro s e hI he hk hT2
    have e0 : e 0 = 0 ∧ e 1 = 0 ∧ e 2 = 0 := by unfold SE at hk; omega
    have hn : bel s.1 c (2 - c) (c + 1) = false := by
      cases hb : bel s.1 c (2 - c) (c + 1) with
      | false => rfl
      | true =>
        obtain ⟨i, h1, h2, h3⟩ := bel_ex (2 - c) (c + 1) (by omega) hb
        have := he i (by omega) h2
        have e1 : e i = 0 := by rcases c3 h2 with rfl | rfl | rfl <;> omega
        rw [e1] at this; simp at this; exact absurd this h3
    refine ⟨⟨crg s hI, hn⟩, hI, fun i h1 h2 => bel_no (2 - c) (c + 1) (by omega) hn i (by omega) h2, by show s.2.length ≤ T; omega⟩
  | succ k ih =>
    intro s e hI he hk hT2
    cases hb : bel s.1 c (2 - c) (c + 1) with
    | false =>
      have e1 : heu c (k + 1) s = s := by rw [heu, if_neg (by rw [hb]; decide)]
      refine ⟨⟨crg s hI, .inl hb⟩, by rw [e1]; exact hI, fun i h1 h2 => by rw [e1]; exact bel_no (2 - c) (c + 1) (by omega) hb i (by omega) h2, by rw [e1]; omega⟩
    | true =>
      have e1 : heu c (k + 1) s = heu c k (hround c s) := by rw [heu, if_pos hb]
      obtain ⟨b, b1, b2, b3, b4⟩ := lst_bel hc hb
      obtain ⟨m1, _⟩ := lst_min (3 - c) none c b (by omega) b1
      obtain ⟨i0, i1, i2, i3⟩ := bel_ex (2 - c) (c + 1) (by omega) hb
      have key : ∃ s1 e1, hpiv c s = s1 ∧ HIv c sc X N0 s1 ∧ s1.1 c c ≠ 0 ∧ (∀ i, c + 1 ≤ i → i < 3 → s1.1 i c = 0 ∨ (s1.1 c c).natAbs ≤ (s1.1 i c).natAbs) ∧ (∀ i, c ≤ i → i < 3 → (s1.1 i c).natAbs < 2 ^ (e1 i)) ∧ SE e1 = SE e ∧ ((s1.2.length = s.2.length ∧ ∃ i, c + 1 ≤ i ∧ i < 3 ∧ s1.1 i c ≠ 0) ∨ (s1.2.length = s.2.length + 1 ∧ (zz c s = 1 ∨ ∃ i, c + 1 ≤ i ∧ i < 3 ∧ s1.1 i c ≠ 0))) := by
        by_cases ebc : b = c
        · subst ebc
          refine ⟨s, e, by unfold hpiv; rw [b1]; simp, hI, b4, fun i h1 h2 => ?_, he, rfl, .inl ⟨rfl, i0, i1, i2, i3⟩⟩
          by_cases hz : s.1 i b = 0
          · exact .inl hz
          · exact .inr (m1 i (by omega) h2 hz)
        · have ecc : (hexc s c b).1 c c = s.1 b c := by show excR s.1 c b c c = _; unfold excR; rw [if_pos rfl]
          refine ⟨hexc s c b, fun i => e (if i = c then b else if i = b then c else i), by unfold hpiv; rw [b1]; simp [ebc], hI.exc hc b2 b3, by rw [ecc]; exact b4, fun i h1 h2 => ?_, fun i h1 h2 => ?_, SE_sw hc b3, .inr ⟨by simp [hexc], ?_⟩⟩
          · rw [ecc]
            show excR s.1 c b i c = 0 ∨ _ ≤ (excR s.1 c b i c).natAbs
            unfold excR
            rw [if_neg (by omega)]
            by_cases e2 : i = b
            · rw [if_pos e2]
              by_cases hz : s.1 c c = 0
              · exact .inl hz
              · exact .inr (m1 c (Nat.le_refl _) hc hz)
            · rw [if_neg e2]
              by_cases hz : s.1 i c = 0
              · exact .inl hz
              · exact .inr (m1 i (by omega) h2 hz)
          · show (excR s.1 c b i c).natAbs < _
            unfold excR
            by_cases e2 : i = c
            · simp only [if_pos e2]; exact he b b2 b3
            · simp only [if_neg e2]
              by_cases e3 : i = b
              · simp only [if_pos e3]; exact he c (Nat.le_refl _) hc
              · simp only [if_neg e3]; exact he i h1 h2
          · by_cases hz : s.1 c c = 0
            · left; unfold zz; rw [if_pos hz]
            · refine .inr ⟨b, by omega, b3, ?_⟩
              show excR s.1 c b b c ≠ 0
              unfold excR
              rw [if_neg ebc, if_pos rfl]; exact hz
      obtain ⟨s1, e2, k1, k2, k3, k4, k5, k6, k7⟩ := key
      obtain ⟨e', m, g1, g2, g3, g4⟩ := hpass_ms hc (2 - c) (c + 1) s1 e2 (by omega) (by omega) k3 k4 k5
      have er : hround c s = hpass c (2 - c) (c + 1) s1 := by unfold hround; rw [k1]
      have k8 := k2.pass hc k3
      have k9 : (hpass c (2 - c) (c + 1) s1).1 c c ≠ 0 := by rw [hpass_pas hc]; unfold pas; rw [if_neg (by omega)]; exact k3
      have z2 : zz c (hpass c (2 - c) (c + 1) s1) = 0 := by unfold zz; rw [if_neg k9]
      have hzz : zz c s ≤ 1 := by unfold zz; split <;> omega
      have mm : SE e' + 0 ≤ k ∧ 2 * SE e' + 0 + (hpass c (2 - c) (c + 1) s1).2.length ≤ T := by
        rcases k7 with ⟨l1, l2⟩ | ⟨l1, l2 | l2⟩
        · have := g4 l2; omega
        · omega
        · have := g4 l2; omega
      have := ih (hround c s) e' (by rw [er]; exact k8) (by rw [er]; exact g1) (by rw [er, z2]; exact mm.1) (by rw [er, z2]; exact mm.2)
      rw [e1]
      exact ⟨⟨crg s hI, .inr ⟨by omega, this.1⟩⟩, this.2⟩
