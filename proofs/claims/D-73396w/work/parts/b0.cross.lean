/-! the twin: two rows that span a plane's points, and what they make -/
set_option maxRecDepth 100000
def CI (p : Nat → Int32) (u0 : TS) (D : Int) (A : Nat → Int) (N : Mi) (u : TS) : Prop := tR 18 u N ∧ (∀ i, i < 3 → tB u 39 i = li (acr N p i)) ∧ dtf N = D ∧ (∀ i, i < 3 → rg (acr N p i)) ∧ (∀ d : Int, (∀ i, i < 3 → d ∣ acr N p i) ↔ ∀ i, i < 3 → d ∣ A i) ∧ Fr [18, 38, 39] u0 u
theorem dtf_add {N : Mi} {r l : Nat} (hr : r < 3) (hl : l < 3) (hne : r ≠ l) (q : Int) : dtf (addR N r l q) = dtf N := by
  rcases c3 hr with rfl | rfl | rfl <;> rcases c3 hl with rfl | rfl | rfl <;> first | exact absurd rfl hne | (simp only [dtf, mnr, addR]; simp; grind)
theorem acr_add {N : Mi} {p : Nat → Int32} {r l : Nat} (q : Int) : acr (addR N r l q) p r = acr N p r + q * acr N p l := by
  unfold acr addR; simp only [if_true]; grind
theorem acr_add_o {N : Mi} {p : Nat → Int32} {r l a : Nat} (q : Int) (h : a ≠ r) : acr (addR N r l q) p a = acr N p a := by
  unfold acr addR; simp only [if_neg h]
theorem X3_c218 {f : Nat} (hf : 4 ≤ f) {k70 : TS → Int32 → Int32 → Option TS} {k150 : TS → Int32 → Int32 → Int32 → Option TS} {u : TS} {N : Mi} (hN : tR 18 u N) {r l : Nat} (hr : r < 3) (hl : l < 3) (hne : r ≠ l) (q : Int) (x4 : Int32) : ∃ u', m_X3_crosses_218 f k70 k150 f u x4 (ni l) (ni r) (li q) 0 = m_X3_crosses_260 f k70 k150 u' x4 (ni l) (ni r) ∧ tR 18 u' (addR N r l (-q)) ∧ Fr [18] u u' := by
  obtain ⟨u2, p2, e2⟩ := loop3v (fun n v x => m_X3_crosses_218 f k70 k150 n v x4 (ni l) (ni r) (li q) x) (fun v => m_X3_crosses_260 f k70 k150 v x4 (ni l) (ni r)) (fun j v => tR 18 v (upc N (addR N r l (-q)) j) ∧ Fr [18] u v)
    (fun n v _ => by rw [m_X3_crosses_218, if_pos le33])
    (fun n v j hj p => by
      obtain ⟨a1, a2⟩ := p
      refine ⟨_, ?_, (show tM 18 3 3 3 v (upc N (addR N r l (-q)) j) from a1).one (by decide) (r := r) hj (fun a _ ha => by unfold addR; rw [if_neg ha]), a2.tr (Fr.sB (by decide))⟩
      have e1 : upc N (addR N r l (-q)) j r j = N r j := by unfold upc; rw [if_neg (by omega)]
      have e2 : upc N (addR N r l (-q)) j l j = N l j := by unfold upc; rw [if_neg (by omega)]
      have e3 : addR N r l (-q) r j = N r j - q * N l j := by unfold addR; rw [if_pos rfl]; grind
      have q1 := a1 r j hr hj
      have q2 := a1 l j hl hj
      rw [m_X3_crosses_218, if_neg (le3 hj), gd_of (i3x hr hj), gd_of (i3x hl hj), gd_of (i3x hr hj)]
      simp only [nmv_eq]
      rw [i3c hr hj, i3c hl hj, q1, q2, e1, e2, li_mul, li_sub, e3, ni_succ])
    hf (v := u) ⟨hN.congr (fun a b _ _ => by unfold upc; rw [if_neg (by omega)]), Fr.rf⟩
  exact ⟨u2, e2, p2.1.congr (fun a b _ hb => by unfold upc; rw [if_pos hb]), p2.2⟩
theorem X3_c150 {f : Nat} (hf : 4 ≤ f) {k70 : TS → Int32 → Int32 → Option TS} {p : Nat → Int32} {u0 : TS} {D : Int} {A : Nat → Int} {l : Nat} (hl : l < 3) {pv : Int} (hp : pv ≠ 0) : ∀ k n r u N (b : Bool), r + k = 3 → k < n → CI p u0 D A N u → acr N p l = pv → (∀ a, a < r → a ≠ l → (acr N p a).natAbs < pv.natAbs) → (b = false → ∀ a, a < r → a ≠ l → acr N p a = 0) → (b = true → ∃ a, a < r ∧ a ≠ l ∧ acr N p a ≠ 0) → ∃ u' N' b', m_X3_crosses_150 f k70 n u (if b = true then 1 else 0) (ni l) (ni r) = k70 u' (if b' = true then 1 else 0) (ni l) ∧ CI p u0 D A N' u' ∧ acr N' p l = pv ∧ (∀ a, a < 3 → a ≠ l → (acr N' p a).natAbs < pv.natAbs) ∧ (b' = false → ∀ a, a < 3 → a ≠ l → acr N' p a = 0) ∧ (b' = true → ∃ a, a < 3 ∧ a ≠ l ∧ acr N' p a ≠ 0) := by
  intro k
  induction k with
  | zero =>
    intro n r u N b hr hn hC h1 h2 h3 h4
    obtain ⟨n, rfl⟩ : ∃ z, n = z + 1 := ⟨n - 1, by omega⟩
    have : r = 3 := by omega
    subst this
    refine ⟨u, N, b, ?_, hC, h1, h2, h3, h4⟩
    rw [m_X3_crosses_150, if_pos le33]
    rfl
  | succ k ih =>
    intro n r u N b hr hn hC h1 h2 h3 h4
    obtain ⟨n, rfl⟩ : ∃ z, n = z + 1 := ⟨n - 1, by omega⟩
    have r3 : r < 3 := by omega
    obtain ⟨c1, c2, c3', c4, c5, c6⟩ := hC
    rw [m_X3_crosses_150, if_neg (le3 r3)]
    have skip : (r = l ∨ acr N p r = 0) → ∃ u' N' b', m_X3_crosses_284 f k70 (m_X3_crosses_150 f k70 n) u (if b = true then 1 else 0) (ni l) (ni r) = k70 u' (if b' = true then 1 else 0) (ni l) ∧ CI p u0 D A N' u' ∧ acr N' p l = pv ∧ (∀ a, a < 3 → a ≠ l → (acr N' p a).natAbs < pv.natAbs) ∧ (b' = false → ∀ a, a < 3 → a ≠ l → acr N' p a = 0) ∧ (b' = true → ∃ a, a < 3 ∧ a ≠ l ∧ acr N' p a ≠ 0) := fun hs => by
      unfold m_X3_crosses_284
      rw [nmv_eq, ni_succ]
      refine ih n (r + 1) u N b (by omega) (by omega) ⟨c1, c2, c3', c4, c5, c6⟩ h1 (fun a ha hne => ?_) (fun hb a ha hne => ?_) (fun hb => ?_)
      · by_cases e : a = r
        · subst e; rcases hs with h | h
          · exact absurd h hne
          · rw [h]; omega
        · exact h2 a (by omega) hne
      · by_cases e : a = r
        · subst e; rcases hs with h | h
          · exact absurd h hne
          · exact h
        · exact h3 hb a (by omega) hne
      · obtain ⟨a, a1, a2, a3⟩ := h4 hb
        exact ⟨a, by omega, a2, a3⟩
    by_cases hrl : r = l
    · rw [if_pos ((nie (by omega) (by omega)).mpr hrl)]
      exact skip (.inl hrl)
    · rw [if_neg (fun e => hrl ((nie (by omega) (by omega)).mp e)), gd_of (ix_ni r3 (by decide)), ni_clamp (by omega), c2 r r3]
      by_cases hz : acr N p r = 0
      · rw [if_neg (show ¬ ¬ li (acr N p r) = 0 from fun h => h (by rw [hz]; rfl))]
        exact skip (.inr hz)
      · have gl : rg (acr N p l) := c4 l hl
        have gr' : rg (acr N p r) := c4 r r3
        rw [if_pos (show ¬ li (acr N p r) = 0 from fun e => hz ((li_inj gr' rg_0).mp e)), gd_of (ix_ni r3 (by decide)), gd_of (ix_ni hl (by decide)), ni_clamp (by omega), c2 l hl, gd_of (nzL_li gl (by rw [h1]; exact hp)), nmv_eq, li_div gr' gl, gd_of (ix_ni r3 (by decide)), gd_of (ix_ni hl (by decide)), gd_of (ix_ni r3 (by decide)), nmv_eq, li_mul, li_sub]
        generalize hq : (acr N p r).tdiv (acr N p l) = q
        have e39 : acr N p r - q * acr N p l = acr (addR N r l (-q)) p r := by rw [acr_add]; grind
        have emod : acr (addR N r l (-q)) p r = (acr N p r).tmod (acr N p l) := by rw [acr_add, Int.tmod_def, hq]; grind
        obtain ⟨u1, g1, g2, g3⟩ := X3_c218 (k70 := k70) (k150 := m_X3_crosses_150 f k70 n) hf (u := sB u 39 r (li (acr N p r - q * acr N p l))) (c1.fr (l := [39]) (Fr.sB (by decide)) (by decide)) r3 hl hrl q (if b = true then 1 else 0)
        rw [g1]
        generalize hN1 : addR N r l (-q) = N1 at *
        have o1 : ∀ a, a ≠ r → acr N1 p a = acr N p a := fun a ha => by rw [← hN1]; exact acr_add_o _ ha
        have gN1 : rg (acr N1 p r) := by rw [emod]; exact rg_tmod gr'
        have d2 : ∀ i, i < 3 → tB u1 39 i = li (acr N1 p i) := fun i hi => by
          rw [(g3 39 (by decide)).2.2.2, tB_sB]
          by_cases e : i = r
          · subst e; rw [if_pos ⟨rfl, rfl⟩, e39]
          · rw [if_neg (fun h => e h.2), o1 i e]; exact c2 i hi
        have key : m_X3_crosses_260 f k70 (m_X3_crosses_150 f k70 n) u1 (if b = true then 1 else 0) (ni l) (ni r) = m_X3_crosses_150 f k70 n u1 (if (b || decide (acr N1 p r ≠ 0)) = true then 1 else 0) (ni l) (ni (r + 1)) := by
          unfold m_X3_crosses_260 m_X3_crosses_277 m_X3_crosses_282 m_X3_crosses_284
          simp only [nmv_eq, ni_succ]
          cases b with
          | true => simp
          | false =>
            rw [if_neg (by simp), gd_of (ix_ni r3 (by decide)), ni_clamp (by omega), d2 r r3]
            by_cases hz1 : acr N1 p r = 0
            · rw [if_pos (show li (acr N1 p r) = 0 by rw [hz1]; rfl)]; simp [hz1]
            · rw [if_neg (show ¬ li (acr N1 p r) = 0 from fun e => hz1 ((li_inj gN1 rg_0).mp e))]; simp [hz1]
        rw [key]
        have al : acr N1 p l = pv := by rw [o1 l (Ne.symm hrl)]; exact h1
        refine ih n (r + 1) u1 N1 (b || decide (acr N1 p r ≠ 0)) (by omega) (by omega) ⟨g2, d2, ?_, fun i hi => ?_, fun d => ?_, ?_⟩ al (fun a ha hne => ?_) (fun hb a ha hne => ?_) (fun hb => ?_)
        · rw [← hN1, dtf_add r3 hl hrl]; exact c3'
        · by_cases e : i = r
          · subst e; exact gN1
          · rw [o1 i e]; exact c4 i hi
        · rw [← c5 d]
          have er : acr N1 p r = acr N p r - q * acr N p l := e39.symm
          constructor
          · intro h i hi
            by_cases e : i = r
            · subst e
              have x1 := h i r3
              have x2 := h l hl
              rw [o1 l (Ne.symm hrl)] at x2
              have : acr N p i = acr N1 p i + q * acr N p l := by rw [er]; grind
              rw [this]
              exact Int.dvd_add x1 (Int.dvd_trans x2 (Int.dvd_mul_left _ _))
            · have := h i hi; rwa [o1 i e] at this
          · intro h i hi
            by_cases e : i = r
            · subst e
              rw [er]
              exact Int.dvd_sub (h i r3) (Int.dvd_trans (h l hl) (Int.dvd_mul_left _ _))
            · rw [o1 i e]; exact h i hi
        · exact c6.tr ((Fr.sB (by decide)).tr (g3.mono (by decide)))
        · by_cases e : a = r
          · subst e
            rw [emod, h1]
            rw [Int.natAbs_tmod]; exact Nat.mod_lt _ (Int.natAbs_pos.mpr hp)
          · rw [o1 a e]; exact h2 a (by omega) hne
        · have hb1 := Bool.or_eq_false_iff.mp hb
          by_cases e : a = r
          · subst e
            have := of_decide_eq_false hb1.2
            exact Classical.not_not.mp this
          · rw [o1 a e]; exact h3 hb1.1 a (by omega) hne
        · by_cases hz1 : acr N1 p r = 0
          · have : b = true := by simpa [hz1] using hb
            obtain ⟨a, a1, a2, a3⟩ := h4 this
            exact ⟨a, by omega, a2, by rw [o1 a (by omega)]; exact a3⟩
          · exact ⟨r, by omega, hrl, hz1⟩

theorem X3_c81 {f : Nat} {k70 : TS → Int32 → Int32 → Option TS} {p : Nat → Int32} {u : TS} {N : Mi} (c2 : ∀ i, i < 3 → tB u 39 i = li (acr N p i)) (c4 : ∀ i, i < 3 → rg (acr N p i)) (hz : ∃ a, a < 3 ∧ acr N p a ≠ 0) : ∀ k n r (b : Option Nat), r + k = 3 → k < n → (b = none → ∀ a, a < r → acr N p a = 0) → (∀ l, b = some l → l < r ∧ acr N p l ≠ 0 ∧ ∀ a, a < r → acr N p a ≠ 0 → (acr N p l).natAbs ≤ (acr N p a).natAbs) → ∃ l, m_X3_crosses_81 f k70 n u (oni b) (ni r) = m_X3_crosses_144 f k70 u (ni l) ∧ l < 3 ∧ acr N p l ≠ 0 ∧ ∀ a, a < 3 → acr N p a ≠ 0 → (acr N p l).natAbs ≤ (acr N p a).natAbs := by
  intro k
  induction k with
  | zero =>
    intro n r b hr hn h1 h2
    obtain ⟨n, rfl⟩ : ∃ z, n = z + 1 := ⟨n - 1, by omega⟩
    have : r = 3 := by omega
    subst this
    rw [m_X3_crosses_81, if_pos le33]
    cases b with
    | none => obtain ⟨a, a1, a2⟩ := hz; exact absurd (h1 rfl a a1) a2
    | some l => exact ⟨l, rfl, h2 l rfl⟩
  | succ k ih =>
    intro n r b hr hn h1 h2
    obtain ⟨n, rfl⟩ : ∃ z, n = z + 1 := ⟨n - 1, by omega⟩
    have r3 : r < 3 := by omega
    rw [m_X3_crosses_81, if_neg (le3 r3), gd_of (ix_ni r3 (by decide)), ni_clamp (by omega), c2 r r3]
    have keep : (acr N p r = 0 ∨ ∃ l, b = some l ∧ (acr N p l).natAbs ≤ (acr N p r).natAbs) → ∃ l, m_X3_crosses_134 f k70 (m_X3_crosses_81 f k70 n) u (oni b) (ni r) = m_X3_crosses_144 f k70 u (ni l) ∧ l < 3 ∧ acr N p l ≠ 0 ∧ ∀ a, a < 3 → acr N p a ≠ 0 → (acr N p l).natAbs ≤ (acr N p a).natAbs := fun hk => by
      unfold m_X3_crosses_134 m_X3_crosses_136
      rw [nmv_eq, ni_succ]
      refine ih n (r + 1) b (by omega) (by omega) (fun hb a ha => ?_) (fun l hb => ?_)
      · by_cases e : a = r
        · subst e
          rcases hk with h | ⟨l, h, _⟩
          · exact h
          · rw [hb] at h; cases h
        · exact h1 hb a (by omega)
      · obtain ⟨a1, a2, a3⟩ := h2 l hb
        refine ⟨by omega, a2, fun a ha hne => ?_⟩
        by_cases e : a = r
        · subst e
          rcases hk with h | ⟨l', h, h'⟩
          · exact absurd h hne
          · rw [hb] at h; cases h; exact h'
        · exact a3 a (by omega) hne
    have take : acr N p r ≠ 0 → (∀ l, b = some l → (acr N p r).natAbs ≤ (acr N p l).natAbs) → ∃ l, m_X3_crosses_129 f k70 (m_X3_crosses_81 f k70 n) u (ni r) = m_X3_crosses_144 f k70 u (ni l) ∧ l < 3 ∧ acr N p l ≠ 0 ∧ ∀ a, a < 3 → acr N p a ≠ 0 → (acr N p l).natAbs ≤ (acr N p a).natAbs := fun hr0 hk => by
      unfold m_X3_crosses_129 m_X3_crosses_136
      rw [nmv_eq, ni_succ]
      refine ih n (r + 1) (some r) (by omega) (by omega) (fun hb => by cases hb) (fun l hb => ?_)
      cases hb
      refine ⟨by omega, hr0, fun a ha hne => ?_⟩
      by_cases e : a = r
      · subst e; exact Nat.le_refl _
      · cases b with
        | none => exact absurd (h1 rfl a (by omega)) hne
        | some l => exact Nat.le_trans (hk l rfl) ((h2 l rfl).2.2 a (by omega) hne)
    by_cases hz1 : acr N p r = 0
    · rw [if_pos (show li (acr N p r) = 0 by rw [hz1]; rfl)]
      exact keep (.inl hz1)
    · rw [if_neg (show ¬ li (acr N p r) = 0 from fun e => hz1 ((li_inj (c4 r r3) rg_0).mp e))]
      cases b with
      | none =>
        rw [if_pos (show oni none = (-1 : Int32) from rfl)]
        exact take hz1 (fun l h => by cases h)
      | some l =>
        have l3 : l < 3 := by have := (h2 l rfl).1; omega
        rw [if_neg (show ¬ oni (some l) = (-1 : Int32) from ni_m1 l3), gd_of (ix_ni r3 (by decide)), sized_li (c4 r r3), bd_some, show oni (some l) = ni l from rfl, gd_of (ix_ni l3 (by decide)), ni_clamp (by omega), c2 l l3, sized_li (c4 l l3), bd_some]
        have ga : ∀ i, i < 3 → rg ((acr N p i).natAbs : Int) := fun i hi => by have := rg_nat.mp (c4 i hi); exact rg_nat.mpr (by simpa using this)
        by_cases hle : (acr N p l).natAbs ≤ (acr N p r).natAbs
        · rw [if_pos ((li_le (ga l l3) (ga r r3)).mpr (by omega))]
          exact keep (.inr ⟨l, rfl, hle⟩)
        · rw [if_neg (fun e => hle (by have := (li_le (ga l l3) (ga r r3)).mp e; omega))]
          exact take hz1 (fun l' h => by cases h; omega)
theorem X3_c70 {f : Nat} (hf : 4 ≤ f) {p : Nat → Int32} {u0 : TS} {D : Int} {A : Nat → Int} : ∀ m n u N x5, m + 1 < n → CI p u0 D A N u → (∃ a, a < 3 ∧ acr N p a ≠ 0 ∧ (acr N p a).natAbs ≤ m) → ∃ u' N' l, m_X3_crosses_70 f n u 1 x5 = m_X3_crosses_293 f u' (ni l) ∧ CI p u0 D A N' u' ∧ l < 3 ∧ acr N' p l ≠ 0 ∧ ∀ a, a < 3 → a ≠ l → acr N' p a = 0 := by
  intro m
  induction m with
  | zero => intro n u N x5 _ _ h; obtain ⟨a, _, a2, a3⟩ := h; omega
  | succ m ih =>
    intro n u N x5 hn hC h
    obtain ⟨n, rfl⟩ : ∃ z, n = z + 1 := ⟨n - 1, by omega⟩
    obtain ⟨a, a1, a2, a3⟩ := h
    have hC' := hC
    obtain ⟨c1, c2, c3', c4, c5, c6⟩ := hC
    obtain ⟨l, e1, l3, lz, lm⟩ := X3_c81 (f := f) (k70 := m_X3_crosses_70 f n) c2 c4 ⟨a, a1, a2⟩ 3 f 0 none rfl (by omega) (fun _ a ha => by omega) (fun l h => by cases h)
    have e1' : m_X3_crosses_81 f (m_X3_crosses_70 f n) f u (-1) 0 = _ := e1
    rw [m_X3_crosses_70, if_neg (by decide), e1']
    unfold m_X3_crosses_144
    obtain ⟨u', N', b', g1, g2, g3, g4, g5, g6⟩ := X3_c150 (f := f) hf (k70 := m_X3_crosses_70 f n) l3 lz 3 f 0 u N false rfl (by omega) hC' rfl (fun a ha => by omega) (fun _ a ha => by omega) (fun h => by cases h)
    have g1' : m_X3_crosses_150 f (m_X3_crosses_70 f n) f u 0 (ni l) 0 = _ := g1
    rw [g1']
    cases b' with
    | false =>
      obtain ⟨n, rfl⟩ : ∃ z, n = z + 1 := ⟨n - 1, by omega⟩
      refine ⟨u', N', l, ?_, g2, l3, by rw [g3]; exact lz, g5 rfl⟩
      show m_X3_crosses_70 f (n + 1) u' 0 (ni l) = _
      rw [m_X3_crosses_70, if_pos rfl]
    | true =>
      obtain ⟨b, b1, b2, b3⟩ := g6 rfl
      have := g4 b b1 b2
      have := lm a a1 a2
      exact ih n u' N' (ni l) (by omega) g2 ⟨b, b1, b3, by omega⟩
def crs (N : Mi) (l j : Nat) : Int := N ((l + 1) % 3) ((j + 1) % 3) * N ((l + 2) % 3) ((j + 2) % 3) - N ((l + 1) % 3) ((j + 2) % 3) * N ((l + 2) % 3) ((j + 1) % 3)
theorem crs_ok {N : Mi} {p : Nat → Int32} {l : Nat} (hl : l < 3) (hz : ∀ a, a < 3 → a ≠ l → acr N p a = 0) {j : Nat} (hj : j < 3) : acr N p l * crs N l j = dtf N * (p j).toInt := by
  have z : ∀ a, a < 3 → a ≠ l → acr N p a = 0 := hz
  have id : acr N p l * crs N l j + acr N p ((l + 1) % 3) * crs N ((l + 1) % 3) j + acr N p ((l + 2) % 3) * crs N ((l + 2) % 3) j = dtf N * (p j).toInt := by
    rcases c3 hl with rfl | rfl | rfl <;> rcases c3 hj with rfl | rfl | rfl <;> (simp only [acr, crs, dtf, mnr, Nat.reduceAdd, Nat.reduceMod]; grind)
  rw [z ((l + 1) % 3) (Nat.mod_lt _ (by decide)) (by omega), z ((l + 2) % 3) (Nat.mod_lt _ (by decide)) (by omega)] at id
  rw [← id]; grind
theorem rm3 {l : Nat} (hl : l < 3) : rmI (ni l + 1) 3 = ni ((l + 1) % 3) ∧ rmI (ni l + 2) 3 = ni ((l + 2) % 3) := by
  rcases c3 hl with rfl | rfl | rfl <;> exact ⟨by decide, by decide⟩
theorem X3_crosses {f : Nat} (hf : 2 ^ 63 ≤ f) {u : TS} {N : Mi} (hR : tR 18 u N) {p : Nat → Int32} (hb : ∀ i, i < 3 → (acr N p i).natAbs < 2 ^ 60) (hz : ∃ i, i < 3 ∧ acr N p i ≠ 0) : ∃ (u' : TS) (e : Int) (c : Nat → Int), m_X3_crosses f u (p 0) (p 1) (p 2) = some u' ∧ (∀ j, j < 3 → tB u' 38 j = li (c j)) ∧ (∀ j, j < 3 → e * c j = dtf N * (p j).toInt) ∧ e ≠ 0 ∧ (∀ d : Int, d ∣ e ↔ ∀ i, i < 3 → d ∣ acr N p i) ∧ Fr [18, 38, 39] u u' := by
  unfold m_X3_crosses
  obtain ⟨u2, ⟨p1, p2⟩, e2⟩ := loop3v (fun n v x => m_X3_crosses_3 f n v (p 0) (p 1) (p 2) x) (fun v => m_X3_crosses_64 f v) (fun j v => (∀ i, i < j → tB v 39 i = li (acr N p i)) ∧ Fr [39] u v)
    (fun n v _ => by rw [m_X3_crosses_3, if_pos le33])
    (fun n v j hj q => by
      obtain ⟨q1, q2⟩ := q
      have r := hR.fr q2 (by decide)
      refine ⟨sB v 39 j (li (acr N p j)), ?_, fun i hi => ?_, q2.tr (Fr.sB (by decide))⟩
      · have z0' : (3 : Int32) * ni j = (3 : Int32) * ni j + ni 0 := by rw [show ni 0 = 0 from rfl, Int32.add_zero]
        rw [m_X3_crosses_3, if_neg (le3 hj), z0', show (1 : Int32) = ni 1 from rfl, show (2 : Int32) = ni 2 from rfl]
        rw [show (3 : Int32) * ni j + ni 0 + ni 1 = (3 : Int32) * ni j + ni 1 by rw [← z0'], show (3 : Int32) * ni j + ni 0 + ni 2 = (3 : Int32) * ni j + ni 2 by rw [← z0'], gd_of (i3x hj (by decide)), gd_of (i3x hj (by decide)), gd_of (i3x hj (by decide)), gd_of (ix_ni hj (by decide))]
        simp only [nmv_eq]
        rw [i3c hj (by decide), i3c hj (by decide), i3c hj (by decide), r j 0 hj (by decide), r j 1 hj (by decide), r j 2 hj (by decide), toL, toL, toL, li_mul, li_mul, li_mul, li_add, li_add, ni_clamp (by omega)]
        rw [show (p 0).toInt * N j 0 + (p 1).toInt * N j 1 + (p 2).toInt * N j 2 = acr N p j by unfold acr; grind, show ni j + ni 1 = ni (j + 1) from ni_succ j]
      · rw [tB_sB]
        by_cases e : i = j
        · subst e; rw [if_pos ⟨rfl, rfl⟩]
        · rw [if_neg (fun h => e h.2)]; exact q1 i (by omega))
    (show 4 ≤ f by omega) (v := u) ⟨fun i hi => by omega, Fr.rf⟩
  have e2' : m_X3_crosses_3 f f u (p 0) (p 1) (p 2) 0 = _ := e2
  rw [e2']
  unfold m_X3_crosses_64
  obtain ⟨a, a1, a2⟩ := hz
  obtain ⟨u3, N', l, g1, ⟨g2, g3, g4, g5, g6, g7⟩, l3, lz, lo⟩ := X3_c70 (f := f) (by omega) (2 ^ 60) f u2 N (-1) (by omega) (D := dtf N) (A := acr N p) (p := p) (u0 := u) ⟨hR.fr p2 (by decide), p1, rfl, fun i hi => rg_nat.mpr (by have := hb i hi; omega), fun d => Iff.rfl, p2.mono (by decide)⟩ ⟨a, a1, a2, by have := hb a a1; omega⟩
  rw [g1]
  unfold m_X3_crosses_293
  simp only [nmv_eq]
  rw [(rm3 l3).1, (rm3 l3).2]
  have la : (l + 1) % 3 < 3 := Nat.mod_lt _ (by decide)
  have lb : (l + 2) % 3 < 3 := Nat.mod_lt _ (by decide)
  obtain ⟨u4, ⟨s1, s2⟩, e4⟩ := loop3v (fun n v x => m_X3_crosses_316 f n v ((3 : Int32) * ni ((l + 1) % 3)) ((3 : Int32) * ni ((l + 2) % 3)) x) (fun v => some v) (fun j v => (∀ i, i < j → tB v 38 i = li (crs N' l i)) ∧ Fr [38] u3 v)
    (fun n v _ => by rw [m_X3_crosses_316, if_pos le33]; rfl)
    (fun n v j hj q => by
      obtain ⟨q1, q2⟩ := q
      have r := g2.fr q2 (by decide)
      have ja : (j + 1) % 3 < 3 := Nat.mod_lt _ (by decide)
      have jb : (j + 2) % 3 < 3 := Nat.mod_lt _ (by decide)
      refine ⟨sB v 38 j (li (crs N' l j)), ?_, fun i hi => ?_, q2.tr (Fr.sB (by decide))⟩
      · rw [m_X3_crosses_316, if_neg (le3 hj), (rm3 hj).1, (rm3 hj).2, gd_of (i3x la ja), gd_of (i3x lb jb), gd_of (i3x la jb), gd_of (i3x lb ja), gd_of (ix_ni hj (by decide))]
        simp only [nmv_eq]
        rw [i3c la ja, i3c lb jb, i3c la jb, i3c lb ja, r _ _ la ja, r _ _ lb jb, r _ _ la jb, r _ _ lb ja, li_mul, li_mul, li_sub, ni_clamp (by omega), ni_succ]
        rfl
      · rw [tB_sB]
        by_cases e : i = j
        · subst e; rw [if_pos ⟨rfl, rfl⟩]
        · rw [if_neg (fun h => e h.2)]; exact q1 i (by omega))
    (show 4 ≤ f by omega) (v := u3) ⟨fun i hi => by omega, Fr.rf⟩
  refine ⟨u4, acr N' p l, crs N' l, e4, s1, fun j hj => by rw [crs_ok l3 lo hj, g4], lz, fun d => ?_, g7.tr (s2.mono (by decide))⟩
  rw [← g6 d]
  exact ⟨fun h i hi => by
    by_cases e : i = l
    · subst e; exact h
    · rw [lo i hi e]; exact Int.dvd_zero _, fun h => h l l3⟩
