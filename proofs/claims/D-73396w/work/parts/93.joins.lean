/-! the twin: six rows gathered; sums of points of both -/
set_option maxRecDepth 100000
abbrev t6 (u : TS) (S : Mi) : Prop := tM 34 3 6 3 u S
theorem x18 {r c : Nat} (hr : r < 6) (hc : c < 3) : ix ((3 : Int32) * ni r + ni c) 18 = true := by rw [i3]; exact ix_ni (by omega) (by decide)
theorem c18 {r c : Nat} (hr : r < 6) (hc : c < 3) : Int32.toNatClampNeg ((3 : Int32) * ni r + ni c) = 3 * r + c := by rw [i3, ni_clamp (by omega)]
theorem ni_m6 {b : Nat} (hb : b < 6) : ¬ ni b = (-1 : Int32) := by
  rcases (show b = 0 ∨ b = 1 ∨ b = 2 ∨ b = 3 ∨ b = 4 ∨ b = 5 by omega) with rfl | rfl | rfl | rfl | rfl | rfl <;> decide
theorem X3_g11 {f : Nat} {k2 : TS → Int32 → Int32 → Option TS} {u : TS} {S : Mi} (hS : t6 u S) {c : Nat} (hc : c < 3) (hg : ∀ a, c ≤ a → a < 6 → rg (S a c)) : ∀ k n b r, c ≤ r → r + k = 6 → k < n → (∀ b', b = some b' → c ≤ b' ∧ b' < 6) → m_X3_gathers_11 f k2 n u (ni c) (oni b) (ni r) = m_X3_gathers_78 f k2 u (ni c) (oni (lst S c k b r)) := by
  intro k
  induction k with
  | zero =>
    intro n b r _ hr hn _
    obtain ⟨n, rfl⟩ : ∃ z, n = z + 1 := ⟨n - 1, by omega⟩
    have : r = 6 := by omega
    subst this
    rw [m_X3_gathers_11, if_pos (show (6 : Int32) ≤ ni 6 from lekk 6)]
    rfl
  | succ k ih =>
    intro n b r hcr hr hn hb
    obtain ⟨n, rfl⟩ : ∃ z, n = z + 1 := ⟨n - 1, by omega⟩
    have r6 : r < 6 := by omega
    rw [m_X3_gathers_11, if_neg (show ¬ (6 : Int32) ≤ ni r from lek (by decide) r6), gd_of (x18 r6 hc), c18 r6 hc, hS r c r6 hc, sized_li (hg r hcr r6), bd_some]
    unfold m_X3_gathers_70 m_X3_gathers_65 m_X3_gathers_71
    simp only [nmv_eq, ni_succ]
    unfold lst
    by_cases hz : S r c = 0
    · rw [if_pos ((li_abs0 (hg r hcr r6)).mpr hz), if_pos hz]
      exact ih n b (r + 1) (by omega) (by omega) (by omega) hb
    · rw [if_neg (fun e => hz ((li_abs0 (hg r hcr r6)).mp e)), if_neg hz]
      cases b with
      | none =>
        rw [if_pos (show oni none = -1 from rfl)]
        exact ih n (some r) (r + 1) (by omega) (by omega) (by omega) (fun b' e => by cases e; exact ⟨hcr, r6⟩)
      | some b' =>
        obtain ⟨q1, q2⟩ := hb b' rfl
        rw [if_neg (show ¬ oni (some b') = -1 from ni_m6 q2), show oni (some b') = ni b' from rfl, gd_of (x18 q2 hc), c18 q2 hc, hS b' c q2 hc, sized_li (hg b' q1 q2), bd_some]
        have g1 : rg ((S b' c).natAbs : Int) := rg_abs (k := 2 ^ 63) (by simpa using rg_nat.mp (hg b' q1 q2)) (by decide)
        have g2 : rg ((S r c).natAbs : Int) := rg_abs (k := 2 ^ 63) (by simpa using rg_nat.mp (hg r hcr r6)) (by decide)
        show _ = m_X3_gathers_78 f k2 u (ni c) (oni (if (S b' c).natAbs ≤ (S r c).natAbs then lst S c k (some b') (r + 1) else lst S c k (some r) (r + 1)))
        by_cases hle : (S b' c).natAbs ≤ (S r c).natAbs
        · rw [if_pos ((li_le g1 g2).mpr (by omega)), if_pos hle]
          exact ih n (some b') (r + 1) (by omega) (by omega) (by omega) hb
        · rw [if_neg (fun e => hle (by have := (li_le g1 g2).mp e; omega)), if_neg hle]
          exact ih n (some r) (r + 1) (by omega) (by omega) (by omega) (fun b' e => by cases e; exact ⟨hcr, r6⟩)
theorem X3_g81 {f : Nat} (hf : 4 ≤ f) {k2 : TS → Int32 → Int32 → Option TS} {u : TS} {S : Mi} (hS : t6 u S) {c m : Nat} (hc : c < 3) (hm : m < 6) : ∃ u', m_X3_gathers_81 f k2 f u (ni c) (ni m) 0 = m_X3_gathers_141 f k2 u' (ni c) ∧ t6 u' (excR S c m) ∧ Fr [34] u u' := by
  have c6 : c < 6 := by omega
  obtain ⟨u2, p2, e2⟩ := loop3v (fun n v x => m_X3_gathers_81 f k2 n v (ni c) (ni m) x) (fun v => m_X3_gathers_141 f k2 v (ni c)) (fun j v => t6 v (upc S (excR S c m) j) ∧ Fr [34] u v)
    (fun n v _ => by rw [m_X3_gathers_81, if_pos le33])
    (fun n v j hj p => by
      obtain ⟨a1, a2⟩ := p
      have e1 : upc S (excR S c m) j m j = S m j := by unfold upc; rw [if_neg (by omega)]
      have e2 : upc S (excR S c m) j c j = S c j := by unfold upc; rw [if_neg (by omega)]
      have q1 : tB v 34 (3 * m + j) = li (S m j) := by rw [← e1]; exact a1 m j hm hj
      have q2 : tB v 34 (3 * c + j) = li (S c j) := by rw [← e2]; exact a1 c j c6 hj
      have w1 := a1.set (by decide) (i := m) hj (S c j)
      have w2 := w1.set (by decide) (i := c) hj (S m j)
      refine ⟨_, ?_, w2.congr (fun a b ha hb => ?_), (a2.tr (Fr.sB (by decide))).tr (Fr.sB (by decide))⟩
      · rw [m_X3_gathers_81, if_neg (le3 hj), gd_of (x18 hm hj)]
        simp only [nmv_eq]
        rw [gd_of (x18 c6 hj), gd_of (x18 hm hj), gd_of (x18 c6 hj), c18 hm hj, c18 c6 hj, q1, q2, ni_succ]
      · show (if a = c ∧ b = j then S m j else if a = m ∧ b = j then S c j else upc S (excR S c m) j a b) = upc S (excR S c m) (j + 1) a b
        by_cases k1 : a = c ∧ b = j
        · obtain ⟨rfl, rfl⟩ := k1
          rw [if_pos ⟨rfl, rfl⟩]
          unfold upc excR
          rw [if_pos (by omega), if_pos rfl]
        · rw [if_neg k1]
          by_cases k2 : a = m ∧ b = j
          · rw [if_pos k2]
            unfold upc excR
            rw [if_pos (by omega), if_neg (fun h => k1 ⟨h, k2.2⟩), if_pos k2.1, k2.2]
          · rw [if_neg k2]
            unfold upc
            by_cases hb' : b < j
            · rw [if_pos hb', if_pos (by omega)]
            · rw [if_neg hb']
              by_cases hbj : b = j
              · subst hbj
                rw [if_pos (by omega)]
                unfold excR
                rw [if_neg (fun h => k1 ⟨h, rfl⟩), if_neg (fun h => k2 ⟨h, rfl⟩)]
              · rw [if_neg (by omega)])
    hf (v := u) ⟨hS.congr (fun a b _ _ => by unfold upc; rw [if_neg (by omega)]), Fr.rf⟩
  have e3 : m_X3_gathers_81 f k2 f u (ni c) (ni m) 0 = _ := e2
  exact ⟨u2, e3, p2.1.congr (fun a b _ hb => by unfold upc; rw [if_pos hb]), p2.2⟩
theorem X3_g182 {f : Nat} (hf : 4 ≤ f) {k2 : TS → Int32 → Int32 → Option TS} {k148 : TS → Int32 → Int32 → Int32 → Option TS} {u : TS} {S : Mi} (hS : t6 u S) {r c : Nat} (hr : r < 6) (hc : c < 3) (hne : r ≠ c) (q : Int) (x2 : Int32) : ∃ u', m_X3_gathers_182 f k2 k148 f u (ni c) x2 (ni r) (li q) 0 = m_X3_gathers_223 f k2 k148 u' (ni c) x2 (ni r) ∧ t6 u' (addR S r c (-q)) ∧ Fr [34] u u' := by
  have c6 : c < 6 := by omega
  obtain ⟨u2, p2, e2⟩ := loop3v (fun n v x => m_X3_gathers_182 f k2 k148 n v (ni c) x2 (ni r) (li q) x) (fun v => m_X3_gathers_223 f k2 k148 v (ni c) x2 (ni r)) (fun j v => t6 v (upc S (addR S r c (-q)) j) ∧ Fr [34] u v)
    (fun n v _ => by rw [m_X3_gathers_182, if_pos le33])
    (fun n v j hj p => by
      obtain ⟨a1, a2⟩ := p
      refine ⟨_, ?_, a1.one (by decide) (r := r) hj (fun a _ ha => by unfold addR; rw [if_neg ha]), a2.tr (Fr.sB (by decide))⟩
      have e1 : upc S (addR S r c (-q)) j r j = S r j := by unfold upc; rw [if_neg (by omega)]
      have e2 : upc S (addR S r c (-q)) j c j = S c j := by unfold upc; rw [if_neg (by omega)]
      have e3 : addR S r c (-q) r j = S r j - q * S c j := by unfold addR; rw [if_pos rfl]; grind
      have q1 := a1 r j hr hj
      have q2 := a1 c j c6 hj
      rw [m_X3_gathers_182, if_neg (le3 hj), gd_of (x18 hr hj), gd_of (x18 c6 hj), gd_of (x18 hr hj)]
      simp only [nmv_eq]
      rw [c18 hr hj, c18 c6 hj, q1, q2, e1, e2, li_mul, li_sub, e3, ni_succ])
    hf (v := u) ⟨hS.congr (fun a b _ _ => by unfold upc; rw [if_neg (by omega)]), Fr.rf⟩
  have e3 : m_X3_gathers_182 f k2 k148 f u (ni c) x2 (ni r) (li q) 0 = _ := e2
  exact ⟨u2, e3, p2.1.congr (fun a b _ hb => by unfold upc; rw [if_pos hb]), p2.2⟩
theorem gps_row {c : Nat} : ∀ k r S a b, a < r → c < r → r + k = 6 → gps c k r S a b = S a b := fun k r S a b ha hc hr => by
  rw [gps_fst c k r S hc hr, if_neg (by omega)]
theorem X3_g148 {f : Nat} (hf : 4 ≤ f) {k2 : TS → Int32 → Int32 → Option TS} {u0 : TS} {c : Nat} (hc : c < 3) {p : Int} (hp : p ≠ 0) (gp : rg p) : ∀ k n r u S (b : Bool), c < r → r + k = 6 → k < n → t6 u S → Fr [34] u0 u → S c c = p → (∀ a, c ≤ a → a < 6 → rg (S a c)) → ∃ u', m_X3_gathers_148 f k2 n u (ni c) (if b = true then 1 else 0) (ni r) = k2 u' (ni c) (if (b || gmr (gps c k r S) c k r) = true then 1 else 0) ∧ t6 u' (gps c k r S) ∧ Fr [34] u0 u' := by
  intro k
  induction k with
  | zero =>
    intro n r u S b _ hr hn hS hF _ _
    obtain ⟨n, rfl⟩ : ∃ z, n = z + 1 := ⟨n - 1, by omega⟩
    have : r = 6 := by omega
    subst this
    refine ⟨u, ?_, hS, hF⟩
    rw [m_X3_gathers_148, if_pos (show (6 : Int32) ≤ ni 6 from lekk 6)]
    unfold m_X3_gathers_255 gmr
    rw [Bool.or_false]
  | succ k ih =>
    intro n r u S b hcr hr hn hS hF hcp hg
    obtain ⟨n, rfl⟩ : ∃ z, n = z + 1 := ⟨n - 1, by omega⟩
    have r6 : r < 6 := by omega
    have c6 : c < 6 := by omega
    have gr6 : rg (S r c) := hg r (by omega) r6
    have gl : rg (S c c) := hg c (Nat.le_refl _) c6
    rw [m_X3_gathers_148, if_neg (show ¬ (6 : Int32) ≤ ni r from lek (by decide) r6), gd_of (x18 r6 hc), gd_of (x18 c6 hc), c18 r6 hc, c18 c6 hc, hS r c r6 hc, hS c c c6 hc, gd_of (nzL_li gl (by rw [hcp]; exact hp)), nmv_eq, li_div gr6 gl]
    obtain ⟨u1, g1, g2, g3⟩ := X3_g182 (k2 := k2) (k148 := m_X3_gathers_148 f k2 n) hf hS r6 hc (by omega) ((S r c).tdiv (S c c)) (if b = true then 1 else 0)
    rw [g1]
    unfold gps
    have W1r : addR S r c (-(S r c).tdiv (S c c)) r c = (S r c).tmod (S c c) := by unfold addR; rw [if_pos rfl, Int.tmod_def]; grind
    have W1o : ∀ a, a ≠ r → ∀ j, addR S r c (-(S r c).tdiv (S c c)) a j = S a j := fun a ha j => by unfold addR; rw [if_neg ha]
    have g1r : rg (addR S r c (-(S r c).tdiv (S c c)) r c) := by rw [W1r]; exact rg_tmod gr6
    have hg' : ∀ a, c ≤ a → a < 6 → rg (addR S r c (-(S r c).tdiv (S c c)) a c) := fun a ha ha6 => by
      by_cases e : a = r
      · subst e; exact g1r
      · rw [W1o a e]; exact hg a ha ha6
    generalize hW1 : addR S r c (-(S r c).tdiv (S c c)) = S1 at *
    have key : m_X3_gathers_223 f k2 (m_X3_gathers_148 f k2 n) u1 (ni c) (if b = true then 1 else 0) (ni r) = m_X3_gathers_148 f k2 n u1 (ni c) (if (b || decide (S1 r c ≠ 0)) = true then 1 else 0) (ni (r + 1)) := by
      unfold m_X3_gathers_223 m_X3_gathers_243 m_X3_gathers_248
      simp only [nmv_eq, ni_succ]
      cases b with
      | true => simp
      | false =>
        rw [if_neg (by simp), gd_of (x18 r6 hc), c18 r6 hc, g2 r c r6 hc]
        by_cases hz1 : S1 r c = 0
        · rw [if_pos (show li (S1 r c) = 0 by rw [hz1]; rfl)]; simp [hz1]
        · rw [if_neg (show ¬ li (S1 r c) = 0 from fun e => hz1 ((li_inj g1r rg_0).mp e))]; simp [hz1]
    rw [key]
    obtain ⟨u', e1, e2, e3⟩ := ih n (r + 1) u1 S1 (b || decide (S1 r c ≠ 0)) (by omega) (by omega) (by omega) g2 (hF.tr g3) (by rw [W1o c (by omega)]; exact hcp) hg'
    refine ⟨u', ?_, e2, e3⟩
    rw [e1]
    conv => rhs; unfold gmr
    rw [gps_row k (r + 1) S1 r c (by omega) (by omega) (by omega)]
    by_cases hz1 : S1 r c = 0
    · rw [if_neg (show ¬ (S1 r c ≠ 0) from fun h => h hz1)]; simp [hz1]
    · rw [if_pos (show (S1 r c ≠ 0) from hz1)]; simp [hz1]
theorem X3_g2 {f : Nat} (hf : 8 ≤ f) {u0 : TS} {c : Nat} (hc : c < 3) : ∀ k n u S, k + 1 < n → t6 u S → Fr [34] u0 u → ggOk c k S → ∃ u', m_X3_gathers_2 f n u (ni c) 1 = some u' ∧ t6 u' (ggo c k S) ∧ Fr [34] u0 u' := by
  intro k
  induction k with
  | zero => intro n u S _ _ _ h; exact h.elim
  | succ k ih =>
    intro n u S hkn hS hF hok
    obtain ⟨n, rfl⟩ : ∃ z, n = z + 1 := ⟨n - 1, by omega⟩
    obtain ⟨o1, ⟨m, m1, m2, m3', m4⟩, o3⟩ := hok
    rw [m_X3_gathers_2, if_neg (show ¬ (1 : Int32) = 0 by decide)]
    have e11 := X3_g11 (f := f) (k2 := m_X3_gathers_2 f n) hS hc o1 (6 - c) f none c (Nat.le_refl _) (by omega) (by omega) (fun b' e => by cases e)
    have e11' : m_X3_gathers_11 f (m_X3_gathers_2 f n) f u (ni c) (-1) (ni c) = _ := e11
    rw [e11', m1]
    unfold m_X3_gathers_78
    show ∃ u', m_X3_gathers_81 f (m_X3_gathers_2 f n) f u (ni c) (ni m) 0 = some u' ∧ _
    obtain ⟨u1, a1, a2, a3⟩ := X3_g81 (f := f) (by omega) (k2 := m_X3_gathers_2 f n) hS hc m3'
    rw [a1]
    unfold m_X3_gathers_141
    rw [nmv_eq]
    show ∃ u', m_X3_gathers_148 f (m_X3_gathers_2 f n) f u1 (ni c) 0 (ni c + 1) = some u' ∧ _
    rw [ni_succ]
    have ep : gpv c S = excR S c m := by unfold gpv; rw [m1]
    rw [ep] at o3
    unfold ggo
    rw [ep]
    have ecc : excR S c m c c = S m c := by unfold excR; rw [if_pos rfl]
    have rg1 : ∀ a, c ≤ a → a < 6 → rg (excR S c m a c) := fun a h1 h2 => by
      unfold excR
      split
      · exact o1 m m2 m3'
      · split
        · exact o1 c (Nat.le_refl _) (by omega)
        · exact o1 a h1 h2
    obtain ⟨u2, b1, b2, b3⟩ := X3_g148 (f := f) (by omega) (k2 := m_X3_gathers_2 f n) (u0 := u0) hc (p := S m c) m4 (o1 m m2 m3') (5 - c) f (c + 1) u1 (excR S c m) false (by omega) (by omega) (by omega) a2 (hF.tr a3) ecc rg1
    have b1' : m_X3_gathers_148 f (m_X3_gathers_2 f n) f u1 (ni c) 0 (ni (c + 1)) = _ := b1
    rw [b1', Bool.false_or]
    generalize gps c (5 - c) (c + 1) (excR S c m) = V at *
    cases hg : gmr V c (5 - c) (c + 1) with
    | false =>
      simp only [Bool.false_eq_true, if_false]
      refine ⟨u2, ?_, b2, b3⟩
      obtain ⟨n, rfl⟩ : ∃ z, n = z + 1 := ⟨n - 1, by omega⟩
      rw [m_X3_gathers_2, if_pos rfl]
      rfl
    | true =>
      simp only [if_true]
      exact ih n u2 V (by omega) b2 b3 (o3 hg)
theorem X3_gathers {f : Nat} (hf : 2 ^ 63 ≤ f) {u : TS} {S : Mi} {c : Nat} (hc : c < 3) (hS : t6 u S) (hok : ggOk c gB S) : ∃ u', m_X3_gathers f u (ni c) = some u' ∧ t6 u' (ggo c gB S) ∧ Fr [34] u u' := by
  unfold m_X3_gathers
  exact X3_g2 (f := f) (by omega) hc gB f u S (by unfold gB; omega) hS Fr.rf hok
abbrev jnF : List Nat := [18, 19, 20, 21, 22, 23, 24, 25, 27, 28, 29, 30, 31, 34]
theorem X3_joins {f : Nat} (hf : 2 ^ 63 ≤ f) {u : TS} {l m : Nat} {M1 M2 P Q : Mi} {n1 n2 : Int} (h1 : TL u l M1 n1) (h2 : TL u m M2 n2) (g1 : rg n1) (g2 : rg n2) (z1' : n1 ≠ 0) (z2' : n2 ≠ 0) (gb : rg (btw n1 n2)) (hb : 0 < btw n1 n2) (eP : P = fun i j => M1 i j * (btw n1 n2).tdiv n1) (eQ : Q = fun i j => M2 i j * (btw n1 n2).tdiv n2) (o0 : ggOk 0 gB (sixR P Q)) (o1 : ggOk 1 gB (six1 P Q)) (o2 : ggOk 2 gB (six2 P Q)) (hr : runOk 100 (six3 P Q, [])) (gH : ∀ i j, i < 3 → j < 3 → rg ((hrun 100 (six3 P Q, [])).1 i j)) (hz : lsd (hrun 100 (six3 P Q, [])).1 (btw n1 n2) ≠ 0) : ∃ u', m_X3_joins f u (ni l) (ni m) = some u' ∧ tR 18 u' (fun i j => ((hrun 100 (six3 P Q, [])).1 i j).tdiv (lsd (hrun 100 (six3 P Q, [])).1 (btw n1 n2))) ∧ tL u' 19 = li ((btw n1 n2).tdiv (lsd (hrun 100 (six3 P Q, [])).1 (btw n1 n2))) ∧ Fr jnF u u' := by
  have f4 : 4 ≤ f := by omega
  unfold m_X3_joins
  obtain ⟨u1, a1, a2, a3, a4, a5, a6, a7⟩ := X3_laysBoth hf h1 h2 g1 g2 z1' z2' gb
  rw [← eP] at a2
  rw [← eQ] at a3
  rw [a1, bd_some]
  obtain ⟨u2, p2, e2⟩ := loopn (fun n v x => m_X3_joins_8 f n v x) (fun v => m_X3_joins_47 f v) (fun k v => (∀ j, j < k → tB v 34 j = li (P (j / 3) (j % 3)) ∧ tB v 34 (9 + j) = li (Q (j / 3) (j % 3))) ∧ Fr [34] u1 v) 9
    (fun n v _ => by rw [m_X3_joins_8, if_pos le99])
    (fun n v k hk p => by
      obtain ⟨b1, b2⟩ := p
      have c1 := (a2.fr b2 (by decide)).at9 hk
      have c2 := (a3.fr b2 (by decide)).at9 hk
      refine ⟨sB (sB v 34 k (li (P (k / 3) (k % 3)))) 34 (9 + k) (li (Q (k / 3) (k % 3))), ?_, fun j hj => ?_, (b2.tr (Fr.sB (by decide))).tr (Fr.sB (by decide))⟩
      · rw [m_X3_joins_8, if_neg (le9 hk), show (9 : Int32) + ni k = ni (9 + k) from aN_ni 9 k, gd_of (ix_ni hk (by decide)), gd_of (ix_ni (by omega) (by decide))]
        simp only [nmv_eq]
        rw [gd_of (ix_ni hk (by decide)), gd_of (ix_ni (by omega) (by decide)), ni_clamp (by omega), ni_clamp (by omega), c1, tB_sB, if_neg (fun h => absurd h.1 (by decide)), c2, ni_succ]
      · rw [tB_sB, tB_sB, tB_sB, tB_sB]
        by_cases e : j = k
        · subst e
          rw [if_neg (by omega), if_pos ⟨rfl, rfl⟩, if_pos ⟨rfl, rfl⟩]
          exact ⟨rfl, rfl⟩
        · rw [if_neg (by omega), if_neg (by omega), if_neg (by omega), if_neg (by omega)]
          exact b1 j (by omega))
    9 f u1 0 rfl (by omega) ⟨fun j hj => by omega, Fr.rf⟩
  have e2' : m_X3_joins_8 f f u1 0 = _ := e2
  rw [e2']
  have s0 : t6 u2 (sixR P Q) := fun i j hi hj => by
    unfold sixR
    by_cases h3 : i < 3
    · rw [if_pos h3, (p2.1 (3 * i + j) (by omega)).1, show (3 * i + j) / 3 = i by omega, show (3 * i + j) % 3 = j by omega]
    · rw [if_neg h3, show 3 * i + j = 9 + (3 * (i - 3) + j) by omega, (p2.1 (3 * (i - 3) + j) (by omega)).2, show (3 * (i - 3) + j) / 3 = i - 3 by omega, show (3 * (i - 3) + j) % 3 = j by omega]
  unfold m_X3_joins_47
  obtain ⟨v1, b1, b2, b3⟩ := X3_gathers hf (c := 0) (by decide) s0 o0
  obtain ⟨v2, c1, c2, c3'⟩ := X3_gathers hf (c := 1) (by decide) b2 o1
  obtain ⟨v3, d1, d2, d3⟩ := X3_gathers hf (c := 2) (by decide) c2 o2
  obtain ⟨n, rfl⟩ : ∃ z, f = z + 4 := ⟨f - 4, by omega⟩
  have l0 : m_X3_joins_49 (n + 4) (n + 4) u2 0 = m_X3_joins_65 (n + 4) v3 := by
    show m_X3_joins_49 (n + 4) (n + 3 + 1) u2 (ni 0) = _
    rw [m_X3_joins_49, if_neg (le3 (by decide)), b1, bd_some, nmv_eq, ni_succ]
    show m_X3_joins_49 (n + 4) (n + 2 + 1) v1 (ni 1) = _
    rw [m_X3_joins_49, if_neg (le3 (by decide)), c1, bd_some, nmv_eq, ni_succ]
    show m_X3_joins_49 (n + 4) (n + 1 + 1) v2 (ni 2) = _
    rw [m_X3_joins_49, if_neg (le3 (by decide)), d1, bd_some, nmv_eq, ni_succ]
    show m_X3_joins_49 (n + 4) (n + 0 + 1) v3 (ni 3) = _
    rw [m_X3_joins_49, if_pos le33]
  rw [l0]
  unfold m_X3_joins_65
  generalize hff : n + 4 = f at *
  obtain ⟨v4, p4, e4⟩ := loopn (fun n v x => m_X3_joins_67 f n v x) (fun v => m_X3_joins_91 f v) (fun k v => (∀ j, j < k → tB v 18 j = li (six3 P Q (j / 3) (j % 3))) ∧ Fr [18] v3 v) 9
    (fun n v _ => by rw [m_X3_joins_67, if_pos le99])
    (fun n v k hk p => by
      obtain ⟨b1', b2'⟩ := p
      have q := (d2.fr b2' (by decide)) (k / 3) (k % 3) (by omega) (by omega)
      rw [show 3 * (k / 3) + k % 3 = k by omega] at q
      refine ⟨sB v 18 k (li (six3 P Q (k / 3) (k % 3))), ?_, fun j hj => ?_, b2'.tr (Fr.sB (by decide))⟩
      · rw [m_X3_joins_67, if_neg (le9 hk), gd_of (ix_ni (by omega) (by decide)), gd_of (ix_ni (by omega) (by decide)), nmv_eq, nmv_eq, ni_clamp (by omega), q, ni_succ]
        rfl
      · rw [tB_sB]
        by_cases e : j = k
        · subst e; rw [if_pos ⟨rfl, rfl⟩]
        · rw [if_neg (by omega)]; exact b1' j (by omega))
    9 f v3 0 rfl (by omega) ⟨fun j hj => by omega, Fr.rf⟩
  have e4' : m_X3_joins_67 f f v3 0 = _ := e4
  rw [e4']
  have r4' : tR 18 v4 (six3 P Q) := fun i j hi hj => by
    rw [p4.1 (3 * i + j) (by omega), show (3 * i + j) / 3 = i by omega, show (3 * i + j) % 3 = j by omega]
  unfold m_X3_joins_91
  rw [nmv_eq]
  have F12 : Fr [34] u1 v3 := ((p2.2.tr b3).tr c3').tr d3
  have e31 : tL v4 31 = li (btw n1 n2) := by rw [(p4.2 31 (by decide)).2.1, (F12 31 (by decide)).2.1]; exact a4
  have r5 : tR 18 (sL v4 19 (tL v4 31)) (six3 P Q) := r4'.fr (l := [19]) (Fr.sL (by decide)) (by decide)
  obtain ⟨u4, k1, k2⟩ := X3_forms f4 (show 100 < f by omega) r5 hr
  rw [k1, bd_some]
  have e19 : tL u4 19 = li (btw n1 n2) := by rw [(k2.2.2 19 (by decide)).2.1, tL_sL, if_pos rfl]; exact e31
  obtain ⟨u5, q1, q2, q3, q4⟩ := X3_lessens hf k2.1 e19 hb gb gH hz
  rw [q1, bd_some]
  refine ⟨u5, rfl, q2, q3, ?_⟩
  have F1 : Fr jnF v4 (sL v4 19 (tL v4 31)) := Fr.sL (by decide)
  exact ((((a7.mono (by decide)).tr (F12.mono (by decide))).tr (p4.2.mono (by decide))).tr F1).tr ((k2.2.2.mono (by decide)).tr (q4.mono (by decide)))
