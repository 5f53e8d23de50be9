/-! the twin: of four rows with a rest each three are left without one -/
set_option maxRecDepth 100000
/-- rows in field k, w numbers each -/
def tM (k w R C : Nat) (u : TS) (N : Mi) : Prop := ∀ i j, i < R → j < C → tB u k (w * i + j) = li (N i j)
theorem tM.fr {k w R C : Nat} {l : List Nat} {u v : TS} {N : Mi} (h : tM k w R C u N) (a : Fr l u v) (hk : k ∉ l) : tM k w R C v N := fun i j hi hj => by rw [(a k hk).2.2.2]; exact h i j hi hj
theorem tM.congr {k w R C : Nat} {u : TS} {N N' : Mi} (h : tM k w R C u N) (he : ∀ i j, i < R → j < C → N i j = N' i j) : tM k w R C u N' := fun i j hi hj => by rw [h i j hi hj, he i j hi hj]
theorem tM.set {k w R C : Nat} {u : TS} {N : Mi} (hC : C ≤ w) (h : tM k w R C u N) {i j : Nat} (hj : j < C) (x : Int) : tM k w R C (sB u k (w * i + j) (li x)) (fun a b => if a = i ∧ b = j then x else N a b) := fun a b ha hb => by
  rw [tB_sB]
  by_cases e : a = i ∧ b = j
  · obtain ⟨rfl, rfl⟩ := e
    rw [if_pos ⟨rfl, rfl⟩]; simp
  · have hne : ¬ (k = k ∧ w * a + b = w * i + j) := fun h => e (by
      have h1 := h.2
      have q1 : (w * a + b) / w = a := by rw [Nat.mul_add_div (by omega), Nat.div_eq_of_lt (by omega), Nat.add_zero]
      have q2 : (w * i + j) / w = i := by rw [Nat.mul_add_div (by omega), Nat.div_eq_of_lt (by omega), Nat.add_zero]
      have e1 : a = i := by rw [← q1, h1, q2]
      subst e1
      exact ⟨rfl, by omega⟩)
    rw [if_neg hne]
    show _ = li (if a = i ∧ b = j then x else N a b)
    rw [if_neg e]; exact h a b ha hb
/-- a row changed, column by column -/
theorem tM.one {k w R C : Nat} {u : TS} {N N' : Mi} (hC : C ≤ w) {j r : Nat} (h : tM k w R C u (upc N N' j)) (hj : j < C) (hs : ∀ a, a < R → a ≠ r → N' a j = N a j) : tM k w R C (sB u k (w * r + j) (li (N' r j))) (upc N N' (j + 1)) := by
  refine (h.set hC (i := r) hj (N' r j)).congr (fun a b ha hb => ?_)
  by_cases e : a = r ∧ b = j
  · obtain ⟨rfl, rfl⟩ := e
    rw [if_pos ⟨rfl, rfl⟩]; unfold upc; rw [if_pos (by omega)]
  · rw [if_neg e]
    unfold upc
    by_cases hb' : b < j
    · rw [if_pos hb', if_pos (by omega)]
    · rw [if_neg hb']
      by_cases hbj : b = j
      · subst hbj
        rw [if_pos (by omega), hs a ha (fun h => e ⟨h, rfl⟩)]
      · rw [if_neg (by omega)]
theorem i4 (r c : Nat) : (4 : Int32) * ni r + ni c = ni (4 * r + c) := by
  rw [show (4 : Int32) = ni 4 from rfl, ← Int32.ofNat_mul, ← Int32.ofNat_add]
theorem i4z (r : Nat) : (4 : Int32) * ni r = ni (4 * r + 0) := by rw [show (4 : Int32) = ni 4 from rfl, ← Int32.ofNat_mul]; rfl
theorem i4p (r c : Nat) : ((4 : Int32) * ni r + 1) + ni c = ni (4 * r + (c + 1)) := by
  rw [z1, i4, aN_ni, Nat.add_assoc, Nat.add_comm 1 c]
theorem lek {j k : Nat} (hk : k < 1000) (h : j < k) : ¬ (ni k ≤ ni j) := by
  intro e; have := (ni_le (by omega) (by omega)).mp e; omega
theorem lekk (k : Nat) : ni k ≤ ni k := Int32.le_refl _
theorem nie {a b : Nat} (ha : a < 1000) (hb : b < 1000) : ni a = ni b ↔ a = b := ni_inj (by omega) (by omega)
abbrev tW (u : TS) (W : Mi) : Prop := tM 33 4 4 4 u W
/-- one row loses so many of another one -/
theorem X3_ln112 {f : Nat} {k4 : TS → Int32 → Int32 → Option TS} {k64 : TS → Int32 → Int32 → Int32 → Option TS} (hf : 6 ≤ f) {u : TS} {W : Mi} (hW : tW u W) {r l : Nat} (hr : r < 4) (hl : l < 4) (hne : r ≠ l) (q : Int) (x1 : Int32) : ∃ u', m_X3_leavesNone_112 f k4 k64 f u x1 (ni l) (ni r) (li q) 0 = m_X3_leavesNone_152 f k4 k64 u' x1 (ni l) (ni r) ∧ tW u' (addR W r l (-q)) ∧ Fr [33] u u' := by
  obtain ⟨u2, p2, e2⟩ := loopn (fun n v x => m_X3_leavesNone_112 f k4 k64 n v x1 (ni l) (ni r) (li q) x) (fun v => m_X3_leavesNone_152 f k4 k64 v x1 (ni l) (ni r)) (fun j v => tW v (upc W (addR W r l (-q)) j) ∧ Fr [33] u v) 4
    (fun n v _ => by rw [m_X3_leavesNone_112, if_pos (show (4 : Int32) ≤ ni 4 from lekk 4)])
    (fun n v j hj p => by
      obtain ⟨a1, a2⟩ := p
      refine ⟨_, ?_, a1.one (by decide) (r := r) hj (fun a _ ha => by unfold addR; rw [if_neg ha]), a2.tr (Fr.sB (by decide))⟩
      have e1 : upc W (addR W r l (-q)) j r j = W r j := by unfold upc; rw [if_neg (by omega)]
      have e2 : upc W (addR W r l (-q)) j l j = W l j := by unfold upc; rw [if_neg (by omega)]
      have e3 : addR W r l (-q) r j = W r j - q * W l j := by unfold addR; rw [if_pos rfl]; grind
      have q1 := a1 r j hr hj
      have q2 := a1 l j hl hj
      rw [m_X3_leavesNone_112, if_neg (show ¬ (4 : Int32) ≤ ni j from lek (by decide) hj), i4, i4, gd_of (ix_ni (by omega) (by decide)), gd_of (ix_ni (by omega) (by decide)), gd_of (ix_ni (by omega) (by decide))]
      simp only [nmv_eq]
      rw [ni_clamp (by omega), ni_clamp (by omega), q1, q2, e1, e2, li_mul, li_sub, e3, ni_succ])
    4 f u 0 rfl (by omega) ⟨hW.congr (fun a b _ _ => by unfold upc; rw [if_neg (by omega)]), Fr.rf⟩
  exact ⟨u2, e2, p2.1.congr (fun a b _ hb => by unfold upc; rw [if_pos hb]), p2.2⟩
theorem wps_row {l : Nat} : ∀ k r W a b, a < r → r + k = 4 → wps l k r W a b = W a b := fun k r W a b ha hr => by
  rw [wps_fst l k r W hr, if_neg (by omega)]
/-- all rows but one lose so many of it -/
theorem X3_ln64 {f : Nat} {k4 : TS → Int32 → Int32 → Option TS} (hf : 6 ≤ f) {u0 : TS} {l : Nat} (hl : l < 4) {p : Int} (hp : p ≠ 0) (gp : rg p) : ∀ k n r u W (b : Bool), r + k = 4 → k < n → tW u W → Fr [33] u0 u → W l 0 = p → (∀ a, a < 4 → rg (W a 0)) → ∃ u', m_X3_leavesNone_64 f k4 n u (if b = true then 1 else 0) (ni l) (ni r) = k4 u' (if (b || wmr (wps l k r W) l k r) = true then 1 else 0) (ni l) ∧ tW u' (wps l k r W) ∧ Fr [33] u0 u' := by
  intro k
  induction k with
  | zero =>
    intro n r u W b hr hn hW hF _ _
    obtain ⟨n, rfl⟩ : ∃ z, n = z + 1 := ⟨n - 1, by omega⟩
    have : r = 4 := by omega
    subst this
    refine ⟨u, ?_, hW, hF⟩
    rw [m_X3_leavesNone_64, if_pos (show (4 : Int32) ≤ ni 4 from lekk 4)]
    unfold m_X3_leavesNone_181 wmr
    rw [Bool.or_false]
  | succ k ih =>
    intro n r u W b hr hn hW hF hlp hg
    obtain ⟨n, rfl⟩ : ∃ z, n = z + 1 := ⟨n - 1, by omega⟩
    have r4 : r < 4 := by omega
    rw [m_X3_leavesNone_64, if_neg (show ¬ (4 : Int32) ≤ ni r from lek (by decide) r4)]
    unfold wps
    by_cases hrl : r = l
    · rw [if_pos ((nie (by omega) (by omega)).mpr hrl), if_pos (show r = l ∨ W r 0 = 0 from .inl hrl)]
      unfold m_X3_leavesNone_175
      rw [nmv_eq, ni_succ]
      obtain ⟨u', e1, e2, e3⟩ := ih n (r + 1) u W b (by omega) (by omega) hW hF hlp hg
      refine ⟨u', ?_, e2, e3⟩
      rw [e1]
      conv => rhs; unfold wmr
      rw [if_neg (show ¬ (r ≠ l ∧ _) from fun h => h.1 hrl)]
    · rw [if_neg (fun e => hrl ((nie (by omega) (by omega)).mp e)), i4z, gd_of (ix_ni (by omega) (by decide)), ni_clamp (by omega), hW r 0 r4 (by decide)]
      by_cases hz : W r 0 = 0
      · rw [if_neg (show ¬ ¬ li (W r 0) = 0 from fun h => h (by rw [hz]; rfl)), if_pos (show r = l ∨ W r 0 = 0 from .inr hz)]
        unfold m_X3_leavesNone_175
        rw [nmv_eq, ni_succ]
        obtain ⟨u', e1, e2, e3⟩ := ih n (r + 1) u W b (by omega) (by omega) hW hF hlp hg
        refine ⟨u', ?_, e2, e3⟩
        rw [e1]
        conv => rhs; unfold wmr
        rw [wps_row k (r + 1) W r 0 (by omega) (by omega), if_neg (show ¬ (r ≠ l ∧ W r 0 ≠ 0) from fun h => h.2 hz)]
      · have gl : rg (W l 0) := hg l hl
        rw [if_pos (show ¬ li (W r 0) = 0 from fun e => hz ((li_inj (hg r r4) rg_0).mp e)), if_neg (show ¬ (r = l ∨ W r 0 = 0) from fun h => h.elim hrl hz), gd_of (ix_ni (by omega) (by decide)), i4z, gd_of (ix_ni (by omega) (by decide)), ni_clamp (by omega), hW l 0 hl (by decide), gd_of (nzL_li gl (by rw [hlp]; exact hp)), nmv_eq, li_div (hg r r4) gl]
        obtain ⟨u1, g1, g2, g3⟩ := X3_ln112 (k4 := k4) (k64 := m_X3_leavesNone_64 f k4 n) hf hW r4 hl hrl ((W r 0).tdiv (W l 0)) (if b = true then 1 else 0)
        rw [g1]
        have W1r : addR W r l (-(W r 0).tdiv (W l 0)) r 0 = (W r 0).tmod (W l 0) := by unfold addR; rw [if_pos rfl, Int.tmod_def]; grind
        have W1o : ∀ a, a ≠ r → ∀ j, addR W r l (-(W r 0).tdiv (W l 0)) a j = W a j := fun a ha j => by unfold addR; rw [if_neg ha]
        have g1r : rg (addR W r l (-(W r 0).tdiv (W l 0)) r 0) := by rw [W1r]; exact rg_tmod (hg r r4)
        have hg' : ∀ a, a < 4 → rg (addR W r l (-(W r 0).tdiv (W l 0)) a 0) := fun a ha => by
          by_cases e : a = r
          · subst e; exact g1r
          · rw [W1o a e]; exact hg a ha
        generalize hW1 : addR W r l (-(W r 0).tdiv (W l 0)) = W1 at *
        have key : m_X3_leavesNone_152 f k4 (m_X3_leavesNone_64 f k4 n) u1 (if b = true then 1 else 0) (ni l) (ni r) = m_X3_leavesNone_64 f k4 n u1 (if (b || decide (W1 r 0 ≠ 0)) = true then 1 else 0) (ni l) (ni (r + 1)) := by
          unfold m_X3_leavesNone_152 m_X3_leavesNone_169 m_X3_leavesNone_174 m_X3_leavesNone_175
          simp only [nmv_eq, ni_succ]
          cases b with
          | true => simp
          | false =>
            rw [if_neg (by simp), i4z, gd_of (ix_ni (by omega) (by decide)), ni_clamp (by omega), g2 r 0 r4 (by decide)]
            by_cases hz1 : W1 r 0 = 0
            · rw [if_pos (show li (W1 r 0) = 0 by rw [hz1]; rfl)]; simp [hz1]
            · rw [if_neg (show ¬ li (W1 r 0) = 0 from fun e => hz1 ((li_inj g1r rg_0).mp e))]; simp [hz1]
        rw [key]
        obtain ⟨u', e1, e2, e3⟩ := ih n (r + 1) u1 W1 (b || decide (W1 r 0 ≠ 0)) (by omega) (by omega) g2 (hF.tr g3) (by rw [W1o l (Ne.symm hrl)]; exact hlp) hg'
        refine ⟨u', ?_, e2, e3⟩
        rw [e1]
        conv => rhs; unfold wmr
        rw [wps_row k (r + 1) W1 r 0 (by omega) (by omega)]
        by_cases hz1 : W1 r 0 = 0
        · rw [if_neg (show ¬ (r ≠ l ∧ W1 r 0 ≠ 0) from fun h => h.2 hz1)]; simp [hz1]
        · rw [if_pos (show (r ≠ l ∧ W1 r 0 ≠ 0) from ⟨hrl, hz1⟩)]; simp [hz1]
theorem X3_ln12 {f : Nat} {k4 : TS → Int32 → Int32 → Option TS} {u : TS} {W : Mi} (hW : tW u W) (hg : ∀ a, a < 4 → rg (W a 0)) (x1 : Int32) : ∀ k n l r, r + k = 4 → k < n → l < 4 → m_X3_leavesNone_12 f k4 n u x1 (ni l) (ni r) = m_X3_leavesNone_62 f k4 u x1 (ni (wls W k l r)) := by
  intro k
  induction k with
  | zero =>
    intro n l r hr hn _
    obtain ⟨n, rfl⟩ : ∃ z, n = z + 1 := ⟨n - 1, by omega⟩
    have : r = 4 := by omega
    subst this
    rw [m_X3_leavesNone_12, if_pos (show (4 : Int32) ≤ ni 4 from lekk 4)]
    rfl
  | succ k ih =>
    intro n l r hr hn hl
    obtain ⟨n, rfl⟩ : ∃ z, n = z + 1 := ⟨n - 1, by omega⟩
    have r4 : r < 4 := by omega
    rw [m_X3_leavesNone_12, if_neg (show ¬ (4 : Int32) ≤ ni r from lek (by decide) r4), i4z, gd_of (ix_ni (by omega) (by decide)), ni_clamp (by omega), hW r 0 r4 (by decide)]
    unfold m_X3_leavesNone_54 m_X3_leavesNone_55
    simp only [nmv_eq, ni_succ]
    unfold wls
    by_cases hz : W r 0 = 0
    · rw [if_pos (show li (W r 0) = 0 by rw [hz]; rfl), if_neg (show ¬ (W r 0 ≠ 0 ∧ _) from fun h => h.1 hz)]
      exact ih n l (r + 1) (by omega) (by omega) hl
    · rw [if_neg (show ¬ li (W r 0) = 0 from fun e => hz ((li_inj (hg r r4) rg_0).mp e)), gd_of (ix_ni (by omega) (by decide)), i4z, gd_of (ix_ni (by omega) (by decide)), ni_clamp (by omega), hW l 0 hl (by decide)]
      by_cases hle : W l 0 ≤ W r 0
      · rw [if_pos ((li_le (hg l hl) (hg r r4)).mpr hle), if_neg (show ¬ (W r 0 ≠ 0 ∧ W r 0 < W l 0) from fun h => by omega)]
        exact ih n l (r + 1) (by omega) (by omega) hl
      · rw [if_neg (fun e => hle ((li_le (hg l hl) (hg r r4)).mp e)), if_pos (show (W r 0 ≠ 0 ∧ W r 0 < W l 0) from ⟨hz, by omega⟩)]
        exact ih n r (r + 1) (by omega) (by omega) r4
theorem X3_ln4 {f : Nat} (hf : 6 ≤ f) {u0 : TS} : ∀ k n u W l, k + 1 < n → tW u W → Fr [33] u0 u → l < 4 → 0 < W l 0 → (∀ a, a < 4 → 0 ≤ W a 0 ∧ W a 0 < 2 ^ 62) → w0 W ≤ k → ∃ u', m_X3_leavesNone_4 f n u 1 (ni l) = m_X3_leavesNone_184 f u' (ni (wgo k W l).2) ∧ tW u' (wgo k W l).1 ∧ Fr [33] u0 u' := by
  intro k
  induction k with
  | zero =>
    intro n u W l _ _ _ hl h0 hn hw
    have : (W l 0).toNat ≤ w0 W := by unfold w0; rcases c4 hl with rfl | rfl | rfl | rfl <;> omega
    omega
  | succ k ih =>
    intro n u W l hkn hW hF hl h0 hn hw
    obtain ⟨n, rfl⟩ : ∃ z, n = z + 1 := ⟨n - 1, by omega⟩
    have hg : ∀ a, a < 4 → rg (W a 0) := fun a ha => by have := hn a ha; exact ⟨by omega, by omega⟩
    rw [m_X3_leavesNone_4, if_neg (show ¬ (1 : Int32) = 0 by decide)]
    have e12 := X3_ln12 (f := f) (k4 := m_X3_leavesNone_4 f n) hW hg 0 4 f l 0 rfl (by omega) hl
    have e12' : m_X3_leavesNone_12 f (m_X3_leavesNone_4 f n) f u 0 (ni l) 0 = _ := e12
    rw [e12']
    unfold m_X3_leavesNone_62
    obtain ⟨a1, a2, a3, a4⟩ := wls_ok 4 l 0 rfl hl h0 (fun a ha => (hn a ha).1)
    unfold wgo
    generalize wls W 4 l 0 = l1 at *
    obtain ⟨b1, b2, b3⟩ := wps_col a1 a2 (fun a ha => (hn a ha).1)
    obtain ⟨u1, g1, g2, g3⟩ := X3_ln64 (f := f) (k4 := m_X3_leavesNone_4 f n) hf (u0 := u0) a1 (p := W l1 0) (by omega) (hg l1 a1) 4 f 0 u W false rfl (by omega) hW hF rfl hg
    have g1' : m_X3_leavesNone_64 f (m_X3_leavesNone_4 f n) f u 0 (ni l1) 0 = _ := g1
    rw [g1', Bool.false_or]
    generalize hW1 : wps l1 4 0 W = W1 at *
    cases hm : wmr W1 l1 4 0 with
    | false =>
      simp only [Bool.false_eq_true, if_false]
      refine ⟨u1, ?_, g2, g3⟩
      obtain ⟨n, rfl⟩ : ∃ z, n = z + 1 := ⟨n - 1, by omega⟩
      rw [m_X3_leavesNone_4, if_pos rfl]
    | true =>
      simp only [if_true]
      obtain ⟨a, c1, c2, c3', c4'⟩ := wmr_ex 4 0 rfl hm
      refine ih n u1 W1 l1 (by omega) g2 g3 a1 (by omega) (fun a ha => by have := b1 a ha; have := hn a ha; omega) ?_
      have lt : W1 a 0 < W a 0 := by
        have q1 := b3 a c2 c3'
        have q2 := (b1 a c2).1
        rcases a4 a (by omega) c2 with q | q
        · have := (b1 a c2).2; omega
        · omega
      have s0 := b1 0 (by decide)
      have s1 := b1 1 (by decide)
      have s2 := b1 2 (by decide)
      have s3 := b1 3 (by decide)
      unfold w0 at hw ⊢
      rcases c4 c2 with rfl | rfl | rfl | rfl <;> omega
/-- the rows left are laid -/
theorem X3_ln198 {f : Nat} (hf : 6 ≤ f) {k189 : TS → Int32 → Int32 → Int32 → Option TS} {u : TS} {W : Mi} (hW : tW u W) {r l m : Nat} (hr : r < 4) (hl : l < 4) (hm : r ≠ l → m < 3) : ∃ u', m_X3_leavesNone_198 f k189 f u (ni l) (ni m) (ni r) 0 = k189 u' (ni l) (ni (if r = l then m else m + 1)) (ni (r + 1)) ∧ (r ≠ l → ∀ i, i < 3 → tB u' 32 (3 * m + i) = li (W r (i + 1))) ∧ (∀ x, x < 3 * m → tB u' 32 x = tB u 32 x) ∧ Fr [32] u u' := by
  obtain ⟨n, rfl⟩ : ∃ z, f = z + 1 := ⟨f - 1, by omega⟩
  by_cases hrl : r = l
  · subst hrl
    refine ⟨u, ?_, fun h => absurd rfl h, fun x _ => rfl, Fr.rf⟩
    rw [m_X3_leavesNone_198, if_neg (by decide), if_pos rfl]
    unfold m_X3_leavesNone_241 m_X3_leavesNone_253
    rw [if_neg (fun h => h rfl), if_pos rfl]
    simp only [nmv_eq, Int32.add_zero, ni_succ]
  · have hm3 := hm hrl
    obtain ⟨u2, p2, e2⟩ := loop3v (fun k v x => m_X3_leavesNone_198 (n + 1) k189 k v (ni l) (ni m) (ni r) x) (fun v => k189 v (ni l) (ni (m + 1)) (ni (r + 1))) (fun j v => (∀ i, i < j → tB v 32 (3 * m + i) = li (W r (i + 1))) ∧ (∀ x, x < 3 * m → tB v 32 x = tB u 32 x) ∧ Fr [32] u v)
      (fun k v _ => by
        rw [m_X3_leavesNone_198, if_pos le33]
        unfold m_X3_leavesNone_241 m_X3_leavesNone_253
        rw [if_pos (fun e => hrl ((nie (by omega) (by omega)).mp e))]
        simp only [nmv_eq, ni_succ])
      (fun k v j hj p => by
        obtain ⟨a1, a2, a3⟩ := p
        have hW' := hW.fr a3 (by decide)
        refine ⟨sB v 32 (3 * m + j) (li (W r (j + 1))), ?_, fun i hi => ?_, fun x hx => ?_, a3.tr (Fr.sB (by decide))⟩
        · rw [m_X3_leavesNone_198, if_neg (le3 hj), if_neg (fun e => hrl ((nie (by omega) (by omega)).mp e)), i4p, gd_of (ix_ni (by omega) (by decide)), i3, gd_of (ix_ni (by omega) (by decide)), nmv_eq, nmv_eq, ni_clamp (by omega), ni_clamp (by omega), hW' r (j + 1) hr (by omega), ni_succ]
        · rw [tB_sB]
          by_cases e : i = j
          · subst e; rw [if_pos ⟨rfl, rfl⟩]
          · rw [if_neg (by omega)]; exact a1 i (by omega)
        · rw [tB_sB, if_neg (by omega)]; exact a2 x hx)
      (by omega) (n := n + 1) (v := u) ⟨fun i hi => by omega, fun x _ => rfl, Fr.rf⟩
    have e3 : m_X3_leavesNone_198 (n + 1) k189 (n + 1) u (ni l) (ni m) (ni r) 0 = _ := e2
    exact ⟨u2, by rw [e3, if_neg hrl], fun _ => p2.1, p2.2⟩
theorem X3_leavesNone {f : Nat} (hf : 2 ^ 63 ≤ f) {u : TS} {W : Mi} {n : Nat} (hn : n ≤ 2 ^ 60) (hW : tW u W) (h0 : 0 < W 3 0) (hc : ∀ a, a < 4 → 0 ≤ W a 0 ∧ W a 0 < 2 ^ 62) (hw : w0 W ≤ n) (hok : runOk 100 (tlW (wgo n W 3).1 (wgo n W 3).2, [])) : ∃ u', m_X3_leavesNone f u = some u' ∧ tR 32 u' (hrun 100 (tlW (wgo n W 3).1 (wgo n W 3).2, [])).1 ∧ Fr [18, 21, 22, 23, 24, 25, 32, 33] u u' := by
  have f6 : 6 ≤ f := by omega
  unfold m_X3_leavesNone
  obtain ⟨u1, e1, e2, e3⟩ := X3_ln4 (f := f) f6 (u0 := u) n f u W 3 (by omega) hW Fr.rf (by decide) h0 hc hw
  have e1' : m_X3_leavesNone_4 f f u 1 3 = _ := e1
  rw [e1']
  obtain ⟨hl, _⟩ := wgo_ok (Pr := fun _ => True) (fun _ _ _ _ _ _ _ _ => trivial) n W 3 (by decide) h0 (fun a ha => (hc a ha).1) hw trivial
  generalize wgo n W 3 = WW at *
  unfold m_X3_leavesNone_184
  -- four rows
  have cn : ∀ r, r ≤ 4 → (if r ≤ WW.2 then r else r - 1) ≤ 3 := fun r hr => by split <;> omega
  obtain ⟨v2, p2, q2⟩ := loopn (fun n (v : TS × Nat) x => m_X3_leavesNone_189 f n v.1 (ni WW.2) (ni v.2) x) (fun v => m_X3_leavesNone_261 f v.1) (fun r v => v.2 = (if r ≤ WW.2 then r else r - 1) ∧ (∀ a i, a < v.2 → i < 3 → tB v.1 32 (3 * a + i) = li (tlW WW.1 WW.2 a i)) ∧ Fr [32] u1 v.1) 4
    (fun n v _ => by rw [m_X3_leavesNone_189, if_pos (show (4 : Int32) ≤ ni 4 from lekk 4)])
    (fun n v r hr p => by
      obtain ⟨b1, b2, b3⟩ := p
      have hm : r ≠ WW.2 → v.2 < 3 := fun hne => by rw [b1]; split <;> omega
      obtain ⟨u4, c1, c2, c3', c4'⟩ := X3_ln198 (f := f) f6 (k189 := m_X3_leavesNone_189 f n) (e2.fr b3 (by decide)) hr hl hm
      refine ⟨(u4, if r = WW.2 then v.2 else v.2 + 1), ?_, ?_, fun a i ha hi => ?_, b3.tr c4'⟩
      · rw [m_X3_leavesNone_189, if_neg (show ¬ (4 : Int32) ≤ ni r from lek (by decide) hr)]
        exact c1
      · show (if r = WW.2 then v.2 else v.2 + 1) = _
        rw [b1]; split <;> split <;> (try split) <;> omega
      · have ha' : a < (if r = WW.2 then v.2 else v.2 + 1) := ha
        by_cases h5 : a < v.2
        · rw [c3' _ (by omega)]; exact b2 a i h5 hi
        · by_cases h6 : r = WW.2
          · rw [if_pos h6] at ha'; omega
          · rw [if_neg h6] at ha'
            have : a = v.2 := by omega
            subst this
            rw [c2 h6 i hi]
            show _ = li (WW.1 (sk WW.2 v.2) (i + 1))
            have : sk WW.2 v.2 = r := by unfold sk; rw [b1]; split <;> split <;> omega
            rw [this])
    4 f (u1, 0) 0 rfl (by omega) ⟨by simp, fun a i ha => by omega, Fr.rf⟩
  have q2' : m_X3_leavesNone_189 f f u1 (ni WW.2) 0 0 = m_X3_leavesNone_261 f v2.1 := q2
  rw [q2']
  obtain ⟨b1, b2, b3⟩ := p2
  have v3 : v2.2 = 3 := by rw [b1]; split <;> omega
  have hR : tR 32 v2.1 (tlW WW.1 WW.2) := fun i j hi hj => b2 i j (by omega) hj
  unfold m_X3_leavesNone_261
  obtain ⟨u6, d1, d2, d3⟩ := X3_smallens (by omega) (show 100 < f by omega) hR hok
  rw [d1, bd_some]
  exact ⟨u6, rfl, d2, ((e3.mono (by decide)).tr (b3.mono (by decide))).tr (d3.mono (by decide))⟩
