set_option maxRecDepth 100000
/-! the way to the one form: each round -/
def m3 (N : Mi) : M3 := ((N 0 0, N 0 1, N 0 2), (N 1 0, N 1 1, N 1 2), (N 2 0, N 2 1, N 2 2))
theorem det_m3 (N : Mi) : det (m3 N) = dtf N := rfl
theorem eqL.rf (A : M3) : eqL A A := fun _ => Iff.rfl
theorem eqL.tr {A B C : M3} (h : eqL A B) (h' : eqL B C) : eqL A C := fun v => (h v).trans (h' v)
theorem eqL.sy {A B : M3} (h : eqL A B) : eqL B A := fun v => (h v).symm
theorem eqL_of {A B : M3} (a0 : inL B A.1) (a1 : inL B A.2.1) (a2 : inL B A.2.2) (b0 : inL A B.1) (b1 : inL A B.2.1) (b2 : inL A B.2.2) : eqL A B := fun _ => ⟨inL_lc a0 a1 a2, inL_lc b0 b1 b2⟩
theorem nd_abs {k : Nat} {z : Int} (h : (k : Int) ∣ z) : k ∣ z.natAbs := by have := Int.natAbs_dvd_natAbs.mpr h; simpa using this
theorem c3 {i : Nat} (h : i < 3) : i = 0 ∨ i = 1 ∨ i = 2 := by omega
def rw3 (N : Mi) (i : Nat) : V3 := (N i 0, N i 1, N i 2)
theorem inL_row (N : Mi) {i : Nat} (h : i < 3) : inL (m3 N) (rw3 N i) := by
  rcases c3 h with rfl | rfl | rfl
  · exact inL_0 (m3 N)
  · exact inL_1 (m3 N)
  · exact inL_2 (m3 N)
theorem eqL_rows {N N' : Mi} (h : ∀ i, i < 3 → inL (m3 N) (rw3 N' i)) (h' : ∀ i, i < 3 → inL (m3 N') (rw3 N i)) : eqL (m3 N) (m3 N') :=
  eqL_of (h' 0 (by decide)) (h' 1 (by decide)) (h' 2 (by decide)) (h 0 (by decide)) (h 1 (by decide)) (h 2 (by decide))
theorem eqL_add (N : Mi) {r o : Nat} (hr : r < 3) (ho : o < 3) (hne : r ≠ o) (t : Int) : eqL (m3 N) (m3 (addR N r o t)) := by
  refine eqL_rows (fun i hi => ?_) (fun i hi => ?_)
  · by_cases e : i = r
    · subst e
      have h := inL_add (inL_row N hi) (inL_sm t (inL_row N ho))
      have e2 : rw3 (addR N i o t) i = vad (rw3 N i) (vsm t (rw3 N o)) := by unfold rw3 addR vad vsm; simp
      rw [e2]; exact h
    · have e2 : rw3 (addR N r o t) i = rw3 N i := by unfold rw3 addR; simp [e]
      rw [e2]; exact inL_row N hi
  · have ho' : rw3 (addR N r o t) o = rw3 N o := by unfold rw3 addR; simp [Ne.symm hne]
    by_cases e : i = r
    · subst e
      have h := inL_add (inL_row (addR N i o t) hi) (inL_sm (-t) (inL_row (addR N i o t) ho))
      have e2 : rw3 N i = vad (rw3 (addR N i o t) i) (vsm (-t) (rw3 (addR N i o t) o)) := by
        rw [ho']; unfold rw3 addR vad vsm; simp
        refine ⟨?_, ?_, ?_⟩ <;> grind
      rw [e2]; exact h
    · have e2 : rw3 N i = rw3 (addR N r o t) i := by unfold rw3 addR; simp [e]
      rw [e2]; exact inL_row _ hi
theorem eqL_exc (N : Mi) {r o : Nat} (hr : r < 3) (ho : o < 3) : eqL (m3 N) (m3 (excR N r o)) := by
  refine eqL_rows (fun i hi => ?_) (fun i hi => ?_)
  · by_cases e : i = r
    · subst e
      have e2 : rw3 (excR N i o) i = rw3 N o := by unfold rw3 excR; simp
      rw [e2]; exact inL_row N ho
    · by_cases e' : i = o
      · subst e'
        have e2 : rw3 (excR N r i) i = rw3 N r := by unfold rw3 excR; simp [e]
        rw [e2]; exact inL_row N hr
      · have e2 : rw3 (excR N r o) i = rw3 N i := by unfold rw3 excR; simp [e, e']
        rw [e2]; exact inL_row N hi
  · by_cases e : i = r
    · subst e
      have e2 : rw3 N i = rw3 (excR N i o) o := by unfold rw3 excR; by_cases h : o = i <;> simp [h]
      rw [e2]; exact inL_row _ ho
    · by_cases e' : i = o
      · subst e'
        have e2 : rw3 N i = rw3 (excR N r i) r := by unfold rw3 excR; simp
        rw [e2]; exact inL_row _ hr
      · have e2 : rw3 N i = rw3 (excR N r o) i := by unfold rw3 excR; simp [e, e']
        rw [e2]; exact inL_row _ hi
theorem eqL_ovr (N : Mi) {r : Nat} (hr : r < 3) : eqL (m3 N) (m3 (ovrR N r)) := by
  refine eqL_rows (fun i hi => ?_) (fun i hi => ?_)
  · by_cases e : i = r
    · subst e
      have e2 : rw3 (ovrR N i) i = vsm (-1) (rw3 N i) := by unfold rw3 ovrR vsm; simp
      rw [e2]; exact inL_sm _ (inL_row N hi)
    · have e2 : rw3 (ovrR N r) i = rw3 N i := by unfold rw3 ovrR; simp [e]
      rw [e2]; exact inL_row N hi
  · by_cases e : i = r
    · subst e
      have e2 : rw3 N i = vsm (-1) (rw3 (ovrR N i) i) := by unfold rw3 ovrR vsm; simp
      rw [e2]; exact inL_sm _ (inL_row _ hi)
    · have e2 : rw3 N i = rw3 (ovrR N r) i := by unfold rw3 ovrR; simp [e]
      rw [e2]; exact inL_row _ hi
/-- what holds of rows c.. while column c is cleared -/
def Bnd (c : Nat) (sc X : Nat) (N : Mi) : Prop := (∀ i j, c ≤ i → i < 3 → c ≤ j → j < 3 → (N i j).natAbs ≤ X ∧ (sc : Int) ∣ N i j) ∧ ∀ i k j, c ≤ i → i < 3 → c ≤ k → k < 3 → c < j → j < 3 → (N i j * N k c - N k j * N i c).natAbs ≤ sc * X
/-- the pass: every row below loses so many of the pivot's -/
def pas (c : Nat) (N : Mi) : Mi := fun a b => if c < a ∧ a < 3 then N a b - (N a c).tdiv (N c c) * N c b else N a b
theorem hpass_fst (c : Nat) : ∀ k r s, c < r → r + k = 3 → ∀ a b, (hpass c k r s).1 a b = if r ≤ a ∧ a < 3 then s.1 a b - (s.1 a c).tdiv (s.1 c c) * s.1 c b else s.1 a b := by
  intro k
  induction k with
  | zero => intro r s _ hr a b; rw [if_neg (by omega)]; rfl
  | succ k ih =>
    intro r s hcr hr a b
    rw [hpass, ih (r + 1) _ (by omega) (by omega)]
    by_cases hz : s.1 r c = 0
    · simp only [hz, if_true]
      by_cases e : a = r
      · subst e
        rw [if_neg (by omega), if_pos ⟨Nat.le_refl _, by omega⟩, hz, Int.zero_tdiv, Int.zero_mul, Int.sub_zero]
      · have e' : (r + 1 ≤ a ∧ a < 3) ↔ (r ≤ a ∧ a < 3) := by omega
        simp only [e']
    · simp only [if_neg hz]
      have hc : (hadd s r c (-(s.1 r c).tdiv (s.1 c c))).1 c = s.1 c := by funext z; unfold hadd addR; simp; intro e; omega
      rw [hc]
      by_cases e : a = r
      · subst e
        rw [if_neg (by omega), if_pos ⟨Nat.le_refl _, by omega⟩]
        show addR s.1 a c (-(s.1 a c).tdiv (s.1 c c)) a b = _
        unfold addR
        rw [if_pos rfl]
        grind
      · have ha : (hadd s r c (-(s.1 r c).tdiv (s.1 c c))).1 a = s.1 a := by funext z; unfold hadd addR; simp [e]
        rw [ha]
        have e' : (r + 1 ≤ a ∧ a < 3) ↔ (r ≤ a ∧ a < 3) := by omega
        simp only [e']
theorem hpass_pas {c : Nat} (hc : c < 3) (s : HS) : (hpass c (2 - c) (c + 1) s).1 = pas c s.1 := by
  funext a b
  rw [hpass_fst c (2 - c) (c + 1) s (by omega) (by omega)]
  unfold pas
  have e' : (c + 1 ≤ a ∧ a < 3) ↔ (c < a ∧ a < 3) := by omega
  simp only [e']
theorem hpass_eqL {c : Nat} (hc : c < 3) : ∀ k r s, c < r → r + k = 3 → eqL (m3 s.1) (m3 (hpass c k r s).1) := by
  intro k
  induction k with
  | zero => intro r s _ _; exact eqL.rf _
  | succ k ih =>
    intro r s hcr hr
    rw [hpass]
    refine eqL.tr ?_ (ih (r + 1) _ (by omega) (by omega))
    split
    · exact eqL.rf _
    · exact eqL_add s.1 (by omega) hc (by omega) _
theorem Bnd_pas {c sc X : Nat} {N : Mi} (hc : c < 3) (h : Bnd c sc X N) (hz : N c c ≠ 0) : Bnd c sc X (pas c N) := by
  obtain ⟨h1, h2⟩ := h
  have hs : (sc : Int) ∣ N c c := (h1 c c (Nat.le_refl _) hc (Nat.le_refl _) hc).2
  have hsl : sc ≤ (N c c).natAbs := Nat.le_of_dvd (by omega) (nd_abs hs)
  have hW : sc * X ≤ X * (N c c).natAbs := by rw [Nat.mul_comm]; exact Nat.mul_le_mul_left _ hsl
  have ec : ∀ b, pas c N c b = N c b := fun b => by unfold pas; rw [if_neg (by omega)]
  have er : ∀ a b, c < a → a < 3 → pas c N a b = N a b - (N a c).tdiv (N c c) * N c b := fun a b h1 h2 => by unfold pas; rw [if_pos ⟨h1, h2⟩]
  have em : ∀ a, c < a → a < 3 → pas c N a c = (N a c).tmod (N c c) := fun a h1 h2 => by rw [er a c h1 h2, Int.tmod_def, Int.mul_comm]
  refine ⟨fun i j hci hi hcj hj => ?_, fun i k j hci hi hck hk hcj hj => ?_⟩
  · by_cases e : i = c
    · subst e; rw [ec]; exact h1 i j hci hi hcj hj
    · have ci : c < i := by omega
      obtain ⟨q1, q2⟩ := h1 i j hci hi hcj hj
      obtain ⟨p1, p2⟩ := h1 c j (Nat.le_refl _) hc hcj hj
      rw [er i j ci hi]
      refine ⟨?_, Int.dvd_sub q2 (Int.dvd_trans p2 (Int.dvd_mul_left _ _))⟩
      refine eu_col hz q1 ?_
      by_cases e2 : j = c
      · subst e2
        rw [Int.mul_comm, Int.sub_self]; simp
      · exact Nat.le_trans (h2 i c j hci hi (Nat.le_refl _) hc (by omega) hj) hW
  · by_cases e : i = c
    · subst e
      by_cases e' : k = i
      · subst e'; rw [Int.sub_self]; simp
      · have ck : i < k := by omega
        rw [ec, ec, er k j ck hk, em k ck hk]
        have e3 : N i j * (N k i).tmod (N i i) - (N k j - (N k i).tdiv (N i i) * N i j) * N i i = N i j * N k i - N k j * N i i := by rw [Int.tmod_def]; grind
        rw [e3]
        exact h2 i k j (Nat.le_refl _) hi hck hk hcj hj
    · have ci : c < i := by omega
      by_cases e' : k = c
      · subst e'
        rw [ec, ec, er i j ci hi, em i ci hi]
        have e3 : (N i j - (N i k).tdiv (N k k) * N k j) * N k k - N k j * (N i k).tmod (N k k) = N i j * N k k - N k j * N i k := by rw [Int.tmod_def]; grind
        rw [e3]
        exact h2 i k j hci hi (Nat.le_refl _) hk hcj hj
      · have ck : c < k := by omega
        rw [er i j ci hi, er k j ck hk, em i ci hi, em k ck hk]
        exact eu_two hz (h2 i c j hci hi (Nat.le_refl _) hc hcj hj) (h2 k c j hck hk (Nat.le_refl _) hc hcj hj) (h2 i k j hci hi hck hk hcj hj)
theorem Bnd.exc {c sc X b : Nat} {N : Mi} (hc : c < 3) (hcb : c ≤ b) (hb : b < 3) (h : Bnd c sc X N) : Bnd c sc X (excR N c b) := by
  obtain ⟨h1, h2⟩ := h
  let g : Nat → Nat := fun i => if i = c then b else if i = b then c else i
  have hg : ∀ i, c ≤ i → i < 3 → c ≤ g i ∧ g i < 3 := fun i h1 h2 => by simp only [g]; split <;> (try split) <;> omega
  have eg : ∀ i j, excR N c b i j = N (g i) j := fun i j => by unfold excR; simp only [g]; split <;> (try split) <;> rfl
  refine ⟨fun i j hci hi hcj hj => ?_, fun i k j hci hi hck hk hcj hj => ?_⟩
  · rw [eg]; exact h1 _ _ (hg i hci hi).1 (hg i hci hi).2 hcj hj
  · rw [eg, eg, eg, eg]; exact h2 _ _ _ (hg i hci hi).1 (hg i hci hi).2 (hg k hck hk).1 (hg k hck hk).2 hcj hj
