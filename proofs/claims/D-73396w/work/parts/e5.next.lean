/-! reading: the twin's pieces -/
set_option maxRecDepth 100000
/-- the tape, n places of it -/
def tTp (u : TS) (b : Nat → Nat) (n : Nat) : Prop := tI u 4 = ni n ∧ n ≤ 500 ∧ ∀ i, i < n → b i < 256 ∧ tA u 3 i = ni (b i)
def tkT (k : Nat) : Nat := if k = 4 then 3 else if k = 5 then 4 else k
def tLx (u : TS) (b : Nat → Nat) (s : Lx) : Prop := tI u 11 = ni s.2.2 ∧ tI u 12 = ni s.2.1 ∧ tI u 13 = ni (tkT s.1) ∧ (s.1 = 2 → tI u 14 = ni (min 99999 (val b s)))
theorem in_n {f : Nat} {c lo hi : Nat} (hc : c < 2 ^ 31) (h1 : lo < 2 ^ 31) (h2 : hi < 2 ^ 31) : m_X3_in f (Int32.toInt64 (ni c)) (Int32.toInt64 (ni lo)) (Int32.toInt64 (ni hi)) = some (if lo ≤ c ∧ c ≤ hi then 1 else 0) := by
  rw [toL, toL, toL, ni_toInt hc, ni_toInt h1, ni_toInt h2, in_li (rg_nat.mpr (by rw [Int.natAbs_natCast]; omega)) (rg_nat.mpr (by rw [Int.natAbs_natCast]; omega)) (rg_nat.mpr (by rw [Int.natAbs_natCast]; omega))]
  unfold inI
  by_cases h : lo ≤ c ∧ c ≤ hi
  · rw [if_pos h, if_pos (decide_eq_true (by omega))]
  · rw [if_neg h, if_neg (fun hh => h (by have := of_decide_eq_true hh; omega))]
theorem X3_isAt {f : Nat} {u : TS} {b : Nat → Nat} {n p : Nat} (T : tTp u b n) (hp : tI u 11 = ni p) (hn : p ≤ n) {lo hi : Nat} (h1 : lo < 2 ^ 31) (h2 : hi < 2 ^ 31) : m_X3_isAt f u (ni lo) (ni hi) = some (if p < n ∧ (lo ≤ b p ∧ b p ≤ hi) then 1 else 0, u) := by
  obtain ⟨t1, t2, t3⟩ := T
  unfold m_X3_isAt
  rw [t1, hp]
  by_cases hlt : p < n
  · obtain ⟨b1, b2⟩ := t3 p hlt
    rw [if_neg (show ¬ ni n ≤ ni p from fun hh => by have := (ni_le (by omega) (by omega)).mp hh; omega), gd_of (ix_ni (show p < 500 by omega) (by decide)), ni_clamp (by omega), b2, in_n (by omega) h1 h2, bd_some]
    by_cases hc : lo ≤ b p ∧ b p ≤ hi
    · rw [if_pos hc, if_pos (show p < n ∧ lo ≤ b p ∧ b p ≤ hi from ⟨hlt, hc⟩)]; rfl
    · rw [if_neg hc, if_neg (show ¬ (p < n ∧ lo ≤ b p ∧ b p ≤ hi) from fun hh => hc hh.2)]; rfl
  · rw [if_pos (show ni n ≤ ni p from (ni_le (by omega) (by omega)).mpr (by omega)), if_neg (fun hh => hlt hh.1)]; rfl
theorem tTp.fr {l : List Nat} {u v : TS} {b : Nat → Nat} {n : Nat} (T : tTp u b n) (a : Fr l u v) (h3 : 3 ∉ l) (h4 : 4 ∉ l) : tTp v b n := ⟨by rw [(a 4 h4).1]; exact T.1, T.2.1, fun i hi => ⟨(T.2.2 i hi).1, by rw [(a 3 h3).2.2.1]; exact (T.2.2 i hi).2⟩⟩
/-- letters are gone behind -/
theorem X3_n83 {f : Nat} {b : Nat → Nat} {n : Nat} : ∀ k p m u, p + k = n → k < m → tTp u b n → tI u 11 = ni p → ∃ u', m_X3_next_83 f m u = some u' ∧ tI u' 11 = ni (stp isLet b n p) ∧ Fr [11] u u' := by
  intro k
  induction k with
  | zero =>
    intro p m u hp hm T h11
    obtain ⟨m, rfl⟩ : ∃ z, m = z + 1 := ⟨m - 1, by omega⟩
    have a := X3_isAt (f := f) T h11 (by omega) (lo := 97) (hi := 122) (by decide) (by decide)
    rw [if_neg (fun hh => by omega)] at a
    rw [m_X3_next_83, show (97 : Int32) = ni 97 from rfl, show (122 : Int32) = ni 122 from rfl, a, bd2_some, if_pos rfl, stp_n (fun hh => by omega)]
    exact ⟨u, rfl, h11, Fr.rf⟩
  | succ k ih =>
    intro p m u hp hm T h11
    obtain ⟨m, rfl⟩ : ∃ z, m = z + 1 := ⟨m - 1, by omega⟩
    have a := X3_isAt (f := f) T h11 (by omega) (lo := 97) (hi := 122) (by decide) (by decide)
    by_cases hc : 97 ≤ b p ∧ b p ≤ 122
    · rw [if_pos ⟨by omega, hc⟩] at a
      rw [m_X3_next_83, show (97 : Int32) = ni 97 from rfl, show (122 : Int32) = ni 122 from rfl, a, bd2_some, if_neg (by decide), nmv_eq, h11, ni_succ]
      obtain ⟨u', i1, i2, i3'⟩ := ih (p + 1) m (sI u 11 (ni (p + 1))) (by omega) (by omega) (T.fr (Fr.sI (l := [11]) (by decide)) (by decide) (by decide)) (by rw [tI_sI, if_pos rfl])
      refine ⟨u', i1, ?_, (Fr.sI (by decide)).tr i3'⟩
      rw [stp_y (by omega) (decide_eq_true hc)]; exact i2
    · rw [if_neg (fun hh => hc hh.2)] at a
      rw [m_X3_next_83, show (97 : Int32) = ni 97 from rfl, show (122 : Int32) = ni 122 from rfl, a, bd2_some, if_pos rfl, stp_n (fun hh => hc (of_decide_eq_true hh.2))]
      exact ⟨u, rfl, h11, Fr.rf⟩
theorem dg_st {m v d : Nat} (hm : m ≤ 99999) (hm9 : 9 ≤ m) (hd : 48 ≤ d ∧ d ≤ 57) {f : Nat} : m_J9_min f (ni m) ((((10 : Int32) * ni (min m v)) + ni d) - (48 : Int32)) = some (ni (min m (10 * v + (d - 48)))) := by
  have e : (((10 : Int32) * ni (min m v)) + ni d) - (48 : Int32) = ni (10 * (min m v) + (d - 48)) := by
    rw [show (10 : Int32) = ni 10 from rfl, show (48 : Int32) = ni 48 from rfl]
    rw [show 10 * min m v + (d - 48) = (10 * min m v + d) - 48 by omega]
    show Int32.ofNat 10 * Int32.ofNat (min m v) + Int32.ofNat d - Int32.ofNat 48 = Int32.ofNat (10 * min m v + d - 48)
    rw [← Int32.ofNat_mul, ← Int32.ofNat_add, Int32.ofNat_sub (10 * min m v + d) 48 (by omega)]
  rw [e]
  unfold m_J9_min m_J9_min_10
  by_cases hh : 10 * min m v + (d - 48) < m
  · rw [if_pos ((ni_lt (by omega) (by omega)).mpr hh)]
    congr 2; omega
  · rw [if_neg (fun q => hh ((ni_lt (by omega) (by omega)).mp q))]
    congr 2; omega
theorem dv_succ (b : Nat → Nat) (q k : Nat) : dv b q (k + 1) = 10 * dv b q k + (b (q + k) - 48) := rfl
/-- digits are gone behind -/
theorem X3_n123 {f : Nat} {b : Nat → Nat} {n q : Nat} : ∀ k p m u, p + k = n → k < m → q ≤ p → tTp u b n → tI u 11 = ni p → tI u 14 = ni (min 99999 (dv b q (p - q))) → ∃ u', m_X3_next_123 f m u = some u' ∧ tI u' 11 = ni (stp isDig b n p) ∧ tI u' 14 = ni (min 99999 (dv b q (stp isDig b n p - q))) ∧ Fr [11, 14] u u' := by
  intro k
  induction k with
  | zero =>
    intro p m u hp hm hq T h11 h14
    obtain ⟨m, rfl⟩ : ∃ z, m = z + 1 := ⟨m - 1, by omega⟩
    have a := X3_isAt (f := f) T h11 (by omega) (lo := 48) (hi := 57) (by decide) (by decide)
    rw [if_neg (fun hh => by omega)] at a
    rw [m_X3_next_123, show (48 : Int32) = ni 48 from rfl, show (57 : Int32) = ni 57 from rfl, a, bd2_some, if_pos rfl, stp_n (fun hh => by omega)]
    exact ⟨u, rfl, h11, h14, Fr.rf⟩
  | succ k ih =>
    intro p m u hp hm hq T h11 h14
    obtain ⟨m, rfl⟩ : ∃ z, m = z + 1 := ⟨m - 1, by omega⟩
    have a := X3_isAt (f := f) T h11 (by omega) (lo := 48) (hi := 57) (by decide) (by decide)
    rw [show (ni 48 : Int32) = 48 from rfl, show (ni 57 : Int32) = 57 from rfl] at a
    by_cases hc : 48 ≤ b p ∧ b p ≤ 57
    · rw [if_pos ⟨by omega, hc⟩] at a
      obtain ⟨t1, t2, t3⟩ := T
      obtain ⟨b1, b2⟩ := t3 p (by omega)
      rw [m_X3_next_123, a, bd2_some, if_neg (by decide), h11, gd_of (ix_ni (show p < 500 by omega) (by decide)), ni_clamp (by omega), b2, h14, show (99999 : Int32) = ni 99999 from rfl, dg_st (by omega) (by omega) hc, bd_some, nmv_eq, nmv_eq]
      have e11 : tI (sI u 14 (ni (min 99999 (10 * dv b q (p - q) + (b p - 48))))) 11 = ni p := by rw [tI_sI, if_neg (by decide)]; exact h11
      rw [e11, ni_succ]
      obtain ⟨u', i1, i2, i3', i4⟩ := ih (p + 1) m (sI (sI u 14 (ni (min 99999 (10 * dv b q (p - q) + (b p - 48))))) 11 (ni (p + 1))) (by omega) (by omega) (by omega) ((tTp.fr (l := [11, 14]) (T := ⟨t1, t2, t3⟩) (Fr.sI (by decide)) (by decide) (by decide)).fr (Fr.sI (l := [11, 14]) (by decide)) (by decide) (by decide)) (by rw [tI_sI, if_pos rfl]) (by
        rw [tI_sI, if_neg (by decide), tI_sI, if_pos rfl, show p + 1 - q = (p - q) + 1 by omega, dv_succ, show q + (p - q) = p by omega])
      refine ⟨u', i1, ?_, ?_, ((Fr.sI (by decide)).tr (Fr.sI (by decide))).tr i4⟩
      · rw [stp_y (by omega) (decide_eq_true hc)]; exact i2
      · rw [stp_y (by omega) (decide_eq_true hc)]; exact i3'
    · rw [if_neg (fun hh => hc hh.2)] at a
      rw [m_X3_next_123, a, bd2_some, if_pos rfl, stp_n (fun hh => hc (of_decide_eq_true hh.2))]
      exact ⟨u, rfl, h11, h14, Fr.rf⟩
theorem X3_n35 {f : Nat} (hf : 501 < f) {u : TS} {b : Nat → Nat} {n p : Nat} (T : tTp u b n) (h11 : tI u 11 = ni p) (hp : p ≤ n) : ∃ u', m_X3_next_35 f u = some u' ∧ tLx u' b (nxk b n p) ∧ Fr [11, 12, 13, 14] u u' := by
  have n5 := T.2.1
  unfold m_X3_next_35
  rw [nmv_eq, nmv_eq]
  have F2 : Fr [11, 12, 13, 14] u (sI (sI u 12 (tI u 11)) 14 0) := (Fr.sI (by decide)).tr (Fr.sI (by decide))
  have T2 := T.fr F2 (by decide) (by decide)
  have e11 : tI (sI (sI u 12 (tI u 11)) 14 0) 11 = ni p := by rw [tI_sI, if_neg (by decide), tI_sI, if_neg (by decide)]; exact h11
  have e12 : tI (sI (sI u 12 (tI u 11)) 14 0) 12 = ni p := by rw [tI_sI, if_neg (by decide), tI_sI, if_pos rfl]; exact h11
  have e14 : tI (sI (sI u 12 (tI u 11)) 14 0) 14 = 0 := by rw [tI_sI, if_pos rfl]
  generalize sI (sI u 12 (tI u 11)) 14 0 = v at F2 T2 e11 e12 e14 ⊢
  have e4 := T2.1
  rw [e11, e4]
  unfold nxk
  by_cases h0 : n ≤ p
  · have : p = n := by omega
    subst this
    rw [if_neg (fun hh => hh rfl), if_pos (Nat.le_refl _), nmv_eq]
    refine ⟨sI v 13 0, rfl, ⟨by rw [tI_sI, if_neg (by decide)]; exact e11, by rw [tI_sI, if_neg (by decide)]; exact e12, by rw [tI_sI, if_pos rfl]; rfl, fun h => by cases h⟩, F2.tr (Fr.sI (by decide))⟩
  · rw [if_pos (fun hh => h0 (by have := (ni_inj (by omega) (by omega)).mp hh; omega)), if_neg h0]
    have hlt : p < n := by omega
    have a1 := X3_isAt (f := f) T2 e11 hp (lo := 97) (hi := 122) (by decide) (by decide)
    by_cases c1 : 97 ≤ b p ∧ b p ≤ 122
    · rw [if_pos ⟨hlt, c1⟩] at a1
      rw [show (97 : Int32) = ni 97 from rfl, show (122 : Int32) = ni 122 from rfl, a1, bd2_some, if_neg (by decide), if_pos (show isLet (b p) = true from decide_eq_true c1), nmv_eq]
      obtain ⟨u', i1, i2, i3'⟩ := X3_n83 (f := f) (b := b) (n := n) (n - p) p f (sI v 13 1) (by omega) (by omega) (T2.fr (Fr.sI (l := [13]) (by decide)) (by decide) (by decide)) (by rw [tI_sI, if_neg (by decide)]; exact e11)
      refine ⟨u', i1, ⟨i2, by rw [(i3' 12 (by decide)).1, tI_sI, if_neg (by decide)]; exact e12, by rw [(i3' 13 (by decide)).1, tI_sI, if_pos rfl]; rfl, fun h => by cases h⟩, (F2.tr (Fr.sI (by decide))).tr (i3'.mono (by decide))⟩
    · rw [if_neg (fun hh => c1 hh.2)] at a1
      rw [show (97 : Int32) = ni 97 from rfl, show (122 : Int32) = ni 122 from rfl, a1, bd2_some, if_pos rfl, if_neg (show ¬ isLet (b p) = true from fun hh => c1 (of_decide_eq_true hh))]
      have a2 := X3_isAt (f := f) T2 e11 hp (lo := 48) (hi := 57) (by decide) (by decide)
      by_cases c2 : 48 ≤ b p ∧ b p ≤ 57
      · rw [if_pos ⟨hlt, c2⟩] at a2
        rw [show (48 : Int32) = ni 48 from rfl, show (57 : Int32) = ni 57 from rfl, a2, bd2_some, if_neg (by decide), if_pos (show isDig (b p) = true from decide_eq_true c2), nmv_eq]
        obtain ⟨u', i1, i2, i3', i4⟩ := X3_n123 (f := f) (b := b) (n := n) (q := p) (n - p) p f (sI v 13 2) (by omega) (by omega) (Nat.le_refl _) (T2.fr (Fr.sI (l := [13]) (by decide)) (by decide) (by decide)) (by rw [tI_sI, if_neg (by decide)]; exact e11) (by rw [tI_sI, if_neg (by decide), Nat.sub_self]; exact e14)
        refine ⟨u', i1, ⟨i2, by rw [(i4 12 (by decide)).1, tI_sI, if_neg (by decide)]; exact e12, by rw [(i4 13 (by decide)).1, tI_sI, if_pos rfl]; rfl, fun _ => i3'⟩, (F2.tr (Fr.sI (by decide))).tr (i4.mono (by decide))⟩
      · rw [if_neg (fun hh => c2 hh.2)] at a2
        rw [show (48 : Int32) = ni 48 from rfl, show (57 : Int32) = ni 57 from rfl, a2, bd2_some, if_pos rfl, if_neg (show ¬ isDig (b p) = true from fun hh => c2 (of_decide_eq_true hh))]
        have a3 := X3_isAt (f := f) T2 e11 hp (lo := 59) (hi := 59) (by decide) (by decide)
        unfold m_X3_next_199 m_X3_next_204
        have fin : ∀ t k, (3 ≤ k ∧ k ≤ 5) → t = ni (tkT k) → ∃ u', (nmv (sI v 13 t) fun u1 => nmv (sI u1 11 ((tI u1 11) + (1 : Int32))) fun u2 => m_X3_next_217 f u2) = some u' ∧ tLx u' b (k, p, p + 1) ∧ Fr [11, 12, 13, 14] u u' := fun t k hk ht => by
          rw [nmv_eq, nmv_eq, tI_sI, if_neg (by decide), e11, ni_succ]
          refine ⟨_, rfl, ⟨by rw [tI_sI, if_pos rfl], by rw [tI_sI, if_neg (by decide), tI_sI, if_neg (by decide)]; exact e12, by rw [tI_sI, if_neg (by decide), tI_sI, if_pos rfl]; exact ht, fun h => by have h2 : k = 2 := h; omega⟩, (F2.tr (Fr.sI (by decide))).tr (Fr.sI (by decide))⟩
        by_cases c3' : b p = 59
        · rw [if_pos ⟨hlt, by omega⟩] at a3
          rw [show (59 : Int32) = ni 59 from rfl, a3, bd2_some, if_pos (by decide), if_pos c3']
          exact fin 3 3 (by omega) rfl
        · rw [if_neg (fun hh => c3' (by omega))] at a3
          rw [show (59 : Int32) = ni 59 from rfl, a3, bd2_some, if_neg (fun hh => hh rfl), if_neg c3']
          have a4 := X3_isAt (f := f) T2 e11 hp (lo := 45) (hi := 45) (by decide) (by decide)
          by_cases c4 : b p = 45
          · rw [if_pos ⟨hlt, by omega⟩] at a4
            rw [show (45 : Int32) = ni 45 from rfl, a4, bd2_some, if_neg (by decide), if_pos c4]
            exact fin 3 4 (by omega) rfl
          · rw [if_neg (fun hh => c4 (by omega))] at a4
            rw [show (45 : Int32) = ni 45 from rfl, a4, bd2_some, if_pos rfl, if_neg c4]
            exact fin 4 5 (by omega) rfl
theorem X3_n0 {f : Nat} (hf : 501 < f) {b : Nat → Nat} {n : Nat} : ∀ k p m u, p + k = n → k < m → tTp u b n → tI u 11 = ni p → ∃ u', m_X3_next_0 f m u = some u' ∧ tLx u' b (nx b n p) ∧ Fr [11, 12, 13, 14] u u' := by
  intro k
  induction k with
  | zero =>
    intro p m u hp hm T h11
    obtain ⟨m, rfl⟩ : ∃ z, m = z + 1 := ⟨m - 1, by omega⟩
    have a := X3_isAt (f := f) T h11 (by omega) (lo := 32) (hi := 32) (by decide) (by decide)
    have a' := X3_isAt (f := f) T h11 (by omega) (lo := 10) (hi := 10) (by decide) (by decide)
    rw [if_neg (fun hh => by omega)] at a a'
    rw [m_X3_next_0, show (32 : Int32) = ni 32 from rfl, show (10 : Int32) = ni 10 from rfl, a, bd2_some, if_neg (fun hh => hh rfl), a', bd2_some, if_pos rfl]
    unfold nx
    rw [stp_n (fun hh => by omega)]
    exact X3_n35 hf T h11 (by omega)
  | succ k ih =>
    intro p m u hp hm T h11
    obtain ⟨m, rfl⟩ : ∃ z, m = z + 1 := ⟨m - 1, by omega⟩
    have a := X3_isAt (f := f) T h11 (by omega) (lo := 32) (hi := 32) (by decide) (by decide)
    have a' := X3_isAt (f := f) T h11 (by omega) (lo := 10) (hi := 10) (by decide) (by decide)
    have go : isSp (b p) = true → ∃ u', m_X3_next_22 f (m_X3_next_0 f m) u = some u' ∧ tLx u' b (nx b n p) ∧ Fr [11, 12, 13, 14] u u' := fun hc => by
      unfold m_X3_next_22
      rw [nmv_eq, h11, ni_succ]
      obtain ⟨u', i1, i2, i3'⟩ := ih (p + 1) m (sI u 11 (ni (p + 1))) (by omega) (by omega) (T.fr (Fr.sI (l := [11]) (by decide)) (by decide) (by decide)) (by rw [tI_sI, if_pos rfl])
      refine ⟨u', i1, ?_, (Fr.sI (by decide)).tr i3'⟩
      unfold nx at i2 ⊢
      rw [stp_y (by omega) hc]; exact i2
    by_cases c1 : b p = 32
    · rw [if_pos ⟨by omega, by omega⟩] at a
      rw [m_X3_next_0, show (32 : Int32) = ni 32 from rfl, show (10 : Int32) = ni 10 from rfl, a, bd2_some, if_pos (by decide)]
      exact go (decide_eq_true (.inl c1))
    · rw [if_neg (fun hh => c1 (by omega))] at a
      by_cases c2 : b p = 10
      · rw [if_pos ⟨by omega, by omega⟩] at a'
        rw [m_X3_next_0, show (32 : Int32) = ni 32 from rfl, show (10 : Int32) = ni 10 from rfl, a, bd2_some, if_neg (fun hh => hh rfl), a', bd2_some, if_neg (by decide)]
        exact go (decide_eq_true (.inr c2))
      · rw [if_neg (fun hh => c2 (by omega))] at a'
        rw [m_X3_next_0, show (32 : Int32) = ni 32 from rfl, show (10 : Int32) = ni 10 from rfl, a, bd2_some, if_neg (fun hh => hh rfl), a', bd2_some, if_pos rfl]
        unfold nx
        rw [stp_n (fun hh => by have := of_decide_eq_true hh.2; omega)]
        exact X3_n35 hf T h11 (by omega)
theorem X3_next {f : Nat} (hf : 501 < f) {u : TS} {b : Nat → Nat} {n p : Nat} (T : tTp u b n) (h11 : tI u 11 = ni p) (hp : p ≤ n) : ∃ u', m_X3_next f u = some u' ∧ tLx u' b (nx b n p) ∧ Fr [11, 12, 13, 14] u u' := X3_n0 hf (n - p) p f u (by omega) (by have := T.2.1; omega) T h11
