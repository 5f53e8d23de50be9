/-! turns sought: the twin's -/
set_option maxRecDepth 100000
def cdT (c : Nat) : Int32 := (1000 : Int32) * ni (c / 64) + (100 : Int32) * ni (c / 16 % 4) + (10 : Int32) * ni (c / 4 % 4) + ni (c % 4)
def hitT (A : Mi) (n : Int) (c : Nat) : Bool := decide (((tIx A c : Nat) : Int) = n)
def tst (A : Mi) (n : Int) (c : Nat) (s : Int32 × Int32) : Int32 × Int32 := if hitT A n c = true then (s.1 + 1, if s.2 = -1 then cdT c else s.2) else s
def trn (A : Mi) (n : Int) : Nat → Nat → Int32 × Int32 → Int32 × Int32
  | 0, _, s => s
  | k + 1, c, s => trn A n k (c + 1) (tst A n c s)
theorem cdT_ne {c : Nat} (hc : c < 256) : ¬ cdT c = -1 := by
  have e : cdT c = ni (1000 * (c / 64) + 100 * (c / 16 % 4) + 10 * (c / 4 % 4) + c % 4) := by
    unfold cdT
    rw [show (1000 : Int32) = ni 1000 from rfl, show (100 : Int32) = ni 100 from rfl, show (10 : Int32) = ni 10 from rfl, ← Int32.ofNat_mul, ← Int32.ofNat_mul, ← Int32.ofNat_mul, ← Int32.ofNat_add, ← Int32.ofNat_add, ← Int32.ofNat_add]
  rw [e]
  intro h
  have := congrArg Int32.toInt h
  rw [ni_toInt (by omega)] at this
  have : ((-1 : Int32)).toInt = -1 := rfl
  omega
theorem trn_2 {A : Mi} {n : Int} : ∀ k c s, s.2 ≠ -1 → (trn A n k c s).2 = s.2
  | 0, _, _, _ => rfl
  | k + 1, c, s, h => by
    show (trn A n k (c + 1) (tst A n c s)).2 = s.2
    have e : (tst A n c s).2 = s.2 := by
      unfold tst
      rw [if_neg h]
      split <;> rfl
    rw [trn_2 k (c + 1) _ (by rw [e]; exact h), e]
theorem li_eqI {t : Nat} (ht : t ≤ 2160) (n : Int32) : li (t : Nat) = Int32.toInt64 n ↔ ((t : Nat) : Int) = n.toInt := by
  rw [toL]; exact li_inj ⟨by omega, by omega⟩ (i32_rg n)
theorem X3_t17 {f : Nat} (hf : 2 ^ 63 ≤ f) {u0 : TS} {LS : LSt} (T : TV u0 LS) {l : Nat} {A : Mi} {o : Int} (hl : LS[l]? = some (A, o, false)) (LO : LatOk A o false) (n : Int32) : ∀ k m c u s, c + k = 256 → 1 ≤ c → k < m → Fr QF u0 u → ∃ u', m_X3_turned_17 f m u (ni l) n s.1 (ni c) = some ((trn A n.toInt k c s).1, u') ∧ Fr QF u0 u' := by
  intro k
  induction k with
  | zero =>
    intro m c u s hc h1 hm F
    obtain ⟨m, rfl⟩ : ∃ z, m = z + 1 := ⟨m - 1, by omega⟩
    have : c = 256 := by omega
    subst this
    rw [m_X3_turned_17, if_pos (show (256 : Int32) ≤ ni 256 from lekk 256)]
    exact ⟨u, rfl, F⟩
  | succ k ih =>
    intro m c u s hc h1 hm F
    obtain ⟨m, rfl⟩ : ∃ z, m = z + 1 := ⟨m - 1, by omega⟩
    have c2 : c < 256 := by omega
    obtain ⟨u2, e1, e2, e3⟩ := X3_indexOf (f := f) hf (T.fr F (by decide)) hl LO c2 h1
    rw [m_X3_turned_17, if_neg (show ¬ (256 : Int32) ≤ ni c from lek (by decide) c2), e1, bd2_some]
    obtain ⟨u', g1, g2⟩ := ih m (c + 1) u2 (tst A n.toInt c s) (by omega) (by omega) (by omega) (F.tr e3)
    refine ⟨u', ?_, g2⟩
    show _ = some ((trn A n.toInt k (c + 1) (tst A n.toInt c s)).1, u')
    rw [← g1]
    unfold m_X3_turned_44 tst hitT
    simp only [nmv_eq, ni_succ]
    by_cases hh : ((tIx A c : Nat) : Int) = n.toInt
    · rw [if_neg (show ¬ ¬ li (tIx A c : Nat) = Int32.toInt64 n from fun h => h ((li_eqI e2 n).mpr hh)), if_pos (decide_eq_true hh)]
    · rw [if_pos (show ¬ li (tIx A c : Nat) = Int32.toInt64 n from fun h => hh ((li_eqI e2 n).mp h)), if_neg (by rw [decide_eq_false hh]; decide), Int32.add_zero]
theorem X3_t14 {f : Nat} (hf : 2 ^ 63 ≤ f) {u0 : TS} {LS : LSt} (T : TV u0 LS) {l : Nat} {A : Mi} {o : Int} (hl : LS[l]? = some (A, o, false)) (LO : LatOk A o false) (n : Int32) : ∀ k m c u (s : Int32), c + k = 256 → 1 ≤ c → k < m → Fr QF u0 u → ∃ u', m_X3_turnOf_14 f m u (ni l) n (ni c) = some ((trn A n.toInt k c (s, -1)).2, u') ∧ Fr QF u0 u' := by
  intro k
  induction k with
  | zero =>
    intro m c u s hc h1 hm F
    obtain ⟨m, rfl⟩ : ∃ z, m = z + 1 := ⟨m - 1, by omega⟩
    have : c = 256 := by omega
    subst this
    rw [m_X3_turnOf_14, if_pos (show (256 : Int32) ≤ ni 256 from lekk 256)]
    exact ⟨u, rfl, F⟩
  | succ k ih =>
    intro m c u s hc h1 hm F
    obtain ⟨m, rfl⟩ : ∃ z, m = z + 1 := ⟨m - 1, by omega⟩
    have c2 : c < 256 := by omega
    obtain ⟨u2, e1, e2, e3⟩ := X3_indexOf (f := f) hf (T.fr F (by decide)) hl LO c2 h1
    rw [m_X3_turnOf_14, if_neg (show ¬ (256 : Int32) ≤ ni c from lek (by decide) c2), e1, bd2_some]
    show ∃ u', _ = some ((trn A n.toInt k (c + 1) (tst A n.toInt c (s, -1))).2, u') ∧ _
    by_cases hh : ((tIx A c : Nat) : Int) = n.toInt
    · have et : tst A n.toInt c (s, -1) = (s + 1, cdT c) := by unfold tst hitT; rw [if_pos (decide_eq_true hh), if_pos rfl]
      rw [if_neg (show ¬ ¬ li (tIx A c : Nat) = Int32.toInt64 n from fun h => h ((li_eqI e2 n).mpr hh)), et, trn_2 k (c + 1) _ (cdT_ne c2)]
      refine ⟨u2, ?_, F.tr e3⟩
      unfold m_X3_turnOf_33 cdT
      rw [show (64 : Int32) = ni 64 from rfl, show (16 : Int32) = ni 16 from rfl, show (4 : Int32) = ni 4 from rfl, ni_div (by omega) (by omega) (by omega), ni_div (by omega) (by omega) (by omega), ni_div (by omega) (by omega) (by omega), ni_mod (by omega) (by omega) (by omega), ni_mod (by omega) (by omega) (by omega), ni_mod (by omega) (by omega) (by omega)]
    · have et : tst A n.toInt c (s, -1) = (s, -1) := by unfold tst hitT; rw [if_neg (by rw [decide_eq_false hh]; decide)]
      rw [if_pos (show ¬ li (tIx A c : Nat) = Int32.toInt64 n from fun h => hh ((li_eqI e2 n).mp h)), nmv_eq, ni_succ, et]
      exact ih m (c + 1) u2 s (by omega) (by omega) (by omega) (F.tr e3)
