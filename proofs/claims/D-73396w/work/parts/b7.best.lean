/-! the best plane -/
set_option maxRecDepth 100000
def vJ (A : Nat) : Int32 := ni A + (-3)
theorem vJ_s (A : Nat) : vJ A + 1 = vJ (A + 1) := by
  unfold vJ
  rw [← ni_succ, Int32.add_assoc, Int32.add_assoc, Int32.add_comm (-3) 1]
theorem vJ_3 (A : Nat) : vJ A + 3 = ni A := by unfold vJ; rw [Int32.add_assoc]; show ni A + 0 = ni A; exact Int32.add_zero _
theorem vJ_t : ∀ A, A < 7 → (vJ A).toInt = (A : Int) - 3 := by decide
theorem vJ_lt : ∀ A, A < 7 → ¬ (3 : Int32) < vJ A := by decide
theorem vJ_7 : (3 : Int32) < vJ 7 := by decide
def nrB (A B C : Nat) : Bool := decide (0 < (if A = 3 then (if B = 3 then (C : Int) - 3 else (B : Int) - 3) else (A : Int) - 3)) && decide (Nat.gcd (Nat.gcd ((A : Int) - 3).natAbs ((B : Int) - 3).natAbs) ((C : Int) - 3).natAbs = 1)
theorem vJ_0 : ∀ A, A < 7 → (vJ A = 0 ↔ A = 3) := by decide
theorem vJ_p : ∀ A, A < 7 → (vJ A ≤ 0 ↔ ¬ 0 < (A : Int) - 3) := by decide
theorem gcd3_li {f : Nat} {a b c : Int} (ha : rg a) (hb : rg b) (hc : rg c) : bd (m_X0_divisor f (li a) (li b)) (fun r2 => m_X0_divisor f r2 (li c)) = some (li (Nat.gcd (Nat.gcd a.natAbs b.natAbs) c.natAbs : Nat)) := by
  have h1 : Int.gcd a b < 2 ^ 63 := gcd_lt (rg_nat.mp ha) (rg_nat.mp hb)
  rw [divisor_rg ha hb, bd_some, divisor_rg (rg_nat.mpr (by simpa using h1)) hc, Int.gcd_eq_natAbs_gcd_natAbs, Int.natAbs_natCast, Int.gcd_eq_natAbs_gcd_natAbs]
theorem X0_isNormal {f : Nat} {A B C : Nat} (hA : A < 7) (hB : B < 7) (hC : C < 7) : m_X0_isNormal f (vJ A) (vJ B) (vJ C) = some (if nrB A B C = true then 1 else 0) := by
  have core : ∀ Y, Y < 7 → m_X0_isNormal_17 f (vJ A) (vJ B) (vJ C) (vJ Y) = some (if (decide (0 < (Y : Int) - 3) && decide (Nat.gcd (Nat.gcd ((A : Int) - 3).natAbs ((B : Int) - 3).natAbs) ((C : Int) - 3).natAbs = 1)) = true then 1 else 0) := fun Y hY => by
    unfold m_X0_isNormal_17 m_X0_isNormal_43 m_X0_isNormal_44
    by_cases hp : 0 < (Y : Int) - 3
    · rw [if_neg (fun e => (vJ_p Y hY).mp e hp), toL, toL, toL, vJ_t A hA, vJ_t B hB, vJ_t C hC]
      have g : ∀ Z : Nat, Z < 7 → rg ((Z : Int) - 3) := fun Z hZ => ⟨by omega, by omega⟩
      have e := gcd3_li (f := f) (g A hA) (g B hB) (g C hC)
      have h1 : Int.gcd ((A : Int) - 3) ((B : Int) - 3) < 2 ^ 63 := gcd_lt (rg_nat.mp (g A hA)) (rg_nat.mp (g B hB))
      rw [divisor_rg (g A hA) (g B hB), bd_some] at e ⊢
      rw [e, bd_some]
      have gG : Nat.gcd (Nat.gcd ((A : Int) - 3).natAbs ((B : Int) - 3).natAbs) ((C : Int) - 3).natAbs < 2 ^ 63 := by
        show Int.gcd (((Int.gcd ((A : Int) - 3) ((B : Int) - 3) : Nat)) : Int) ((C : Int) - 3) < 2 ^ 63
        exact gcd_lt (by rw [Int.natAbs_natCast]; exact h1) (rg_nat.mp (g C hC))
      by_cases h9 : Nat.gcd (Nat.gcd ((A : Int) - 3).natAbs ((B : Int) - 3).natAbs) ((C : Int) - 3).natAbs = 1
      · rw [if_neg (show ¬ ¬ li ((Nat.gcd (Nat.gcd ((A : Int) - 3).natAbs ((B : Int) - 3).natAbs) ((C : Int) - 3).natAbs : Nat) : Int) = 1 from fun h => h (by rw [h9]; rfl)), decide_eq_true hp, decide_eq_true h9]; rfl
      · rw [if_pos (show ¬ li ((Nat.gcd (Nat.gcd ((A : Int) - 3).natAbs ((B : Int) - 3).natAbs) ((C : Int) - 3).natAbs : Nat) : Int) = 1 from fun e => h9 (by have := (li_inj (rg_nat.mpr (by simpa using gG)) rg_1).mp (show li _ = li 1 from e); omega)), decide_eq_true hp, decide_eq_false h9]; rfl
    · rw [if_pos ((vJ_p Y hY).mpr hp), decide_eq_false hp]; rfl
  unfold m_X0_isNormal nrB
  by_cases a3 : A = 3
  · rw [if_pos ((vJ_0 A hA).mpr a3), if_pos a3]
    by_cases b3 : B = 3
    · rw [if_pos ((vJ_0 B hB).mpr b3), if_pos b3]; exact core C hC
    · rw [if_neg (fun e => b3 ((vJ_0 B hB).mp e)), if_neg b3]; exact core B hB
  · rw [if_neg (fun e => a3 ((vJ_0 A hA).mp e)), if_neg a3]; exact core A hA
theorem nrB_pl : ∀ {A B C : Nat}, A < 7 → B < 7 → C < 7 → nrB A B C = true → isPl (vJ A) (vJ B) (vJ C) = true := fun {A B C} hA hB hC h => by
  unfold nrB at h
  have h1 := of_decide_eq_true (Bool.and_eq_true_iff.mp h).1
  unfold isPl inI
  rw [vJ_t A hA, vJ_t B hB, vJ_t C hC, decide_eq_true (show -9 ≤ (A : Int) - 3 ∧ (A : Int) - 3 ≤ 9 by omega), decide_eq_true (show -9 ≤ (B : Int) - 3 ∧ (B : Int) - 3 ≤ 9 by omega), decide_eq_true (show -9 ≤ (C : Int) - 3 ∧ (C : Int) - 3 ≤ 9 by omega)]
  by_cases a3 : A = 3
  · by_cases b3 : B = 3
    · by_cases c3 : C = 3
      · subst a3 b3 c3; simp at h1
      · have : ¬ vJ C = 0 := fun e => c3 ((vJ_0 C hC).mp e)
        simp [this]
    · have : ¬ vJ B = 0 := fun e => b3 ((vJ_0 B hB).mp e)
      simp [this]
  · have : ¬ vJ A = 0 := fun e => a3 ((vJ_0 A hA).mp e)
    simp [this]
def pJ (A B C : Nat) : Nat → Int32 := fun j => if j = 0 then vJ A else if j = 1 then vJ B else vJ C
theorem gp_p {p q : Nat → Int32} (N : Mi) (h0 : p 0 = q 0) (h1 : p 1 = q 1) (h2 : p 2 = q 2) : gp N p = gp N q := by
  unfold gp
  have : acr N p = acr N q := by funext i; unfold acr; rw [h0, h1, h2]
  rw [this]
def cdJ (A B C : Nat) : Int32 := (100 : Int32) * (vJ A + 3) + (10 : Int32) * (vJ B + 3) + vJ C + 3
theorem cdJ_ne {A B C : Nat} (hA : A < 7) (hB : B < 7) (hC : C < 7) : ¬ cdJ A B C = -1 := by
  have e : cdJ A B C = ni (100 * A + 10 * B + C) := by
    unfold cdJ
    rw [vJ_3, vJ_3, Int32.add_assoc, vJ_3, show (100 : Int32) = ni 100 from rfl, show (10 : Int32) = ni 10 from rfl, ← Int32.ofNat_mul, ← Int32.ofNat_mul, ← Int32.ofNat_add, ← Int32.ofNat_add]
  rw [e]
  intro h
  have := congrArg Int32.toInt h
  rw [ni_toInt (by omega)] at this
  have : ((-1 : Int32)).toInt = -1 := rfl
  omega
def bpl (Lf : Nat → Nat → Nat → Nat) (c : Nat) (s : Nat × Int32) : Nat × Int32 := if nrB (c / 49) (c / 7 % 7) (c % 7) = true then (if s.1 < Lf (c / 49) (c / 7 % 7) (c % 7) then (Lf (c / 49) (c / 7 % 7) (c % 7), cdJ (c / 49) (c / 7 % 7) (c % 7)) else s) else s
def brn (Lf : Nat → Nat → Nat → Nat) : Nat → Nat → Nat × Int32 → Nat × Int32
  | 0, _, s => s
  | k + 1, c, s => brn Lf k (c + 1) (bpl Lf c s)
theorem brn_add {Lf : Nat → Nat → Nat → Nat} (b : Nat) : ∀ a c s, brn Lf (a + b) c s = brn Lf b (c + a) (brn Lf a c s)
  | 0, c, s => by rw [Nat.zero_add]; rfl
  | a + 1, c, s => by
    rw [show a + 1 + b = (a + b) + 1 by omega]
    show brn Lf (a + b) (c + 1) (bpl Lf c s) = brn Lf b (c + (a + 1)) (brn Lf a (c + 1) (bpl Lf c s))
    rw [brn_add b a (c + 1), show c + 1 + a = c + (a + 1) by omega]
theorem bpl_abc {Lf : Nat → Nat → Nat → Nat} {A B C : Nat} (hB : B < 7) (hC : C < 7) (s : Nat × Int32) : bpl Lf (49 * A + 7 * B + C) s = if nrB A B C = true then (if s.1 < Lf A B C then (Lf A B C, cdJ A B C) else s) else s := by
  unfold bpl
  rw [show (49 * A + 7 * B + C) / 49 = A by omega, show (49 * A + 7 * B + C) / 7 % 7 = B by omega, show (49 * A + 7 * B + C) % 7 = C by omega]
