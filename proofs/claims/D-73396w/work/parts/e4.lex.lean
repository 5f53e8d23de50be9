/-! reading: letters, pieces, lines; no program in sight -/
set_option maxRecDepth 100000
def isLet (c : Nat) : Bool := decide (97 ≤ c ∧ c ≤ 122)
def isDig (c : Nat) : Bool := decide (48 ≤ c ∧ c ≤ 57)
def isSp (c : Nat) : Bool := decide (c = 32 ∨ c = 10)
def rnx (P : Nat → Bool) (b : Nat → Nat) (n : Nat) : Nat → Nat → Nat
  | 0, p => p
  | k + 1, p => if p < n ∧ P (b p) = true then rnx P b n k (p + 1) else p
/-- the first place from p on that isn't such a one -/
def stp (P : Nat → Bool) (b : Nat → Nat) (n p : Nat) : Nat := rnx P b n (n - p) p
theorem stp_y {P : Nat → Bool} {b : Nat → Nat} {n p : Nat} (h : p < n) (h2 : P (b p) = true) : stp P b n p = stp P b n (p + 1) := by
  unfold stp
  rw [show n - p = (n - (p + 1)) + 1 by omega, rnx, if_pos ⟨h, h2⟩]
theorem stp_n {P : Nat → Bool} {b : Nat → Nat} {n p : Nat} (h : ¬ (p < n ∧ P (b p) = true)) : stp P b n p = p := by
  unfold stp
  cases n - p with
  | zero => rfl
  | succ k => rw [rnx, if_neg h]
theorem stp_all {P : Nat → Bool} {b : Nat → Nat} {n : Nat} : ∀ k p, n ≤ p + k → p ≤ stp P b n p ∧ (p ≤ n → stp P b n p ≤ n) ∧ (∀ i, p ≤ i → i < stp P b n p → P (b i) = true) ∧ ¬ (stp P b n p < n ∧ P (b (stp P b n p)) = true)
  | 0, p, h => by
    have hn : ¬ (p < n ∧ P (b p) = true) := fun hh => by omega
    rw [stp_n hn]
    exact ⟨Nat.le_refl _, id, fun i h1 h2 => by omega, hn⟩
  | k + 1, p, h => by
    by_cases hh : p < n ∧ P (b p) = true
    · obtain ⟨a1, a2, a3, a4⟩ := stp_all (P := P) (b := b) (n := n) k (p + 1) (by omega)
      rw [stp_y hh.1 hh.2]
      refine ⟨by omega, fun _ => a2 (by omega), fun i h1 h2 => ?_, a4⟩
      by_cases e : i = p
      · rw [e]; exact hh.2
      · exact a3 i (by omega) h2
    · rw [stp_n hh]
      exact ⟨Nat.le_refl _, id, fun i h1 h2 => by omega, hh⟩
theorem stp_ge {P : Nat → Bool} {b : Nat → Nat} {n p : Nat} : p ≤ stp P b n p := (stp_all (n - p) p (by omega)).1
theorem stp_le {P : Nat → Bool} {b : Nat → Nat} {n p : Nat} (h : p ≤ n) : stp P b n p ≤ n := (stp_all (n - p) p (by omega)).2.1 h
theorem stp_in {P : Nat → Bool} {b : Nat → Nat} {n p i : Nat} (h1 : p ≤ i) (h2 : i < stp P b n p) : P (b i) = true := (stp_all (n - p) p (by omega)).2.2.1 i h1 h2
theorem stp_no {P : Nat → Bool} {b : Nat → Nat} {n p : Nat} : ¬ (stp P b n p < n ∧ P (b (stp P b n p)) = true) := (stp_all (n - p) p (by omega)).2.2.2
/-- a piece: kind (0 end, 1 word, 2 number, 3 semicolon, 4 dash, 5 none), from, behind -/
abbrev Lx : Type := Nat × Nat × Nat
def nxk (b : Nat → Nat) (n q : Nat) : Lx := if n ≤ q then (0, q, q) else if isLet (b q) = true then (1, q, stp isLet b n q) else if isDig (b q) = true then (2, q, stp isDig b n q) else if b q = 59 then (3, q, q + 1) else if b q = 45 then (4, q, q + 1) else (5, q, q + 1)
def nx (b : Nat → Nat) (n p : Nat) : Lx := nxk b n (stp isSp b n p)
/-- what digits tell -/
def dv (b : Nat → Nat) (q : Nat) : Nat → Nat
  | 0 => 0
  | k + 1 => 10 * dv b q k + (b (q + k) - 48)
def val (b : Nat → Nat) (s : Lx) : Nat := dv b s.2.1 (s.2.2 - s.2.1)
def word (b : Nat → Nat) (s : Lx) : List Nat := (List.range (s.2.2 - s.2.1)).map (fun i => b (s.2.1 + i))
theorem word_len (b : Nat → Nat) (s : Lx) : (word b s).length = s.2.2 - s.2.1 := by unfold word; rw [List.length_map, List.length_range]
/-- a piece as it lies on a tape of n places -/
def LxOk (b : Nat → Nat) (n : Nat) (s : Lx) : Prop := s.1 ≤ 5 ∧ s.2.1 ≤ s.2.2 ∧ s.2.2 ≤ n ∧ (s.1 ≠ 0 → s.2.1 < s.2.2) ∧ (s.1 = 0 → s.2.1 = n) ∧ (s.1 = 1 → ∀ i, s.2.1 ≤ i → i < s.2.2 → isLet (b i) = true) ∧ (s.1 = 2 → ∀ i, s.2.1 ≤ i → i < s.2.2 → isDig (b i) = true) ∧ (s.1 = 3 ↔ s.1 ≠ 0 ∧ b s.2.1 = 59) ∧ (s.1 = 4 ↔ s.1 ≠ 0 ∧ b s.2.1 = 45)
theorem nxk_ok {b : Nat → Nat} {n q : Nat} (hq : q ≤ n) : LxOk b n (nxk b n q) ∧ (nxk b n q).2.1 = q := by
  unfold nxk
  by_cases h0 : n ≤ q
  · rw [if_pos h0]
    exact ⟨⟨by omega, Nat.le_refl _, hq, fun h => absurd rfl h, fun _ => by show q = n; omega, fun h => (by cases h), fun h => (by cases h), ⟨fun h => (by cases h), fun h => absurd rfl h.1⟩, ⟨fun h => (by cases h), fun h => absurd rfl h.1⟩⟩, rfl⟩
  · rw [if_neg h0]
    by_cases h1 : isLet (b q) = true
    · rw [if_pos h1]
      have hb : 97 ≤ b q ∧ b q ≤ 122 := of_decide_eq_true h1
      have hs : q < stp isLet b n q := by rw [stp_y (by omega) h1]; exact stp_ge
      exact ⟨⟨by show 1 ≤ 5; omega, Nat.le_of_lt hs, stp_le hq, fun _ => hs, fun h => (by cases h), fun _ i a c => stp_in a c, fun h => (by cases h), ⟨fun h => (by cases h), fun h => by have h2 : b q = 59 := h.2; omega⟩, ⟨fun h => (by cases h), fun h => by have h2 : b q = 45 := h.2; omega⟩⟩, rfl⟩
    · rw [if_neg h1]
      by_cases h2 : isDig (b q) = true
      · rw [if_pos h2]
        have hb : 48 ≤ b q ∧ b q ≤ 57 := of_decide_eq_true h2
        have hs : q < stp isDig b n q := by rw [stp_y (by omega) h2]; exact stp_ge
        exact ⟨⟨by show 2 ≤ 5; omega, Nat.le_of_lt hs, stp_le hq, fun _ => hs, fun h => (by cases h), fun h => (by cases h), fun _ i a c => stp_in a c, ⟨fun h => (by cases h), fun h => by have h2 : b q = 59 := h.2; omega⟩, ⟨fun h => (by cases h), fun h => by have h2 : b q = 45 := h.2; omega⟩⟩, rfl⟩
      · rw [if_neg h2]
        by_cases h3 : b q = 59
        · rw [if_pos h3]
          exact ⟨⟨by show 3 ≤ 5; omega, by show q ≤ q + 1; omega, by show q + 1 ≤ n; omega, fun _ => by show q < q + 1; omega, fun h => (by cases h), fun h => (by cases h), fun h => (by cases h), ⟨fun _ => ⟨by show (3 : Nat) ≠ 0; omega, h3⟩, fun _ => rfl⟩, ⟨fun h => (by cases h), fun h => by have h2 : b q = 45 := h.2; omega⟩⟩, rfl⟩
        · rw [if_neg h3]
          by_cases h4 : b q = 45
          · rw [if_pos h4]
            exact ⟨⟨by show 4 ≤ 5; omega, by show q ≤ q + 1; omega, by show q + 1 ≤ n; omega, fun _ => by show q < q + 1; omega, fun h => (by cases h), fun h => (by cases h), fun h => (by cases h), ⟨fun h => (by cases h), fun h => absurd h.2 h3⟩, ⟨fun _ => ⟨by show (4 : Nat) ≠ 0; omega, h4⟩, fun _ => rfl⟩⟩, rfl⟩
          · rw [if_neg h4]
            exact ⟨⟨by show 5 ≤ 5; omega, by show q ≤ q + 1; omega, by show q + 1 ≤ n; omega, fun _ => by show q < q + 1; omega, fun h => (by cases h), fun h => (by cases h), fun h => (by cases h), ⟨fun h => (by cases h), fun h => absurd h.2 h3⟩, ⟨fun h => (by cases h), fun h => absurd h.2 h4⟩⟩, rfl⟩
theorem nx_ok {b : Nat → Nat} {n p : Nat} (hp : p ≤ n) : LxOk b n (nx b n p) ∧ p ≤ (nx b n p).2.1 := by
  obtain ⟨h1, h2⟩ := nxk_ok (b := b) (stp_le (P := isSp) (b := b) hp)
  exact ⟨h1, by unfold nx; rw [h2]; exact stp_ge⟩
/-- what goes wrong, and where; or what was read -/
abbrev Rs (α : Type) : Type := (Nat × Nat) ⊕ α
abbrev wLat : List Nat := [108, 97, 116, 116, 105, 99, 101]
abbrev wTurn : List Nat := [116, 117, 114, 110]
abbrev wOf : List Nat := [111, 102]
abbrev wBy : List Nat := [98, 121]
def isWd (b : Nat → Nat) (s : Lx) (w : List Nat) : Bool := decide (s.1 = 1 ∧ word b s = w)
/-- a number, perhaps below 0: seen, not gone behind -/
def pSee (b : Nat → Nat) (n most : Nat) (s : Lx) : Rs (Int × Lx) :=
  if s.1 = 4 then
    (if (nx b n s.2.2).1 ≠ 2 then .inl (1, (nx b n s.2.2).2.1) else if most < val b (nx b n s.2.2) then .inl (2, (nx b n s.2.2).2.1) else .inr (-(val b (nx b n s.2.2) : Int), nx b n s.2.2))
  else if s.1 ≠ 2 then .inl (1, s.2.1) else if most < val b s then .inl (2, s.2.1) else .inr ((val b s : Int), s)
/-- k numbers more; the place of the last one -/
def pNums (b : Nat → Nat) (n most : Nat) : Nat → Lx → List Int → Nat → Rs (List Int × Nat × Lx)
  | 0, s, vs, l => .inr (vs, l, s)
  | k + 1, s, vs, _ => match pSee b n most s with
    | .inl e => .inl e
    | .inr (v, s1) => pNums b n most k (nx b n s1.2.2) (vs ++ [v]) s1.2.1
def lsM (vs : List Int) : Mi := fun i j => vs.getD (3 * i + j) 0
/-- one told: its numbers; of which one it is a turn -/
abbrev It : Type := List Int × Option Nat
def pLatC : Rs (List Int × Nat × Lx) → Rs (It × Lx)
  | .inl e => .inl e
  | .inr (vs, l, s1) => if 1 ≤ (dtf (lsM vs)).natAbs ∧ (dtf (lsM vs)).natAbs ≤ 60 then .inr ((vs, none), s1) else .inl (2, l)
def pLat (b : Nat → Nat) (n : Nat) (s : Lx) : Rs (It × Lx) := pLatC (pNums b n 6 9 s [] 0)
def ixo (w : List Nat) : List (List Nat) → Nat → Option Nat
  | [], _ => none
  | x :: r, k => if w = x then some k else ixo w r (k + 1)
def pTurC (k : Nat) : Rs (List Int × Nat × Lx) → Rs (It × Lx)
  | .inl e => .inl e
  | .inr (vs, l, s1) => if vs.getD 0 0 = 0 ∧ vs.getD 1 0 = 0 ∧ vs.getD 2 0 = 0 ∧ vs.getD 3 0 = 0 then .inl (2, l) else .inr ((vs, some k), s1)
def pTurn2 (b : Nat → Nat) (n k : Nat) (s : Lx) : Rs (It × Lx) := if isWd b s wBy = true then pTurC k (pNums b n 3 4 (nx b n s.2.2) [] 0) else .inl (1, s.2.1)
def pTurn (b : Nat → Nat) (n : Nat) (ns : List (List Nat)) (ts : List It) (s : Lx) : Rs (It × Lx) := if isWd b s wOf = true then
    (if (nx b n s.2.2).1 ≠ 1 then .inl (1, (nx b n s.2.2).2.1) else match ixo (word b (nx b n s.2.2)) ns 0 with
    | none => .inl (2, (nx b n s.2.2).2.1)
    | some k => if ((ts.getD k ([], none)).2).isSome = true then .inl (2, (nx b n s.2.2).2.1) else pTurn2 b n k (nx b n (nx b n s.2.2).2.2))
  else .inl (1, s.2.1)
def pEnd (b : Nat → Nat) (n : Nat) (w : List Nat) : Rs (It × Lx) → Rs (List Nat × It × Lx)
  | .inl e => .inl e
  | .inr (it, s) => if s.1 ≠ 3 then .inl (1, s.2.1) else .inr (w, it, nx b n s.2.2)
def pLine (b : Nat → Nat) (n : Nat) (ns : List (List Nat)) (ts : List It) (s : Lx) : Rs (List Nat × It × Lx) :=
  if isWd b s wTurn = false ∧ isWd b s wLat = false then .inl (1, s.2.1)
  else if 5 ≤ ts.length then .inl (3, s.2.1)
  else if (nx b n s.2.2).1 ≠ 1 then .inl (1, (nx b n s.2.2).2.1)
  else if 6 < (word b (nx b n s.2.2)).length ∨ word b (nx b n s.2.2) ∈ [wLat, wTurn, wOf, wBy] ∨ (ixo (word b (nx b n s.2.2)) ns 0).isSome = true then .inl (2, (nx b n s.2.2).2.1)
  else pEnd b n (word b (nx b n s.2.2)) (if isWd b s wTurn = true then pTurn b n ns ts (nx b n (nx b n s.2.2).2.2) else pLat b n (nx b n (nx b n s.2.2).2.2))
def pRead (b : Nat → Nat) (n : Nat) : Nat → List (List Nat) → List It → Lx → Rs (List It)
  | 0, _, ts, _ => .inr ts
  | k + 1, ns, ts, s => if s.1 = 0 then .inr ts else match pLine b n ns ts s with
    | .inl e => .inl e
    | .inr (w, it, s') => pRead b n k (ns ++ [w]) (ts ++ [it]) s'
/-- all of the tape -/
def pAll (b : Nat → Nat) (n : Nat) : Rs (List It) := pRead b n 501 [] [] (nx b n 0)
