set_option maxRecDepth 100000
/-! rows made short, purely -/
def ahd (N : Mi) (a b : Nat) : Bool := if sqr N a = sqr N b then (if N a 0 = N b 0 then (if N a 1 = N b 1 then (if N a 2 = N b 2 then false else decide (N a 2 < N b 2)) else decide (N a 1 < N b 1)) else decide (N a 0 < N b 0)) else decide (sqr N a < sqr N b)
theorem ahd_iff {N : Mi} {a b : Nat} : ahd N a b = true ↔ (sqr N a < sqr N b ∨ sqr N a = sqr N b ∧ (N a 0 < N b 0 ∨ N a 0 = N b 0 ∧ (N a 1 < N b 1 ∨ N a 1 = N b 1 ∧ N a 2 < N b 2))) := by
  unfold ahd
  split
  · split
    · split
      · split
        · constructor
          · intro h; cases h
          · intro h; omega
        · rw [decide_eq_true_iff]; omega
      · rw [decide_eq_true_iff]; omega
    · rw [decide_eq_true_iff]; omega
  · rw [decide_eq_true_iff]; omega
theorem ahd_asym {N : Mi} {a b : Nat} (h : ahd N a b = true) : ahd N b a = false := by
  cases hh : ahd N b a with
  | false => rfl
  | true =>
    have h1 := ahd_iff.mp h
    have h2 := ahd_iff.mp hh
    omega
theorem ahd_congr {N N' : Mi} {a b a' b' : Nat} (ha : ∀ j, N a j = N' a' j) (hb : ∀ j, N b j = N' b' j) : ahd N a b = ahd N' a' b' := by
  unfold ahd sqr
  simp only [ha, hb]
def so1 (N : Mi) : Mi := if ahd N 1 0 = true then excR N 1 0 else N
def so2 (N : Mi) : Mi := if ahd N 2 1 = true then excR N 2 1 else N
def srt (N : Mi) : Mi := if ahd (so1 N) 2 1 = true then so1 (excR (so1 N) 2 1) else so1 N
theorem exc10 (N : Mi) (j : Nat) : excR N 1 0 0 j = N 1 j ∧ excR N 1 0 1 j = N 0 j ∧ excR N 1 0 2 j = N 2 j := ⟨rfl, rfl, rfl⟩
theorem exc21 (N : Mi) (j : Nat) : excR N 2 1 0 j = N 0 j ∧ excR N 2 1 1 j = N 2 j ∧ excR N 2 1 2 j = N 1 j := ⟨rfl, rfl, rfl⟩
theorem so1_ok (N : Mi) : ahd (so1 N) 1 0 = false := by
  unfold so1
  cases h : ahd N 1 0 with
  | false => simp [h]
  | true =>
    simp only [if_true]
    rw [show ahd (excR N 1 0) 1 0 = ahd N 0 1 from ahd_congr (fun j => rfl) (fun j => rfl)]
    exact ahd_asym h
theorem so1_id {N : Mi} (h : ahd N 1 0 = false) : so1 N = N := by unfold so1; simp [h]
theorem so2_id {N : Mi} (h : ahd N 2 1 = false) : so2 N = N := by unfold so2; simp [h]
theorem srt_ok (N : Mi) : ahd (srt N) 1 0 = false ∧ ahd (srt N) 2 1 = false := by
  have h1 := so1_ok N
  unfold srt
  generalize so1 N = s at *
  cases h2 : ahd s 2 1 with
  | false => simp only [Bool.false_eq_true, if_false]; exact ⟨h1, h2⟩
  | true =>
    simp only [if_true]
    refine ⟨so1_ok _, ?_⟩
    unfold so1
    cases h3 : ahd (excR s 2 1) 1 0 with
    | false =>
      simp only [Bool.false_eq_true, if_false]
      rw [show ahd (excR s 2 1) 2 1 = ahd s 1 2 from ahd_congr (fun j => rfl) (fun j => rfl)]
      exact ahd_asym h2
    | true =>
      simp only [if_true]
      rw [show ahd (excR (excR s 2 1) 1 0) 2 1 = ahd s 1 0 from ahd_congr (fun j => rfl) (fun j => rfl)]
      exact h1
/-- three rounds of exchanges of neighbours come to the same -/
theorem bub (N : Mi) : so2 (so1 (so2 (so1 (so2 (so1 N))))) = srt N := by
  have e : so1 (so2 (so1 N)) = srt N := by
    unfold srt
    cases h2 : ahd (so1 N) 2 1 with
    | false => simp only [Bool.false_eq_true, if_false]; rw [so2_id h2, so1_id (so1_ok N)]
    | true => simp only [if_true]; unfold so2; rw [h2]; simp
  obtain ⟨h1, h2⟩ := srt_ok N
  rw [e, so2_id h2, so1_id h1, so2_id h2]
def sqw (N : Mi) (row : Nat) (a b : Int) : Int := 0 + (N row 0 + a * N 0 0 + b * N 1 0) * (N row 0 + a * N 0 0 + b * N 1 0) + (N row 1 + a * N 0 1 + b * N 1 1) * (N row 1 + a * N 0 1 + b * N 1 1) + (N row 2 + a * N 0 2 + b * N 1 2) * (N row 2 + a * N 0 2 + b * N 1 2)
def bstep (N : Mi) (row : Nat) (s : Int × Option (Int × Int)) (p : Int × Int) : Int × Option (Int × Int) := if sqw N row p.1 p.2 < s.1 then (sqw N row p.1 p.2, some p) else s
def L9 : List (Int × Int) := [(-1, -1), (-1, 0), (-1, 1), (0, -1), (0, 0), (0, 1), (1, -1), (1, 0), (1, 1)]
def L3 : List (Int × Int) := [(-1, 0), (0, 0), (1, 0)]
def L3x : List (Int × Int) := [(-1, 0), (-1, 0), (-1, 0), (0, 0), (0, 0), (0, 0), (1, 0), (1, 0), (1, 0)]
def bst (N : Mi) (row : Nat) (L : List (Int × Int)) : Int × Option (Int × Int) := L.foldl (bstep N row) (sqr N row, none)
theorem bstep_tw (N : Mi) (row : Nat) (s : Int × Option (Int × Int)) (p : Int × Int) : bstep N row (bstep N row s p) p = bstep N row s p := by
  unfold bstep
  by_cases h : sqw N row p.1 p.2 < s.1
  · rw [if_pos h, if_neg (by show ¬ sqw N row p.1 p.2 < sqw N row p.1 p.2; omega)]
  · rw [if_neg h, if_neg h]
theorem bst_3x (N : Mi) (row : Nat) : bst N row L3x = bst N row L3 := by
  unfold bst L3x L3
  simp only [List.foldl_cons, List.foldl_nil, bstep_tw]
theorem sqw_0 (N : Mi) (row : Nat) : sqw N row 0 0 = sqr N row := by unfold sqw sqr; simp
def btr (N : Mi) (row : Nat) (p : Int × Int) : Mi := fun i j => if i = row then N i j + p.1 * N 0 j + p.2 * N 1 j else N i j
/-- what a fold over pairs finds -/
theorem bst_ok {N : Mi} {row : Nat} : ∀ (L : List (Int × Int)) (s : Int × Option (Int × Int)), (∀ p, s.2 = some p → s.1 = sqw N row p.1 p.2 ∧ s.1 < sqr N row) → (s.2 = none → s.1 = sqr N row) → (∀ p, (L.foldl (bstep N row) s).2 = some p → (L.foldl (bstep N row) s).1 = sqw N row p.1 p.2 ∧ (L.foldl (bstep N row) s).1 < sqr N row ∧ (s.2 = some p ∨ p ∈ L)) ∧ ((L.foldl (bstep N row) s).2 = none → (L.foldl (bstep N row) s).1 = sqr N row ∧ ∀ p ∈ L, sqr N row ≤ sqw N row p.1 p.2) := by
  intro L
  induction L with
  | nil => intro s h1 h2; exact ⟨fun p hp => ⟨(h1 p hp).1, (h1 p hp).2, .inl hp⟩, fun h => ⟨h2 h, fun p hp => by cases hp⟩⟩
  | cons q L ih =>
    intro s h1 h2
    rw [List.foldl_cons]
    have k1 : ∀ p, (bstep N row s q).2 = some p → (bstep N row s q).1 = sqw N row p.1 p.2 ∧ (bstep N row s q).1 < sqr N row := fun p hp => by
      unfold bstep at hp ⊢
      by_cases h : sqw N row q.1 q.2 < s.1
      · rw [if_pos h] at hp ⊢
        have e : q = p := by simpa using hp
        subst e
        refine ⟨rfl, ?_⟩
        show sqw N row q.1 q.2 < sqr N row
        cases hs : s.2 with
        | none => have := h2 hs; omega
        | some z => have := (h1 z hs).2; omega
      · rw [if_neg h] at hp ⊢; exact h1 p hp
    have k2 : (bstep N row s q).2 = none → (bstep N row s q).1 = sqr N row := fun hp => by
      unfold bstep at hp ⊢
      by_cases h : sqw N row q.1 q.2 < s.1
      · rw [if_pos h] at hp; cases hp
      · rw [if_neg h] at hp ⊢; exact h2 hp
    obtain ⟨i1, i2⟩ := ih _ k1 k2
    refine ⟨fun p hp => ?_, fun hp => ?_⟩
    · obtain ⟨a1, a2, a3⟩ := i1 p hp
      refine ⟨a1, a2, ?_⟩
      rcases a3 with a3 | a3
      · unfold bstep at a3
        by_cases h : sqw N row q.1 q.2 < s.1
        · rw [if_pos h] at a3
          have e : q = p := by simpa using a3
          exact .inr (by rw [e]; exact List.mem_cons_self)
        · rw [if_neg h] at a3; exact .inl a3
      · exact .inr (List.mem_cons_of_mem _ a3)
    · obtain ⟨a1, a2⟩ := i2 hp
      refine ⟨a1, fun p hpm => ?_⟩
      rcases List.mem_cons.mp hpm with e | hm
      · subst e
        -- never taken: then nothing was taken ahead
        have mono : ∀ (L : List (Int × Int)) (s : Int × Option (Int × Int)), (L.foldl (bstep N row) s).2 = none → s.2 = none := by
          intro L
          induction L with
          | nil => intro s h; exact h
          | cons q L ih2 =>
            intro s h
            rw [List.foldl_cons] at h
            have := ih2 _ h
            unfold bstep at this
            by_cases h' : sqw N row q.1 q.2 < s.1
            · rw [if_pos h'] at this; cases this
            · rw [if_neg h'] at this; exact this
        have hb := mono L _ hp
        unfold bstep at hb
        by_cases h : sqw N row p.1 p.2 < s.1
        · rw [if_pos h] at hb; cases hb
        · rw [if_neg h] at hb
          have := h2 hb; omega
      · exact a2 p hm
theorem bst_some {N : Mi} {row : Nat} {L : List (Int × Int)} {p : Int × Int} (h : (bst N row L).2 = some p) : sqw N row p.1 p.2 < sqr N row ∧ p ∈ L := by
  obtain ⟨a, b, c⟩ := (bst_ok (N := N) (row := row) L (sqr N row, none) (fun p hp => by cases hp) (fun _ => rfl)).1 p h
  refine ⟨by unfold bst at h; omega, ?_⟩
  rcases c with c | c
  · cases c
  · exact c
theorem bst_none {N : Mi} {row : Nat} {L : List (Int × Int)} (h : (bst N row L).2 = none) : ∀ p ∈ L, sqr N row ≤ sqw N row p.1 p.2 := ((bst_ok (N := N) (row := row) L (sqr N row, none) (fun p hp => by cases hp) (fun _ => rfl)).2 h).2
def rdk (S : Mi) (c : Nat) (r : Mi → Nat → Mi × Nat) : Option (Int × Int) → Option (Int × Int) → Mi × Nat
  | some p, _ => r (btr S 2 p) (c + 1)
  | none, some p => r (btr S 1 p) (c + 1)
  | none, none => (S, c)
def rdg : Nat → Mi → Nat → Mi × Nat
  | 0, N, c => (N, c)
  | n + 1, N, c => rdk (srt N) c (rdg n) (bst (srt N) 2 L9).2 (bst (srt N) 1 L3).2
def sgl (N : Mi) (i : Nat) : Bool := if N i 0 = 0 then (if N i 1 = 0 then decide (N i 2 < 0) else decide (N i 1 < 0)) else decide (N i 0 < 0)
def ovf (N : Mi) (i : Nat) : Mi := if sgl N i = true then ovrR N i else N
def flp (N : Mi) : Mi := ovf (ovf (ovf N 0) 1) 2
def sgm (N : Mi) : Int := sqr N 0 + sqr N 1 + sqr N 2
def RB (B : Int) (N : Mi) : Prop := ∀ i, i < 3 → sqr N i ≤ B
theorem sqr_nn (N : Mi) (i : Nat) : 0 ≤ sqr N i := by
  unfold sqr
  have h1 := sq_nonneg (N i 0)
  have h2 := sq_nonneg (N i 1)
  have h3 := sq_nonneg (N i 2)
  omega
theorem sqr_congr {N N' : Mi} {i i' : Nat} (h : ∀ j, N i j = N' i' j) : sqr N i = sqr N' i' := by unfold sqr; simp only [h]
theorem so1_RB {B : Int} {N : Mi} (h : RB B N) : RB B (so1 N) ∧ sgm (so1 N) = sgm N ∧ eqL (m3 N) (m3 (so1 N)) := by
  unfold so1
  split
  · refine ⟨fun i hi => ?_, ?_, eqL_exc N (by decide) (by decide)⟩
    · rcases c3 hi with rfl | rfl | rfl
      · exact h 1 (by decide)
      · exact h 0 (by decide)
      · exact h 2 (by decide)
    · show sqr N 1 + sqr N 0 + sqr N 2 = sqr N 0 + sqr N 1 + sqr N 2; omega
  · exact ⟨h, rfl, eqL.rf _⟩
theorem exc21_RB {B : Int} {N : Mi} (h : RB B N) : RB B (excR N 2 1) ∧ sgm (excR N 2 1) = sgm N ∧ eqL (m3 N) (m3 (excR N 2 1)) := by
  refine ⟨fun i hi => ?_, ?_, eqL_exc N (by decide) (by decide)⟩
  · rcases c3 hi with rfl | rfl | rfl
    · exact h 0 (by decide)
    · exact h 2 (by decide)
    · exact h 1 (by decide)
  · show sqr N 0 + sqr N 2 + sqr N 1 = sqr N 0 + sqr N 1 + sqr N 2; omega
theorem srt_RB {B : Int} {N : Mi} (h : RB B N) : RB B (srt N) ∧ sgm (srt N) = sgm N ∧ eqL (m3 N) (m3 (srt N)) := by
  obtain ⟨a1, a2, a3⟩ := so1_RB h
  unfold srt
  split
  · obtain ⟨b1, b2, b3⟩ := exc21_RB a1
    obtain ⟨d1, d2, d3⟩ := so1_RB b1
    exact ⟨d1, by omega, (a3.tr b3).tr d3⟩
  · exact ⟨a1, a2, a3⟩
theorem sqr_btr (N : Mi) (row : Nat) (p : Int × Int) : sqr (btr N row p) row = sqw N row p.1 p.2 := by unfold sqr sqw btr; simp
theorem btr_o (N : Mi) {row i : Nat} (p : Int × Int) (h : i ≠ row) (j : Nat) : btr N row p i j = N i j := by unfold btr; rw [if_neg h]
theorem btr_eqL2 (N : Mi) (p : Int × Int) : eqL (m3 N) (m3 (btr N 2 p)) := by
  have h := (eqL_add N (r := 2) (o := 0) (by decide) (by decide) (by decide) p.1).tr (eqL_add (addR N 2 0 p.1) (r := 2) (o := 1) (by decide) (by decide) (by decide) p.2)
  have e : addR (addR N 2 0 p.1) 2 1 p.2 = btr N 2 p := by
    funext a b; unfold addR btr
    by_cases h : a = 2 <;> simp [h]
  rw [← e]; exact h
theorem btr_eqL1 (N : Mi) (a : Int) : eqL (m3 N) (m3 (btr N 1 (a, 0))) := by
  have h := eqL_add N (r := 1) (o := 0) (by decide) (by decide) (by decide) a
  have e : addR N 1 0 a = btr N 1 (a, 0) := by
    funext x y; unfold addR btr
    by_cases h : x = 1 <;> simp [h]
  rw [← e]; exact h
/-- what holds at the end -/
def RDd (N : Mi) : Prop := ahd N 1 0 = false ∧ ahd N 2 1 = false ∧ (∀ p ∈ L9, sqr N 2 ≤ sqw N 2 p.1 p.2) ∧ ∀ p ∈ L3, sqr N 1 ≤ sqw N 1 p.1 p.2
theorem btr_RB2 {B : Int} {N : Mi} {p : Int × Int} (h : RB B N) (hp : sqw N 2 p.1 p.2 < sqr N 2) : RB B (btr N 2 p) ∧ sgm (btr N 2 p) < sgm N := by
  have e0 : sqr (btr N 2 p) 0 = sqr N 0 := sqr_congr (fun j => btr_o N p (by decide) j)
  have e1 : sqr (btr N 2 p) 1 = sqr N 1 := sqr_congr (fun j => btr_o N p (by decide) j)
  have e2 := sqr_btr N 2 p
  refine ⟨fun i hi => ?_, by unfold sgm; omega⟩
  rcases c3 hi with rfl | rfl | rfl
  · rw [e0]; exact h 0 (by decide)
  · rw [e1]; exact h 1 (by decide)
  · rw [e2]; have := h 2 (by decide); omega
theorem btr_RB1 {B : Int} {N : Mi} {p : Int × Int} (h : RB B N) (hp : sqw N 1 p.1 p.2 < sqr N 1) : RB B (btr N 1 p) ∧ sgm (btr N 1 p) < sgm N := by
  have e0 : sqr (btr N 1 p) 0 = sqr N 0 := sqr_congr (fun j => btr_o N p (by decide) j)
  have e1 : sqr (btr N 1 p) 2 = sqr N 2 := sqr_congr (fun j => btr_o N p (by decide) j)
  have e2 := sqr_btr N 1 p
  refine ⟨fun i hi => ?_, by unfold sgm; omega⟩
  rcases c3 hi with rfl | rfl | rfl
  · rw [e0]; exact h 0 (by decide)
  · rw [e2]; have := h 1 (by decide); omega
  · rw [e1]; exact h 2 (by decide)
theorem L3_0 : ∀ p ∈ L3, p.2 = 0 := by decide
theorem rdg_9 {n c : Nat} {N : Mi} {p : Int × Int} (h : (bst (srt N) 2 L9).2 = some p) : rdg (n + 1) N c = rdg n (btr (srt N) 2 p) (c + 1) := by rw [rdg, h]; rfl
theorem rdg_3 {n c : Nat} {N : Mi} {p : Int × Int} (h : (bst (srt N) 2 L9).2 = none) (h' : (bst (srt N) 1 L3).2 = some p) : rdg (n + 1) N c = rdg n (btr (srt N) 1 p) (c + 1) := by rw [rdg, h, h']; rfl
theorem rdg_e {n c : Nat} {N : Mi} (h : (bst (srt N) 2 L9).2 = none) (h' : (bst (srt N) 1 L3).2 = none) : rdg (n + 1) N c = (srt N, c) := by rw [rdg, h, h']; rfl
theorem rdg_ok {B : Int} : ∀ (n : Nat) N c, RB B N → sgm N < n → RB B (rdg n N c).1 ∧ eqL (m3 N) (m3 (rdg n N c).1) ∧ RDd (rdg n N c).1 := by
  intro n
  induction n with
  | zero =>
    intro N c h hn
    have h0 := sqr_nn N 0
    have h1 := sqr_nn N 1
    have h2 := sqr_nn N 2
    unfold sgm at hn; omega
  | succ n ih =>
    intro N c h hn
    obtain ⟨a1, a2, a3⟩ := srt_RB h
    obtain ⟨s1, s2⟩ := srt_ok N
    rcases h9 : (bst (srt N) 2 L9).2 with _ | p
    · rcases h3 : (bst (srt N) 1 L3).2 with _ | p
      · rw [rdg_e h9 h3]
        exact ⟨a1, a3, s1, s2, bst_none h9, bst_none h3⟩
      · rw [rdg_3 h9 h3]
        obtain ⟨b1, b2⟩ := bst_some h3
        obtain ⟨c1, c2⟩ := btr_RB1 a1 b1
        obtain ⟨i1, i2, i3⟩ := ih (btr (srt N) 1 p) (c + 1) c1 (by omega)
        obtain ⟨pa, pb⟩ := p
        have e : pb = 0 := L3_0 _ b2
        subst e
        exact ⟨i1, (a3.tr (btr_eqL1 _ pa)).tr i2, i3⟩
    · rw [rdg_9 h9]
      obtain ⟨b1, b2⟩ := bst_some h9
      obtain ⟨c1, c2⟩ := btr_RB2 a1 b1
      obtain ⟨i1, i2, i3⟩ := ih (btr (srt N) 2 p) (c + 1) c1 (by omega)
      exact ⟨i1, (a3.tr (btr_eqL2 _ p)).tr i2, i3⟩
/-! the numbers stay in range -/
theorem sum3 (x y z : Int) : (x + y + z) * (x + y + z) ≤ 3 * (x * x) + 3 * (y * y) + 3 * (z * z) := by
  have h1 := sq_nonneg (x - y)
  have h2 := sq_nonneg (y - z)
  have h3 := sq_nonneg (x - z)
  have e : 3 * (x * x) + 3 * (y * y) + 3 * (z * z) - (x + y + z) * (x + y + z) = (x - y) * (x - y) + (y - z) * (y - z) + (x - z) * (x - z) := by grind
  omega
theorem one_sq {a : Int} (h : a = -1 ∨ a = 0 ∨ a = 1) (x : Int) : (a * x) * (a * x) ≤ x * x := by
  have := sq_nonneg x
  rcases h with rfl | rfl | rfl
  · rw [show (-1 * x) * (-1 * x) = x * x by grind]; omega
  · simpa using this
  · simp
theorem sqw_le {B : Int} {N : Mi} {row : Nat} (h : RB B N) (hr : row < 3) {a b : Int} (ha : a = -1 ∨ a = 0 ∨ a = 1) (hb : b = -1 ∨ b = 0 ∨ b = 1) : 0 ≤ sqw N row a b ∧ sqw N row a b ≤ 9 * B := by
  have r := h row hr
  have r0 := h 0 (by decide)
  have r1 := h 1 (by decide)
  unfold sqr at r r0 r1
  have k : ∀ j, (N row j + a * N 0 j + b * N 1 j) * (N row j + a * N 0 j + b * N 1 j) ≤ 3 * (N row j * N row j) + 3 * (N 0 j * N 0 j) + 3 * (N 1 j * N 1 j) := fun j => by
    have h1 := sum3 (N row j) (a * N 0 j) (b * N 1 j)
    have h2 := one_sq ha (N 0 j)
    have h3 := one_sq hb (N 1 j)
    omega
  have k0 := k 0
  have k1 := k 1
  have k2 := k 2
  have n0 := sq_nonneg (N row 0 + a * N 0 0 + b * N 1 0)
  have n1 := sq_nonneg (N row 1 + a * N 0 1 + b * N 1 1)
  have n2 := sq_nonneg (N row 2 + a * N 0 2 + b * N 1 2)
  unfold sqw
  omega
theorem RB_ent {B : Int} {N : Mi} (h : RB B N) {i j : Nat} (hi : i < 3) (hj : j < 3) : N i j * N i j ≤ B := by
  have r := h i hi
  unfold sqr at r
  have n0 := sq_nonneg (N i 0)
  have n1 := sq_nonneg (N i 1)
  have n2 := sq_nonneg (N i 2)
  rcases c3 hj with rfl | rfl | rfl <;> omega
theorem ab_sq (x : Int) : (x.natAbs : Int) ≤ x * x := by
  have h : ((x.natAbs * x.natAbs : Nat) : Int) = x * x := by rw [Int.natCast_mul, Int.natAbs_mul_self']
  have : x.natAbs ≤ x.natAbs * x.natAbs := by
    rcases Nat.eq_zero_or_pos x.natAbs with h | h
    · rw [h]; simp
    · exact Nat.le_mul_of_pos_right _ h
  omega
theorem RB_rg {B : Int} {N : Mi} (h : RB B N) (hB : B < 2 ^ 63) {i j : Nat} (hi : i < 3) (hj : j < 3) : rg (N i j) := by
  have h1 := RB_ent h hi hj
  have h2 := ab_sq (N i j)
  exact rg_nat.mpr (by omega)
/-- signs do not change squares, nor what is spanned -/
theorem ovf_row {N : Mi} {i a : Nat} (h : a ≠ i) (j : Nat) : ovf N i a j = N a j := by
  unfold ovf; split
  · unfold ovrR; rw [if_neg h]
  · rfl
theorem ovf_self (N : Mi) (i j : Nat) : ovf N i i j = (if sgl N i = true then -1 else 1) * N i j := by
  unfold ovf; split
  · unfold ovrR; rw [if_pos rfl]; omega
  · omega
theorem flp_row (N : Mi) {i : Nat} (hi : i < 3) : ∃ e : Int, (e = -1 ∨ e = 1) ∧ ∀ j, flp N i j = e * N i j := by
  have pm : ∀ b : Bool, (if b = true then (-1 : Int) else 1) = -1 ∨ (if b = true then (-1 : Int) else 1) = 1 := by decide
  unfold flp
  rcases c3 hi with rfl | rfl | rfl
  · exact ⟨_, pm (sgl N 0), fun j => by rw [ovf_row (by decide), ovf_row (by decide), ovf_self]⟩
  · refine ⟨_, pm (sgl (ovf N 0) 1), fun j => by rw [ovf_row (by decide), ovf_self, ovf_row (by decide)]⟩
  · refine ⟨_, pm (sgl (ovf (ovf N 0) 1) 2), fun j => by rw [ovf_self, ovf_row (by decide), ovf_row (by decide)]⟩
theorem ovf_eqL (N : Mi) {i : Nat} (hi : i < 3) : eqL (m3 N) (m3 (ovf N i)) := by
  unfold ovf; split
  · exact eqL_ovr N hi
  · exact eqL.rf _
theorem flp_eqL (N : Mi) : eqL (m3 N) (m3 (flp N)) := ((ovf_eqL N (by decide)).tr (ovf_eqL _ (by decide))).tr (ovf_eqL _ (by decide))
theorem flp_sqr (N : Mi) {i : Nat} (hi : i < 3) : sqr (flp N) i = sqr N i := by
  obtain ⟨e, he, h⟩ := flp_row N hi
  unfold sqr
  rw [h, h, h]
  rcases he with rfl | rfl <;> grind
/-- a sum of the three rows, squared -/
def sq27 (N : Mi) (a b c : Int) : Int := 0 + (a * N 0 0 + b * N 1 0 + c * N 2 0) * (a * N 0 0 + b * N 1 0 + c * N 2 0) + (a * N 0 1 + b * N 1 1 + c * N 2 1) * (a * N 0 1 + b * N 1 1 + c * N 2 1) + (a * N 0 2 + b * N 1 2 + c * N 2 2) * (a * N 0 2 + b * N 1 2 + c * N 2 2)
theorem mem9 {a b : Int} (ha : a = -1 ∨ a = 0 ∨ a = 1) (hb : b = -1 ∨ b = 0 ∨ b = 1) : (a, b) ∈ L9 := by
  rcases ha with rfl | rfl | rfl <;> rcases hb with rfl | rfl | rfl <;> decide
theorem mem3 {a : Int} (ha : a = -1 ∨ a = 0 ∨ a = 1) : (a, (0 : Int)) ∈ L3 := by
  rcases ha with rfl | rfl | rfl <;> decide
theorem mul3 {e a : Int} (he : e = -1 ∨ e = 1) (ha : a = -1 ∨ a = 0 ∨ a = 1) : a * e = -1 ∨ a * e = 0 ∨ a * e = 1 := by
  rcases he with rfl | rfl <;> rcases ha with rfl | rfl | rfl <;> decide
theorem ahd_le {N : Mi} {a b : Nat} (h : ahd N a b = false) : sqr N b ≤ sqr N a := by
  rcases Int.lt_or_le (sqr N a) (sqr N b) with h1 | h1
  · have := ahd_iff.mpr (.inl h1)
    rw [h] at this; cases this
  · exact h1
/-- no sum of rows made short, but nothing, is shorter than the first -/
theorem short_27 {N : Mi} (h : RDd N) {a b c : Int} (ha : a = -1 ∨ a = 0 ∨ a = 1) (hb : b = -1 ∨ b = 0 ∨ b = 1) (hc : c = -1 ∨ c = 0 ∨ c = 1) : sq27 (flp N) a b c = 0 ∧ a = 0 ∧ b = 0 ∧ c = 0 ∨ sqr (flp N) 0 ≤ sq27 (flp N) a b c := by
  obtain ⟨h1, h2, h3, h4⟩ := h
  have l1 := ahd_le h1
  have l2 := ahd_le h2
  obtain ⟨e0, p0, q0⟩ := flp_row N (i := 0) (by decide)
  obtain ⟨e1, p1, q1⟩ := flp_row N (i := 1) (by decide)
  obtain ⟨e2, p2, q2⟩ := flp_row N (i := 2) (by decide)
  rw [flp_sqr N (by decide)]
  have es : sq27 (flp N) a b c = sq27 N (a * e0) (b * e1) (c * e2) := by
    unfold sq27; simp only [q0, q1, q2, Int.mul_assoc]
  rw [es]
  have a' := mul3 p0 ha
  have b' := mul3 p1 hb
  have c' := mul3 p2 hc
  have z0 : a * e0 = 0 ↔ a = 0 := by rcases p0 with rfl | rfl <;> omega
  have z1 : b * e1 = 0 ↔ b = 0 := by rcases p1 with rfl | rfl <;> omega
  have z2 : c * e2 = 0 ↔ c = 0 := by rcases p2 with rfl | rfl <;> omega
  rw [← z0, ← z1, ← z2]
  generalize a * e0 = A at *
  generalize b * e1 = B at *
  generalize c * e2 = C at *
  have n9 : ∀ x, (x = -1 ∨ x = 0 ∨ x = 1) → (-x = -1 ∨ -x = 0 ∨ -x = 1) := fun x hx => by omega
  rcases c' with rfl | rfl | rfl
  · right
    have := h3 _ (mem9 (n9 _ a') (n9 _ b'))
    have e : sqw N 2 (-A) (-B) = sq27 N A B (-1) := by unfold sqw sq27; grind
    simp only at this
    omega
  · rcases b' with rfl | rfl | rfl
    · right
      have := h4 _ (mem3 (n9 _ a'))
      have e : sqw N 1 (-A) 0 = sq27 N A (-1) 0 := by unfold sqw sq27; grind
      simp only at this
      omega
    · rcases a' with rfl | rfl | rfl
      · right
        have e : sq27 N (-1) 0 0 = sqr N 0 := by unfold sq27 sqr; grind
        omega
      · left
        exact ⟨by unfold sq27; simp, rfl, rfl, rfl⟩
      · right
        have e : sq27 N 1 0 0 = sqr N 0 := by unfold sq27 sqr; grind
        omega
    · right
      have := h4 _ (mem3 a')
      have e : sqw N 1 A 0 = sq27 N A 1 0 := by unfold sqw sq27; grind
      simp only at this
      omega
  · right
    have := h3 _ (mem9 a' b')
    have e : sqw N 2 A B = sq27 N A B 1 := by unfold sqw sq27; grind
    simp only at this
    omega
