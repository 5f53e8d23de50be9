/-! the twin: rows made short -/
set_option maxRecDepth 100000
theorem X3_lengthOf {f : Nat} {u : TS} {N : Mi} (hR : tR 18 u N) {i : Nat} (hi : i < 3) : m_X3_lengthOf f u (ni i) = some (li (sqr N i), u) := by
  unfold m_X3_lengthOf
  rw [z1, z2, gd_of (i3x0 hi), gd_of (i3x0 hi), gd_of (i3x hi (by decide)), gd_of (i3x hi (by decide)), gd_of (i3x hi (by decide)), gd_of (i3x hi (by decide)), i3c0 hi, i3c hi (by decide), i3c hi (by decide), hR i 0 hi (by decide), hR i 1 hi (by decide), hR i 2 hi (by decide), li_mul, li_mul, li_mul, li_add, li_add]
  rfl
theorem ah36 (N : Mi) (a b : Nat) (h : sqr N a = sqr N b) : ahd N a b = (if N a 0 = N b 0 then (if N a 1 = N b 1 then (if N a 2 = N b 2 then false else decide (N a 2 < N b 2)) else decide (N a 1 < N b 1)) else decide (N a 0 < N b 0)) := by unfold ahd; rw [if_pos h]
theorem X3_ah65 {f : Nat} {u : TS} {N : Mi} (hR : tR 18 u N) {a b j : Nat} (ha : a < 3) (hb : b < 3) (hj : j < 3) (g1 : rg (N a j)) (g2 : rg (N b j)) : m_X3_isAhead_65 f u (ni a) (ni b) (ni j) = some (if decide (N a j < N b j) = true then 1 else 0, u) := by
  unfold m_X3_isAhead_65 m_X3_isAhead_94
  rw [gd_of (i3x ha hj), gd_of (i3x hb hj), i3c ha hj, i3c hb hj, hR a j ha hj, hR b j hb hj]
  by_cases h : N b j ≤ N a j
  · rw [if_pos ((li_le g2 g1).mpr h), if_neg (by simp; omega)]; rfl
  · rw [if_neg (fun e => h ((li_le g2 g1).mp e)), if_pos (by simp; omega)]; rfl
theorem X3_isAhead {f : Nat} (hf : 4 ≤ f) {u : TS} {N : Mi} (hR : tR 18 u N) {a b : Nat} (ha : a < 3) (hb : b < 3) (gN : ∀ i j, i < 3 → j < 3 → rg (N i j)) (gs : ∀ i, i < 3 → rg (sqr N i)) : m_X3_isAhead f u (ni a) (ni b) = some (if ahd N a b = true then 1 else 0, u) := by
  unfold m_X3_isAhead
  rw [X3_lengthOf hR ha, bd2_some, X3_lengthOf hR hb, bd2_some]
  by_cases hs : sqr N a = sqr N b
  · rw [if_pos (by rw [hs]), ah36 N a b hs]
    obtain ⟨n, rfl⟩ : ∃ z, f = z + 4 := ⟨f - 4, by omega⟩
    show m_X3_isAhead_36 (n + 4) (n + 3 + 1) u (ni a) (ni b) (ni 0) = _
    rw [m_X3_isAhead_36, if_neg (le3 (by decide)), gd_of (i3x ha (by decide)), gd_of (i3x hb (by decide)), i3c ha (by decide), i3c hb (by decide), hR a 0 ha (by decide), hR b 0 hb (by decide)]
    by_cases h0 : N a 0 = N b 0
    · rw [if_pos (show li (N a 0) = li (N b 0) by rw [h0]), if_pos h0, nmv_eq, ni_succ]
      show m_X3_isAhead_36 (n + 4) (n + 2 + 1) u (ni a) (ni b) (ni 1) = _
      rw [m_X3_isAhead_36, if_neg (le3 (by decide)), gd_of (i3x ha (by decide)), gd_of (i3x hb (by decide)), i3c ha (by decide), i3c hb (by decide), hR a 1 ha (by decide), hR b 1 hb (by decide)]
      by_cases h1 : N a 1 = N b 1
      · rw [if_pos (show li (N a 1) = li (N b 1) by rw [h1]), if_pos h1, nmv_eq, ni_succ]
        show m_X3_isAhead_36 (n + 4) (n + 1 + 1) u (ni a) (ni b) (ni 2) = _
        rw [m_X3_isAhead_36, if_neg (le3 (by decide)), gd_of (i3x ha (by decide)), gd_of (i3x hb (by decide)), i3c ha (by decide), i3c hb (by decide), hR a 2 ha (by decide), hR b 2 hb (by decide)]
        by_cases h2 : N a 2 = N b 2
        · rw [if_pos (show li (N a 2) = li (N b 2) by rw [h2]), if_pos h2, nmv_eq, ni_succ]
          show m_X3_isAhead_36 (n + 4) (n + 0 + 1) u (ni a) (ni b) (ni 3) = _
          rw [m_X3_isAhead_36, if_pos le33]; rfl
        · rw [if_neg (fun e => h2 ((li_inj (gN a 2 ha (by decide)) (gN b 2 hb (by decide))).mp e)), if_neg h2]
          exact X3_ah65 hR ha hb (by decide) (gN a 2 ha (by decide)) (gN b 2 hb (by decide))
      · rw [if_neg (fun e => h1 ((li_inj (gN a 1 ha (by decide)) (gN b 1 hb (by decide))).mp e)), if_neg h1]
        exact X3_ah65 hR ha hb (by decide) (gN a 1 ha (by decide)) (gN b 1 hb (by decide))
    · rw [if_neg (fun e => h0 ((li_inj (gN a 0 ha (by decide)) (gN b 0 hb (by decide))).mp e)), if_neg h0]
      exact X3_ah65 hR ha hb (by decide) (gN a 0 ha (by decide)) (gN b 0 hb (by decide))
  · rw [if_neg (fun e => hs ((li_inj (gs a ha) (gs b hb)).mp e)), X3_lengthOf hR ha, bd2_some, X3_lengthOf hR hb, bd2_some]
    unfold m_X3_isAhead_33 ahd
    rw [if_neg hs]
    by_cases h : sqr N b ≤ sqr N a
    · rw [if_pos ((li_le (gs b hb) (gs a ha)).mpr h), if_neg (show ¬ decide (sqr N a < sqr N b) = true by simp; omega)]; rfl
    · rw [if_neg (fun e => h ((li_le (gs b hb) (gs a ha)).mp e)), if_pos (show decide (sqr N a < sqr N b) = true by simp; omega)]; rfl
theorem excR_comm (N : Mi) {a b : Nat} : excR N a b = excR N b a := by
  funext i j
  unfold excR
  by_cases h1 : i = a
  · subst h1
    by_cases h2 : i = b
    · subst h2; simp
    · simp [h2]
  · by_cases h2 : i = b
    · subst h2; simp [h1]
    · simp [h1, h2]
/-- one exchange of neighbours, if it must be -/
theorem X3_or9 {f : Nat} (hf : 4 ≤ f) {k2 : TS → Int32 → Option TS} {u0 u : TS} {N : Mi} {B : Int} (hB : 9 * B < 2 ^ 63) (hRB : RB B N) (H : TF u0 (N, []) u) {n i : Nat} (hi : i < 2) (x1 : Int32) : ∃ u', m_X3_orders_9 f k2 (n + 1) u x1 (ni i) = m_X3_orders_9 f k2 n u' x1 (ni (i + 1)) ∧ TF u0 ((if ahd N (i + 1) i = true then excR N (i + 1) i else N), []) u' := by
  have h0 := sqr_nn N 0
  have hB0 : 0 ≤ B := by have := hRB 0 (by decide); omega
  have gN : ∀ i j, i < 3 → j < 3 → rg (N i j) := fun i j hi hj => RB_rg hRB (by omega) hi hj
  have gs : ∀ i, i < 3 → rg (sqr N i) := fun i hi => by have h1 := hRB i hi; have h2 := sqr_nn N i; exact ⟨by omega, by omega⟩
  rw [m_X3_orders_9, if_neg (show ¬ (2 : Int32) ≤ ni i from lek (by decide) hi), ni_succ, X3_isAhead hf H.1 (by omega) (by omega) gN gs, bd2_some]
  unfold m_X3_orders_38
  simp only [nmv_eq, ni_succ]
  cases ha : ahd N (i + 1) i with
  | false =>
    rw [if_neg (show ¬ false = true by decide), if_pos rfl, if_neg (show ¬ false = true by decide)]
    exact ⟨u, rfl, H⟩
  | true =>
    rw [if_pos rfl, if_neg (show ¬ (1 : Int32) = 0 by decide), if_pos rfl]
    obtain ⟨u1, e1, e2⟩ := X3_exchangesRows hf H (show ([] : List St).length < 400 by decide) (show i < 3 by omega) (show i + 1 < 3 by omega) (by omega)
    rw [e1, bd_some]
    refine ⟨sI u1 25 0, rfl, ?_, ⟨rfl, fun i st hi => by cases hi⟩, e2.2.2.tr (Fr.sI (by decide))⟩
    rw [excR_comm]
    exact e2.1.fr (l := [25]) (Fr.sI (by decide)) (by decide)
theorem X3_or_r {f : Nat} (hf : 4 ≤ f) {k2 : TS → Int32 → Option TS} {u0 u : TS} {N : Mi} {B : Int} (hB : 9 * B < 2 ^ 63) (hRB : RB B N) (H : TF u0 (N, []) u) (x : Nat) : ∃ u', m_X3_orders_9 f k2 f u (ni x) 0 = k2 u' (ni (x + 1)) ∧ TF u0 (so2 (so1 N), []) u' ∧ RB B (so2 (so1 N)) := by
  obtain ⟨n, rfl⟩ : ∃ z, f = z + 3 := ⟨f - 3, by omega⟩
  obtain ⟨u1, e1, H1⟩ := X3_or9 (k2 := k2) hf hB hRB H (n := n + 2) (i := 0) (by decide) (ni x)
  have r1 := (so1_RB hRB).1
  have H1' : TF u0 (so1 N, []) u1 := H1
  obtain ⟨u2, e2, H2⟩ := X3_or9 (k2 := k2) hf hB r1 H1' (n := n + 1) (i := 1) (by decide) (ni x)
  have r2 : RB B (so2 (so1 N)) := by
    unfold so2; split
    · exact (exc21_RB r1).1
    · exact r1
  refine ⟨u2, ?_, H2, r2⟩
  show m_X3_orders_9 (n + 3) k2 (n + 2 + 1) u (ni x) (ni 0) = _
  rw [e1]
  show m_X3_orders_9 (n + 3) k2 (n + 1 + 1) u1 (ni x) (ni 1) = _
  rw [e2]
  show m_X3_orders_9 (n + 3) k2 (n + 1) u2 (ni x) (ni 2) = _
  rw [m_X3_orders_9, if_pos (show (2 : Int32) ≤ ni 2 from lekk 2)]
  unfold m_X3_orders_44
  rw [nmv_eq, ni_succ]
theorem X3_orders {f : Nat} (hf : 4 ≤ f) {u0 u : TS} {N : Mi} {B : Int} (hB : 9 * B < 2 ^ 63) (hRB : RB B N) (H : TF u0 (N, []) u) : ∃ u', m_X3_orders f u = some u' ∧ TF u0 (srt N, []) u' := by
  obtain ⟨n, rfl⟩ : ∃ z, f = z + 4 := ⟨f - 4, by omega⟩
  unfold m_X3_orders
  show ∃ u', m_X3_orders_2 (n + 4) (n + 3 + 1) u (ni 0) = some u' ∧ _
  obtain ⟨u1, e1, H1, r1⟩ := X3_or_r (k2 := m_X3_orders_2 (n + 4) (n + 3)) hf hB hRB H 0
  obtain ⟨u2, e2, H2, r2⟩ := X3_or_r (k2 := m_X3_orders_2 (n + 4) (n + 2)) hf hB r1 H1 1
  obtain ⟨u3, e3, H3, r3⟩ := X3_or_r (k2 := m_X3_orders_2 (n + 4) (n + 1)) hf hB r2 H2 2
  rw [m_X3_orders_2, if_neg (le3 (by decide)), e1]
  show ∃ u', m_X3_orders_2 (n + 4) (n + 2 + 1) u1 (ni 1) = some u' ∧ _
  rw [m_X3_orders_2, if_neg (le3 (by decide)), e2]
  show ∃ u', m_X3_orders_2 (n + 4) (n + 1 + 1) u2 (ni 2) = some u' ∧ _
  rw [m_X3_orders_2, if_neg (le3 (by decide)), e3]
  show ∃ u', m_X3_orders_2 (n + 4) (n + 0 + 1) u3 (ni 3) = some u' ∧ _
  rw [m_X3_orders_2, if_pos le33]
  rw [bub] at H3
  exact ⟨u3, rfl, H3⟩
/-! betters -/
def bSt (N : Mi) (row : Nat) (s : Int × Option (Int × Int)) (u : TS) : Prop := ∀ p, s.2 = some p → ∀ j, j < 3 → tB u 37 j = li (btr N row p row j)
def bfl (s : Int × Option (Int × Int)) : Int32 := match s.2 with
  | none => 0
  | some _ => 1
def psw (N : Mi) (row : Nat) (a b : Int) : Nat → Int
  | 0 => 0
  | j + 1 => psw N row a b j + (N row j + a * N 0 j + b * N 1 j) * (N row j + a * N 0 j + b * N 1 j)
theorem psw_3 (N : Mi) (row : Nat) (a b : Int) : psw N row a b 3 = sqw N row a b := rfl
/-- one pair tried -/
theorem X3_bt38 {f : Nat} (hf : 4 ≤ f) {k12 : TS → Int32 → Int64 → Int32 → Int32 → Option (Int32 × TS)} {k21 : TS → Int32 → Int64 → Int32 → Int32 → Int32 → Option (Int32 × TS)} {u0 u : TS} {N : Mi} (hR : tR 18 u N) (hF : Fr [36, 37] u0 u) {row : Nat} (hr : row < 3) {s : Int × Option (Int × Int)} (hs : bSt N row s u) (gs : rg s.1) (a t b : Int32) (g : rg (sqw N row a.toInt t.toInt)) : ∃ u', m_X3_betters_38 f k12 k21 u (ni row) (li s.1) (bfl s) a b t = k21 u' (ni row) (li (bstep N row s (a.toInt, t.toInt)).1) (bfl (bstep N row s (a.toInt, t.toInt))) a (b + 1) ∧ bSt N row (bstep N row s (a.toInt, t.toInt)) u' ∧ tR 18 u' N ∧ Fr [36, 37] u0 u' := by
  unfold m_X3_betters_38
  obtain ⟨v2, p2, e2⟩ := loop3v (fun n (v : TS × Int64) x => m_X3_betters_46 f k12 k21 n v.1 (ni row) (li s.1) (bfl s) a b t v.2 x) (fun v => m_X3_betters_122 f k12 k21 v.1 (ni row) (li s.1) (bfl s) a b v.2) (fun j v => v.2 = li (psw N row a.toInt t.toInt j) ∧ (∀ i, i < j → tB v.1 36 i = li (N row i + a.toInt * N 0 i + t.toInt * N 1 i)) ∧ Fr [36] u v.1)
    (fun n v _ => by rw [m_X3_betters_46, if_pos le33])
    (fun n v j hj p => by
      obtain ⟨a1, a2, a3⟩ := p
      have hR' := hR.fr a3 (by decide)
      have q0 := hR' 0 j (by decide) hj
      rw [Nat.mul_zero, Nat.zero_add] at q0
      have q1 := hR' 1 j (by decide) hj
      refine ⟨(sB v.1 36 j (li (N row j + a.toInt * N 0 j + t.toInt * N 1 j)), li (psw N row a.toInt t.toInt (j + 1))), ?_, rfl, fun i hi => ?_, a3.tr (Fr.sB (by decide))⟩
      · rw [m_X3_betters_46, if_neg (le3 hj), gd_of (i3x hr hj), gd_of (ix_ni (show j < 9 by omega) (by decide)), show (3 : Int32) + ni j = ni (3 * 1 + j) from aN_ni 3 j, gd_of (ix_ni (by omega) (by decide)), gd_of (x3i hj)]
        simp only [nmv_eq]
        rw [gd_of (x3i hj), gd_of (x3i hj), i3c hr hj, c3i hj, ni_clamp (show 3 * 1 + j < 2 ^ 31 by omega), hR' row j hr hj, q0, q1, toL, toL, li_mul, li_mul, li_add, li_add, tB_sB, if_pos ⟨rfl, rfl⟩, a1, li_mul, li_add, ni_succ]
        rfl
      · show tB (sB v.1 36 j _) 36 i = _
        rw [tB_sB]
        by_cases e : i = j
        · subst e; rw [if_pos ⟨rfl, rfl⟩]
        · rw [if_neg (by omega)]; exact a2 i (by omega))
    hf (v := (u, 0)) ⟨rfl, fun i hi => by omega, Fr.rf⟩
  have e3 : m_X3_betters_46 f k12 k21 f u (ni row) (li s.1) (bfl s) a b t 0 0 = _ := e2
  rw [e3]
  obtain ⟨a1, a2, a3⟩ := p2
  rw [a1, psw_3]
  unfold m_X3_betters_122
  have F1 := hF.tr (a3.mono (show ∀ k, k ∈ [36] → k ∈ [36, 37] by decide))
  by_cases hle : s.1 ≤ sqw N row a.toInt t.toInt
  · rw [if_pos ((li_le gs g).mpr hle)]
    unfold m_X3_betters_164
    rw [nmv_eq]
    have e : bstep N row s (a.toInt, t.toInt) = s := by unfold bstep; rw [if_neg (show ¬ sqw N row (a.toInt, t.toInt).1 (a.toInt, t.toInt).2 < s.1 by simp only; omega)]
    rw [e]
    refine ⟨v2.1, rfl, fun p hp j hj => ?_, hR.fr a3 (by decide), F1⟩
    rw [(a3 37 (by decide)).2.2.2]; exact hs p hp j hj
  · rw [if_neg (fun e => hle ((li_le gs g).mp e))]
    have e : bstep N row s (a.toInt, t.toInt) = (sqw N row a.toInt t.toInt, some (a.toInt, t.toInt)) := by unfold bstep; rw [if_pos (show sqw N row (a.toInt, t.toInt).1 (a.toInt, t.toInt).2 < s.1 by simp only; omega)]
    rw [e]
    obtain ⟨u4, p4, e4⟩ := loop3v (fun n v x => m_X3_betters_138 f k12 k21 n v (ni row) (li (sqw N row a.toInt t.toInt)) 1 a b x) (fun v => m_X3_betters_164 f k12 k21 v (ni row) (li (sqw N row a.toInt t.toInt)) 1 a b) (fun j v => (∀ i, i < j → tB v 37 i = li (N row i + a.toInt * N 0 i + t.toInt * N 1 i)) ∧ Fr [37] v2.1 v)
      (fun n v _ => by rw [m_X3_betters_138, if_pos le33])
      (fun n v j hj p => by
        obtain ⟨b1, b2⟩ := p
        refine ⟨sB v 37 j (li (N row j + a.toInt * N 0 j + t.toInt * N 1 j)), ?_, fun i hi => ?_, b2.tr (Fr.sB (by decide))⟩
        · rw [m_X3_betters_138, if_neg (le3 hj), gd_of (x3i hj), gd_of (x3i hj), nmv_eq, nmv_eq, c3i hj, (b2 36 (by decide)).2.2.2, a2 j hj, ni_succ]
        · rw [tB_sB]
          by_cases e : i = j
          · subst e; rw [if_pos ⟨rfl, rfl⟩]
          · rw [if_neg (by omega)]; exact b1 i (by omega))
      hf (v := v2.1) ⟨fun i hi => by omega, Fr.rf⟩
    have e5 : m_X3_betters_138 f k12 k21 f v2.1 (ni row) (li (sqw N row a.toInt t.toInt)) 1 a b 0 = _ := e4
    rw [e5]
    unfold m_X3_betters_164
    rw [nmv_eq]
    refine ⟨u4, rfl, fun p hp j hj => ?_, (hR.fr a3 (by decide)).fr p4.2 (by decide), F1.tr (p4.2.mono (by decide))⟩
    have : (a.toInt, t.toInt) = p := by simpa using hp
    subst this
    rw [p4.1 j hj]
    unfold btr; rw [if_pos rfl]
theorem sqw_rg {B : Int} {N : Mi} {row : Nat} (hB : 9 * B < 2 ^ 63) (h : RB B N) (hr : row < 3) {a b : Int} (ha : a = -1 ∨ a = 0 ∨ a = 1) (hb : b = -1 ∨ b = 0 ∨ b = 1) : rg (sqw N row a b) := by
  have := sqw_le h hr ha hb
  exact ⟨by omega, by omega⟩
theorem bstep_rg {N : Mi} {row : Nat} {s : Int × Option (Int × Int)} {p : Int × Int} (g : rg s.1) (g' : rg (sqw N row p.1 p.2)) : rg (bstep N row s p).1 := by
  unfold bstep; split
  · exact g'
  · exact g
def tms (row : Nat) (b : Int32) : Int32 := if row = 2 then b else 0
theorem tms3 (row : Nat) {b : Int32} (hb : b.toInt = -1 ∨ b.toInt = 0 ∨ b.toInt = 1) : (tms row b).toInt = -1 ∨ (tms row b).toInt = 0 ∨ (tms row b).toInt = 1 := by
  unfold tms; split
  · exact hb
  · exact .inr (.inl rfl)
theorem X3_bt21 {f : Nat} (hf : 6 ≤ f) {k12 : TS → Int32 → Int64 → Int32 → Int32 → Option (Int32 × TS)} {u0 u : TS} {N : Mi} {B : Int} (hB : 9 * B < 2 ^ 63) (hRB : RB B N) (hR : tR 18 u N) (hF : Fr [36, 37] u0 u) {row : Nat} (hr : row < 3) {s : Int × Option (Int × Int)} (hs : bSt N row s u) (gs : rg s.1) (a : Int32) (ha : a.toInt = -1 ∨ a.toInt = 0 ∨ a.toInt = 1) : ∃ u', m_X3_betters_21 f k12 f u (ni row) (li s.1) (bfl s) a (-1) = k12 u' (ni row) (li ([(a.toInt, (tms row (-1)).toInt), (a.toInt, (tms row 0).toInt), (a.toInt, (tms row 1).toInt)].foldl (bstep N row) s).1) (bfl ([(a.toInt, (tms row (-1)).toInt), (a.toInt, (tms row 0).toInt), (a.toInt, (tms row 1).toInt)].foldl (bstep N row) s)) (a + 1) ∧ bSt N row ([(a.toInt, (tms row (-1)).toInt), (a.toInt, (tms row 0).toInt), (a.toInt, (tms row 1).toInt)].foldl (bstep N row) s) u' ∧ tR 18 u' N ∧ Fr [36, 37] u0 u' ∧ rg ([(a.toInt, (tms row (-1)).toInt), (a.toInt, (tms row 0).toInt), (a.toInt, (tms row 1).toInt)].foldl (bstep N row) s).1 := by
  obtain ⟨n, rfl⟩ : ∃ z, f = z + 6 := ⟨f - 6, by omega⟩
  have one : ∀ (k : Nat) (b : Int32) (v : TS) (s' : Int × Option (Int × Int)), ¬ (2 : Int32) ≤ b → (b.toInt = -1 ∨ b.toInt = 0 ∨ b.toInt = 1) → tR 18 v N → Fr [36, 37] u0 v → bSt N row s' v → rg s'.1 → ∃ u', m_X3_betters_21 (n + 6) k12 (k + 1) v (ni row) (li s'.1) (bfl s') a b = m_X3_betters_21 (n + 6) k12 k u' (ni row) (li (bstep N row s' (a.toInt, (tms row b).toInt)).1) (bfl (bstep N row s' (a.toInt, (tms row b).toInt))) a (b + 1) ∧ bSt N row (bstep N row s' (a.toInt, (tms row b).toInt)) u' ∧ tR 18 u' N ∧ Fr [36, 37] u0 u' ∧ rg (bstep N row s' (a.toInt, (tms row b).toInt)).1 := fun k b v s' h2 hb hv hFv hs' gs' => by
    have g := sqw_rg hB hRB hr ha (tms3 row hb)
    obtain ⟨u', e1, e2, e3, e4⟩ := X3_bt38 (f := n + 6) (by omega) (k12 := k12) (k21 := m_X3_betters_21 (n + 6) k12 k) hv hFv hr hs' gs' a (tms row b) b g
    refine ⟨u', ?_, e2, e3, e4, bstep_rg gs' g⟩
    rw [m_X3_betters_21, if_neg h2]
    have e2' : (ni row = (2 : Int32)) ↔ row = 2 := nie (by omega) (by decide)
    by_cases h : row = 2
    · rw [if_neg (fun hh => hh (e2'.mpr h))]
      have ht : tms row b = b := by unfold tms; rw [if_pos h]
      rw [ht] at e1 ⊢
      exact e1
    · rw [if_pos (fun hh => h (e2'.mp hh))]
      have ht : tms row b = 0 := by unfold tms; rw [if_neg h]
      rw [ht] at e1 ⊢
      exact e1
  obtain ⟨u1, a1, a2, a3, a4, a5⟩ := one (n + 5) (-1) u s (by decide) (by decide) hR hF hs gs
  obtain ⟨u2, b1, b2, b3, b4, b5⟩ := one (n + 4) 0 u1 _ (by decide) (by decide) a3 a4 a2 a5
  obtain ⟨u3, c1, c2, c3', c4', c5⟩ := one (n + 3) 1 u2 _ (by decide) (by decide) b3 b4 b2 b5
  refine ⟨u3, ?_, c2, c3', c4', c5⟩
  show m_X3_betters_21 (n + 6) k12 (n + 5 + 1) u (ni row) (li s.1) (bfl s) a (-1) = _
  rw [a1]
  show m_X3_betters_21 (n + 6) k12 (n + 4 + 1) u1 _ _ _ a 0 = _
  rw [b1]
  show m_X3_betters_21 (n + 6) k12 (n + 3 + 1) u2 _ _ _ a 1 = _
  rw [c1]
  show m_X3_betters_21 (n + 6) k12 (n + 2 + 1) u3 _ _ _ a 2 = _
  rw [m_X3_betters_21, if_pos (by decide)]
  unfold m_X3_betters_170
  rw [nmv_eq]
  rfl
def LTw (row : Nat) : List (Int × Int) := if row = 2 then L9 else L3x
theorem X3_betters {f : Nat} (hf : 6 ≤ f) {u : TS} {N : Mi} {B : Int} (hB : 9 * B < 2 ^ 63) (hRB : RB B N) (hR : tR 18 u N) {row : Nat} (hr : row < 3) : ∃ u', m_X3_betters f u (ni row) = some (bfl (bst N row (LTw row)), u') ∧ tR 18 u' (match (bst N row (LTw row)).2 with | none => N | some p => btr N row p) ∧ tI u' 35 = tI u 35 + bfl (bst N row (LTw row)) ∧ Fr [18, 35, 36, 37] u u' := by
  unfold m_X3_betters
  rw [X3_lengthOf hR hr, bd2_some]
  have h0 := hRB row hr
  have h1 := sqr_nn N row
  have gs : rg (sqr N row) := ⟨by omega, by omega⟩
  obtain ⟨n, rfl⟩ : ∃ z, f = z + 6 := ⟨f - 6, by omega⟩
  have s0 : bSt N row (sqr N row, none) u := fun p hp => by cases hp
  obtain ⟨u1, a1, a2, a3, a4, a5⟩ := X3_bt21 (f := n + 6) hf (k12 := m_X3_betters_12 (n + 6) (n + 5)) hB hRB hR (Fr.rf (u := u)) hr s0 gs (-1) (by decide)
  obtain ⟨u2, b1, b2, b3, b4, b5⟩ := X3_bt21 (f := n + 6) hf (k12 := m_X3_betters_12 (n + 6) (n + 4)) hB hRB a3 a4 hr a2 a5 0 (by decide)
  obtain ⟨u3, c1, c2, c3', c4', c5⟩ := X3_bt21 (f := n + 6) hf (k12 := m_X3_betters_12 (n + 6) (n + 3)) hB hRB b3 b4 hr b2 b5 1 (by decide)
  have eL : [((1 : Int32).toInt, (tms row (-1)).toInt), ((1 : Int32).toInt, (tms row 0).toInt), ((1 : Int32).toInt, (tms row 1).toInt)].foldl (bstep N row) ([((0 : Int32).toInt, (tms row (-1)).toInt), ((0 : Int32).toInt, (tms row 0).toInt), ((0 : Int32).toInt, (tms row 1).toInt)].foldl (bstep N row) ([((-1 : Int32).toInt, (tms row (-1)).toInt), ((-1 : Int32).toInt, (tms row 0).toInt), ((-1 : Int32).toInt, (tms row 1).toInt)].foldl (bstep N row) (sqr N row, none))) = bst N row (LTw row) := by
    unfold bst LTw tms
    by_cases h : row = 2
    · simp only [if_pos h]; rfl
    · simp only [if_neg h]; rfl
  rw [eL] at c1 c2 c5
  have st : m_X3_betters_12 (n + 6) (n + 6) u (ni row) (li (sqr N row)) 0 (-1) = m_X3_betters_176 (n + 6) u3 (ni row) (bfl (bst N row (LTw row))) := by
    show m_X3_betters_12 (n + 6) (n + 5 + 1) u (ni row) (li (sqr N row)) 0 (-1) = _
    rw [m_X3_betters_12, if_neg (by decide)]
    have a1' : m_X3_betters_21 (n + 6) (m_X3_betters_12 (n + 6) (n + 5)) (n + 6) u (ni row) (li (sqr N row)) 0 (-1) (-1) = _ := a1
    rw [a1']
    show m_X3_betters_12 (n + 6) (n + 4 + 1) u1 _ _ _ 0 = _
    rw [m_X3_betters_12, if_neg (by decide), b1]
    show m_X3_betters_12 (n + 6) (n + 3 + 1) u2 _ _ _ 1 = _
    rw [m_X3_betters_12, if_neg (by decide), c1]
    show m_X3_betters_12 (n + 6) (n + 2 + 1) u3 _ _ _ 2 = _
    rw [m_X3_betters_12, if_pos (by decide)]
  rw [st]
  unfold m_X3_betters_176
  generalize bst N row (LTw row) = bb at *
  have e35 : tI u3 35 = tI u 35 := (c4' 35 (by decide)).1
  rcases hb2 : bb.2 with _ | p
  · have fl : bfl bb = 0 := by unfold bfl; rw [hb2]
    rw [fl]
    show ∃ u', m_X3_betters_179 (n + 6) (n + 5 + 1) u3 (ni row) 0 0 = _ ∧ _
    rw [m_X3_betters_179, if_neg (by decide), if_pos rfl]
    unfold m_X3_betters_214 m_X3_betters_229
    rw [if_pos rfl, nmv_eq, gd_of (by decide)]
    refine ⟨_, rfl, c3'.fr (l := [35]) (Fr.sI (by decide)) (by decide), ?_, (c4'.mono (by decide)).tr (Fr.sI (by decide))⟩
    rw [tI_sI, if_pos rfl, e35]
  · have fl : bfl bb = 1 := by unfold bfl; rw [hb2]
    rw [fl]
    have hbest := c2 p hb2
    obtain ⟨u4, p4, e4⟩ := loop3v (fun k v x => m_X3_betters_179 (n + 6) k v (ni row) 1 x) (fun v => m_X3_betters_214 (n + 6) v 1) (fun j v => tR 18 v (upc N (btr N row p) j) ∧ Fr [18] u3 v)
      (fun k v _ => by rw [m_X3_betters_179, if_pos le33])
      (fun k v j hj q => by
        obtain ⟨d1, d2⟩ := q
        have w := tM.one (k := 18) (w := 3) (R := 3) (C := 3) (by decide) (r := row) (N := N) (N' := btr N row p) (u := v) d1 hj (fun a _ ha => btr_o N p ha j)
        refine ⟨_, ?_, w, d2.tr (Fr.sB (by decide))⟩
        rw [m_X3_betters_179, if_neg (le3 hj), if_neg (by decide), gd_of (x3i hj), gd_of (i3x hr hj), nmv_eq, nmv_eq, i3c hr hj, c3i hj, (d2 37 (by decide)).2.2.2, hbest j hj, ni_succ])
      (by omega) (n := n + 6) (v := u3) ⟨c3'.congr (fun a b _ _ => by unfold upc; rw [if_neg (by omega)]), Fr.rf⟩
    have e5 : m_X3_betters_179 (n + 6) (n + 6) u3 (ni row) 1 0 = _ := e4
    rw [e5]
    unfold m_X3_betters_214 m_X3_betters_229
    rw [if_neg (by decide), nmv_eq, gd_of (by decide)]
    refine ⟨_, rfl, ?_, ?_, ((c4'.mono (by decide)).tr (p4.2.mono (by decide))).tr (Fr.sI (by decide))⟩
    · have : tR 18 u4 (btr N row p) := p4.1.congr (fun a b _ hb => by unfold upc; rw [if_pos hb])
      exact this.fr (l := [35]) (Fr.sI (by decide)) (by decide)
    · rw [tI_sI, if_pos rfl, (p4.2 35 (by decide)).1, e35]
