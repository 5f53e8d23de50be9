/-! the twin: determinant, numbers of the rows at hand, without a common divisor -/
set_option maxRecDepth 100000
/-- rounds from j to N -/
theorem loopn {γ V : Type} (G : Nat → V → Int32 → Option γ) (K : V → Option γ) (P : Nat → V → Prop) (N : Nat) (hend : ∀ n v, P N v → G (n + 1) v (ni N) = K v) (hstep : ∀ n v j, j < N → P j v → ∃ v', G (n + 1) v (ni j) = G n v' (ni (j + 1)) ∧ P (j + 1) v') : ∀ k n v j, j + k = N → k < n → P j v → ∃ v', P N v' ∧ G n v (ni j) = K v' := by
  intro k
  induction k with
  | zero =>
    intro n v j hj hn h0
    obtain ⟨n, rfl⟩ : ∃ z, n = z + 1 := ⟨n - 1, by omega⟩
    have : j = N := by omega
    subst this
    exact ⟨v, h0, hend n v h0⟩
  | succ k ih =>
    intro n v j hj hn h0
    obtain ⟨n, rfl⟩ : ∃ z, n = z + 1 := ⟨n - 1, by omega⟩
    obtain ⟨v', e1, p1⟩ := hstep n v j (by omega) h0
    rw [e1]
    exact ih n v' (j + 1) (by omega) (by omega) p1
theorem aN_ni (a b : Nat) : ni a + ni b = ni (a + b) := (Int32.ofNat_add a b).symm
theorem le9 {j : Nat} (h : j < 9) : ¬ ((9 : Int32) ≤ ni j) := by
  intro e; have := (ni_le (n := 9) (by decide) (by omega)).mp e; omega
theorem le99 : (9 : Int32) ≤ ni 9 := by decide
theorem tR.at9 {k : Nat} {u : TS} {N : Mi} (h : tR k u N) {j : Nat} (hj : j < 9) : tB u k j = li (N (j / 3) (j % 3)) := by
  have := h (j / 3) (j % 3) (by omega) (by omega)
  rwa [show 3 * (j / 3) + j % 3 = j by omega] at this
theorem X3_det {f : Nat} (hf : 4 ≤ f) {u : TS} {N : Mi} (hR : tR 18 u N) : m_X3_det f u = some (li (dtf N), u) := by
  unfold m_X3_det
  obtain ⟨v2, p2, e2⟩ := loop3v (fun n v x => m_X3_det_4 f n u v x) (fun v => some (v, u)) (fun k v => v = li (if k = 0 then 0 else if k = 1 then 0 + N 0 0 * mnr N 0 0 else if k = 2 then 0 + N 0 0 * mnr N 0 0 + N 0 1 * mnr N 0 1 else 0 + N 0 0 * mnr N 0 0 + N 0 1 * mnr N 0 1 + N 0 2 * mnr N 0 2))
    (fun n v _ => by rw [m_X3_det_4, if_pos le33]; rfl)
    (fun n v k hk p => by
      refine ⟨v + li (N 0 k * mnr N 0 k), ?_, ?_⟩
      · have m1 : (k + 1) % 3 < 3 := md3 _
        have m2 : (k + 2) % 3 < 3 := md3 _
        have q0 : tB u 18 k = li (N 0 k) := by have := hR 0 k (by decide) hk; rwa [Nat.mul_zero, Nat.zero_add] at this
        have q1 : tB u 18 (3 + (k + 1) % 3) = li (N 1 ((k + 1) % 3)) := hR 1 _ (by decide) m1
        have q2 : tB u 18 (3 + (k + 2) % 3) = li (N 1 ((k + 2) % 3)) := hR 1 _ (by decide) m2
        have q3 : tB u 18 (6 + (k + 1) % 3) = li (N 2 ((k + 1) % 3)) := hR 2 _ (by decide) m1
        have q4 : tB u 18 (6 + (k + 2) % 3) = li (N 2 ((k + 2) % 3)) := hR 2 _ (by decide) m2
        have t3 : ∀ j, (3 : Int32) + ni j = ni (3 + j) := fun j => aN_ni 3 j
        have t6 : ∀ j, (6 : Int32) + ni j = ni (6 + j) := fun j => aN_ni 6 j
        have x9 : ∀ j, j < 9 → ix (ni j) 9 = true := fun j hj => ix_ni hj (by decide)
        have c9 : ∀ j, j < 9 → Int32.toNatClampNeg (ni j) = j := fun j hj => ni_clamp (by omega)
        rw [m_X3_det_4, if_neg (le3 hk), rm1 hk, rm2 hk, t3, t3, t6, t6, gd_of (x9 k (by omega)), gd_of (x9 _ (by omega)), gd_of (x9 _ (by omega)), gd_of (x9 _ (by omega)), gd_of (x9 _ (by omega)), nmv_eq, nmv_eq, c9 k (by omega), c9 _ (by omega), c9 _ (by omega), c9 _ (by omega), c9 _ (by omega), q0, q1, q2, q3, q4, li_mul, li_mul, li_sub, li_mul, ni_succ]
        rfl
      · rw [p, li_add]
        rcases (show k = 0 ∨ k = 1 ∨ k = 2 by omega) with rfl | rfl | rfl <;> rfl)
    hf (v := 0) rfl
  have e3 : m_X3_det_4 f f u 0 0 = _ := e2
  rw [e3, p2]
  show some (li (0 + N 0 0 * mnr N 0 0 + N 0 1 * mnr N 0 1 + N 0 2 * mnr N 0 2), u) = _
  rw [Int.zero_add]
  rfl
/-- the divisor of all nine, one behind the other -/
def gk (F : Mi) (g : Nat) : Nat → Nat
  | 0 => g
  | k + 1 => Int.gcd (gk F g k) (F (k / 3) (k % 3))
theorem gk_9 (F : Mi) : gk F 0 9 = g9 F 3 := rfl
theorem gk_lt {F : Mi} {g b : Nat} (hg : g < b) (h : ∀ i j, i < 3 → j < 3 → (F i j).natAbs < b) : ∀ k, k ≤ 9 → gk F g k < b
  | 0, _ => hg
  | k + 1, hk => gcd_lt (by simpa using gk_lt hg h k (by omega)) (h _ _ (by omega) (by omega))
def lsd (N : Mi) (o : Int) : Nat := gk N o.natAbs 9
theorem X3_lessens {f : Nat} (hf : 2 ^ 63 ≤ f) {u : TS} {N : Mi} {o : Int} (hR : tR 18 u N) (ho : tL u 19 = li o) (hp : 0 < o) (go : rg o) (gN : ∀ i j, i < 3 → j < 3 → rg (N i j)) (hz : lsd N o ≠ 0) : ∃ u', m_X3_lessens f u = some u' ∧ tR 18 u' (fun i j => (N i j).tdiv (lsd N o)) ∧ tL u' 19 = li (o.tdiv (lsd N o)) ∧ Fr [18, 19] u u' := by
  have f12 : 12 < f := Nat.lt_of_lt_of_le (by decide) hf
  have hb : ∀ i j, i < 3 → j < 3 → (N i j).natAbs < 2 ^ 63 := fun i j hi hj => rg_nat.mp (gN i j hi hj)
  have hg0 : o.natAbs < 2 ^ 63 := rg_nat.mp go
  have x9 : ∀ j, j < 9 → ix (ni j) 9 = true := fun j hj => ix_ni hj (by decide)
  have c9 : ∀ j, j < 9 → Int32.toNatClampNeg (ni j) = j := fun j hj => ni_clamp (by omega)
  unfold m_X3_lessens
  rw [nmv_eq, ho]
  obtain ⟨v2, p2, e2⟩ := loopn (fun n v x => m_X3_lessens_7 f n u v x) (fun v => m_X3_lessens_30 f u v) (fun k v => v = li (gk N o.natAbs k)) 9
    (fun n v _ => by rw [m_X3_lessens_7, if_pos le99])
    (fun n v k hk p => by
      refine ⟨_, ?_, rfl⟩
      have r1 : gk N o.natAbs k < 2 ^ 63 := gk_lt hg0 hb k (by omega)
      rw [m_X3_lessens_7, if_neg (le9 hk), gd_of (x9 k hk), c9 k hk, hR.at9 hk, p, common_li hf (rg_abs (k := 2 ^ 63) (by simpa using r1) (by decide)) (gN _ _ (by omega) (by omega)), bd_some, nmv_eq, ni_succ]
      rfl)
    9 f (li o) 0 rfl (by omega) (by show li o = li (o.natAbs : Int); rw [show (o.natAbs : Int) = o by omega])
  have e3 : m_X3_lessens_7 f f u (li o) 0 = _ := e2
  rw [e3, p2]
  have gl : rg (lsd N o : Int) := by
    have : lsd N o < 2 ^ 63 := gk_lt hg0 hb 9 (by omega)
    exact rg_abs (k := 2 ^ 63) (by simpa using this) (by decide)
  have hz' : (lsd N o : Int) ≠ 0 := by omega
  unfold m_X3_lessens_30
  obtain ⟨u4, p4, e4⟩ := loopn (fun n u x => m_X3_lessens_32 f n u (li (lsd N o)) x) (fun u => m_X3_lessens_54 f u (li (lsd N o))) (fun k v => tR 18 v (fun i j => if 3 * i + j < k then (N i j).tdiv (lsd N o) else N i j) ∧ tL v 19 = li o ∧ Fr [18, 19] u v) 9
    (fun n v _ => by rw [m_X3_lessens_32, if_pos le99])
    (fun n v k hk p => by
      obtain ⟨a1, a2, a3⟩ := p
      have q0 : tB v 18 k = li (N (k / 3) (k % 3)) := by
        rw [a1.at9 hk]
        show li (if 3 * (k / 3) + k % 3 < k then _ else _) = _
        rw [if_neg (by omega)]
      have w1 := a1.set (i := k / 3) (j := k % 3) (by omega) (by omega) ((N (k / 3) (k % 3)).tdiv (lsd N o))
      rw [show 3 * (k / 3) + k % 3 = k by omega] at w1
      refine ⟨_, ?_, w1.congr (fun i j hi hj => ?_), by rw [tL_sB]; exact a2, a3.tr (Fr.sB (by decide))⟩
      · rw [m_X3_lessens_32, if_neg (le9 hk), gd_of (x9 k hk), gd_of (nzL_li gl hz'), gd_of (x9 k hk), nmv_eq, nmv_eq, c9 k hk, q0, li_div (gN _ _ (by omega) (by omega)) gl, ni_succ]
      · show (if i = k / 3 ∧ j = k % 3 then _ else if 3 * i + j < k then _ else _) = if 3 * i + j < k + 1 then _ else _
        by_cases e : i = k / 3 ∧ j = k % 3
        · obtain ⟨rfl, rfl⟩ := e
          rw [if_pos ⟨rfl, rfl⟩, if_pos (by omega)]
        · rw [if_neg e]
          by_cases e2 : 3 * i + j < k
          · rw [if_pos e2, if_pos (by omega)]
          · rw [if_neg e2, if_neg (by omega)])
    9 f u 0 rfl (by omega) ⟨hR.congr (fun i j _ _ => by rw [if_neg (by omega)]), ho, Fr.rf⟩
  have e5 : m_X3_lessens_32 f f u (li (gk N o.natAbs 9)) 0 = _ := e4
  rw [e5]
  obtain ⟨a1, a2, a3⟩ := p4
  unfold m_X3_lessens_54
  rw [gd_of (nzL_li gl hz'), nmv_eq, a2, li_div go gl]
  refine ⟨_, rfl, fun i j hi hj => ?_, by rw [tL_sL, if_pos rfl], a3.tr (Fr.sL (by decide))⟩
  rw [tB_sL, a1 i j hi hj]
  show li (if 3 * i + j < 9 then _ else _) = _
  rw [if_pos (by omega)]
