/-! the twin: the other one's determinant -/
set_option maxRecDepth 100000
theorem X3_otherDet {f : Nat} (hf : 4 ≤ f) {u : TS} {N : Mi} (hR : tR 29 u N) (gd0 : rg (dtf N)) : m_X3_otherDet f u = some (li (dtf N).natAbs, u) := by
  unfold m_X3_otherDet
  obtain ⟨v2, p2, e2⟩ := loop3v (fun n v x => m_X3_otherDet_4 f n u v x) (fun v => m_X3_otherDet_78 f u v) (fun k v => v = li (if k = 0 then 0 else if k = 1 then 0 + N 0 0 * mnr N 0 0 else if k = 2 then 0 + N 0 0 * mnr N 0 0 + N 0 1 * mnr N 0 1 else 0 + N 0 0 * mnr N 0 0 + N 0 1 * mnr N 0 1 + N 0 2 * mnr N 0 2))
    (fun n v _ => by rw [m_X3_otherDet_4, if_pos le33])
    (fun n v k hk p => by
      refine ⟨v + li (N 0 k * mnr N 0 k), ?_, ?_⟩
      · have m1 : (k + 1) % 3 < 3 := md3 _
        have m2 : (k + 2) % 3 < 3 := md3 _
        have q0 : tB u 29 k = li (N 0 k) := by have := hR 0 k (by decide) hk; rwa [Nat.mul_zero, Nat.zero_add] at this
        have q1 : tB u 29 (3 + (k + 1) % 3) = li (N 1 ((k + 1) % 3)) := hR 1 _ (by decide) m1
        have q2 : tB u 29 (3 + (k + 2) % 3) = li (N 1 ((k + 2) % 3)) := hR 1 _ (by decide) m2
        have q3 : tB u 29 (6 + (k + 1) % 3) = li (N 2 ((k + 1) % 3)) := hR 2 _ (by decide) m1
        have q4 : tB u 29 (6 + (k + 2) % 3) = li (N 2 ((k + 2) % 3)) := hR 2 _ (by decide) m2
        have t3 : ∀ j, (3 : Int32) + ni j = ni (3 + j) := fun j => aN_ni 3 j
        have t6 : ∀ j, (6 : Int32) + ni j = ni (6 + j) := fun j => aN_ni 6 j
        have x9 : ∀ j, j < 9 → ix (ni j) 9 = true := fun j hj => ix_ni hj (by decide)
        have c9 : ∀ j, j < 9 → Int32.toNatClampNeg (ni j) = j := fun j hj => ni_clamp (by omega)
        rw [m_X3_otherDet_4, if_neg (le3 hk), rm1 hk, rm2 hk, t3, t3, t6, t6, gd_of (x9 k (by omega)), gd_of (x9 _ (by omega)), gd_of (x9 _ (by omega)), gd_of (x9 _ (by omega)), gd_of (x9 _ (by omega)), nmv_eq, nmv_eq, c9 k (by omega), c9 _ (by omega), c9 _ (by omega), c9 _ (by omega), c9 _ (by omega), q0, q1, q2, q3, q4, li_mul, li_mul, li_sub, li_mul, ni_succ]
        rfl
      · rw [p, li_add]
        rcases (show k = 0 ∨ k = 1 ∨ k = 2 by omega) with rfl | rfl | rfl <;> rfl)
    hf (v := 0) rfl
  have e3 : m_X3_otherDet_4 f f u 0 0 = _ := e2
  rw [e3, p2]
  show m_X3_otherDet_78 f u (li (0 + N 0 0 * mnr N 0 0 + N 0 1 * mnr N 0 1 + N 0 2 * mnr N 0 2)) = _
  rw [Int.zero_add]
  show m_X3_otherDet_78 f u (li (dtf N)) = _
  unfold m_X3_otherDet_78
  rw [sized_li gd0, bd_some]
