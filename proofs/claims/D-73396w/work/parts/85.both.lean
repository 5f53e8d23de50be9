/-! the twin: two lattices over one divisor -/
set_option maxRecDepth 100000
theorem X3_laysFirst {f : Nat} (hf : 12 < f) {u u1 : TS} {l : Int32} {M : Mi} {o : Int} (h1 : m_X3_lays f u l = some u1) (hR : tR 18 u1 M) (ho : tL u1 19 = li o) (hF : Fr [18, 19, 20] u u1) : ∃ u', m_X3_laysFirst f u l = some u' ∧ tR 27 u' M ∧ tL u' 28 = li o ∧ tR 18 u' M ∧ tL u' 19 = li o ∧ Fr [18, 19, 20, 27, 28] u u' := by
  unfold m_X3_laysFirst
  rw [h1, bd_some, nmv_eq]
  have hR2 : tR 18 (sL u1 28 (tL u1 19)) M := hR.fr (l := [28]) (Fr.sL (by decide)) (by decide)
  obtain ⟨u2, e2, r2, f2⟩ := cpy9 (fun n u x => m_X3_laysFirst_15 f n u x) (fun u => some u) (a := 18) (b := 27) (by decide)
    (fun n v => by rw [m_X3_laysFirst_15, if_pos le99]; rfl)
    (fun n v k hk => by rw [m_X3_laysFirst_15, if_neg (le9 hk), gd_of (ix_ni hk (by decide)), gd_of (ix_ni hk (by decide)), nmv_eq, nmv_eq, ni_clamp (by omega), ni_succ]) hf hR2
  have e2' : m_X3_laysFirst_15 f f (sL u1 28 (tL u1 19)) 0 = _ := e2
  rw [e2']
  have g1 : Fr [18, 19, 20, 27, 28] u1 (sL u1 28 (tL u1 19)) := Fr.sL (by decide)
  refine ⟨u2, rfl, r2, ?_, hR2.fr f2 (by decide), ?_, ((hF.mono (by decide)).tr g1).tr (f2.mono (by decide))⟩
  · rw [(f2 28 (by decide)).2.1, tL_sL, if_pos rfl]; exact ho
  · rw [(f2 19 (by decide)).2.1, tL_sL, if_neg (by decide)]; exact ho
def btw (n1 n2 : Int) : Int := n1.tdiv (Int.gcd n1 n2) * n2
theorem X3_laysOther {f : Nat} (hf : 2 ^ 63 ≤ f) {u : TS} {M1 M2 : Mi} {n1 n2 : Int} (h1 : tR 27 u M1) (h2 : tL u 28 = li n1) (h3 : tR 18 u M2) (h4 : tL u 19 = li n2) (g1 : rg n1) (g2 : rg n2) (z1' : n1 ≠ 0) (z2' : n2 ≠ 0) (gb : rg (btw n1 n2)) : ∃ u', m_X3_laysOther f u = some u' ∧ tR 27 u' (fun i j => M1 i j * (btw n1 n2).tdiv n1) ∧ tR 29 u' (fun i j => M2 i j * (btw n1 n2).tdiv n2) ∧ tL u' 31 = li (btw n1 n2) ∧ tR 18 u' M2 ∧ tL u' 19 = li n2 ∧ Fr [27, 29, 30, 31] u u' := by
  have f12 : 12 < f := Nat.lt_of_lt_of_le (by decide) hf
  have g : rg (Int.gcd n1 n2 : Int) := by
    have h9 : Int.gcd n1 n2 < 2 ^ 63 := gcd_lt (rg_nat.mp g1) (rg_nat.mp g2)
    exact rg_abs (k := 2 ^ 63) (by simpa using h9) (by decide)
  have gz : (Int.gcd n1 n2 : Int) ≠ 0 := fun e => z2' (Int.gcd_eq_zero_iff.mp (show Int.gcd n1 n2 = 0 by exact_mod_cast e)).2
  unfold m_X3_laysOther
  rw [nmv_eq]
  have a28 : tL (sL u 30 (tL u 19)) 28 = li n1 := by rw [tL_sL, if_neg (by decide)]; exact h2
  have a30 : tL (sL u 30 (tL u 19)) 30 = li n2 := by rw [tL_sL, if_pos rfl]; exact h4
  rw [a28, a30, common_li hf g1 g2, bd_some, gd_of (nzL_li g gz), nmv_eq, li_div g1 g, li_mul]
  show ∃ u', m_X3_laysOther_35 f f (sL (sL u 30 (tL u 19)) 31 (li (btw n1 n2))) (ni 0) = some u' ∧ _
  generalize hv : sL (sL u 30 (tL u 19)) 31 (li (btw n1 n2)) = v0
  have F0 : Fr [27, 29, 30, 31] u v0 := by
    rw [← hv]
    exact (Fr.sL (l := [27, 29, 30, 31]) (by decide)).tr (Fr.sL (by decide))
  have b28 : tL v0 28 = li n1 := by rw [← hv, tL_sL, if_neg (by decide)]; exact a28
  have b30 : tL v0 30 = li n2 := by rw [← hv, tL_sL, if_neg (by decide)]; exact a30
  have b31 : tL v0 31 = li (btw n1 n2) := by rw [← hv, tL_sL, if_pos rfl]
  have b27 : tR 27 v0 M1 := by
    rw [← hv]
    exact (h1.fr (l := [30]) (Fr.sL (by decide)) (by decide)).fr (l := [31]) (Fr.sL (by decide)) (by decide)
  have b18 : tR 18 v0 M2 := h3.fr F0 (by decide)
  obtain ⟨u2, p2, e2⟩ := loopn (fun n v x => m_X3_laysOther_35 f n v x) (fun v => some v) (fun k v => (∀ j, j < 9 → tB v 27 j = li (if j < k then M1 (j / 3) (j % 3) * (btw n1 n2).tdiv n1 else M1 (j / 3) (j % 3))) ∧ (∀ j, j < k → tB v 29 j = li (M2 (j / 3) (j % 3) * (btw n1 n2).tdiv n2)) ∧ Fr [27, 29] v0 v) 9
    (fun n v _ => by rw [m_X3_laysOther_35, if_pos le99]; rfl)
    (fun n v k hk p => by
      obtain ⟨a1, a2, a3⟩ := p
      have c28 : tL v 28 = li n1 := by rw [(a3 28 (by decide)).2.1]; exact b28
      have c30 : tL v 30 = li n2 := by rw [(a3 30 (by decide)).2.1]; exact b30
      have c31 : tL v 31 = li (btw n1 n2) := by rw [(a3 31 (by decide)).2.1]; exact b31
      have c18 := (b18.fr a3 (by decide)).at9 hk
      have c27 : tB v 27 k = li (M1 (k / 3) (k % 3)) := by rw [a1 k hk, if_neg (by omega)]
      refine ⟨sB (sB v 29 k (li (M2 (k / 3) (k % 3) * (btw n1 n2).tdiv n2))) 27 k (li (M1 (k / 3) (k % 3) * (btw n1 n2).tdiv n1)), ?_, fun j hj => ?_, fun j hj => ?_, (a3.tr (Fr.sB (by decide))).tr (Fr.sB (by decide))⟩
      · rw [m_X3_laysOther_35, if_neg (le9 hk)]
        simp only [nmv_eq, tL_sB, c28, c30, c31, gd_of (ix_ni hk (show 9 < 2 ^ 31 by decide)), gd_of (nzL_li g1 z1'), gd_of (nzL_li g2 z2'), ni_clamp (show k < 2 ^ 31 by omega), li_div gb g1, li_div gb g2]
        rw [c18, tB_sB, if_neg (by omega), c27, li_mul, li_mul, ni_succ]
      · rw [tB_sB]
        by_cases e : j = k
        · subst e
          rw [if_pos ⟨rfl, rfl⟩, if_pos (by omega)]
        · rw [if_neg (fun h => e h.2), tB_sB, if_neg (by omega), a1 j hj]
          by_cases e2 : j < k
          · rw [if_pos e2, if_pos (by omega)]
          · rw [if_neg e2, if_neg (by omega)]
      · rw [tB_sB, if_neg (by omega), tB_sB]
        by_cases e : j = k
        · subst e
          rw [if_pos ⟨rfl, rfl⟩]
        · rw [if_neg (fun h => e h.2)]; exact a2 j (by omega))
    9 f v0 0 rfl (by omega) ⟨fun j hj => by rw [if_neg (by omega)]; exact b27.at9 hj, fun j hj => by omega, Fr.rf⟩
  obtain ⟨a1, a2, a3⟩ := p2
  have F2 := F0.tr (a3.mono (show ∀ k, k ∈ [27, 29] → k ∈ [27, 29, 30, 31] by decide))
  refine ⟨u2, e2, fun i j hi hj => ?_, fun i j hi hj => ?_, by rw [(a3 31 (by decide)).2.1]; exact b31, h3.fr F2 (by decide), by rw [(F2 19 (by decide)).2.1]; exact h4, F2⟩
  · rw [a1 (3 * i + j) (by omega), if_pos (by omega), show (3 * i + j) / 3 = i by omega, show (3 * i + j) % 3 = j by omega]
  · rw [a2 (3 * i + j) (by omega), show (3 * i + j) / 3 = i by omega, show (3 * i + j) % 3 = j by omega]
