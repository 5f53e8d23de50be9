/-! the twin: whether rows in the one form have a point -/
set_option maxRecDepth 100000
def hpn (H : Mi) (c k : Nat) (p : Nat → Int) : Nat → Int := fun j => if c ≤ j ∧ j < k then p j - (p c).tdiv (H c c) * H c j else p j
def hpt (H : Mi) : Nat → Nat → (Nat → Int) → Bool
  | 0, _, _ => true
  | k + 1, c, p => if H c c ∣ p c then hpt H k (c + 1) (hpn H c 3 p) else false
def hptOk (H : Mi) : Nat → Nat → (Nat → Int) → Prop
  | 0, _, _ => True
  | k + 1, c, p => rg (p c) ∧ rg (H c c) ∧ H c c ≠ 0 ∧ hptOk H k (c + 1) (hpn H c 3 p)
def tP (u : TS) (p : Nat → Int) : Prop := ∀ j, j < 3 → tB u 26 j = li (p j)
theorem x3i {j : Nat} (h : j < 3) : ix (ni j) 3 = true := ix_ni h (by decide)
theorem c3i {j : Nat} (h : j < 3) : Int32.toNatClampNeg (ni j) = j := ni_clamp (by omega)
theorem X3_hp84 {f : Nat} (hf : 4 ≤ f) {u0 : TS} {H : Mi} : ∀ k n c p u, c + k = 3 → k < n → tR 18 u H → tP u p → Fr [26] u0 u → hptOk H k c p → ∃ u', m_X3_hasPoint_84 f n u (ni c) = some (if hpt H k c p = true then 1 else 0, u') ∧ Fr [26] u0 u' := by
  intro k
  induction k with
  | zero =>
    intro n c p u hc hn _ _ hF _
    obtain ⟨n, rfl⟩ : ∃ z, n = z + 1 := ⟨n - 1, by omega⟩
    have : c = 3 := by omega
    subst this
    rw [m_X3_hasPoint_84, if_pos le33]
    exact ⟨u, rfl, hF⟩
  | succ k ih =>
    intro n c p u hc hn hR hP hF hok
    obtain ⟨n, rfl⟩ : ∃ z, n = z + 1 := ⟨n - 1, by omega⟩
    have c3 : c < 3 := by omega
    obtain ⟨g1, g2, g3, hok⟩ := hok
    rw [m_X3_hasPoint_84, if_neg (le3 c3), gd_of (x3i c3), gd_of (i3x c3 c3), i3c c3 c3, c3i c3, hR c c c3 c3, hP c c3, gd_of (nzL_li g2 g3), rmL_li g1 g2]
    unfold hpt
    by_cases hd : H c c ∣ p c
    · rw [if_pos (show li ((p c).tmod (H c c)) = 0 by rw [Int.tmod_eq_zero_of_dvd hd]; rfl), if_pos hd, gd_of (x3i c3), gd_of (i3x c3 c3), gd_of (nzL_li g2 g3), nmv_eq, li_div g1 g2]
      obtain ⟨u2, p2, e2⟩ := loopc (fun n' v x => m_X3_hasPoint_143 f (m_X3_hasPoint_84 f n) n' v (ni c) (li ((p c).tdiv (H c c))) x) (fun v => m_X3_hasPoint_84 f n v (ni (c + 1))) (fun j v => tP v (hpn H c j p) ∧ tR 18 v H ∧ Fr [26] u0 v) c
        (fun n' v _ => by rw [m_X3_hasPoint_143, if_pos le33]; unfold m_X3_hasPoint_180; rw [nmv_eq, ni_succ])
        (fun n' v j hcj hj q => by
          obtain ⟨q1, q2, q3⟩ := q
          have e0 : tB v 26 j = li (p j) := by
            rw [q1 j hj]
            unfold hpn
            rw [if_neg (by omega)]
          refine ⟨sB v 26 j (li (p j - (p c).tdiv (H c c) * H c j)), ?_, fun i hi => ?_, q2.fr (l := [26]) (Fr.sB (by decide)) (by decide), q3.tr (Fr.sB (by decide))⟩
          · rw [m_X3_hasPoint_143, if_neg (le3 hj), gd_of (x3i hj), gd_of (i3x c3 hj), gd_of (x3i hj), nmv_eq, nmv_eq, c3i hj, i3c c3 hj, e0, q2 c j c3 hj, li_mul, li_sub, ni_succ]
          · rw [tB_sB]
            by_cases e : i = j
            · subst e
              rw [if_pos ⟨rfl, rfl⟩]
              unfold hpn
              rw [if_pos ⟨hcj, by omega⟩]
            · rw [if_neg (fun h => e h.2), q1 i hi]
              unfold hpn
              by_cases e2 : c ≤ i ∧ i < j
              · rw [if_pos e2, if_pos ⟨e2.1, by omega⟩]
              · rw [if_neg e2, if_neg (show ¬ (c ≤ i ∧ i < j + 1) from fun h => e2 ⟨h.1, by omega⟩)])
        (3 - c) f u c (Nat.le_refl _) (by omega) (by omega) ⟨fun i hi => by rw [hP i hi]; unfold hpn; rw [if_neg (by omega)], hR, hF⟩
      have e3 : m_X3_hasPoint_143 f (m_X3_hasPoint_84 f n) f u (ni c) (li ((p c).tdiv (H c c))) (ni c) = _ := e2
      rw [e3]
      exact ih n (c + 1) _ u2 (by omega) (by omega) p2.2.1 p2.1 p2.2.2 hok
    · rw [if_neg (show ¬ li ((p c).tmod (H c c)) = 0 from fun e => hd (Int.dvd_of_tmod_eq_zero ((li_inj (rg_tmod g1) rg_0).mp e))), if_neg hd]
      exact ⟨u, rfl, hF⟩
def hpd (d : Int) : Nat → Nat → (Nat → Int) → Bool
  | 0, _, _ => true
  | k + 1, j, p => if d ∣ p j then hpd d k (j + 1) p else false
/-- the answer: the point times o, by d, is a sum of the rows -/
def hpA (H : Mi) (o : Int) (x : Nat → Int) (d : Int) : Bool := if hpd d 3 0 (fun j => x j * o) = true then hpt H 3 0 (fun j => (x j * o).tdiv d) else false
theorem X3_hp40 {f : Nat} (hf : 4 ≤ f) {u0 : TS} {H : Mi} {p : Nat → Int} {d : Int} (gd0 : rg d) (hz : d ≠ 0) (gp : ∀ j, j < 3 → rg (p j)) (hok : hptOk H 3 0 (fun j => (p j).tdiv d)) : ∀ k n j u, j + k = 3 → k < n → tR 18 u H → tP u (fun i => if i < j then (p i).tdiv d else p i) → Fr [26] u0 u → ∃ u', m_X3_hasPoint_40 f n u (li d) (ni j) = some (if (if hpd d k j p = true then hpt H 3 0 (fun j => (p j).tdiv d) else false) = true then 1 else 0, u') ∧ Fr [26] u0 u' := by
  intro k
  induction k with
  | zero =>
    intro n j u hj hn hR hP hF
    obtain ⟨n, rfl⟩ : ∃ z, n = z + 1 := ⟨n - 1, by omega⟩
    have : j = 3 := by omega
    subst this
    rw [m_X3_hasPoint_40, if_pos le33]
    unfold m_X3_hasPoint_81
    have hP' : tP u (fun j => (p j).tdiv d) := fun i hi => by rw [hP i hi]; simp only [if_pos hi]
    obtain ⟨u', e1, e2⟩ := X3_hp84 (f := f) hf 3 f 0 _ u rfl (by omega) hR hP' hF hok
    exact ⟨u', e1, e2⟩
  | succ k ih =>
    intro n j u hj hn hR hP hF
    obtain ⟨n, rfl⟩ : ∃ z, n = z + 1 := ⟨n - 1, by omega⟩
    have j3 : j < 3 := by omega
    have e0 : tB u 26 j = li (p j) := by rw [hP j j3]; simp only [if_neg (Nat.lt_irrefl j)]
    rw [m_X3_hasPoint_40, if_neg (le3 j3), gd_of (x3i j3), gd_of (nzL_li gd0 hz), c3i j3, e0, rmL_li (gp j j3) gd0]
    unfold hpd
    by_cases hd : d ∣ p j
    · rw [if_pos (show li ((p j).tmod d) = 0 by rw [Int.tmod_eq_zero_of_dvd hd]; rfl), if_pos hd, gd_of (x3i j3), gd_of (nzL_li gd0 hz), gd_of (x3i j3), nmv_eq, nmv_eq, li_div (gp j j3) gd0, ni_succ]
      refine ih n (j + 1) _ (by omega) (by omega) (hR.fr (l := [26]) (Fr.sB (by decide)) (by decide)) (fun i hi => ?_) (hF.tr (Fr.sB (by decide)))
      rw [tB_sB]
      by_cases e : i = j
      · subst e
        rw [if_pos ⟨rfl, rfl⟩]
        simp only [if_pos (Nat.lt_succ_self i)]
      · rw [if_neg (fun h => e h.2), hP i hi]
        by_cases e2 : i < j
        · simp only [if_pos e2, if_pos (show i < j + 1 by omega)]
        · simp only [if_neg e2, if_neg (show ¬ i < j + 1 by omega)]
    · rw [if_neg (show ¬ li ((p j).tmod d) = 0 from fun e => hd (Int.dvd_of_tmod_eq_zero ((li_inj (rg_tmod (gp j j3)) rg_0).mp e))), if_neg hd]
      exact ⟨u, rfl, hF⟩
theorem X3_hasPoint {f : Nat} (hf : 4 ≤ f) {u : TS} {H : Mi} {o : Int} (hR : tR 18 u H) (ho : tL u 19 = li o) {x : Nat → Int} {d : Int} (gd0 : rg d) (hz : d ≠ 0) (gp : ∀ j, j < 3 → rg (x j * o)) (hok : hptOk H 3 0 (fun j => (x j * o).tdiv d)) : ∃ u', m_X3_hasPoint f u (li (x 0)) (li (x 1)) (li (x 2)) (li d) = some (if hpA H o x d = true then 1 else 0, u') ∧ Fr [26] u u' := by
  unfold m_X3_hasPoint
  simp only [nmv_eq, tL_sB, ho, li_mul]
  have q1 : Fr [26] u (sB u 26 (Int32.toNatClampNeg 0) (li (x 0 * o))) := Fr.sB (by decide)
  have q2 := (q1.tr (Fr.sB (k := 26) (i := Int32.toNatClampNeg 1) (v := li (x 1 * o)) (by decide))).tr (Fr.sB (k := 26) (i := Int32.toNatClampNeg 2) (v := li (x 2 * o)) (by decide))
  exact X3_hp40 (f := f) hf gd0 hz gp hok 3 f 0 _ rfl (by omega) (hR.fr q2 (by decide)) (fun i hi => by
    rcases (show i = 0 ∨ i = 1 ∨ i = 2 by omega) with rfl | rfl | rfl <;> rfl) q2
