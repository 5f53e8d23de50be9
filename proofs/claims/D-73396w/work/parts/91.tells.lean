/-! the twin: what tells -/
set_option maxRecDepth 100000
def pits (P Q : Mi) (w : Int) (j i : Nat) : Nat → Int
  | 0 => 0
  | k + 1 => pits P Q w j i k + (P i k * mnr Q j k).tmod w
def prst (told P Q : Mi) (w : Int) (j r : Nat) : Nat → Int
  | 0 => 0
  | i + 1 => prst told P Q w j r i + ((told r i).tmod w * (itsJ P Q w j i).tmod w).tmod w
theorem pits_3 (P Q : Mi) (w : Int) (j i : Nat) : pits P Q w j i 3 = itsJ P Q w j i := rfl
theorem prst_3 (told P Q : Mi) (w : Int) (j r : Nat) : prst told P Q w j r 3 % w = rstJ told P Q w j r := rfl
theorem tmod_ab {w : Int} (x : Int) (hw : 0 < w) (hW : w ≤ 2 ^ 30) : (x.tmod w).natAbs < 2 ^ 30 := by
  rw [Int.natAbs_tmod]
  have := Nat.mod_lt x.natAbs (show w.natAbs > 0 by omega)
  omega
theorem pits_ab {P Q : Mi} {w : Int} {j i : Nat} (hw : 0 < w) (hW : w ≤ 2 ^ 30) : ∀ k, k ≤ 3 → (pits P Q w j i k).natAbs ≤ k * 2 ^ 30
  | 0, _ => by simp [pits]
  | k + 1, hk => by
    have h1 := pits_ab (P := P) (Q := Q) (j := j) (i := i) hw hW k (by omega)
    have h2 := tmod_ab (P i k * mnr Q j k) hw hW
    rw [pits]; omega
theorem prst_ab {told P Q : Mi} {w : Int} {j r : Nat} (hw : 0 < w) (hW : w ≤ 2 ^ 30) : ∀ k, k ≤ 3 → (prst told P Q w j r k).natAbs ≤ k * 2 ^ 30
  | 0, _ => by simp [prst]
  | k + 1, hk => by
    have h1 := prst_ab (told := told) (P := P) (Q := Q) (j := j) (r := r) hw hW k (by omega)
    have h2 := tmod_ab ((told r k).tmod w * (itsJ P Q w j k).tmod w) hw hW
    rw [prst]; omega
theorem X3_tl70 {f : Nat} (hf : 4 ≤ f) {k38 : TS → Int64 → Int32 → Option TS} {k46 : TS → Int64 → Int32 → Int32 → Option TS} {k58 : TS → Int64 → Int32 → Int32 → Int64 → Int32 → Option TS} {u : TS} {P Q : Mi} {w : Int} (hP : tR 27 u P) (hQ : tR 29 u Q) (hw : 0 < w) (hW : w ≤ 2 ^ 30) (gN : ∀ i k j, i < 3 → k < 3 → j < 3 → rg (P i k * mnr Q j k)) {j i : Nat} (hj : j < 3) (hi : i < 3) (x4 : Int32) (x5 : Int64) : m_X3_tells_70 f k38 k46 k58 f u (li w) (ni j) x4 x5 (ni i) 0 0 = m_X3_tells_109 f k38 k46 k58 u (li w) (ni j) x4 x5 (ni i) (li (itsJ P Q w j i)) := by
  have gw : rg w := ⟨by omega, by omega⟩
  obtain ⟨v2, p2, e2⟩ := loop3v (fun n v x => m_X3_tells_70 f k38 k46 k58 n u (li w) (ni j) x4 x5 (ni i) v x) (fun v => m_X3_tells_109 f k38 k46 k58 u (li w) (ni j) x4 x5 (ni i) v) (fun k v => v = li (pits P Q w j i k))
    (fun n v _ => by rw [m_X3_tells_70, if_pos le33])
    (fun n v k hk p => by
      refine ⟨_, ?_, rfl⟩
      rw [m_X3_tells_70, if_neg (le3 hk), gd_of (i3x hi hk), X3_adjugate hQ hk hj, bd2_some, gd_of (nzL_li gw (by omega)), nmv_eq, nmv_eq, i3c hi hk, hP i k hi hk, li_mul, rmL_li (gN i k j hi hk hj) gw, p, li_add, ni_succ]
      rfl)
    hf (v := 0) rfl
  have e3 : m_X3_tells_70 f k38 k46 k58 f u (li w) (ni j) x4 x5 (ni i) 0 0 = _ := e2
  rw [e3, p2, pits_3]
theorem X3_tl58 {f : Nat} (hf : 4 ≤ f) {k38 : TS → Int64 → Int32 → Option TS} {k46 : TS → Int64 → Int32 → Int32 → Option TS} {u : TS} {P Q told : Mi} {w : Int} (hP : tR 27 u P) (hQ : tR 29 u Q) (hT : tR 32 u told) (hw : 0 < w) (hW : w ≤ 2 ^ 30) (gN : ∀ i k j, i < 3 → k < 3 → j < 3 → rg (P i k * mnr Q j k)) (gT : ∀ r i, r < 3 → i < 3 → rg (told r i)) {j r : Nat} (hj : j < 3) (hr : r < 3) : m_X3_tells_58 f k38 k46 f u (li w) (ni j) (ni r) 0 0 = m_X3_tells_141 f k38 k46 u (li w) (ni j) (ni r) (li (prst told P Q w j r 3)) := by
  have gw : rg w := ⟨by omega, by omega⟩
  obtain ⟨v2, p2, e2⟩ := loop3v (fun n v x => m_X3_tells_58 f k38 k46 n u (li w) (ni j) (ni r) v x) (fun v => m_X3_tells_141 f k38 k46 u (li w) (ni j) (ni r) v) (fun k v => v = li (prst told P Q w j r k))
    (fun n v _ => by rw [m_X3_tells_58, if_pos le33])
    (fun n v i hi p => by
      refine ⟨_, ?_, rfl⟩
      rw [m_X3_tells_58, if_neg (le3 hi), X3_tl70 hf hP hQ hw hW gN hj hi]
      unfold m_X3_tells_109
      have b1 := pits_ab (P := P) (Q := Q) (j := j) (i := i) hw hW 3 (by omega)
      rw [pits_3] at b1
      have g1 : rg (itsJ P Q w j i) := rg_nat.mpr (by omega)
      have t1 := tmod_ab (told r i) hw hW
      have t2 := tmod_ab (itsJ P Q w j i) hw hW
      have t3 : rg ((told r i).tmod w * (itsJ P Q w j i).tmod w) := by
        rw [rg_nat, Int.natAbs_mul]
        exact Nat.lt_of_le_of_lt (Nat.mul_le_mul (Nat.le_of_lt t1) (Nat.le_of_lt t2)) (by decide)
      rw [gd_of (i3x hr hi), gd_of (nzL_li gw (by omega)), gd_of (nzL_li gw (by omega)), gd_of (nzL_li gw (by omega)), nmv_eq, nmv_eq, i3c hr hi, hT r i hr hi, rmL_li (gT r i hr hi) gw, rmL_li g1 gw, li_mul, rmL_li t3 gw, p, li_add, ni_succ]
      rfl)
    hf (v := 0) rfl
  have e3 : m_X3_tells_58 f k38 k46 f u (li w) (ni j) (ni r) 0 0 = _ := e2
  rw [e3, p2]
/-- the wide rows are laid -/
theorem X3_tl46 {f : Nat} (hf : 4 ≤ f) {k38 : TS → Int64 → Int32 → Option TS} {u : TS} {P Q told : Mi} {w : Int} (hP : tR 27 u P) (hQ : tR 29 u Q) (hT : tR 32 u told) (hw : 0 < w) (hW : w ≤ 2 ^ 30) (gN : ∀ i k j, i < 3 → k < 3 → j < 3 → rg (P i k * mnr Q j k)) (gT : ∀ r i, r < 3 → i < 3 → rg (told r i)) {j : Nat} (hj : j < 3) : ∃ u', m_X3_tells_46 f k38 f u (li w) (ni j) 0 = m_X3_tells_203 f k38 u' (li w) (ni j) ∧ (∀ a b, a < 3 → b < 4 → tB u' 33 (4 * a + b) = li (wid told (rstJ told P Q w j) w a b)) ∧ Fr [33] u u' := by
  have gw : rg w := ⟨by omega, by omega⟩
  obtain ⟨u2, p2, e2⟩ := loop3v (fun n v x => m_X3_tells_46 f k38 n v (li w) (ni j) x) (fun v => m_X3_tells_203 f k38 v (li w) (ni j)) (fun r v => (∀ a b, a < r → b < 4 → tB v 33 (4 * a + b) = li (wid told (rstJ told P Q w j) w a b)) ∧ Fr [33] u v)
    (fun n v _ => by rw [m_X3_tells_46, if_pos le33])
    (fun n v r hr p => by
      obtain ⟨a1, a2⟩ := p
      have hP' := hP.fr a2 (by decide)
      have hQ' := hQ.fr a2 (by decide)
      have hT' := hT.fr a2 (by decide)
      rw [m_X3_tells_46, if_neg (le3 hr), X3_tl58 hf hP' hQ' hT' hw hW gN gT hj hr]
      unfold m_X3_tells_141
      have b1 := prst_ab (told := told) (P := P) (Q := Q) (j := j) (r := r) hw hW 3 (by omega)
      rw [floorMod_li (rg_nat.mpr (by omega)) gw hw, bd_some, i4z, gd_of (ix_ni (by omega) (by decide)), nmv_eq, ni_clamp (by omega), prst_3]
      have F1 : Fr [33] u (sB v 33 (4 * r + 0) (li (rstJ told P Q w j r))) := a2.tr (Fr.sB (by decide))
      obtain ⟨u3, p3, e3⟩ := loop3v (fun n' v x => m_X3_tells_159 f k38 (m_X3_tells_46 f k38 n) n' v (li w) (ni j) (ni r) x) (fun v => m_X3_tells_46 f k38 n v (li w) (ni j) (ni (r + 1))) (fun i v => (∀ a b, a < r → b < 4 → tB v 33 (4 * a + b) = li (wid told (rstJ told P Q w j) w a b)) ∧ (∀ b, b < i + 1 → tB v 33 (4 * r + b) = li (wid told (rstJ told P Q w j) w r b)) ∧ Fr [33] u v)
        (fun n' v _ => by rw [m_X3_tells_159, if_pos le33]; unfold m_X3_tells_197; rw [nmv_eq, ni_succ])
        (fun n' v i hi q => by
          obtain ⟨b1, b2, b3⟩ := q
          have hT'' := hT.fr b3 (by decide)
          refine ⟨sB v 33 (4 * r + (i + 1)) (li (told r i)), ?_, fun a b ha hb => ?_, fun b hb => ?_, b3.tr (Fr.sB (by decide))⟩
          · rw [m_X3_tells_159, if_neg (le3 hi), gd_of (i3x hr hi), i4p, gd_of (ix_ni (by omega) (by decide)), nmv_eq, nmv_eq, ni_clamp (by omega), i3c hr hi, hT'' r i hr hi, ni_succ]
          · rw [tB_sB, if_neg (by omega)]; exact b1 a b ha hb
          · rw [tB_sB]
            by_cases e : b = i + 1
            · subst e
              rw [if_pos ⟨rfl, rfl⟩]
              unfold wid; rw [if_pos hr, if_neg (by omega)]; rfl
            · rw [if_neg (by omega)]; exact b2 b (by omega))
        hf (v := sB v 33 (4 * r + 0) (li (rstJ told P Q w j r))) ⟨fun a b ha hb => by rw [tB_sB, if_neg (by omega)]; exact a1 a b ha hb, fun b hb => by
          have : b = 0 := by omega
          subst this
          rw [tB_sB, if_pos ⟨rfl, rfl⟩]
          unfold wid; rw [if_pos hr, if_pos rfl], F1⟩
      have e4 : m_X3_tells_159 f k38 (m_X3_tells_46 f k38 n) f (sB v 33 (4 * r + 0) (li (rstJ told P Q w j r))) (li w) (ni j) (ni r) 0 = _ := e3
      rw [e4]
      refine ⟨u3, rfl, fun a b ha hb => ?_, p3.2.2⟩
      by_cases e : a = r
      · subst e; exact p3.2.1 b hb
      · exact p3.1 a b (by omega) hb)
    hf (v := u) ⟨fun a b ha => by omega, Fr.rf⟩
  exact ⟨u2, e2, p2⟩
theorem rm4 : ∀ k, k < 9 → ((rmI (ni k) 4 = 0) ↔ idN (k / 3) (k % 3) = 1) ∧ (idN (k / 3) (k % 3) = 1 ∨ idN (k / 3) (k % 3) = 0) := by decide
/-- what tells, whole -/
def telOk (P Q : Mi) (w : Int) : Prop := ∀ j, j < 3 → runOk 100 (tlOf P Q w j, []) ∧ ∀ r i, r < 3 → i < 3 → rg (tel P Q w j r i)
theorem X3_tells {f : Nat} (hf : 2 ^ 63 ≤ f) {u : TS} {P Q : Mi} (hP : tR 27 u P) (hQ : tR 29 u Q) (hz : dtf Q ≠ 0) (hM : (dtf Q).natAbs ≤ 2 ^ 30) (gN : ∀ i k j, i < 3 → k < 3 → j < 3 → rg (P i k * mnr Q j k)) (hok : telOk P Q (dtf Q).natAbs) : ∃ u', m_X3_tells f u = some u' ∧ tR 32 u' (tel P Q (dtf Q).natAbs 3) ∧ Fr [18, 21, 22, 23, 24, 25, 32, 33] u u' := by
  have f4 : 4 ≤ f := by omega
  unfold m_X3_tells
  rw [X3_otherDet f4 hQ (rg_nat.mpr (by omega)), bd2_some]
  have hw : (0 : Int) < ((dtf Q).natAbs : Int) := by omega
  have hW : ((dtf Q).natAbs : Int) ≤ 2 ^ 30 := by omega
  generalize ((dtf Q).natAbs : Int) = w at *
  have gw : rg w := ⟨by omega, by omega⟩
  obtain ⟨u1, p1, e1⟩ := loopn (fun n v x => m_X3_tells_7 f n v (li w) x) (fun v => m_X3_tells_36 f v (li w)) (fun k v => (∀ j, j < k → tB v 32 j = li (idN (j / 3) (j % 3))) ∧ Fr [32] u v) 9
    (fun n v _ => by rw [m_X3_tells_7, if_pos le99])
    (fun n v k hk p => by
      obtain ⟨a1, a2⟩ := p
      refine ⟨sB v 32 k (li (idN (k / 3) (k % 3))), ?_, fun j hj => ?_, a2.tr (Fr.sB (by decide))⟩
      · rw [m_X3_tells_7, if_neg (le9 hk)]
        unfold m_X3_tells_29
        rw [gd_of (ix_ni hk (by decide)), gd_of (ix_ni hk (by decide))]
        simp only [nmv_eq, ni_succ]
        rw [ni_clamp (by omega)]
        obtain ⟨q1, q2⟩ := rm4 k hk
        by_cases h : rmI (ni k) 4 = 0
        · rw [if_neg (fun e => e h), q1.mp h]; rfl
        · rw [if_pos h]
          have : idN (k / 3) (k % 3) = 0 := q2.resolve_left (fun e => h (q1.mpr e))
          rw [this]; rfl
      · rw [tB_sB]
        by_cases e : j = k
        · subst e; rw [if_pos ⟨rfl, rfl⟩]
        · rw [if_neg (by omega)]; exact a1 j (by omega))
    9 f u 0 rfl (by omega) ⟨fun j hj => by omega, Fr.rf⟩
  have e1' : m_X3_tells_7 f f u (li w) 0 = _ := e1
  rw [e1']
  unfold m_X3_tells_36
  have hT0 : tR 32 u1 (tel P Q w 0) := fun i j hi hj => by
    rw [p1.1 (3 * i + j) (by omega), show (3 * i + j) / 3 = i by omega, show (3 * i + j) % 3 = j by omega]; rfl
  obtain ⟨u2, p2, e2⟩ := loop3v (fun n v x => m_X3_tells_38 f n v (li w) x) (fun v => some v) (fun j v => tR 32 v (tel P Q w j) ∧ Fr [18, 21, 22, 23, 24, 25, 32, 33] u v)
    (fun n v _ => by rw [m_X3_tells_38, if_pos le33]; rfl)
    (fun n v j hj p => by
      obtain ⟨a1, a2⟩ := p
      obtain ⟨o1, o2⟩ := hok j hj
      rw [m_X3_tells_38, if_neg (le3 hj)]
      obtain ⟨u3, b1, b2, b3⟩ := X3_tl46 (f := f) f4 (k38 := m_X3_tells_38 f n) (hP.fr a2 (by decide)) (hQ.fr a2 (by decide)) a1 hw hW gN o2 hj
      rw [b1]
      unfold m_X3_tells_203
      simp only [nmv_eq]
      have c12 : Int32.toNatClampNeg 12 = 4 * 3 + 0 := rfl
      have c13 : Int32.toNatClampNeg 13 = 4 * 3 + 1 := rfl
      have c14 : Int32.toNatClampNeg 14 = 4 * 3 + 2 := rfl
      have c15 : Int32.toNatClampNeg 15 = 4 * 3 + 3 := rfl
      rw [c12, c13, c14, c15]
      generalize hv4 : sB (sB (sB (sB u3 33 (4 * 3 + 0) (li w)) 33 (4 * 3 + 1) 0) 33 (4 * 3 + 2) 0) 33 (4 * 3 + 3) 0 = u4
      have F4 : Fr [33] u3 u4 := by
        rw [← hv4]
        exact (((Fr.sB (l := [33]) (by decide)).tr (Fr.sB (by decide))).tr (Fr.sB (by decide))).tr (Fr.sB (by decide))
      have hW4 : tW u4 (wid (tel P Q w j) (rstJ (tel P Q w j) P Q w j) w) := fun a b ha hb => by
        rw [← hv4]
        simp only [tB_sB, true_and]
        by_cases h3 : a < 3
        · rw [if_neg (by omega), if_neg (by omega), if_neg (by omega), if_neg (by omega)]; exact b2 a b h3 hb
        · have : a = 3 := by omega
          subst this
          rcases c4 hb with rfl | rfl | rfl | rfl
          · rw [if_neg (by omega), if_neg (by omega), if_neg (by omega), if_pos rfl]; rfl
          · rw [if_neg (by omega), if_neg (by omega), if_pos rfl]; rfl
          · rw [if_neg (by omega), if_pos rfl]; rfl
          · rw [if_pos rfl]; rfl
      have rr : ∀ r, 0 ≤ rstJ (tel P Q w j) P Q w j r ∧ rstJ (tel P Q w j) P Q w j r < w := fun r => ⟨Int.emod_nonneg _ (by omega), Int.emod_lt_of_pos _ hw⟩
      obtain ⟨u5, d1, d2, d3⟩ := X3_leavesNone hf (n := nB) (by decide) hW4 (by show 0 < w; exact hw) (fun a ha => by
          rcases c4 ha with rfl | rfl | rfl | rfl
          · have := rr 0; show 0 ≤ rstJ (tel P Q w j) P Q w j 0 ∧ rstJ (tel P Q w j) P Q w j 0 < 2 ^ 62; omega
          · have := rr 1; show 0 ≤ rstJ (tel P Q w j) P Q w j 1 ∧ rstJ (tel P Q w j) P Q w j 1 < 2 ^ 62; omega
          · have := rr 2; show 0 ≤ rstJ (tel P Q w j) P Q w j 2 ∧ rstJ (tel P Q w j) P Q w j 2 < 2 ^ 62; omega
          · show 0 ≤ w ∧ w < 2 ^ 62; omega) (by
          have h0 := rr 0
          have h1 := rr 1
          have h2 := rr 2
          show (rstJ (tel P Q w j) P Q w j 0).toNat + (rstJ (tel P Q w j) P Q w j 1).toNat + (rstJ (tel P Q w j) P Q w j 2).toNat + w.toNat ≤ 2 ^ 40
          omega) o1
      rw [d1, bd_some, ni_succ]
      exact ⟨u5, rfl, d2, ((a2.tr (b3.mono (by decide))).tr (F4.mono (by decide))).tr d3⟩)
    f4 (v := u1) ⟨hT0, p1.2.mono (by decide)⟩
  have e3 : m_X3_tells_38 f f u1 (li w) 0 = _ := e2
  rw [e3]
  exact ⟨u2, rfl, p2⟩
