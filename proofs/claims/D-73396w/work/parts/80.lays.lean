/-! the twin: rows of a lattice are laid -/
set_option maxRecDepth 100000
/-- a turn by four numbers -/
def byM (q : Nat → Int) : Mi := fun i j => if i = 0 ∧ j = 0 then q 0 * q 0 + q 1 * q 1 - q 2 * q 2 - q 3 * q 3 else if i = 0 ∧ j = 1 then 2 * (q 1 * q 2 - q 0 * q 3) else if i = 0 ∧ j = 2 then 2 * (q 1 * q 3 + q 0 * q 2) else if i = 1 ∧ j = 0 then 2 * (q 1 * q 2 + q 0 * q 3) else if i = 1 ∧ j = 1 then q 0 * q 0 - q 1 * q 1 + q 2 * q 2 - q 3 * q 3 else if i = 1 ∧ j = 2 then 2 * (q 2 * q 3 - q 0 * q 1) else if i = 2 ∧ j = 0 then 2 * (q 1 * q 3 - q 0 * q 2) else if i = 2 ∧ j = 1 then 2 * (q 2 * q 3 + q 0 * q 1) else q 0 * q 0 - q 1 * q 1 - q 2 * q 2 + q 3 * q 3
def ovQ (q : Nat → Int) : Int := q 0 * q 0 + q 1 * q 1 + q 2 * q 2 + q 3 * q 3
theorem X3_laysTurn {f : Nat} {u : TS} (q : Nat → Int) : ∃ u', m_X3_laysTurn f u (li (q 0)) (li (q 1)) (li (q 2)) (li (q 3)) = some u' ∧ tR 20 u' (byM q) ∧ tL u' 19 = li (ovQ q) ∧ Fr [19, 20] u u' := by
  unfold m_X3_laysTurn
  simp only [nmv_eq]
  have e2 : (2 : Int64) = li 2 := rfl
  simp only [e2, li_mul, li_add, li_sub]
  refine ⟨_, rfl, fun i j hi hj => ?_, rfl, ?_⟩
  · simp only [tB_sB, tB_sL]
    rcases (show i = 0 ∨ i = 1 ∨ i = 2 by omega) with rfl | rfl | rfl <;> rcases (show j = 0 ∨ j = 1 ∨ j = 2 by omega) with rfl | rfl | rfl <;> rfl
  · have a0 : Fr [19, 20] u (sL u 19 (li (ovQ q))) := Fr.sL (by decide)
    exact ((((((((a0.tr (Fr.sB (by decide))).tr (Fr.sB (by decide))).tr (Fr.sB (by decide))).tr (Fr.sB (by decide))).tr (Fr.sB (by decide))).tr (Fr.sB (by decide))).tr (Fr.sB (by decide))).tr (Fr.sB (by decide))).tr (Fr.sB (by decide))
/-- rows turned, with the turn's rows B -/
def tnP (A B : Mi) : Mi := fun i j => B j 0 * A i 0 + B j 1 * A i 1 + B j 2 * A i 2
theorem tnP_pmul (A B : Mi) (i j : Nat) : tnP A B i j = pmul A (fun a b => B b a) i j := by
  unfold tnP pmul
  rw [Int.mul_comm (B j 0), Int.mul_comm (B j 1), Int.mul_comm (B j 2)]
theorem i3z (r : Nat) : (3 : Int32) * ni r = ni (3 * r) := by rw [z3, ← Int32.ofNat_mul]
theorem i3x0 {r : Nat} (hr : r < 3) : ix ((3 : Int32) * ni r) 9 = true := by rw [i3z]; exact ix_ni (by omega) (by decide)
theorem i3c0 {r : Nat} (hr : r < 3) : Int32.toNatClampNeg ((3 : Int32) * ni r) = 3 * r + 0 := by rw [i3z, ni_clamp (by omega)]; rfl
theorem X3_turns {f : Nat} (hf : 2 ^ 63 ≤ f) {u : TS} {A B : Mi} {o : Int} (hR : tR 18 u A) (hB : tR 20 u B) (ho : tL u 19 = li o) (hp : 0 < o) (go : rg o) (gN : ∀ i j, i < 3 → j < 3 → rg (tnP A B i j)) (hz : lsd (tnP A B) o ≠ 0) : ∃ u', m_X3_turns f u = some u' ∧ tR 18 u' (fun i j => (tnP A B i j).tdiv (lsd (tnP A B) o)) ∧ tL u' 19 = li (o.tdiv (lsd (tnP A B) o)) ∧ Fr [18, 19] u u' := by
  have f4 : 4 ≤ f := Nat.le_trans (by decide) hf
  unfold m_X3_turns
  obtain ⟨u2, p2, e2⟩ := loop3v (fun n u x => m_X3_turns_2 f n u x) (fun u => m_X3_turns_113 f u) (fun i v => tR 18 v (fun a b => if a < i then tnP A B a b else A a b) ∧ Fr [18] u v)
    (fun n v _ => by rw [m_X3_turns_2, if_pos le33])
    (fun n v i hi p => by
      obtain ⟨a1, a2⟩ := p
      have r0 : tB v 18 (3 * i + 0) = li (A i 0) := by
        rw [a1 i 0 hi (by decide)]
        show li (if i < i then _ else _) = _
        rw [if_neg (by omega)]
      have r1 : tB v 18 (3 * i + 1) = li (A i 1) := by
        rw [a1 i 1 hi (by decide)]
        show li (if i < i then _ else _) = _
        rw [if_neg (by omega)]
      have r2 : tB v 18 (3 * i + 2) = li (A i 2) := by
        rw [a1 i 2 hi (by decide)]
        show li (if i < i then _ else _) = _
        rw [if_neg (by omega)]
      rw [m_X3_turns_2, if_neg (le3 hi), z1, z2, gd_of (i3x0 hi), nmv_eq, gd_of (i3x hi (by decide)), nmv_eq, gd_of (i3x hi (by decide)), nmv_eq, i3c0 hi, i3c hi (by decide), i3c hi (by decide), r0, r1, r2]
      obtain ⟨u3, p3, e3⟩ := loop3v (fun n' u x => m_X3_turns_43 f (m_X3_turns_2 f n) n' u (ni i) (li (A i 0)) (li (A i 1)) (li (A i 2)) x) (fun u => m_X3_turns_2 f n u (ni (i + 1))) (fun j v => tR 18 v (fun a b => if a < i ∨ (a = i ∧ b < j) then tnP A B a b else A a b) ∧ Fr [18] u v)
        (fun n' v _ => by rw [m_X3_turns_43, if_pos le33]; unfold m_X3_turns_107; rw [nmv_eq, ni_succ])
        (fun n' v j hj q => by
          obtain ⟨b1, b2⟩ := q
          have hB' := hB.fr b2 (by decide)
          have w1 := b1.set hi hj (tnP A B i j)
          refine ⟨_, ?_, w1.congr (fun a b _ _ => ?_), b2.tr (Fr.sB (by decide))⟩
          · rw [m_X3_turns_43, if_neg (le3 hj), z1, z2, gd_of (i3x0 hj), gd_of (i3x hj (by decide)), gd_of (i3x hj (by decide)), gd_of (i3x hi hj), nmv_eq, nmv_eq, i3c0 hj, i3c hj (by decide), i3c hj (by decide), i3c hi hj, hB' j 0 hj (by decide), hB' j 1 hj (by decide), hB' j 2 hj (by decide), li_mul, li_mul, li_mul, li_add, li_add]
            show m_X3_turns_43 f _ n' _ _ _ _ _ (ni j + 1) = _
            rw [ni_succ]
            rfl
          · show (if a = i ∧ b = j then tnP A B i j else if a < i ∨ (a = i ∧ b < j) then tnP A B a b else A a b) = if a < i ∨ (a = i ∧ b < j + 1) then tnP A B a b else A a b
            by_cases e : a = i ∧ b = j
            · obtain ⟨rfl, rfl⟩ := e
              rw [if_pos ⟨rfl, rfl⟩, if_pos (.inr ⟨rfl, by omega⟩)]
            · rw [if_neg e]
              have e' : (a < i ∨ a = i ∧ b < j) ↔ (a < i ∨ a = i ∧ b < j + 1) := by omega
              simp only [e'])
        f4 (v := v) ⟨a1.congr (fun a b _ _ => by
          have e' : (a < i) ↔ (a < i ∨ a = i ∧ b < 0) := by omega
          simp only [← e']), a2⟩
      have e4 : m_X3_turns_43 f (m_X3_turns_2 f n) f v (ni i) (li (A i 0)) (li (A i 1)) (li (A i 2)) 0 = _ := e3
      rw [e4]
      exact ⟨u3, rfl, p3.1.congr (fun a b _ hb => by
        have e' : (a < i ∨ a = i ∧ b < 3) ↔ (a < i + 1) := by omega
        simp only [e']), p3.2⟩)
    f4 (v := u) ⟨hR.congr (fun a b _ _ => by rw [if_neg (by omega)]), Fr.rf⟩
  have e5 : m_X3_turns_2 f f u 0 = _ := e2
  rw [e5]
  unfold m_X3_turns_113
  obtain ⟨c1, c2⟩ := p2
  have c3 : tR 18 u2 (tnP A B) := c1.congr (fun a b ha _ => by rw [if_pos ha])
  have c4 : tL u2 19 = li o := by rw [(c2 19 (by decide)).2.1]; exact ho
  obtain ⟨u6, g1, g2, g3, g4⟩ := X3_lessens hf c3 c4 hp go gN hz
  rw [g1, bd_some]
  exact ⟨u6, rfl, g2, g3, (c2.mono (by decide)).tr g4⟩
