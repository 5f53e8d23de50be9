/-! the twin: two lattices laid; points of both -/
set_option maxRecDepth 100000
/-- a lattice that the twin lays: rows M over n -/
def TL (u : TS) (l : Nat) (M : Mi) (n : Int) : Prop := ∀ f, 2 ^ 63 ≤ f → ∀ v, (∀ x, tA v 0 x = tA u 0 x) → ∃ v', m_X3_lays f v (ni l) = some v' ∧ tR 18 v' M ∧ tL v' 19 = li n ∧ Fr [18, 19, 20] v v'
theorem TL.fr {u v : TS} {l : Nat} {M : Mi} {n : Int} {k : List Nat} (h : TL u l M n) (a : Fr k u v) (hk : 0 ∉ k) : TL v l M n := fun f hf w hw => h f hf w (fun x => by rw [hw x, (a 0 hk).2.2.1])
theorem X3_laysBoth {f : Nat} (hf : 2 ^ 63 ≤ f) {u : TS} {l m : Nat} {M1 M2 : Mi} {n1 n2 : Int} (h1 : TL u l M1 n1) (h2 : TL u m M2 n2) (g1 : rg n1) (g2 : rg n2) (z1' : n1 ≠ 0) (z2' : n2 ≠ 0) (gb : rg (btw n1 n2)) : ∃ u', m_X3_laysBoth f u (ni l) (ni m) = some u' ∧ tR 27 u' (fun i j => M1 i j * (btw n1 n2).tdiv n1) ∧ tR 29 u' (fun i j => M2 i j * (btw n1 n2).tdiv n2) ∧ tL u' 31 = li (btw n1 n2) ∧ tR 18 u' M2 ∧ tL u' 19 = li n2 ∧ Fr [18, 19, 20, 27, 28, 29, 30, 31] u u' := by
  have f12 : 12 < f := by omega
  obtain ⟨v1, a1, a2, a3, a4⟩ := h1 f hf u (fun _ => rfl)
  obtain ⟨v2, b1, b2, b3, b4, b5, b6⟩ := X3_laysFirst f12 a1 a2 a3 a4
  obtain ⟨v3, c1, c2, c3', c4'⟩ := h2 f hf v2 (fun x => by rw [(b6 0 (by decide)).2.2.1])
  have b2' := b2.fr c4' (by decide)
  have b3' : tL v3 28 = li n1 := by rw [(c4' 28 (by decide)).2.1]; exact b3
  obtain ⟨v4, d1, d2, d3, d4, d5, d6, d7⟩ := X3_laysOther hf b2' b3' c2 c3' g1 g2 z1' z2' gb
  unfold m_X3_laysBoth
  rw [b1, bd_some, c1, bd_some, d1, bd_some]
  exact ⟨v4, rfl, d2, d3, d4, d5, d6, ((b6.mono (by decide)).tr (c4'.mono (by decide))).tr (d7.mono (by decide))⟩
/-- rows that tell by the first one's -/
theorem X3_mt12 {f : Nat} (hf : 4 ≤ f) {u : TS} {T P : Mi} (hT : tR 32 u T) (hP : tR 27 u P) : ∃ u', m_X3_meets_12 f f u 0 = m_X3_meets_98 f u' ∧ tR 18 u' (pmul T P) ∧ Fr [18] u u' := by
  obtain ⟨u2, p2, e2⟩ := loop3v (fun n v x => m_X3_meets_12 f n v x) (fun v => m_X3_meets_98 f v) (fun r v => (∀ a b, a < r → b < 3 → tB v 18 (3 * a + b) = li (pmul T P a b)) ∧ Fr [18] u v)
    (fun n v _ => by rw [m_X3_meets_12, if_pos le33])
    (fun n v r hr p => by
      obtain ⟨a1, a2⟩ := p
      rw [m_X3_meets_12, if_neg (le3 hr)]
      obtain ⟨u3, p3, e3⟩ := loop3v (fun n' v x => m_X3_meets_20 f (m_X3_meets_12 f n) n' v (ni r) x) (fun v => m_X3_meets_12 f n v (ni (r + 1))) (fun j v => (∀ a b, a < r → b < 3 → tB v 18 (3 * a + b) = li (pmul T P a b)) ∧ (∀ b, b < j → tB v 18 (3 * r + b) = li (pmul T P r b)) ∧ Fr [18] u v)
        (fun n' v _ => by rw [m_X3_meets_20, if_pos le33]; unfold m_X3_meets_92; rw [nmv_eq, ni_succ])
        (fun n' v j hj q => by
          obtain ⟨b1, b2, b3⟩ := q
          have hT' := hT.fr b3 (by decide)
          have hP' := hP.fr b3 (by decide)
          rw [m_X3_meets_20, if_neg (le3 hj)]
          obtain ⟨w2, p4, e4⟩ := loop3v (fun n'' (w : Int64) x => m_X3_meets_32 f (m_X3_meets_12 f n) (m_X3_meets_20 f (m_X3_meets_12 f n) n') n'' v (ni r) (ni j) w x) (fun w => m_X3_meets_73 f (m_X3_meets_12 f n) (m_X3_meets_20 f (m_X3_meets_12 f n) n') v (ni r) (ni j) w) (fun k w => w = li (psum T P r j k))
            (fun n'' w _ => by rw [m_X3_meets_32, if_pos le33])
            (fun n'' w k hk p => by
              refine ⟨_, ?_, rfl⟩
              rw [m_X3_meets_32, if_neg (le3 hk), gd_of (i3x hr hk), gd_of (i3x hk hj), nmv_eq, nmv_eq, i3c hr hk, i3c hk hj, hT' r k hr hk, hP' k j hk hj, p, li_mul, li_add, ni_succ]
              rcases c3 hk with rfl | rfl | rfl <;> rfl)
            hf (v := 0) rfl
          have e5 : m_X3_meets_32 f (m_X3_meets_12 f n) (m_X3_meets_20 f (m_X3_meets_12 f n) n') f v (ni r) (ni j) 0 0 = _ := e4
          rw [e5, p4, psum_3]
          unfold m_X3_meets_73
          rw [gd_of (i3x hr hj), nmv_eq, nmv_eq, i3c hr hj, ni_succ]
          refine ⟨_, rfl, fun a b ha hb => ?_, fun b hb => ?_, b3.tr (Fr.sB (by decide))⟩
          · rw [tB_sB, if_neg (by omega)]; exact b1 a b ha hb
          · rw [tB_sB]
            by_cases e : b = j
            · subst e; rw [if_pos ⟨rfl, rfl⟩]
            · rw [if_neg (by omega)]; exact b2 b (by omega))
        hf (v := v) ⟨a1, fun b hb => by omega, a2⟩
      have e4 : m_X3_meets_20 f (m_X3_meets_12 f n) f v (ni r) 0 = _ := e3
      rw [e4]
      refine ⟨u3, rfl, fun a b ha hb => ?_, p3.2.2⟩
      by_cases e : a = r
      · subst e; exact p3.2.1 b hb
      · exact p3.1 a b (by omega) hb)
    hf (v := u) ⟨fun a b ha => by omega, Fr.rf⟩
  exact ⟨u2, e2, fun i j hi hj => p2.1 i j hi hj, p2.2⟩
/-- what is asked of two lattices, so that the twin finds what both have -/
def mtOk (P Q : Mi) : Prop := dtf Q ≠ 0 ∧ (dtf Q).natAbs ≤ 2 ^ 30 ∧ (∀ i k j, i < 3 → k < 3 → j < 3 → rg (P i k * mnr Q j k)) ∧ telOk P Q (dtf Q).natAbs
abbrev mtF : List Nat := [18, 19, 20, 21, 22, 23, 24, 25, 27, 28, 29, 30, 31, 32, 33]
theorem X3_meets {f : Nat} (hf : 2 ^ 63 ≤ f) {u : TS} {l m : Nat} {M1 M2 P Q : Mi} {n1 n2 : Int} (h1 : TL u l M1 n1) (h2 : TL u m M2 n2) (g1 : rg n1) (g2 : rg n2) (z1' : n1 ≠ 0) (z2' : n2 ≠ 0) (gb : rg (btw n1 n2)) (hb : 0 < btw n1 n2) (eP : P = fun i j => M1 i j * (btw n1 n2).tdiv n1) (eQ : Q = fun i j => M2 i j * (btw n1 n2).tdiv n2) (hok : mtOk P Q) (hr : runOk 100 (pmul (tel P Q (dtf Q).natAbs 3) P, [])) (gH : ∀ i j, i < 3 → j < 3 → rg ((hrun 100 (pmul (tel P Q (dtf Q).natAbs 3) P, [])).1 i j)) (hz : lsd (hrun 100 (pmul (tel P Q (dtf Q).natAbs 3) P, [])).1 (btw n1 n2) ≠ 0) : ∃ u', m_X3_meets f u (ni l) (ni m) = some u' ∧ tR 18 u' (fun i j => ((hrun 100 (pmul (tel P Q (dtf Q).natAbs 3) P, [])).1 i j).tdiv (lsd (hrun 100 (pmul (tel P Q (dtf Q).natAbs 3) P, [])).1 (btw n1 n2))) ∧ tL u' 19 = li ((btw n1 n2).tdiv (lsd (hrun 100 (pmul (tel P Q (dtf Q).natAbs 3) P, [])).1 (btw n1 n2))) ∧ Fr mtF u u' := by
  have f4 : 4 ≤ f := by omega
  obtain ⟨k1, k2, k3, k4⟩ := hok
  unfold m_X3_meets
  obtain ⟨u1, a1, a2, a3, a4, a5, a6, a7⟩ := X3_laysBoth hf h1 h2 g1 g2 z1' z2' gb
  rw [← eP] at a2
  rw [← eQ] at a3
  rw [a1, bd_some]
  obtain ⟨u2, b1, b2, b3⟩ := X3_tells hf a2 a3 k1 k2 k3 k4
  rw [b1, bd_some]
  obtain ⟨u3, c1, c2, c3'⟩ := X3_mt12 f4 b2 (a2.fr b3 (by decide))
  rw [c1]
  unfold m_X3_meets_98
  rw [nmv_eq]
  have e31 : tL u3 31 = li (btw n1 n2) := by rw [(c3' 31 (by decide)).2.1, (b3 31 (by decide)).2.1]; exact a4
  have c2' : tR 18 (sL u3 19 (tL u3 31)) (pmul (tel P Q (dtf Q).natAbs 3) P) := c2.fr (l := [19]) (Fr.sL (by decide)) (by decide)
  obtain ⟨u4, d1, d2⟩ := X3_forms f4 (show 100 < f by omega) c2' hr
  rw [d1, bd_some]
  have e19 : tL u4 19 = li (btw n1 n2) := by rw [(d2.2.2 19 (by decide)).2.1, tL_sL, if_pos rfl]; exact e31
  obtain ⟨u5, q1, q2, q3, q4⟩ := X3_lessens hf d2.1 e19 hb gb gH hz
  rw [q1, bd_some]
  refine ⟨u5, rfl, q2, q3, ?_⟩
  have F1 : Fr mtF u3 (sL u3 19 (tL u3 31)) := Fr.sL (by decide)
  exact ((((a7.mono (by decide)).tr (b3.mono (by decide))).tr (c3'.mono (by decide))).tr F1).tr ((d2.2.2.mono (by decide)).tr (q4.mono (by decide)))
