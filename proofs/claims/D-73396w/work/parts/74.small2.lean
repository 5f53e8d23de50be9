/-! Small: rows put in order, a row more, all of one's rows -/
set_option maxRecDepth 100000
def sot (c r : Nat) (F : Mi) : Int := F r c / F c c
def sork (c r k : Nat) (F : Mi) : Mi := fun a b => if a = r ∧ c ≤ b ∧ b < k then F a b - sot c r F * F c b else F a b
def sorr (c : Nat) : Nat → Nat → Mi → Mi
  | 0, _, F => F
  | k + 1, r, F => sorr c k (r + 1) (sork c r 3 F)
def sorOk (c : Nat) : Nat → Nat → Mi → Prop
  | 0, _, _ => True
  | k + 1, r, F => rg (F r c) ∧ rg (F c c) ∧ 0 < F c c ∧ sorOk c k (r + 1) (sork c r 3 F)
theorem sork_one {c r k : Nat} {F : Mi} (hk : c ≤ k) : ∀ a b, fst (sork c r k F) r k (F r k - sot c r F * F c k) a b = sork c r (k + 1) F a b := by
  intro a b
  unfold fst sork
  by_cases e : a = r ∧ b = k
  · obtain ⟨rfl, rfl⟩ := e
    rw [if_pos ⟨rfl, rfl⟩, if_pos (show a = a ∧ c ≤ b ∧ b < b + 1 from ⟨rfl, hk, by omega⟩)]
  · rw [if_neg e]
    by_cases e2 : a = r ∧ c ≤ b ∧ b < k
    · rw [if_pos e2, if_pos (show a = r ∧ c ≤ b ∧ b < k + 1 from ⟨e2.1, e2.2.1, by omega⟩)]
    · rw [if_neg e2, if_neg (show ¬ (a = r ∧ c ≤ b ∧ b < k + 1) from fun h => e2 ⟨h.1, h.2.1, by
        have : b ≠ k := fun h9 => e ⟨h.1, h9⟩
        omega⟩)]
theorem X1_o9 {f : Nat} (hf : 4 ≤ f) {a : Nat} {R : RA} {V : Nat} {m : Int} {v : Nat → Int} {c : Nat} (hc : c < 3) (k2 : CH → Nat → Int32 → Option CH) : ∀ k n r F h, r + k = c → k < n → wfh h → isSm h a R V m F v → sorOk c k r F → ∃ h', m_X1_orders_9 f k2 n h a (ni c) (ni r) = k2 h' a (ni (c + 1)) ∧ isSm h' a R V m (sorr c k r F) v ∧ Mod (sS R V) 0 0 h h' := by
  intro k
  induction k with
  | zero =>
    intro n r F h hr hn w S _
    obtain ⟨n, rfl⟩ : ∃ z, n = z + 1 := ⟨n - 1, by omega⟩
    have : r = c := by omega
    subst this
    rw [m_X1_orders_9, if_pos ((ni_le (by omega) (by omega)).mpr (Nat.le_refl _))]
    unfold m_X1_orders_90
    rw [nmv_eq, ni_succ]
    exact ⟨h, rfl, S, Mod.rf w⟩
  | succ k ih =>
    intro n r F h hr hn w S hok
    obtain ⟨n, rfl⟩ : ∃ z, n = z + 1 := ⟨n - 1, by omega⟩
    obtain ⟨g1, g2, g3, hok⟩ := hok
    have r3 : r < 3 := by omega
    have hR := S.2.1
    rw [m_X1_orders_9, if_neg (fun e => by have := (ni_le (by omega) (by omega)).mp e; omega)]
    simp only [oR_c (k := 0) (x := R.1) S.1 rfl, bd_some, oR_R hR, aR_R hR r3, aL_R hR r3 hc, aR_R hR hc, aL_R hR hc hc]
    rw [show m_J9_floorDiv f (lM F r c) (lM F c c) = some (li (sot c r F)) from floorDiv_li g1 g2 g3, bd_some]
    obtain ⟨h2, p2, e2⟩ := loopc (fun n' h x => m_X1_orders_43 f k2 (m_X1_orders_9 f k2 n) n' h a (ni c) (ni r) (li (sot c r F)) x) (fun h => m_X1_orders_9 f k2 n h a (ni c) (ni (r + 1))) (fun j h1 => wfh h1 ∧ isSm h1 a R V m (sork c r j F) v ∧ Mod (sS R V) 0 0 h h1) c
      (fun n' h _ => by rw [m_X1_orders_43, if_pos le33]; unfold m_X1_orders_84; rw [nmv_eq, ni_succ])
      (fun n' h1 j hcj hj q => by
        obtain ⟨w1, S1, M1⟩ := q
        have f0 : sork c r j F r j = F r j := by unfold sork; rw [if_neg (by omega)]
        have f1 : sork c r j F c j = F c j := by unfold sork; rw [if_neg (by omega)]
        obtain ⟨h3, u1, S3, M3, z3⟩ := S1.setF w1 r3 hj (F r j - sot c r F * F c j)
        refine ⟨h3, ?_, M3.2.2.2.2.2.2.2, S3.congr (fun p q _ _ => sork_one hcj p q) (fun q _ => rfl), (M1.tr M3 (fun q _ hq => hq)).mono (fun _ _ => id) (by omega) (by omega)⟩
        have hR1 := S1.2.1
        rw [m_X1_orders_43, if_neg (le3 hj)]
        simp only [oR_c (k := 0) (x := R.1) S1.1 rfl, bd_some, oR_R hR1, aR_R hR1 r3, aL_R hR1 r3 hj, aR_R hR1 hc, aL_R hR1 hc hj]
        have er : lM (sork c r j F) r j - li (sot c r F) * lM (sork c r j F) c j = li (F r j - sot c r F * F c j) := by
          show li (sork c r j F r j) - li (sot c r F) * li (sork c r j F c j) = _
          rw [f0, f1, li_mul, li_sub]
        rw [er, u1, bd_some, nmv_eq, ni_succ])
      (3 - c) f h c (Nat.le_refl _) (by omega) (by omega) ⟨w, S.congr (fun p q _ _ => by unfold sork; rw [if_neg (by omega)]) (fun q _ => rfl), Mod.rf w⟩
    have e3 : m_X1_orders_43 f k2 (m_X1_orders_9 f k2 n) f h a (ni c) (ni r) (li (sot c r F)) (ni c) = _ := e2
    rw [e3]
    obtain ⟨w2, S2, M2⟩ := p2
    obtain ⟨h5, r1, r2, r4⟩ := ih n (r + 1) _ h2 (by omega) (by omega) w2 S2 hok
    exact ⟨h5, r1, r2, M2.tr r4 (fun q _ hq => hq)⟩
def sord (F : Mi) : Mi := sorr 2 2 0 (sorr 1 1 0 F)
def ordOk (F : Mi) : Prop := sorOk 1 1 0 F ∧ sorOk 2 2 0 (sorr 1 1 0 F)
theorem X1_orders {f : Nat} (hf : 4 ≤ f) {a : Nat} {R : RA} {V : Nat} {m : Int} {v : Nat → Int} {F : Mi} {h : CH} (w : wfh h) (S : isSm h a R V m F v) (hok : ordOk F) : ∃ h', m_X1_orders f h a = some h' ∧ isSm h' a R V m (sord F) v ∧ Mod (sS R V) 0 0 h h' := by
  unfold m_X1_orders
  obtain ⟨n, rfl⟩ : ∃ z, f = z + 4 := ⟨f - 4, by omega⟩
  show ∃ h', m_X1_orders_2 (n + 4) (n + 3 + 1) h a (ni 0) = some h' ∧ _
  rw [m_X1_orders_2, if_neg (le3 (by decide))]
  obtain ⟨h1, q1, s1, m1⟩ := X1_o9 (f := n + 4) hf (c := 0) (by decide) (m_X1_orders_2 (n + 4) (n + 3)) 0 (n + 4) 0 F h rfl (by omega) w S trivial
  have q1' : m_X1_orders_9 (n + 4) (m_X1_orders_2 (n + 4) (n + 3)) (n + 4) h a (ni 0) 0 = _ := q1
  rw [q1']
  show ∃ h', m_X1_orders_2 (n + 4) (n + 2 + 1) h1 a (ni 1) = some h' ∧ _
  rw [m_X1_orders_2, if_neg (le3 (by decide))]
  obtain ⟨h2, q2, s2, m2⟩ := X1_o9 (f := n + 4) hf (c := 1) (by decide) (m_X1_orders_2 (n + 4) (n + 2)) 1 (n + 4) 0 F h1 rfl (by omega) m1.2.2.2.2.2.2.2 s1 hok.1
  have q2' : m_X1_orders_9 (n + 4) (m_X1_orders_2 (n + 4) (n + 2)) (n + 4) h1 a (ni 1) 0 = _ := q2
  rw [q2']
  show ∃ h', m_X1_orders_2 (n + 4) (n + 1 + 1) h2 a (ni 2) = some h' ∧ _
  rw [m_X1_orders_2, if_neg (le3 (by decide))]
  obtain ⟨h3, q3, s3, m3⟩ := X1_o9 (f := n + 4) hf (c := 2) (by decide) (m_X1_orders_2 (n + 4) (n + 1)) 2 (n + 4) 0 _ h2 rfl (by omega) m2.2.2.2.2.2.2.2 s2 hok.2
  have q3' : m_X1_orders_9 (n + 4) (m_X1_orders_2 (n + 4) (n + 1)) (n + 4) h2 a (ni 2) 0 = _ := q3
  rw [q3']
  show ∃ h', m_X1_orders_2 (n + 4) (n + 0 + 1) h3 a (ni 3) = some h' ∧ _
  rw [m_X1_orders_2, if_pos le33]
  exact ⟨h3, rfl, s3, ((m1.tr m2 (fun q _ hq => hq)).tr m3 (fun q _ hq => hq)).mono (fun _ _ => id) (by omega) (by omega)⟩
/-- a row more -/
def tkv (m : Int) (x : Nat → Int) : Nat → Int := fun j => x j % m
def tk1 (m : Int) (k : Nat) (s : Mi × (Nat → Int)) (c : Nat) : Mi × (Nat → Int) := sjn m c k s.1 s.2
def tks (m : Int) (k : Nat) (F : Mi) (x : Nat → Int) : Nat → Mi × (Nat → Int)
  | 0 => (F, tkv m x)
  | c + 1 => tk1 m k (tks m k F x c) c
def tkF (m : Int) (k : Nat) (F : Mi) (x : Nat → Int) : Mi := sord (tks m k F x 3).1
def tkOk (m : Int) (k : Nat) (F : Mi) (x : Nat → Int) : Prop := (∀ j, j < 3 → rg (x j)) ∧ (∀ c, c < 3 → sjOk m c k (tks m k F x c).1 (tks m k F x c).2) ∧ ordOk (tks m k F x 3).1
theorem sjOk_rg {m : Int} {c k : Nat} {F : Mi} {v : Nat → Int} (h : sjOk m c k F v) (hz : v c ≠ 0) : rg (v c) := by
  cases k with
  | zero => exact absurd h hz
  | succ k => rcases h with h | h; exact absurd h hz; exact h.1
theorem sjn_0 {m : Int} {c k : Nat} {F : Mi} {v : Nat → Int} (hz : v c = 0) : sjn m c k F v = (F, v) := by
  cases k with
  | zero => rfl
  | succ k => unfold sjn; rw [if_pos hz]
theorem X1_takes {f : Nat} (hf : 4 ≤ f) {a : Nat} {R : RA} {V : Nat} {m : Int} (gm : rg m) (hm : 0 < m) {k : Nat} (hk : k < f) {F : Mi} {v : Nat → Int} {h : CH} (w : wfh h) (S : isSm h a R V m F v) (x : Nat → Int) (hok : tkOk m k F x) : ∃ h' v', m_X1_takes f h a (li (x 0)) (li (x 1)) (li (x 2)) = some h' ∧ isSm h' a R V m (tkF m k F x) v' ∧ Mod (sS R V) 0 0 h h' := by
  obtain ⟨o1, o2, o3⟩ := hok
  unfold m_X1_takes
  obtain ⟨h1, u1, S1, M1, _⟩ := S.setV w (j := 0) (by decide) (x 0 % m)
  have w1 := M1.2.2.2.2.2.2.2
  obtain ⟨h2, u2, S2, M2, _⟩ := S1.setV w1 (j := 1) (by decide) (x 1 % m)
  have w2 := M2.2.2.2.2.2.2.2
  obtain ⟨h3, u3, S3, M3, _⟩ := S2.setV w2 (j := 2) (by decide) (x 2 % m)
  have w3 := M3.2.2.2.2.2.2.2
  rw [oR_c S.1 rfl, bd_some, oL_c S.1 rfl, bd_some, floorMod_li (o1 0 (by decide)) gm hm, bd_some]
  rw [show uL h 1 V 0 (li (x 0 % m)) = some h1 from u1, bd_some, oR_c S1.1 rfl, bd_some, oL_c S1.1 rfl, bd_some, floorMod_li (o1 1 (by decide)) gm hm, bd_some]
  rw [show uL h1 1 V 1 (li (x 1 % m)) = some h2 from u2, bd_some, oR_c S2.1 rfl, bd_some, oL_c S2.1 rfl, bd_some, floorMod_li (o1 2 (by decide)) gm hm, bd_some]
  rw [show uL h2 1 V 2 (li (x 2 % m)) = some h3 from u3, bd_some]
  have S4 : isSm h3 a R V m (tks m k F x 0).1 (tks m k F x 0).2 := S3.congr (fun _ _ _ _ => rfl) (fun j hj => by
    show vst (vst (vst v 0 (x 0 % m)) 1 (x 1 % m)) 2 (x 2 % m) j = x j % m
    unfold vst
    rcases (show j = 0 ∨ j = 1 ∨ j = 2 by omega) with rfl | rfl | rfl <;> simp)
  have M4 := (M1.tr M2 (fun q _ hq => hq)).tr M3 (fun q _ hq => hq)
  obtain ⟨h5, p5, e5⟩ := loop3 (fun n h x => m_X1_takes_46 f n h a x) (fun h => m_X1_takes_76 f h a) (fun c h1 => wfh h1 ∧ isSm h1 a R V m (tks m k F x c).1 (tks m k F x c).2 ∧ Mod (sS R V) 0 0 h h1)
    (fun n h _ => by rw [m_X1_takes_46, if_pos le33])
    (fun n h1 c hc q => by
      obtain ⟨w1, S1, M1⟩ := q
      rw [m_X1_takes_46, if_neg (le3 hc), oR_c S1.1 rfl, bd_some, aL_V S1.2.2.1 hc, bd_some]
      unfold m_X1_takes_70
      simp only [nmv_eq, ni_succ]
      by_cases hz : (tks m k F x c).2 c = 0
      · rw [if_pos (show li ((tks m k F x c).2 c) = 0 by rw [hz]; rfl)]
        refine ⟨h1, rfl, w1, ?_, M1⟩
        unfold tks tk1
        rw [sjn_0 hz]; exact S1
      · rw [if_neg (show ¬ li ((tks m k F x c).2 c) = 0 from fun e => hz ((li_inj (sjOk_rg (o2 c hc) hz) rg_0).mp e)), gd_of (isC_c S1.1)]
        unfold m_X1_joins
        rw [oR_c (k := 0) (x := R.1) S1.1 rfl, bd_some, oR_R S1.2.1, bd_some, aR_R S1.2.1 hc, bd_some]
        obtain ⟨h6, j1, j2, j3⟩ := X1_joins (f := f) hf gm hm hc k f _ _ h1 hk w1 S1 (o2 c hc)
        rw [j1, bd_some]
        exact ⟨h6, rfl, j3.2.2.2.2.2.2.2, j2, (M1.tr j3 (fun q _ hq => hq)).mono (fun _ _ => id) (by omega) (by omega)⟩)
    hf ⟨w3, S4, M4⟩
  have e6 : m_X1_takes_46 f f h3 a 0 = _ := e5
  rw [e6]
  obtain ⟨w5, S5, M5⟩ := p5
  unfold m_X1_takes_76
  obtain ⟨h7, t1, t2, t3⟩ := X1_orders (f := f) hf w5 S5 o3
  rw [gd_of (isC_c S5.1), t1, bd_some]
  exact ⟨h7, _, rfl, t2, (M5.tr t3 (fun q _ hq => hq)).mono (fun _ _ => id) (by omega) (by omega)⟩
