/-! Small: forms kept small -/
set_option maxRecDepth 100000
/-- rounds from c to 3 -/
theorem loopc {γ V : Type} (G : Nat → V → Int32 → Option γ) (K : V → Option γ) (P : Nat → V → Prop) (c : Nat) (hend : ∀ n v, P 3 v → G (n + 1) v (ni 3) = K v) (hstep : ∀ n v j, c ≤ j → j < 3 → P j v → ∃ v', G (n + 1) v (ni j) = G n v' (ni (j + 1)) ∧ P (j + 1) v') : ∀ k n v j, c ≤ j → j + k = 3 → k < n → P j v → ∃ v', P 3 v' ∧ G n v (ni j) = K v' := by
  intro k
  induction k with
  | zero =>
    intro n v j _ hj hn h0
    obtain ⟨n, rfl⟩ : ∃ z, n = z + 1 := ⟨n - 1, by omega⟩
    have : j = 3 := by omega
    subst this
    exact ⟨v, h0, hend n v h0⟩
  | succ k ih =>
    intro n v j hcj hj hn h0
    obtain ⟨n, rfl⟩ : ∃ z, n = z + 1 := ⟨n - 1, by omega⟩
    obtain ⟨v', e1, p1⟩ := hstep n v j hcj (by omega) h0
    rw [e1]
    exact ih n v' (j + 1) (by omega) (by omega) (by omega) p1
def vcl (v : Nat → Int) : AC := .inr (1, 3, .inr (.inl (fun j => if j < 3 then li (v j) else 0)))
def isSm (h : CH) (a : Nat) (R : RA) (V : Nat) (m : Int) (F : Mi) (v : Nat → Int) : Prop := cm h a = some (.inl (2, [.ref R.1, .ref V, .long (li m)])) ∧ isN h R F ∧ cm h V = some (vcl v) ∧ ∀ i, i < 3 → R.2.2 i ≠ V
def sS (R : RA) (V : Nat) : Nat → Prop := fun q => rS R q ∨ q = V
theorem aL_V {h : CH} {V : Nat} {v : Nat → Int} (hV : cm h V = some (vcl v)) {j : Nat} (hj : j < 3) : aL h 1 V (ni j) = some (li (v j)) := by
  unfold aL; rw [hV]
  simp only [vcl, ix_ni hj (by decide), and_self, if_true]
  rw [ni_clamp (by omega), if_pos hj]
def vst (v : Nat → Int) (j : Nat) (x : Int) : Nat → Int := fun k => if k = j then x else v k
def fst (F : Mi) (i j : Nat) (x : Int) : Mi := fun a b => if a = i ∧ b = j then x else F a b
theorem uL_V {h : CH} (w : wfh h) {V : Nat} {v : Nat → Int} (hV : cm h V = some (vcl v)) {j : Nat} (hj : j < 3) (x : Int) : uL h 1 V (ni j) (li x) = some (cs h V (vcl (vst v j x))) := by
  unfold uL; rw [hV]
  have hb := (w.1 _ _ hV).1
  simp only [vcl, ix_ni hj (by decide), hb, and_self, if_true]
  rw [ni_clamp (by omega)]
  have e : vp_updL (fun j => if j < 3 then li (v j) else 0) j (li x) = fun k => if k < 3 then li (vst v j x k) else 0 := by
    funext k
    unfold vp_updL vst
    by_cases hk : k = j
    · subst hk; simp [hj]
    · simp [hk]
  rw [e]
theorem isSm.setV {h : CH} (w : wfh h) {a : Nat} {R : RA} {V : Nat} {m : Int} {F : Mi} {v : Nat → Int} (S : isSm h a R V m F v) {j : Nat} (hj : j < 3) (x : Int) : ∃ h', uL h 1 V (ni j) (li x) = some h' ∧ isSm h' a R V m F (vst v j x) ∧ Mod (sS R V) 0 0 h h' ∧ h'.1 = h.1 := by
  obtain ⟨s1, s2, s3, s4⟩ := S
  have m1 : Mod (fun q => q = V) 0 0 h (cs h V (vcl (vst v j x))) := Mod.cs w s3 rfl
  have na : ¬ a = V := fun e => by rw [e, s3] at s1; cases s1
  refine ⟨_, uL_V w s3 hj x, ⟨m1.at w s1 na, s2.mod m1 w (fun e => ?_) (fun e => ?_) (fun i hi e => s4 i hi e), cm_cs_s _ _ _, s4⟩, m1.mono (fun q _ hq => .inr hq) (by omega) (by omega), rfl⟩
  · have h9 := s2.1; rw [e, s3] at h9; cases h9
  · have h9 := s2.2.1; rw [e, s3] at h9; cases h9
theorem isSm.setF {h : CH} (w : wfh h) {a : Nat} {R : RA} {V : Nat} {m : Int} {F : Mi} {v : Nat → Int} (S : isSm h a R V m F v) {i j : Nat} (hi : i < 3) (hj : j < 3) (x : Int) : ∃ h', uL h 1 (R.2.2 i) (ni j) (li x) = some h' ∧ isSm h' a R V m (fst F i j x) v ∧ Mod (sS R V) 0 0 h h' ∧ h'.1 = h.1 := by
  obtain ⟨s1, s2, s3, s4⟩ := S
  have m1 := stR_mod s2 w hi (j := j) (li x)
  have na : ¬ rS R a := by
    rintro ⟨k, hk, e⟩
    rw [e, s2.2.2.1 k hk] at s1; cases s1
  refine ⟨_, uL_R s2 w hi hj (li x), ⟨m1.at w s1 na, (stR_is s2 w hi (li x)).congr (fun p q _ _ => ?_), m1.at w s3 (fun e => by obtain ⟨k, hk, e⟩ := e; exact s4 k hk e.symm), s4⟩, m1.mono (fun q _ hq => .inl hq) (by omega) (by omega), rfl⟩
  show mset (lM F) i j (li x) p q = li (fst F i j x p q)
  unfold mset fst
  split <;> rfl
/-- the two made less by turns -/
def sjt (c : Nat) (F : Mi) (v : Nat → Int) : Int := (F c c).tdiv (v c)
def sjF (c k : Nat) (F : Mi) (v : Nat → Int) : Mi := fun a b => if a = c ∧ c ≤ b ∧ b < k then v b else F a b
def sjv (m : Int) (c k : Nat) (F : Mi) (v : Nat → Int) : Nat → Int := fun b => if c ≤ b ∧ b < k then (if b = c then F c b - sjt c F v * v b else (F c b - sjt c F v * v b) % m) else v b
def sjn (m : Int) (c : Nat) : Nat → Mi → (Nat → Int) → Mi × (Nat → Int)
  | 0, F, v => (F, v)
  | n + 1, F, v => if v c = 0 then (F, v) else sjn m c n (sjF c 3 F v) (sjv m c 3 F v)
def sjOk (m : Int) (c : Nat) : Nat → Mi → (Nat → Int) → Prop
  | 0, _, v => v c = 0
  | n + 1, F, v => v c = 0 ∨ (rg (v c) ∧ rg (F c c) ∧ (∀ j, c < j → j < 3 → rg (F c j - sjt c F v * v j)) ∧ sjOk m c n (sjF c 3 F v) (sjv m c 3 F v))
theorem sj_one {m : Int} {c k : Nat} {F : Mi} {v : Nat → Int} (hk : c ≤ k) : (∀ a b, fst (sjF c k F v) c k (v k) a b = sjF c (k + 1) F v a b) ∧ ∀ b, vst (sjv m c k F v) k (if k = c then F c k - sjt c F v * v k else (F c k - sjt c F v * v k) % m) b = sjv m c (k + 1) F v b := by
  constructor
  · intro a b
    unfold fst sjF
    by_cases e : a = c ∧ b = k
    · obtain ⟨rfl, rfl⟩ := e
      rw [if_pos ⟨rfl, rfl⟩, if_pos ⟨rfl, hk, by omega⟩]
    · rw [if_neg e]
      by_cases e2 : a = c ∧ c ≤ b ∧ b < k
      · rw [if_pos e2, if_pos ⟨e2.1, e2.2.1, by omega⟩]
      · rw [if_neg e2, if_neg (fun h => e2 ⟨h.1, h.2.1, by
          have : b ≠ k := fun h9 => e ⟨h.1, h9⟩
          omega⟩)]
  · intro b
    unfold vst sjv
    by_cases e : b = k
    · subst e
      rw [if_pos (rfl : b = b), if_pos (show c ≤ b ∧ b < b + 1 from ⟨hk, by omega⟩)]
    · rw [if_neg e]
      by_cases e2 : c ≤ b ∧ b < k
      · rw [if_pos e2, if_pos (show c ≤ b ∧ b < k + 1 from ⟨e2.1, by omega⟩)]
      · rw [if_neg e2, if_neg (show ¬ (c ≤ b ∧ b < k + 1) from fun h => e2 ⟨h.1, by omega⟩)]
theorem isSm.congr {h : CH} {a : Nat} {R : RA} {V : Nat} {m : Int} {F F' : Mi} {v v' : Nat → Int} (S : isSm h a R V m F v) (e1 : ∀ i j, i < 3 → j < 3 → F i j = F' i j) (e2 : ∀ j, j < 3 → v j = v' j) : isSm h a R V m F' v' := by
  obtain ⟨s1, s2, s3, s4⟩ := S
  refine ⟨s1, s2.congr (fun i j hi hj => by show li (F i j) = li (F' i j); rw [e1 i j hi hj]), ?_, s4⟩
  rw [s3]
  have e : (fun j => if j < 3 then li (v j) else 0) = fun j => if j < 3 then li (v' j) else 0 := by
    funext j
    by_cases hj : j < 3
    · rw [if_pos hj, if_pos hj, e2 j hj]
    · rw [if_neg hj, if_neg hj]
  unfold vcl
  rw [e]
theorem X1_joins {f : Nat} (hf : 4 ≤ f) {a : Nat} {R : RA} {V : Nat} {m : Int} (gm : rg m) (hm : 0 < m) {c : Nat} (hc : c < 3) : ∀ k n F v h, k < n → wfh h → isSm h a R V m F v → sjOk m c k F v → ∃ h', m_X1_joins_10 f n h a (ni c) (R.2.2 c) = some h' ∧ isSm h' a R V m (sjn m c k F v).1 (sjn m c k F v).2 ∧ Mod (sS R V) 0 0 h h' := by
  intro k
  have stop : ∀ n F v h, isSm h a R V m F v → v c = 0 → m_X1_joins_10 f (n + 1) h a (ni c) (R.2.2 c) = some h := by
    intro n F v h S hz
    rw [m_X1_joins_10, oR_c S.1 rfl, bd_some, aL_V S.2.2.1 hc, bd_some, hz]
    exact if_pos rfl
  induction k with
  | zero =>
    intro n F v h hn w S hok
    obtain ⟨n, rfl⟩ : ∃ z, n = z + 1 := ⟨n - 1, by omega⟩
    exact ⟨h, stop n F v h S hok, S, Mod.rf w⟩
  | succ k ih =>
    intro n F v h hn w S hok
    obtain ⟨n, rfl⟩ : ∃ z, n = z + 1 := ⟨n - 1, by omega⟩
    unfold sjn
    by_cases hz : v c = 0
    · rw [if_pos hz]; exact ⟨h, stop n F v h S hz, S, Mod.rf w⟩
    · rw [if_neg hz]
      rcases hok with hok | ⟨g1, g2, g3, hok⟩
      · exact absurd hok hz
      rw [m_X1_joins_10, oR_c S.1 rfl, bd_some, aL_V S.2.2.1 hc, bd_some, if_neg (show ¬ li (v c) = 0 from fun e => hz ((li_inj g1 rg_0).mp e)), aL_R S.2.1 hc hc, bd_some, bd_some, aL_V S.2.2.1 hc, bd_some, gd_of (nzL_li g1 hz), nmv_eq]
      have et : lM F c c / li (v c) = li (sjt c F v) := li_div g2 g1
      rw [et]
      obtain ⟨h2, p2, e2⟩ := loopc (fun n' h x => m_X1_joins_35 f (m_X1_joins_10 f n) n' h a (ni c) (R.2.2 c) (li (sjt c F v)) x) (fun h => m_X1_joins_10 f n h a (ni c) (R.2.2 c)) (fun j h1 => wfh h1 ∧ isSm h1 a R V m (sjF c j F v) (sjv m c j F v) ∧ Mod (sS R V) 0 0 h h1) c
        (fun n' h _ => by rw [m_X1_joins_35, if_pos le33]; rfl)
        (fun n' h1 j hcj hj q => by
          obtain ⟨w1, S1, M1⟩ := q
          have v0 : sjv m c j F v j = v j := by unfold sjv; rw [if_neg (by omega)]
          have f0 : sjF c j F v c j = F c j := by unfold sjF; rw [if_neg (by omega)]
          obtain ⟨h3, u1, S3, M3, z3⟩ := S1.setF w1 hc hj (v j)
          have w3 := M3.2.2.2.2.2.2.2
          obtain ⟨h4, u2, S4, M4, z4⟩ := S3.setV w3 hj (if j = c then F c j - sjt c F v * v j else (F c j - sjt c F v * v j) % m)
          refine ⟨h4, ?_, M4.2.2.2.2.2.2.2, S4.congr (fun p q _ _ => (sj_one (m := m) hcj).1 p q) (fun q _ => (sj_one (m := m) hcj).2 q), ((M1.tr M3 (fun q _ hq => hq)).tr M4 (fun q _ hq => hq)).mono (fun _ _ => id) (by omega) (by omega)⟩
          rw [m_X1_joins_35, if_neg (le3 hj), aL_R S1.2.1 hc hj, bd_some, oR_c S1.1 rfl, bd_some, aL_V S1.2.2.1 hj, bd_some, nmv_eq, bd_some, aL_V S1.2.2.1 hj, bd_some, v0, u1, bd_some, oR_c S3.1 rfl, bd_some]
          unfold m_X1_joins_94
          show (if _ then _ else _) = _
          have er : lM (sjF c j F v) c j - li (sjt c F v) * li (v j) = li (F c j - sjt c F v * v j) := by
            show li (sjF c j F v c j) - _ = _
            rw [f0, li_mul, li_sub]
          by_cases hjc : j = c
          · rw [if_neg (show ¬ ¬ ni j = ni c from fun e => e (by rw [hjc])), er]
            rw [if_pos hjc] at u2
            rw [u2, bd_some, nmv_eq, ni_succ]
          · rw [if_pos (show ¬ ni j = ni c from fun e => hjc ((ni_inj (by omega) (by omega)).mp e)), oL_c S3.1 rfl, bd_some, er, floorMod_li (g3 j (by omega) hj) gm hm, bd_some]
            rw [if_neg hjc] at u2
            rw [u2, bd_some, nmv_eq, ni_succ])
        (3 - c) f h c (Nat.le_refl _) (by omega) (by omega) ⟨w, S.congr (fun p q _ _ => by unfold sjF; rw [if_neg (by omega)]) (fun q _ => by unfold sjv; rw [if_neg (by omega)]), Mod.rf w⟩
      rw [e2]
      obtain ⟨w2, S2, M2⟩ := p2
      obtain ⟨h5, r1, r2, r3⟩ := ih n _ _ h2 (by omega) w2 S2 hok
      exact ⟨h5, r1, r2, M2.tr r3 (fun q _ hq => hq)⟩
