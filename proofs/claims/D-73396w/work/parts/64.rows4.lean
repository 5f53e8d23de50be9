/-! Rows: divisors of all; a row changed -/
set_option maxRecDepth 100000
def gr (g : Nat) (F : Nat → Int) : Nat → Nat
  | 0 => g
  | j + 1 => Int.gcd (gr g F j) (F j)
def g9 (F : Mi) : Nat → Nat
  | 0 => 0
  | i + 1 => gr (g9 F i) (F i) 3
theorem gcd_lt {a b : Int} {k : Nat} (ha : a.natAbs < k) (hb : b.natAbs < k) : Int.gcd a b < k := by
  by_cases h : b = 0
  · subst h; rw [Int.gcd_zero_right]; exact ha
  · have : Int.gcd a b ≤ b.natAbs := Nat.le_of_dvd (by omega) (Int.natAbs_dvd_natAbs.mpr (Int.gcd_dvd_right a b))
    omega
theorem gr_lt {g : Nat} {F : Nat → Int} {k : Nat} (hg : g < k) : ∀ j, (∀ i, i < j → (F i).natAbs < k) → gr g F j < k
  | 0, _ => hg
  | j + 1, h => gcd_lt (by simpa using gr_lt hg j (fun i hi => h i (by omega))) (h j (by omega))
theorem g9_lt {F : Mi} {k : Nat} (hk : 0 < k) : ∀ i, (∀ a b, a < i → b < 3 → (F a b).natAbs < k) → g9 F i < k
  | 0, _ => hk
  | i + 1, h => gr_lt (g9_lt hk i (fun a b ha hb => h a b (by omega) hb)) 3 (fun b hb => h i b (by omega) hb)
theorem gr_dvd {d g : Nat} {F : Nat → Int} : ∀ j, d ∣ gr g F j ↔ (d ∣ g ∧ ∀ i, i < j → (d : Int) ∣ F i)
  | 0 => ⟨fun h => ⟨h, fun i hi => absurd hi (by omega)⟩, fun h => h.1⟩
  | j + 1 => by
    rw [gr, Int.gcd_eq_natAbs_gcd_natAbs, Nat.dvd_gcd_iff, Int.natAbs_natCast, gr_dvd j, ← Int.natCast_dvd_natCast (n := (F j).natAbs), Int.dvd_natAbs]
    constructor
    · rintro ⟨⟨h1, h2⟩, h3⟩
      refine ⟨h1, fun i hi => ?_⟩
      by_cases e : i = j
      · subst e; exact h3
      · exact h2 i (by omega)
    · rintro ⟨h1, h2⟩
      exact ⟨⟨h1, fun i hi => h2 i (by omega)⟩, h2 j (by omega)⟩
theorem g9_dvd {d : Nat} {F : Mi} : ∀ i, d ∣ g9 F i ↔ ∀ a b, a < i → b < 3 → (d : Int) ∣ F a b
  | 0 => ⟨fun h a b ha => absurd ha (by omega), fun h => ⟨0, rfl⟩⟩
  | i + 1 => by
    rw [g9, gr_dvd, g9_dvd i]
    constructor
    · rintro ⟨h1, h2⟩ a b ha hb
      by_cases e : a = i
      · subst e; exact h2 b hb
      · exact h1 a b (by omega) hb
    · intro h
      exact ⟨fun a b ha hb => h a b (by omega) hb, fun b hb => h i b (by omega) hb⟩
theorem X2_common {f : Nat} (hf : 4 ≤ f) {h : CH} {A : RA} {a : Mi} (hA : isN h A a) (hb : ∀ i j, i < 3 → j < 3 → (a i j).natAbs < 2 ^ 48) : m_X2_common f h A.1 = some (li (g9 a 3), h) := by
  unfold m_X2_common
  obtain ⟨v2, p2, e2⟩ := loop3v (fun n v x => m_X2_common_4 f n h A.1 v x) (fun v => some (v, h)) (fun i v => v = li (g9 a i))
    (fun n v _ => by rw [m_X2_common_4, if_pos le33]; rfl)
    (fun n v i hi p => by
      rw [m_X2_common_4, if_neg (le3 hi)]
      obtain ⟨v3, p3, e3⟩ := loop3v (fun n' v x => m_X2_common_12 f (m_X2_common_4 f n) n' h A.1 v (ni i) x) (fun v => m_X2_common_4 f n h A.1 v (ni (i + 1))) (fun j v => v = li (gr (g9 a i) (a i) j))
        (fun n' v _ => by rw [m_X2_common_12, if_pos le33]; unfold m_X2_common_38; rw [nmv_eq, ni_succ])
        (fun n' v j hj q => by
          refine ⟨_, ?_, rfl⟩
          have r1 : gr (g9 a i) (a i) j < 2 ^ 48 := gr_lt (g9_lt (by decide) i (fun x y hx hy => hb x y (by omega) hy)) j (fun y hy => hb i y hi (by omega))
          rw [m_X2_common_12, if_neg (le3 hj), oR_R hA, bd_some, aR_R hA hi, bd_some, aL_R hA hi hj, bd_some, q, divisor_li (rg_abs (k := 2 ^ 48) (by simpa using r1) (by decide)) (hb i j hi hj), bd_some, nmv_eq, ni_succ, gr])
        hf p
      exact ⟨v3, e3, p3⟩)
    hf (v := 0) rfl
  rw [← p2]; exact e2
def smt (N : Mi) (i : Nat) : Nat := if i = 0 then g9 N 3 else if i = 1 then g9 (mnr N) 3 / g9 N 3 else (dtf N).natAbs / g9 (mnr N) 3
theorem X2_smith {f : Nat} (hf : 4 ≤ f) {h : CH} {A : RA} {a : Mi} (hA : isN h A a) (hb : ∀ i j, i < 3 → j < 3 → (a i j).natAbs < 2 ^ 48) (hm : ∀ i j, i < 3 → j < 3 → (mnr a i j).natAbs < 2 ^ 48) (hd : rg (dtf a)) (z1 : g9 a 3 ≠ 0) (z2 : g9 (mnr a) 3 ≠ 0) {i : Nat} (hi : i < 3) : m_X2_smith f h A.1 (ni i) = some (li (smt a i), h) := by
  unfold m_X2_smith
  rw [gd_of (isC_R hA), X2_common hf hA hb, bd2_some]
  unfold m_X2_smith_4
  have c1 : g9 a 3 < 2 ^ 48 := g9_lt (by decide) 3 hb
  have c2 : g9 (mnr a) 3 < 2 ^ 48 := g9_lt (by decide) 3 hm
  have q1 : rg (g9 a 3 : Int) := rg_abs (k := 2 ^ 48) (by simpa using c1) (by decide)
  have q2 : rg (g9 (mnr a) 3 : Int) := rg_abs (k := 2 ^ 48) (by simpa using c2) (by decide)
  by_cases h0 : i = 0
  · subst h0
    rw [if_neg (fun e => e rfl)]
    rfl
  · rw [if_pos (show ¬ ni i = 0 from fun e => h0 ((ni_inj (k := 0) (by omega) (by decide)).mp e))]
    obtain ⟨v2, p2, e2⟩ := loop3v (fun n v x => m_X2_smith_17 f n h A.1 (ni i) (li (g9 a 3)) v x) (fun v => m_X2_smith_59 f h A.1 (ni i) (li (g9 a 3)) v) (fun k v => v = li (g9 (mnr a) k))
      (fun n v _ => by rw [m_X2_smith_17, if_pos le33])
      (fun n v k hk p => by
        rw [m_X2_smith_17, if_neg (le3 hk)]
        obtain ⟨v3, p3, e3⟩ := loop3v (fun n' v x => m_X2_smith_26 f (m_X2_smith_17 f n) n' h A.1 (ni i) (li (g9 a 3)) v (ni k) x) (fun v => m_X2_smith_17 f n h A.1 (ni i) (li (g9 a 3)) v (ni (k + 1))) (fun j v => v = li (gr (g9 (mnr a) k) (mnr a k) j))
          (fun n' v _ => by rw [m_X2_smith_26, if_pos le33]; unfold m_X2_smith_53; rw [nmv_eq, ni_succ])
          (fun n' v j hj q => by
            refine ⟨_, ?_, rfl⟩
            have r1 : gr (g9 (mnr a) k) (mnr a k) j < 2 ^ 48 := gr_lt (g9_lt (by decide) k (fun x y hx hy => hm x y (by omega) hy)) j (fun y hy => hm k y hk (by omega))
            rw [m_X2_smith_26, if_neg (le3 hj), gd_of (isC_R hA), X2_minor hA hk hj, bd2_some]
            unfold m_X2_smith_42
            rw [q, divisor_li (rg_abs (k := 2 ^ 48) (by simpa using r1) (by decide)) (hm k j hk hj), bd_some, nmv_eq, ni_succ, gr])
          hf p
        exact ⟨v3, e3, p3⟩)
      hf (v := 0) rfl
    have e3 : m_X2_smith_17 f f h A.1 (ni i) (li (g9 a 3)) 0 0 = _ := e2
    rw [e3, p2]
    unfold m_X2_smith_59
    by_cases h1 : i = 1
    · subst h1
      rw [if_neg (fun e => e rfl), gd_of (nzL_li q1 (by omega)), li_div q2 q1]
      rfl
    · rw [if_pos (show ¬ ni i = 1 from fun e => h1 ((ni_inj (k := 1) (by omega) (by decide)).mp e)), gd_of (isC_R hA), X2_determinant hA, bd2_some]
      unfold m_X2_smith_75
      rw [abs_li hd, bd_some, gd_of (nzL_li q2 (by omega)), li_div (rg_abs (k := 2 ^ 63) (by simpa using rg_nat.mp hd) (by decide)) q2]
      unfold smt
      rw [if_neg h0, if_neg h1]
      rfl
theorem toL (v : Int32) : Int32.toInt64 v = li v.toInt := (Int64.ofInt_int32ToInt v).symm
theorem aI_P {h : CH} {P : Nat} {n : Nat} {p : Nat → Int32} (hP : cm h P = some (.inr (0, n, .inl p))) {i : Nat} (hi : i < n) (hn : n < 2 ^ 31) : aI h 0 P (ni i) = some (p i) := by
  unfold aI; rw [hP]
  simp only [ix_ni hi hn, and_self, if_true]
  rw [ni_clamp (by omega)]
def acr (N : Mi) (p : Nat → Int32) (i : Nat) : Int := N i 0 * (p 0).toInt + N i 1 * (p 1).toInt + N i 2 * (p 2).toInt
theorem X2_across {f : Nat} (hf : 4 ≤ f) {h : CH} {A : RA} {a : Mi} (hA : isN h A a) {P : Nat} {p : Nat → Int32} (hP : cm h P = some (.inr (0, 3, .inl p))) (hb : ∀ i, i < 3 → (acr a p i).natAbs < 2 ^ 48) : m_X2_across f h A.1 P = some (li (gr 0 (acr a p) 3), h) := by
  unfold m_X2_across
  obtain ⟨v2, p2, e2⟩ := loop3v (fun n v x => m_X2_across_5 f n h A.1 P v x) (fun v => some (v, h)) (fun i v => v = li (gr 0 (acr a p) i))
    (fun n v _ => by rw [m_X2_across_5, if_pos le33]; rfl)
    (fun n v i hi q => by
      refine ⟨_, ?_, rfl⟩
      have r1 : gr 0 (acr a p) i < 2 ^ 48 := gr_lt (by decide) i (fun y hy => hb y (by omega))
      rw [m_X2_across_5, if_neg (le3 hi)]
      simp only [z0, z1, z2, oR_R hA, bd_some, aR_R hA hi, aL_R hA hi (show 0 < 3 by decide), aL_R hA hi (show 1 < 3 by decide), aL_R hA hi (show 2 < 3 by decide), aI_P hP (show 0 < 3 by decide) (by decide), aI_P hP (show 1 < 3 by decide) (by decide), aI_P hP (show 2 < 3 by decide) (by decide), toL, li_mul, li_add]
      show bd (m_X0_divisor f v (li (acr a p i))) _ = _
      rw [q, divisor_li (rg_abs (k := 2 ^ 48) (by simpa using r1) (by decide)) (hb i hi), bd_some, nmv_eq]
      show m_X2_across_5 f n h A.1 P _ (ni i + 1) = _
      rw [ni_succ, gr])
    hf (v := 0) rfl
  rw [← p2]; exact e2
/-! a row changed, column by column -/
def upc (N N' : Mi) (j : Nat) : Mi := fun a b => if b < j then N' a b else N a b
def addR (N : Mi) (r o : Nat) (t : Int) : Mi := fun a b => if a = r then N a b + t * N o b else N a b
def excR (N : Mi) (r o : Nat) : Mi := fun a b => if a = r then N o b else if a = o then N r b else N a b
def ovrR (N : Mi) (r : Nat) : Mi := fun a b => if a = r then - N a b else N a b
def UpS (h0 : CH) (R : RA) (N N' : Mi) (j : Nat) (h : CH) : Prop := isN h R (upc N N' j) ∧ Mod (rS R) 0 0 h0 h
theorem UpS.start {h0 : CH} {R : RA} {N N' : Mi} (w : wfh h0) (hR : isN h0 R N) : UpS h0 R N N' 0 h0 := ⟨hR.congr (fun a b _ _ => by show _ = li (upc N N' 0 a b); unfold upc; simp), Mod.rf w⟩
theorem UpS.done {h0 h : CH} {R : RA} {N N' : Mi} (u : UpS h0 R N N' 3 h) : isN h R N' ∧ Mod (rS R) 0 0 h0 h := ⟨u.1.congr (fun a b _ hb => by show li (upc N N' 3 a b) = _; unfold upc; rw [if_pos hb]), u.2⟩
theorem UpS.step {h0 h : CH} {R : RA} {N N' : Mi} {j r : Nat} (u : UpS h0 R N N' j h) (hr : r < 3) (hj : j < 3) (hs : ∀ a, a < 3 → a ≠ r → N' a j = N a j) : ∃ h', uL h 1 (R.2.2 r) (ni j) (li (N' r j)) = some h' ∧ UpS h0 R N N' (j + 1) h' := by
  refine ⟨_, uL_R u.1 u.2.2.2.2.2.2.2.2 hr hj _, ?_, ?_⟩
  · refine (stR_is u.1 u.2.2.2.2.2.2.2.2 hr _).congr (fun a b ha hb => ?_)
    unfold mset
    by_cases e : a = r ∧ b = j
    · obtain ⟨rfl, rfl⟩ := e
      rw [if_pos ⟨rfl, rfl⟩]
      show _ = li (upc N N' (b + 1) a b)
      unfold upc; rw [if_pos (by omega)]
    · rw [if_neg e]
      show li _ = li _
      unfold upc
      by_cases hb' : b < j
      · rw [if_pos hb', if_pos (by omega)]
      · rw [if_neg hb']
        by_cases hbj : b = j
        · subst hbj
          rw [if_pos (by omega), hs a ha (fun h => e ⟨h, rfl⟩)]
        · rw [if_neg (by omega)]
  · exact (u.2.tr (stR_mod u.1 u.2.2.2.2.2.2.2.2 hr _) (fun q _ hs => hs)).mono (fun _ _ => id) (by omega) (by omega)
theorem X2_adds {f : Nat} (hf : 4 ≤ f) {h0 : CH} (w : wfh h0) {R : RA} {N : Mi} (hR : isN h0 R N) {r o : Nat} (hr : r < 3) (ho : o < 3) (hne : r ≠ o) (t : Int) : ∃ h', m_X2_adds f h0 R.1 (ni r) (ni o) (li t) = some h' ∧ isN h' R (addR N r o t) ∧ Mod (rS R) 0 0 h0 h' := by
  unfold m_X2_adds
  obtain ⟨h2, p2, e2⟩ := loop3 (fun n h x => m_X2_adds_3 f n h R.1 (ni r) (ni o) (li t) x) (fun h => some h) (fun j h => UpS h0 R N (addR N r o t) j h)
    (fun n h _ => by rw [m_X2_adds_3, if_pos le33]; rfl)
    (fun n h j hj u => by
      obtain ⟨h', s1, s2⟩ := u.step hr hj (fun a _ ha => by unfold addR; rw [if_neg ha])
      refine ⟨h', ?_, s2⟩
      have e1 : upc N (addR N r o t) j r j = N r j := by unfold upc; rw [if_neg (by omega)]
      have e2 : upc N (addR N r o t) j o j = N o j := by unfold upc; rw [if_neg (by omega)]
      have e3 : addR N r o t r j = N r j + t * N o j := by unfold addR; rw [if_pos rfl]
      rw [e3] at s1
      rw [m_X2_adds_3, if_neg (le3 hj)]
      simp only [oR_R u.1, bd_some, aR_R u.1 hr, aR_R u.1 ho, aL_R u.1 hr hj, aL_R u.1 ho hj]
      show bd (uL h 1 (R.2.2 r) (ni j) (li (upc N (addR N r o t) j r j) + li t * li (upc N (addR N r o t) j o j))) _ = _
      rw [e1, e2, li_mul, li_add, s1, bd_some, nmv_eq, ni_succ])
    hf (UpS.start w hR)
  exact ⟨h2, e2, p2.done⟩
theorem X2_turnsOver {f : Nat} (hf : 4 ≤ f) {h0 : CH} (w : wfh h0) {R : RA} {N : Mi} (hR : isN h0 R N) {r : Nat} (hr : r < 3) : ∃ h', m_X2_turnsOver f h0 R.1 (ni r) = some h' ∧ isN h' R (ovrR N r) ∧ Mod (rS R) 0 0 h0 h' := by
  unfold m_X2_turnsOver
  obtain ⟨h2, p2, e2⟩ := loop3 (fun n h x => m_X2_turnsOver_2 f n h R.1 (ni r) x) (fun h => some h) (fun j h => UpS h0 R N (ovrR N r) j h)
    (fun n h _ => by rw [m_X2_turnsOver_2, if_pos le33]; rfl)
    (fun n h j hj u => by
      obtain ⟨h', s1, s2⟩ := u.step hr hj (fun a _ ha => by unfold ovrR; rw [if_neg ha])
      refine ⟨h', ?_, s2⟩
      have e1 : upc N (ovrR N r) j r j = N r j := by unfold upc; rw [if_neg (by omega)]
      have e3 : ovrR N r r j = - N r j := by unfold ovrR; rw [if_pos rfl]
      rw [e3] at s1
      rw [m_X2_turnsOver_2, if_neg (le3 hj)]
      simp only [oR_R u.1, bd_some, aR_R u.1 hr, aL_R u.1 hr hj]
      show bd (uL h 1 (R.2.2 r) (ni j) (- li (upc N (ovrR N r) j r j))) _ = _
      rw [e1, li_neg, s1, bd_some, nmv_eq, ni_succ])
    hf (UpS.start w hR)
  exact ⟨h2, e2, p2.done⟩
theorem upc2 {N : Mi} {r o j : Nat} (hne : r ≠ o) : ∀ a b, a < 3 → b < 3 → mset (mset (lM (upc N (excR N r o) j)) r j (li (N o j))) o j (li (N r j)) a b = lM (upc N (excR N r o) (j + 1)) a b := by
  intro a b ha hb
  unfold mset
  show _ = li (upc N (excR N r o) (j + 1) a b)
  by_cases e1 : a = o ∧ b = j
  · obtain ⟨rfl, rfl⟩ := e1
    rw [if_pos ⟨rfl, rfl⟩]
    unfold upc excR
    rw [if_pos (by omega), if_neg (fun e => hne e.symm), if_pos rfl]
  · rw [if_neg e1]
    by_cases e2 : a = r ∧ b = j
    · obtain ⟨rfl, rfl⟩ := e2
      rw [if_pos ⟨rfl, rfl⟩]
      unfold upc excR
      rw [if_pos (by omega), if_pos rfl]
    · rw [if_neg e2]
      show li _ = li _
      unfold upc
      by_cases hb' : b < j
      · rw [if_pos hb', if_pos (by omega)]
      · rw [if_neg hb']
        by_cases hbj : b = j
        · subst hbj
          rw [if_pos (by omega)]
          unfold excR
          rw [if_neg (fun h => e2 ⟨h, rfl⟩), if_neg (fun h => e1 ⟨h, rfl⟩)]
        · rw [if_neg (by omega)]
theorem X2_exchanges {f : Nat} (hf : 4 ≤ f) {h0 : CH} (w : wfh h0) {R : RA} {N : Mi} (hR : isN h0 R N) {r o : Nat} (hr : r < 3) (ho : o < 3) (hne : r ≠ o) : ∃ h', m_X2_exchanges f h0 R.1 (ni r) (ni o) = some h' ∧ isN h' R (excR N r o) ∧ Mod (rS R) 0 0 h0 h' := by
  unfold m_X2_exchanges
  obtain ⟨h2, p2, e2⟩ := loop3 (fun n h x => m_X2_exchanges_2 f n h R.1 (ni r) (ni o) x) (fun h => some h) (fun j h => UpS h0 R N (excR N r o) j h)
    (fun n h _ => by rw [m_X2_exchanges_2, if_pos le33]; rfl)
    (fun n h j hj u => by
      have w1 := u.2.2.2.2.2.2.2.2
      have r1 := stR_is u.1 w1 hr (j := j) (li (N o j))
      have m1 := stR_mod u.1 w1 hr (j := j) (li (N o j))
      have w2 := m1.2.2.2.2.2.2.2
      have r2 := stR_is r1 w2 ho (j := j) (li (N r j))
      have m2 := stR_mod r1 w2 ho (j := j) (li (N r j))
      refine ⟨_, ?_, r2.congr (upc2 hne), ((u.2.tr m1 (fun q _ hs => hs)).tr m2 (fun q _ hs => hs)).mono (fun _ _ => id) (by omega) (by omega)⟩
      have e1 : upc N (excR N r o) j r j = N r j := by unfold upc; rw [if_neg (by omega)]
      have e2 : upc N (excR N r o) j o j = N o j := by unfold upc; rw [if_neg (by omega)]
      rw [m_X2_exchanges_2, if_neg (le3 hj)]
      simp only [oR_R u.1, bd_some, aR_R u.1 hr, aR_R u.1 ho, aL_R u.1 hr hj, aL_R u.1 ho hj]
      show bd (uL h 1 (R.2.2 r) (ni j) (li (upc N (excR N r o) j o j))) _ = _
      rw [e2, uL_R u.1 w1 hr hj, bd_some, oR_R r1, bd_some, aR_R r1 ho, bd_some]
      show bd (uL _ 1 (R.2.2 o) (ni j) (li (upc N (excR N r o) j r j))) _ = _
      rw [e1, uL_R r1 w2 ho hj, bd_some, nmv_eq, ni_succ])
    hf (UpS.start w hR)
  exact ⟨h2, e2, p2.done⟩
