/-! ArrayList: the last taken off, all taken off, all of another one -/
set_option maxRecDepth 100000
theorem lsf_drop {xs : List Nat} {n : Nat} (hn : xs.length = n + 1) : va_up (lsf xs) n none = lsf xs.dropLast := by
  funext i
  unfold va_up lsf
  by_cases h : i = n
  · subst h; rw [if_pos rfl, List.getElem?_eq_none (by simp; omega)]
  · rw [if_neg h]
    by_cases h2 : i < n
    · rw [List.getElem?_dropLast, if_pos (by omega)]
    · rw [List.getElem?_eq_none (by omega), List.getElem?_eq_none (by simp; omega)]
theorem J2_remove {f : Nat} {h : CH} (w : wfh h) (kk : kok h) {a E c n : Nat} {xs : List Nat} (hL : isL h a E c xs) (hn : xs.length = n + 1) {x : Nat} (hx : xs[n]? = some x) : ∃ h', m_J2_remove f h a (ni n) = some (x, h') ∧ isL h' a E c xs.dropLast ∧ Mod (lS a E) 0 0 h h' ∧ h'.1 = h.1 := by
  have hne := hL.ne w
  have hL0 := hL
  obtain ⟨⟨mc, h1⟩, h2, h3, h5, h4⟩ := hL
  have he : cm h E = some (.inr (3, c, .inr (.inr (lsf xs)))) := by
    rcases h4 with h4 | h4
    · omega
    · exact h4.2
  unfold m_J2_remove m_J15_checkIndex m_J12_checkIndex_N2
  rw [oI_c h1 rfl, bd_some, if_neg (show ¬ ni n < 0 from fun e => by have := (ni_lt (k := 0) (by omega) (by decide)).mp e; omega), if_pos ((ni_lt (by omega) (by omega)).mpr (show n < xs.length by omega)), bd2_some]
  unfold m_J15_checkIndex_6
  rw [bd2_some]
  unfold m_J2_remove_8 m_J2_fastRemove m_J2_remove_24
  have ha : aR h 3 E (ni n) = some x := by
    unfold aR aQ; rw [he]
    simp only [ix_ni (show n < c by omega) (by omega), and_self, if_true]
    rw [ni_clamp (by omega)]; unfold lsf; rw [hx]
  rw [oR_c h1 rfl, bd_some, ha, bd_some, gd_of (isC_c h1)]
  obtain ⟨mc0, h6, g1, g2, g3, g4, g5, g6, g7⟩ := mc_up w kk hL0
  obtain ⟨mc', c1⟩ := g3.1
  have w6 := g4.2.2.2.2.2.2.2
  have e6 : cm h6 E = some (.inr (3, c, .inr (.inr (lsf xs)))) := by rw [g7 E (Ne.symm hne)]; exact he
  have d1 : ni xs.length - 1 = ni n := by
    rw [hn, ← ni_succ, Int32.add_sub_cancel]
  rw [g1, bd_some, g2, bd_some, oI_c c1 rfl, bd_some, nmv_eq, d1, if_pos ((ni_le (by omega) (by omega)).mpr (Nat.le_refl n))]
  unfold m_J2_fastRemove_34
  rw [pF_c c1 w6 (by simp), bd_some]
  have m2 : Mod (lS a E) 0 0 h6 _ := Mod.cs (e := .inl (17, [Value.int mc', .ref E, .int (ni xs.length)].set 2 (.int (ni n)))) w6 c1 (.inl rfl)
  have w7 := m2.2.2.2.2.2.2.2
  have e7 : cm (cs h6 a (.inl (17, [Value.int mc', .ref E, .int (ni xs.length)].set 2 (.int (ni n))))) E = some (.inr (3, c, .inr (.inr (lsf xs)))) := by rw [cm_cs_o _ (Ne.symm hne)]; exact e6
  have hu : uQ (cs h6 a (.inl (17, [Value.int mc', .ref E, .int (ni xs.length)].set 2 (.int (ni n))))) 3 E (ni n) none = some (cs (cs h6 a (.inl (17, [Value.int mc', .ref E, .int (ni xs.length)].set 2 (.int (ni n))))) E (.inr (3, c, .inr (.inr (lsf xs.dropLast))))) := by
    unfold uQ; rw [e7]
    simp only [ix_ni (show n < c by omega) (by omega), (w7.1 _ _ e7).1, and_self, if_true]
    rw [ni_clamp (by omega), lsf_drop hn]
  rw [hu, bd_some, bd_some]
  have m3 : Mod (lS a E) 0 0 (cs h6 a (.inl (17, [Value.int mc', .ref E, .int (ni xs.length)].set 2 (.int (ni n))))) _ := Mod.cs (e := .inr (3, c, .inr (.inr (lsf xs.dropLast)))) w7 e7 (.inr rfl)
  have m4 := (g4.tr m2 (fun q _ hq => hq)).tr m3 (fun q _ hq => hq)
  have ca : cm (cs (cs h6 a (.inl (17, [Value.int mc', .ref E, .int (ni xs.length)].set 2 (.int (ni n))))) E (.inr (3, c, .inr (.inr (lsf xs.dropLast))))) a = some (.inl (17, [.int mc', .ref E, .int (ni n)])) := by rw [cm_cs_o _ hne, cm_cs_s]; rfl
  have hO := fun y (hy : isO h y = true) => isO_mod m4 w hy kk (fun q hq ci fs hcq => by
      rcases hq with rfl | rfl
      · rw [h1] at hcq; cases hcq; exact ⟨_, ca⟩
      · rw [he] at hcq; cases hcq)
  refine ⟨_, rfl, ⟨⟨mc', ?_⟩, by simp; omega, h3, fun y hy => hO y (h5 y (List.dropLast_subset xs hy)), .inr ⟨by omega, cm_cs_s _ _ _⟩⟩, m4.mono (fun _ _ => id) (by omega) (by omega), by show h6.1 = h.1; exact g5⟩
  rw [ca, List.length_dropLast, hn]; rfl
/-- while all are taken off: those from i on are left -/
def lsk (xs : List Nat) (i : Nat) : Nat → Option Nat := fun j => if j < i then none else xs[j]?
theorem clear_27 {f : Nat} {E c : Nat} {xs : List Nat} (hc : xs.length ≤ c) (hc2 : c ≤ 100000) : ∀ (k n i : Nat) (h : CH), wfh h → xs.length = i + k → k < n → cm h E = some (.inr (3, c, .inr (.inr (lsk xs i)))) → ∃ h', m_J2_clear_27 f n h E (ni xs.length) (ni i) = some h' ∧ cm h' E = some (.inr (3, c, .inr (.inr (lsf [])))) ∧ Mod (fun q => q = E) 0 0 h h' ∧ h'.1 = h.1 := by
  intro k
  induction k with
  | zero =>
    intro n i h w hk hn he
    obtain ⟨n, rfl⟩ : ∃ z, n = z + 1 := ⟨n - 1, by omega⟩
    rw [m_J2_clear_27, if_pos ((ni_le (by omega) (by omega)).mpr (by omega))]
    refine ⟨h, rfl, ?_, Mod.rf w, rfl⟩
    rw [he]
    have : lsk xs i = lsf [] := by
      funext j
      unfold lsk lsf
      by_cases hj : j < i
      · rw [if_pos hj]; simp
      · rw [if_neg hj, List.getElem?_eq_none (by omega)]; simp
    rw [this]
  | succ k ih =>
    intro n i h w hk hn he
    obtain ⟨n, rfl⟩ : ∃ z, n = z + 1 := ⟨n - 1, by omega⟩
    rw [m_J2_clear_27, if_neg (fun e => by have := (ni_le (by omega) (by omega)).mp e; omega)]
    have hu : uQ h 3 E (ni i) none = some (cs h E (.inr (3, c, .inr (.inr (lsk xs (i + 1)))))) := by
      unfold uQ; rw [he]
      simp only [ix_ni (show i < c by omega) (by omega), (w.1 _ _ he).1, and_self, if_true]
      rw [ni_clamp (by omega)]
      have : va_up (lsk xs i) i none = lsk xs (i + 1) := by
        funext j
        unfold va_up lsk
        by_cases hj : j = i
        · subst hj; simp
        · rw [if_neg hj]
          by_cases h2 : j < i
          · rw [if_pos h2, if_pos (by omega)]
          · rw [if_neg h2, if_neg (by omega)]
      rw [this]
    rw [hu, bd_some, nmv_eq, ni_succ]
    have m1 : Mod (fun q => q = E) 0 0 h (cs h E (.inr (3, c, .inr (.inr (lsk xs (i + 1)))))) := Mod.cs w he rfl
    obtain ⟨h', e1, e2, e3, e4⟩ := ih n (i + 1) _ m1.2.2.2.2.2.2.2 (by omega) (by omega) (cm_cs_s _ _ _)
    exact ⟨h', e1, e2, m1.tr e3 (fun q _ hq => hq), e4⟩
theorem J2_clear {f : Nat} {h : CH} (w : wfh h) (kk : kok h) {a E c : Nat} {xs : List Nat} (hf : xs.length < f) (hc : 0 < c) (hL : isL h a E c xs) : ∃ h', m_J2_clear f h a = some h' ∧ isL h' a E c [] ∧ Mod (lS a E) 0 0 h h' ∧ h'.1 = h.1 := by
  have hne := hL.ne w
  obtain ⟨mc0, h6, g1, g2, g3, g4, g5, g6, g7⟩ := mc_up w kk hL
  obtain ⟨⟨mc', c1⟩, h2, h3, h5, h4⟩ := g3
  have he : cm h6 E = some (.inr (3, c, .inr (.inr (lsf xs)))) := by
    rcases h4 with h4 | h4
    · omega
    · exact h4.2
  have w6 := g4.2.2.2.2.2.2.2
  unfold m_J2_clear
  rw [g1, bd_some, g2, bd_some, oR_c c1 rfl, bd_some, oI_c c1 rfl, bd_some, pF_c c1 w6 (by simp), bd_some]
  have m2 : Mod (lS a E) 0 0 h6 _ := Mod.cs (e := .inl (17, [Value.int mc', .ref E, .int (ni xs.length)].set 2 (.int 0))) w6 c1 (.inl rfl)
  have e7 : cm (cs h6 a (.inl (17, [Value.int mc', .ref E, .int (ni xs.length)].set 2 (.int 0)))) E = some (.inr (3, c, .inr (.inr (lsk xs 0)))) := by
    rw [cm_cs_o _ (Ne.symm hne), he]
    have : lsk xs 0 = lsf xs := by funext j; unfold lsk lsf; simp
    rw [this]
  obtain ⟨h8, e1, e2, e3, e4⟩ := clear_27 (f := f) h2 h3 xs.length f 0 _ m2.2.2.2.2.2.2.2 (by omega) hf e7
  refine ⟨h8, e1, ⟨⟨mc', ?_⟩, Nat.zero_le _, h3, fun x hx => (List.not_mem_nil hx).elim, .inr ⟨hc, e2⟩⟩, ?_, by rw [e4]; exact g5⟩
  · rw [e3.2.2.2.2.2.2.1 a ?_ (fun e => hne e), cm_cs_s]
    · rfl
    · show a < h6.1; exact (w6.1 a _ c1).2
  · exact ((g4.tr m2 (fun q _ hq => hq)).tr e3 (fun q _ hq => .inr hq)).mono (fun _ _ => id) (by omega) (by omega)
theorem lsf_all {ys : List Nat} {n : Nat} (hn : n = ys.length) : va_cpy (lsf ys) (lsf []) 0 0 n = lsf ys := by
  funext i
  unfold va_cpy lsf
  subst hn
  simp
/-- an empty one gets all of another one's -/
theorem J2_addAll {f : Nat} {h : CH} (w : wfh h) (kk : kok h) {k40 : Nat} (hk : sR h 40 = some k40) {a E c b F d : Nat} {ys : List Nat} (hL : isL h a E c []) (hM : isL h b F d ys) (hc : ys.length ≤ c) (hc0 : 0 < c) (hd0 : 0 < d) : ∃ r h', m_J2_addAll f h a b = some (r, h') ∧ isL h' a E c ys ∧ Mod (lS a E) 1 ys.length h h' := by
  have hne := hL.ne w
  have hM0 := hM
  obtain ⟨⟨mb, b1⟩, b2, b3, b5, b4⟩ := hM
  have hF : cm h F = some (.inr (3, d, .inr (.inr (lsf ys)))) := by
    rcases b4 with b4 | b4
    · omega
    · exact b4.2
  unfold m_J2_addAll m_J2_toArray m_J2_toArray_11
  obtain ⟨h1, q1, q2, q3, q4, q5⟩ := copyOf_2 (f := f) w kk hk hF b5 b3 (c' := ys.length) (by omega) ⟨fun _ => rfl, fun hh => by omega⟩
  rw [gd_of (isC_c b1), oR_c b1 rfl, bd_some, oI_c b1 rfl, bd_some, q1, bd2_some, bd2_some]
  unfold m_J2_addAll_6
  have w1 := q3.2.2.2.2.2.2.2
  have k1 := kk.mod q3
  have L1 := hL.ext q3 w kk
  obtain ⟨mc0, h6, g1, g2, g3, g4, g5, g6, g7⟩ := mc_up w1 k1 L1
  obtain ⟨⟨mc', c1⟩, h2, h3, h5, h4⟩ := g3
  have he : cm h6 E = some (.inr (3, c, .inr (.inr (lsf [])))) := by
    rcases h4 with h4 | h4
    · omega
    · exact h4.2
  have w6 := g4.2.2.2.2.2.2.2
  have ha1 : a < h.1 := by obtain ⟨mm, hm⟩ := hL.1; exact (w.1 a _ hm).2
  have hE1 : E < h.1 := by
    rcases hL.2.2.2.2 with h9 | h9
    · omega
    · exact (w.1 E _ h9.2).2
  have p6 : cm h6 h.1 = some (.inr (3, ys.length, .inr (.inr (lsf ys)))) := by rw [g7 h.1 (by omega)]; exact q2
  have n6 : aN h6 3 h.1 = some ys.length := by unfold aN; rw [p6]; simp
  have nE : aN h6 3 E = some c := by unfold aN; rw [he]; simp
  rw [g1, bd_some, g2, bd_some, n6, bd_some, nmv_eq]
  have mm : Mod (lS a E) 1 ys.length h h6 := ((q3.mono (fun _ _ q => q.elim) (Nat.le_refl _) (Nat.le_refl _)).tr g4 (fun q _ hq => hq)).mono (fun _ _ => id) (by omega) (by omega)
  by_cases hz : ys.length = 0
  · rw [if_neg (show ¬ ¬ Int32.ofNat ys.length = 0 from fun e => e (by rw [hz]; rfl))]
    have hy : ys = [] := List.eq_nil_of_length_eq_zero hz
    subst hy
    exact ⟨0, h6, rfl, ⟨⟨mc', c1⟩, h2, h3, h5, h4⟩, mm⟩
  · rw [if_pos (show ¬ Int32.ofNat ys.length = 0 from fun e => hz ((ni_inj (k := 0) (by omega) (by decide)).mp e)), oR_c c1 rfl, bd_some, nE, bd_some, oI_c c1 rfl, bd_some]
    have d0 : Int32.ofNat c - ni ([] : List Nat).length = ni c := by show ni c - 0 = ni c; exact Int32.sub_zero _
    rw [d0, if_pos ((ni_le (by omega) (by omega)).mpr hc)]
    unfold m_J2_addAll_56
    have hn0 : ¬ (ni ys.length < 0) := fun e => by have := (ni_lt (k := 0) (by omega) (by decide)).mp e; omega
    have hok : okE h6 (lsf ys) 0 ys.length = true := by
      unfold okE
      rw [List.all_eq_true]
      intro i hi
      rw [List.mem_range] at hi
      unfold lsf
      rw [Nat.zero_add, List.getElem?_eq_getElem hi]
      exact g6 _ (isO_mod q3 w (b5 ys[i] (List.getElem_mem hi)) kk (fun q hq => hq.elim))
    have hcp : cpO h6 h.1 0 E (ni ([] : List Nat).length) (Int32.ofNat ys.length) = some (cs h6 E (.inr (3, c, .inr (.inr (lsf ys))))) := by
      unfold cpO
      rw [p6, he]
      have hz0 : ((0 : Int32)).toNatClampNeg = 0 := rfl
      have hz1 : (ni ([] : List Nat).length).toNatClampNeg = 0 := rfl
      simp only [hz0, hz1, ni_clamp (show ys.length < 2 ^ 31 by omega), Nat.zero_add]
      rw [if_pos ⟨(w6.1 _ _ he).1, by decide, by decide, hn0, Nat.le_refl _, hc, hok⟩, lsf_all rfl]
    rw [hcp, bd_some]
    have m2 : Mod (lS a E) 0 0 h6 _ := Mod.cs (e := .inr (3, c, .inr (.inr (lsf ys)))) w6 he (.inr rfl)
    have w7 := m2.2.2.2.2.2.2.2
    have c7 : cm (cs h6 E (.inr (3, c, .inr (.inr (lsf ys))))) a = some (.inl (17, [.int mc', .ref E, .int (ni ([] : List Nat).length)])) := by rw [cm_cs_o _ hne]; exact c1
    rw [pF_c c7 w7 (by simp), bd_some]
    have m3 : Mod (lS a E) 0 0 (cs h6 E (.inr (3, c, .inr (.inr (lsf ys))))) _ := Mod.cs (e := .inl (17, [Value.int mc', .ref E, .int (ni ([] : List Nat).length)].set 2 (.int (ni ([] : List Nat).length + Int32.ofNat ys.length)))) w7 c7 (.inl rfl)
    have m4 := (mm.tr m2 (fun q _ hq => hq)).tr m3 (fun q _ hq => hq)
    obtain ⟨mo, ho⟩ := hL.1
    have heo : cm h E = some (.inr (3, c, .inr (.inr (lsf [])))) := by
      rcases hL.2.2.2.2 with h9 | h9
      · omega
      · exact h9.2
    have hO := fun y (hy : isO h y = true) => isO_mod m4 w hy kk (fun q hq ci fs hcq => by
      rcases hq with rfl | rfl
      · rw [ho] at hcq; cases hcq; exact ⟨_, cm_cs_s _ _ _⟩
      · rw [heo] at hcq; cases hcq)
    refine ⟨1, _, rfl, ⟨⟨mc', ?_⟩, hc, h3, fun y hy => hO y (b5 y hy), .inr ⟨hc0, ?_⟩⟩, m4.mono (fun _ _ => id) (by omega) (by omega)⟩
    · rw [cm_cs_s]
      show some (Sum.inl (17, [Value.int mc', .ref E, .int ((0 : Int32) + ni ys.length)])) = _
      rw [Int32.zero_add]
    · rw [cm_cs_o _ (Ne.symm hne), cm_cs_s]
