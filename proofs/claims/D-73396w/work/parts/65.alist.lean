/-! objects' fields; ArrayList -/
set_option maxRecDepth 100000
theorem oF_c {h : CH} {a ci k : Nat} {fs : List Value} (hc : cm h a = some (.inl (ci, fs))) : oF h ci k a = fs[k]? := by unfold oF; rw [hc]; simp
theorem oI_c {h : CH} {a ci k : Nat} {fs : List Value} {x : Int32} (hc : cm h a = some (.inl (ci, fs))) (hk : fs[k]? = some (.int x)) : oI h ci k a = some x := by unfold oI; rw [oF_c hc, hk]
theorem oL_c {h : CH} {a ci k : Nat} {fs : List Value} {x : Int64} (hc : cm h a = some (.inl (ci, fs))) (hk : fs[k]? = some (.long x)) : oL h ci k a = some x := by unfold oL; rw [oF_c hc, hk]
theorem oR_c {h : CH} {a ci k : Nat} {fs : List Value} {x : Nat} (hc : cm h a = some (.inl (ci, fs))) (hk : fs[k]? = some (.ref x)) : oR h ci k a = some x := by unfold oR; rw [oF_c hc, hk]
theorem oQ_r {h : CH} {a ci k : Nat} {fs : List Value} {x : Nat} (hc : cm h a = some (.inl (ci, fs))) (hk : fs[k]? = some (.ref x)) : oQ h ci k a = some (some x) := by unfold oQ; rw [oF_c hc, hk]
theorem oQ_n {h : CH} {a ci k : Nat} {fs : List Value} (hc : cm h a = some (.inl (ci, fs))) (hk : fs[k]? = some .null) : oQ h ci k a = some none := by unfold oQ; rw [oF_c hc, hk]
theorem isC_c {h : CH} {a ci : Nat} {fs : List Value} (hc : cm h a = some (.inl (ci, fs))) : isC h a ci = true := by unfold isC; rw [hc]; simp
theorem pF_c {h : CH} {a ci k : Nat} {fs : List Value} (hc : cm h a = some (.inl (ci, fs))) (w : wfh h) (hk : k < fs.length) (v : Value) : pF h ci k a v = some (cs h a (.inl (ci, fs.set k v))) := by
  unfold pF; rw [hc]; simp [(w.1 a _ hc).1, hk]
theorem isO_c {h : CH} {a ci : Nat} {fs : List Value} (hc : cm h a = some (.inl (ci, fs))) (hl : ci < 20) : isO h a = true := by unfold isO; rw [hc]; simp [hl]
theorem cm_cs_s (h : CH) (a : Nat) (e : AC) : cm (cs h a e) a = some e := by rw [cm_cs, if_pos rfl]
theorem cm_cs_o {h : CH} {a b : Nat} (e : AC) (hb : b ≠ a) : cm (cs h a e) b = cm h b := by rw [cm_cs, if_neg hb]
theorem cm_cn_s (h : CH) (k : Nat) (e : AC) : cm (cn h k e) h.1 = some e := by rw [cm_cn, if_pos rfl]
theorem cm_cn_o {h : CH} (k : Nat) {b : Nat} (e : AC) (hb : b ≠ h.1) : cm (cn h k e) b = cm h b := by rw [cm_cn, if_neg hb]
theorem cm_ne {h : CH} (w : wfh h) {b : Nat} {e : AC} (hb : cm h b = some e) : b ≠ h.1 := by have := (w.1 b e hb).2; omega
theorem cntok_ni {n : Nat} (hn : n ≤ 1000000) : cntok (ni n) = true := by
  unfold cntok
  rw [ni_clamp (by omega)]
  have : ¬ (ni n < 0) := by intro h; have := (ni_lt (k := 0) (by omega) (by decide)).mp h; omega
  simp [this, hn]
/-- a list's places -/
def lsf (xs : List Nat) : Nat → Option Nat := fun i => xs[i]?
/-- an ArrayList of capacity c, at a, its places at E -/
def isL (h : CH) (a E c : Nat) (xs : List Nat) : Prop := (∃ mc, cm h a = some (.inl (17, [.int mc, .ref E, .int (ni xs.length)]))) ∧ xs.length ≤ c ∧ c ≤ 100000 ∧ (∀ x, x ∈ xs → isO h x = true) ∧ ((c = 0 ∧ sR h 0 = some E ∧ cm h E = none ∧ h.2.2.2.2.1 E = some (.inl 0)) ∨ (0 < c ∧ cm h E = some (.inr (3, c, .inr (.inr (lsf xs))))))
def lS (a E : Nat) : Nat → Prop := fun q => q = a ∨ q = E
theorem isO_mod {S : Nat → Prop} {k n : Nat} {h h1 : CH} (a : Mod S k n h h1) (w : wfh h) {x : Nat} (hx : isO h x = true) (hb : ∀ q e, h.2.2.2.2.1 q = some e → q < h.2.2.1) (hs : ∀ q, S q → ∀ ci fs, cm h q = some (.inl (ci, fs)) → ∃ fs', cm h1 q = some (.inl (ci, fs'))) : isO h1 x = true := by
  unfold isO at hx ⊢
  cases hc : cm h x with
  | some e =>
    rw [hc] at hx
    rcases e with ⟨ci, fs⟩ | ⟨t, m, o⟩
    · by_cases hS : S x
      · obtain ⟨fs', h2⟩ := hs x hS ci fs hc
        rw [h2]; exact hx
      · rw [a.at w hc hS]; exact hx
    · cases hx
  | none =>
    rw [hc] at hx
    cases hk : h.2.2.2.2.1 x with
    | none => rw [hk] at hx; cases hx
    | some e =>
      have hlt := hb x e hk
      have hn : cm h1 x = none := by
        cases h3 : cm h1 x with
        | none => rfl
        | some e3 =>
          have := (a.2.2.2.2.2.2.2.1 x e3 h3).1
          rw [a.2.2.2.2.1] at this
          omega
      rw [hn, a.2.2.2.2.2.1]
      exact hx
theorem J2_size {f : Nat} {h : CH} {a E c : Nat} {xs : List Nat} (hL : isL h a E c xs) : m_J2_size f h a = some (ni xs.length, h) := by
  obtain ⟨⟨mc, h1⟩, _⟩ := hL
  unfold m_J2_size
  rw [oI_c h1 rfl, bd_some]
theorem J2_isEmpty {f : Nat} {h : CH} {a E c : Nat} {xs : List Nat} (hL : isL h a E c xs) : m_J2_isEmpty f h a = some (if xs.length = 0 then 1 else 0, h) := by
  obtain ⟨⟨mc, h1⟩, h2, h3, _⟩ := hL
  unfold m_J2_isEmpty
  rw [oI_c h1 rfl, bd_some]
  by_cases hz : xs.length = 0
  · rw [hz, if_neg (fun e => e rfl), if_pos rfl]; rfl
  · rw [if_pos (show ¬ ni xs.length = 0 from fun e => hz ((ni_inj (k := 0) (by omega) (by decide)).mp e)), if_neg hz]; rfl
theorem J2_get {f : Nat} {h : CH} {a E c : Nat} {xs : List Nat} (hL : isL h a E c xs) {i x : Nat} (hi : xs[i]? = some x) : m_J2_get f h a (ni i) = some (x, h) := by
  obtain ⟨⟨mc, h1⟩, h2, h3, _, h4⟩ := hL
  have hlt : i < xs.length := (List.getElem?_eq_some_iff.mp hi).1
  unfold m_J2_get m_J15_checkIndex m_J12_checkIndex_N2
  rw [oI_c h1 rfl, bd_some, if_neg (show ¬ ni i < 0 from fun e => by have := (ni_lt (k := 0) (by omega) (by decide)).mp e; omega), if_pos ((ni_lt (by omega) (by omega)).mpr hlt), bd2_some]
  unfold m_J15_checkIndex_6
  rw [bd2_some]
  unfold m_J2_get_8 m_J2_elementData m_J2_get_14
  have he : cm h E = some (.inr (3, c, .inr (.inr (lsf xs)))) := by
    rcases h4 with h4 | h4
    · omega
    · exact h4.2
  have ha : aR h 3 E (ni i) = some x := by
    unfold aR aQ; rw [he]
    simp only [ix_ni (show i < c by omega) (by omega), and_self, if_true]
    rw [ni_clamp (by omega)]; unfold lsf; rw [hi]
  rw [gd_of (isC_c h1), oR_c h1 rfl, bd_some, ha, bd_some, bd2_some]
/-- a new one -/
theorem J2_new {f : Nat} {h : CH} (w : wfh h) {c : Nat} (hc : 0 < c) (hc2 : c ≤ 1000) : ∃ h', m_J2_init f (cn h 3 (.inl (17, [.int 0, .null, .int 0]))) h.1 (ni c) = some h' ∧ isL h' h.1 (h.1 + 1) c [] ∧ Ext 2 (3 + c) h h' ∧ h'.1 = h.1 + 2 := by
  have c0 := cm_cn_s h 3 (.inl (17, [.int 0, .null, .int 0]))
  have m0 : Ext 1 3 h (cn h 3 (.inl (17, [.int 0, .null, .int 0]))) := Mod.cn w
  have w0 := m0.2.2.2.2.2.2.2
  unfold m_J2_init m_J1_init_J2 m_J0_init_J2 m_J1_init_J2_4
  rw [bd_some, pF_c c0 w0 (by decide), bd_some, bd_some]
  unfold m_J2_init_4
  generalize h1e : cs (cn h 3 (.inl (17, [.int 0, .null, .int 0]))) h.1 (.inl (17, [Value.int 0, Value.null, Value.int 0].set 0 (.int 0))) = h1
  have c1 : cm h1 h.1 = some (.inl (17, [.int 0, .null, .int 0])) := by rw [← h1e, cm_cs_s]; rfl
  have e1 : h1.1 = h.1 + 1 := by rw [← h1e]; rfl
  have m1 : Ext 1 3 h h1 := by
    rw [← h1e]
    exact (m0.tr (Mod.cs (S := fun q => q = h.1) w0 c0 rfl) (fun q hq e => by have : q = h.1 := e; omega)).mono (fun _ _ => id) (by omega) (by omega)
  have w1 := m1.2.2.2.2.2.2.2
  rw [if_neg (show ¬ ni c ≤ 0 from fun e => by have := (ni_le (k := 0) (by omega) (by decide)).mp e; omega), gd_of (cntok_ni (by omega))]
  simp only [nmv_eq]
  rw [ni_clamp (by omega)]
  unfold m_J2_init_13 m_J2_init_60
  have m2 : Ext 1 c h1 (cn h1 c (.inr (3, c, .inr (.inr (fun _ => none))))) := Mod.cn w1
  have w2 := m2.2.2.2.2.2.2.2
  have c2 : cm (cn h1 c (.inr (3, c, .inr (.inr (fun _ => none))))) h.1 = some (.inl (17, [.int 0, .null, .int 0])) := by
    rw [cm_cn_o _ _ (cm_ne w1 c1)]; exact c1
  rw [pF_c c2 w2 (by decide), bd_some]
  refine ⟨_, rfl, ⟨⟨0, ?_⟩, Nat.zero_le _, by omega, fun x hx => (List.not_mem_nil hx).elim, .inr ⟨hc, ?_⟩⟩, ?_, ?_⟩
  · rw [cm_cs_s, e1]; rfl
  · rw [cm_cs_o _ (by omega), ← e1, cm_cn_s]
    have : lsf [] = fun _ => none := by funext i; simp [lsf]
    rw [this]
  · exact ((m1.tr m2 (fun _ _ => id)).tr (Mod.cs (S := fun q => q = h.1) w2 c2 rfl) (fun q hq e => by have : q = h.1 := e; omega)).mono (fun _ _ => id) (by omega) (by omega)
  · show h1.1 + 1 = _; rw [e1]
theorem J2_new0 {f : Nat} {h : CH} (w : wfh h) {d0 : Nat} (hd : sR h 0 = some d0) (hk : h.2.2.2.2.1 d0 = some (.inl 0)) (hb : d0 < h.2.2.1) : ∃ h', m_J2_init_2 f (cn h 3 (.inl (17, [.int 0, .null, .int 0]))) h.1 = some h' ∧ isL h' h.1 d0 0 [] ∧ Ext 1 3 h h' ∧ h'.1 = h.1 + 1 := by
  have c0 := cm_cn_s h 3 (.inl (17, [.int 0, .null, .int 0]))
  have m0 : Ext 1 3 h (cn h 3 (.inl (17, [.int 0, .null, .int 0]))) := Mod.cn w
  have w0 := m0.2.2.2.2.2.2.2
  unfold m_J2_init_2 m_J1_init_J2 m_J0_init_J2 m_J1_init_J2_4
  rw [bd_some, pF_c c0 w0 (by decide), bd_some, bd_some]
  unfold m_J2_init_2_4
  have b : Mod (fun q => q = h.1) 0 0 (cn h 3 (.inl (17, [.int 0, .null, .int 0]))) (cs (cn h 3 (.inl (17, [.int 0, .null, .int 0]))) h.1 (.inl (17, [Value.int 0, Value.null, Value.int 0].set 0 (.int 0)))) := Mod.cs w0 c0 rfl
  have w1 := b.2.2.2.2.2.2.2
  have c1 := cm_cs_s (cn h 3 (.inl (17, [.int 0, .null, .int 0]))) h.1 (.inl (17, [Value.int 0, Value.null, Value.int 0].set 0 (.int 0)))
  have hs : sR (cs (cn h 3 (.inl (17, [.int 0, .null, .int 0]))) h.1 (.inl (17, [Value.int 0, Value.null, Value.int 0].set 0 (.int 0)))) 0 = some d0 := hd
  rw [hs, bd_some, pF_c c1 w1 (by decide), bd_some]
  have b2 : Mod (fun q => q = h.1) 0 0 (cs (cn h 3 (.inl (17, [.int 0, .null, .int 0]))) h.1 (.inl (17, [Value.int 0, Value.null, Value.int 0].set 0 (.int 0)))) (cs (cs (cn h 3 (.inl (17, [.int 0, .null, .int 0]))) h.1 (.inl (17, [Value.int 0, Value.null, Value.int 0].set 0 (.int 0)))) h.1 (.inl (17, ([Value.int 0, Value.null, Value.int 0].set 0 (.int 0)).set 1 (.ref d0)))) := Mod.cs w1 c1 rfl
  have b3 := ((m0.tr b (fun q hq e => by have : q = h.1 := e; omega)).tr b2 (fun q hq e => by have : q = h.1 := e; omega))
  refine ⟨_, rfl, ⟨⟨0, ?_⟩, Nat.le_refl _, by omega, fun x hx => (List.not_mem_nil hx).elim, .inl ⟨rfl, hd, ?_, hk⟩⟩, b3.mono (fun _ _ => id) (by omega) (by omega), rfl⟩
  · rw [cm_cs_s]; rfl
  · have hlt : d0 < h.1 := Nat.lt_of_lt_of_le hb w.2
    rw [cm_cs_o _ (by omega), cm_cs_o _ (by omega), cm_cn_o _ _ (by omega)]
    cases h9 : cm h d0 with
    | none => rfl
    | some e => have := (w.1 d0 e h9).1; omega
/-- what constants there are, and where -/
def kok (h : CH) : Prop := (∀ q e, h.2.2.2.2.1 q = some e → q < h.2.2.1)
theorem kok.mod {S : Nat → Prop} {k n : Nat} {h h1 : CH} (a : Mod S k n h h1) (w : kok h) : kok h1 := by
  unfold kok; rw [a.2.2.2.2.2.1, a.2.2.2.2.1]; exact w
theorem lsf_push {xs : List Nat} {x : Nat} : va_up (lsf xs) xs.length (some x) = lsf (xs ++ [x]) := by
  funext i
  unfold va_up lsf
  by_cases h : i = xs.length
  · subst h; simp
  · rw [if_neg h]
    by_cases h2 : i < xs.length
    · rw [List.getElem?_append_left h2]
    · rw [List.getElem?_eq_none (by omega), List.getElem?_eq_none (by simp; omega)]
theorem isL.ne {h : CH} {a E c : Nat} {xs : List Nat} (w : wfh h) (hL : isL h a E c xs) : a ≠ E := by
  obtain ⟨⟨mc, h1⟩, h2, h3, _, h4⟩ := hL
  intro e
  subst e
  rcases h4 with h4 | h4
  · rw [h4.2.2.1] at h1; cases h1
  · rw [h4.2] at h1; cases h1
/-- a list is as it was where it was not written -/
theorem isL.mod {S : Nat → Prop} {k n : Nat} {h h1 : CH} {a E c : Nat} {xs : List Nat} (hL : isL h a E c xs) (m : Mod S k n h h1) (w : wfh h) (kk : kok h) (n1 : ¬ S a) (n2 : ¬ S E) (hs : ∀ q, S q → ∀ ci fs, cm h q = some (.inl (ci, fs)) → ∃ fs', cm h1 q = some (.inl (ci, fs'))) : isL h1 a E c xs := by
  obtain ⟨⟨mc, h1'⟩, h2, h3, h5, h4⟩ := hL
  refine ⟨⟨mc, m.at w h1' n1⟩, h2, h3, fun x hx => isO_mod m w (h5 x hx) kk hs, ?_⟩
  rcases h4 with h4 | h4
  · refine .inl ⟨h4.1, ?_, ?_, ?_⟩
    · unfold sR; rw [m.2.2.2.2.2.1]; exact h4.2.1
    · have hlt := kk _ _ h4.2.2.2
      cases h9 : cm h1 E with
      | none => rfl
      | some e => have := (m.2.2.2.2.2.2.2.1 E e h9).1; rw [m.2.2.2.2.1] at this; omega
    · rw [m.2.2.2.2.2.1]; exact h4.2.2.2
  · exact .inr ⟨h4.1, m.at w h4.2 n2⟩
theorem isL.ext {k n : Nat} {h h1 : CH} {a E c : Nat} {xs : List Nat} (hL : isL h a E c xs) (m : Ext k n h h1) (w : wfh h) (kk : kok h) : isL h1 a E c xs := hL.mod m w kk id id (fun q hq => hq.elim)
/-- one more at the end, where there is a place -/
theorem add_11 {f : Nat} {h : CH} (w : wfh h) (kk : kok h) {a E c : Nat} {xs : List Nat} (hL : isL h a E c xs) (hc : xs.length < c) {x : Nat} (hx : isO h x = true) : ∃ h', m_J2_add_2_11 f h a x E (ni xs.length) = some h' ∧ isL h' a E c (xs ++ [x]) ∧ Mod (lS a E) 0 0 h h' ∧ h'.1 = h.1 := by
  have hne := hL.ne w
  obtain ⟨⟨mc, h1⟩, h2, h3, h5, h4⟩ := hL
  have he : cm h E = some (.inr (3, c, .inr (.inr (lsf xs)))) := by
    rcases h4 with h4 | h4
    · omega
    · exact h4.2
  unfold m_J2_add_2_11
  have hu : uQ h 3 E (ni xs.length) (some x) = some (cs h E (.inr (3, c, .inr (.inr (lsf (xs ++ [x])))))) := by
    unfold uQ; rw [he]
    simp only [ix_ni hc (by omega), (w.1 _ _ he).1, and_self, if_true]
    rw [ni_clamp (by omega), lsf_push]
  rw [gd_of hx, hu, bd_some]
  have m1 : Mod (lS a E) 0 0 h (cs h E (.inr (3, c, .inr (.inr (lsf (xs ++ [x])))))) := Mod.cs w he (.inr rfl)
  have w1 := m1.2.2.2.2.2.2.2
  have c1 : cm (cs h E (.inr (3, c, .inr (.inr (lsf (xs ++ [x])))))) a = some (.inl (17, [.int mc, .ref E, .int (ni xs.length)])) := by rw [cm_cs_o _ hne]; exact h1
  rw [pF_c c1 w1 (by simp), bd_some]
  have m2 : Mod (lS a E) 0 0 (cs h E (.inr (3, c, .inr (.inr (lsf (xs ++ [x])))))) _ := Mod.cs (e := .inl (17, [Value.int mc, .ref E, .int (ni xs.length)].set 2 (.int (ni xs.length + 1)))) w1 c1 (.inl rfl)
  have m3 := m1.tr m2 (fun q _ hq => hq)
  have e2 := cm_cs_s (cs h E (.inr (3, c, .inr (.inr (lsf (xs ++ [x])))))) a (.inl (17, [Value.int mc, .ref E, .int (ni xs.length)].set 2 (.int (ni xs.length + 1))))
  have hO : ∀ y, isO h y = true → isO (cs (cs h E (.inr (3, c, .inr (.inr (lsf (xs ++ [x])))))) a (.inl (17, [Value.int mc, .ref E, .int (ni xs.length)].set 2 (.int (ni xs.length + 1))))) y = true := fun y hy => isO_mod m3 w hy kk (fun q hq ci fs hcq => by
    rcases hq with rfl | rfl
    · rw [h1] at hcq; cases hcq; exact ⟨_, e2⟩
    · rw [he] at hcq; cases hcq)
  refine ⟨_, rfl, ⟨⟨mc, ?_⟩, by simp; omega, h3, fun y hy => ?_, .inr ⟨by omega, ?_⟩⟩, m3, rfl⟩
  · rw [e2]
    show some (Sum.inl (17, [Value.int mc, .ref E, .int (ni xs.length + 1)])) = _
    rw [ni_succ, List.length_append]; rfl
  · rcases List.mem_append.mp hy with hy | hy
    · exact hO y (h5 y hy)
    · rw [List.mem_singleton.mp hy]; exact hO x hx
  · rw [cm_cs_o _ (Ne.symm hne), cm_cs_s]
/-- the count of changes goes up -/
theorem mc_up {h : CH} (w : wfh h) (kk : kok h) {a E c : Nat} {xs : List Nat} (hL : isL h a E c xs) : ∃ mc h', oI h 17 0 a = some mc ∧ pF h 17 0 a (.int (mc + 1)) = some h' ∧ isL h' a E c xs ∧ Mod (lS a E) 0 0 h h' ∧ h'.1 = h.1 ∧ (∀ y, isO h y = true → isO h' y = true) ∧ ∀ q, q ≠ a → cm h' q = cm h q := by
  have hne := hL.ne w
  obtain ⟨⟨mc, h1⟩, h2, h3, h5, h4⟩ := hL
  have m1 : Mod (lS a E) 0 0 h (cs h a (.inl (17, [Value.int mc, .ref E, .int (ni xs.length)].set 0 (.int (mc + 1))))) := Mod.cs w h1 (.inl rfl)
  have hO : ∀ y, isO h y = true → isO (cs h a (.inl (17, [Value.int mc, .ref E, .int (ni xs.length)].set 0 (.int (mc + 1))))) y = true := fun y hy => by
    have m1' : Mod (fun q => q = a) 0 0 h (cs h a (.inl (17, [Value.int mc, .ref E, .int (ni xs.length)].set 0 (.int (mc + 1))))) := Mod.cs w h1 rfl
    exact isO_mod m1' w hy kk (fun q hq ci fs hcq => by
      have hq' : q = a := hq
      subst hq'
      rw [h1] at hcq; cases hcq; exact ⟨_, cm_cs_s _ _ _⟩)
  refine ⟨mc, _, oI_c h1 rfl, pF_c h1 w (by simp) _, ⟨⟨mc + 1, ?_⟩, h2, h3, fun x hx => hO x (h5 x hx), ?_⟩, m1, rfl, hO, fun q hq => cm_cs_o _ hq⟩
  · rw [cm_cs_s]; rfl
  · rcases h4 with h4 | h4
    · exact .inl ⟨h4.1, h4.2.1, by rw [cm_cs_o _ (Ne.symm hne)]; exact h4.2.2.1, h4.2.2.2⟩
    · exact .inr ⟨h4.1, by rw [cm_cs_o _ (Ne.symm hne)]; exact h4.2⟩
theorem aN_L {h : CH} {a E c : Nat} {xs : List Nat} (hL : isL h a E c xs) : aN h 3 E = some c := by
  obtain ⟨_, _, _, _, h4⟩ := hL
  unfold aN
  rcases h4 with h4 | h4
  · rw [h4.2.2.1]; simp [h4.2.2.2, h4.1]
  · rw [h4.2]; simp
theorem J2_add {f : Nat} {h : CH} (w : wfh h) (kk : kok h) {a E c : Nat} {xs : List Nat} (hL : isL h a E c xs) (hc : xs.length < c) {x : Nat} (hx : isO h x = true) : ∃ h', m_J2_add f h a x = some (1, h') ∧ isL h' a E c (xs ++ [x]) ∧ Mod (lS a E) 0 0 h h' ∧ h'.1 = h.1 := by
  obtain ⟨mc, h', g1, g2, g3, g4, g5, g6, g7⟩ := mc_up w kk hL
  unfold m_J2_add m_J2_add_2 m_J2_add_23
  obtain ⟨mc', c1⟩ := g3.1
  rw [g1, bd_some, g2, bd_some, oR_c c1 rfl, bd_some, oI_c c1 rfl, bd_some, gd_of (isC_c c1), aN_L g3, bd_some]
  have hc3 := g3.2.2.1
  rw [if_pos (show ¬ ni xs.length = Int32.ofNat c from fun e => by have := (ni_inj (by omega) (by omega)).mp e; omega)]
  obtain ⟨h2, e1, e2, e3, e4⟩ := add_11 (f := f) g4.2.2.2.2.2.2.2 (kk.mod g4) g3 hc (g6 x hx)
  rw [e1, bd_some]
  exact ⟨h2, rfl, e2, (g4.tr e3 (fun q _ hq => hq)).mono (fun _ _ => id) (by omega) (by omega), by omega⟩
/-! growing -/
def capL : List Nat := [10, 15, 22, 33, 49, 73, 109, 163, 244, 366, 549]
theorem cap_shr : ∀ c ∈ [10, 15, 22, 33, 49, 73, 109, 163, 244, 366], (ni c >>> ((1 : Int32) &&& 31)) = ni (c / 2) ∧ c + c / 2 ∈ capL := by decide
theorem cap_lt : ∀ c ∈ capL, c ≤ 400 → c ∈ [10, 15, 22, 33, 49, 73, 109, 163, 244, 366] := by decide
theorem cap_ge : ∀ c ∈ [10, 15, 22, 33, 49, 73, 109, 163, 244, 366], 10 ≤ c ∧ c ≤ 366 := by decide
theorem lsf_copy {xs : List Nat} {n : Nat} (hn : n = xs.length) : va_cpy (lsf xs) (fun _ => none) 0 0 n = lsf xs := by
  funext i
  unfold va_cpy lsf
  subst hn
  simp
/-- places copied to as many or more new ones -/
theorem copyOf_2 {f : Nat} {h : CH} (w : wfh h) (kk : kok h) {E c c' : Nat} {xs : List Nat} {k40 : Nat} (hk : sR h 40 = some k40) (he : cm h E = some (.inr (3, c, .inr (.inr (lsf xs))))) (hx : ∀ x, x ∈ xs → isO h x = true) (hc : c ≤ 100000) (hc' : c' ≤ 100000) (hmin : (c' < c → c' = xs.length) ∧ (c ≤ c' → c = xs.length)) : ∃ h', m_J10_copyOf_2 f h E (ni c') = some (h.1, h') ∧ cm h' h.1 = some (.inr (3, c', .inr (.inr (lsf xs)))) ∧ Ext 1 c' h h' ∧ h'.1 = h.1 + 1 ∧ ∀ q, q ≠ h.1 → cm h' q = cm h q := by
  unfold m_J10_copyOf_2 m_J10_copyOf_3
  have i3 : isA3 h E = true := by unfold isA3; rw [he]; rfl
  rw [gd_of i3, hk, bd_some, bd_some, if_neg (fun e => e rfl), gd_of (cntok_ni (by omega))]
  simp only [nmv_eq]
  rw [ni_clamp (by omega)]
  unfold m_J10_copyOf_3_10 m_J9_min m_J9_min_10
  have m1 : Ext 1 c' h (cn h c' (.inr (3, c', .inr (.inr (fun _ => none))))) := Mod.cn w
  have w1 := m1.2.2.2.2.2.2.2
  have c1 : cm (cn h c' (.inr (3, c', .inr (.inr (fun _ => none))))) E = some (.inr (3, c, .inr (.inr (lsf xs)))) := by rw [cm_cn_o _ _ (cm_ne w he)]; exact he
  have c2 := cm_cn_s h c' (.inr (3, c', .inr (.inr (fun _ => none))))
  have a1 : aN (cn h c' (.inr (3, c', .inr (.inr (fun _ => none))))) 3 E = some c := by unfold aN; rw [c1]; simp
  rw [a1, bd_some]
  have hl : xs.length ≤ c ∧ xs.length ≤ c' := by
    by_cases hlt : c' < c
    · have := hmin.1 hlt; omega
    · have := hmin.2 (by omega); omega
  have hm : (if ni c' < Int32.ofNat c then some (ni c') else some (Int32.ofNat c) : Option Int32) = some (ni xs.length) := by
    by_cases hlt : c' < c
    · rw [if_pos ((ni_lt (by omega) (by omega)).mpr hlt), hmin.1 hlt]
    · rw [if_neg (fun e => hlt ((ni_lt (by omega) (by omega)).mp e)), ← hmin.2 (by omega)]
  rw [hm, bd_some]
  have hok : okE (cn h c' (.inr (3, c', .inr (.inr (fun _ => none))))) (lsf xs) 0 xs.length = true := by
    unfold okE
    rw [List.all_eq_true]
    intro i hi
    rw [List.mem_range] at hi
    unfold lsf
    rw [Nat.zero_add, List.getElem?_eq_getElem hi]
    exact isO_mod m1 w (hx xs[i] (List.getElem_mem hi)) kk (fun q hq => hq.elim)
  have hn0 : ¬ (ni xs.length < 0) := fun e => by have := (ni_lt (k := 0) (by omega) (by decide)).mp e; omega
  have hcp : cpO (cn h c' (.inr (3, c', .inr (.inr (fun _ => none))))) E 0 h.1 0 (ni xs.length) = some (cs (cn h c' (.inr (3, c', .inr (.inr (fun _ => none))))) h.1 (.inr (3, c', .inr (.inr (lsf xs))))) := by
    unfold cpO
    rw [c1, c2]
    have hz : ((0 : Int32)).toNatClampNeg = 0 := rfl
    simp only [hz, ni_clamp (show xs.length < 2 ^ 31 by omega), Nat.zero_add]
    rw [if_pos ⟨(w1.1 _ _ c2).1, by decide, by decide, hn0, hl.1, hl.2, hok⟩, lsf_copy rfl]
  rw [hcp, bd_some, bd2_some]
  unfold m_J10_copyOf_2_9
  have m2 : Mod (fun q => q = h.1) 0 0 (cn h c' (.inr (3, c', .inr (.inr (fun _ => none))))) (cs (cn h c' (.inr (3, c', .inr (.inr (fun _ => none))))) h.1 (.inr (3, c', .inr (.inr (lsf xs))))) := Mod.cs w1 c2 rfl
  refine ⟨_, rfl, cm_cs_s _ _ _, (m1.tr m2 (fun q hq e => by have : q = h.1 := e; omega)).mono (fun _ _ => id) (by omega) (by omega), rfl, fun q hq => ?_⟩
  rw [cm_cs_o _ hq, cm_cn_o _ _ hq]
/-- new places for the list: it is as it was, with room -/
theorem J2_grow {f : Nat} {h : CH} (w : wfh h) (kk : kok h) {k40 : Nat} (hk : sR h 40 = some k40) {a E c : Nat} {xs : List Nat} (hL : isL h a E c xs) (hc : c = xs.length) (hcc : c = 0 ∨ c ∈ [10, 15, 22, 33, 49, 73, 109, 163, 244, 366]) : ∃ h' c', m_J2_grow f h a = some (h.1, h') ∧ isL h' a h.1 c' xs ∧ c' ∈ capL ∧ c < c' ∧ c' + 4 * c ≤ 4 * c' ∧ Mod (lS a E) 1 c' h h' ∧ h'.1 = h.1 + 1 ∧ ∀ y, isO h y = true → isO h' y = true := by
  have hL0 := hL
  have hne := hL.ne w
  obtain ⟨⟨mc, h1⟩, h2, h3, h5, h4⟩ := hL
  unfold m_J2_grow m_J2_grow_2
  rw [oI_c h1 rfl, bd_some, gd_of (isC_c h1), oR_c h1 rfl, bd_some, aN_L hL0, bd_some, nmv_eq, bd_some]
  rcases hcc with h0 | h0
  · subst h0
    have hx : xs = [] := List.eq_nil_of_length_eq_zero hc.symm
    subst hx
    rcases h4 with h4 | h4
    · rw [if_neg (show ¬ (0 : Int32) < Int32.ofNat 0 by decide), h4.2.1, bd_some, if_pos rfl]
      unfold m_J9_max
      rw [if_neg (show ¬ (10 : Int32) < ni ([] : List Nat).length + 1 by decide)]
      unfold m_J9_max_10
      rw [bd2_some]
      unfold m_J2_grow_2_52 m_J2_grow_2_55 m_J2_grow_10
      rw [gd_of (show cntok 10 = true by decide)]
      simp only [nmv_eq]
      have e10 : Int32.toNatClampNeg 10 = 10 := by decide
      rw [e10]
      have m1 : Ext 1 10 h (cn h 10 (.inr (3, 10, .inr (.inr (fun _ => none))))) := Mod.cn w
      have w1 := m1.2.2.2.2.2.2.2
      have c1 : cm (cn h 10 (.inr (3, 10, .inr (.inr (fun _ => none))))) a = some (.inl (17, [.int mc, .ref E, .int (ni ([] : List Nat).length)])) := by rw [cm_cn_o _ _ (cm_ne w h1)]; exact h1
      rw [pF_c c1 w1 (by simp), bd_some, bd2_some]
      have m2 : Mod (lS a E) 0 0 (cn h 10 (.inr (3, 10, .inr (.inr (fun _ => none))))) _ := Mod.cs (e := .inl (17, [Value.int mc, .ref E, .int (ni ([] : List Nat).length)].set 1 (.ref h.1))) w1 c1 (.inl rfl)
      have m3 : Mod (lS a E) 1 10 h _ := (m1.mono (fun _ _ q => q.elim) (Nat.le_refl _) (Nat.le_refl _)).tr m2 (fun q _ hq => hq)
      have e2 := cm_cs_s (cn h 10 (.inr (3, 10, .inr (.inr (fun _ => none))))) a (.inl (17, [Value.int mc, .ref E, .int (ni ([] : List Nat).length)].set 1 (.ref h.1)))
      refine ⟨_, 10, rfl, ⟨⟨mc, ?_⟩, by simp, by omega, fun x hx => (List.not_mem_nil hx).elim, .inr ⟨by omega, ?_⟩⟩, by decide, by omega, by omega, m3, rfl, fun y hy => ?_⟩
      · rw [e2]; rfl
      · rw [cm_cs_o _ (Ne.symm (cm_ne w h1)), cm_cn_s]
        have : lsf [] = fun _ => none := by funext i; simp [lsf]
        rw [this]
      · exact isO_mod m3 w hy kk (fun q hq ci fs hcq => by
          rcases hq with rfl | rfl
          · rw [h1] at hcq; cases hcq; exact ⟨_, e2⟩
          · rw [h4.2.2.1] at hcq; cases hcq)
    · omega
  · obtain ⟨g1, g2⟩ := cap_ge c h0
    obtain ⟨s1, s2⟩ := cap_shr c h0
    have he : cm h E = some (.inr (3, c, .inr (.inr (lsf xs)))) := by
      rcases h4 with h4 | h4
      · omega
      · exact h4.2
    rw [if_pos (show (0 : Int32) < Int32.ofNat c from (ni_lt (n := 0) (by decide) (by omega)).mpr (by omega))]
    unfold m_J2_grow_2_20 m_J8_newLength m_J9_max m_J9_max_10
    have d1 : ni xs.length + 1 - Int32.ofNat c = ni 1 := by
      rw [← hc, ni_succ]
      show ni (c + 1) - ni c = ni 1
      rw [← ni_succ]
      show ni c + 1 - ni c = 1
      rw [Int32.add_comm, Int32.add_sub_cancel]
    have s1' : (Int32.ofNat c >>> ((1 : Int32) &&& 31)) = ni (c / 2) := s1
    rw [d1, s1', if_pos ((ni_lt (by decide) (by omega)).mpr (by omega)), bd2_some]
    unfold m_J8_newLength_6
    have d2 : Int32.ofNat c + ni (c / 2) = ni (c + c / 2) := (Int32.ofNat_add c (c / 2)).symm
    rw [nmv_eq, d2, if_neg (show ¬ ni (c + c / 2) ≤ 0 from fun e => by have := (ni_le (k := 0) (by omega) (by decide)).mp e; omega), if_neg (show ¬ (2147483639 : Int32) < ni (c + c / 2) from fun e => by have := (ni_lt (n := 2147483639) (by decide) (by omega)).mp e; omega), bd2_some]
    unfold m_J2_grow_2_30 m_J2_grow_2_40 m_J2_grow_10
    obtain ⟨h6, q1, q2, q3, q4, q5⟩ := copyOf_2 (f := f) w kk hk he h5 h3 (c' := c + c / 2) (by omega) ⟨fun hh => by omega, fun _ => hc⟩
    rw [oR_c h1 rfl, bd_some, q1, bd2_some]
    have w6 := q3.2.2.2.2.2.2.2
    have c6 : cm h6 a = some (.inl (17, [.int mc, .ref E, .int (ni xs.length)])) := by rw [q5 a (cm_ne w h1)]; exact h1
    rw [pF_c c6 w6 (by simp), bd_some, bd2_some]
    have m2 : Mod (lS a E) 0 0 h6 _ := Mod.cs (e := .inl (17, [Value.int mc, .ref E, .int (ni xs.length)].set 1 (.ref h.1))) w6 c6 (.inl rfl)
    have m3 : Mod (lS a E) 1 (c + c / 2) h _ := (q3.mono (fun _ _ q => q.elim) (Nat.le_refl _) (Nat.le_refl _)).tr m2 (fun q _ hq => hq)
    have e2 := cm_cs_s h6 a (.inl (17, [Value.int mc, .ref E, .int (ni xs.length)].set 1 (.ref h.1)))
    have hO : ∀ y, isO h y = true → isO (cs h6 a (.inl (17, [Value.int mc, .ref E, .int (ni xs.length)].set 1 (.ref h.1)))) y = true := fun y hy => isO_mod m3 w hy kk (fun q hq ci fs hcq => by
          rcases hq with rfl | rfl
          · rw [h1] at hcq; cases hcq; exact ⟨_, e2⟩
          · rw [he] at hcq; cases hcq)
    refine ⟨_, c + c / 2, rfl, ⟨⟨mc, ?_⟩, by omega, by omega, fun x hx => hO x (h5 x hx), .inr ⟨by omega, ?_⟩⟩, s2, by omega, by omega, m3, by rw [← q4]; rfl, hO⟩
    · rw [e2]; rfl
    · rw [cm_cs_o _ (Ne.symm (cm_ne w h1))]; exact q2
/-- one more at the end, whatever room there is -/
theorem J2_addg {f : Nat} {h : CH} (w : wfh h) (kk : kok h) {k40 : Nat} (hk : sR h 40 = some k40) {a E c : Nat} {xs : List Nat} (hL : isL h a E c xs) (hcc : c = 0 ∨ c ∈ capL) (hlen : xs.length ≤ 400) {x : Nat} (hx : isO h x = true) : ∃ h' E' c' n, m_J2_add f h a x = some (1, h') ∧ isL h' a E' c' (xs ++ [x]) ∧ c' ∈ capL ∧ Mod (lS a E) 1 n h h' ∧ n + 4 * c ≤ 4 * c' ∧ (E' = E ∨ E' = h.1) := by
  by_cases hlt : xs.length < c
  · obtain ⟨h', e1, e2, e3, e4⟩ := J2_add (f := f) w kk hL hlt hx
    refine ⟨h', E, c, 0, e1, e2, ?_, e3.mono (fun _ _ => id) (by omega) (by omega), by omega, .inl rfl⟩
    rcases hcc with h0 | h0
    · omega
    · exact h0
  · obtain ⟨mc, h1, g1, g2, g3, g4, g5, g6, g7⟩ := mc_up w kk hL
    have hc : c = xs.length := by have := hL.2.1; omega
    have hcc' : c = 0 ∨ c ∈ [10, 15, 22, 33, 49, 73, 109, 163, 244, 366] := by
      rcases hcc with h0 | h0
      · exact .inl h0
      · exact .inr (cap_lt c h0 (by omega))
    unfold m_J2_add m_J2_add_2 m_J2_add_23
    obtain ⟨mc', c1⟩ := g3.1
    rw [g1, bd_some, g2, bd_some, oR_c c1 rfl, bd_some, oI_c c1 rfl, bd_some, gd_of (isC_c c1), aN_L g3, bd_some]
    rw [if_neg (show ¬ ¬ ni xs.length = Int32.ofNat c from fun e => e (by rw [hc]))]
    have w1 := g4.2.2.2.2.2.2.2
    have k1 := kk.mod g4
    have hk1 : sR h1 40 = some k40 := by unfold sR; rw [g4.2.2.2.2.2.1]; exact hk
    obtain ⟨h2, c', p1, p2, p3, p4, p5, p6, p7, p8⟩ := J2_grow (f := f) w1 k1 hk1 g3 hc hcc'
    rw [gd_of (isC_c c1), p1, bd2_some]
    unfold m_J2_add_2_10
    obtain ⟨h3, e1, e2, e3, e4⟩ := add_11 (f := f) p6.2.2.2.2.2.2.2 (k1.mod p6) p2 (by omega) (p8 x (g6 x hx))
    rw [e1, bd_some]
    refine ⟨h3, h1.1, c', c', rfl, e2, p3, ?_, p5, .inr g5⟩
    exact ((g4.tr p6 (fun q _ hq => hq)).tr e3 (fun q hq hs => by
      rcases hs with hs | hs
      · exact .inl hs
      · omega)).mono (fun _ _ => id) (by omega) (by omega)
