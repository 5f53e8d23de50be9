/-! steps; rows with their steps, one more step -/
set_option maxRecDepth 100000
abbrev St : Type := Int32 × Int32 × Int32 × Int64
def stC (s : St) : AC := .inl (9, [.int s.1, .int s.2.1, .int s.2.2.1, .long s.2.2.2])
/-- what a step does to rows -/
def sRel (st : St) (N N' : Mi) : Prop := (∃ r o t, r < 3 ∧ o < 3 ∧ r ≠ o ∧ st = (1, ni r, ni o, li t) ∧ N' = addR N r o t) ∨ (∃ r o t, r < 3 ∧ st = (2, ni r, o, t) ∧ N' = ovrR N r) ∨ (∃ r o t, r < 3 ∧ o < 3 ∧ r ≠ o ∧ st = (0, ni r, ni o, t) ∧ N' = excR N r o)
theorem X9_goes {f : Nat} (hf : 4 ≤ f) {h : CH} (w : wfh h) {S : Nat} {st : St} (hS : cm h S = some (stC st)) {R : RA} {N N' : Mi} (hR : isN h R N) (hs : sRel st N N') : ∃ h', m_X9_goes f h S R.1 = some h' ∧ isN h' R N' ∧ Mod (rS R) 0 0 h h' := by
  unfold m_X9_goes
  rcases hs with ⟨r, o, t, hr, ho, hne, rfl, rfl⟩ | ⟨r, o, t, hr, rfl, rfl⟩ | ⟨r, o, t, hr, ho, hne, rfl, rfl⟩
  · obtain ⟨h', e1, e2, e3⟩ := X2_adds hf w hR hr ho hne t
    rw [oI_c hS rfl, bd_some, if_neg (fun e => e rfl), oI_c hS rfl, bd_some, oI_c hS rfl, bd_some, oL_c hS rfl, bd_some, gd_of (isC_R hR), e1, bd_some]
    exact ⟨h', rfl, e2, e3⟩
  · obtain ⟨h', e1, e2, e3⟩ := X2_turnsOver hf w hR hr
    rw [oI_c hS rfl, bd_some, if_pos (show ¬ (2 : Int32) = 1 by decide), bd_some, if_neg (fun e => e rfl), oI_c hS rfl, bd_some, gd_of (isC_R hR), e1, bd_some]
    exact ⟨h', rfl, e2, e3⟩
  · obtain ⟨h', e1, e2, e3⟩ := X2_exchanges hf w hR hr ho hne
    rw [oI_c hS rfl, bd_some, if_pos (show ¬ (0 : Int32) = 1 by decide), bd_some, if_pos (show ¬ (0 : Int32) = 2 by decide), oI_c hS rfl, bd_some, oI_c hS rfl, bd_some, gd_of (isC_R hR), e1, bd_some]
    exact ⟨h', rfl, e2, e3⟩
theorem X9_init {f : Nat} {h : CH} (w : wfh h) (st : St) : ∃ h', m_X9_init f (cn h 4 (.inl (9, [.int 0, .int 0, .int 0, .long 0]))) h.1 st.1 st.2.1 st.2.2.1 st.2.2.2 = some h' ∧ cm h' h.1 = some (stC st) ∧ Ext 1 4 h h' ∧ h'.1 = h.1 + 1 := by
  have c0 := cm_cn_s h 4 (.inl (9, [.int 0, .int 0, .int 0, .long 0]))
  have m0 : Ext 1 4 h (cn h 4 (.inl (9, [.int 0, .int 0, .int 0, .long 0]))) := Mod.cn w
  have w0 := m0.2.2.2.2.2.2.2
  unfold m_X9_init
  have m1 := Mod.cs (S := fun q => q = h.1) (e := .inl (9, [Value.int 0, .int 0, .int 0, .long 0].set 0 (.int st.1))) w0 c0 rfl
  have c1 := cm_cs_s (cn h 4 (.inl (9, [.int 0, .int 0, .int 0, .long 0]))) h.1 (.inl (9, [Value.int 0, .int 0, .int 0, .long 0].set 0 (.int st.1)))
  have w1 := m1.2.2.2.2.2.2.2
  rw [pF_c c0 w0 (by simp), bd_some, pF_c c1 w1 (by simp), bd_some]
  have m2 := Mod.cs (S := fun q => q = h.1) (e := .inl (9, ([Value.int 0, .int 0, .int 0, .long 0].set 0 (.int st.1)).set 1 (.int st.2.1))) w1 c1 rfl
  have c2 := cm_cs_s (cs (cn h 4 (.inl (9, [.int 0, .int 0, .int 0, .long 0]))) h.1 (.inl (9, [Value.int 0, .int 0, .int 0, .long 0].set 0 (.int st.1)))) h.1 (.inl (9, ([Value.int 0, .int 0, .int 0, .long 0].set 0 (.int st.1)).set 1 (.int st.2.1)))
  have w2 := m2.2.2.2.2.2.2.2
  rw [pF_c c2 w2 (by simp), bd_some]
  have m3 := Mod.cs (S := fun q => q = h.1) (e := .inl (9, (([Value.int 0, .int 0, .int 0, .long 0].set 0 (.int st.1)).set 1 (.int st.2.1)).set 2 (.int st.2.2.1))) w2 c2 rfl
  have w3 := m3.2.2.2.2.2.2.2
  have c3 := cm_cs_s (cs (cs (cn h 4 (.inl (9, [.int 0, .int 0, .int 0, .long 0]))) h.1 (.inl (9, [Value.int 0, .int 0, .int 0, .long 0].set 0 (.int st.1)))) h.1 (.inl (9, ([Value.int 0, .int 0, .int 0, .long 0].set 0 (.int st.1)).set 1 (.int st.2.1)))) h.1 (.inl (9, (([Value.int 0, .int 0, .int 0, .long 0].set 0 (.int st.1)).set 1 (.int st.2.1)).set 2 (.int st.2.2.1)))
  rw [pF_c c3 w3 (by simp), bd_some]
  have m4 := Mod.cs (S := fun q => q = h.1) (e := .inl (9, ((([Value.int 0, .int 0, .int 0, .long 0].set 0 (.int st.1)).set 1 (.int st.2.1)).set 2 (.int st.2.2.1)).set 3 (.long st.2.2.2))) w3 c3 rfl
  have hq : ∀ q, q < h.1 → q = h.1 → False := fun q h1 h2 => by omega
  exact ⟨_, rfl, cm_cs_s _ _ _, ((((m0.tr m1 hq).tr m2 hq).tr m3 hq).tr m4 hq).mono (fun _ _ => id) (by omega) (by omega), rfl⟩
/-- rows brought to a form, at a, with their steps; all made since h0 -/
def isH8 (K M : Nat) (h0 h : CH) (a : Nat) (R : RA) (L : Nat) (s : Mi × List St) : Prop := h0.1 ≤ a ∧ cm h a = some (.inl (8, [.ref R.1, .ref L])) ∧ isN h R s.1 ∧ (∀ i, i < 3 → h0.1 ≤ R.2.2 i) ∧ h0.1 ≤ L ∧ ∃ (E c : Nat) (xs : List Nat), isL h L E c xs ∧ (c = 0 ∨ (c ∈ capL ∧ h0.1 ≤ E)) ∧ xs.length = s.2.length ∧ (∀ (i : Nat) (x : Nat), xs[i]? = some x → ∃ st : St, s.2[i]? = some st ∧ cm h x = some (stC st)) ∧ Ext (K + 2 * s.2.length) (M + 4 * s.2.length + 4 * c) h0 h
theorem Mod.ab {S : Nat → Prop} {k n : Nat} {h h' : CH} (m : Mod S k n h h') (w : wfh h) : Mod (fun q => S q ∧ h.2.2.1 ≤ q) k n h h' := by
  obtain ⟨a1, a2, a3, a4, a5, a6, a7, a8⟩ := m
  refine ⟨a1, a2, a3, a4, a5, a6, fun q hq hs => ?_, a8⟩
  by_cases hb : h.2.2.1 ≤ q
  · exact a7 q hq (fun hS => hs ⟨hS, hb⟩)
  · have e1 : cm h q = none := by
      cases h9 : cm h q with
      | none => rfl
      | some e => exact absurd (w.1 q e h9).1 hb
    have e2 : cm h' q = none := by
      cases h9 : cm h' q with
      | none => rfl
      | some e => have := (a8.1 q e h9).1; rw [a5] at this; exact absurd this hb
    rw [e1, e2]
theorem X8_does {f K M : Nat} (hf : 4 ≤ f) {h0 h : CH} (kk : kok h) {k40 : Nat} (hk : sR h 40 = some k40) {a L : Nat} {R : RA} {s : Mi × List St} (H : isH8 K M h0 h a R L s) {st : St} {N' : Mi} (hs : sRel st s.1 N') (hlen : s.2.length ≤ 400) : ∃ h', m_X8_does f h a st.1 st.2.1 st.2.2.1 st.2.2.2 = some h' ∧ isH8 K M h0 h' a R L (N', s.2 ++ [st]) ∧ kok h' ∧ sR h' 40 = some k40 := by
  obtain ⟨ha, ca, hR, hRo, hLo, E, c, xs, hL, hc, hxl, hxs, hX⟩ := H
  have w := hX.2.2.2.2.2.2.2
  unfold m_X8_does
  simp only [nmv_eq]
  obtain ⟨h1, i1, i2, i3, i4⟩ := X9_init (f := f) w st
  unfold m_X8_does_3
  rw [i1, bd_some]
  unfold m_X8_does_12
  have w1 := i3.2.2.2.2.2.2.2
  have ca1 := i3.at w ca id
  have hR1 := hR.ext i3 w
  have hL1 := hL.ext i3 w kk
  have kk1 := kk.mod i3
  obtain ⟨h2, g1, g2, g3⟩ := X9_goes hf w1 i2 hR1 hs
  have w2 := g3.2.2.2.2.2.2.2
  rw [oR_c ca1 rfl, bd_some, gd_of (isC_c i2), g1, bd_some]
  unfold m_X8_does_23
  have nR : ∀ {q : Nat} {o : Nat × List Value}, cm h1 q = some (.inl o) → ¬ rS R q := by
    rintro q o hq ⟨i, hi, rfl⟩
    rw [hR1.2.2.1 i hi] at hq; cases hq
  have ca2 := g3.at w1 ca1 (nR ca1)
  have i22 := g3.at w1 i2 (nR i2)
  obtain ⟨mc, hl⟩ := hL1.1
  have nE : ¬ rS R E := by
    rintro ⟨i, hi, e⟩
    rcases hL1.2.2.2.2 with h9 | h9
    · rw [e, hR1.2.2.1 i hi] at h9; cases h9.2.2.1
    · rw [e, hR1.2.2.1 i hi] at h9; cases h9.2
  have hL2 := hL1.mod g3 w1 kk1 (nR hl) nE (fun q hq ci fs hcq => absurd hq (nR hcq))
  have kk2 := kk1.mod g3
  have hk2 : sR h2 40 = some k40 := by unfold sR; rw [g3.2.2.2.2.2.1, i3.2.2.2.2.2.1]; exact hk
  have hcc : c = 0 ∨ c ∈ capL := by rcases hc with h9 | h9; exact .inl h9; exact .inr h9.1
  obtain ⟨h3, E', c', n, e1, e2, e3, e4, e5, e6⟩ := J2_addg (f := f) w2 kk2 hk2 hL2 hcc (by omega) (x := h.1) (isO_c i22 (by decide))
  obtain ⟨mc2, hl2⟩ := hL2.1
  rw [oR_c ca2 rfl, bd_some, gd_of (isC_c hl2), e1, bd2_some]
  unfold m_X8_does_32
  have nO : ∀ {q : Nat} {ci : Nat} {fs : List Value}, ci ≠ 17 → cm h2 q = some (.inl (ci, fs)) → ¬ lS L E q := by
    intro q ci fs hci hq hl9
    rcases hl9 with rfl | rfl
    · rw [hl2] at hq; cases hq; exact hci rfl
    · rcases hL2.2.2.2.2 with h9 | h9
      · rw [hq] at h9; cases h9.2.2.1
      · rw [hq] at h9; cases h9.2
  have nA : ∀ {q : Nat} {t m : Nat} {o : (Nat → Int32) ⊕ (Nat → Int64) ⊕ (Nat → Option Nat)}, t ≠ 3 → cm h2 q = some (.inr (t, m, o)) → ¬ lS L E q := by
    intro q t m o ht hq hl9
    rcases hl9 with rfl | rfl
    · rw [hl2] at hq; cases hq
    · rcases hL2.2.2.2.2 with h9 | h9
      · rw [hq] at h9; cases h9.2.2.1
      · rw [hq] at h9; cases h9.2; exact ht rfl
  have hold : ∀ q, q < h0.1 → (lS L E q ∧ h2.2.2.1 ≤ q) → False := by
    intro q hq ⟨hl9, hbq⟩
    rcases hl9 with rfl | rfl
    · omega
    · rcases hc with h9 | h9
      · rcases hL2.2.2.2.2 with h8 | h8
        · have hb := kk2 _ _ h8.2.2.2
          omega
        · omega
      · omega
  have hh : h0.1 ≤ h2.1 := Nat.le_trans hX.1 (Nat.le_trans i3.1 g3.1)
  refine ⟨h3, rfl, ⟨ha, e4.at w2 ca2 (nO (by decide) ca2), g2.mod e4 w2 (nO (by decide) g2.1) (nA (by decide) g2.2.1) (fun i hi => nA (by decide) (g2.2.2.1 i hi)), hRo, hLo, E', c', xs ++ [h.1], e2, .inr ⟨e3, ?_⟩, by simp [hxl], ?_, ?_⟩, kk2.mod e4, by unfold sR; rw [e4.2.2.2.2.2.1]; exact hk2⟩
  · rcases e6 with e6 | e6
    · rw [e6]
      rcases hc with h9 | h9
      · exfalso
        subst e6
        rcases e2.2.2.2.2 with h8 | h8
        · rw [h8.1] at e3; revert e3; decide
        · rcases hL2.2.2.2.2 with h7 | h7
          · have h6 := (e4.2.2.2.2.2.2.2.1 _ _ h8.2).1
            have h5 := kk2 _ _ h7.2.2.2
            rw [e4.2.2.2.2.1] at h6
            omega
          · omega
      · exact h9.2
    · omega
  · intro i x hx
    by_cases hi : i < xs.length
    · rw [List.getElem?_append_left hi] at hx
      obtain ⟨st', q1, q2⟩ := hxs i x hx
      refine ⟨st', ?_, ?_⟩
      · rw [List.getElem?_append_left (by omega)]; exact q1
      · have q3 := g3.at w1 (i3.at w q2 id) (nR (i3.at w q2 id))
        exact e4.at w2 q3 (nO (by decide) q3)
    · have hi2 : i = xs.length := by
        have := (List.getElem?_eq_some_iff.mp hx).1
        simp at this; omega
      subst hi2
      simp at hx
      subst hx
      refine ⟨st, ?_, e4.at w2 i22 (nO (by decide) i22)⟩
      rw [hxl]; simp
  · have b1 : Ext (K + 2 * s.2.length + 1) (M + 4 * s.2.length + 4 * c + 4) h0 h1 := hX.tr i3 (fun _ _ => id)
    have b2 : Ext (K + 2 * s.2.length + 1 + 0) (M + 4 * s.2.length + 4 * c + 4 + 0) h0 h2 := b1.tr g3 (fun q hq hs9 => by obtain ⟨i, hi, rfl⟩ := hs9; have := hRo i hi; omega)
    have b3 := b2.tr (e4.ab w2) hold
    exact b3.mono (fun _ _ => id) (by simp; omega) (by simp; omega)
