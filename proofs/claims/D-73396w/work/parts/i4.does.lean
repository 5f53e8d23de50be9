/-! acts: the component does a step -/
set_option maxRecDepth 100000
/-- what acts may write -/
def dS (A : Nat → Nat) (lo : Nat) : Nat → Prop := fun q => q = A 21 ∨ q = A 22 ∨ q = A 23 ∨ lo ≤ q
theorem AOk.d {A : Nat → Nat} {lo : Nat} {al : List Nat} (O : AOk A lo al) : (∀ q, q ∈ al → ¬ dS A lo q) ∧ ¬ dS A lo 0 := by
  have lt := (O.2.1 _ (fA_i (i := 23) (by decide) (by decide))).1
  refine ⟨fun q hq e => ?_, fun e => ?_⟩
  · rcases e with e | e | e | e
    · exact (O.2.1 _ (fA_i (i := 21) (by decide) (by decide))).2 (by rw [← e]; exact hq)
    · exact (O.2.1 _ (fA_i (i := 22) (by decide) (by decide))).2 (by rw [← e]; exact hq)
    · exact (O.2.1 _ (fA_i (i := 23) (by decide) (by decide))).2 (by rw [← e]; exact hq)
    · have := O.2.2.1 q hq; omega
  · rcases e with e | e | e | e
    · exact O.2.2.2 (by rw [e]; exact fA_i (by decide) (by decide))
    · exact O.2.2.2 (by rw [e]; exact fA_i (by decide) (by decide))
    · exact O.2.2.2 (by rw [e]; exact fA_i (by decide) (by decide))
    · omega
theorem PI.out {ts : List It} {W : Nat → Mi} {acts : List Act} {wy : Why} (P : PI ts W acts) {k i : Nat} (hk : k < ts.length) (ho : (ts.getD k ([], none)).2 = none) (hi : i < 3) {M : Mi} (h1 : ∀ r c, r < 3 → c < 3 → r ≠ i → (M r c).natAbs ≤ 20) (a : Int32) : PI ts (out W acts wy a k i M).2.1 (out W acts wy a k i M).2.2.1 := by
  unfold Jvm.Pilot.CCoincideBenchLaw_law_r8029_ca2b77.out
  split
  · exact P
  · rename_i h20
    split
    · rename_i hz
      have okM' : okM M := by
        unfold knd at hz
        by_cases hw : 20 < (M i 0).natAbs ∨ 20 < (M i 1).natAbs ∨ 20 < (M i 2).natAbs
        · rw [if_pos hw] at hz; cases hz
        · rw [if_neg hw] at hz
          by_cases hd : 1 ≤ (dtf M).natAbs ∧ (dtf M).natAbs ≤ 60
          · refine ⟨fun r c hr hc => ?_, hd.1, hd.2⟩
            by_cases e : r = i
            · subst e
              rcases c3 hc with rfl | rfl | rfl <;> omega
            · exact h1 r c hr hc e
          · rw [if_neg hd] at hz; cases hz
      have okW := P.own hk ho
      obtain ⟨p1, p2, p3', p4⟩ := P
      refine ⟨p1, fun z hzl => ?_, by show (acts ++ [(k, W)]).length ≤ 20; rw [List.length_append]; show acts.length + 1 ≤ 20; omega, fun z l Wk hzz => ?_⟩
      · have := p2 z hzl
        cases hq : (ts.getD z ([], none)).2 with
        | none =>
          rw [hq] at this
          show okM (updW W k M z)
          unfold updW
          split
          · exact okM'
          · exact this
        | some j => rw [hq] at this; exact this
      · have hzz' : (acts ++ [(k, W)])[z]? = some (l, Wk) := hzz
        by_cases hza : z < acts.length
        · rw [List.getElem?_append_left hza] at hzz'
          obtain ⟨q1, q2, q3, q4⟩ := p4 z l Wk hzz'
          refine ⟨q1, q2, q3, fun l' hl' hne => ?_⟩
          rw [q4 l' hl' hne]
          show _ = (match (acts ++ [(k, W)])[z + 1]? with | some (_, W') => W' | none => updW W k M) l'
          by_cases hzb : z + 1 < acts.length
          · rw [List.getElem?_append_left hzb]
            cases hn : acts[z + 1]? with
            | none => rw [List.getElem?_eq_none_iff] at hn; omega
            | some v => rfl
          · rw [List.getElem?_append_right (by omega), show z + 1 - acts.length = 0 by omega, List.getElem?_eq_none (by omega)]; rfl
        · have hze : z = acts.length := by
            have := (List.getElem?_eq_some_iff.mp hzz').1
            rw [List.length_append] at this
            have e1 : ([(k, W)] : List Act).length = 1 := rfl
            omega
          subst hze
          rw [List.getElem?_append_right (Nat.le_refl _), Nat.sub_self] at hzz'
          cases hzz'
          refine ⟨hk, ho, okW, fun l' hl' hne => ?_⟩
          show _ = (match (acts ++ [(k, W)])[acts.length + 1]? with | some (_, W') => W' | none => updW W k M) l'
          rw [List.getElem?_eq_none (by rw [List.length_append]; exact Nat.le_refl _)]
          show W l' = updW W k M l'
          unfold updW; rw [if_neg hne]
    · exact P
theorem out_n {W : Nat → Mi} {acts : List Act} {wy : Why} {a : Int32} {k i : Nat} {M : Mi} (ha : acts.length ≤ 20) (h : ¬ (acts.length < 20 ∧ knd M i = 0)) : (out W acts wy a k i M).1 = -5 := by
  unfold out
  split
  · rfl
  · split
    · rename_i h1 h2; exact absurd ⟨by omega, h2⟩ h
    · rfl
/-- rows changed, kept or refused -/
theorem X0_chg {f : Nat} (hf : 4 ≤ f) {h : CH} {A : Nat → Nat} {lo : Nat} {al : List Nat} (O : AOk A lo al) {b : Nat → Nat} {n : Nat} {fk fp : Int32} {ts : List It} {W : Nat → Mi} {acts : List Act} {wy : Why} (C : CIv h A lo b n fk fp ts W acts wy) (P : PI ts W acts) {k i : Nat} (hk : k < ts.length) (ho : (ts.getD k ([], none)).2 = none) {R : RA} {M : Mi} (hR : isN h R M) (nR : nwO lo R) (hi : i < 3) (h2 : ∀ r c, r < 3 → c < 3 → (M r c).natAbs ≤ 2000) (a : Int32) : ∃ h1, Mod (dS A lo) 2 15 h h1 ∧ CIv h1 A lo b n fk fp ts (out W acts wy a k i M).2.1 (out W acts wy a k i M).2.2.1 (out W acts wy a k i M).2.2.2 ∧ (((out W acts wy a k i M).1 = 0 ∧ m_X0_changes f h (A 23) a (ni k) R.1 (ni i) = some (.inl (), h1)) ∨ ((out W acts wy a k i M).1 = -5 ∧ ∃ q g, m_X0_changes f h (A 23) a (ni k) R.1 (ni i) = some (.inr q, g) ∧ isC g q 16 = true ∧ pF g 1 13 (A 23) (.ref q) = some h1)) := by
  by_cases hz : acts.length < 20 ∧ knd M i = 0
  · obtain ⟨h1, q, a1, a2, a3, a4⟩ := X0_chg_y hf O C hk ho hR nR hi h2 hz.1 hz.2 a
    rw [out_y hz.1 hz.2]
    refine ⟨h1, a3.mono (fun z _ e => ?_) (by omega) (by omega), a2, .inl ⟨rfl, a1⟩⟩
    rcases e with e | e | e
    · exact .inl e
    · exact .inr (.inl e)
    · exact .inr (.inr (.inr (by omega)))
  · obtain ⟨g, q, wy', a1, a2, a3, a4, a5⟩ := X0_chg_n (W := W) (wy := wy) (k := k) hf C hR hi h2 P.2.2.1 hz a
    rw [a2]
    have Cg := C.ext a5
    have Cg' := Cg
    obtain ⟨wg, kfg, _, _, ⟨t1, t2, rf, c1, _⟩, _⟩ := Cg'
    obtain ⟨s1, s2⟩ := CIv.setx O Cg (n' := n) (fk' := fk) (fp' := fp) (t1 := t1) (t2 := t2) (Nat.le_refl _) a3
    refine ⟨_, (a5.mono (T := dS A lo) (fun _ _ h => h.elim) (Nat.le_refl _) (Nat.le_refl _)).tr (s2.mono (T := dS A lo) (fun z _ e => .inr (.inr (.inl e))) (Nat.le_refl _) (Nat.le_refl _)) (fun _ _ h => h), s1, .inr ⟨rfl, q, g, a1, a4, ?_⟩⟩
    exact pF_c c1 wg (by simp) _
theorem X0_does {f : Nat} (hf : 4 ≤ f) {h : CH} {A : Nat → Nat} {lo : Nat} {al : List Nat} (O : AOk A lo al) {b : Nat → Nat} {n : Nat} {fk fp : Int32} {ts : List It} {W : Nat → Mi} {acts : List Act} {wy : Why} (C : CIv h A lo b n fk fp ts W acts wy) (P : PI ts W acts) {k i : Nat} (hk : k < ts.length) (ho : (ts.getD k ([], none)).2 = none) {S : Nat} {st : St} (hS : cm h S = some (stC st)) (hst : st.2.1 = ni i) {M : Mi} (hs : sRel st (W k) M) (hi : i < 3) (h2 : ∀ r c, r < 3 → c < 3 → (M r c).natAbs ≤ 2000) (a : Int32) : ∃ h1, Mod (dS A lo) 7 28 h h1 ∧ CIv h1 A lo b n fk fp ts (out W acts wy a k i M).2.1 (out W acts wy a k i M).2.2.1 (out W acts wy a k i M).2.2.2 ∧ m_X0_does f h (A 23) a (ni k) S = some (.inl (out W acts wy a k i M).1, h1) := by
  have C' := C
  obtain ⟨w, kf0, l0, n5, ⟨t1, t2, rf, c1, cw⟩, X, _, ⟨fl, L⟩, _⟩ := C'
  obtain ⟨q, f1, f2, f3, f4⟩ := CL_at (f := f) L c1 rfl hk
  unfold cLt at f3
  rw [ho] at f3
  obtain ⟨R0, o1, o2⟩ := f3
  obtain ⟨h3, p1, p2, p3', p4⟩ := X2_copy (f := f) hf w o1.2
  obtain ⟨h4, g1, g2, g3⟩ := X9_goes (f := f) hf p3'.wf (p3'.at w hS id) p2 hs
  have e4 : Ext 5 13 h h4 := Ext.trn p3' g3 (fun z hz => by obtain ⟨i, hi, e⟩ := hz; rw [e]; show h.1 ≤ h.1 + 1 + 1 + i; omega)
  have C4 := C.ext e4
  have nR : nwO lo (nwR h) := ⟨l0, by show lo ≤ h.1 + 1; omega, fun i _ => by show lo ≤ h.1 + 1 + 1 + i; omega⟩
  obtain ⟨h1, m1, C1, D1⟩ := X0_chg hf O C4 P hk ho g2 nR hi h2 a
  have c4 := e4.at w c1 id
  refine ⟨h1, ((e4.mono (T := dS A lo) (fun _ _ h => h.elim) (Nat.le_refl _) (Nat.le_refl _)).tr m1 (fun _ _ h => h)).up (by omega) (by omega), C1, ?_⟩
  unfold m_X0_does m_X0_does_5
  rw [gd_of (isC_c c1), f4, bd2_some, oR_c (k := 0) o1.1 rfl, bd_some, gd_of (isC_R o1.2), p1, bd2_some]
  unfold m_X0_does_11
  rw [gd_of (isC_c (p3'.at w hS id)), show h.1 = (nwR h).1 from rfl, g1, bd_some]
  unfold m_X0_does_19
  rw [oI_c (k := 1) (x := ni i) (e4.at w hS id) (by rw [← hst]; rfl), bd_some, gd_of (isC_c c4)]
  rcases D1 with ⟨d1, d2⟩ | ⟨d1, q', g', d2, d3, d4⟩
  · rw [d2, bx_l, d1]; rfl
  · rw [d2, bx_r, gd_of d3, d1]
    unfold m_X0_does_33
    rw [d4, bd_some]
