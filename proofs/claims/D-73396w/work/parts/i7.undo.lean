/-! acts: undo, anew -/
set_option maxRecDepth 100000
theorem J2_remove_l {f : Nat} {h : CH} (w : wfh h) (kk : kok h) {a E c : Nat} {ys : List Nat} {x : Nat} (hc : 0 < c) (hL : isL h a E c (ys ++ [x])) : ∃ h', m_J2_remove f h a (ni ys.length) = some (x, h') ∧ isL h' a E c ys ∧ Mod (lS a E) 0 0 h h' := by
  have hne := hL.ne w
  have hL' := hL
  obtain ⟨mc0, h6, g1, g2, g3, g4, g5, g6, g7⟩ := mc_up w kk hL
  have len : (ys ++ [x]).length = ys.length + 1 := by rw [List.length_append]; rfl
  obtain ⟨⟨mcA, cA⟩, lc, c5, _, hA⟩ := hL'
  have heA : cm h E = some (.inr (3, c, .inr (.inr (lsf (ys ++ [x]))))) := by
    rcases hA with h4 | h4
    · omega
    · exact h4.2
  have g3' := g3
  obtain ⟨⟨mc', c1⟩, h2, h3, h5, h4⟩ := g3'
  have he : cm h6 E = some (.inr (3, c, .inr (.inr (lsf (ys ++ [x]))))) := by
    rcases h4 with h4 | h4
    · omega
    · exact h4.2
  have w6 := g4.wf
  rw [len] at c1 cA
  have e1 : ni (ys.length + 1) - (1 : Int32) = ni ys.length := by rw [← ni_succ, Int32.add_sub_cancel]
  obtain ⟨h7, p1, p2, p3', p4⟩ := pF_on (k := 2) c1 w6 (by simp) (.int (ni ys.length))
  have he7 : cm h7 E = some (.inr (3, c, .inr (.inr (lsf (ys ++ [x]))))) := p3'.at w6 he (fun e => hne e.symm)
  have up : va_up (lsf (ys ++ [x])) ys.length none = lsf ys := by
    funext j
    unfold va_up lsf
    by_cases hj : j = ys.length
    · rw [if_pos hj, hj, List.getElem?_eq_none (Nat.le_refl _)]
    · rw [if_neg hj]
      by_cases hl : j < ys.length
      · rw [List.getElem?_append_left hl]
      · rw [List.getElem?_eq_none (by rw [len]; omega), List.getElem?_eq_none (by omega)]
  have hu : uQ h7 3 E (ni ys.length) none = some (cs h7 E (.inr (3, c, .inr (.inr (lsf ys))))) := by
    unfold uQ; rw [he7]
    simp only [ix_ni (show ys.length < c by omega) (by omega), (p3'.wf.1 _ _ he7).1, and_self, if_true]
    rw [ni_clamp (by omega), up]
  have m8 : Mod (fun q => q = E) 0 0 h7 (cs h7 E (.inr (3, c, .inr (.inr (lsf ys))))) := Mod.cs p3'.wf he7 rfl
  have c8 := cm_cs_s h7 E (.inr (3, c, .inr (.inr (lsf ys))))
  generalize cs h7 E (.inr (3, c, .inr (.inr (lsf ys)))) = h8 at hu m8 c8
  have M68 : Mod (lS a E) 0 0 h6 h8 := (p3'.mono (T := lS a E) (fun _ _ e => .inl e) (Nat.le_refl _) (Nat.le_refl _)).tr m8 (fun _ _ e => .inr e)
  have a8 : cm h8 a = some (.inl (17, [.int mc', .ref E, .int (ni ys.length)])) := m8.at p3'.wf p2 (fun e => hne e)
  refine ⟨h8, ?_, ⟨⟨mc', a8⟩, by omega, h3, fun z hz => ?_, .inr ⟨hc, c8⟩⟩, g4.tr M68 (fun _ _ e => e)⟩
  · unfold m_J2_remove m_J15_checkIndex m_J12_checkIndex_N2
    rw [oI_c cA rfl, bd_some, if_neg (show ¬ ni ys.length < 0 from fun e => by have := (ni_lt (k := 0) (by omega) (by decide)).mp e; omega), if_pos ((ni_lt (by omega) (by omega)).mpr (by omega)), bd2_some]
    unfold m_J15_checkIndex_6
    rw [bd2_some]
    unfold m_J2_remove_8
    have ar : aR h 3 E (ni ys.length) = some x := by
      unfold aR aQ; rw [heA]
      simp only [ix_ni (show ys.length < c by omega) (by omega), and_self, if_true]
      rw [ni_clamp (by omega)]
      unfold lsf
      rw [List.getElem?_append_right (Nat.le_refl _), Nat.sub_self]; rfl
    rw [oR_c cA rfl, bd_some, ar, bd_some, gd_of (isC_c cA)]
    unfold m_J2_fastRemove
    rw [g1, bd_some, g2, bd_some, oI_c c1 rfl, bd_some, nmv_eq, e1, if_pos (Int32.le_refl _)]
    unfold m_J2_fastRemove_34 m_J2_remove_24
    rw [p1, bd_some, hu, bd_some, bd_some]
  · refine isO_mod M68 w6 (h5 z (List.mem_append_left _ hz)) (kok.mod g4 kk) (fun q hq ci fs hc' => ?_)
    rcases hq with rfl | rfl
    · rw [c1] at hc'; cases hc'; exact ⟨_, a8⟩
    · rw [he] at hc'; cases hc'
theorem CL.cg {h : CH} {A : Nat → Nat} {lo : Nat} {fl : List Nat} {ts : List It} {W W' : Nat → Mi} (L : CL h A lo fl ts W) (e : ∀ k, k < ts.length → W k = W' k) : CL h A lo fl ts W' := by
  obtain ⟨a1, a2, a3, a4⟩ := L
  refine ⟨a1, a2, a3, fun k it hk => ?_⟩
  obtain ⟨a, z1', z2', z3'⟩ := a4 k it hk
  refine ⟨a, z1', z2', ?_⟩
  have hl := (List.getElem?_eq_some_iff.mp hk).1
  unfold cLt at z3' ⊢
  cases hq : it.2 with
  | none => rw [hq] at z3'; rw [← e k hl]; exact z3'
  | some j => rw [hq] at z3'; exact z3'
theorem CIv.cgW {h : CH} {A : Nat → Nat} {lo : Nat} {b : Nat → Nat} {n : Nat} {fk fp : Int32} {ts : List It} {W W' : Nat → Mi} {acts : List Act} {wy : Why} (C : CIv h A lo b n fk fp ts W acts wy) (e : ∀ k, k < ts.length → W k = W' k) : CIv h A lo b n fk fp ts W' acts wy := by
  obtain ⟨w, kf0, l0, n5, x, X, t, ⟨fl, L⟩, acl⟩ := C
  exact ⟨w, kf0, l0, n5, x, X, t, ⟨fl, L.cg e⟩, acl⟩
theorem PI.back {ts : List It} {W Wl : Nat → Mi} {pre : List Act} {l : Nat} (P : PI ts W (pre ++ [(l, Wl)])) : PI ts Wl pre ∧ l < ts.length ∧ (ts.getD l ([], none)).2 = none ∧ okM (Wl l) ∧ (∀ l', l' < 5 → l' ≠ l → Wl l' = W l') ∧ pre.length < 20 := by
  obtain ⟨p1, p2, p3', p4⟩ := P
  have len : (pre ++ [(l, Wl)]).length = pre.length + 1 := by rw [List.length_append]; rfl
  obtain ⟨q1, q2, q3, q4⟩ := p4 pre.length l Wl (by rw [List.getElem?_append_right (Nat.le_refl _), Nat.sub_self]; rfl)
  rw [List.getElem?_eq_none (by rw [len]; exact Nat.le_refl _)] at q4
  refine ⟨⟨p1, fun k hk => ?_, by omega, fun z l2 Wk hz => ?_⟩, q1, q2, q3, q4, by omega⟩
  · have := p2 k hk
    cases hq : (ts.getD k ([], none)).2 with
    | none =>
      rw [hq] at this
      show okM (Wl k)
      by_cases e : k = l
      · subst e; exact q3
      · rw [q4 k (by omega) e]; exact this
    | some j => rw [hq] at this; exact this
  · have hza := (List.getElem?_eq_some_iff.mp hz).1
    obtain ⟨r1, r2, r3, r4⟩ := p4 z l2 Wk (by rw [List.getElem?_append_left hza]; exact hz)
    refine ⟨r1, r2, r3, fun l' hl' hne => ?_⟩
    rw [r4 l' hl' hne]
    by_cases hzb : z + 1 < pre.length
    · rw [List.getElem?_append_left hzb]
      cases hn : pre[z + 1]? with
      | none => rw [List.getElem?_eq_none_iff] at hn; omega
      | some v => rfl
    · rw [List.getElem?_append_right (by omega), show z + 1 - pre.length = 0 by omega, (show pre[z + 1]? = none from List.getElem?_eq_none (by omega))]; rfl
theorem X0_back {f : Nat} {h : CH} {A : Nat → Nat} {lo : Nat} {al : List Nat} (O : AOk A lo al) {b : Nat → Nat} {n : Nat} {fk fp : Int32} {ts : List It} {W Wl : Nat → Mi} {pre : List Act} {l : Nat} {wy : Why} (C : CIv h A lo b n fk fp ts W (pre ++ [(l, Wl)]) wy) (P : PI ts W (pre ++ [(l, Wl)])) : ∃ h1, m_X0_takesBack f h (A 23) = some h1 ∧ CIv h1 A lo b n fk fp ts Wl pre wy ∧ Mod (dS A lo) 0 0 h h1 := by
  obtain ⟨P', hk, ho, okl, chn, len20⟩ := P.back
  have C' := C
  obtain ⟨w, kf0, l0, n5, ⟨t1, t2, rf, c1, cw⟩, X, ⟨tf, c2, c3'⟩, ⟨fl, L⟩, acl, AC'⟩ := C'
  have lt : ∀ i, i < 30 → i ≠ 24 → A i < lo := fun i hi h4 => (O.2.1 _ (fA_i hi h4)).1
  have d1 := lt 21 (by decide) (by decide)
  have d2 := lt 22 (by decide) (by decide)
  have len : (pre ++ [(l, Wl)]).length = pre.length + 1 := by rw [List.length_append]; rfl
  have alen : acl.length = pre.length + 1 := by rw [AC'.2.1, len]
  obtain ⟨apre, c, ea⟩ : ∃ apre c, acl = apre ++ [c] := by
    rcases List.eq_nil_or_concat acl with e | ⟨L', b', e⟩
    · rw [e] at alen; cases alen
    · exact ⟨L', b', by rw [e, List.concat_eq_append]⟩
  subst ea
  have aplen : apre.length = pre.length := by rw [List.length_append] at alen; exact Nat.succ.inj alen
  obtain ⟨c0, R, z1', z2', z3', z4', z5⟩ := AC'.2.2 pre.length l Wl (by rw [List.getElem?_append_right (Nat.le_refl _), Nat.sub_self]; rfl)
  rw [← aplen, List.getElem?_append_right (Nat.le_refl _), Nat.sub_self] at z1'
  have z1'' : some c = some c0 := z1'
  cases z1''
  obtain ⟨mc, cA⟩ := AC'.1.1
  obtain ⟨q, f1, f2, f3, f4⟩ := CL_at (f := f) L c1 rfl hk
  unfold cLt at f3
  rw [ho] at f3
  obtain ⟨R0, o1, o2⟩ := f3
  obtain ⟨h5, a1, a2, a3⟩ := J2_remove_l (f := f) w kf0.kok (by decide) AC'.1
  have nlS : ∀ {z}, lo ≤ z → ¬ lS (A 21) (A 22) z := fun {z} hz e => by rcases e with e | e <;> omega
  have c15 : cm h5 (A 23) = some (xC A (ni ts.length) (ni n) fk fp t1 t2 rf) := a3.at w c1 (fun e => by
    rcases e with e | e
    · exact O.ne (i := 23) (j := 21) (by decide) (by decide) (by decide) (by decide) (by decide) e
    · exact O.ne (i := 23) (j := 22) (by decide) (by decide) (by decide) (by decide) (by decide) e)
  have o15 := a3.at w o1.1 (nlS f2)
  have cc5 := a3.at w z3' (nlS z2')
  have L5 : isL h5 (A 0) (A 1) 5 fl := by
    refine L.1.mod a3 w kf0.kok (fun e => ?_) (fun e => ?_) (fun z hz ci fs hc => ?_)
    · rcases e with e | e
      · exact O.ne (i := 0) (j := 21) (by decide) (by decide) (by decide) (by decide) (by decide) e
      · exact O.ne (i := 0) (j := 22) (by decide) (by decide) (by decide) (by decide) (by decide) e
    · rcases e with e | e
      · exact O.ne (i := 1) (j := 21) (by decide) (by decide) (by decide) (by decide) (by decide) e
      · exact O.ne (i := 1) (j := 22) (by decide) (by decide) (by decide) (by decide) (by decide) e
    · rcases hz with rfl | rfl
      · have e := isL_obj AC'.1 hc
        obtain ⟨mc, e1⟩ := a2.1
        rw [e]; exact ⟨_, e1⟩
      · exact (isL_arr AC'.1 hc).elim
  have at5 : m_X0_at f h5 (A 23) (ni l) = some (q, h5) := by
    unfold m_X0_at m_X0_at_8
    obtain ⟨mc0, cL0⟩ := L5.1
    rw [oR_c (k := 0) (x := A 0) c15 rfl, bd_some, gd_of (isC_c cL0), J2_get L5 f1, bd2_some, if_pos (isC_c o15)]
  obtain ⟨h6, b1, b2, b3, b4⟩ := pF_on (k := 0) o15 a3.wf (by simp) (.ref R.1)
  have m06 : Mod (aS A q) 0 0 h h6 := (a3.mono (T := aS A q) (fun z _ hz => by rcases hz with e | e; exact .inl e; exact .inr (.inl e)) (Nat.le_refl _) (Nat.le_refl _)).tr b3 (fun z _ hz => .inr (.inr hz))
  have hR6 : isN h6 R (Wl l) := isN.ct (mc := 0) (E := .null) (z := .null) m06 w o1.1 d1 d2 z4' z5
  have L6 : isL h6 (A 21) (A 22) 20 apre := by
    refine a2.mod b3 a3.wf (kf0.mod a3).kok (fun e => ?_) (fun e => ?_) (fun z hz ci fs hc => ?_)
    · have e' : A 21 = q := e; omega
    · have e' : A 22 = q := e; omega
    · have e' : z = q := hz
      subst e'
      rw [o15] at hc; cases hc; exact ⟨_, b2⟩
  have CA6 : CA h6 A lo apre pre := by
    refine ⟨L6, aplen, fun z l2 Wk hz => ?_⟩
    have hza := (List.getElem?_eq_some_iff.mp hz).1
    obtain ⟨az, Rz, y1, y2, y3, y4, y5⟩ := AC'.2.2 z l2 Wk (by rw [List.getElem?_append_left hza]; exact hz)
    rw [List.getElem?_append_left (by omega)] at y1
    exact ⟨az, Rz, y1, y2, ct_at m06 w o1.1 d1 d2 y3 y2 (by decide), isN.ct (mc := 0) (E := .null) (z := .null) m06 w o1.1 d1 d2 y4 y5, y5⟩
  have C6 := CIv.act (acts := pre) O w kf0 l0 n5 c1 cw X c2 c3' L AC'.1 m06 hk ho f1 f2 o1.1 b2 hR6 z5 CA6
  refine ⟨h6, ?_, C6.cgW (fun k hkl => ?_), m06.mono (fun z _ e => ?_) (Nat.le_refl _) (Nat.le_refl _)⟩
  · have e1 : ni (apre ++ [c]).length - (1 : Int32) = ni apre.length := by rw [alen, aplen, ← ni_succ, Int32.add_sub_cancel]
    unfold m_X0_takesBack m_X0_takesBack_11
    rw [oR_c (k := 14) (x := A 21) c1 rfl, bd_some, bd_some, gd_of (isC_c cA), J2_size AC'.1, bd2_some, gd_of (isC_c cA), e1, a1, bd2_some]
    unfold m_X0_takesBack_16 m_X0_takesBack_28
    rw [gd_of (isC_c cc5), oI_c (k := 0) cc5 rfl, bd_some, gd_of (isC_c c15), at5, bd2_some, oR_c (k := 1) cc5 rfl, bd_some, b1, bd_some]
  · unfold updW
    by_cases e : k = l
    · rw [if_pos e, e]
    · rw [if_neg e]; exact (chn k (by have := P.1; omega) e).symm
  · rcases e with e | e | e
    · exact .inl e
    · exact .inr (.inl e)
    · exact .inr (.inr (.inr (by omega)))
theorem lat0 {h : CH} {A : Nat → Nat} {lo : Nat} {fl : List Nat} {ts : List It} {W : Nat → Mi} {f : Nat} (L : CL h A lo fl ts W) : m_J2_isEmpty f h (A 0) = some (if ts.length = 0 then 1 else 0, h) := by rw [J2_isEmpty L.1, L.2.1]
theorem ok_undo {f : Nat} (hf : 1000 < f) {h : CH} {A : Nat → Nat} {lo y : Nat} {al : List Nat} {b : Nat → Nat} {n : Nat} {fk fp : Int32} {ts : List It} {W : Nat → Mi} {acts : List Act} {wy : Why} (I : Inv h A lo y al b n fk fp ts W acts wy) : Ok (m_X0_undo f h (A 23)) (fun h1 => tcr h1 y (fun z => m_X3_undo f z)) h A lo y al := by
  have I' := I
  obtain ⟨O, C, P, u, H, T⟩ := I'
  have C' := C
  obtain ⟨w, kf0, l0, n5, ⟨t1, t2, rf, c1, cw⟩, X, _, ⟨fl, L⟩, acl, AC'⟩ := C'
  obtain ⟨mc, cA⟩ := AC'.1.1
  obtain ⟨mc0, c0⟩ := L.1.1
  have p5 := P.1
  have n1 : ∀ u, TI u b n fk fp ts W acts wy → (tA u 0 (Int32.toNatClampNeg (1 : Int32)) = (0 : Int32) ↔ ts.length = 0) := fun u T => by
    rw [show Int32.toNatClampNeg (1 : Int32) = 1 from rfl, T.2.2.2.2.1]; exact ni_inj (k := 0) (by omega) (by decide)
  have n2 : ∀ u, TI u b n fk fp ts W acts wy → tA u 0 (Int32.toNatClampNeg (2 : Int32)) = ni acts.length := fun u T => by
    rw [show Int32.toNatClampNeg (2 : Int32) = 2 from rfl, T.2.2.2.2.2.1]
  by_cases hz : ts.length = 0
  · refine Ok.same (r := -2) I ?_ (fun u T => ?_)
    · unfold m_X0_undo m_X0_undo_7
      rw [oR_c (k := 0) (x := A 0) c1 rfl, bd_some, gd_of (isC_c c0), lat0 L, bd2_some, if_pos hz, if_neg (show ¬ (1 : Int32) = 0 by decide)]
    · show m_X3_undo f u = _
      unfold m_X3_undo
      rw [if_neg (fun hh => hh ((n1 u T).mpr hz))]
  · have eC : m_X0_undo f h (A 23) = m_X0_undo_20 f h (A 23) (if acts.length = 0 then 1 else 0) := by
      unfold m_X0_undo m_X0_undo_7
      rw [oR_c (k := 0) (x := A 0) c1 rfl, bd_some, gd_of (isC_c c0), lat0 L, bd2_some, if_neg hz, if_pos rfl, oR_c (k := 14) (x := A 21) c1 rfl, bd_some, gd_of (isC_c cA), J2_isEmpty AC'.1, bd2_some, AC'.2.1]
    rcases List.eq_nil_or_concat acts with e | ⟨pre, z, e⟩
    · subst e
      refine Ok.same (r := -5) I ?_ (fun u T => ?_)
      · rw [eC]; rfl
      · show m_X3_undo f u = _
        unfold m_X3_undo
        rw [if_pos (fun hh => hz ((n1 u T).mp hh)), n2 u T]; rfl
    · have e' : acts = pre ++ [z] := by rw [e, List.concat_eq_append]
      obtain ⟨l, Wl⟩ := z
      subst e'
      have len : (pre ++ [(l, Wl)]).length = pre.length + 1 := by rw [List.length_append]; rfl
      obtain ⟨h1, a1, C1, m1⟩ := X0_back (f := f) O C P
      obtain ⟨P', _, _, _, _, l20⟩ := P.back
      have T0 : TI (rdU h y) b n fk fp ts W (pre ++ [(l, Wl)]) wy := T.rf (H.agr.rF (l := [])) (fun k _ hk => by cases hk)
      obtain ⟨u1, g1, g2⟩ := X3_goesBack (f := f) (by omega) T0 (by omega) P.1 (j := pre.length) (l := l) (Wj := Wl) (by rw [List.getElem?_append_right (Nat.le_refl _), Nat.sub_self]; rfl)
      rw [List.take_left' rfl] at g2
      refine Ok.mk (r := ni pre.length) O H m1 (by omega) (by omega) O.d.1 O.d.2 ?_ C1 P' ?_ g2
      · rw [eC]
        unfold m_X0_undo_20
        rw [len, if_neg (show ¬ pre.length + 1 = 0 by omega), if_pos rfl, gd_of (isC_c c1), a1, bd_some]
        obtain ⟨_, _, _, _, ⟨s1, s2, srf, d1, _⟩, _, _, _, acl1, AC1⟩ := C1
        obtain ⟨mc1, cA1⟩ := AC1.1.1
        unfold m_X0_undo_30 m_X0_undo_37
        rw [oR_c (k := 14) (x := A 21) d1 rfl, bd_some, gd_of (isC_c cA1), J2_size AC1.1, bd2_some, AC1.2.1]
      · show m_X3_undo f (rdU h y) = _
        unfold m_X3_undo
        rw [if_pos (fun hh => hz ((n1 _ T0).mp hh)), n2 _ T0, len, if_pos (show ¬ ni (pre.length + 1) = (0 : Int32) from fun hh => by have := (ni_inj (k := 0) (by omega) (by decide)).mp hh; omega), show ni (pre.length + 1) - (1 : Int32) = ni pre.length by rw [← ni_succ, Int32.add_sub_cancel], g1, bd_some, show Int32.toNatClampNeg (2 : Int32) = 2 from rfl, g2.2.2.2.2.2.1]
def wz0 (W : Nat → Mi) : List Act → Nat → Mi
  | [] => W
  | (_, W0) :: _ => W0
theorem wz0_c (W Wl : Nat → Mi) (pre : List Act) (l : Nat) : wz0 W (pre ++ [(l, Wl)]) = wz0 Wl pre := by
  cases pre with
  | nil => rfl
  | cons a t => rfl
theorem X0_an21 {f : Nat} {A : Nat → Nat} {lo : Nat} {al : List Nat} (O : AOk A lo al) {b : Nat → Nat} {n : Nat} {fk fp : Int32} {ts : List It} {wy : Why} (r : Int32) : ∀ j m h W acts, acts.length = j → j < m → CIv h A lo b n fk fp ts W acts wy → PI ts W acts → ∃ h1, m_X0_anew_21 f m h (A 23) r = some (r, h1) ∧ CIv h1 A lo b n fk fp ts (wz0 W acts) [] wy ∧ PI ts (wz0 W acts) [] ∧ Mod (dS A lo) 0 0 h h1 := by
  intro j
  induction j with
  | zero =>
    intro m h W acts ha hm C P
    obtain ⟨m, rfl⟩ : ∃ z, m = z + 1 := ⟨m - 1, by omega⟩
    have e : acts = [] := List.length_eq_zero_iff.mp ha
    subst e
    refine ⟨h, ?_, C, P, Mod.rf C.1⟩
    obtain ⟨w, kf0, l0, n5, ⟨t1, t2, rf, c1, cw⟩, X, _, ⟨fl, L⟩, acl, AC'⟩ := C
    obtain ⟨mc, cA⟩ := AC'.1.1
    rw [m_X0_anew_21, oR_c (k := 14) (x := A 21) c1 rfl, bd_some, gd_of (isC_c cA), J2_isEmpty AC'.1, bd2_some, AC'.2.1]
    rfl
  | succ j ih =>
    intro m h W acts ha hm C P
    obtain ⟨m, rfl⟩ : ∃ z, m = z + 1 := ⟨m - 1, by omega⟩
    rcases List.eq_nil_or_concat acts with e | ⟨pre, z, e⟩
    · subst e; cases ha
    · have e' : acts = pre ++ [z] := by rw [e, List.concat_eq_append]
      obtain ⟨l, Wl⟩ := z
      subst e'
      have len : (pre ++ [(l, Wl)]).length = pre.length + 1 := by rw [List.length_append]; rfl
      obtain ⟨h1, a1, C1, m1⟩ := X0_back (f := f) O C P
      obtain ⟨h2, b1, b2, b3, b4⟩ := ih m h1 Wl pre (by omega) (by omega) C1 P.back.1
      rw [wz0_c]
      refine ⟨h2, ?_, b2, b3, m1.tr b4 (fun _ _ e => e)⟩
      obtain ⟨w, kf0, l0, n5, ⟨t1, t2, rf, c1, cw⟩, X, _, ⟨fl, L⟩, acl, AC'⟩ := C
      obtain ⟨mc, cA⟩ := AC'.1.1
      rw [m_X0_anew_21, oR_c (k := 14) (x := A 21) c1 rfl, bd_some, gd_of (isC_c cA), J2_isEmpty AC'.1, bd2_some, AC'.2.1, len, if_neg (show ¬ pre.length + 1 = 0 by omega)]
      unfold m_X0_anew_28 m_X0_anew_35
      rw [if_neg (fun hh => hh rfl), gd_of (isC_c c1), a1, bd_some, b1]
theorem ok_anew {f : Nat} (hf : 1000 < f) {h : CH} {A : Nat → Nat} {lo y : Nat} {al : List Nat} {b : Nat → Nat} {n : Nat} {fk fp : Int32} {ts : List It} {W : Nat → Mi} {acts : List Act} {wy : Why} (I : Inv h A lo y al b n fk fp ts W acts wy) : Ok (m_X0_anew f h (A 23)) (fun h1 => tcr h1 y (fun z => m_X3_anew f z)) h A lo y al := by
  have I' := I
  obtain ⟨O, C, P, u, H, T⟩ := I'
  have C' := C
  obtain ⟨w, kf0, l0, n5, ⟨t1, t2, rf, c1, cw⟩, X, _, ⟨fl, L⟩, acl, AC'⟩ := C'
  obtain ⟨mc, cA⟩ := AC'.1.1
  obtain ⟨mc0, c0⟩ := L.1.1
  have p5 := P.1
  have p20 := P.2.2.1
  have n1 : ∀ u, TI u b n fk fp ts W acts wy → (tA u 0 (Int32.toNatClampNeg (1 : Int32)) = (0 : Int32) ↔ ts.length = 0) := fun u T => by
    rw [show Int32.toNatClampNeg (1 : Int32) = 1 from rfl, T.2.2.2.2.1]; exact ni_inj (k := 0) (by omega) (by decide)
  have n2 : ∀ u, TI u b n fk fp ts W acts wy → tA u 0 (Int32.toNatClampNeg (2 : Int32)) = ni acts.length := fun u T => by
    rw [show Int32.toNatClampNeg (2 : Int32) = 2 from rfl, T.2.2.2.2.2.1]
  by_cases hz : ts.length = 0
  · refine Ok.same (r := -2) I ?_ (fun u T => ?_)
    · unfold m_X0_anew m_X0_anew_7
      rw [oR_c (k := 0) (x := A 0) c1 rfl, bd_some, gd_of (isC_c c0), lat0 L, bd2_some, if_pos hz, if_neg (show ¬ (1 : Int32) = 0 by decide)]
    · show m_X3_anew f u = _
      unfold m_X3_anew
      rw [if_neg (fun hh => hh ((n1 u T).mpr hz))]
  · obtain ⟨h1, a1, C1, P1, m1⟩ := X0_an21 (f := f) O (ni acts.length) acts.length f h W acts rfl (by omega) C P
    have T0 : TI (rdU h y) b n fk fp ts W acts wy := T.rf (H.agr.rF (l := [])) (fun k _ hk => by cases hk)
    have eC : m_X0_anew f h (A 23) = some (ni acts.length, h1) := by
      unfold m_X0_anew m_X0_anew_7
      rw [oR_c (k := 0) (x := A 0) c1 rfl, bd_some, gd_of (isC_c c0), lat0 L, bd2_some, if_neg hz, if_pos rfl, oR_c (k := 14) (x := A 21) c1 rfl, bd_some, gd_of (isC_c cA), J2_size AC'.1, bd2_some, AC'.2.1]
      unfold m_X0_anew_20
      exact a1
    obtain ⟨u1, g1, g2⟩ : ∃ u1, m_X3_anew f (rdU h y) = some (ni acts.length, u1) ∧ TI u1 b n fk fp ts (wz0 W acts) [] wy := by
      unfold m_X3_anew m_X3_anew_28
      rw [if_pos (fun hh => hz ((n1 _ T0).mp hh)), nmv_eq, n2 _ T0]
      cases acts with
      | nil => exact ⟨_, rfl, T0⟩
      | cons a t =>
        obtain ⟨l, W0⟩ := a
        obtain ⟨u1, g1, g2⟩ := X3_goesBack (f := f) (by omega) T0 p20 P.1 (j := 0) (l := l) (Wj := W0) rfl
        have g1' : m_X3_goesBack f (rdU h y) 0 = some u1 := g1
        rw [if_neg (show ¬ ni ((l, W0) :: t).length ≤ (0 : Int32) from fun hh => by have := (ni_le (k := 0) (by omega) (by decide)).mp hh; simp at this), g1', bd_some]
        exact ⟨u1, rfl, g2⟩
    exact Ok.mk O H m1 (by omega) (by omega) O.d.1 O.d.2 eC C1 P1 g1 g2
