/-! reading: the component's turns -/
set_option maxRecDepth 100000
theorem pSee_ge {b : Nat → Nat} {n most : Nat} {s : Lx} (o : LxOk b n s) {v : Int} {s1 : Lx} (h : pSee b n most s = .inr (v, s1)) : s.2.2 ≤ s1.2.2 := by
  have q := nx_ok (b := b) o.2.2.1
  have q2 := q.1.2.1
  unfold pSee at h
  split at h
  · split at h
    · cases h
    · split at h
      · cases h
      · cases h; omega
  · split at h
    · cases h
    · split at h
      · cases h
      · cases h; exact Nat.le_refl _
theorem pNums_ge {b : Nat → Nat} {n most : Nat} : ∀ k s vs l vs' l' s', LxOk b n s → pNums b n most k s vs l = .inr (vs', l', s') → s.2.2 ≤ s'.2.2
  | 0, s, vs, l, vs', l', s', o, h => by cases h; exact Nat.le_refl _
  | k + 1, s, vs, l, vs', l', s', o, h => by
    unfold pNums at h
    cases hp : pSee b n most s with
    | inl e => rw [hp] at h; cases h
    | inr q =>
      obtain ⟨v, s1⟩ := q
      rw [hp] at h
      have q1 := pSee_ok o hp
      have q2 := pSee_ge o hp
      have q5 := nx_ok (b := b) q1.1.2.2.1
      have q6 := pNums_ge k (nx b n s1.2.2) (vs ++ [v]) s1.2.1 vs' l' s' q5.1 h
      have q7 := q5.1.2.1
      have q8 := q5.2
      omega
theorem X4_asks {f : Nat} (hf : 601 < f) {h : CH} {r FL NL x ln : Nat} {la : Int32} {t : Nat → Nat} {b : Nat → Nat} {n : Nat} {s : Lx} (H : RS h r FL NL x ln la t b n s) {a : Nat} {w : List Nat} (hw : isS h a w) : (isWd b s w = true → ∃ h', m_X4_asks f h r a = some (.inl (), h') ∧ RS h' r FL NL x ln la t b n (nx b n s.2.2) ∧ Mod (· = r) (5 * ((nx b n s.2.2).2.2 - s.2.2)) (29 * ((nx b n s.2.2).2.2 - s.2.2)) h h') ∧ (isWd b s w = false → ∃ q h', m_X4_asks f h r a = some (.inr q, h') ∧ isFt h' q (1, s.2.1) ∧ Ext 1 8 h h') := by
  have iw := X4_isWord (f := f) (by omega) H hw
  unfold m_X4_asks m_X4_asks_6 m_X4_asks_10 m_X4_asks_14
  rw [gd_of H.isC, iw, bd2_some, gd_of H.isC]
  refine ⟨fun e => ?_, fun e => ?_⟩
  · rw [e, X4_needs1 (by decide), bx_l, gd_of H.isC]
    obtain ⟨h', a1, a2, a3⟩ := H.adv (f := f) (by omega)
    rw [a1, bd_some]
    exact ⟨h', rfl, a2, a3⟩
  · obtain ⟨q, h', z1', z2', z3'⟩ := X4_needs0 (f := f) H 1
    have z1'' : m_X4_needs f h r 0 1 = some (.inr q, h') := z1'
    rw [e]
    show ∃ q h', bx (m_X4_needs f h r 0 1) _ _ = _ ∧ _
    rw [z1'', bx_r, gd_of z2'.c]
    exact ⟨q, h', rfl, z2', z3'⟩
def RsT (h : CH) (r FL NL x ln : Nat) (t : Nat → Nat) (b : Nat → Nat) (n : Nat) (p0 : Nat) (m : Option ((Nat ⊕ Nat) × CH)) (lo : Nat) (fl : List Nat) : Rs (It × Lx) → Prop
  | .inl e => Bad m h r e (5 * (n - p0) + 60) (29 * (n - p0) + 200)
  | .inr (it, s1) => ∃ a h' la', m = some (.inl a, h') ∧ cIt h' lo fl a it ∧ lo ≤ a ∧ h.1 ≤ a ∧ isO h' a = true ∧ RS h' r FL NL x ln la' t b n s1 ∧ Mod (· = r) (5 * (s1.2.2 - p0) + 50) (29 * (s1.2.2 - p0) + 150) h h'
theorem LI.get {h : CH} {lo FL NL : Nat} {fl : List Nat} {ns : List (List Nat)} {ts : List It} (L : LI h lo FL NL fl ns ts) {k : Nat} (hk : k < ts.length) : ∃ a, fl[k]? = some a ∧ (∀ f, m_J2_get f h FL (ni k) = some (a, h)) ∧ lo ≤ a ∧ cIt h lo fl a (ts.getD k ([], none)) ∧ isC h FL 17 = true := by
  obtain ⟨E, F, nl, a1, a2, a3, a4, a5, a6, a7⟩ := L
  have e : ts[k]? = some (ts.getD k ([], none)) := by rw [List.getD_eq_getElem?_getD, List.getElem?_eq_getElem hk]; rfl
  obtain ⟨a, z1', z2', z3'⟩ := a6 k _ e
  refine ⟨a, z1', fun f => J2_get a1 z1', z2', z3', ?_⟩
  obtain ⟨⟨mc, l1⟩, _⟩ := a1
  unfold isC; rw [l1]; rfl
theorem cIt.c {h : CH} {lo : Nat} {fl : List Nat} {a : Nat} {it : It} (H : cIt h lo fl a it) : (it.2 = none → isC h a 6 = true) ∧ (it.2 ≠ none → isC h a 7 = true ∧ isC h a 6 = false) := by
  unfold cIt at H
  cases hq : it.2 with
  | none =>
    rw [hq] at H
    obtain ⟨R, o1, o2⟩ := H
    exact ⟨fun _ => by unfold isC; rw [o1.1]; rfl, fun hh => absurd rfl hh⟩
  | some j =>
    rw [hq] at H
    obtain ⟨b', T, o1, ⟨r0, o2, _⟩, o3⟩ := H
    exact ⟨fun hh => (by cases hh), fun _ => ⟨by unfold isC; rw [o2]; rfl, by unfold isC; rw [o2]; rfl⟩⟩
/-- the numbers are read: a turned one, if not all are 0 -/
theorem X4_t104 {f : Nat} (hf : 501 < f) {r FL NL x ln : Nat} {t : Nat → Nat} {b : Nat → Nat} {n : Nat} {h : CH} {s1 : Lx} {l' : Nat} (H : RS h r FL NL x ln (ni l') t b n s1) {lo : Nat} {fl : List Nat} {ns : List (List Nat)} {ts : List It} (L : LI h lo FL NL fl ns ts) (hlo : lo ≤ h.1) {k : Nat} (hk : k < ts.length) (t5 : ts.length ≤ 5) (ho : (ts.getD k ([], none)).2 = none) {Q : Nat} {qa : Nat → Int32} {vs : List Int} (hQ : cm h Q = some (.inr (0, 4, .inl qa))) (hqa : ∀ i, i < 4 → (qa i).toInt = vs.getD i 0) (hv : ∀ v, v ∈ vs → v.natAbs ≤ 3) : (match pTurC k (.inr (vs, l', s1)) with | .inl e => Bad (m_X4_turned_104 f h r (ni k) Q) h r e 1 8 | .inr (it, s2) => s2 = s1 ∧ ∃ a h', m_X4_turned_104 f h r (ni k) Q = some (.inl a, h') ∧ cIt h' lo fl a it ∧ lo ≤ a ∧ h.1 ≤ a ∧ isO h' a = true ∧ RS h' r FL NL x ln (ni l') t b n s1 ∧ Mod (· = r) 25 80 h h') := by
  have w := H.1
  have aq : ∀ k, k < 4 → aI h 0 Q (ni k) = some (qa k) := fun k hk => by
    unfold aI; rw [hQ]
    simp only [ix_ni hk (by decide), and_self, if_true]
    rw [ni_clamp (by omega)]
  have aq0 : aI h 0 Q 0 = some (qa 0) := aq 0 (by decide)
  have aq1 : aI h 0 Q 1 = some (qa 1) := aq 1 (by decide)
  have aq2 : aI h 0 Q 2 = some (qa 2) := aq 2 (by decide)
  have aq3 : aI h 0 Q 3 = some (qa 3) := aq 3 (by decide)
  have z0 : qa 0 = 0 ↔ vs.getD 0 0 = 0 := by rw [z_iff, hqa 0 (by decide)]
  have z1' : qa 1 = 0 ↔ vs.getD 1 0 = 0 := by rw [z_iff, hqa 1 (by decide)]
  have z2' : qa 2 = 0 ↔ vs.getD 2 0 = 0 := by rw [z_iff, hqa 2 (by decide)]
  have z3' : qa 3 = 0 ↔ vs.getD 3 0 = 0 := by rw [z_iff, hqa 3 (by decide)]
  have yes : ¬ (vs.getD 0 0 = 0 ∧ vs.getD 1 0 = 0 ∧ vs.getD 2 0 = 0 ∧ vs.getD 3 0 = 0) → m_X4_turned_104 f h r (ni k) Q = m_X4_turned_141 f h r (ni k) Q := fun hz => by
    unfold m_X4_turned_104
    rw [aq0, bd_some]
    by_cases c0 : qa 0 = 0
    · rw [if_neg (fun hh => hh c0), aq1, bd_some]
      by_cases c1 : qa 1 = 0
      · rw [if_neg (fun hh => hh c1), aq2, bd_some]
        by_cases c2 : qa 2 = 0
        · rw [if_neg (fun hh => hh c2), aq3, bd_some]
          by_cases c3' : qa 3 = 0
          · exact absurd ⟨z0.mp c0, z1'.mp c1, z2'.mp c2, z3'.mp c3'⟩ hz
          · rw [if_pos c3']
        · rw [if_pos c2]
      · rw [if_pos c1]
    · rw [if_pos c0]
  by_cases hz : vs.getD 0 0 = 0 ∧ vs.getD 1 0 = 0 ∧ vs.getD 2 0 = 0 ∧ vs.getD 3 0 = 0
  · rw [pTurC_n hz]
    show Bad _ h r (2, l') 1 8
    unfold m_X4_turned_104 m_X4_turned_131 m_X4_turned_140
    rw [aq0, bd_some, if_neg (fun hh => hh (z0.mpr hz.1)), aq1, bd_some, if_neg (fun hh => hh (z1'.mpr hz.2.1)), aq2, bd_some, if_neg (fun hh => hh (z2'.mpr hz.2.2.1)), aq3, bd_some, if_neg (fun hh => hh (z3'.mpr hz.2.2.2)), nmv_eq, nmv_eq]
    obtain ⟨h', y1, y2, y3⟩ := X5_new (f := f) w 2 l'
    have e1 : Ext 1 8 h (cn h 8 (.inl (5, [.null, .null, .null, .null, .null, .int 0, .int 0, .int 0]))) := Mod.cn w
    obtain ⟨num, wd, h1, _⟩ := H.2.2.2.2.1
    have o6 : oI (cn h 8 (.inl (5, [.null, .null, .null, .null, .null, .int 0, .int 0, .int 0]))) 4 6 r = some (ni l') := oI_c (e1.at w h1 id) rfl
    have y1' : m_X5_init f (cn h 8 (.inl (5, [.null, .null, .null, .null, .null, .int 0, .int 0, .int 0]))) h.1 2 (ni l') = some h' := y1
    rw [o6, bd_some, y1', bd_some, gd_of y2.c]
    exact Bad.mk rfl y2 (Mod.rf w) y3 (by omega) (by omega)
  · rw [pTurC_y hz, yes hz]
    refine ⟨rfl, ?_⟩
    unfold m_X4_turned_141 m_X4_turned_144 m_X4_turned_153 m_X4_turned_160
    rw [nmv_eq, nmv_eq]
    have e1 : Ext 1 5 h (cn h 5 (.inl (7, [.null, .null, .null, .long 0, .long 0]))) := Mod.cn w
    obtain ⟨num, wd, h1, hs, hn⟩ := H.2.2.2.2.1
    have o0 : oR (cn h 5 (.inl (7, [.null, .null, .null, .long 0, .long 0]))) 4 0 r = some FL := oR_c (e1.at w h1 id) rfl
    obtain ⟨b', g1, g2, g3, g4, g5⟩ := (L.ext e1 w H.2.1.kok).get hk
    have g6 := g4.c.1 ho
    obtain ⟨T, h', y1, y2, y3, y4⟩ := X7_new (f := f) (by omega) w (b' := b') hQ (q := qf vs) hqa (fun k _ => getD_le hv k)
    rw [o0, bd_some, gd_of g5, g2, bd2_some, g6, if_pos rfl, y1, bd_some]
    have hc : isO h' h.1 = true := by obtain ⟨r0, q1, _⟩ := y2; exact isO_c q1 (by decide)
    refine ⟨h.1, h', rfl, ?_, hlo, Nat.le_refl _, hc, ?_, (y3.mono (T := (· = r)) (fun _ _ hh => hh.elim) (Nat.le_refl _) (Nat.le_refl _))⟩
    · show ∃ b' T, fl[k]? = some b' ∧ _ ∧ _
      exact ⟨b', T, g1, y2, by have := y4; exact ⟨by have := y4.1; omega, by have := y4.2.1; omega, fun i hi => by have := y4.2.2 i hi; omega⟩⟩
    · obtain ⟨_, kf0, T0, C0, _, o⟩ := H
      exact ⟨y3.wf, kf0.mod y3, T0.mod y3, C0.mod y3 w (fun q hq => hq.elim), ⟨num, wd, y3.at w h1 id, fun e => (hs e).ext y3 w kf0.kok, hn⟩, o⟩
theorem X4_turned {f : Nat} (hf : 601 < f) {h : CH} {r FL NL x ln : Nat} {la : Int32} {t : Nat → Nat} {b : Nat → Nat} {n : Nat} {s : Lx} (H : RS h r FL NL x ln la t b n s) {lo : Nat} {fl : List Nat} {ns : List (List Nat)} {ts : List It} (L : LI h lo FL NL fl ns ts) (hlo : lo ≤ h.1) (hl : ns.length = ts.length) (t5 : ts.length ≤ 5) : RsT h r FL NL x ln t b n s.2.2 (m_X4_turned f h r) lo fl (pTurn b n ns ts s) := by
  have o := H.2.2.2.2.2
  have b0 := o.2.2.1
  obtain ⟨a4, q4, w4⟩ := K_str H.1 H.2.1 (i := 4) (by decide)
  have w4' : isS h a4 wOf := w4
  obtain ⟨k1, k2⟩ := X4_asks (f := f) hf H w4'
  have q4' : sR h (20 + 4) = some a4 := q4
  have e0 : m_X4_turned f h r = bx (m_X4_asks f h r a4) (fun r4 h3 => m_X4_turned_6 f h3 r) (fun q5 h3 => gd (isC h3 q5 5) (some (.inr q5, h3))) := by
    unfold m_X4_turned; rw [q4', bd_some, gd_of H.isC]
  rw [e0]
  unfold pTurn
  cases hof : isWd b s wOf with
  | false =>
    obtain ⟨q, h', y1, y2, y3⟩ := k2 hof
    rw [if_neg (by decide), y1, bx_r, gd_of y2.c]
    exact Bad.mk rfl y2 (Mod.rf H.1) y3 (by omega) (by omega)
  | true =>
    obtain ⟨h1, y1, y2, y3⟩ := k1 hof
    rw [if_pos rfl, y1, bx_l]
    have L1 := L.rs H y2 y3
    have nn := nx_ok (b := b) (n := n) b0
    generalize hs1 : nx b n s.2.2 = s1 at y2 y3 nn ⊢
    have c1 := nn.1.2.2.1
    have c2 := nn.1.2.1
    obtain ⟨d1, d2, d3, d4, d5⟩ := y2.tk (k := 1) (by decide)
    have d4' : sR h1 7 = some d2 := d4
    unfold m_X4_turned_6 m_X4_turned_22
    rw [d3, bd_some, d4', bd_some]
    by_cases kk : s1.1 = 1
    · rw [if_neg (fun hh => hh (d5.mpr kk)), gd_of y2.isC, X4_needs1 (by decide), bx_l, if_neg (fun hh => hh kk)]
      have y2' := y2
      obtain ⟨w1, kf1, T1, C1, ⟨num, wd, hr1, hs1', hn1⟩, o1⟩ := y2'
      have hS := hs1' kk
      have L1' := L1
      obtain ⟨E, F, nl, a1, a2, a3, a4', a5, a6, a7⟩ := L1'
      have o41 : oR h1 4 1 r = some NL := oR_c hr1 rfl
      have o48 : oR h1 4 8 r = some wd := oR_c hr1 rfl
      have o40 : oR h1 4 0 r = some FL := oR_c hr1 rfl
      have ix := J2_indexOf (f := f) (by omega) a2 (by decide) a4' (by omega) a5 hS
      have ic : isC h1 NL 17 = true := by obtain ⟨⟨mc, l1⟩, _⟩ := a2; unfold isC; rw [l1]; rfl
      unfold m_X4_turned_26 m_X4_turned_37
      rw [o41, bd_some, o48, bd_some, gd_of ic, ix, bd2_some]
      have bad2 : ∀ y, Bad (m_X4_turned_65 f h1 r y r 0) h r (2, s1.2.1) (5 * (n - s.2.2) + 60) (29 * (n - s.2.2) + 200) := fun y => by
        obtain ⟨q, h', z1', z2', z3'⟩ := X4_needs0 (f := f) y2 2
        have z1'' : m_X4_needs f h1 r 0 2 = some (.inr q, h') := z1'
        have e9 : m_X4_turned_65 f h1 r y r 0 = some (.inr q, h') := by
          unfold m_X4_turned_65
          rw [gd_of y2.isC, z1'', bx_r, gd_of z2'.c]
        rw [e9]
        exact Bad.mk rfl z2' y3 z3' (by omega) (by omega)
      cases hi : ixo (word b s1) ns 0 with
      | none =>
        rw [if_pos (show ixI none < (0 : Int32) by decide)]
        exact bad2 _
      | some k =>
        have kl := ixo_lt ns 0 k hi
        have hk : k < ts.length := by omega
        rw [if_neg (show ¬ ixI (some k) < (0 : Int32) from fun hh => by have := (ni_lt (k := 0) (by omega) (by decide)).mp (show ni k < ni 0 from hh); omega), show ixI (some k) = ni k from rfl]
        obtain ⟨b', g1, g2, g3, g4, g5⟩ := L1.get hk
        rw [o40, bd_some, gd_of g5, g2, bd2_some]
        unfold m_X4_turned_51 m_X4_turned_57 m_X4_turned_64
        show RsT h r FL NL x ln t b n s.2.2 _ lo fl (if (ts.getD k ([], none)).2.isSome = true then Sum.inl (2, s1.2.1) else pTurn2 b n k (nx b n s1.2.2))
        cases hq : (ts.getD k ([], none)).2 with
        | some z =>
          obtain ⟨i7, i6⟩ := g4.c.2 (by rw [hq]; exact fun hh => by cases hh)
          rw [i6, if_neg (by decide), gd_of i7, gd_of i7, show m_X7_isTurned f h1 b' = some (1, h1) from rfl, bd2_some, if_pos (by decide), if_pos (show (some z).isSome = true from rfl)]
          exact bad2 _
        | none =>
          have i6 := g4.c.1 hq
          rw [i6, if_pos rfl, gd_of rfl, show m_X6_isTurned f h1 b' = some (0, h1) from rfl, bd2_some, if_neg (fun hh => hh rfl), if_neg (show ¬ (none : Option Nat).isSome = true from fun hh => by cases hh)]
          unfold m_X4_turned_65 m_X4_turned_69 m_X4_turned_73
          obtain ⟨h2, p1, p2, p3'⟩ := y2.adv (f := f) (by omega)
          rw [gd_of y2.isC, X4_needs1 (by decide), bx_l, gd_of y2.isC, p1, bd_some]
          have M2 := y3.tr p3' (fun _ _ => id)
          have L2 := L1.rs y2 p2 p3'
          have nn2 := nx_ok (b := b) (n := n) c1
          generalize nx b n s1.2.2 = s2 at p2 p3' nn2 M2 ⊢
          have e1 := nn2.1.2.2.1
          have e2 := nn2.1.2.1
          obtain ⟨a5', q5', w5⟩ := K_str p2.1 p2.2.1 (i := 5) (by decide)
          have w5' : isS h2 a5' wBy := w5
          obtain ⟨j1, j2⟩ := X4_asks (f := f) hf p2 w5'
          have q5'' : sR h2 (20 + 5) = some a5' := q5'
          rw [q5'', bd_some, gd_of p2.isC]
          unfold pTurn2
          cases hby : isWd b s2 wBy with
          | false =>
            obtain ⟨q, h', z1', z2', z3'⟩ := j2 hby
            rw [if_neg (by decide), z1', bx_r, gd_of z2'.c]
            exact Bad.mk rfl z2' M2 z3' (by omega) (by omega)
          | true =>
            obtain ⟨h3, z1', z2', z3'⟩ := j1 hby
            rw [if_pos rfl, z1', bx_l]
            have L3 := L2.rs p2 z2' z3'
            have M3 := M2.tr z3' (fun _ _ => id)
            have nn3 := nx_ok (b := b) (n := n) e1
            generalize nx b n s2.2.2 = s3 at z2' z3' nn3 M3 ⊢
            have f1 := nn3.1.2.2.1
            have f2 := nn3.1.2.1
            unfold m_X4_turned_79 m_X4_turned_82
            rw [nmv_eq, nmv_eq]
            have e4 : Ext 1 4 h3 (cn h3 4 (.inr (0, 4, .inl (fun _ => 0)))) := Mod.cn z2'.1
            have c4 := cm_cn_s h3 4 (.inr (0, 4, .inl (fun _ => (0 : Int32))))
            generalize cn h3 4 (.inr (0, 4, .inl (fun _ => 0))) = h4 at e4 c4 ⊢
            have H4 : RS h4 r FL NL x ln la t b n s3 := by
              obtain ⟨w3, k3, T3, C3, ⟨num3, wd3, hr3, hs3, hn3⟩, o3⟩ := z2'
              exact ⟨e4.wf, k3.mod e4, T3.mod e4, C3.mod e4 w3 (fun q hq => hq.elim), ⟨num3, wd3, e4.at w3 hr3 id, fun e => (hs3 e).ext e4 w3 k3.kok, hn3⟩, o3⟩
            have L4 := L3.ext e4 z2'.1 z2'.2.1.kok
            have X := X4_t85 (f := f) (by omega) (r := r) (FL := FL) (NL := NL) (x := x) (ln := ln) (t := t) (b := b) (n := n) (h0 := h3) (p0 := s3.2.2) (Q := h3.1) (Nat.le_refl _) (ni k) (K := fun h => m_X4_turned_104 f h r (ni k) h3.1) (fun _ => rfl) 4 0 f h4 s3 [] 0 la rfl (by omega) H4 (fun e => by cases e) ⟨_, c4, fun i hi => by omega⟩ rfl (Nat.le_refl _) ((e4.mono (T := (· = r)) (fun _ _ hh => hh.elim) (Nat.le_refl _) (Nat.le_refl _)).up (by omega) (by omega))
            have X' : (match pNums b n 3 4 s3 [] 0 with | .inl e => Bad (m_X4_turned_85 f f h4 r (ni k) h3.1 0) h3 r e (5 * (n - s3.2.2) + 20) (29 * (n - s3.2.2) + 60) | .inr (vs', l', s1) => ∃ h', m_X4_turned_85 f f h4 r (ni k) h3.1 0 = m_X4_turned_104 f h' r (ni k) h3.1 ∧ (∃ qa, cm h' h3.1 = some (.inr (0, 4, .inl qa)) ∧ ∀ i, i < 4 → (qa i).toInt = vs'.getD i 0) ∧ RS h' r FL NL x ln (ni l') t b n s1 ∧ Mod (· = r) (5 * (s1.2.2 - s3.2.2) + 5) (29 * (s1.2.2 - s3.2.2) + 20) h3 h') := X
            cases hp : pNums b n 3 4 s3 [] 0 with
            | inl e =>
              rw [hp] at X'
              obtain ⟨q, h', v1, v2, v3'⟩ := X'
              exact ⟨q, h', v1, v2, (M3.tr v3' (fun _ _ => id)).up (by omega) (by omega)⟩
            | inr vq =>
              obtain ⟨vs, l', s4⟩ := vq
              rw [hp] at X'
              obtain ⟨h5, v1, ⟨qa, v2, v3'⟩, v4, v5⟩ := X'
              obtain ⟨u1, u2, u3, u4⟩ := pNums_ok 4 s3 [] 0 vs l' s4 nn3.1 hp
              have M5 := M3.tr v5 (fun _ _ => id)
              have L5 := L4.ext (Ext.rf e4.wf) e4.wf H4.2.1.kok
              have L5' : LI h5 lo FL NL fl ns ts := L3.rs z2' v4 v5
              have hlo5 : lo ≤ h5.1 := by have := M5.ge; omega
              have Z := X4_t104 (f := f) (by omega) v4 L5' hlo5 hk t5 hq v2 v3' (u4 (fun v hv => by cases hv))
              have u5 := u1.2.2.1
              have u6 := u1.2.1
              rw [v1]
              have hse := pNums_ge 4 s3 [] 0 vs l' s4 nn3.1 hp
              revert Z
              cases pTurC k (.inr (vs, l', s4)) with
              | inl e =>
                rintro ⟨q, h', x1', x2', x3'⟩
                exact ⟨q, h', x1', x2', (M5.tr x3' (fun _ _ => id)).up (by omega) (by omega)⟩
              | inr iq =>
                obtain ⟨it, s5⟩ := iq
                rintro ⟨rfl, a, h', x1', x2', x3', x7, x4', x5, x6⟩
                exact ⟨a, h', ni l', x1', x2', x3', by have := M5.ge; omega, x4', x5, (M5.tr x6 (fun _ _ => id)).up (by omega) (by omega)⟩
    · rw [if_pos (fun hh => kk (d5.mp hh)), gd_of y2.isC, if_pos kk]
      obtain ⟨q, h', z1', z2', z3'⟩ := X4_needs0 (f := f) y2 1
      have z1'' : m_X4_needs f h1 r 0 1 = some (.inr q, h') := z1'
      rw [z1'', bx_r, gd_of z2'.c]
      exact Bad.mk rfl z2' y3 z3' (by omega) (by omega)
