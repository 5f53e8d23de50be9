/-! reading: the component's lines, whole -/
set_option maxRecDepth 100000
def RsN (h : CH) (r FL NL x ln : Nat) (t : Nat → Nat) (b : Nat → Nat) (n : Nat) (p0 lo : Nat) (fl : List Nat) (ns : List (List Nat)) (ts : List It) (m : Option ((Unit ⊕ Nat) × CH)) : Rs (List Nat × It × Lx) → Prop
  | .inl e => ∃ q h', m = some (.inr q, h') ∧ isFt h' q e ∧ Mod (fun q => lo ≤ q) (5 * (n - p0) + 80) (29 * (n - p0) + 300) h h'
  | .inr (w, it, s') => ∃ h' la' c, m = some (.inl (), h') ∧ RS h' r FL NL x (ln + 1) la' t b n s' ∧ LI h' lo FL NL (fl ++ [c]) (ns ++ [w]) (ts ++ [it]) ∧ Mod (fun q => lo ≤ q) (5 * (s'.2.2 - p0) + 70) (29 * (s'.2.2 - p0) + 200) h h'
theorem LI.lt {h : CH} {lo FL NL : Nat} {fl : List Nat} {ns : List (List Nat)} {ts : List It} (L : LI h lo FL NL fl ns ts) (w : wfh h) {c : Nat} (hc : c ∈ fl) : c < h.1 := by
  obtain ⟨E, F, nl, a1, a2, a3, a4, a5, a6, a7⟩ := L
  obtain ⟨k, hk, e⟩ := List.mem_iff_getElem.mp hc
  have hk2 : k < ts.length := by omega
  obtain ⟨z, z1', z2', z3'⟩ := a6 k _ (List.getElem?_eq_getElem hk2)
  rw [List.getElem?_eq_getElem hk, e] at z1'
  cases z1'
  unfold cIt at z3'
  cases hq : (ts[k]).2 with
  | none =>
    rw [hq] at z3'
    obtain ⟨R, o1, _⟩ := z3'
    exact (w.1 _ _ o1.1).2
  | some j =>
    rw [hq] at z3'
    obtain ⟨b', T, _, ⟨r0, o2, _⟩, _⟩ := z3'
    exact (w.1 _ _ o2).2
theorem Mod.lo {r lo : Nat} {k n : Nat} {h h1 : CH} (m : Mod (· = r) k n h h1) (hr : lo ≤ r) : Mod (fun q => lo ≤ q) k n h h1 := m.mono (fun q _ hq => by have e : q = r := hq; show lo ≤ q; omega) (Nat.le_refl _) (Nat.le_refl _)
/-- a semicolon, then the line is kept -/
theorem X4_l142 {f : Nat} (hf : 601 < f) {h : CH} {r FL NL x ln : Nat} {la : Int32} {t : Nat → Nat} {b : Nat → Nat} {n : Nat} {s : Lx} (H : RS h r FL NL x ln la t b n s) {lo : Nat} {fl : List Nat} {ns : List (List Nat)} {ts : List It} (L : LI h lo FL NL fl ns ts) (hl : ns.length = ts.length) (t5 : ts.length < 5) {a : Nat} {w : List Nat} (hS : isS h a w) {c : Nat} {it : It} (hc : cIt h lo fl c it) (hlo : lo ≤ c) (hO : isO h c = true) (hnd : c ∉ fl) (hrlo : lo ≤ r) : (s.1 ≠ 3 → ∃ q h', m_X4_line_142 f h r a c = some (.inr q, h') ∧ isFt h' q (1, s.2.1) ∧ Ext 1 8 h h') ∧ (s.1 = 3 → ∃ h', m_X4_line_142 f h r a c = some (.inl (), h') ∧ RS h' r FL NL x (ln + 1) la t b n (nx b n s.2.2) ∧ LI h' lo FL NL (fl ++ [c]) (ns ++ [w]) (ts ++ [it]) ∧ Mod (fun q => lo ≤ q) (5 * ((nx b n s.2.2).2.2 - s.2.2)) (29 * ((nx b n s.2.2).2.2 - s.2.2)) h h') := by
  obtain ⟨d1, d2, d3, d4, d5⟩ := H.tk (k := 3) (by decide)
  have d4' : sR h 6 = some d2 := d4
  unfold m_X4_line_142 m_X4_line_159
  rw [d3, bd_some, d4', bd_some]
  refine ⟨fun k3 => ?_, fun k3 => ?_⟩
  · rw [if_pos (fun hh => k3 (d5.mp hh)), gd_of H.isC]
    obtain ⟨q, h', z1', z2', z3'⟩ := X4_needs0 (f := f) H 1
    have z1'' : m_X4_needs f h r 0 1 = some (.inr q, h') := z1'
    rw [z1'', bx_r, gd_of z2'.c]
    exact ⟨q, h', rfl, z2', z3'⟩
  · rw [if_neg (fun hh => hh (d5.mpr k3)), gd_of H.isC, X4_needs1 (by decide), bx_l]
    unfold m_X4_line_163
    obtain ⟨h1, y1, y2, y3⟩ := H.adv (f := f) (by omega)
    rw [gd_of H.isC, y1, bd_some]
    have L1 := L.rs H y2 y3
    obtain ⟨fs, hr⟩ := H.cell
    have nre : ∀ q, (fun z => z = r) q → h.2.2.1 ≤ q ∧ (∀ fs, cm h q ≠ some (.inl (19, fs))) ∧ ∀ n f, cm h q ≠ some (.inr (2, n, .inl f)) := fun q hq => by
      have e' : q = r := hq
      subst e'
      exact ⟨(H.1.1 _ _ hr).1, fun fs hh => (by rw [hr] at hh; cases hh), fun c f hh => (by rw [hr] at hh; cases hh)⟩
    have hS1 := hS.mod y3 H.1 H.2.1.kok nre
    have hc1 := hc.md y3 H.1 (fun q hq => by
      have e' : q = r := hq
      subst e'
      exact ⟨fun fs hh => (by rw [hr] at hh; cases hh), fun fs hh => (by rw [hr] at hh; cases hh), fun fs hh => (by rw [hr] at hh; cases hh), fun c f hh => (by rw [hr] at hh; cases hh), fun c f hh => (by rw [hr] at hh; cases hh)⟩)
    obtain ⟨fs1, hr1⟩ := y2.cell
    have hO1 : isO h1 c = true := isO_mod y3 H.1 hO H.2.1.kok (fun q hq ci fs2 hcq => by
      have e' : q = r := hq
      subst e'
      rw [hr] at hcq; cases hcq; exact ⟨_, hr1⟩)
    obtain ⟨h2, z1', z2', z3', z4'⟩ := X4_l167 (f := f) y2 L1 hl t5 hS1 hc1 hlo hO1 hnd hrlo
    exact ⟨h2, z1', z2', z3', ((y3.lo hrlo).tr z4' (fun _ _ => id)).up (by omega) (by omega)⟩
theorem X4_line {f : Nat} (hf : 601 < f) {h : CH} {r FL NL x ln : Nat} {la : Int32} {t : Nat → Nat} {b : Nat → Nat} {n : Nat} {s : Lx} (H : RS h r FL NL x ln la t b n s) {lo : Nat} {fl : List Nat} {ns : List (List Nat)} {ts : List It} (L : LI h lo FL NL fl ns ts) (hl : ns.length = ts.length) (t5 : ts.length ≤ 5) (hlo : lo ≤ h.1) (hrlo : lo ≤ r) : RsN h r FL NL x ln t b n s.2.2 lo fl ns ts (m_X4_line f h r) (pLine b n ns ts s) := by
  have o := H.2.2.2.2.2
  have b0 := o.2.2.1
  obtain ⟨a2, q2, w2⟩ := X4_kWord (f := f) (by omega) H (i := 2) (by decide)
  have w2' : m_X4_isWord f h r a2 = some (if isWd b s wTurn = true then 1 else 0, h) := w2
  obtain ⟨a3, q3, w3⟩ := X4_kWord (f := f) (by omega) H (i := 3) (by decide)
  have w3' : m_X4_isWord f h r a3 = some (if isWd b s wLat = true then 1 else 0, h) := w3
  have q2' : sR h (20 + 2) = some a2 := q2
  have q3' : sR h (20 + 3) = some a3 := q3
  -- to the number of lattices
  have e0 : m_X4_line f h r = if isWd b s wTurn = false ∧ isWd b s wLat = false then m_X4_line_26 f h r 0 r 0 else m_X4_line_26 f h r (if isWd b s wTurn = true then 1 else 0) r 1 := by
    unfold m_X4_line m_X4_line_6 m_X4_line_21 m_X4_line_18
    rw [q2', bd_some, gd_of H.isC, w2', bd2_some]
    cases h1 : isWd b s wTurn with
    | true => rw [nift1, if_neg (show ¬ (true = false ∧ isWd b s wLat = false) from fun hh => by cases hh.1)]
    | false =>
      rw [niff0, q3', bd_some, gd_of H.isC, w3', bd2_some]
      cases h2 : isWd b s wLat with
      | true => rw [ift1, if_neg (show ¬ (false = false ∧ true = false) from fun hh => by cases hh.2), m_X4_line_21]
      | false => rw [iff0, if_pos (show false = false ∧ false = false from ⟨rfl, rfl⟩), if_neg (show ¬ false = true by decide)]
  rw [e0]
  unfold pLine
  have bad : ∀ {h1 : CH} {s1 : Lx} {la1 : Int32} (k : Nat) {kk nn : Nat}, RS h1 r FL NL x ln la1 t b n s1 → Mod (fun q => lo ≤ q) kk nn h h1 → kk ≤ 5 * (n - s.2.2) + 70 → nn ≤ 29 * (n - s.2.2) + 200 → ∃ q h', m_X4_needs f h1 r 0 (ni k) = some (.inr q, h') ∧ isC h' q 5 = true ∧ isFt h' q (k, s1.2.1) ∧ Mod (fun q => lo ≤ q) (5 * (n - s.2.2) + 80) (29 * (n - s.2.2) + 300) h h' := fun {h1 s1 la1} k {kk nn} H1 M1 hk hn => by
    obtain ⟨q, h', z1', z2', z3'⟩ := X4_needs0 (f := f) H1 k
    exact ⟨q, h', z1', z2'.c, z2', (M1.tr (z3'.mono (T := fun q => lo ≤ q) (fun _ _ hh => hh.elim) (Nat.le_refl _) (Nat.le_refl _)) (fun _ _ => id)).up (by omega) (by omega)⟩
  by_cases c0 : isWd b s wTurn = false ∧ isWd b s wLat = false
  · rw [if_pos c0, if_pos c0]
    unfold m_X4_line_26
    obtain ⟨q, h', z1', z2', z3', z4'⟩ := bad 1 H (Mod.rf H.1) (by omega) (by omega)
    have z1'' : m_X4_needs f h r 0 1 = some (.inr q, h') := z1'
    rw [gd_of H.isC, z1'', bx_r, gd_of z2']
    exact ⟨q, h', rfl, z3', z4'⟩
  · rw [if_neg c0, if_neg c0]
    generalize hx1 : (if isWd b s wTurn = true then (1 : Int32) else 0) = x1
    unfold m_X4_line_26 m_X4_line_30 m_X4_line_38
    have L' := L
    obtain ⟨E, F, nl, a1, a2', a3', a4, a5, a6, a7⟩ := L'
    have ic : isC h FL 17 = true := by obtain ⟨⟨mc, l1⟩, _⟩ := a1; unfold isC; rw [l1]; rfl
    obtain ⟨num, wd, hr, hs, hn⟩ := H.2.2.2.2.1
    have o40 : oR h 4 0 r = some FL := oR_c hr rfl
    rw [gd_of H.isC, X4_needs1 (by decide), bx_l, o40, bd_some, gd_of ic, J2_size a1, bd2_some, a3']
    unfold m_X4_line_47
    by_cases c5 : 5 ≤ ts.length
    · rw [if_pos (show (5 : Int32) ≤ ni ts.length from (ni_le (n := 5) (by decide) (by omega)).mpr c5), if_pos c5]
      obtain ⟨q, h', z1', z2', z3', z4'⟩ := bad 3 H (Mod.rf H.1) (by omega) (by omega)
      have z1'' : m_X4_needs f h r 0 3 = some (.inr q, h') := z1'
      rw [gd_of H.isC, z1'', bx_r, gd_of z2']
      exact ⟨q, h', rfl, z3', z4'⟩
    · rw [if_neg (show ¬ (5 : Int32) ≤ ni ts.length from fun hh => c5 ((ni_le (n := 5) (by decide) (by omega)).mp hh)), if_neg c5, gd_of H.isC, X4_needs1 (by decide), bx_l]
      unfold m_X4_line_51 m_X4_line_55
      obtain ⟨h1, y1, y2, y3⟩ := H.adv (f := f) (by omega)
      rw [gd_of H.isC, y1, bd_some]
      have L1 := L.rs H y2 y3
      have M1 := y3.lo hrlo
      have nn := nx_ok (b := b) (n := n) b0
      generalize nx b n s.2.2 = s1 at y2 y3 nn M1 ⊢
      have e1 := nn.1.2.2.1
      have e2 := nn.1.2.1
      have e3 := nn.2
      obtain ⟨d1, d2, d3, d4, d5⟩ := y2.tk (k := 1) (by decide)
      have d4' : sR h1 7 = some d2 := d4
      rw [d3, bd_some, d4', bd_some]
      unfold m_X4_line_71
      by_cases k1 : s1.1 = 1
      · rw [if_neg (fun hh => hh (d5.mpr k1)), if_neg (fun hh => hh k1), gd_of y2.isC, X4_needs1 (by decide), bx_l]
        have y2' := y2
        obtain ⟨w1, kf1, T1, C1, ⟨num1, wd1, hr1, hs1, hn1⟩, o1⟩ := y2'
        have hS := hs1 k1
        have o48 : oR h1 4 8 r = some wd1 := oR_c hr1 rfl
        unfold m_X4_line_75 m_X4_line_83
        rw [o48, bd_some, gd_of hS.d.1, J6_length hS, bd2_some]
        have n500 := y2.n5
        have wl := word_len b s1
        have badN : ∀ {γ : Unit} (y : Nat), y = r → RsN h r FL NL x ln t b n s.2.2 lo fl ns ts (m_X4_line_114 f h1 r x1 y 0) (.inl (2, s1.2.1)) := fun {_} y hy => by
          subst hy
          obtain ⟨q, h', z1', z2', z3', z4'⟩ := bad 2 y2 M1 (by omega) (by omega)
          have z1'' : m_X4_needs f h1 y 0 2 = some (.inr q, h') := z1'
          have e9 : m_X4_line_114 f h1 y x1 y 0 = some (.inr q, h') := by
            unfold m_X4_line_114
            rw [gd_of y2.isC, z1'', bx_r, gd_of z2']
          exact ⟨q, h', e9, z3', z4'⟩
        unfold m_X4_line_113
        by_cases c6 : 6 < (word b s1).length
        · rw [if_pos (show (6 : Int32) < ni (word b s1).length from (ni_lt (n := 6) (by decide) (by omega)).mpr c6), if_pos (.inl c6)]
          exact badN (γ := ()) r rfl
        · rw [if_neg (show ¬ (6 : Int32) < ni (word b s1).length from fun hh => c6 ((ni_lt (n := 6) (by decide) (by omega)).mp hh)), gd_of y2.isC, X4_isOwn (f := f) (by omega) y2, bd2_some]
          unfold m_X4_line_92 m_X4_line_113
          cases hk : isKp b s1 with
          | true =>
            rw [nift1, if_pos (.inr (.inl ((isKp_iff k1).mp hk)))]
            exact badN (γ := ()) r rfl
          | false =>
            have hkf : ¬ word b s1 ∈ [wLat, wTurn, wOf, wBy] := fun hh => by rw [(isKp_iff k1).mpr hh] at hk; cases hk
            have L1' := L1
            obtain ⟨E1, F1, nl1, b1, b2, b3, b4, b5, b6, b7⟩ := L1'
            have o41 : oR h1 4 1 r = some NL := oR_c hr1 rfl
            have ic1 : isC h1 NL 17 = true := by obtain ⟨⟨mc, l1⟩, _⟩ := b2; unfold isC; rw [l1]; rfl
            have ix := J2_indexOf (f := f) (by omega) b2 (by decide) b4 (by omega) b5 hS
            rw [niff0, o41, bd_some, o48, bd_some, gd_of ic1]
            unfold m_J2_contains m_J2_contains_5 m_J2_contains_13
            rw [gd_of ic1, ix, bd2_some]
            unfold m_X4_line_106 m_X4_line_113
            cases hi : ixo (word b s1) ns 0 with
            | some k =>
              have kl := ixo_lt ns 0 k hi
              rw [if_neg (show ¬ ixI (some k) < (0 : Int32) from fun hh => by have := (ni_lt (k := 0) (by omega) (by decide)).mp (show ni k < ni 0 from hh); omega), gd_of (by decide), bd2_some, if_pos (by decide), if_pos (.inr (.inr (by rfl)))]
              exact badN (γ := ()) r rfl
            | none =>
              rw [if_pos (show ixI none < (0 : Int32) by decide), gd_of (by decide), bd2_some, if_neg (fun hh => hh rfl), if_neg (fun hh => by
                rcases hh with hh | hh | hh
                · exact c6 hh
                · exact hkf hh
                · cases hh)]
              unfold m_X4_line_114 m_X4_line_118
              obtain ⟨h2, p1, p2, p3'⟩ := y2.adv (f := f) (by omega)
              rw [gd_of y2.isC, X4_needs1 (by decide), bx_l, o48, bd_some, gd_of y2.isC, p1, bd_some]
              have L2 := L1.rs y2 p2 p3'
              have M2 := M1.tr (p3'.lo hrlo) (fun _ _ => id)
              have nre : ∀ {h : CH} {fs : List Value} (w : wfh h) (hr : cm h r = some (.inl (4, fs))), ∀ q, (fun z => z = r) q → h.2.2.1 ≤ q ∧ (∀ fs, cm h q ≠ some (.inl (19, fs))) ∧ ∀ n f, cm h q ≠ some (.inr (2, n, .inl f)) := fun {h fs} w hr q hq => by
                have e' : q = r := hq
                subst e'
                exact ⟨(w.1 _ _ hr).1, fun fs hh => (by rw [hr] at hh; cases hh), fun c f hh => (by rw [hr] at hh; cases hh)⟩
              have hS2 := hS.mod p3' w1 kf1.kok (nre w1 hr1)
              have nn2 := nx_ok (b := b) (n := n) e1
              have hlo2 : lo ≤ h2.1 := by have := M2.ge; omega
              generalize nx b n s1.2.2 = s2 at p2 p3' nn2 M2 ⊢
              have g1 := nn2.1.2.2.1
              have g2 := nn2.1.2.1
              have g3 := nn2.2
              obtain ⟨fs2, hr2⟩ := p2.cell
              have pe := @pEnd_2
              -- the rest: what it is, and the semicolon
              have rest : ∀ {m : Option ((Nat ⊕ Nat) × CH)} {R : Rs (It × Lx)}, RsT h2 r FL NL x ln t b n s2.2.2 m lo fl R → (∀ it s3, R = .inr (it, s3) → LxOk b n s3 ∧ s2.2.2 ≤ s3.2.2) → RsN h r FL NL x ln t b n s.2.2 lo fl ns ts (bx m (fun a4 h3 => m_X4_line_142 f h3 r wd1 a4) (fun q5 h3 => gd (isC h3 q5 5) (some (.inr q5, h3)))) (pEnd b n (word b s1) R) := fun {m R} T hR => by
                cases R with
                | inl e =>
                  obtain ⟨q, h', z1', z2', z3'⟩ := T
                  rw [z1', bx_r, gd_of z2'.c]
                  exact ⟨q, h', rfl, z2', (M2.tr (z3'.lo hrlo) (fun _ _ => id)).up (by omega) (by omega)⟩
                | inr qq =>
                  obtain ⟨it, s3⟩ := qq
                  obtain ⟨c, h3, la3, z1', z2', z3', z7, z4', z5, z6⟩ := T
                  obtain ⟨ok3, ge3⟩ := hR it s3 rfl
                  have i1 := ok3.2.2.1
                  have L3 := L2.rs p2 z5 z6
                  have hS3 := hS2.mod z6 p2.1 p2.2.1.kok (nre p2.1 hr2)
                  obtain ⟨j1, j2⟩ := X4_l142 (f := f) hf z5 L3 hl (by omega) hS3 z2' z3' z4' (fun hin => by have := L2.lt p2.1 hin; omega) hrlo
                  have M3 := M2.tr (z6.lo hrlo) (fun _ _ => id)
                  have nn4 := nx_ok (b := b) (n := n) i1
                  have i2 := nn4.1.2.1
                  have i3 := nn4.2
                  rw [z1', bx_l]
                  show RsN h r FL NL x ln t b n s.2.2 lo fl ns ts (m_X4_line_142 f h3 r wd1 c) (if s3.1 ≠ 3 then .inl (1, s3.2.1) else .inr (word b s1, it, nx b n s3.2.2))
                  by_cases k3 : s3.1 ≠ 3
                  · obtain ⟨q, h', v1, v2, v3'⟩ := j1 k3
                    rw [if_pos k3]
                    exact ⟨q, h', v1, v2, (M3.tr (v3'.mono (T := fun q => lo ≤ q) (fun _ _ hh => hh.elim) (Nat.le_refl _) (Nat.le_refl _)) (fun _ _ => id)).up (by omega) (by omega)⟩
                  · obtain ⟨h', v1, v2, v3', v4⟩ := j2 (by omega)
                    rw [if_neg k3]
                    exact ⟨h', la3, c, v1, v2, v3', (M3.tr v4 (fun _ _ => id)).up (by omega) (by omega)⟩
              unfold m_X4_line_127 m_X4_line_135
              cases ht : isWd b s wTurn with
              | true =>
                rw [ht, if_pos rfl] at hx1
                subst hx1
                rw [if_neg (by decide), if_pos rfl, gd_of p2.isC]
                exact rest (X4_turned (f := f) hf p2 L2 hlo2 hl t5) (fun it s3 hR => by
                  have q := pTurn_ok hl nn2.1 hR
                  obtain ⟨kq, vs, l, rfl, hkq, hoq, hpq, hzq⟩ := pTurn_q hR
                  have u1 := nx_ok (b := b) (n := n) g1
                  have u2 := nx_ok (b := b) (n := n) u1.1.2.2.1
                  have u3 := nx_ok (b := b) (n := n) u2.1.2.2.1
                  have u4 := pNums_ge 4 _ [] 0 vs l s3 u3.1 hpq
                  have u5 := u1.1.2.1
                  have u6 := u2.1.2.1
                  have u7 := u3.1.2.1
                  have u8 := u1.2
                  have u9 := u2.2
                  have u10 := u3.2
                  exact ⟨q.1, by omega⟩)
              | false =>
                rw [ht, if_neg (by decide)] at hx1
                subst hx1
                rw [if_pos rfl, if_neg (by decide), gd_of p2.isC]
                have XL := X4_lattice (f := f) (by omega) p2
                refine rest (R := pLat b n s2) ?_ (fun it s3 hR => ?_)
                · revert XL
                  cases pLat b n s2 with
                  | inl e =>
                    rintro ⟨q, h', v1, v2, v3'⟩
                    exact ⟨q, h', v1, v2, v3'.up (by omega) (by omega)⟩
                  | inr qq =>
                    obtain ⟨it, s3⟩ := qq
                    rintro ⟨a, h', la', R, v1, v2, v3', v4, v5, v6, v7⟩
                    refine ⟨a, h', la', v1, ?_, by omega, v4, isO_c v2.1 (by decide), v6, v7.up (by omega) (by omega)⟩
                    unfold cIt
                    rw [v3']
                    exact ⟨R, v2, ⟨by have := v5.1; omega, by have := v5.2.1; omega, fun i hi => by have := v5.2.2 i hi; omega⟩⟩
                · have q := pLat_ok nn2.1 hR ts
                  unfold pLat at hR
                  cases hp : pNums b n 6 9 s2 [] 0 with
                  | inl e => rw [hp] at hR; cases hR
                  | inr qq =>
                    obtain ⟨vs, l, s4⟩ := qq
                    rw [hp] at hR
                    have u4 := pNums_ge 9 s2 [] 0 vs l s4 nn2.1 hp
                    by_cases hd : 1 ≤ (dtf (lsM vs)).natAbs ∧ (dtf (lsM vs)).natAbs ≤ 60
                    · rw [pLatC_y hd] at hR
                      cases hR
                      exact ⟨q.1, u4⟩
                    · rw [pLatC_n hd] at hR; cases hR
      · rw [if_pos (fun hh => k1 (d5.mp hh)), if_pos k1]
        obtain ⟨q, h', z1', z2', z3', z4'⟩ := bad 1 y2 M1 (by omega) (by omega)
        have z1'' : m_X4_needs f h1 r 0 1 = some (.inr q, h') := z1'
        rw [gd_of y2.isC, z1'', bx_r, gd_of z2']
        exact ⟨q, h', rfl, z3', z4'⟩
theorem pLine_ge {b : Nat → Nat} {n : Nat} {ns : List (List Nat)} {ts : List It} (hl : ns.length = ts.length) {s : Lx} (o : LxOk b n s) (h0 : s.1 ≠ 0) {w : List Nat} {it : It} {s' : Lx} (h : pLine b n ns ts s = .inr (w, it, s')) : s.2.2 ≤ s'.2.2 := by
  have q := pLine_ok hl o h0 h
  have := q.1.2.1
  have := q.2.1
  omega
def RsR (h : CH) (r FL NL x : Nat) (t : Nat → Nat) (b : Nat → Nat) (n : Nat) (p0 lo c0 : Nat) (m : Option ((Unit ⊕ Nat) × CH)) : Rs (List It) → Prop
  | .inl e => ∃ q h', m = some (.inr q, h') ∧ isFt h' q e ∧ Mod (fun q => lo ≤ q) (5 * (n - p0) + 80 + c0) (29 * (n - p0) + 300 + 3 * c0) h h'
  | .inr ts' => ∃ h' la' fl' ns' s', m = some (.inl (), h') ∧ RS h' r FL NL x ts'.length la' t b n s' ∧ LI h' lo FL NL fl' ns' ts' ∧ Mod (fun q => lo ≤ q) (5 * (n - p0) + c0) (29 * (n - p0) + 3 * c0) h h'
theorem X4_r4 {f : Nat} (hf : 601 < f) {r FL NL x : Nat} {t : Nat → Nat} {b : Nat → Nat} {n lo : Nat} (hrlo : lo ≤ r) : ∀ K m h ns ts s la fl, n - s.2.1 < K → K < m → RS h r FL NL x ts.length la t b n s → LI h lo FL NL fl ns ts → ns.length = ts.length → ItsOk ts → lo ≤ h.1 → RsR h r FL NL x t b n s.2.2 lo (70 * (6 - ts.length)) (m_X4_read_4 f m h r) (pRead b n K ns ts s) := by
  intro K
  induction K with
  | zero => intro m h ns ts s la fl hk; omega
  | succ K ih =>
    intro m h ns ts s la fl hk hm H L hl hI hlo
    obtain ⟨m, rfl⟩ : ∃ z, m = z + 1 := ⟨m - 1, by omega⟩
    have o := H.2.2.2.2.2
    have t5 := hI.1
    obtain ⟨d1, d2, d3, d4, d5⟩ := H.tk (k := 0) (by decide)
    have d4' : sR h 4 = some d2 := d4
    unfold pRead
    rw [m_X4_read_4, d3, bd_some, d4', bd_some]
    by_cases h0 : s.1 = 0
    · rw [if_pos (d5.mpr h0), if_pos h0]
      exact ⟨h, la, fl, ns, s, rfl, H, L, (Mod.rf H.1).up (by omega) (by omega)⟩
    · rw [if_neg (fun hh => h0 (d5.mp hh)), if_neg h0, gd_of H.isC]
      have X := X4_line (f := f) hf H L hl t5 hlo hrlo
      unfold m_X4_read_18
      have ob := o.2.2.1
      have oc := o.2.2.2.1 h0
      cases hp : pLine b n ns ts s with
      | inl e =>
        rw [hp] at X
        obtain ⟨q, h', z1', z2', z3'⟩ := X
        rw [z1', bx_r, gd_of z2'.c]
        exact ⟨q, h', rfl, z2', z3'.up (by omega) (by omega)⟩
      | inr qq =>
        obtain ⟨w, it, s'⟩ := qq
        rw [hp] at X
        obtain ⟨h', la', c, z1', z2', z3', z4'⟩ := X
        obtain ⟨y1, y2, y3, y4, _⟩ := pLine_ok hl o h0 hp
        have yb := y1.2.2.1
        have yc := y1.2.1
        rw [z1', bx_l]
        have e1 : (ts ++ [it]).length = ts.length + 1 := by rw [List.length_append]; rfl
        have I := ih m h' (ns ++ [w]) (ts ++ [it]) s' la' (fl ++ [c]) (by omega) (by omega) (by rw [e1]; exact z2') z3' (by rw [List.length_append, List.length_append, hl]; rfl) (hI.snoc y4 y3) (by have := z4'.ge; omega)
        rw [e1] at I
        revert I
        show RsR h' r FL NL x t b n s'.2.2 lo (70 * (6 - (ts.length + 1))) (m_X4_read_4 f m h' r) (pRead b n K (ns ++ [w]) (ts ++ [it]) s') → RsR h r FL NL x t b n s.2.2 lo (70 * (6 - ts.length)) (m_X4_read_4 f m h' r) (pRead b n K (ns ++ [w]) (ts ++ [it]) s')
        cases pRead b n K (ns ++ [w]) (ts ++ [it]) s' with
        | inl e =>
          rintro ⟨q, h2, v1, v2, v3'⟩
          exact ⟨q, h2, v1, v2, (z4'.tr v3' (fun _ _ => id)).up (by omega) (by omega)⟩
        | inr ts' =>
          rintro ⟨h2, la2, fl2, ns2, s2, v1, v2, v3', v4⟩
          exact ⟨h2, la2, fl2, ns2, s2, v1, v2, v3', (z4'.tr v4 (fun _ _ => id)).up (by omega) (by omega)⟩
