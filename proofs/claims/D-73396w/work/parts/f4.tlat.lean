/-! reading: the twin, line by line -/
set_option maxRecDepth 100000
def pEnd2 (b : Nat → Nat) (n : Nat) : Rs (List Nat × It × Lx) → Rs (List Nat × It × Lx)
  | .inl e => .inl e
  | .inr (w, it, s) => if s.1 ≠ 3 then .inl (1, s.2.1) else .inr (w, it, nx b n s.2.2)
theorem pEnd_2 (b : Nat → Nat) (n : Nat) (w : List Nat) (r : Rs (It × Lx)) : pEnd b n w r = pEnd2 b n (pIts w r) := by
  cases r with
  | inl e => rfl
  | inr q => rfl
theorem wd_not {b : Nat → Nat} {s : Lx} {v w : List Nat} (h : isWd b s v = true) (hne : v ≠ w) : isWd b s w = false := by
  cases hc : isWd b s w with
  | false => rfl
  | true => exact absurd ((of_decide_eq_true h).2.symm.trans (of_decide_eq_true hc).2) hne
theorem pLine_lat {b : Nat → Nat} {n : Nat} {ns : List (List Nat)} {ts : List It} {s : Lx} (hl : ns.length = ts.length) (h : isWd b s wLat = true) : pLine b n ns ts s = pEnd2 b n (pRLat b n (pName b n ns s)) := by
  have ht := wd_not (w := wTurn) h (by decide)
  unfold pLine pName
  rw [if_neg (fun hh => by rw [h] at hh; cases hh.2), hl]
  by_cases c1 : 5 ≤ ts.length
  · rw [if_pos c1, if_pos c1]; rfl
  · rw [if_neg c1, if_neg c1]
    by_cases c2 : (nx b n s.2.2).1 ≠ 1
    · rw [if_pos c2, if_pos c2]; rfl
    · rw [if_neg c2, if_neg c2]
      by_cases c3' : 6 < (word b (nx b n s.2.2)).length ∨ word b (nx b n s.2.2) ∈ [wLat, wTurn, wOf, wBy] ∨ (ixo (word b (nx b n s.2.2)) ns 0).isSome = true
      · rw [if_pos c3', if_pos c3']; rfl
      · rw [if_neg c3', if_neg c3', ht, if_neg (show ¬ false = true by decide), pEnd_2]; rfl
theorem pLine_turn {b : Nat → Nat} {n : Nat} {ns : List (List Nat)} {ts : List It} {s : Lx} (hl : ns.length = ts.length) (h : isWd b s wTurn = true) : pLine b n ns ts s = pEnd2 b n (pRTurn b n ns ts (pName b n ns s)) := by
  unfold pLine pName
  rw [if_neg (fun hh => by rw [h] at hh; cases hh.1), hl]
  by_cases c1 : 5 ≤ ts.length
  · rw [if_pos c1, if_pos c1]; rfl
  · rw [if_neg c1, if_neg c1]
    by_cases c2 : (nx b n s.2.2).1 ≠ 1
    · rw [if_pos c2, if_pos c2]; rfl
    · rw [if_neg c2, if_neg c2]
      by_cases c3' : 6 < (word b (nx b n s.2.2)).length ∨ word b (nx b n s.2.2) ∈ [wLat, wTurn, wOf, wBy] ∨ (ixo (word b (nx b n s.2.2)) ns 0).isSome = true
      · rw [if_pos c3', if_pos c3']; rfl
      · rw [if_neg c3', if_neg c3', h, if_pos rfl, pEnd_2]; rfl
theorem pLine_no {b : Nat → Nat} {n : Nat} {ns : List (List Nat)} {ts : List It} {s : Lx} (h1 : isWd b s wLat = false) (h2 : isWd b s wTurn = false) : pLine b n ns ts s = .inl (1, s.2.1) := if_pos ⟨h2, h1⟩
/-- after a line -/
def tLE (u u' : TS) (b : Nat → Nat) (n : Nat) (ns : List (List Nat)) : Rs (List Nat × It × Lx) → Prop
  | .inl e => tBd u' e
  | .inr (w, it, s) => tGd u' b n s ∧ tNm u' b n (ns ++ [w]) ∧ tItm u' ns.length it ∧ tA u' 0 0 = ni (ns.length + 1) ∧ tA u' 0 1 = tA u 0 1 + 1 ∧ ∀ p, p ≠ 0 → p ≠ 1 → p ≠ 3 + ns.length → (p < 28 + 9 * ns.length ∨ 28 + 9 * ns.length + 9 ≤ p) → (p < 8 + 4 * ns.length ∨ 8 + 4 * ns.length + 4 ≤ p) → tA u' 0 p = tA u 0 p
theorem tItm.cg {u v : TS} {i : Nat} {it : It} (H : tItm u i it) (h1 : tA v 0 (3 + i) = tA u 0 (3 + i)) (h2 : ∀ k, k < 9 → tA v 0 (28 + 9 * i + k) = tA u 0 (28 + 9 * i + k)) (h3 : ∀ k, k < 4 → tA v 0 (8 + 4 * i + k) = tA u 0 (8 + 4 * i + k)) : tItm v i it := by
  unfold tItm at H ⊢
  cases hq : it.2 with
  | none => rw [hq] at H; exact ⟨by rw [h1]; exact H.1, fun k hk => by rw [h2 k hk]; exact H.2 k hk⟩
  | some q => rw [hq] at H; exact ⟨by rw [h1]; exact H.1, fun k hk => by rw [h3 k hk]; exact H.2 k hk⟩
theorem X3_l130 {f : Nat} {k57 : CH → Nat → Option (Int32 × CH)} {h : CH} {y : Nat} {al : List Nat} {u u1 : TS} {h1 : CH} {k : Int32} (e : tcv h y (fun z => m_X3_passes f z k) = some h1) (P : Pst h y al u RDl h1 u1) : ∃ h', m_X3_lattices_130 f k57 h y y k = k57 h' y ∧ Pst h y al u RDl h' (sA u1 0 1 (tA u1 0 1 + 1)) := by
  unfold m_X3_lattices_130
  have a1 : aI h1 0 (al.getD 1 0) 1 = some (tA u1 0 1) := P.1.a0 (i := 1) (by decide)
  obtain ⟨h2, d1, d2, d3⟩ := P.1.u0 (i := 1) (by decide) (tA u1 0 1 + 1)
  have d1' : uI h1 0 (al.getD 1 0) 1 (tA u1 0 1 + 1) = some h2 := d1
  rw [e, bd_some, P.1.r0, bd_some, a1, bd_some, d1', bd_some]
  exact ⟨h2, rfl, d2, P.2.1.tr (Fr.sA (l := RDl) (by decide)).rF, P.2.2.tr d3 (fun _ _ => id)⟩
theorem X3_l108 {f : Nat} (hf : 501 < f) {k57 : CH → Nat → Option (Int32 × CH)} {h : CH} {y : Nat} {al : List Nat} {u0 u : TS} (H : HT h y al u) {b : Nat → Nat} {n : Nat} {ns : List (List Nat)} (n5 : ns.length ≤ 5) {R : Rs (List Nat × It × Lx)} (T : tLN u0 u b n ns R) : ∃ h' u', m_X3_lattices_108 f k57 h y = k57 h' y ∧ tLE u0 u' b n ns (pEnd2 b n R) ∧ Pst h y al u RDl h' u' := by
  unfold m_X3_lattices_108 m_X3_lattices_125
  cases R with
  | inl e =>
    have B : tBd u e := T
    obtain ⟨h1, u1, c1, g1, p1⟩ := H.passB (f := f) B 1
    obtain ⟨h2, d1, d2⟩ := X3_l130 (k57 := k57) c1 (p1.up (by decide))
    rw [H.i15, bd_some, B.1, if_pos (by decide), d1]
    exact ⟨h2, _, rfl, g1.fr (Fr.sA (l := [0]) (by decide)) (by decide), d2⟩
  | inr q =>
    obtain ⟨w, it, s⟩ := q
    obtain ⟨G, N, I, m0, fr⟩ := T
    have sg := X3_isSign (f := f) (G.ag H.agr) (c := 59) (k := 3) (.inl ⟨rfl, rfl⟩)
    obtain ⟨h1, c1, p1⟩ := H.cr (mf := fun z => m_X3_isSign f z 59) (l := []) sg Fr.rf
    have G1 := G.ag H.agr
    have e1 : ∀ p, tA (rdU h y) 0 p = tA u 0 p := fun p => by rw [p1.2.1.2.2.1 0 (by decide) (by decide)]
    rw [H.i15, bd_some, G.1, if_neg (fun hh => hh rfl), c1, bd2_some]
    unfold pEnd2
    by_cases h3 : s.1 = 3
    · rw [if_pos h3, if_neg (by decide)]
      obtain ⟨h2, u2, c2, g2, p2⟩ := p1.1.pass1 (f := f) hf G1
      obtain ⟨h4, d1, d2⟩ := X3_l130 (k57 := k57) c2 (p2.up (by decide))
      rw [d1]
      have F : Fr [0] u2 (sA u2 0 1 (tA u2 0 1 + 1)) := Fr.sA (by decide)
      have e2 : ∀ p, tA u2 0 p = tA u 0 p := fun p => by rw [p2.2.1.2.2.1 0 (by decide) (by decide)]; exact e1 p
      have e3 : ∀ p, p ≠ 1 → tA (sA u2 0 1 (tA u2 0 1 + 1)) 0 p = tA u 0 p := fun p hp => by rw [tA_sA, if_neg (fun hh => hp hh.2)]; exact e2 p
      refine ⟨h4, _, rfl, ?_, (p1.up (by decide)).tr d2⟩
      show tLE u0 _ b n ns (if s.1 ≠ 3 then .inl (1, s.2.1) else .inr (w, it, nx b n s.2.2))
      rw [if_neg (fun hh => hh h3)]
      refine ⟨g2.fr F (by decide), ((N.rf p1.2.1 (by decide) (by decide)).rf p2.2.1 (by decide) (by decide)).fr F (by decide) (by decide), I.cg (e3 _ (by omega)) (fun k hk => e3 _ (by omega)) (fun k hk => e3 _ (by omega)), by rw [e3 0 (by decide)]; exact m0, ?_, fun p p0 p1' p2' p3 p4 => ?_⟩
      · rw [tA_sA, if_pos ⟨rfl, rfl⟩, e2, fr 1 (by decide) (by omega) (by omega) (by omega)]
      · rw [e3 p p1']; exact fr p p0 p2' p3 p4
    · rw [if_neg h3, if_pos rfl]
      obtain ⟨h2, u2, c2, g2, p2⟩ := p1.1.pass0 (f := f) G1
      obtain ⟨h4, d1, d2⟩ := X3_l130 (k57 := k57) c2 (p2.up (by decide))
      rw [d1]
      refine ⟨h4, _, rfl, ?_, (p1.up (by decide)).tr d2⟩
      show tLE u0 _ b n ns (if s.1 ≠ 3 then .inl (1, s.2.1) else .inr (w, it, nx b n s.2.2))
      rw [if_pos h3]
      exact g2.fr (Fr.sA (l := [0]) (by decide)) (by decide)
/-- what is kept while lines are read -/
def tIts (u : TS) (ts : List It) : Prop := tA u 0 0 = ni ts.length ∧ tA u 0 1 = ni ts.length ∧ tA u 0 2 = 0 ∧ ∀ k, k < ts.length → tItm u k (ts.getD k ([], none))
def tEn (u' : TS) : Rs (List It) → Prop
  | .inl e => tBd u' e
  | .inr ts => tI u' 15 = 0 ∧ tIts u' ts ∧ tI u' 5 = 0 ∧ tI u' 6 = -1
theorem getD_app2 {ts : List It} {it : It} {j : Nat} : (ts ++ [it]).getD j ([], none) = if j < ts.length then ts.getD j ([], none) else if j = ts.length then it else ([], none) := by
  rw [List.getD_eq_getElem?_getD, List.getD_eq_getElem?_getD]
  by_cases h : j < ts.length
  · rw [if_pos h, List.getElem?_append_left h]
  · rw [if_neg h, List.getElem?_append_right (by omega)]
    by_cases h2 : j = ts.length
    · rw [if_pos h2, h2, Nat.sub_self]; rfl
    · rw [if_neg h2]
      obtain ⟨z, hz⟩ : ∃ z, j - ts.length = z + 1 := ⟨j - ts.length - 1, by omega⟩
      rw [hz]; rfl
theorem X3_l57 {f : Nat} (hf : 501 < f) {y : Nat} {al : List Nat} {b : Nat → Nat} {n : Nat} {h0 : CH} (kf0 : kf h0) {u0 : TS} : ∀ K m h u ns ts s, n - s.2.1 < K → K < m → Pst h0 y al u0 RDl h u → tGd u b n s → tNm u b n ns → tIts u ts → ns.length = ts.length → ItsOk ts → ∃ h' u', m_X3_lattices_57 f m h y = m_X3_lattices_146 f h' y ∧ tEn u' (pRead b n K ns ts s) ∧ Pst h0 y al u0 RDl h' u' := by
  intro K
  induction K with
  | zero => intro m h u ns ts s hk; omega
  | succ K ih =>
    intro m h u ns ts s hk hm P G N I hl hQ
    obtain ⟨m, rfl⟩ : ∃ z, m = z + 2 := ⟨m - 2, by omega⟩
    have H := P.1
    have n5 := N.1
    have o := G.2.2.2.1
    rw [m_X3_lattices_57, H.i15, bd_some, G.1, if_neg (fun hh => hh rfl), H.i13, bd_some, G.2.2.1.2.2.1]
    unfold pRead
    by_cases h0' : s.1 = 0
    · rw [if_pos ((tk_0 _ o.1).mpr h0'), if_pos h0']
      exact ⟨h, u, rfl, ⟨G.1, I, G.2.2.2.2⟩, P⟩
    · rw [if_neg (fun hh => h0' ((tk_0 _ o.1).mp hh)), if_neg h0']
      obtain ⟨a6, q6, w6⟩ := X3_kWord (f := f) hf (kf0.mod P.2.2) H G (i := 6) (by decide)
      have w6' : m_X3_isWord f h y a6 = some (if isWd b s wLat = true then 1 else 0, h) := w6
      obtain ⟨a7, q7, w7⟩ := X3_kWord (f := f) hf (kf0.mod P.2.2) H G (i := 7) (by decide)
      have w7' : m_X3_isWord f h y a7 = some (if isWd b s wTurn = true then 1 else 0, h) := w7
      rw [q6, bd_some, gd_of H.isC, w6', bd2_some]
      unfold m_X3_lattices_77 m_X3_lattices_93 m_X3_lattices_84 m_X3_lattices_100
      have fin : ∀ {h1 : CH} {u1 : TS} {L : Rs (List Nat × It × Lx)}, Pst h0 y al u0 RDl h1 u1 → tLE u u1 b n ns L → (∀ w it s', L = .inr (w, it, s') → ItsOk (ts ++ [it]) ∧ s.2.1 < s'.2.1) → ∃ h' u', m_X3_lattices_57 f (m + 1) h1 y = m_X3_lattices_146 f h' y ∧ tEn u' (match L with | .inl e => .inl e | .inr (w, it, s') => pRead b n K (ns ++ [w]) (ts ++ [it]) s') ∧ Pst h0 y al u0 RDl h' u' := fun {h1 u1 L} P1 T1 hL => by
        cases L with
        | inl e =>
          have B1 : tBd u1 e := T1
          rw [m_X3_lattices_57, P1.1.i15, bd_some, B1.1, if_pos (by decide)]
          exact ⟨h1, u1, rfl, B1, P1⟩
        | inr q =>
          obtain ⟨w, it, s'⟩ := q
          obtain ⟨g1, g2, g3, g4, g5, g6⟩ := T1
          obtain ⟨hL1, hL2⟩ := hL w it s' rfl
          have og := g1.2.2.2.1
          have n4 : ns.length + 1 ≤ 5 := by have := g2.1; rw [List.length_append] at this; exact this
          have os := o.2.2.2.1 h0'
          refine ih (m + 1) h1 u1 (ns ++ [w]) (ts ++ [it]) s' (by have := o.2.2.1; have := o.2.1; omega) (by omega) P1 g1 g2 ⟨?_, ?_, ?_, fun k hk => ?_⟩ (by rw [List.length_append, List.length_append, hl]; rfl) hL1
          · rw [g4, List.length_append, hl]; rfl
          · rw [g5, I.2.1, ni_succ, List.length_append]; rfl
          · rw [g6 2 (by decide) (by decide) (by omega) (by omega) (by omega)]; exact I.2.2.1
          · rw [List.length_append] at hk
            have hk' : k < ts.length + 1 := hk
            rw [getD_app2]
            by_cases hkt : k < ts.length
            · rw [if_pos hkt]
              exact (I.2.2.2 k hkt).cg (g6 _ (by omega) (by omega) (by omega) (by omega) (by omega)) (fun i hi => g6 _ (by omega) (by omega) (by omega) (by omega) (by omega)) (fun i hi => g6 _ (by omega) (by omega) (by omega) (by omega) (by omega))
            · rw [if_neg hkt, if_pos (by omega)]
              have : k = ns.length := by omega
              rw [this]; exact g3
      have after : ∀ {h1 : CH} {u1 : TS} {R : Rs (List Nat × It × Lx)}, Pst h y al u RDl h1 u1 → tLN u u1 b n ns R → (∀ w it s', pEnd2 b n R = .inr (w, it, s') → ItsOk (ts ++ [it]) ∧ s.2.1 < s'.2.1) → ∃ h' u', m_X3_lattices_108 f (m_X3_lattices_57 f (m + 1)) h1 y = m_X3_lattices_146 f h' y ∧ tEn u' (match pEnd2 b n R with | .inl e => .inl e | .inr (w, it, s') => pRead b n K (ns ++ [w]) (ts ++ [it]) s') ∧ Pst h0 y al u0 RDl h' u' := fun {h1 u1 R} P1 T1 hL => by
        obtain ⟨h2, u2, c2, t2, p2⟩ := X3_l108 (f := f) hf (k57 := m_X3_lattices_57 f (m + 1)) P1.1 (u0 := u) n5 T1
        rw [c2]
        exact fin ((P.tr P1).tr p2) t2 hL
      have good : ∀ w it s', pLine b n ns ts s = .inr (w, it, s') → ItsOk (ts ++ [it]) ∧ s.2.1 < s'.2.1 := fun w it s' hp => by
        obtain ⟨z1', z2', z3', z4', _⟩ := pLine_ok hl o h0' hp
        have := o.2.2.2.1 h0'
        exact ⟨hQ.snoc z4' z3', by omega⟩
      cases hwl : isWd b s wLat with
      | true =>
        rw [ift1, gd_of H.isC]
        obtain ⟨h1, u1, c1, t1, p1⟩ := X3_readsLattice (f := f) hf (kf0.mod P.2.2) H G N (by rw [hl]; exact I.1)
        rw [c1, bd_some, pLine_lat hl hwl]
        exact after p1 t1 (fun w it s' hE => good w it s' ((pLine_lat hl hwl).trans hE))
      | false =>
        rw [iff0, q7, bd_some, gd_of H.isC, w7', bd2_some]
        cases hwt : isWd b s wTurn with
        | true =>
          rw [ift1, gd_of H.isC]
          obtain ⟨h1, u1, c1, t1, p1⟩ := X3_readsTurn (f := f) hf (kf0.mod P.2.2) H G N (by rw [hl]; exact I.1) (ts := ts) (fun k hk => I.2.2.2 k (by omega)) (fun k q hq => by have := hQ.q hq; have := hQ.1; omega)
          rw [c1, bd_some, pLine_turn hl hwt]
          exact after p1 t1 (fun w it s' hE => good w it s' ((pLine_turn hl hwt).trans hE))
        | false =>
          rw [iff0, pLine_no hwl hwt]
          obtain ⟨h1, u1, c1, g1, p1⟩ := H.flt (f := f) G 1
          rw [show (1 : Int32) = ni 1 from rfl, c1, bd_some]
          exact after (R := .inl (1, s.2.1)) (p1.up (by decide)) g1 (fun w it s' hE => by cases hE)
