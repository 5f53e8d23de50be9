/-! reading: the twin's turns, whole -/
set_option maxRecDepth 100000
def BadGo (h : CH) (y : Nat) (al : List Nat) (u : TS) (e : Nat × Nat) (r : Option CH) : Prop := ∃ h' u', r = some h' ∧ tBd u' e ∧ Pst h y al u [] h' u'
theorem X3_rt136B {f : Nat} (hf : 501 < f) {h : CH} {y : Nat} {al : List Nat} {u : TS} (H : HT h y al u) {e : Nat × Nat} (G : tBd u e) (x1 k : Int32) : BadGo h y al u e (m_X3_readsTurn_136 f h y x1 y k) := by
  obtain ⟨h1, u1, c1, g1, p1⟩ := H.passB (f := f) G k
  unfold m_X3_readsTurn_136 m_X3_readsTurn_159
  obtain ⟨f', rfl⟩ : ∃ z, f = z + 1 := ⟨f - 1, by omega⟩
  rw [c1, bd_some, p1.1.i15, bd_some, g1.1, if_neg (by decide), nmv_eq, X3_rt167B p1.1 g1]
  exact ⟨h1, u1, rfl, g1, p1⟩
theorem BadGo.tr {h h1 : CH} {y : Nat} {al : List Nat} {u u1 : TS} {e : Nat × Nat} {r : Option CH} (P : Pst h y al u [] h1 u1) (B : BadGo h1 y al u1 e r) : BadGo h y al u e r := by
  obtain ⟨h', u', a, b, c⟩ := B
  exact ⟨h', u', a, b, P.tr c⟩
theorem X3_rt111B {f : Nat} (hf : 501 < f) {h : CH} {y : Nat} {al : List Nat} {u : TS} (H : HT h y al u) {e : Nat × Nat} (G : tBd u e) (x1 k : Int32) : BadGo h y al u e (m_X3_readsTurn_111 f h y x1 y k) := by
  obtain ⟨h1, u1, c1, g1, p1⟩ := H.passB (f := f) G k
  unfold m_X3_readsTurn_111 m_X3_readsTurn_131
  rw [c1, bd_some, p1.1.i15, bd_some, g1.1, if_pos (by decide)]
  exact (X3_rt136B hf p1.1 g1 x1 1).tr p1
theorem X3_rt90B {f : Nat} (hf : 501 < f) {h : CH} {y : Nat} {al : List Nat} {u : TS} (H : HT h y al u) {e : Nat × Nat} (G : tBd u e) (x1 : Int32) : BadGo h y al u e (m_X3_readsTurn_90 f h y x1) := by
  unfold m_X3_readsTurn_90 m_X3_readsTurn_106
  rw [H.i15, bd_some, G.1, if_pos (by decide)]
  exact X3_rt111B hf H G x1 1
theorem X3_rt26B {f : Nat} (hf : 501 < f) {h : CH} {y : Nat} {al : List Nat} {u : TS} (H : HT h y al u) {e : Nat × Nat} (G : tBd u e) (k : Int32) : BadGo h y al u e (m_X3_readsTurn_26 f h y y k) := by
  obtain ⟨h1, u1, c1, g1, p1⟩ := H.passB (f := f) G k
  unfold m_X3_readsTurn_26 m_X3_readsTurn_44 m_X3_readsTurn_52
  rw [c1, bd_some, p1.1.i15, bd_some, g1.1, if_pos (by decide), bd_some, if_pos (by decide)]
  exact (X3_rt90B hf p1.1 g1 (-1)).tr p1
def pRTurn (b : Nat → Nat) (n : Nat) (ns : List (List Nat)) (ts : List It) : Rs (List Nat × Lx) → Rs (List Nat × It × Lx)
  | .inl e => .inl e
  | .inr (w, s) => pIts w (pTurn b n ns ts s)
theorem ixo_lt {w : List Nat} : ∀ (ns : List (List Nat)) (j z : Nat), ixo w ns j = some z → j ≤ z ∧ z < j + ns.length
  | [], j, z, h => by cases h
  | x :: r, j, z, h => by
    rw [ixo] at h
    rw [List.length_cons]
    split at h
    · cases h; omega
    · have := ixo_lt r (j + 1) z h; omega
/-- after the name: of, which one, by, its numbers -/
theorem X3_rt4 {f : Nat} (hf : 501 < f) {h : CH} (kf0 : kf h) {y : Nat} {al : List Nat} {u : TS} (H : HT h y al u) {b : Nat → Nat} {n : Nat} {s : Lx} (G : tGd u b n s) {ns : List (List Nat)} {ts : List It} (N : tNm u b n ns) (n5 : ns.length < 5) (hM : tA u 0 0 = ni ns.length) (hT : ∀ k, k < ns.length → tItm u k (ts.getD k ([], none))) (hQ : ∀ k q, (ts.getD k ([], none)).2 = some q → q < 5) : ∃ h' u', m_X3_readsTurn_4 f h y = some h' ∧ tLR u u' b n ns.length (pTurn b n ns ts s) ∧ Pst h y al u RLl h' u' := by
  have ea : ∀ x y : Nat, (ni x : Int32) + ni y = ni (x + y) := fun x y => (Int32.ofNat_add x y).symm
  unfold m_X3_readsTurn_4 m_X3_readsTurn_18 m_X3_readsTurn_21 pTurn
  obtain ⟨a8, q8, w8⟩ := X3_kWord (f := f) hf kf0 H G (i := 8) (by decide)
  have w8' : m_X3_isWord f h y a8 = some (if isWd b s wOf = true then 1 else 0, h) := w8
  rw [H.i15, bd_some, G.1, if_neg (fun hh => hh rfl), q8, bd_some, gd_of H.isC, w8', bd2_some]
  cases hof : isWd b s wOf with
  | false =>
    rw [iff0, if_neg (by decide)]
    obtain ⟨h1, u1, c1, g1, p1⟩ := H.pass0 (f := f) G
    unfold m_X3_readsTurn_26 m_X3_readsTurn_44 m_X3_readsTurn_52
    rw [c1, bd_some, p1.1.i15, bd_some, g1.1, if_pos (by decide), bd_some, if_pos (by decide)]
    obtain ⟨h2, u2, c2, g2, p2⟩ := X3_rt90B (f := f) hf p1.1 g1 (-1)
    exact ⟨h2, u2, c2, g2, (p1.up (by decide)).tr (p2.up (by decide))⟩
  | true =>
    rw [ift1, if_pos rfl]
    obtain ⟨h1, u1, c1, g1, p1⟩ := H.pass1 (f := f) hf G
    unfold m_X3_readsTurn_26
    rw [c1, bd_some, p1.1.i15, bd_some, g1.1, if_neg (fun hh => hh rfl), p1.1.i13, bd_some, g1.2.2.1.2.2.1]
    generalize hs1 : nx b n s.2.2 = s1 at g1 ⊢
    have o1 := g1.2.2.2.1.1
    have N1 := N.rf p1.2.1 (by decide) (by decide)
    have e1 : ∀ p, tA u1 0 p = tA u 0 p := fun p => by rw [p1.2.1.2.2.1 0 (by decide) (by decide)]
    by_cases k1 : s1.1 = 1
    · rw [if_pos ((tk_1 _ o1).mpr k1), if_neg (fun hh => hh k1)]
      obtain ⟨h2, u2, c2, p2⟩ := p1.1.nam (f := f) hf g1 N1 (by rw [e1]; exact hM)
      have g2 := g1.rf p2.2.1 (fun k hk => by cases hk)
      have e2 : ∀ p, tA u2 0 p = tA u 0 p := fun p => by rw [p2.2.1.2.2.1 0 (by decide) (by decide)]; exact e1 p
      have P2 : Pst h y al u RLl h2 u2 := (p1.up (by decide)).tr (p2.up (by decide))
      rw [c2, bd2_some]
      unfold m_X3_readsTurn_52
      rw [p2.1.i15, bd_some, g2.1, if_neg (fun hh => hh rfl), p2.1.i13, bd_some, g2.2.2.1.2.2.1, if_neg (fun hh => hh ((tk_1 _ o1).mpr k1))]
      have bad2 : ∀ x, ∃ h' u', m_X3_readsTurn_85 f h2 y x = some h' ∧ tBd u' (2, s1.2.1) ∧ Pst h y al u RLl h' u' := fun x => by
        obtain ⟨h3, u3, c3', g3, p3'⟩ := p2.1.flt (f := f) g2 2
        unfold m_X3_readsTurn_85
        rw [show (2 : Int32) = ni 2 from rfl, c3', bd_some]
        obtain ⟨h4, u4, c4, g4, p4⟩ := X3_rt90B (f := f) hf p3'.1 g3 x
        exact ⟨h4, u4, c4, g4, (P2.tr (p3'.up (by decide))).tr (p4.up (by decide))⟩
      cases hi : ixo (word b s1) ns 0 with
      | none =>
        rw [if_pos (show ixI none = (-1 : Int32) from rfl)]
        exact bad2 _
      | some o =>
        have ol := ixo_lt ns 0 o hi
        rw [if_neg (show ¬ ixI (some o) = (-1 : Int32) from ni_m6 (by omega)), show ixI (some o) = ni o from rfl]
        have ao : aI h2 0 (al.getD 1 0) (ni (3 + o)) = some (tA u2 0 (3 + o)) := p2.1.a0 (by omega)
        rw [p2.1.r0, bd_some, show (3 : Int32) = ni 3 from rfl, ea, ao, bd_some, e2]
        have hTo := hT o (by omega)
        unfold tItm at hTo
        cases hq : (ts.getD o ([], none)).2 with
        | some q =>
          rw [hq] at hTo
          show ∃ h' u', _ ∧ tLR u u' b n ns.length (if (ts.getD o ([], none)).2.isSome = true then Sum.inl (2, s1.2.1) else pTurn2 b n o (nx b n s1.2.2)) ∧ _
          rw [hq, if_pos (show (some q).isSome = true from rfl)]
          by_cases hx : tA u 0 (3 + o) = -1
          · exact absurd (hTo.1.symm.trans hx) (ni_m6 (by have := hQ o q hq; omega))
          · rw [if_neg hx]
            exact bad2 _
        | none =>
          rw [hq] at hTo
          show ∃ h' u', _ ∧ tLR u u' b n ns.length (if (ts.getD o ([], none)).2.isSome = true then Sum.inl (2, s1.2.1) else pTurn2 b n o (nx b n s1.2.2)) ∧ _
          rw [hq, if_neg (show ¬ (none : Option Nat).isSome = true from fun hh => by cases hh), if_pos hTo.1]
          unfold m_X3_readsTurn_90 m_X3_readsTurn_106 m_X3_readsTurn_111
          obtain ⟨h3, u3, c3', g3, p3'⟩ := p2.1.pass1 (f := f) hf g2
          rw [p2.1.i15, bd_some, g2.1, if_neg (fun hh => hh rfl), p2.1.i13, bd_some, g2.2.2.1.2.2.1, if_neg (fun hh => hh ((tk_1 _ o1).mpr k1)), c3', bd_some, p3'.1.i15, bd_some, g3.1, if_neg (fun hh => hh rfl)]
          have P3 := P2.tr (p3'.up (by decide))
          generalize nx b n s1.2.2 = s2 at g3 ⊢
          unfold pTurn2
          obtain ⟨a9, q9, w9⟩ := X3_kWord (f := f) hf (kf0.mod P3.2.2) p3'.1 g3 (i := 9) (by decide)
          have w9' : m_X3_isWord f h3 y a9 = some (if isWd b s2 wBy = true then 1 else 0, h3) := w9
          rw [q9, bd_some, gd_of p3'.1.isC, w9', bd2_some]
          unfold m_X3_readsTurn_128 m_X3_readsTurn_131
          cases hby : isWd b s2 wBy with
          | false =>
            rw [iff0, if_neg (by decide)]
            obtain ⟨h4, u4, c4, g4, p4⟩ := p3'.1.pass0 (f := f) g3
            unfold m_X3_readsTurn_136 m_X3_readsTurn_159
            obtain ⟨f', rfl⟩ : ∃ z, f = z + 1 := ⟨f - 1, by omega⟩
            rw [c4, bd_some, p4.1.i15, bd_some, g4.1, if_neg (by decide), nmv_eq, X3_rt167B p4.1 g4]
            exact ⟨h4, u4, rfl, g4, P3.tr (p4.up (by decide))⟩
          | true =>
            rw [ift1, if_pos rfl]
            obtain ⟨h4, u4, c4, g4, p4⟩ := p3'.1.pass1 (f := f) hf g3
            have P4 := P3.tr (p4.up (by decide))
            have e4 : ∀ p, tA u4 0 p = tA u 0 p := fun p => by rw [p4.2.1.2.2.1 0 (by decide) (by decide), p3'.2.1.2.2.1 0 (by decide) (by decide)]; exact e2 p
            have a0 : aI h4 0 (al.getD 1 0) 0 = some (ni ns.length) := by rw [← hM, ← e4 0]; exact p4.1.a0 (i := 0) (by decide)
            have eb : (8 : Int32) + (4 : Int32) * ni ns.length = ni (8 + 4 * ns.length) := by
              show Int32.ofNat 8 + Int32.ofNat 4 * Int32.ofNat ns.length = Int32.ofNat (8 + 4 * ns.length)
              rw [← Int32.ofNat_mul, ← Int32.ofNat_add]
            unfold m_X3_readsTurn_136 m_X3_readsTurn_159
            rw [c4, bd_some, p4.1.i15, bd_some, g4.1, if_pos rfl, p4.1.r0, bd_some, a0, bd_some, nmv_eq, eb]
            obtain ⟨h5, u5, c5, t5, p5⟩ := X3_rt167 (f := f) hf (y := y) (al := al) (b := b) (n := n) (m := ns.length) (by omega) (o := o) (h0 := h4) (u0 := u4) 4 0 f h4 u4 (nx b n s2.2.2) [] 0 0 rfl (by omega) (Pst.rf p4.1) g4 (by rw [e4]; exact hM) rfl (fun v hv => by cases hv) (fun i hi => by omega) (fun _ _ => rfl) ⟨fun _ i hi => by omega, fun _ => rfl⟩ (fun e => by omega)
            refine ⟨h5, u5, c5, ?_, P4.tr p5⟩
            revert t5
            cases pTurC o (pNums b n 3 4 (nx b n s2.2.2) [] 0) with
            | inl e => exact id
            | inr q =>
              obtain ⟨it, s3⟩ := q
              rintro ⟨q1, q2, q3, q4⟩
              exact ⟨q1, q2, q3, fun p p0 p1' p2' p3 => (q4 p p0 p1' p2' p3).trans (e4 p)⟩
    · rw [if_neg (fun hh => k1 ((tk_1 _ o1).mp hh)), if_pos k1]
      unfold m_X3_readsTurn_44 m_X3_readsTurn_52 m_X3_readsTurn_90 m_X3_readsTurn_111
      obtain ⟨h2, u2, c2, g2, p2⟩ := p1.1.pass0 (f := f) g1
      rw [p1.1.i15, bd_some, g1.1, if_neg (fun hh => hh rfl), p1.1.i13, bd_some, g1.2.2.1.2.2.1, if_pos (fun hh => k1 ((tk_1 _ o1).mp hh)), bd_some, if_neg (fun hh => hh rfl), bd_some, if_pos (fun hh => k1 ((tk_1 _ o1).mp hh)), c2, bd_some, p2.1.i15, bd_some, g2.1, if_pos (by decide)]
      unfold m_X3_readsTurn_131
      obtain ⟨h3, u3, c3', g3, p3'⟩ := X3_rt136B (f := f) hf p2.1 g2 (-1) 1
      exact ⟨h3, u3, c3', g3, ((p1.up (by decide)).tr (p2.up (by decide))).tr (p3'.up (by decide))⟩
theorem X3_readsTurn {f : Nat} (hf : 501 < f) {h : CH} (kf0 : kf h) {y : Nat} {al : List Nat} {u : TS} (H : HT h y al u) {b : Nat → Nat} {n : Nat} {s : Lx} (G : tGd u b n s) {ns : List (List Nat)} {ts : List It} (N : tNm u b n ns) (hM : tA u 0 0 = ni ns.length) (hT : ∀ k, k < ns.length → tItm u k (ts.getD k ([], none))) (hQ : ∀ k q, (ts.getD k ([], none)).2 = some q → q < 5) : ∃ h' u', m_X3_readsTurn f h y = some h' ∧ tLN u u' b n ns (pRTurn b n ns ts (pName b n ns s)) ∧ Pst h y al u RDl h' u' := by
  have n5 := N.1
  obtain ⟨h1, u1, c1, t1, p1⟩ := X3_readsName (f := f) hf kf0 H G N hM
  unfold m_X3_readsTurn
  rw [gd_of H.isC, c1, bd_some]
  cases hp : pName b n ns s with
  | inl e =>
    rw [hp] at t1
    have B1 : tBd u1 e := t1
    unfold m_X3_readsTurn_4 m_X3_readsTurn_21
    rw [p1.1.i15, bd_some, B1.1, if_pos (by decide)]
    obtain ⟨h2, u2, c2, g2, p2⟩ := X3_rt26B (f := f) hf p1.1 B1 1
    exact ⟨h2, u2, c2, g2, (p1.up (by decide)).tr (p2.up (by decide))⟩
  | inr ws =>
    obtain ⟨w, s2⟩ := ws
    rw [hp] at t1
    obtain ⟨G1, N1⟩ := t1
    have n5' : ns.length + 1 ≤ 5 := by have := N1.1; rw [List.length_append] at this; exact this
    have e1 : ∀ p, tA u1 0 p = tA u 0 p := fun p => by rw [p1.2.1.2.2.1 0 (by decide) (by decide)]
    have N0 : tNm u1 b n ns := ⟨n5, fun k w' hk => N1.2 k w' (by
      rw [List.getElem?_append_left (by
        have := (List.getElem?_eq_some_iff.mp hk).1; exact this)]; exact hk)⟩
    obtain ⟨h2, u2, c2, t2, p2⟩ := X3_rt4 (f := f) hf (kf0.mod p1.2.2) p1.1 G1 N0 (ts := ts) (by omega) (by rw [e1]; exact hM) (fun k hk => by
      have := hT k hk
      unfold tItm at this ⊢
      cases hq : (ts.getD k ([], none)).2 with
      | none => rw [hq] at this; exact ⟨by rw [e1]; exact this.1, fun i hi => by rw [e1]; exact this.2 i hi⟩
      | some q => rw [hq] at this; exact ⟨by rw [e1]; exact this.1, fun i hi => by rw [e1]; exact this.2 i hi⟩) hQ
    refine ⟨h2, u2, c2, ?_, (p1.up (by decide)).tr (p2.up (by decide))⟩
    have N2 := N1.rf p2.2.1 (by decide) (by decide)
    show tLN u u2 b n ns (pIts w (pTurn b n ns ts s2))
    revert t2
    cases pTurn b n ns ts s2 with
    | inl e => exact id
    | inr q =>
      obtain ⟨it, s3⟩ := q
      rintro ⟨q1, q2, q3, q4⟩
      exact ⟨q1, N2, q2, q3, fun p p0 p1' p2' p3 => (q4 p p0 p1' p2' p3).trans (e1 p)⟩
