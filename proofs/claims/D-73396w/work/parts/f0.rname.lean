/-! reading: the twin's names -/
set_option maxRecDepth 100000
/-- the name of one more -/
def pName (b : Nat → Nat) (n : Nat) (ns : List (List Nat)) (s : Lx) : Rs (List Nat × Lx) :=
  if 5 ≤ ns.length then .inl (3, s.2.1)
  else if (nx b n s.2.2).1 ≠ 1 then .inl (1, (nx b n s.2.2).2.1)
  else if 6 < (word b (nx b n s.2.2)).length ∨ word b (nx b n s.2.2) ∈ [wLat, wTurn, wOf, wBy] ∨ (ixo (word b (nx b n s.2.2)) ns 0).isSome = true then .inl (2, (nx b n s.2.2).2.1)
  else .inr (word b (nx b n s.2.2), nx b n (nx b n s.2.2).2.2)
theorem isKp_iff {b : Nat → Nat} {s : Lx} (h : s.1 = 1) : isKp b s = true ↔ word b s ∈ [wLat, wTurn, wOf, wBy] := by
  have g : ∀ w, isWd b s w = true ↔ word b s = w := fun w => ⟨fun hh => (of_decide_eq_true hh).2, fun hh => decide_eq_true ⟨h, hh⟩⟩
  unfold isKp
  simp only [Bool.or_eq_true, g, List.mem_cons, List.not_mem_nil, or_false]
  constructor
  · rintro (((a | a) | a) | a) <;> simp [a]
  · rintro (a | a | a | a) <;> simp [a]
/-- after a name: it went wrong, or the name is laid and gone behind -/
def tNR (u' : TS) (b : Nat → Nat) (n : Nat) (ns : List (List Nat)) : Rs (List Nat × Lx) → Prop
  | .inl e => tBd u' e
  | .inr (w, s) => tGd u' b n s ∧ tNm u' b n (ns ++ [w])
theorem X3_rn132B {f : Nat} {h : CH} {y : Nat} {al : List Nat} {u : TS} (H : HT h y al u) {e : Nat × Nat} (G : tBd u e) (k : Int32) : ∃ h' u', m_X3_readsName_132 f h y k = some h' ∧ tBd u' e ∧ Pst h y al u [] h' u' := by
  obtain ⟨h', u', c1, c2, c3'⟩ := H.passB (f := f) G k
  unfold m_X3_readsName_132
  rw [c1, bd_some]
  exact ⟨h', u', rfl, c2, c3'⟩
theorem X3_rn69B {f : Nat} {h : CH} {y : Nat} {al : List Nat} {u : TS} (H : HT h y al u) {e : Nat × Nat} (G : tBd u e) : ∃ h' u', m_X3_readsName_69 f h y = some h' ∧ tBd u' e ∧ Pst h y al u [] h' u' := by
  unfold m_X3_readsName_69 m_X3_readsName_111 m_X3_readsName_127
  rw [H.i15, bd_some, G.1, if_pos (by decide), bd_some, if_pos (by decide)]
  exact X3_rn132B H G 1
theorem X3_readsName {f : Nat} (hf : 501 < f) {h : CH} (kf0 : kf h) {y : Nat} {al : List Nat} {u : TS} (H : HT h y al u) {b : Nat → Nat} {n : Nat} {s : Lx} (G : tGd u b n s) {ns : List (List Nat)} (N : tNm u b n ns) (hM : tA u 0 0 = ni ns.length) : ∃ h' u', m_X3_readsName f h y = some h' ∧ tNR u' b n ns (pName b n ns s) ∧ Pst h y al u [5, 6, 11, 12, 13, 14, 15, 16, 17] h' u' := by
  have n5 := N.1
  unfold m_X3_readsName pName
  have a00 : aI h 0 (al.getD 1 0) 0 = some (ni ns.length) := by rw [← hM]; exact H.a0 (i := 0) (by decide)
  rw [H.r0, bd_some, a00, bd_some]
  by_cases h5 : 5 ≤ ns.length
  · have e5 : ns.length = 5 := by omega
    rw [e5, if_neg (fun hh => hh rfl), if_pos (Nat.le_refl 5)]
    obtain ⟨h1, u1, c1, g1, p1⟩ := H.flt (f := f) G 3
    rw [show (3 : Int32) = ni 3 from rfl, c1, bd_some]
    obtain ⟨h2, u2, c2, g2, p2⟩ := p1.1.passB (f := f) g1 1
    unfold m_X3_readsName_15
    rw [c2, bd_some, p2.1.i15, bd_some, g2.1, if_pos (by decide)]
    obtain ⟨h3, u3, c3', g3, p3'⟩ := X3_rn69B (f := f) p2.1 g2
    exact ⟨h3, u3, c3', g3, ((p1.up (by decide)).tr (p2.up (by decide))).tr (p3'.up (by decide))⟩
  · rw [if_pos (fun hh => h5 (by have := (ni_inj (by omega) (by decide)).mp (show ni ns.length = ni 5 from hh); omega)), if_neg h5]
    unfold m_X3_readsName_15
    obtain ⟨h1, u1, c1, g1, p1⟩ := H.pass1 (f := f) hf G
    rw [c1, bd_some, p1.1.i15, bd_some, g1.1, if_neg (fun hh => hh rfl), p1.1.i13, bd_some, g1.2.2.1.2.2.1]
    have N1 := N.rf p1.2.1 (by decide) (by decide)
    have hM1 : tA u1 0 0 = ni ns.length := by rw [p1.2.1.2.2.1 0 (by decide) (by decide)]; exact hM
    have kf1 := kf0.mod p1.2.2
    generalize hs1 : nx b n s.2.2 = s1 at g1 ⊢
    have o1 := g1.2.2.2.1.1
    have o2 := g1.2.2.2.1.2.1
    have o3 := g1.2.2.2.1.2.2.1
    have n500 := g1.2.1.2.1
    -- the name is laid; then it must be one
    have lay : ∀ {h2 : CH} {u2 : TS}, HT h2 y al u2 → tGd u2 b n s1 → tNm u2 b n ns → tA u2 0 0 = ni ns.length → ∃ h3 u3, m_X3_readsName_69 f h2 y = m_X3_readsName_111 f h3 y ∧ tGd u3 b n s1 ∧ (s1.1 = 1 → tNm u3 b n (ns ++ [word b s1])) ∧ Pst h2 y al u2 [16, 17] h3 u3 := fun {h2 u2} H2 G2 N2 M2 => by
      unfold m_X3_readsName_69
      have a0 : aI h2 0 (al.getD 1 0) 0 = some (ni ns.length) := by rw [← M2]; exact H2.a0 (i := 0) (by decide)
      obtain ⟨h3, d1, d2, d3⟩ := H2.u16 (i := ns.length) (by omega) (tI u2 12)
      have a0' : aI h3 0 (al.getD 1 0) 0 = some (ni ns.length) := by rw [← M2]; exact d2.a0 (i := 0) (by decide)
      have e11 : tI (sA u2 16 ns.length (tI u2 12)) 11 = tI u2 11 := rfl
      have e12 : tI (sA u2 16 ns.length (tI u2 12)) 12 = tI u2 12 := rfl
      obtain ⟨h4, f1, f2, f3⟩ := d2.u17 (i := ns.length) (by omega) (tI u2 11 - tI u2 12)
      rw [H2.i15, bd_some, G2.1, if_neg (fun hh => hh rfl), H2.r16, bd_some, H2.r0, bd_some, a0, bd_some, H2.i12, bd_some, d1, bd_some, d2.r17, bd_some, d2.r0, bd_some, a0', bd_some, d2.i11, bd_some, d2.i12, bd_some, e11, e12, f1, bd_some]
      have F : Fr [16, 17] u2 (sA (sA u2 16 ns.length (tI u2 12)) 17 ns.length (tI u2 11 - tI u2 12)) := (Fr.sA (by decide)).tr (Fr.sA (by decide))
      refine ⟨h4, _, rfl, G2.fr F (by decide), fun h1 => ⟨by rw [List.length_append]; show ns.length + 1 ≤ 5; omega, fun k w hk => ?_⟩, f2, F.rF, d3.tr f3 (fun _ _ => id)⟩
      have esub : (tI u2 11) - (tI u2 12) = ni (s1.2.2 - s1.2.1) := by
        rw [G2.2.2.1.1, G2.2.2.1.2.1]
        show Int32.ofNat s1.2.2 - Int32.ofNat s1.2.1 = Int32.ofNat (s1.2.2 - s1.2.1)
        rw [Int32.ofNat_sub _ _ o2]
      by_cases hkn : k < ns.length
      · rw [List.getElem?_append_left hkn] at hk
        obtain ⟨q, z1', z2', z3'⟩ := N2.2 k w hk
        refine ⟨q, ?_, ?_, z3'⟩
        · rw [tA_sA, if_neg (fun hh => by have := hh.1; omega), tA_sA, if_neg (fun hh => by have := hh.2; omega)]; exact z1'
        · rw [tA_sA, if_neg (fun hh => by have := hh.2; omega), tA_sA, if_neg (fun hh => by have := hh.1; omega)]; exact z2'
      · rw [List.getElem?_append_right (by omega)] at hk
        have hk0 : k - ns.length = 0 := by
          cases hd : k - ns.length with
          | zero => rfl
          | succ z => rw [hd] at hk; cases hk
        have hkk : k = ns.length := by omega
        rw [hk0] at hk
        have hw : word b s1 = w := Option.some.inj hk
        subst hw
        subst hkk
        refine ⟨s1.2.1, ?_, ?_, ?_, fun i hi => ?_⟩
        · rw [tA_sA, if_neg (fun hh => by have := hh.1; omega), tA_sA, if_pos ⟨rfl, rfl⟩]; exact G2.2.2.1.2.1
        · rw [tA_sA, if_pos ⟨rfl, rfl⟩, esub, word_len]
        · rw [word_len]; omega
        · rw [word_len] at hi; rw [word_gd hi]
    by_cases k1 : s1.1 = 1
    · rw [if_neg (fun hh => hh ((tk_1 _ o1).mpr k1)), if_neg (fun hh => hh k1)]
      have esub : (tI u1 11) - (tI u1 12) = ni (s1.2.2 - s1.2.1) := by
        rw [g1.2.2.1.1, g1.2.2.1.2.1]
        show Int32.ofNat s1.2.2 - Int32.ofNat s1.2.1 = Int32.ofNat (s1.2.2 - s1.2.1)
        rw [Int32.ofNat_sub _ _ o2]
      rw [p1.1.i11, bd_some, p1.1.i12, bd_some, esub]
      have bad2 : ∀ {h2 : CH} {u2 : TS}, Pst h1 y al u1 [] h2 u2 → ∃ h' u', m_X3_readsName_64 f h2 y = some h' ∧ tBd u' (2, s1.2.1) ∧ Pst h y al u [5, 6, 11, 12, 13, 14, 15, 16, 17] h' u' := fun {h2 u2} P2 => by
        have G2 := g1.rf P2.2.1 (fun k hk => by cases hk)
        obtain ⟨h3, u3, c3', g3, p3'⟩ := P2.1.flt (f := f) G2 2
        obtain ⟨h4, u4, c4, g4, p4⟩ := X3_rn69B (f := f) p3'.1 g3
        unfold m_X3_readsName_64
        rw [show (2 : Int32) = ni 2 from rfl, c3', bd_some]
        exact ⟨h4, u4, c4, g4, (((p1.up (by decide)).tr (P2.up (by decide))).tr (p3'.up (by decide))).tr (p4.up (by decide))⟩
      have wl := word_len b s1
      by_cases c6 : 6 < s1.2.2 - s1.2.1
      · rw [if_pos (show (6 : Int32) < ni (s1.2.2 - s1.2.1) from (ni_lt (show 6 < 2 ^ 31 by decide) (by omega)).mpr c6), if_pos (.inl (by rw [wl]; exact c6))]
        exact bad2 (Pst.rf p1.1)
      · rw [if_neg (show ¬ (6 : Int32) < ni (s1.2.2 - s1.2.1) from fun hh => c6 ((ni_lt (show 6 < 2 ^ 31 by decide) (by omega)).mp hh)), gd_of p1.1.isC, X3_isKept (f := f) hf kf1 p1.1 g1, bd2_some]
        unfold m_X3_readsName_53
        cases hk : isKp b s1 with
        | true =>
          rw [nift1, if_pos (.inr (.inl ((isKp_iff k1).mp hk)))]
          exact bad2 (Pst.rf p1.1)
        | false =>
          obtain ⟨h2, u2, c2, p2⟩ := p1.1.nam (f := f) hf g1 N1 hM1
          rw [niff0, c2, bd2_some]
          have hkf : ¬ word b s1 ∈ [wLat, wTurn, wOf, wBy] := fun hh => by rw [(isKp_iff k1).mpr hh] at hk; cases hk
          cases hi : ixo (word b s1) ns 0 with
          | some z =>
            have hz : ¬ ixI (some z) = (-1 : Int32) := by
              have : ∀ (ns : List (List Nat)) (w : List Nat) j z, ixo w ns j = some z → z < j + ns.length := by
                intro ns w
                induction ns with
                | nil => intro j z h; cases h
                | cons x r ih =>
                  intro j z h
                  rw [ixo] at h
                  rw [List.length_cons]
                  split at h
                  · cases h; omega
                  · have := ih (j + 1) z h; omega
              have hz := this ns _ 0 z hi
              exact ni_m6 (by omega)
            rw [if_neg hz, if_pos (.inr (.inr (by rfl)))]
            exact bad2 p2
          | none =>
            rw [if_pos (show ixI none = (-1 : Int32) from rfl), if_neg (fun hh => by
              rcases hh with hh | hh | hh
              · omega
              · exact hkf hh
              · cases hh)]
            have G2 := g1.rf p2.2.1 (fun k hk => by cases hk)
            obtain ⟨h3, u3, c3', g3, N3, p3'⟩ := lay p2.1 G2 (N1.rf p2.2.1 (by decide) (by decide)) (by rw [p2.2.1.2.2.1 0 (by decide) (by decide)]; exact hM1)
            rw [c3']
            unfold m_X3_readsName_111
            obtain ⟨h4, u4, c4, g4, p4⟩ := p3'.1.pass1 (f := f) hf g3
            rw [p3'.1.i15, bd_some, g3.1, if_neg (fun hh => hh rfl), p3'.1.i13, bd_some, g3.2.2.1.2.2.1, if_neg (fun hh => hh ((tk_1 _ o1).mpr k1))]
            unfold m_X3_readsName_127 m_X3_readsName_132
            rw [c4, bd_some]
            exact ⟨h4, u4, rfl, ⟨g4, (N3 k1).rf p4.2.1 (by decide) (by decide)⟩, (((p1.up (by decide)).tr (p2.up (by decide))).tr (p3'.up (by decide))).tr (p4.up (by decide))⟩
    · rw [if_pos (fun hh => k1 ((tk_1 _ o1).mp hh)), if_pos k1]
      obtain ⟨h3, u3, c3', g3, _, p3'⟩ := lay p1.1 g1 N1 hM1
      rw [c3']
      unfold m_X3_readsName_111
      obtain ⟨h4, u4, c4, g4, p4⟩ := p3'.1.pass0 (f := f) g3
      rw [p3'.1.i15, bd_some, g3.1, if_neg (fun hh => hh rfl), p3'.1.i13, bd_some, g3.2.2.1.2.2.1, if_pos (fun hh => k1 ((tk_1 _ o1).mp hh))]
      unfold m_X3_readsName_132
      rw [c4, bd_some]
      exact ⟨h4, u4, rfl, g4, ((p1.up (by decide)).tr (p3'.up (by decide))).tr (p4.up (by decide))⟩
