/-! reading: the twin's words and numbers -/
set_option maxRecDepth 100000
/-- nothing went wrong yet; the piece at hand is s -/
def tGd (u : TS) (b : Nat → Nat) (n : Nat) (s : Lx) : Prop := tI u 15 = 0 ∧ tTp u b n ∧ tLx u b s ∧ LxOk b n s ∧ tI u 5 = 0 ∧ tI u 6 = -1
/-- it went wrong so, there -/
def tBd (u : TS) (e : Nat × Nat) : Prop := tI u 15 = 1 ∧ tI u 5 = ni e.1 ∧ tI u 6 = ni e.2
theorem tGd.fr {l : List Nat} {u v : TS} {b : Nat → Nat} {n : Nat} {s : Lx} (H : tGd u b n s) (a : Fr l u v) (hl : ∀ k, k ∈ l → k ∉ [3, 4, 5, 6, 11, 12, 13, 14, 15]) : tGd v b n s := by
  have g : ∀ k, k ∈ [3, 4, 5, 6, 11, 12, 13, 14, 15] → k ∉ l := fun k hk h => hl k h hk
  obtain ⟨a1, a2, ⟨a3, a4, a5, a6⟩, a7⟩ := H
  exact ⟨by rw [(a 15 (g _ (by decide))).1]; exact a1, a2.fr a (g _ (by decide)) (g _ (by decide)), ⟨by rw [(a 11 (g _ (by decide))).1]; exact a3, by rw [(a 12 (g _ (by decide))).1]; exact a4, by rw [(a 13 (g _ (by decide))).1]; exact a5, fun h => by rw [(a 14 (g _ (by decide))).1]; exact a6 h⟩, a7.1, by rw [(a 5 (g _ (by decide))).1]; exact a7.2.1, by rw [(a 6 (g _ (by decide))).1]; exact a7.2.2⟩
theorem tBd.fr {l : List Nat} {u v : TS} {e : Nat × Nat} (H : tBd u e) (a : Fr l u v) (hl : ∀ k, k ∈ l → k ∉ [5, 6, 15]) : tBd v e := by
  have g : ∀ k, k ∈ [5, 6, 15] → k ∉ l := fun k hk h => hl k h hk
  exact ⟨by rw [(a 15 (g _ (by decide))).1]; exact H.1, by rw [(a 5 (g _ (by decide))).1]; exact H.2.1, by rw [(a 6 (g _ (by decide))).1]; exact H.2.2⟩
theorem X3_faults {f : Nat} {u : TS} {b : Nat → Nat} {n : Nat} {s : Lx} (H : tGd u b n s) (k : Nat) : ∃ u', m_X3_faults f u (ni k) = some u' ∧ tBd u' (k, s.2.1) ∧ Fr [5, 6, 15] u u' := by
  obtain ⟨a1, a2, ⟨a3, a4, a5, a6⟩, a7⟩ := H
  unfold m_X3_faults
  rw [a1, if_neg (fun hh => hh rfl), nmv_eq, nmv_eq, nmv_eq]
  refine ⟨_, rfl, ⟨?_, ?_, ?_⟩, ((Fr.sI (by decide)).tr (Fr.sI (by decide))).tr (Fr.sI (by decide))⟩
  · rw [tI_sI, if_neg (by decide), tI_sI, if_neg (by decide), tI_sI, if_pos rfl]
  · rw [tI_sI, if_neg (by decide), tI_sI, if_pos rfl]
  · rw [tI_sI, if_pos rfl, tI_sI, if_neg (by decide), tI_sI, if_neg (by decide)]; exact a4
theorem X3_faultsB {f : Nat} {u : TS} {e : Nat × Nat} (H : tBd u e) (k : Int32) : m_X3_faults f u k = some u := by
  unfold m_X3_faults; rw [H.1, if_pos (by decide)]; rfl
theorem X3_passesB {f : Nat} {u : TS} {e : Nat × Nat} (H : tBd u e) (k : Int32) : m_X3_passes f u k = some u := by
  unfold m_X3_passes m_X3_passes_9
  by_cases hk : k = 0
  · rw [if_neg (fun hh => hh hk), X3_faultsB H, bd_some, H.1, if_pos (by decide)]; rfl
  · rw [if_pos hk, H.1, if_pos (by decide)]; rfl
theorem X3_passes1 {f : Nat} (hf : 501 < f) {u : TS} {b : Nat → Nat} {n : Nat} {s : Lx} (H : tGd u b n s) : ∃ u', m_X3_passes f u 1 = some u' ∧ tGd u' b n (nx b n s.2.2) ∧ Fr [11, 12, 13, 14] u u' := by
  obtain ⟨a1, a2, a3, a7⟩ := H
  unfold m_X3_passes m_X3_passes_9
  obtain ⟨u', e1, e2, e3⟩ := X3_next (f := f) hf a2 a3.1 a7.1.2.2.1
  rw [if_pos (by decide), a1, if_neg (fun hh => hh rfl), e1, bd_some]
  exact ⟨u', rfl, ⟨by rw [(e3 15 (by decide)).1]; exact a1, a2.fr e3 (by decide) (by decide), e2, (nx_ok a7.1.2.2.1).1, by rw [(e3 5 (by decide)).1]; exact a7.2.1, by rw [(e3 6 (by decide)).1]; exact a7.2.2⟩, e3⟩
theorem X3_passes0 {f : Nat} {u : TS} {b : Nat → Nat} {n : Nat} {s : Lx} (H : tGd u b n s) : ∃ u', m_X3_passes f u 0 = some u' ∧ tBd u' (1, s.2.1) ∧ Fr [5, 6, 15] u u' := by
  obtain ⟨u', e1, e2, e3⟩ := X3_faults (f := f) H 1
  unfold m_X3_passes m_X3_passes_9
  rw [if_neg (fun hh => hh rfl), show (1 : Int32) = ni 1 from rfl, e1, bd_some, e2.1, if_pos (by decide)]
  exact ⟨u', rfl, e2, e3⟩
theorem tk_3 : ∀ k, k ≤ 5 → (ni (tkT k) = (3 : Int32) ↔ (k = 3 ∨ k = 4)) := by decide
theorem tk_1 : ∀ k, k ≤ 5 → (ni (tkT k) = (1 : Int32) ↔ k = 1) := by decide
theorem tk_2 : ∀ k, k ≤ 5 → (ni (tkT k) = (2 : Int32) ↔ k = 2) := by decide
theorem tk_0 : ∀ k, k ≤ 5 → (ni (tkT k) = (0 : Int32) ↔ k = 0) := by decide
theorem X3_isSign {f : Nat} {u : TS} {b : Nat → Nat} {n : Nat} {s : Lx} (H : tGd u b n s) {c k : Nat} (hc : (c = 59 ∧ k = 3) ∨ (c = 45 ∧ k = 4)) : m_X3_isSign f u (ni c) = some (if s.1 = k then 1 else 0, u) := by
  obtain ⟨a1, ⟨t1, t2, t3⟩, ⟨a3, a4, a5, a6⟩, ⟨o1, o2, o3, o4, o5, o6, o7, o8, o9⟩, _⟩ := H
  unfold m_X3_isSign
  rw [a5]
  by_cases h3 : s.1 = 3 ∨ s.1 = 4
  · rw [if_neg (fun hh => hh ((tk_3 _ o1).mpr h3)), a4]
    have hlt : s.2.1 < n := by have := o4 (by omega); omega
    obtain ⟨b1, b2⟩ := t3 _ hlt
    rw [gd_of (ix_ni (show s.2.1 < 500 by omega) (by decide)), ni_clamp (by omega), b2]
    by_cases e : b s.2.1 = c
    · have hk : s.1 = k := by
        rcases hc with ⟨rfl, rfl⟩ | ⟨rfl, rfl⟩
        · exact o8.mpr ⟨by omega, e⟩
        · exact o9.mpr ⟨by omega, e⟩
      rw [if_neg (fun hh => hh (by rw [e])), if_pos hk]; rfl
    · have hk : ¬ s.1 = k := fun hk => e (by
        rcases hc with ⟨rfl, rfl⟩ | ⟨rfl, rfl⟩
        · exact (o8.mp hk).2
        · exact (o9.mp hk).2)
      rw [if_pos (fun hh => e ((ni_inj (by omega) (by omega)).mp hh)), if_neg hk]; rfl
  · rw [if_pos (fun hh => h3 ((tk_3 _ o1).mp hh)), if_neg (by omega)]; rfl
/-- a number seen -/
theorem X3_sees24 {f : Nat} {u : TS} {b : Nat → Nat} {n : Nat} {s : Lx} (H : tGd u b n s) {most : Nat} (hm : most ≤ 6) (x2 : Int32) : (s.1 ≠ 2 → ∃ u' v, m_X3_sees_24 f u (ni most) x2 = some (v, u') ∧ tBd u' (1, s.2.1) ∧ Fr [5, 6, 15] u u') ∧ (s.1 = 2 → most < val b s → ∃ u' v, m_X3_sees_24 f u (ni most) x2 = some (v, u') ∧ tBd u' (2, s.2.1) ∧ Fr [5, 6, 15] u u') ∧ (s.1 = 2 → ¬ most < val b s → m_X3_sees_24 f u (ni most) x2 = some (if x2 = 0 then ni (val b s) else -ni (val b s), u)) := by
  have H' := H
  obtain ⟨a1, a2, ⟨a3, a4, a5, a6⟩, ⟨o1, o⟩, _⟩ := H
  unfold m_X3_sees_24 m_X3_sees_53
  have fin : ∀ v : TS, ∃ r, (if x2 = 0 then m_X3_sees_69 f v (tI v 14) else m_X3_sees_69 f v (-(tI v 14))) = some (r, v) := fun v => by
    by_cases h : x2 = 0
    · rw [if_pos h]; exact ⟨_, rfl⟩
    · rw [if_neg h]; exact ⟨_, rfl⟩
  rw [a5]
  refine ⟨fun h => ?_, fun h hv => ?_, fun h hv => ?_⟩
  · obtain ⟨u', e1, e2, e3⟩ := X3_faults (f := f) H' 1
    rw [if_neg (fun hh => h ((tk_2 _ o1).mp hh)), show (1 : Int32) = ni 1 from rfl, e1, bd_some]
    obtain ⟨r, hr⟩ := fin u'
    exact ⟨u', r, hr, e2, e3⟩
  · obtain ⟨u', e1, e2, e3⟩ := X3_faults (f := f) H' 2
    rw [if_pos ((tk_2 _ o1).mpr h), a6 h, if_neg (fun hh => by have := (ni_le (by omega) (by omega)).mp hh; omega), show (2 : Int32) = ni 2 from rfl, e1, bd_some]
    obtain ⟨r, hr⟩ := fin u'
    exact ⟨u', r, hr, e2, e3⟩
  · have ev : min 99999 (val b s) = val b s := by omega
    rw [if_pos ((tk_2 _ o1).mpr h), a6 h, ev, if_pos ((ni_le (by omega) (by omega)).mpr (by omega))]
    by_cases h : x2 = 0
    · rw [if_pos h, if_pos h]; rfl
    · rw [if_neg h, if_neg h]; rfl
def tRs (u u' : TS) (b : Nat → Nat) (n : Nat) : Rs (Int × Lx) → Int32 → Prop
  | .inl e, _ => tBd u' e
  | .inr (v, s), r => r.toInt = v ∧ v.natAbs ≤ 6 ∧ tGd u' b n s
theorem ni_neg6 : ∀ k, k ≤ 6 → (-ni k).toInt = -(k : Int) := by decide
theorem X3_sees {f : Nat} (hf : 501 < f) {u : TS} {b : Nat → Nat} {n : Nat} {s : Lx} (H : tGd u b n s) {most : Nat} (hm : most ≤ 6) : ∃ u' r, m_X3_sees f u (ni most) = some (r, u') ∧ tRs u u' b n (pSee b n most s) r ∧ Fr [5, 6, 11, 12, 13, 14, 15] u u' := by
  unfold m_X3_sees pSee
  rw [H.1, if_pos rfl, show (45 : Int32) = ni 45 from rfl, X3_isSign H (k := 4) (.inr ⟨rfl, rfl⟩), bd2_some]
  by_cases h4 : s.1 = 4
  · rw [if_pos h4, if_neg (by decide), if_pos h4]
    obtain ⟨u1, e1, e2, e3⟩ := X3_next (f := f) hf H.2.1 H.2.2.1.1 H.2.2.2.1.2.2.1
    have H1 : tGd u1 b n (nx b n s.2.2) := ⟨by rw [(e3 15 (by decide)).1]; exact H.1, H.2.1.fr e3 (by decide) (by decide), e2, (nx_ok H.2.2.2.1.2.2.1).1, by rw [(e3 5 (by decide)).1]; exact H.2.2.2.2.1, by rw [(e3 6 (by decide)).1]; exact H.2.2.2.2.2⟩
    rw [e1, bd_some]
    obtain ⟨q1, q2, q3⟩ := X3_sees24 (f := f) H1 hm 1
    by_cases c1 : (nx b n s.2.2).1 ≠ 2
    · obtain ⟨u', v, z1', z2', z3'⟩ := q1 c1
      rw [if_pos c1]
      exact ⟨u', v, z1', z2', (e3.mono (by decide)).tr (z3'.mono (by decide))⟩
    · have c1' : (nx b n s.2.2).1 = 2 := by omega
      rw [if_neg c1]
      by_cases c2 : most < val b (nx b n s.2.2)
      · obtain ⟨u', v, z1', z2', z3'⟩ := q2 c1' c2
        rw [if_pos c2]
        exact ⟨u', v, z1', z2', (e3.mono (by decide)).tr (z3'.mono (by decide))⟩
      · rw [if_neg c2, q3 c1' c2]
        refine ⟨u1, _, rfl, ⟨?_, by omega, H1⟩, e3.mono (by decide)⟩
        rw [if_neg (by decide)]; exact ni_neg6 _ (by omega)
  · rw [if_neg h4, if_pos rfl, if_neg h4]
    obtain ⟨q1, q2, q3⟩ := X3_sees24 (f := f) H hm 0
    by_cases c1 : s.1 ≠ 2
    · obtain ⟨u', v, z1', z2', z3'⟩ := q1 c1
      rw [if_pos c1]
      exact ⟨u', v, z1', z2', z3'.mono (by decide)⟩
    · have c1' : s.1 = 2 := by omega
      rw [if_neg c1]
      by_cases c2 : most < val b s
      · obtain ⟨u', v, z1', z2', z3'⟩ := q2 c1' c2
        rw [if_pos c2]
        exact ⟨u', v, z1', z2', z3'.mono (by decide)⟩
      · rw [if_neg c2, q3 c1' c2]
        refine ⟨u, _, rfl, ⟨?_, by omega, H⟩, Fr.rf⟩
        rw [if_pos rfl]; exact ni_toInt (by omega)
theorem X3_seesB {f : Nat} {u : TS} {e : Nat × Nat} (H : tBd u e) (m : Int32) : m_X3_sees f u m = some (0, u) := by
  unfold m_X3_sees; rw [H.1, if_neg (by decide)]
/-- the names told so far lie on the tape -/
def tNm (u : TS) (b : Nat → Nat) (n : Nat) (ns : List (List Nat)) : Prop := ns.length ≤ 5 ∧ ∀ k w, ns[k]? = some w → ∃ q, tA u 16 k = ni q ∧ tA u 17 k = ni w.length ∧ q + w.length ≤ n ∧ ∀ i, i < w.length → b (q + i) = w.getD i 0
theorem tNm.fr {l : List Nat} {u v : TS} {b : Nat → Nat} {n : Nat} {ns : List (List Nat)} (H : tNm u b n ns) (a : Fr l u v) (h1 : 16 ∉ l) (h2 : 17 ∉ l) : tNm v b n ns := ⟨H.1, fun k w hk => by
  obtain ⟨q, a1, a2, a3⟩ := H.2 k w hk
  exact ⟨q, by rw [(a 16 h1).2.2.1]; exact a1, by rw [(a 17 h2).2.2.1]; exact a2, a3⟩⟩
theorem word_gd {b : Nat → Nat} {s : Lx} {i : Nat} (hi : i < s.2.2 - s.2.1) : (word b s).getD i 0 = b (s.2.1 + i) := by
  unfold word
  rw [List.getD_eq_getElem?_getD, List.getElem?_map, List.getElem?_range hi]; rfl
theorem lst_eq {a c : List Nat} (h : a.length = c.length) (h2 : ∀ i, i < a.length → a.getD i 0 = c.getD i 0) : a = c := List.ext_getElem h (fun j h1 h3 => by
  have := h2 j h1
  simp only [List.getD_eq_getElem?_getD, List.getElem?_eq_getElem h1, List.getElem?_eq_getElem h3, Option.getD_some] at this
  exact this)
/-- two names are compared -/
theorem X3_nm38 {f : Nat} {k2 : TS → Int32 → Option (Int32 × TS)} {u : TS} {b : Nat → Nat} {n : Nat} {s : Lx} (H : tGd u b n s) {k : Nat} (hk : k < 5) {w : List Nat} {q : Nat} (a1 : tA u 16 k = ni q) (a2 : tA u 17 k = ni w.length) (a3 : q + w.length ≤ n) (a4 : ∀ i, i < w.length → b (q + i) = w.getD i 0) (hl : w.length = s.2.2 - s.2.1) : ∀ j m i, i + j = w.length → j < m → (∀ z, z < i → w.getD z 0 = b (s.2.1 + z)) → m_X3_named_38 f k2 m u (ni k) 1 (ni i) = m_X3_named_91 f k2 u (ni k) (if w = word b s then 1 else 0) := by
  obtain ⟨g1, ⟨t1, t2, t3⟩, ⟨g3, g4, g5, g6⟩, ⟨o1, o2, o3, o⟩, _⟩ := H
  intro j
  induction j with
  | zero =>
    intro m i hi hm hz
    obtain ⟨m, rfl⟩ : ∃ z, m = z + 1 := ⟨m - 1, by omega⟩
    have : i = w.length := by omega
    subst this
    rw [m_X3_named_38, gd_of (ix_ni hk (by decide)), ni_clamp (by omega), a2, if_pos (lekk _)]
    rw [if_pos (lst_eq (by rw [word_len]; exact hl) (fun z hz' => by rw [hz z hz', word_gd (by omega)]))]
  | succ j ih =>
    intro m i hi hm hz
    obtain ⟨m, rfl⟩ : ∃ z, m = z + 1 := ⟨m - 1, by omega⟩
    have hiw : i < w.length := by omega
    have ea : ∀ x y : Nat, (ni x : Int32) + ni y = ni (x + y) := fun x y => (Int32.ofNat_add x y).symm
    rw [m_X3_named_38, gd_of (ix_ni hk (by decide)), ni_clamp (show k < 2 ^ 31 by omega), a2, if_neg (fun hh => by have := (ni_le (by omega) (by omega)).mp hh; omega), if_neg (by decide), gd_of (ix_ni hk (by decide)), a1, ea, gd_of (ix_ni (show q + i < 500 by omega) (by decide)), g4, ea, gd_of (ix_ni (show s.2.1 + i < 500 by omega) (by decide)), ni_clamp (by omega), ni_clamp (by omega), (t3 (q + i) (by omega)).2, (t3 (s.2.1 + i) (by omega)).2, a4 i hiw]
    have b1 := (t3 (q + i) (by omega)).1
    rw [a4 i hiw] at b1
    have b2 := (t3 (s.2.1 + i) (by omega)).1
    unfold m_X3_named_84
    by_cases hc : w.getD i 0 = b (s.2.1 + i)
    · rw [if_neg (fun hh => hh (by rw [hc])), nmv_eq, ni_succ]
      exact ih m (i + 1) (by omega) (by omega) (fun z hz' => by
        by_cases e : z = i
        · rw [e]; exact hc
        · exact hz z (by omega))
    · rw [if_pos (fun hh => hc ((ni_inj (by omega) (by omega)).mp hh)), nmv_eq, ni_succ]
      obtain ⟨m, rfl⟩ : ∃ z, m = z + 1 := ⟨m - 1, by omega⟩
      have hne : ¬ w = word b s := fun e => hc (by rw [e, word_gd (by omega)])
      rw [m_X3_named_38, gd_of (ix_ni hk (by decide)), if_neg hne]
      split
      · rfl
      · rw [if_pos rfl]
theorem ixo_drop (w : List Nat) (ns : List (List Nat)) {k : Nat} {x : List Nat} (h : ns[k]? = some x) (j : Nat) : ixo w (ns.drop k) j = if w = x then some j else ixo w (ns.drop (k + 1)) (j + 1) := by
  obtain ⟨h1, h2⟩ := List.getElem?_eq_some_iff.mp h
  rw [List.drop_eq_getElem_cons h1, h2, ixo]
def ixI : Option Nat → Int32
  | none => -1
  | some k => ni k
theorem X3_nm2 {f : Nat} (hf : 501 < f) {u : TS} {b : Nat → Nat} {n : Nat} {s : Lx} (H : tGd u b n s) {ns : List (List Nat)} (N : tNm u b n ns) (hM : tA u 0 0 = ni ns.length) : ∀ j m k, k + j = ns.length → j < m → m_X3_named_2 f m u (ni k) = some (ixI (ixo (word b s) (ns.drop k) k), u) := by
  have H' := H
  obtain ⟨g1, ⟨t1, t2, t3⟩, ⟨g3, g4, g5, g6⟩, ⟨o1, o2, o3, o⟩, _⟩ := H
  have n5 := N.1
  intro j
  induction j with
  | zero =>
    intro m k hk hm
    obtain ⟨m, rfl⟩ : ∃ z, m = z + 1 := ⟨m - 1, by omega⟩
    have : k = ns.length := by omega
    subst this
    rw [m_X3_named_2, show Int32.toNatClampNeg (0 : Int32) = 0 from rfl, hM, if_pos (lekk _), List.drop_length]
    rfl
  | succ j ih =>
    intro m k hk hm
    obtain ⟨m, rfl⟩ : ∃ z, m = z + 1 := ⟨m - 1, by omega⟩
    have hkl : k < ns.length := by omega
    have hg : ns[k]? = some (ns[k]) := List.getElem?_eq_getElem hkl
    obtain ⟨q, a1, a2, a3, a4⟩ := N.2 k _ hg
    have esub : (tI u 11) - (tI u 12) = ni (s.2.2 - s.2.1) := by
      rw [g3, g4]
      show Int32.ofNat s.2.2 - Int32.ofNat s.2.1 = Int32.ofNat (s.2.2 - s.2.1)
      rw [Int32.ofNat_sub _ _ o2]
    have nxt := ih m (k + 1) (by omega) (by omega)
    have wl := word_len b s
    rw [m_X3_named_2, show Int32.toNatClampNeg (0 : Int32) = 0 from rfl, hM, if_neg (fun hh => by have := (ni_le (by omega) (by omega)).mp hh; omega), gd_of (ix_ni (show k < 5 by omega) (by decide)), ni_clamp (by omega), a2, esub]
    unfold m_X3_named_35
    rw [ixo_drop _ _ hg]
    by_cases hl : ns[k].length = s.2.2 - s.2.1
    · rw [if_neg (fun hh => hh (by rw [hl])), show (0 : Int32) = ni 0 from rfl, X3_nm38 (f := f) H' (show k < 5 by omega) a1 a2 a3 a4 hl ns[k].length f 0 (by omega) (by omega) (fun z hz => by omega)]
      unfold m_X3_named_91
      by_cases he : ns[k] = word b s
      · rw [if_pos he, if_neg (by decide), if_pos he.symm]; rfl
      · rw [if_neg he, if_pos rfl, nmv_eq, ni_succ, if_neg (fun e => he e.symm), nxt]
    · rw [if_pos (fun hh => hl ((ni_inj (by omega) (by omega)).mp hh)), if_neg (fun e => hl (by rw [← e, wl]))]
      obtain ⟨f', rfl⟩ : ∃ z, f = z + 1 := ⟨f - 1, by omega⟩
      rw [m_X3_named_38, gd_of (ix_ni (show k < 5 by omega) (by decide))]
      have e91 : m_X3_named_91 (f' + 1) (m_X3_named_2 (f' + 1) m) u (ni k) 0 = some (ixI (ixo (word b s) (ns.drop (k + 1)) (k + 1)), u) := by
        unfold m_X3_named_91
        rw [if_pos rfl, nmv_eq, ni_succ, nxt]
      split
      · exact e91
      · rw [if_pos rfl]; exact e91
theorem X3_named {f : Nat} (hf : 501 < f) {u : TS} {b : Nat → Nat} {n : Nat} {s : Lx} (H : tGd u b n s) {ns : List (List Nat)} (N : tNm u b n ns) (hM : tA u 0 0 = ni ns.length) : m_X3_named f u = some (ixI (ixo (word b s) ns 0), u) := by
  have := X3_nm2 (f := f) hf H N hM ns.length f 0 (by omega) (by have := N.1; omega)
  rw [List.drop_zero] at this
  exact this
theorem i_of (x : Int32) : x = Int32.ofInt x.toInt := (Int32.ofInt_toInt x).symm
theorem X3_detOf {f : Nat} (hf : 4 ≤ f) {u : TS} {B : Nat} (hB : B + 9 ≤ 73) {M : Mi} (hM : ∀ k, k < 9 → (tA u 0 (B + k)).toInt = M (k / 3) (k % 3)) (hb : ∀ i j, i < 3 → j < 3 → (M i j).natAbs ≤ 2000) : m_X3_detOf f u (ni B) = some (li (dtf M), u) := by
  have ea : ∀ x y : Nat, (ni x : Int32) + ni y = ni (x + y) := fun x y => (Int32.ofNat_add x y).symm
  have at' : ∀ i j, i < 3 → j < 3 → tA u 0 (B + (3 * i + j)) = Int32.ofInt (M i j) := fun i j hi hj => by
    rw [i_of (tA u 0 (B + (3 * i + j))), hM _ (by omega), show (3 * i + j) / 3 = i by omega, show (3 * i + j) % 3 = j by omega]
  have prod : ∀ a b c d : Int, a.natAbs ≤ 2000 → b.natAbs ≤ 2000 → c.natAbs ≤ 2000 → d.natAbs ≤ 2000 → Int32.toInt64 (Int32.ofInt a * Int32.ofInt b - Int32.ofInt c * Int32.ofInt d) = li (a * b - c * d) := fun a b c d h1 h2 h3 h4 => by
    rw [← Int32.ofInt_mul, ← Int32.ofInt_mul, ← Int32.ofInt_sub, toL]
    have e1 : (a * b).natAbs ≤ 4000000 := by rw [Int.natAbs_mul]; exact Nat.mul_le_mul h1 h2
    have e2 : (c * d).natAbs ≤ 4000000 := by rw [Int.natAbs_mul]; exact Nat.mul_le_mul h3 h4
    rw [Int32.toInt_ofInt_of_le (by omega) (by omega)]
  have one : ∀ a : Int, a.natAbs ≤ 2000 → Int32.toInt64 (Int32.ofInt a) = li a := fun a h => by
    rw [toL, Int32.toInt_ofInt_of_le (by omega) (by omega)]
  unfold m_X3_detOf
  have r1 : ∀ k, k < 3 → rmI (ni k + (1 : Int32)) 3 = ni ((k + 1) % 3) := fun k hk => rm1 hk
  have r2 : ∀ k, k < 3 → rmI (ni k + (2 : Int32)) 3 = ni ((k + 2) % 3) := fun k hk => by
    rcases c3 hk with rfl | rfl | rfl <;> rfl
  obtain ⟨sm, p1, p2⟩ := loop3v (fun m (v : Int64) x => m_X3_detOf_5 f m u (ni B) v x) (fun v => some (v, u)) (fun j v => v = li ((if 0 < j then M 0 0 * mnr M 0 0 else 0) + (if 1 < j then M 0 1 * mnr M 0 1 else 0) + (if 2 < j then M 0 2 * mnr M 0 2 else 0)))
    (fun m v _ => by rw [m_X3_detOf_5, if_pos le33]; rfl)
    (fun m v k hk hv => by
      refine ⟨li ((if 0 < k + 1 then M 0 0 * mnr M 0 0 else 0) + (if 1 < k + 1 then M 0 1 * mnr M 0 1 else 0) + (if 2 < k + 1 then M 0 2 * mnr M 0 2 else 0)), ?_, rfl⟩
      · rw [m_X3_detOf_5, if_neg (le3 hk), r1 k hk, r2 k hk, show (3 : Int32) = ni 3 from rfl, show (6 : Int32) = ni 6 from rfl, ea, ea, ea, ea, ea, ea, ea, gd_of (ix_ni (by omega) (by decide)), gd_of (ix_ni (by omega) (by decide)), gd_of (ix_ni (by omega) (by decide)), gd_of (ix_ni (by omega) (by decide)), gd_of (ix_ni (by omega) (by decide)), nmv_eq, nmv_eq, ni_succ]
        refine congrArg (fun z => m_X3_detOf_5 f m u (ni B) z (ni (k + 1))) ?_
        rw [ni_clamp (by omega), ni_clamp (by omega), ni_clamp (by omega), ni_clamp (by omega), ni_clamp (by omega)]
        have c0 := at' 0 k (by omega) hk
        have c1 := at' 1 ((k + 1) % 3) (by omega) (by omega)
        have c2 := at' 2 ((k + 2) % 3) (by omega) (by omega)
        have c3' := at' 1 ((k + 2) % 3) (by omega) (by omega)
        have c4 := at' 2 ((k + 1) % 3) (by omega) (by omega)
        rw [show B + (3 * 0 + k) = B + k by omega] at c0
        rw [show B + (3 * 1 + (k + 1) % 3) = B + 3 + (k + 1) % 3 by omega] at c1
        rw [show B + (3 * 2 + (k + 2) % 3) = B + 6 + (k + 2) % 3 by omega] at c2
        rw [show B + (3 * 1 + (k + 2) % 3) = B + 3 + (k + 2) % 3 by omega] at c3'
        rw [show B + (3 * 2 + (k + 1) % 3) = B + 6 + (k + 1) % 3 by omega] at c4
        rw [c0, c1, c2, c3', c4, prod _ _ _ _ (hb _ _ (by omega) (by omega)) (hb _ _ (by omega) (by omega)) (hb _ _ (by omega) (by omega)) (hb _ _ (by omega) (by omega)), one _ (hb _ _ (by omega) hk), hv, li_mul, li_add]
        rcases c3 hk with rfl | rfl | rfl
        · show li (0 + 0 + 0 + M 0 0 * mnr M 0 0) = li (M 0 0 * mnr M 0 0 + 0 + 0)
          simp only [Int.zero_add, Int.add_zero]
        · show li (M 0 0 * mnr M 0 0 + 0 + 0 + M 0 1 * mnr M 0 1) = li (M 0 0 * mnr M 0 0 + M 0 1 * mnr M 0 1 + 0)
          simp only [Int.add_zero]
        · show li (M 0 0 * mnr M 0 0 + M 0 1 * mnr M 0 1 + 0 + M 0 2 * mnr M 0 2) = li (M 0 0 * mnr M 0 0 + M 0 1 * mnr M 0 1 + M 0 2 * mnr M 0 2)
          simp only [Int.add_zero])
    hf (v := (0 : Int64)) rfl
  rw [p1] at p2
  exact p2
