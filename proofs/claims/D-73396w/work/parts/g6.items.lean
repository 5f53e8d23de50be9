/-! reading: what the component has read so far -/
set_option maxRecDepth 100000
def qf (vs : List Int) (k : Nat) : Int := vs.getD k 0
/-- one told, as it lies in the heap; fl: all addresses -/
def cIt (h : CH) (lo : Nat) (fl : List Nat) (a : Nat) (it : It) : Prop := match it.2 with
  | none => ∃ R, isOw h a R (lsM it.1) ∧ nwO lo R
  | some j => ∃ b' T, fl[j]? = some b' ∧ isTn h a b' T (fun i c => byM (qf it.1) c i) (ovQ (qf it.1)) (upQ (qf it.1)) ∧ nwO lo T
def LI (h : CH) (lo FL NL : Nat) (fl : List Nat) (ns : List (List Nat)) (ts : List It) : Prop := ∃ E F nl, isL h FL E 5 fl ∧ isL h NL F 5 nl ∧ fl.length = ts.length ∧ nl.length = ns.length ∧ (∀ (k : Nat) w, ns[k]? = some w → ∃ a, nl[k]? = some a ∧ isS h a w) ∧ (∀ (k : Nat) it, ts[k]? = some it → ∃ a, fl[k]? = some a ∧ lo ≤ a ∧ cIt h lo fl a it) ∧ (lo ≤ FL ∧ lo ≤ NL ∧ lo ≤ E ∧ lo ≤ F) ∧ FL ≠ NL ∧ E ≠ F ∧ fl.Nodup
theorem isTn.md {S : Nat → Prop} {k n : Nat} {h h1 : CH} (m : Mod S k n h h1) (w : wfh h) {a b' : Nat} {T : RA} {Tm : Mi} {ov up : Int} (H : isTn h a b' T Tm ov up) (n1 : ¬ S a) (n2 : ¬ S T.1) (n3 : ¬ S T.2.1) (n4 : ∀ i, i < 3 → ¬ S (T.2.2 i)) : isTn h1 a b' T Tm ov up := by
  obtain ⟨r0, h1', h2⟩ := H
  exact ⟨r0, m.at w h1' n1, h2.mod m w n2 n3 n4⟩
theorem cIt.md {S : Nat → Prop} {k n : Nat} {h h1 : CH} (m : Mod S k n h h1) (w : wfh h) {lo : Nat} {fl : List Nat} {a : Nat} {it : It} (H : cIt h lo fl a it) (hS : ∀ q, S q → (∀ fs, cm h q ≠ some (.inl (6, fs))) ∧ (∀ fs, cm h q ≠ some (.inl (7, fs))) ∧ (∀ fs, cm h q ≠ some (.inl (3, fs))) ∧ (∀ c f, cm h q ≠ some (.inr (4, c, .inr (.inr f)))) ∧ ∀ c f, cm h q ≠ some (.inr (1, c, .inr (.inl f)))) : cIt h1 lo fl a it := by
  unfold cIt at H ⊢
  cases hq : it.2 with
  | none =>
    rw [hq] at H
    obtain ⟨R, ⟨o1, o2⟩, o3⟩ := H
    exact ⟨R, ⟨m.at w o1 (fun hs => (hS _ hs).1 _ o1), o2.mod m w (fun hs => (hS _ hs).2.2.1 _ o2.1) (fun hs => (hS _ hs).2.2.2.1 _ _ o2.2.1) (fun i hi hs => (hS _ hs).2.2.2.2 _ _ (o2.2.2.1 i hi))⟩, o3⟩
  | some j =>
    rw [hq] at H
    obtain ⟨b', T, o1, o2, o3⟩ := H
    have o2' := o2
    obtain ⟨r0, y1, y2⟩ := o2'
    exact ⟨b', T, o1, o2.md m w (fun hs => (hS _ hs).2.1 _ y1) (fun hs => (hS _ hs).2.2.1 _ y2.1) (fun hs => (hS _ hs).2.2.2.1 _ _ y2.2.1) (fun i hi hs => (hS _ hs).2.2.2.2 _ _ (y2.2.2.1 i hi)), o3⟩
/-- the reader's own cell is changed alone -/
theorem LI.re {k n : Nat} {h h1 : CH} {r : Nat} {fs fs' : List Value} (m : Mod (· = r) k n h h1) (w : wfh h) (kk : kok h) (hr : cm h r = some (.inl (4, fs))) (hr' : cm h1 r = some (.inl (4, fs'))) {lo FL NL : Nat} {fl : List Nat} {ns : List (List Nat)} {ts : List It} (H : LI h lo FL NL fl ns ts) : LI h1 lo FL NL fl ns ts := by
  obtain ⟨E, F, nl, a1, a2, a3, a4, a5, a6, a7, a8, a9⟩ := H
  have ne : ∀ {q : Nat} {e : AC}, cm h q = some e → (∀ fs, e ≠ .inl (4, fs)) → ¬ (fun z => z = r) q := fun {q e} hq hn e9 => by
    have e' : q = r := e9
    rw [e', hr] at hq
    cases hq; exact hn _ rfl
  have hs : ∀ q, (fun z => z = r) q → ∀ ci fs, cm h q = some (.inl (ci, fs)) → ∃ fs', cm h1 q = some (.inl (ci, fs')) := fun q hq ci fs2 hc => by
    have e' : q = r := hq
    subst e'
    rw [hr] at hc; cases hc; exact ⟨_, hr'⟩
  have lm : ∀ {a E : Nat} {xs : List Nat}, isL h a E 5 xs → isL h1 a E 5 xs := fun {a E xs} L => by
    have L' := L
    obtain ⟨⟨mc, l1⟩, l2, l3, l4, l5⟩ := L'
    have hE : cm h E = some (.inr (3, 5, .inr (.inr (lsf xs)))) := by
      rcases l5 with l5 | l5
      · omega
      · exact l5.2
    exact L.mod m w kk (ne l1 (fun fs hh => by cases hh)) (ne hE (fun fs hh => by cases hh)) hs
  refine ⟨E, F, nl, lm a1, lm a2, a3, a4, fun k w' hk => ?_, fun k it hk => ?_, a7, a8, a9⟩
  · obtain ⟨a, z1', z2'⟩ := a5 k w' hk
    exact ⟨a, z1', z2'.mod m w kk (fun q hq => by
      have e' : q = r := hq
      subst e'
      exact ⟨(w.1 _ _ hr).1, fun fs hh => (by rw [hr] at hh; cases hh), fun c f hh => (by rw [hr] at hh; cases hh)⟩)⟩
  · obtain ⟨a, z1', z2', z3'⟩ := a6 k it hk
    exact ⟨a, z1', z2', z3'.md m w (fun q hq => by
      have e' : q = r := hq
      subst e'
      exact ⟨fun fs hh => (by rw [hr] at hh; cases hh), fun fs hh => (by rw [hr] at hh; cases hh), fun fs hh => (by rw [hr] at hh; cases hh), fun c f hh => (by rw [hr] at hh; cases hh), fun c f hh => (by rw [hr] at hh; cases hh)⟩)⟩
theorem LI.ext {k n : Nat} {h h1 : CH} (m : Ext k n h h1) (w : wfh h) (kk : kok h) {lo FL NL : Nat} {fl : List Nat} {ns : List (List Nat)} {ts : List It} (H : LI h lo FL NL fl ns ts) : LI h1 lo FL NL fl ns ts := by
  obtain ⟨E, F, nl, a1, a2, a3, a4, a5, a6, a7, a8, a9⟩ := H
  refine ⟨E, F, nl, a1.ext m w kk, a2.ext m w kk, a3, a4, fun k w' hk => ?_, fun k it hk => ?_, a7, a8, a9⟩
  · obtain ⟨a, z1', z2'⟩ := a5 k w' hk
    exact ⟨a, z1', z2'.ext m w kk⟩
  · obtain ⟨a, z1', z2', z3'⟩ := a6 k it hk
    exact ⟨a, z1', z2', z3'.md m w (fun q hq => hq.elim)⟩
theorem RS.cell {h : CH} {r FL NL x ln : Nat} {la : Int32} {t : Nat → Nat} {b : Nat → Nat} {n : Nat} {s : Lx} (H : RS h r FL NL x ln la t b n s) : ∃ fs, cm h r = some (.inl (4, fs)) := by
  obtain ⟨_, _, _, _, ⟨num, wd, h1, _⟩, _⟩ := H
  exact ⟨_, h1⟩
theorem LI.rs {k n' : Nat} {h h1 : CH} {r FL' NL' x ln : Nat} {la : Int32} {t : Nat → Nat} {b : Nat → Nat} {n : Nat} {s : Lx} {ln1 : Nat} {la1 : Int32} {s1 : Lx} (H : RS h r FL' NL' x ln la t b n s) (H1 : RS h1 r FL' NL' x ln1 la1 t b n s1) (m : Mod (· = r) k n' h h1) {lo FL NL : Nat} {fl : List Nat} {ns : List (List Nat)} {ts : List It} (L : LI h lo FL NL fl ns ts) : LI h1 lo FL NL fl ns ts := by
  obtain ⟨fs, c1⟩ := H.cell
  obtain ⟨fs', c2⟩ := H1.cell
  exact L.re m H.1 H.2.1.kok c1 c2
/-- which name it is -/
theorem J2_indexOf {f : Nat} (hf : 600 ≤ f) {h : CH} {a E c : Nat} {nl : List Nat} (hL : isL h a E c nl) (hc : 0 < c) {ns : List (List Nat)} (hl : nl.length = ns.length) (n5 : ns.length ≤ 5) (hn : ∀ (k : Nat) w, ns[k]? = some w → ∃ z, nl[k]? = some z ∧ isS h z w) {x : Nat} {w : List Nat} (hx : isS h x w) : m_J2_indexOf f h a x = some (ixI (ixo w ns 0), h) := by
  obtain ⟨⟨mc, l1⟩, l2, l3, l4, l5⟩ := hL
  have hE : cm h E = some (.inr (3, c, .inr (.inr (lsf nl)))) := by
    rcases l5 with l5 | l5
    · omega
    · exact l5.2
  have o2 : oI h 17 2 a = some (ni nl.length) := oI_c l1 rfl
  have o1 : oR h 17 1 a = some E := oR_c l1 rfl
  have key : ∀ j m k, k + j = ns.length → j < m → m_J2_indexOfRange_42 f m h x (ni nl.length) E (ni k) = some (ixI (ixo w (ns.drop k) k), h) := by
    intro j
    induction j with
    | zero =>
      intro m k hk hm
      obtain ⟨m, rfl⟩ : ∃ z, m = z + 1 := ⟨m - 1, by omega⟩
      have : k = ns.length := by omega
      subst this
      rw [m_J2_indexOfRange_42, hl, if_pos (lekk _), List.drop_length]; rfl
    | succ j ih =>
      intro m k hk hm
      obtain ⟨m, rfl⟩ : ∃ z, m = z + 1 := ⟨m - 1, by omega⟩
      have hkl : k < ns.length := by omega
      have hg : ns[k]? = some (ns[k]) := List.getElem?_eq_getElem hkl
      obtain ⟨z, z1', z2'⟩ := hn k _ hg
      have ar : aR h 3 E (ni k) = some z := by
        unfold aR aQ; rw [hE]
        simp only [ix_ni (show k < c by omega) (by omega), and_self, if_true]
        rw [ni_clamp (by omega)]
        unfold lsf; rw [z1']
      rw [m_J2_indexOfRange_42, if_neg (fun hh => by have := (ni_le (by omega) (by omega)).mp hh; omega), ar, bd_some, gd_of hx.d.1, J6_equals hf hx z2', bd2_some, ixo_drop _ _ hg]
      unfold m_J2_indexOfRange_57
      by_cases e : w = ns[k]
      · rw [if_pos e, if_neg (by decide), if_pos e]; rfl
      · rw [if_neg e, if_pos rfl, nmv_eq, ni_succ, if_neg e, ih m (k + 1) (by omega) (by omega)]
  unfold m_J2_indexOf m_J2_indexOfRange m_J2_indexOf_10
  have k0 := key ns.length f 0 (by omega) (by omega)
  rw [List.drop_zero] at k0
  have k0' : m_J2_indexOfRange_42 f f h x (ni nl.length) E 0 = some (ixI (ixo w ns 0), h) := k0
  rw [o2, bd_some, gd_of (show isC h a 17 = true by unfold isC; rw [l1]; rfl), o1, bd_some, k0', bd2_some]
/-- four numbers -/
theorem X4_t85 {f : Nat} (hf : 501 < f) {r FL NL x ln : Nat} {t : Nat → Nat} {b : Nat → Nat} {n : Nat} {h0 : CH} {p0 : Nat} {Q : Nat} (hQ : h0.1 ≤ Q) (x1 : Int32) {K : CH → Option ((Nat ⊕ Nat) × CH)} (hK : ∀ h, m_X4_turned_104 f h r x1 Q = K h) : ∀ j k M h s vs l la, k + j = 4 → j < M → RS h r FL NL x ln la t b n s → (j = 0 → la = ni l) → (∃ qa, cm h Q = some (.inr (0, 4, .inl qa)) ∧ ∀ i, i < k → (qa i).toInt = vs.getD i 0) → vs.length = k → p0 ≤ s.2.2 → Mod (· = r) (5 * (s.2.2 - p0) + 5) (29 * (s.2.2 - p0) + 20) h0 h → (match pNums b n 3 j s vs l with | .inl e => Bad (m_X4_turned_85 f M h r x1 Q (ni k)) h0 r e (5 * (n - p0) + 20) (29 * (n - p0) + 60) | .inr (vs', l', s1) => ∃ h', m_X4_turned_85 f M h r x1 Q (ni k) = K h' ∧ (∃ qa, cm h' Q = some (.inr (0, 4, .inl qa)) ∧ ∀ i, i < 4 → (qa i).toInt = vs'.getD i 0) ∧ RS h' r FL NL x ln (ni l') t b n s1 ∧ Mod (· = r) (5 * (s1.2.2 - p0) + 5) (29 * (s1.2.2 - p0) + 20) h0 h') := by
  intro j
  induction j with
  | zero =>
    intro k M h s vs l la hk hM H hla hq hl hp Md
    obtain ⟨M, rfl⟩ : ∃ z, M = z + 1 := ⟨M - 1, by omega⟩
    have : k = 4 := by omega
    subst this
    have hla := hla rfl
    subst hla
    have e : m_X4_turned_85 f (M + 1) h r x1 Q (ni 4) = K h := by
      rw [m_X4_turned_85, if_pos (show (4 : Int32) ≤ ni 4 from lekk 4), hK]
    rw [e]
    exact ⟨h, rfl, hq, H, Md⟩
  | succ j ih =>
    intro k M h s vs l la hk hM H _ hq hl hp Md
    obtain ⟨M, rfl⟩ : ∃ z, M = z + 1 := ⟨M - 1, by omega⟩
    have k4 : k < 4 := by omega
    have b1 := H.2.2.2.2.2.2.2.1
    have S : RsS f h r FL NL x ln la t b n s (m_X4_signed f h r 3) (pSee b n 3 s) := X4_signed (f := f) hf H (most := 3) (by decide)
    have e10 : m_X4_turned_85 f (M + 1) h r x1 Q (ni k) = bx (m_X4_signed f h r 3) (fun r4 h3 => m_X4_turned_97 f (m_X4_turned_85 f M) h3 r x1 Q (ni k) Q (ni k) r4) (fun q5 h3 => gd (isC h3 q5 5) (some (.inr q5, h3))) := by
      rw [m_X4_turned_85, if_neg (lt_4 k4), gd_of H.isC]
    rw [e10]
    unfold pNums
    cases hps : pSee b n 3 s with
    | inl e =>
      rw [hps] at S
      obtain ⟨q, h', z1', z2', z3'⟩ := S
      rw [z1', bx_r, gd_of z2'.c]
      exact ⟨q, h', rfl, z2', (Md.tr z3' (fun _ _ => id)).up (by omega) (by omega)⟩
    | inr vq =>
      obtain ⟨v, s1⟩ := vq
      rw [hps] at S
      obtain ⟨v', h1, z1', z2', z6', z3', z4'⟩ := S
      obtain ⟨fs, hr1⟩ := H.cell
      obtain ⟨qa, y1, y2⟩ := hq
      have y1' := z4'.at H.1 y1 (fun e => by have e' : Q = r := e; rw [e', hr1] at y1; cases y1)
      have q1 := pSee_ok H.2.2.2.2.2 hps
      have nn := nx_ok (b := b) (n := n) q1.1.2.2.1
      have nn2 := nn.1.2.2.1
      have nn3 := nn.1.2.1
      have nn4 := nn.2
      have qq := q1.1.2.1
      have qe : s.2.2 ≤ s1.2.2 := by
        unfold pSee at hps
        have nq := nx_ok (b := b) (n := n) H.2.2.2.2.2.2.2.1
        have nq2 := nq.1.2.1
        split at hps
        · split at hps
          · cases hps
          · split at hps
            · cases hps
            · cases hps; omega
        · split at hps
          · cases hps
          · split at hps
            · cases hps
            · cases hps; exact Nat.le_refl _
      rw [z1', bx_l]
      unfold m_X4_turned_97
      have us : uI h1 0 Q (ni k) v' = some (cs h1 Q (.inr (0, 4, .inl (upd qa k v')))) := by
        unfold uI; rw [y1']
        show (if 0 = 0 ∧ h1.2.2.1 ≤ Q ∧ ix (ni k) 4 = true then _ else _) = _
        rw [if_pos ⟨rfl, (z3'.1.1 _ _ y1').1, ix_ni k4 (by decide)⟩, ni_clamp (by omega)]
      rw [us, bd_some, nmv_eq, ni_succ]
      have m5 : Mod (· = Q) 0 0 h1 (cs h1 Q (.inr (0, 4, .inl (upd qa k v')))) := Mod.cs z3'.1 y1' rfl
      have c5 := cm_cs_s h1 Q (.inr (0, 4, .inl (upd qa k v')))
      generalize cs h1 Q (.inr (0, 4, .inl (upd qa k v'))) = h2 at m5 c5 ⊢
      have ne : ∀ {z : Nat} {e : AC}, cm h1 z = some e → (∀ f, e ≠ .inr (0, 4, .inl f)) → ¬ (fun p => p = Q) z := fun {z e} hz hn e9 => by
        have e' : z = Q := e9
        rw [e', y1'] at hz
        cases hz; exact hn _ rfl
      have H2 : RS h2 r FL NL x ln (ni s1.2.1) t b n (nx b n s1.2.2) := by
        obtain ⟨w3, k3, T3, C3, ⟨num3, wd3, hr3, hs3, hn3⟩, o3⟩ := z3'
        refine ⟨m5.wf, k3.mod m5, T3.mod m5, C3.mod m5 w3 (fun q hq => ⟨fun fs hh => ne hh (fun f hh => by cases hh) hq, fun c f hh => ne hh (fun f hh => by cases hh) hq⟩), ⟨num3, wd3, m5.at w3 hr3 (ne hr3 (fun f hh => by cases hh)), fun e => (hs3 e).mod m5 w3 k3.kok (fun q hq => ?_), hn3⟩, o3⟩
        refine ⟨?_, fun fs hh => ne hh (fun f hh => by cases hh) hq, fun c f hh => ne hh (fun f hh => by cases hh) hq⟩
        have e' : q = Q := hq
        rw [e']; exact (w3.1 _ _ y1').1
      have Md2 : Mod (· = r) (5 * ((nx b n s1.2.2).2.2 - p0) + 5) (29 * ((nx b n s1.2.2).2.2 - p0) + 20) h0 h2 := by
        refine ((Md.tr z4' (fun _ _ => id)).tr m5 (fun q hq e9 => ?_)).up (by omega) (by omega)
        have e' : q = Q := e9
        omega
      exact ih (k + 1) M h2 (nx b n s1.2.2) (vs ++ [v]) s1.2.1 (ni s1.2.1) (by omega) (by omega) H2 (fun _ => rfl) ⟨_, c5, fun i hi => by
        rw [getD_app, hl]
        show (if i = k then v' else qa i).toInt = _
        by_cases e : i = k
        · rw [if_pos e, if_neg (by omega), if_pos e]; exact z2'
        · rw [if_neg e, if_pos (by omega)]; exact y2 i (by omega)⟩ (by rw [List.length_append, hl]; rfl) (by omega) Md2
