/-! reading: the component's lines -/
set_option maxRecDepth 100000
/-- a list's cells are changed: what the reader knows stays -/
theorem RS.ls {h h1 : CH} {r FL NL x ln : Nat} {la : Int32} {t : Nat → Nat} {b : Nat → Nat} {n : Nat} {s : Lx} (H : RS h r FL NL x ln la t b n s) {A E : Nat} {xs : List Nat} (hL : isL h A E 5 xs) {k n' : Nat} (m : Mod (lS A E) k n' h h1) : RS h1 r FL NL x ln la t b n s := by
  obtain ⟨w, kf0, T, C, ⟨num, wd, hr, hs, hn⟩, o⟩ := H
  obtain ⟨⟨mc, l1⟩, l2, l3, l4, l5⟩ := hL
  have hE : cm h E = some (.inr (3, 5, .inr (.inr (lsf xs)))) := by
    rcases l5 with l5 | l5
    · omega
    · exact l5.2
  have ne : ∀ {q : Nat} {e : AC}, cm h q = some e → (∀ fs, e ≠ .inl (17, fs)) → (∀ f, e ≠ .inr (3, 5, .inr (.inr f))) → ¬ lS A E q := fun {q e} hq h1 h2 e9 => by
    rcases e9 with e9 | e9
    · rw [e9, l1] at hq; cases hq; exact h1 _ rfl
    · rw [e9, hE] at hq; cases hq; exact h2 _ rfl
  refine ⟨m.wf, kf0.mod m, T.mod m, C.mod m w (fun q hq => ⟨fun fs hh => ne hh (fun f hh => by cases hh) (fun f hh => by cases hh) hq, fun c f hh => ne hh (fun f hh => by cases hh) (fun f hh => by cases hh) hq⟩), ⟨num, wd, m.at w hr (ne hr (fun f hh => by cases hh) (fun f hh => by cases hh)), fun e => (hs e).mod m w kf0.kok (fun q hq => ⟨?_, fun fs hh => ne hh (fun f hh => by cases hh) (fun f hh => by cases hh) hq, fun c f hh => ne hh (fun f hh => by cases hh) (fun f hh => by cases hh) hq⟩), hn⟩, o⟩
  rcases hq with hq | hq
  · rw [hq]; exact (w.1 _ _ l1).1
  · rw [hq]; exact (w.1 _ _ hE).1
theorem isS.ls {h h1 : CH} (w : wfh h) (kk : kok h) {A E : Nat} {xs : List Nat} (hL : isL h A E 5 xs) {k n' : Nat} (m : Mod (lS A E) k n' h h1) {a : Nat} {bs : List Nat} (H : isS h a bs) : isS h1 a bs := by
  obtain ⟨⟨mc, l1⟩, l2, l3, l4, l5⟩ := hL
  have hE : cm h E = some (.inr (3, 5, .inr (.inr (lsf xs)))) := by
    rcases l5 with l5 | l5
    · omega
    · exact l5.2
  refine H.mod m w kk (fun q hq => ?_)
  rcases hq with hq | hq
  · rw [hq]; exact ⟨(w.1 _ _ l1).1, fun fs hh => (by rw [l1] at hh; cases hh), fun c f hh => (by rw [l1] at hh; cases hh)⟩
  · rw [hq]; exact ⟨(w.1 _ _ hE).1, fun fs hh => (by rw [hE] at hh; cases hh), fun c f hh => (by rw [hE] at hh; cases hh)⟩
theorem cIt.ls {h h1 : CH} (w : wfh h) {A E : Nat} {xs : List Nat} (hL : isL h A E 5 xs) {k n' : Nat} (m : Mod (lS A E) k n' h h1) {lo : Nat} {fl : List Nat} {a : Nat} {it : It} (H : cIt h lo fl a it) : cIt h1 lo fl a it := by
  obtain ⟨⟨mc, l1⟩, l2, l3, l4, l5⟩ := hL
  have hE : cm h E = some (.inr (3, 5, .inr (.inr (lsf xs)))) := by
    rcases l5 with l5 | l5
    · omega
    · exact l5.2
  refine H.md m w (fun q hq => ?_)
  rcases hq with hq | hq
  · rw [hq]; exact ⟨fun fs hh => (by rw [l1] at hh; cases hh), fun fs hh => (by rw [l1] at hh; cases hh), fun fs hh => (by rw [l1] at hh; cases hh), fun c f hh => (by rw [l1] at hh; cases hh), fun c f hh => (by rw [l1] at hh; cases hh)⟩
  · rw [hq]; exact ⟨fun fs hh => (by rw [hE] at hh; cases hh), fun fs hh => (by rw [hE] at hh; cases hh), fun fs hh => (by rw [hE] at hh; cases hh), fun c f hh => (by rw [hE] at hh; cases hh), fun c f hh => (by rw [hE] at hh; cases hh)⟩
theorem cIt.app {h : CH} {lo : Nat} {fl : List Nat} {a z : Nat} {it : It} (H : cIt h lo fl a it) : cIt h lo (fl ++ [z]) a it := by
  unfold cIt at H ⊢
  cases hq : it.2 with
  | none => rw [hq] at H; exact H
  | some j =>
    rw [hq] at H
    obtain ⟨b', T, o1, o2⟩ := H
    exact ⟨b', T, by rw [List.getElem?_append_left (List.getElem?_eq_some_iff.mp o1).1]; exact o1, o2⟩
theorem isL.ls {h h1 : CH} (w : wfh h) (kk : kok h) {A E : Nat} {xs ys : List Nat} (hL : isL h A E 5 xs) (hL1 : isL h1 A E 5 ys) {k n' : Nat} (m : Mod (lS A E) k n' h h1) {B F : Nat} {zs : List Nat} (H : isL h B F 5 zs) (n1 : B ≠ A) (n2 : F ≠ E) : isL h1 B F 5 zs := by
  obtain ⟨⟨mc, l1⟩, l2, l3, l4, l5⟩ := hL
  have hE : cm h E = some (.inr (3, 5, .inr (.inr (lsf xs)))) := by
    rcases l5 with l5 | l5
    · omega
    · exact l5.2
  have H' := H
  obtain ⟨⟨mc2, k1⟩, k2, k3, k4, k5⟩ := H'
  have hF : cm h F = some (.inr (3, 5, .inr (.inr (lsf zs)))) := by
    rcases k5 with k5 | k5
    · omega
    · exact k5.2
  obtain ⟨⟨mc3, j1⟩, _⟩ := hL1
  refine H.mod m w kk (fun hq => ?_) (fun hq => ?_) (fun q hq ci fs hc => ?_)
  · rcases hq with hq | hq
    · exact n1 hq
    · rw [hq, hE] at k1; cases k1
  · rcases hq with hq | hq
    · rw [hq, l1] at hF; cases hF
    · exact n2 hq
  · rcases hq with hq | hq
    · rw [hq, l1] at hc; cases hc
      exact ⟨_, by rw [hq]; exact j1⟩
    · rw [hq, hE] at hc; cases hc
/-- the line's end: the name and the lattice are kept -/
theorem X4_l167 {f : Nat} {h : CH} {r FL NL x ln : Nat} {la : Int32} {t : Nat → Nat} {b : Nat → Nat} {n : Nat} {s : Lx} (H : RS h r FL NL x ln la t b n s) {lo : Nat} {fl : List Nat} {ns : List (List Nat)} {ts : List It} (L : LI h lo FL NL fl ns ts) (hl : ns.length = ts.length) (t5 : ts.length < 5) {a : Nat} {w : List Nat} (hS : isS h a w) {c : Nat} {it : It} (hc : cIt h lo fl c it) (hlo : lo ≤ c) (hO : isO h c = true) (hnd : c ∉ fl) (hrlo : lo ≤ r) : ∃ h', m_X4_line_167 f h r a c = some (.inl (), h') ∧ RS h' r FL NL x (ln + 1) la t b n s ∧ LI h' lo FL NL (fl ++ [c]) (ns ++ [w]) (ts ++ [it]) ∧ Mod (fun q => lo ≤ q) 0 0 h h' := by
  obtain ⟨E, F, nl, a1, a2, a3, a4, a5, a6, a7, a8, a9⟩ := L
  have kk := H.2.1.kok
  obtain ⟨h1, y1, y2, y3, y4⟩ := J2_add (f := f) H.1 kk a2 (by omega) (x := a) hS.d.2.2.1
  have H1 := H.ls a2 y3
  have kk1 := H1.2.1.kok
  have L1 := isL.ls H.1 kk a2 y2 y3 a1 a8 a9.1
  have hO1 : isO h1 c = true := isO_mod y3 H.1 hO kk (fun q hq ci fs hcq => by
    obtain ⟨⟨mc, l1⟩, l2, l3, l4, l5⟩ := a2
    have hE : cm h F = some (.inr (3, 5, .inr (.inr (lsf nl)))) := by
      rcases l5 with l5 | l5
      · omega
      · exact l5.2
    obtain ⟨⟨mc3, j1⟩, _⟩ := y2
    rcases hq with hq | hq
    · rw [hq, l1] at hcq; cases hcq
      exact ⟨_, by rw [hq]; exact j1⟩
    · rw [hq, hE] at hcq; cases hcq)
  obtain ⟨h2, z1', z2', z3', z4'⟩ := J2_add (f := f) H1.1 kk1 L1 (by omega) (x := c) hO1
  have H2 := H1.ls L1 z3'
  have N2 := isL.ls H1.1 kk1 L1 z2' z3' y2 (Ne.symm a8) (Ne.symm a9.1)
  obtain ⟨num, wd, hr, hs, hn⟩ := H.2.2.2.2.1
  obtain ⟨num1, wd1, hr1, _⟩ := H1.2.2.2.2.1
  have H2' := H2
  obtain ⟨w2, kf2, T2, C2, ⟨num2, wd2, hr2, hs2, hn2⟩, o2⟩ := H2'
  have o41 : oR h 4 1 r = some NL := oR_c hr rfl
  have o40 : oR h1 4 0 r = some FL := oR_c hr1 rfl
  have o45 : oI h2 4 5 r = some (ni ln) := oI_c hr2 rfl
  have pl : pF h2 4 5 r (.int (ni (ln + 1))) = some (cs h2 r (reC FL NL x s.2.2 s.2.1 num2 (ln + 1) la (.ref (t (tkC s.1))) wd2)) := pF_c hr2 w2 (by simp) _
  have m3 := re_md w2 hr2 (reC FL NL x s.2.2 s.2.1 num2 (ln + 1) la (.ref (t (tkC s.1))) wd2)
  have c3' := cm_cs_s h2 r (reC FL NL x s.2.2 s.2.1 num2 (ln + 1) la (.ref (t (tkC s.1))) wd2)
  have L2 : LI h2 lo FL NL (fl ++ [c]) (ns ++ [w]) (ts ++ [it]) := by
    refine ⟨E, F, nl ++ [a], z2', N2, by rw [List.length_append, List.length_append, a3]; rfl, by rw [List.length_append, List.length_append, a4]; rfl, fun k w' hk => ?_, fun k it' hk => ?_, a7, a8, a9.1, List.nodup_append.mpr ⟨a9.2, (by simp), fun z hz z' hz' e => hnd (by rw [List.mem_singleton.mp hz'] at e; rw [← e]; exact hz)⟩⟩
    · by_cases hkn : k < ns.length
      · rw [List.getElem?_append_left hkn] at hk
        obtain ⟨z, q1, q2⟩ := a5 k w' hk
        exact ⟨z, by rw [List.getElem?_append_left (by omega)]; exact q1, (q2.ls H.1 kk a2 y3).ls H1.1 kk1 L1 z3'⟩
      · rw [List.getElem?_append_right (by omega)] at hk
        have hk0 : k - ns.length = 0 := by
          cases hd : k - ns.length with
          | zero => rfl
          | succ z => rw [hd] at hk; cases hk
        rw [hk0] at hk
        have hw : w = w' := Option.some.inj hk
        subst hw
        refine ⟨a, ?_, (hS.ls H.1 kk a2 y3).ls H1.1 kk1 L1 z3'⟩
        rw [List.getElem?_append_right (by omega), show k - nl.length = 0 by omega]; rfl
    · by_cases hkn : k < ts.length
      · rw [List.getElem?_append_left hkn] at hk
        obtain ⟨z, q1, q2, q3⟩ := a6 k it' hk
        exact ⟨z, by rw [List.getElem?_append_left (by omega)]; exact q1, q2, ((q3.ls H.1 a2 y3).ls H1.1 L1 z3').app⟩
      · rw [List.getElem?_append_right (by omega)] at hk
        have hk0 : k - ts.length = 0 := by
          cases hd : k - ts.length with
          | zero => rfl
          | succ z => rw [hd] at hk; cases hk
        rw [hk0] at hk
        have hw : it = it' := Option.some.inj hk
        subst hw
        refine ⟨c, ?_, hlo, ((hc.ls H.1 a2 y3).ls H1.1 L1 z3').app⟩
        rw [List.getElem?_append_right (by omega), show k - fl.length = 0 by omega]; rfl
  unfold m_X4_line_167 m_X4_line_175 m_X4_line_184
  have ic1 : isC h NL 17 = true := by obtain ⟨⟨mc, l1⟩, _⟩ := a2; unfold isC; rw [l1]; rfl
  have ic2 : isC h1 FL 17 = true := by obtain ⟨⟨mc, l1⟩, _⟩ := L1; unfold isC; rw [l1]; rfl
  rw [o41, bd_some, gd_of ic1, y1, bd2_some, o40, bd_some, gd_of ic2, z1', bd2_some, o45, bd_some, ni_succ, pl, bd_some]
  refine ⟨_, rfl, ⟨m3.wf, kf2.mod m3, T2.mod m3, C2.re m3 w2 hr2, ⟨num2, wd2, c3', fun e => (hs2 e).mod m3 w2 kf2.kok (fun z hz => ?_), hn2⟩, o2⟩, L2.re m3 w2 kf2.kok hr2 c3', ?_⟩
  · have e9 : z = r := hz
    subst e9
    exact ⟨(w2.1 _ _ hr2).1, fun fs hh => (by rw [hr2] at hh; cases hh), fun c f hh => (by rw [hr2] at hh; cases hh)⟩
  · refine ((y3.mono (T := fun q => lo ≤ q) (fun q _ hq => ?_) (Nat.le_refl _) (Nat.le_refl _)).tr (z3'.mono (T := fun q => lo ≤ q) (fun q _ hq => ?_) (Nat.le_refl _) (Nat.le_refl _)) (fun _ _ => id)).tr (m3.mono (T := fun q => lo ≤ q) (fun q _ hq => ?_) (Nat.le_refl _) (Nat.le_refl _)) (fun _ _ => id)
    · rcases hq with hq | hq
      · show lo ≤ q; rw [hq]; exact a7.2.1
      · show lo ≤ q; rw [hq]; exact a7.2.2.2
    · rcases hq with hq | hq
      · show lo ≤ q; rw [hq]; exact a7.1
      · show lo ≤ q; rw [hq]; exact a7.2.2.1
    · have e9 : q = r := hq
      show lo ≤ q; omega
