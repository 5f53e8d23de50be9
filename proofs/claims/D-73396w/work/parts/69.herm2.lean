/-! rows brought to their form: the component's walk -/
set_option maxRecDepth 100000
def HX (K M : Nat) (h0 : CH) (k40 a L : Nat) (R : RA) (s : HS) (h : CH) : Prop := isH8 K M h0 h a R L s ∧ kok h ∧ sR h 40 = some k40
theorem HX.does {f K M : Nat} (hf : 4 ≤ f) {h0 h : CH} {k40 a L : Nat} {R : RA} {s : HS} (H : HX K M h0 k40 a L R s h) {st : St} {N' : Mi} (hs : sRel st s.1 N') (hlen : s.2.length ≤ 400) : ∃ h', m_X8_does f h a st.1 st.2.1 st.2.2.1 st.2.2.2 = some h' ∧ HX K M h0 k40 a L R (N', s.2 ++ [st]) h' := by
  obtain ⟨h', e1, e2, e3, e4⟩ := X8_does hf H.2.1 H.2.2 H.1 hs hlen
  exact ⟨h', e1, e2, e3, e4⟩
theorem HX.add {f K M : Nat} (hf : 4 ≤ f) {h0 h : CH} {k40 a L : Nat} {R : RA} {s : HS} (H : HX K M h0 k40 a L R s h) {r c : Nat} (hr : r < 3) (hc : c < 3) (hne : r ≠ c) (t : Int) (hlen : s.2.length ≤ 400) : ∃ h', m_X8_does f h a 1 (ni r) (ni c) (li t) = some h' ∧ HX K M h0 k40 a L R (hadd s r c t) h' := H.does hf (st := (1, ni r, ni c, li t)) (.inl ⟨r, c, t, hr, hc, hne, rfl, rfl⟩) hlen
theorem HX.exc {f K M : Nat} (hf : 4 ≤ f) {h0 h : CH} {k40 a L : Nat} {R : RA} {s : HS} (H : HX K M h0 k40 a L R s h) {r c : Nat} (hr : r < 3) (hc : c < 3) (hne : r ≠ c) (hlen : s.2.length ≤ 400) : ∃ h', m_X8_does f h a 0 (ni r) (ni c) 0 = some h' ∧ HX K M h0 k40 a L R (hexc s r c) h' := H.does hf (st := (0, ni r, ni c, 0)) (.inr (.inr ⟨r, c, 0, hr, hc, hne, rfl, rfl⟩)) hlen
theorem HX.ovr {f K M : Nat} (hf : 4 ≤ f) {h0 h : CH} {k40 a L : Nat} {R : RA} {s : HS} (H : HX K M h0 k40 a L R s h) {r : Nat} (hr : r < 3) (hlen : s.2.length ≤ 400) : ∃ h', m_X8_does f h a 2 (ni r) (-1) 0 = some h' ∧ HX K M h0 k40 a L R (hovr s r) h' := H.does hf (st := (2, ni r, -1, 0)) (.inr (.inl ⟨r, -1, 0, hr, rfl, rfl⟩)) hlen
theorem addR_o {N : Mi} {r o : Nat} {t : Int} {i : Nat} (h : i ≠ r) (j : Nat) : addR N r o t i j = N i j := by unfold addR; rw [if_neg h]
theorem X8_p31 {f K M : Nat} (hf : 4 ≤ f) {h0 : CH} {k40 a L : Nat} {R : RA} {c : Nat} (hc : c < 3) (k0 : CH → Nat → Int32 → Option CH) {p : Int} (hp : p ≠ 0) (gp : rg p) : ∀ k n r s h, c < r → r + k = 3 → k < n → HX K M h0 k40 a L R s h → s.1 c c = p → (∀ i, r ≤ i → i < 3 → rg (s.1 i c)) → s.2.length + k ≤ 400 → ∃ h', m_X8_clears_31 f k0 n h a (ni c) (ni r) = k0 h' a (ni c) ∧ HX K M h0 k40 a L R (hpass c k r s) h' := by
  intro k
  induction k with
  | zero =>
    intro n r s h _ hr hn H _ _ _
    obtain ⟨n, rfl⟩ : ∃ z, n = z + 1 := ⟨n - 1, by omega⟩
    have : r = 3 := by omega
    subst this
    rw [m_X8_clears_31, if_pos le33]
    exact ⟨h, rfl, H⟩
  | succ k ih =>
    intro n r s h hcr hr hn H hpc hg hl
    obtain ⟨n, rfl⟩ : ∃ z, n = z + 1 := ⟨n - 1, by omega⟩
    have r3 : r < 3 := by omega
    have ca := H.1.2.1
    have hR := H.1.2.2.1
    rw [m_X8_clears_31, if_neg (le3 r3)]
    simp only [oR_c (k := 0) (x := R.1) ca rfl, bd_some, oR_R hR, aR_R hR r3, aL_R hR r3 hc, aR_R hR hc, aL_R hR hc hc]
    unfold hpass m_X8_clears_83
    simp only [nmv_eq, ni_succ]
    by_cases hz : s.1 r c = 0
    · rw [if_pos (show lM s.1 r c = 0 by show li (s.1 r c) = 0; rw [hz]; rfl), if_pos hz]
      exact ih n (r + 1) s h (by omega) (by omega) (by omega) H hpc (fun i hi => hg i (by omega)) (by omega)
    · rw [if_neg (show ¬ lM s.1 r c = 0 from fun e => hz ((li_inj (hg r (by omega) r3) rg_0).mp e)), if_neg hz]
      have e0 : -(lM s.1 r c / lM s.1 c c) = li (-(s.1 r c).tdiv (s.1 c c)) := by
        show -(li (s.1 r c) / li (s.1 c c)) = _
        rw [li_div (hg r (by omega) r3) (by rw [hpc]; exact gp), li_neg]
      have nz : nzL (lM s.1 c c) = true := by show nzL (li (s.1 c c)) = true; rw [hpc]; exact nzL_li gp hp
      rw [gd_of nz, gd_of (isC_c ca), e0]
      obtain ⟨h', e1, e2⟩ := H.add hf r3 hc (show r ≠ c by omega) (-(s.1 r c).tdiv (s.1 c c)) (by omega)
      rw [e1, bd_some]
      refine ih n (r + 1) _ h' (by omega) (by omega) (by omega) e2 ?_ (fun i hi hi3 => ?_) ?_
      · show addR s.1 r c _ c c = p
        rw [addR_o (by omega)]; exact hpc
      · show rg (addR s.1 r c _ i c)
        rw [addR_o (by omega)]; exact hg i (by omega) hi3
      · show (s.2 ++ [_]).length + k ≤ 400
        simp; omega
theorem X8_eu {f K M : Nat} (hf : 4 ≤ f) {h0 : CH} {k40 a L : Nat} {R : RA} {c : Nat} (hc : c < 3) : ∀ k n s h, k < n → HX K M h0 k40 a L R s h → euOk c k s → ∃ h', m_X8_clears_0 f n h a (ni c) = m_X8_clears_92 f h' a (ni c) ∧ HX K M h0 k40 a L R (heu c k s) h' := by
  intro k
  have stop : ∀ n s h, HX K M h0 k40 a L R s h → colrg c s.1 → bel s.1 c (2 - c) (c + 1) = false → m_X8_clears_0 f (n + 1) h a (ni c) = m_X8_clears_92 f h a (ni c) := by
    intro n s h H hg hb
    rw [m_X8_clears_0, gd_of (isC_c H.1.2.1), X8_isMoreBelow hf H.1.2.1 H.1.2.2.1 hc hg, bd2_some, hb]
    unfold m_X8_clears_5
    exact if_pos rfl
  induction k with
  | zero =>
    intro n s h hn H hok
    obtain ⟨n, rfl⟩ : ∃ z, n = z + 1 := ⟨n - 1, by omega⟩
    exact ⟨h, stop n s h H hok.1 hok.2, H⟩
  | succ k ih =>
    intro n s h hn H hok
    obtain ⟨n, rfl⟩ : ∃ z, n = z + 1 := ⟨n - 1, by omega⟩
    obtain ⟨hg, hok⟩ := hok
    unfold heu
    cases hb : bel s.1 c (2 - c) (c + 1) with
    | false => exact ⟨h, stop n s h H hg hb, by rw [if_neg (by decide)]; exact H⟩
    | true =>
      rw [hb] at hok
      rcases hok with hok | ⟨hl, hok⟩
      · cases hok
      rw [if_pos rfl]
      obtain ⟨b, b1, b2, b3, b4⟩ := lst_bel hc hb
      rw [m_X8_clears_0, gd_of (isC_c H.1.2.1), X8_isMoreBelow hf H.1.2.1 H.1.2.2.1 hc hg, bd2_some, hb]
      unfold m_X8_clears_5
      rw [if_neg (show ¬ (if true = true then (1 : Int32) else 0) = 0 by decide), gd_of (isC_c H.1.2.1), X8_least hf H.1.2.1 H.1.2.2.1 hc hg, bd2_some, b1]
      unfold m_X8_clears_13
      have fin : ∀ s1 h1, HX K M h0 k40 a L R s1 h1 → s1.1 c c ≠ 0 → colrg c s1.1 → s1.2.length ≤ 391 → hpiv c s = s1 → ∃ h', m_X8_clears_27 f (m_X8_clears_0 f n) h1 a (ni c) = m_X8_clears_92 f h' a (ni c) ∧ HX K M h0 k40 a L R (heu c k (hround c s)) h' := by
        intro s1 h1 H1 q1 q2 q3 q4
        unfold m_X8_clears_27
        rw [nmv_eq]
        show ∃ h', m_X8_clears_31 f (m_X8_clears_0 f n) f h1 a (ni c) (ni c + 1) = _ ∧ _
        rw [ni_succ]
        obtain ⟨h2, e1, e2⟩ := X8_p31 hf hc (m_X8_clears_0 f n) q1 (q2 c (Nat.le_refl _) hc) (2 - c) f (c + 1) s1 h1 (by omega) (by omega) (by omega) H1 rfl (fun i hi hi3 => q2 i (by omega) hi3) (by omega)
        rw [e1]
        refine ih n _ h2 (by omega) ?_ hok
        unfold hround
        rw [q4]
        exact e2
      by_cases hbc : b = c
      · rw [if_pos (show oni (some b) = ni c by rw [hbc]; rfl)]
        exact fin s h H (by rw [← hbc]; rw [hbc] at b4 ⊢; exact b4) hg (by omega) (by unfold hpiv; rw [b1]; exact if_pos hbc)
      · rw [if_neg (show ¬ oni (some b) = ni c from fun e => hbc ((ni_inj (by omega) (by omega)).mp e)), gd_of (isC_c H.1.2.1)]
        obtain ⟨h1, e1, e2⟩ := H.exc hf hc b3 (show c ≠ b from fun e => hbc e.symm) (by omega)
        show ∃ h', bd (m_X8_does f h a 0 (ni c) (ni b) 0) _ = _ ∧ _
        rw [e1, bd_some]
        refine fin _ h1 e2 ?_ ?_ ?_ (by unfold hpiv; rw [b1]; exact if_neg hbc)
        · show excR s.1 c b c c ≠ 0
          unfold excR; rw [if_pos rfl]; exact b4
        · intro r hr hr3
          show rg (excR s.1 c b r c)
          unfold excR
          split
          · exact hg b b2 b3
          · split
            · exact hg c (Nat.le_refl _) hc
            · exact hg r hr hr3
        · show (s.2 ++ [_]).length ≤ 391
          simp; omega
theorem X8_red {f K M : Nat} (hf : 4 ≤ f) {h0 : CH} {k40 a L : Nat} {R : RA} {c : Nat} (hc : c < 3) {p : Int} (hp : 0 < p) (gp : rg p) : ∀ k n r s h, r + k = c → k < n → HX K M h0 k40 a L R s h → s.1 c c = p → (∀ i, r ≤ i → i < c → rg (s.1 i c)) → s.2.length + k ≤ 400 → ∃ h', m_X8_clears_118 f n h a (ni c) (ni r) = some h' ∧ HX K M h0 k40 a L R (hred c k r s) h' := by
  intro k
  induction k with
  | zero =>
    intro n r s h hr hn H _ _ _
    obtain ⟨n, rfl⟩ : ∃ z, n = z + 1 := ⟨n - 1, by omega⟩
    have : r = c := by omega
    subst this
    rw [m_X8_clears_118, if_pos ((ni_le (by omega) (by omega)).mpr (Nat.le_refl _))]
    exact ⟨h, rfl, H⟩
  | succ k ih =>
    intro n r s h hr hn H hpc hg hl
    obtain ⟨n, rfl⟩ : ∃ z, n = z + 1 := ⟨n - 1, by omega⟩
    have r3 : r < 3 := by omega
    have ca := H.1.2.1
    have hR := H.1.2.2.1
    have gr := hg r (Nat.le_refl _) (by omega)
    rw [m_X8_clears_118, if_neg (fun e => by have := (ni_le (by omega) (by omega)).mp e; omega)]
    simp only [oR_c (k := 0) (x := R.1) ca rfl, bd_some, oR_R hR, aR_R hR r3, aL_R hR r3 hc, aR_R hR hc, aL_R hR hc hc]
    rw [show lM s.1 c c = li p by show li (s.1 c c) = _; rw [hpc], floorDiv_li gr gp hp, bd_some, nmv_eq, li_neg]
    unfold hred m_X8_clears_164
    rw [hpc]
    simp only [nmv_eq, ni_succ]
    have gd1 : rg (-(s.1 r c / p)) := by
      apply rg_neg
      rw [rg_nat]
      have h1 := rg_nat.mp gr
      have h2 : (s.1 r c / p).natAbs ≤ (s.1 r c).natAbs := Int.natAbs_ediv_le_natAbs _ _
      omega
    by_cases hz : -(s.1 r c / p) = 0
    · rw [if_pos (show li (-(s.1 r c / p)) = 0 by rw [hz]; rfl), if_pos hz]
      exact ih n (r + 1) s h (by omega) (by omega) H hpc (fun i hi => hg i (by omega)) (by omega)
    · rw [if_neg (show ¬ li (-(s.1 r c / p)) = 0 from fun e => hz ((li_inj gd1 rg_0).mp e)), if_neg hz, gd_of (isC_c ca)]
      obtain ⟨h', e1, e2⟩ := H.add hf r3 hc (show r ≠ c by omega) (-(s.1 r c / p)) (by omega)
      rw [e1, bd_some]
      refine ih n (r + 1) _ h' (by omega) (by omega) e2 ?_ (fun i hi hi3 => ?_) ?_
      · show addR s.1 r c _ c c = p
        rw [addR_o (by omega)]; exact hpc
      · show rg (addR s.1 r c _ i c)
        rw [addR_o (by omega)]; exact hg i (by omega) hi3
      · show (s.2 ++ [_]).length + k ≤ 400
        simp; omega
theorem X8_clears {f K M : Nat} (hf : 4 ≤ f) {h0 : CH} {k40 a L : Nat} {R : RA} {c : Nat} (hc : c < 3) {k : Nat} {s : HS} {h : CH} (hk : k < f) (H : HX K M h0 k40 a L R s h) (hok : clrOk c k s) : ∃ h', m_X8_clears f h a (ni c) = some h' ∧ HX K M h0 k40 a L R (hclr c k s) h' := by
  obtain ⟨o1, o2, o3, o4, o5⟩ := hok
  unfold m_X8_clears
  obtain ⟨h1, e1, e2⟩ := X8_eu hf hc k f s h hk H o1
  rw [e1]
  unfold hclr
  have gcc : rg ((heu c k s).1 c c) := by
    have hh := o4
    unfold hneg at hh
    by_cases hz : (heu c k s).1 c c < 0
    · rw [if_pos hz] at hh
      have h2 : rg (ovrR (heu c k s).1 c c c) := hh
      unfold ovrR at h2
      rw [if_pos rfl] at h2
      have := rg_neg h2
      rwa [Int.neg_neg] at this
    · rw [if_neg hz] at hh; exact hh
  have ca := e2.1.2.1
  have hR := e2.1.2.2.1
  unfold m_X8_clears_92 m_X8_clears_116
  simp only [oR_c (k := 0) (x := R.1) ca rfl, bd_some, oR_R hR, aR_R hR hc, aL_R hR hc hc]
  have key : ∃ h2, (if (0 : Int64) ≤ lM (heu c k s).1 c c then m_X8_clears_118 f f h1 a (ni c) 0 else gd (isC h1 a 8) (bd (m_X8_does f h1 a 2 (ni c) (-1) 0) fun h7 => m_X8_clears_118 f f h7 a (ni c) 0)) = m_X8_clears_118 f f h2 a (ni c) 0 ∧ HX K M h0 k40 a L R (hneg c (heu c k s)) h2 := by
    unfold hneg
    by_cases hz : (heu c k s).1 c c < 0
    · rw [if_neg (show ¬ (0 : Int64) ≤ lM (heu c k s).1 c c from fun e => by have := (li_le rg_0 gcc).mp e; omega), if_pos hz, gd_of (isC_c ca)]
      obtain ⟨h2, q1, q2⟩ := e2.ovr hf hc (by omega)
      rw [q1, bd_some]
      exact ⟨h2, rfl, q2⟩
    · rw [if_pos (show (0 : Int64) ≤ lM (heu c k s).1 c c from (li_le rg_0 gcc).mpr (by omega)), if_neg hz]
      exact ⟨h1, rfl, e2⟩
  obtain ⟨h2, q1, q2⟩ := key
  have ll : (hneg c (heu c k s)).2.length ≤ 391 := by
    unfold hneg
    split
    · show (_ ++ [_]).length ≤ 391
      simp; omega
    · omega
  obtain ⟨h3, q3, q4⟩ := X8_red hf hc o3 o4 c f 0 _ h2 (by omega) (by omega) q2 rfl (fun i _ hi => o5 i hi) (by omega)
  exact ⟨h3, by rw [q1]; exact q3, q4⟩
/-- the whole way -/
def hrun (k : Nat) (s : HS) : HS := hclr 2 k (hclr 1 k (hclr 0 k s))
def runOk (k : Nat) (s : HS) : Prop := clrOk 0 k s ∧ clrOk 1 k (hclr 0 k s) ∧ clrOk 2 k (hclr 1 k (hclr 0 k s))
/-- the constants are as at the start -/
def kf (h : CH) : Prop := KF h.2.2.1 h.2.2.2.2
theorem kf.mod {S : Nat → Prop} {k n : Nat} {h h1 : CH} (a : Mod S k n h h1) (w : kf h) : kf h1 := by
  unfold kf; rw [a.2.2.2.2.2.1, a.2.2.2.2.1]; exact w
theorem kf.kok {h : CH} (w : kf h) : kok h := w.1
/-- rows brought to their form: a new one, the place for which was made since h0 -/
theorem X8_new {f : Nat} (hf : 4 ≤ f) {h0 h : CH} {K M : Nat} (hX : Ext K M h0 h) (hk : kf h) {a : Nat} (ha : h0.1 ≤ a) (ca : cm h a = some (.inl (8, [.null, .null]))) {A : RA} {N : Mi} (hA : isN h A N) {k : Nat} (hkf : k < f) (hok : runOk k (N, [])) : ∃ h' L R k40, m_X8_init f h a A.1 = some h' ∧ HX (K + 6) (M + 16) h0 k40 a L R (hrun k (N, [])) h' := by
  obtain ⟨hk1, ⟨d0, d1, hd0, _, hd2, _⟩, _, _, mi, hmi⟩ := hk
  have w := hX.2.2.2.2.2.2.2
  unfold m_X8_init
  simp only [nmv_eq]
  unfold m_X8_init_8
  obtain ⟨h1, e1, e2, e3, e4⟩ := J2_new0 (f := f) w (d0 := d0) hd0 hd2 (hk1 _ _ hd2)
  rw [e1, bd_some]
  unfold m_X8_init_12
  have w1 := e3.2.2.2.2.2.2.2
  have kk : kok h := hk1
  have kk1 := kk.mod e3
  have ca1 := e3.at w ca id
  rw [pF_c ca1 w1 (by simp), bd_some]
  have m2 := Mod.cs (S := fun q => q = a) (e := .inl (8, [Value.null, .null].set 1 (.ref h.1))) w1 ca1 rfl
  have w2 := m2.2.2.2.2.2.2.2
  have kk2 := kk1.mod m2
  have ca2 := cm_cs_s h1 a (.inl (8, [Value.null, .null].set 1 (.ref h.1)))
  have nq : ∀ {q : Nat} {ci : Nat} {fs : List Value}, ci ≠ 8 → cm h1 q = some (.inl (ci, fs)) → ¬ q = a := by
    intro q ci fs hci hq e
    subst e
    rw [ca1] at hq; cases hq; exact hci rfl
  have nq2 : ∀ {q : Nat} {o : Nat × Nat × ((Nat → Int32) ⊕ (Nat → Int64) ⊕ (Nat → Option Nat))}, cm h1 q = some (.inr o) → ¬ q = a := by
    intro q o hq e
    subst e
    rw [ca1] at hq; cases hq
  have hA1 := hA.ext e3 w
  have hA2 := hA1.mod m2 w1 (nq (by decide) hA1.1) (nq2 hA1.2.1) (fun i hi => nq2 (hA1.2.2.1 i hi))
  have hd3 : d0 ≠ a := by have h9 := hk1 _ _ hd2; have h8 := (w.1 a _ ca).1; omega
  obtain ⟨mc, hl⟩ := e2.1
  have hL2 := e2.mod m2 w1 kk1 (nq (by decide) hl) hd3 (fun q hq ci fs hcq => by
    have hq' : q = a := hq
    subst hq'
    rw [ca1] at hcq; cases hcq; exact ⟨_, ca2⟩)
  obtain ⟨h3, g1, g2, g3, g4⟩ := X2_copy hf w2 hA2
  rw [gd_of (isC_R hA2), g1, bd2_some]
  unfold m_X8_init_20
  have w3 := g3.2.2.2.2.2.2.2
  have kk3 := kk2.mod g3
  have ca3 := g3.at w2 ca2 id
  have hL3 := hL2.ext g3 w2 kk2
  rw [pF_c ca3 w3 (by simp), bd_some]
  have m4 := Mod.cs (S := fun q => q = a) (e := .inl (8, ([Value.null, .null].set 1 (.ref h.1)).set 0 (.ref (cs h1 a (.inl (8, [Value.null, .null].set 1 (.ref h.1)))).1))) w3 ca3 rfl
  have w4 := m4.2.2.2.2.2.2.2
  have kk4 := kk3.mod m4
  have ca4 := cm_cs_s h3 a (.inl (8, ([Value.null, .null].set 1 (.ref h.1)).set 0 (.ref (cs h1 a (.inl (8, [Value.null, .null].set 1 (.ref h.1)))).1)))
  have nr : ∀ {q : Nat} {ci : Nat} {fs : List Value}, ci ≠ 8 → cm h3 q = some (.inl (ci, fs)) → ¬ q = a := by
    intro q ci fs hci hq e
    subst e
    rw [ca3] at hq; cases hq; exact hci rfl
  have nr2 : ∀ {q : Nat} {o : Nat × Nat × ((Nat → Int32) ⊕ (Nat → Int64) ⊕ (Nat → Option Nat))}, cm h3 q = some (.inr o) → ¬ q = a := by
    intro q o hq e
    subst e
    rw [ca3] at hq; cases hq
  have hR4 := g2.mod m4 w3 (nr (by decide) g2.1) (nr2 g2.2.1) (fun i hi => nr2 (g2.2.2.1 i hi))
  obtain ⟨mc3, hl3⟩ := hL3.1
  have hL4 := hL3.mod m4 w3 kk3 (nr (by decide) hl3) hd3 (fun q hq ci fs hcq => by
    have hq' : q = a := hq
    subst hq'
    rw [ca3] at hcq; cases hcq; exact ⟨_, ca4⟩)
  have hold : ∀ q, q < h0.1 → q = a → False := fun q h1 h2 => by omega
  have hX4 := (((hX.tr e3 (fun _ _ => id)).tr m2 hold).tr g3 (fun _ _ => id)).tr m4 hold
  have h01 : h0.1 ≤ h.1 := hX.1
  have start : HX (K + 6) (M + 16) h0 mi a h.1 (nwR (cs h1 a (.inl (8, [Value.null, .null].set 1 (.ref h.1))))) (N, []) (cs h3 a (.inl (8, ([Value.null, .null].set 1 (.ref h.1)).set 0 (.ref (cs h1 a (.inl (8, [Value.null, .null].set 1 (.ref h.1)))).1)))) := by
    refine ⟨⟨ha, ca4, hR4, fun i hi => ?_, h01, d0, 0, [], hL4, .inl rfl, rfl, fun i x hx => by simp at hx, ?_⟩, kk4, ?_⟩
    · show h0.1 ≤ h1.1 + 1 + 1 + i
      have := e3.1; omega
    · exact hX4.mono (fun _ _ => id) (by simp) (by simp)
    · show h3.2.2.2.2.2 40 = some mi
      rw [g3.2.2.2.2.2.1]
      show h1.2.2.2.2.2 40 = some mi
      rw [e3.2.2.2.2.2.1]; exact hmi
  generalize hg : cs h3 a (.inl (8, ([Value.null, .null].set 1 (.ref h.1)).set 0 (.ref (cs h1 a (.inl (8, [Value.null, .null].set 1 (.ref h.1)))).1))) = h5 at start ⊢
  obtain ⟨o0, o1, o2⟩ := hok
  obtain ⟨n, rfl⟩ : ∃ z, f = z + 4 := ⟨f - 4, by omega⟩
  obtain ⟨h6, q1, q2⟩ := X8_clears (f := n + 4) hf (c := 0) (by decide) hkf start o0
  obtain ⟨h7, q3, q4⟩ := X8_clears (f := n + 4) hf (c := 1) (by decide) hkf q2 o1
  obtain ⟨h8, q5, q6⟩ := X8_clears (f := n + 4) hf (c := 2) (by decide) hkf q4 o2
  refine ⟨h8, _, _, _, ?_, q6⟩
  show m_X8_init_25 (n + 4) (n + 3 + 1) h5 a (ni 0) = _
  rw [m_X8_init_25, if_neg (le3 (by decide)), gd_of (isC_c start.1.2.1), q1, bd_some]
  unfold m_X8_init_35
  rw [nmv_eq]
  show m_X8_init_25 (n + 4) (n + 2 + 1) h6 a (ni 1) = _
  rw [m_X8_init_25, if_neg (le3 (by decide)), gd_of (isC_c q2.1.2.1), q3, bd_some, m_X8_init_35, nmv_eq]
  show m_X8_init_25 (n + 4) (n + 1 + 1) h7 a (ni 2) = _
  rw [m_X8_init_25, if_neg (le3 (by decide)), gd_of (isC_c q4.1.2.1), q5, bd_some, m_X8_init_35, nmv_eq]
  show m_X8_init_25 (n + 4) (n + 0 + 1) h8 a (ni 3) = _
  rw [m_X8_init_25, if_pos le33]
  rfl
