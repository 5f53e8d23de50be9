/-! the twin's rows brought to their form: the same way -/
set_option maxRecDepth 100000
theorem X3_hb4 {f : Nat} {u : TS} {N : Mi} (hR : tR 18 u N) {c : Nat} (hc : c < 3) (hg : colrg c N) : ∀ k n r, c ≤ r → r + k = 3 → k < n → m_X3_hasBelow_4 f n u (ni c) (ni r) = some (if bel N c k r = true then 1 else 0, u) := by
  intro k
  induction k with
  | zero =>
    intro n r _ hr hn
    obtain ⟨n, rfl⟩ : ∃ z, n = z + 1 := ⟨n - 1, by omega⟩
    have : r = 3 := by omega
    subst this
    rw [m_X3_hasBelow_4, if_pos le33]; rfl
  | succ k ih =>
    intro n r hcr hr hn
    obtain ⟨n, rfl⟩ : ∃ z, n = z + 1 := ⟨n - 1, by omega⟩
    have r3 : r < 3 := by omega
    rw [m_X3_hasBelow_4, if_neg (le3 r3), gd_of (i3x r3 hc), i3c r3 hc, hR r c r3 hc]
    unfold bel
    by_cases hz : N r c = 0
    · rw [if_pos (show li (N r c) = 0 by rw [hz]; rfl), if_pos hz, nmv_eq, ni_succ]
      exact ih n (r + 1) (by omega) (by omega) (by omega)
    · rw [if_neg (show ¬ li (N r c) = 0 from fun e => hz ((li_inj (hg r hcr r3) rg_0).mp e)), if_neg hz]
      rfl
theorem X3_hasBelow {f : Nat} (hf : 4 ≤ f) {u : TS} {N : Mi} (hR : tR 18 u N) {c : Nat} (hc : c < 3) (hg : colrg c N) : m_X3_hasBelow f u (ni c) = some (if bel N c (2 - c) (c + 1) = true then 1 else 0, u) := by
  unfold m_X3_hasBelow
  rw [nmv_eq]
  show m_X3_hasBelow_4 f f u (ni c) (ni c + 1) = _
  rw [ni_succ]
  exact X3_hb4 hR hc hg (2 - c) f (c + 1) (by omega) (by omega) (by omega)
theorem li_abs0 {x : Int} (hx : rg x) : li (x.natAbs : Int) = 0 ↔ x = 0 := by
  have g : rg (x.natAbs : Int) := rg_abs (k := 2 ^ 63) (by simpa using rg_nat.mp hx) (by decide)
  constructor
  · intro e; have := (li_inj g rg_0).mp e; omega
  · intro e; subst e; rfl
theorem X3_l4 {f : Nat} {u : TS} {N : Mi} (hR : tR 18 u N) {c : Nat} (hc : c < 3) (hg : colrg c N) : ∀ k n b r, c ≤ r → r + k = 3 → k < n → (∀ b', b = some b' → c ≤ b' ∧ b' < 3) → m_X3_leastRow_4 f n u (ni c) (oni b) (ni r) = some (oni (lst N c k b r), u) := by
  intro k
  induction k with
  | zero =>
    intro n b r _ hr hn _
    obtain ⟨n, rfl⟩ : ∃ z, n = z + 1 := ⟨n - 1, by omega⟩
    have : r = 3 := by omega
    subst this
    rw [m_X3_leastRow_4, if_pos le33]; rfl
  | succ k ih =>
    intro n b r hcr hr hn hb
    obtain ⟨n, rfl⟩ : ∃ z, n = z + 1 := ⟨n - 1, by omega⟩
    have r3 : r < 3 := by omega
    rw [m_X3_leastRow_4, if_neg (le3 r3), gd_of (i3x r3 hc), i3c r3 hc, hR r c r3 hc, sized_li (hg r hcr r3), bd_some]
    unfold m_X3_leastRow_55 m_X3_leastRow_57
    simp only [nmv_eq, ni_succ]
    unfold lst
    by_cases hz : N r c = 0
    · rw [if_pos ((li_abs0 (hg r hcr r3)).mpr hz), if_pos hz]
      exact ih n b (r + 1) (by omega) (by omega) (by omega) hb
    · rw [if_neg (fun e => hz ((li_abs0 (hg r hcr r3)).mp e)), if_neg hz]
      cases b with
      | none =>
        rw [if_pos (show oni none = -1 from rfl)]
        exact ih n (some r) (r + 1) (by omega) (by omega) (by omega) (fun b' e => by cases e; exact ⟨hcr, r3⟩)
      | some b' =>
        obtain ⟨q1, q2⟩ := hb b' rfl
        rw [if_neg (show ¬ oni (some b') = -1 from ni_m1 q2), show oni (some b') = ni b' from rfl, gd_of (i3x q2 hc), i3c q2 hc, hR b' c q2 hc, sized_li (hg b' q1 q2), bd_some]
        have g1 : rg ((N b' c).natAbs : Int) := rg_abs (k := 2 ^ 63) (by simpa using rg_nat.mp (hg b' q1 q2)) (by decide)
        have g2 : rg ((N r c).natAbs : Int) := rg_abs (k := 2 ^ 63) (by simpa using rg_nat.mp (hg r hcr r3)) (by decide)
        dsimp only
        by_cases hle : (N b' c).natAbs ≤ (N r c).natAbs
        · rw [if_pos ((li_le g1 g2).mpr (by omega)), if_pos hle]
          exact ih n (some b') (r + 1) (by omega) (by omega) (by omega) hb
        · rw [if_neg (fun e => hle (by have := (li_le g1 g2).mp e; omega)), if_neg hle]
          exact ih n (some r) (r + 1) (by omega) (by omega) (by omega) (fun b' e => by cases e; exact ⟨hcr, r3⟩)
theorem X3_leastRow {f : Nat} (hf : 4 ≤ f) {u : TS} {N : Mi} (hR : tR 18 u N) {c : Nat} (hc : c < 3) (hg : colrg c N) : m_X3_leastRow f u (ni c) = some (oni (lst N c (3 - c) none c), u) := X3_l4 hR hc hg (3 - c) f none c (by omega) (by omega) (by omega) (fun b' e => by cases e)
theorem X3_p41 {f : Nat} (hf : 4 ≤ f) {u0 : TS} {c : Nat} (hc : c < 3) (k7 k12 : TS → Int32 → Option TS) {p : Int} (hp : p ≠ 0) (gp : rg p) : ∀ k n r s u, c < r → r + k = 3 → k < n → TF u0 s u → s.1 c c = p → (∀ i, r ≤ i → i < 3 → rg (s.1 i c)) → s.2.length + k ≤ 400 → ∃ u', m_X3_forms_41 f k7 k12 n u (ni c) (ni r) = k12 u' (ni c) ∧ TF u0 (hpass c k r s) u' := by
  intro k
  induction k with
  | zero =>
    intro n r s u _ hr hn H _ _ _
    obtain ⟨n, rfl⟩ : ∃ z, n = z + 1 := ⟨n - 1, by omega⟩
    have : r = 3 := by omega
    subst this
    rw [m_X3_forms_41, if_pos le33]
    exact ⟨u, rfl, H⟩
  | succ k ih =>
    intro n r s u hcr hr hn H hpc hg hl
    obtain ⟨n, rfl⟩ : ∃ z, n = z + 1 := ⟨n - 1, by omega⟩
    have r3 : r < 3 := by omega
    rw [m_X3_forms_41, if_neg (le3 r3), gd_of (i3x r3 hc), gd_of (i3x r3 hc), gd_of (i3x hc hc), i3c r3 hc, i3c hc hc, H.1 r c r3 hc, H.1 c c hc hc]
    unfold hpass m_X3_forms_89
    simp only [nmv_eq, ni_succ]
    by_cases hz : s.1 r c = 0
    · rw [if_pos (show li (s.1 r c) = 0 by rw [hz]; rfl), if_pos hz]
      exact ih n (r + 1) s u (by omega) (by omega) (by omega) H hpc (fun i hi => hg i (by omega)) (by omega)
    · rw [if_neg (show ¬ li (s.1 r c) = 0 from fun e => hz ((li_inj (hg r (by omega) r3) rg_0).mp e)), if_neg hz]
      have e0 : -(li (s.1 r c) / li (s.1 c c)) = li (-(s.1 r c).tdiv (s.1 c c)) := by
        rw [li_div (hg r (by omega) r3) (by rw [hpc]; exact gp), li_neg]
      have nz : nzL (li (s.1 c c)) = true := by rw [hpc]; exact nzL_li gp hp
      rw [gd_of nz, e0]
      obtain ⟨u', e1, e2⟩ := X3_addsRow hf H (by omega) r3 hc (show r ≠ c by omega) (-(s.1 r c).tdiv (s.1 c c))
      rw [e1, bd_some]
      refine ih n (r + 1) _ u' (by omega) (by omega) (by omega) e2 ?_ (fun i hi hi3 => ?_) ?_
      · show addR s.1 r c _ c c = p
        rw [addR_o (by omega)]; exact hpc
      · show rg (addR s.1 r c _ i c)
        rw [addR_o (by omega)]; exact hg i (by omega) hi3
      · show (s.2 ++ [_]).length + k ≤ 400
        simp; omega
theorem X3_eu {f : Nat} (hf : 4 ≤ f) {u0 : TS} {c : Nat} (hc : c < 3) (k7 : TS → Int32 → Option TS) : ∀ k n s u, k < n → TF u0 s u → euOk c k s → ∃ u', m_X3_forms_12 f k7 n u (ni c) = m_X3_forms_98 f k7 u' (ni c) ∧ TF u0 (heu c k s) u' := by
  intro k
  have stop : ∀ n s u, TF u0 s u → colrg c s.1 → bel s.1 c (2 - c) (c + 1) = false → m_X3_forms_12 f k7 (n + 1) u (ni c) = m_X3_forms_98 f k7 u (ni c) := by
    intro n s u H hg hb
    rw [m_X3_forms_12, X3_hasBelow hf H.1 hc hg, bd2_some, hb]
    exact if_pos rfl
  induction k with
  | zero =>
    intro n s u hn H hok
    obtain ⟨n, rfl⟩ : ∃ z, n = z + 1 := ⟨n - 1, by omega⟩
    exact ⟨u, stop n s u H hok.1 hok.2, H⟩
  | succ k ih =>
    intro n s u hn H hok
    obtain ⟨n, rfl⟩ : ∃ z, n = z + 1 := ⟨n - 1, by omega⟩
    obtain ⟨hg, hok⟩ := hok
    unfold heu
    cases hb : bel s.1 c (2 - c) (c + 1) with
    | false => exact ⟨u, stop n s u H hg hb, by rw [if_neg (by decide)]; exact H⟩
    | true =>
      rw [hb] at hok
      rcases hok with hok | ⟨hl, hok⟩
      · cases hok
      rw [if_pos rfl]
      obtain ⟨b, b1, b2, b3, b4⟩ := lst_bel hc hb
      rw [m_X3_forms_12, X3_hasBelow hf H.1 hc hg, bd2_some, hb]
      rw [if_neg (show ¬ (if true = true then (1 : Int32) else 0) = 0 by decide), X3_leastRow hf H.1 hc hg, bd2_some, b1]
      have fin : ∀ s1 u1, TF u0 s1 u1 → s1.1 c c ≠ 0 → colrg c s1.1 → s1.2.length ≤ 391 → hpiv c s = s1 → ∃ u', m_X3_forms_37 f k7 (m_X3_forms_12 f k7 n) u1 (ni c) = m_X3_forms_98 f k7 u' (ni c) ∧ TF u0 (heu c k (hround c s)) u' := by
        intro s1 u1 H1 q1 q2 q3 q4
        unfold m_X3_forms_37
        rw [nmv_eq]
        show ∃ u', m_X3_forms_41 f k7 (m_X3_forms_12 f k7 n) f u1 (ni c) (ni c + 1) = _ ∧ _
        rw [ni_succ]
        obtain ⟨u2, e1, e2⟩ := X3_p41 hf hc k7 (m_X3_forms_12 f k7 n) q1 (q2 c (Nat.le_refl _) hc) (2 - c) f (c + 1) s1 u1 (by omega) (by omega) (by omega) H1 rfl (fun i hi hi3 => q2 i (by omega) hi3) (by omega)
        rw [e1]
        refine ih n _ u2 (by omega) ?_ hok
        unfold hround
        rw [q4]
        exact e2
      by_cases hbc : b = c
      · rw [if_pos (show oni (some b) = ni c by rw [hbc]; rfl)]
        exact fin s u H (by rw [hbc] at b4; exact b4) hg (by omega) (by unfold hpiv; rw [b1]; exact if_pos hbc)
      · rw [if_neg (show ¬ oni (some b) = ni c from fun e => hbc ((ni_inj (by omega) (by omega)).mp e))]
        obtain ⟨u1, e1, e2⟩ := X3_exchangesRows hf H (by omega) hc b3 (show c ≠ b from fun e => hbc e.symm)
        show ∃ u', bd (m_X3_exchangesRows f u (ni c) (ni b)) _ = _ ∧ _
        rw [e1, bd_some]
        refine fin _ u1 e2 ?_ ?_ ?_ (by unfold hpiv; rw [b1]; exact if_neg hbc)
        · show excR s.1 c b c c ≠ 0
          unfold excR; rw [if_pos rfl]; exact b4
        · intro r hr hr3
          show rg (excR s.1 c b r c)
          unfold excR
          split
          · exact hg b b2 b3
          · split
            · exact hg c (Nat.le_refl _) hc
            · exact hg r hr hr3
        · show (s.2 ++ [_]).length ≤ 391
          simp; omega
theorem X3_red {f : Nat} (hf : 4 ≤ f) {u0 : TS} {c : Nat} (hc : c < 3) (k7 : TS → Int32 → Option TS) {p : Int} (hp : 0 < p) (gp : rg p) : ∀ k n r s u, r + k = c → k < n → TF u0 s u → s.1 c c = p → (∀ i, r ≤ i → i < c → rg (s.1 i c)) → s.2.length + k ≤ 400 → ∃ u', m_X3_forms_157 f k7 n u (ni c) (ni r) = k7 u' (ni (c + 1)) ∧ TF u0 (hred c k r s) u' := by
  intro k
  induction k with
  | zero =>
    intro n r s u hr hn H _ _ _
    obtain ⟨n, rfl⟩ : ∃ z, n = z + 1 := ⟨n - 1, by omega⟩
    have : r = c := by omega
    subst this
    rw [m_X3_forms_157, if_pos ((ni_le (by omega) (by omega)).mpr (Nat.le_refl _))]
    unfold m_X3_forms_206
    rw [nmv_eq, ni_succ]
    exact ⟨u, rfl, H⟩
  | succ k ih =>
    intro n r s u hr hn H hpc hg hl
    obtain ⟨n, rfl⟩ : ∃ z, n = z + 1 := ⟨n - 1, by omega⟩
    have r3 : r < 3 := by omega
    have gr := hg r (Nat.le_refl _) (by omega)
    rw [m_X3_forms_157, if_neg (fun e => by have := (ni_le (by omega) (by omega)).mp e; omega), gd_of (i3x r3 hc), gd_of (i3x hc hc), i3c r3 hc, i3c hc hc, H.1 r c r3 hc, H.1 c c hc hc, hpc, floorDiv_li gr gp hp, bd_some, nmv_eq, li_neg]
    unfold hred m_X3_forms_200
    rw [hpc]
    simp only [nmv_eq, ni_succ]
    have gd1 : rg (-(s.1 r c / p)) := by
      apply rg_neg
      rw [rg_nat]
      have h1 := rg_nat.mp gr
      have h2 : (s.1 r c / p).natAbs ≤ (s.1 r c).natAbs := Int.natAbs_ediv_le_natAbs _ _
      omega
    by_cases hz : -(s.1 r c / p) = 0
    · rw [if_pos (show li (-(s.1 r c / p)) = 0 by rw [hz]; rfl), if_pos hz]
      exact ih n (r + 1) s u (by omega) (by omega) H hpc (fun i hi => hg i (by omega)) (by omega)
    · rw [if_neg (show ¬ li (-(s.1 r c / p)) = 0 from fun e => hz ((li_inj gd1 rg_0).mp e)), if_neg hz]
      obtain ⟨u', e1, e2⟩ := X3_addsRow hf H (by omega) r3 hc (show r ≠ c by omega) (-(s.1 r c / p))
      rw [e1, bd_some]
      refine ih n (r + 1) _ u' (by omega) (by omega) e2 ?_ (fun i hi hi3 => ?_) ?_
      · show addR s.1 r c _ c c = p
        rw [addR_o (by omega)]; exact hpc
      · show rg (addR s.1 r c _ i c)
        rw [addR_o (by omega)]; exact hg i (by omega) hi3
      · show (s.2 ++ [_]).length + k ≤ 400
        simp; omega
theorem X3_clr {f : Nat} (hf : 4 ≤ f) {u0 : TS} {c : Nat} (hc : c < 3) (k7 : TS → Int32 → Option TS) {k : Nat} {s : HS} {u : TS} (hk : k < f) (H : TF u0 s u) (hok : clrOk c k s) : ∃ u', m_X3_forms_12 f k7 f u (ni c) = k7 u' (ni (c + 1)) ∧ TF u0 (hclr c k s) u' := by
  obtain ⟨o1, o2, o3, o4, o5⟩ := hok
  obtain ⟨u1, e1, e2⟩ := X3_eu hf hc k7 k f s u hk H o1
  rw [e1]
  unfold hclr
  have gcc : rg ((heu c k s).1 c c) := by
    have hh := o4
    unfold hneg at hh
    by_cases hz : (heu c k s).1 c c < 0
    · rw [if_pos hz] at hh
      have h2 : rg (ovrR (heu c k s).1 c c c) := hh
      unfold ovrR at h2
      rw [if_pos rfl] at h2
      have := rg_neg h2
      rwa [Int.neg_neg] at this
    · rw [if_neg hz] at hh; exact hh
  unfold m_X3_forms_98 m_X3_forms_155
  rw [gd_of (i3x hc hc), i3c hc hc, e2.1 c c hc hc]
  have key : ∃ u2, (if (0 : Int64) ≤ li ((heu c k s).1 c c) then m_X3_forms_157 f k7 f u1 (ni c) 0 else m_X3_forms_115 f k7 f u1 (ni c) 0) = m_X3_forms_157 f k7 f u2 (ni c) 0 ∧ TF u0 (hneg c (heu c k s)) u2 := by
    unfold hneg
    by_cases hz : (heu c k s).1 c c < 0
    · rw [if_neg (show ¬ (0 : Int64) ≤ li ((heu c k s).1 c c) from fun e => by have := (li_le rg_0 gcc).mp e; omega), if_pos hz]
      obtain ⟨u2, p2, q2⟩ := loop3v (fun n u x => m_X3_forms_115 f k7 n u (ni c) x) (fun u => m_X3_forms_147 f k7 u (ni c)) (fun j u => TU u0 (heu c k s).1 (ovrR (heu c k s).1 c) (heu c k s).2 j u)
        (fun n u _ => by rw [m_X3_forms_115, if_pos le33])
        (fun n u j hj q => by
          refine ⟨_, ?_, q.one hc hj (fun a _ ha => by unfold ovrR; rw [if_neg ha])⟩
          have e1 : upc (heu c k s).1 (ovrR (heu c k s).1 c) j c j = (heu c k s).1 c j := by unfold upc; rw [if_neg (by omega)]
          have e3 : ovrR (heu c k s).1 c c j = -(heu c k s).1 c j := by unfold ovrR; rw [if_pos rfl]
          have q1 := q.1 c j hc hj
          rw [m_X3_forms_115, if_neg (le3 hj), gd_of (i3x hc hj), gd_of (i3x hc hj), nmv_eq, nmv_eq, i3c hc hj, q1]
          show m_X3_forms_115 f k7 n (sB u 18 (3 * c + j) (-li (upc (heu c k s).1 (ovrR (heu c k s).1 c) j c j))) _ _ = _
          rw [e1, li_neg, e3, ni_succ])
        hf (TU.start e2)
      have q3 : m_X3_forms_115 f k7 f u1 (ni c) 0 = _ := q2
      rw [q3]
      unfold m_X3_forms_147
      obtain ⟨u3, g1, g2⟩ := TF.step (f := f) p2.done (by show (heu c k s).2.length < 400; omega) (2, ni c, -1, 0)
      rw [g1, bd_some]
      exact ⟨u3, rfl, g2⟩
    · rw [if_pos (show (0 : Int64) ≤ li ((heu c k s).1 c c) from (li_le rg_0 gcc).mpr (by omega)), if_neg hz]
      exact ⟨u1, rfl, e2⟩
  obtain ⟨u2, q1, q2⟩ := key
  have ll : (hneg c (heu c k s)).2.length ≤ 391 := by
    unfold hneg
    split
    · show (_ ++ [_]).length ≤ 391
      simp; omega
    · omega
  obtain ⟨u3, q3, q4⟩ := X3_red hf hc k7 o3 o4 c f 0 _ u2 (by omega) (by omega) q2 rfl (fun i _ hi => o5 i hi) (by omega)
  exact ⟨u3, by rw [q1]; exact q3, q4⟩
/-- the whole way -/
theorem X3_forms {f : Nat} (hf : 4 ≤ f) {u : TS} {N : Mi} {k : Nat} (hk : k < f) (hR : tR 18 u N) (hok : runOk k (N, [])) : ∃ u', m_X3_forms f u = some u' ∧ TF u (hrun k (N, [])) u' := by
  unfold m_X3_forms
  rw [nmv_eq]
  have st : TF u (N, []) (sI u 25 0) := ⟨hR.fr (l := [25]) (Fr.sI (by decide)) (by decide), ⟨rfl, fun i st hi => by simp at hi⟩, Fr.sI (by decide)⟩
  obtain ⟨o0, o1, o2⟩ := hok
  obtain ⟨n, rfl⟩ : ∃ z, f = z + 4 := ⟨f - 4, by omega⟩
  show ∃ u', m_X3_forms_7 (n + 4) (n + 3 + 1) (sI u 25 0) (ni 0) = some u' ∧ _
  rw [m_X3_forms_7, if_neg (le3 (by decide))]
  obtain ⟨u1, q1, q2⟩ := X3_clr (f := n + 4) hf (c := 0) (by decide) (m_X3_forms_7 (n + 4) (n + 3)) hk st o0
  rw [q1]
  show ∃ u', m_X3_forms_7 (n + 4) (n + 2 + 1) u1 (ni 1) = some u' ∧ _
  rw [m_X3_forms_7, if_neg (le3 (by decide))]
  obtain ⟨u2, q3, q4⟩ := X3_clr (f := n + 4) hf (c := 1) (by decide) (m_X3_forms_7 (n + 4) (n + 2)) hk q2 o1
  rw [q3]
  show ∃ u', m_X3_forms_7 (n + 4) (n + 1 + 1) u2 (ni 2) = some u' ∧ _
  rw [m_X3_forms_7, if_neg (le3 (by decide))]
  obtain ⟨u3, q5, q6⟩ := X3_clr (f := n + 4) hf (c := 2) (by decide) (m_X3_forms_7 (n + 4) (n + 1)) hk q4 o2
  rw [q5]
  show ∃ u', m_X3_forms_7 (n + 4) (n + 0 + 1) u3 (ni 3) = some u' ∧ _
  rw [m_X3_forms_7, if_pos le33]
  exact ⟨u3, rfl, q6⟩
