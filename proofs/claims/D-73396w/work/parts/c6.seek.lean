/-! the component: turns sought -/
set_option maxRecDepth 100000
theorem shf : ∀ c, c < 256 → ni c >>> ((6 : Int32) &&& 31) = ni (c / 64) ∧ (ni c >>> ((4 : Int32) &&& 31)) &&& 3 = ni (c / 16 % 4) ∧ (ni c >>> ((2 : Int32) &&& 31)) &&& 3 = ni (c / 4 % 4) ∧ ni c &&& 3 = ni (c % 4) := by decide
def fsS (fs : List Value) (s : Int32 × Int32) : List Value := (fs.set 10 (.int s.1)).set 11 (.int s.2)
theorem fsS_o (fs : List Value) (s : Int32 × Int32) {k : Nat} (hk : k ≠ 10) (hk' : k ≠ 11) : (fsS fs s)[k]? = fs[k]? := by
  unfold fsS
  rw [List.getElem?_set_ne (by omega), List.getElem?_set_ne (by omega)]
def sT (x a V : Nat) (t r : Nat → Nat) (Rb : RA) : Nat → Prop := fun q => q = x ∨ tRow t q ∨ tRow r q ∨ sB' Rb V a q
def iT (x a TA UA V y : Nat) (t r : Nat → Nat) (R Rb : RA) (A : Mi) (fs : List Value) (h : CH) (s : Int32 × Int32) : Prop := wfh h ∧ (∃ g N, QS h x (fsS fs s) TA t g UA r N) ∧ isOw h y R A ∧ (∃ F v m0, cm h a = some (.inl (2, [.ref Rb.1, .ref V, m0])) ∧ isN h Rb F ∧ cm h V = some (vcl v))
theorem cs_cs (h : CH) (a : Nat) (e e' : AC) : cs (cs h a e) a e' = cs h a e' := by
  have e0 : va_up (va_up h.2.2.2.1 a (some e)) a (some e') = va_up h.2.2.2.1 a (some e') := by
    funext b; unfold va_up; split <;> rfl
  unfold cs
  show (h.1, h.2.1, h.2.2.1, va_up (va_up h.2.2.2.1 a (some e)) a (some e'), h.2.2.2.2) = _
  rw [e0]
theorem tIx_le {A : Mi} (hA : LA (m3 A)) {c : Nat} (hc : c < 256) (h1 : 1 ≤ c) : tIx A c ≤ 2160 := by
  obtain ⟨o0, o36⟩ := qc_ok c hc h1
  have LO2 := trn_Ok hA o0 o36
  have LO1 : LatOk A 1 false := ⟨⟨_, _, _, _, LQ_own hA⟩, fun _ => ⟨rfl, hA⟩⟩
  obtain ⟨pq, _⟩ := pairPQ LO1 LO2 (fun h => by cases h.1)
  have n2 := LO2.n
  rw [btw_1l, Int.tdiv_one, Int.tdiv_self (by omega)] at pq
  have m1e : m3 (mscl 1 (trnM A (qc c))) = m3 (trnM A (qc c)) := by rw [m3_mscl, smM_1]
  rw [m1e] at pq
  obtain ⟨_, _, _, _, _, _, _, m8, _⟩ := pq.mt
  rw [det_m3] at m8
  exact m8
/-- the component's own fields change -/
theorem iT.fld {x a TA UA V y : Nat} {t r : Nat → Nat} {R Rb : RA} {A : Mi} {fs : List Value} {h : CH} {s : Int32 × Int32} (H : iT x a TA UA V y t r R Rb A fs h s) (s' : Int32 × Int32) : iT x a TA UA V y t r R Rb A fs (cs h x (.inl (1, fsS fs s'))) s' ∧ Mod (· = x) 0 0 h (cs h x (.inl (1, fsS fs s'))) := by
  obtain ⟨w, ⟨g, N, q1, q2, q3, q4, q5⟩, O, F, v, m0, d1, d2, d3⟩ := H
  have m1 : Mod (· = x) 0 0 h (cs h x (.inl (1, fsS fs s'))) := Mod.cs w q1 rfl
  have ne : ∀ {q : Nat} {e : AC}, cm h q = some e → (∀ f', e ≠ .inl (1, f')) → ¬ q = x := fun {q e} hq he e9 => by rw [e9, q1] at hq; cases hq; exact he _ rfl
  rw [fsS_o fs s (by decide) (by decide)] at q2 q3
  refine ⟨⟨m1.wf, ⟨g, N, cm_cs_s _ _ _, by rw [fsS_o fs s' (by decide) (by decide)]; exact q2, by rw [fsS_o fs s' (by decide) (by decide)]; exact q3, ⟨m1.at w q4.1 (ne q4.1 (fun _ => by simp)), fun i hi => ?_, q4.2.2⟩, m1.at w q5.1 (ne q5.1 (fun _ => by simp)), fun i hi => ?_, q5.2.2⟩, ⟨m1.at w O.1 (ne O.1 (fun _ => by simp)), O.2.mod m1 w (ne O.2.1 (fun _ => by simp)) (ne O.2.2.1 (fun _ => by simp)) (fun i hi => ne (O.2.2.2.1 i hi) (fun _ => by simp))⟩, F, v, m0, m1.at w d1 (ne d1 (fun _ => by simp)), d2.mod m1 w (ne d2.1 (fun _ => by simp)) (ne d2.2.1 (fun _ => by simp)) (fun i hi => ne (d2.2.2.1 i hi) (fun _ => by simp)), m1.at w d3 (ne d3 (fun _ => by unfold vcl; simp))⟩, m1⟩
  · obtain ⟨rr, r1, r2⟩ := q4.2.1 i hi
    exact ⟨rr, m1.at w r1 (ne r1 (fun _ => by simp)), r2⟩
  · obtain ⟨rr, r1, r2⟩ := q5.2.1 i hi
    exact ⟨rr, m1.at w r1 (ne r1 (fun _ => by simp)), r2⟩
theorem fsS_at (fs : List Value) (s : Int32 × Int32) (fl : 12 ≤ fs.length) : (fsS fs s)[10]? = some (.int s.1) ∧ (fsS fs s)[11]? = some (.int s.2) ∧ (fsS fs s).length = fs.length := by
  unfold fsS
  refine ⟨?_, ?_, by simp⟩
  · rw [List.getElem?_set_ne (by decide), List.getElem?_set_self (by omega)]
  · rw [List.getElem?_set_self (by simp; omega)]
theorem fsS_set (fs : List Value) (s : Int32 × Int32) (b c : Int32) : ((fsS fs s).set 10 (.int b)).set 11 (.int c) = fsS fs (b, c) := by
  unfold fsS
  rw [List.set_comm _ _ (show (11 : Nat) ≠ 10 by decide), List.set_set, List.set_set]
theorem X0_s12 {f : Nat} (hf : 2 ^ 63 ≤ f) {x a TA UA V y : Nat} {t r : Nat → Nat} {R Rb : RA} {A : Mi} {fs : List Value} (ap : AP x a TA UA V t r R Rb) (hne : ∀ i, i < 3 → Rb.2.2 i ≠ V) (f7 : fs[7]? = some (.ref a)) (fl : 12 ≤ fs.length) (hA : LA (m3 A)) (n : Int32) : ∀ k m c h s, c + k = 256 → 1 ≤ c → k < m → iT x a TA UA V y t r R Rb A fs h s → ∃ h', m_X0_seeksTurns_12 f m h x y n (ni c) = some h' ∧ iT x a TA UA V y t r R Rb A fs h' (trn A n.toInt k c s) ∧ Mod (sT x a V t r Rb) 0 0 h h' := by
  intro k
  induction k with
  | zero =>
    intro m c h s hc h1 hm H
    obtain ⟨m, rfl⟩ : ∃ z, m = z + 1 := ⟨m - 1, by omega⟩
    have : c = 256 := by omega
    subst this
    rw [m_X0_seeksTurns_12, if_pos (show (256 : Int32) ≤ ni 256 from lekk 256)]
    exact ⟨h, rfl, H, Mod.rf H.1⟩
  | succ k ih =>
    intro m c h s hc h1 hm H
    obtain ⟨m, rfl⟩ : ∃ z, m = z + 1 := ⟨m - 1, by omega⟩
    have c2 : c < 256 := by omega
    obtain ⟨w, ⟨g, N, q⟩, O, F, v, m0, d1, d2, d3⟩ := H
    obtain ⟨q1, q2, q3, q4, q5⟩ := q
    obtain ⟨w1, w2, w3, w4⟩ := shf c c2
    rw [m_X0_seeksTurns_12, if_neg (show ¬ (256 : Int32) ≤ ni c from lek (by decide) c2), gd_of (isC_c q1), w1, w2, w3, w4]
    obtain ⟨h2, e1, e2, e3, e4⟩ := X0_laysTurn (f := f) w q1 q2 q4 c2
    rw [e1, bd2_some]
    -- what lies apart from the turn's rows
    have nt : ∀ {q : Nat} {e : AC}, cm h q = some e → (∀ p, e ≠ .inr (0, 3, .inl p)) → ¬ tRow t q := fun {q e} hq he ⟨k, hk, e9⟩ => by
      obtain ⟨rr, r1, _⟩ := q4.2.1 k hk
      rw [e9, r1] at hq; cases hq; exact he rr rfl
    have U2 : isU h2 UA r N := ⟨e3.at w q5.1 (nt q5.1 (fun _ => by simp)), fun i hi => by
      obtain ⟨rr, r1, r2⟩ := q5.2.1 i hi
      exact ⟨rr, e3.at w r1 (nt r1 (fun _ => by simp)), r2⟩, q5.2.2⟩
    have d1' := e3.at w d1 (nt d1 (fun _ => by simp))
    have d2' : isN h2 Rb F := d2.mod e3 w (nt d2.1 (fun _ => by simp)) (nt d2.2.1 (fun _ => by simp)) (fun i hi => nt (d2.2.2.1 i hi) (fun _ => by simp))
    have d3' := e3.at w d3 (nt d3 (fun _ => by unfold vcl; simp))
    have O1 := e3.at w O.1 (nt O.1 (fun _ => by simp))
    have O2 : isN h2 R A := O.2.mod e3 w (nt O.2.1 (fun _ => by simp)) (nt O.2.2.1 (fun _ => by simp)) (fun i hi => nt (O.2.2.2.1 i hi) (fun _ => by simp))
    obtain ⟨o0, o36⟩ := qc_ok c c2 h1
    unfold m_X0_seeksTurns_40
    rw [nmv_eq, if_pos (isC_c O1)]
    have er : m_X6_rows f h2 y = some (R.1, h2) := by
      unfold m_X6_rows
      rw [oR_c (k := 0) (x := R.1) O1 rfl, bd_some]
    rw [er, bd2_some]
    unfold m_X0_seeksTurns_48
    have eo : Int32.toInt64 (Int32.ofInt (ovQ (qc c))) = li (ovQ (qc c)) := by rw [toL, Int32.toInt_ofInt_of_le (by omega) (by omega)]
    obtain ⟨h3, F3, v3', m3', x1, x2, x3, x4, x5, x6, x7⟩ := X0_indexBy (f := f) hf ap (by rw [fsS_o fs s (by decide) (by decide)]; exact f7) c2 h1 hA e3.wf ⟨e4, q2, q3, e2, U2⟩ O2 d1' d2' d3' hne
    rw [gd_of (isC_c e4), eo, x1, bd2_some]
    have ny3 : ¬ (tRow r y ∨ sB' Rb V a y) := by
      rintro (⟨k, hk, e9⟩ | h9)
      · obtain ⟨rr, r1, _⟩ := U2.2.1 k hk
        rw [← e9, O1] at r1; cases r1
      · exact sm_no d1' d2' d3' O1 (fun _ => by simp) (fun _ => by simp) h9
    have O1' := x7.at e3.wf O1 ny3
    have M03 : Mod (sT x a V t r Rb) 0 0 h h3 := (e3.mono (fun _ _ hh => .inr (.inl hh)) (Nat.le_refl _) (Nat.le_refl _)).tr (x7.mono (T := sT x a V t r Rb) (fun _ _ hh => by rcases hh with hh | hh; exact .inr (.inr (.inl hh)); exact .inr (.inr (.inr hh))) (Nat.le_refl _) (Nat.le_refl _)) (fun _ _ => id)
    have le := tIx_le hA c2 h1
    have I3 : iT x a TA UA V y t r R Rb A fs h3 s := ⟨x7.wf, ⟨_, _, x2⟩, ⟨O1', x3⟩, F3, v3', m3', x4, x5, x6⟩
    have go : ∀ h5 s5, iT x a TA UA V y t r R Rb A fs h5 s5 → Mod (sT x a V t r Rb) 0 0 h h5 → ∃ h', m_X0_seeksTurns_121 f (m_X0_seeksTurns_12 f m) h5 x y n (ni c) = some h' ∧ iT x a TA UA V y t r R Rb A fs h' (trn A n.toInt k (c + 1) s5) ∧ Mod (sT x a V t r Rb) 0 0 h h' := fun h5 s5 H5 M5 => by
      unfold m_X0_seeksTurns_121
      rw [nmv_eq, ni_succ]
      obtain ⟨h6, y1, y2, y3⟩ := ih m (c + 1) h5 s5 (by omega) (by omega) (by omega) H5
      exact ⟨h6, y1, y2, M5.tr y3 (fun _ _ => id)⟩
    unfold m_X0_seeksTurns_53
    show ∃ h', _ = some h' ∧ iT x a TA UA V y t r R Rb A fs h' (trn A n.toInt k (c + 1) (tst A n.toInt c s)) ∧ _
    unfold tst hitT
    by_cases hh : ((tIx A c : Nat) : Int) = n.toInt
    · rw [if_pos ((li_eqI le n).mpr hh), if_pos (decide_eq_true hh)]
      obtain ⟨k10, k11, kl⟩ := fsS_at fs s fl
      have x21 := x2.1
      rw [oI_c (k := 10) (x := s.1) x21 k10, bd_some, pF_c x21 x7.wf (by omega) _, bd_some]
      have c4 := cm_cs_s h3 x (.inl (1, (fsS fs s).set 10 (.int (s.1 + 1))))
      have M4 : Mod (· = x) 0 0 h3 (cs h3 x (.inl (1, (fsS fs s).set 10 (.int (s.1 + 1))))) := Mod.cs x7.wf x21 rfl
      have k11' : ((fsS fs s).set 10 (.int (s.1 + 1)))[11]? = some (.int s.2) := by rw [List.getElem?_set_ne (by decide)]; exact k11
      rw [oI_c (k := 11) (x := s.2) c4 k11', bd_some]
      have put : ∀ z : Int32, ∃ h', m_X0_seeksTurns_118 f (m_X0_seeksTurns_12 f m) (cs h3 x (.inl (1, (fsS fs s).set 10 (.int (s.1 + 1))))) x y n (ni c) x z = some h' ∧ iT x a TA UA V y t r R Rb A fs h' (trn A n.toInt k (c + 1) (s.1 + 1, z)) ∧ Mod (sT x a V t r Rb) 0 0 h h' := fun z => by
        unfold m_X0_seeksTurns_118
        rw [pF_c c4 M4.wf (by simp; omega) _, bd_some, fsS_set]
        obtain ⟨y1, y2⟩ := I3.fld (s.1 + 1, z)
        have ecs : cs (cs h3 x (.inl (1, (fsS fs s).set 10 (.int (s.1 + 1))))) x (.inl (1, fsS fs (s.1 + 1, z))) = cs h3 x (.inl (1, fsS fs (s.1 + 1, z))) := cs_cs _ _ _ _
        rw [ecs]
        exact go _ _ y1 (M03.tr (y2.mono (T := sT x a V t r Rb) (fun _ _ hh => .inl hh) (Nat.le_refl _) (Nat.le_refl _)) (fun _ _ => id))
      by_cases hs : s.2 = -1
      · rw [if_neg (show ¬ ¬ s.2 = -1 from fun h => h hs), if_pos hs, w1, w2, w3, w4]
        exact put (cdT c)
      · rw [if_pos (show ¬ s.2 = -1 from hs), if_neg hs, bd_some]
        exact put s.2
    · rw [if_neg (fun e => hh ((li_eqI le n).mp e)), if_neg (by rw [decide_eq_false hh]; decide)]
      exact go h3 s I3 M03
