/-! turns: both -/
set_option maxRecDepth 100000
/-- what the component keeps for the search, at h -/
def QTs (x a TA UA V : Nat) (t r : Nat → Nat) (Rb : RA) (fs : List Value) (h : CH) : Prop := (∃ g N, QS h x fs TA t g UA r N) ∧ (∃ F v m0, cm h a = some (.inl (2, [.ref Rb.1, .ref V, m0])) ∧ isN h Rb F ∧ cm h V = some (vcl v)) ∧ fs[7]? = some (.ref a) ∧ 12 ≤ fs.length ∧ ∀ i, i < 3 → Rb.2.2 i ≠ V
theorem isLt.own {h : CH} {a : Nat} {M : Mi} {n : Int} (H : isLt h a M n false) : ∃ R, isOw h a R M := by
  rcases H with ⟨_, _, R, hO⟩ | ⟨e, _⟩
  · exact ⟨R, hO⟩
  · cases e
theorem fsS_00 (fs : List Value) (s : Int32 × Int32) : (fs.set 10 (.int s.1)).set 11 (.int s.2) = fsS fs s := rfl
theorem X0_seeks {f : Nat} (hf : 2 ^ 63 ≤ f) {x a TA UA V y : Nat} {t r : Nat → Nat} {R Rb : RA} {A : Mi} {fs : List Value} (ap : AP x a TA UA V t r R Rb) {h : CH} (w : wfh h) (Q : QTs x a TA UA V t r Rb fs h) (O : isOw h y R A) (hA : LA (m3 A)) (n : Int32) : ∃ h', m_X0_seeksTurns f h x y n = some h' ∧ iT x a TA UA V y t r R Rb A fs h' (trn A n.toInt 255 1 (0, -1)) ∧ Mod (sT x a V t r Rb) 0 0 h h' := by
  obtain ⟨⟨g, N, q1, q2, q3, q4, q5⟩, ⟨F, v, m0, d1, d2, d3⟩, f7, fl, hne⟩ := Q
  unfold m_X0_seeksTurns
  have c4 := cm_cs_s h x (.inl (1, fs.set 10 (.int 0)))
  have M4 : Mod (· = x) 0 0 h (cs h x (.inl (1, fs.set 10 (.int 0)))) := Mod.cs w q1 rfl
  rw [pF_c q1 w (by omega) _, bd_some, pF_c c4 M4.wf (by simp; omega) _, bd_some, cs_cs]
  have m1 : Mod (· = x) 0 0 h (cs h x (.inl (1, fsS fs (0, -1)))) := Mod.cs w q1 rfl
  have ne : ∀ {q : Nat} {e : AC}, cm h q = some e → (∀ f', e ≠ .inl (1, f')) → ¬ q = x := fun {q e} hq he e9 => by rw [e9, q1] at hq; cases hq; exact he _ rfl
  have I0 : iT x a TA UA V y t r R Rb A fs (cs h x (.inl (1, fsS fs (0, -1)))) (0, -1) := by
    refine ⟨m1.wf, ⟨g, N, cm_cs_s _ _ _, by rw [fsS_o fs _ (by decide) (by decide)]; exact q2, by rw [fsS_o fs _ (by decide) (by decide)]; exact q3, ⟨m1.at w q4.1 (ne q4.1 (fun _ => by simp)), fun i hi => ?_, q4.2.2⟩, m1.at w q5.1 (ne q5.1 (fun _ => by simp)), fun i hi => ?_, q5.2.2⟩, ⟨m1.at w O.1 (ne O.1 (fun _ => by simp)), O.2.mod m1 w (ne O.2.1 (fun _ => by simp)) (ne O.2.2.1 (fun _ => by simp)) (fun i hi => ne (O.2.2.2.1 i hi) (fun _ => by simp))⟩, F, v, m0, m1.at w d1 (ne d1 (fun _ => by simp)), d2.mod m1 w (ne d2.1 (fun _ => by simp)) (ne d2.2.1 (fun _ => by simp)) (fun i hi => ne (d2.2.2.1 i hi) (fun _ => by simp)), m1.at w d3 (ne d3 (fun _ => by unfold vcl; simp))⟩
    · obtain ⟨rr, r1, r2⟩ := q4.2.1 i hi
      exact ⟨rr, m1.at w r1 (ne r1 (fun _ => by simp)), r2⟩
    · obtain ⟨rr, r1, r2⟩ := q5.2.1 i hi
      exact ⟨rr, m1.at w r1 (ne r1 (fun _ => by simp)), r2⟩
  obtain ⟨h', e1, e2, e3⟩ := X0_s12 (f := f) hf ap hne f7 fl hA n 255 f 1 _ (0, -1) rfl (by omega) (by omega) I0
  exact ⟨h', e1, e2, (m1.mono (T := sT x a V t r Rb) (fun _ _ hh => .inl hh) (Nat.le_refl _) (Nat.le_refl _)).tr e3 (fun _ _ => id)⟩
/-- whether turns can be asked for -/
theorem askT_cases {f : Nat} (hf : 2 ^ 63 ≤ f) {h : CH} {x a TA UA V : Nat} {t r : Nat → Nat} {Rb : RA} {fs : List Value} {u : TS} {LS : LSt} (E : QE h x u LS) (Q : QTs x a TA UA V t r Rb fs h) (hap : ∀ k y A R, k < LS.length → m_X0_at f h x (ni k) = some (y, h) → isOw h y R A → AP x a TA UA V t r R Rb) (l n : Int32) : (m_X0_asksTurns f h x l n = some (0, h) ∧ m_X3_canTurn f u l n = some (0, u)) ∨ ∃ k A R y h', l = ni k ∧ LS[k]? = some (A, 1, false) ∧ LatOk A 1 false ∧ m_X0_asksTurns f h x l n = some (1, h') ∧ m_X3_canTurn f u l n = some (1, u) ∧ iT x a TA UA V y t r R Rb A fs h' (trn A n.toInt 255 1 (0, -1)) ∧ Mod (sT x a V t r Rb) 0 0 h h' := by
  obtain ⟨w, kf0, C, T, L⟩ := E
  unfold m_X0_asksTurns m_X3_canTurn m_X0_asksTurns_5
  rw [gd_of C.isC, X0_isLattice C, bd2_some, X3_isLattice T, bd2_some]
  cases h1 : isLI LS l with
  | false => exact .inl ⟨rfl, rfl⟩
  | true =>
    obtain ⟨k, M, o, tn, rfl, hk, hl⟩ := isLI_ni T.2.1 h1
    obtain ⟨y, a1, a2⟩ := X0_at (f := f) C hl
    have e1 := (T.2.2 k M o tn hl).2
    rw [ift1, ift1, gd_of C.isC, a1, bd2_some, X3_isTurned hk, bd2_some]
    unfold m_X0_asksTurns_13
    rw [L_isT a2 (fun r3 h2 => m_X0_asksTurns_16 f h2 x (ni k) n r3)]
    unfold m_X0_asksTurns_16
    cases tn with
    | true =>
      rw [if_neg (show ¬ tA u 0 (3 + k) = -1 from fun h => by cases e1.mp h)]
      exact .inl ⟨rfl, rfl⟩
    | false =>
      have LO := L k M o false hl
      obtain ⟨e0, hA⟩ := LO.2 rfl
      subst e0
      rw [if_pos (show tA u 0 (3 + k) = -1 from e1.mpr rfl), toL n, show (1 : Int64) = li 1 from rfl, show (999 : Int64) = li 999 from rfl, isIn_li (i32_rg n) rg_1 (rg_sm (by omega) (by omega)), in_li (i32_rg n) rg_1 (rg_sm (by omega) (by omega))]
      cases h2 : inI n.toInt 1 999 with
      | false => exact .inl ⟨rfl, rfl⟩
      | true =>
        obtain ⟨R, O⟩ := a2.own
        obtain ⟨h', g1, g2, g3⟩ := X0_seeks (f := f) hf (hap k y M R (List.getElem?_eq_some_iff.mp hl).1 a1 O) w Q O hA n
        refine .inr ⟨k, M, R, y, h', rfl, hl, LO, ?_, rfl, g2, g3⟩
        show (gd (isC h x 1) (bd2 (m_X0_at f h x (ni k)) fun a6 h5 => m_X0_asksTurns_39 f h5 n x a6)) = _
        rw [gd_of C.isC, a1, bd2_some]
        unfold m_X0_asksTurns_39
        rw [gd_of C.isC, g1, bd_some]
        rfl
theorem iT.q {x a TA UA V y : Nat} {t r : Nat → Nat} {R Rb : RA} {A : Mi} {fs : List Value} {h : CH} {s : Int32 × Int32} (H : iT x a TA UA V y t r R Rb A fs h s) (f7 : fs[7]? = some (.ref a)) (fl : 12 ≤ fs.length) (hne : ∀ i, i < 3 → Rb.2.2 i ≠ V) : QTs x a TA UA V t r Rb (fsS fs s) h ∧ (∀ k, k ≠ 10 → k ≠ 11 → (fsS fs s)[k]? = fs[k]?) ∧ (fsS fs s).length = fs.length := by
  obtain ⟨w, q, O, F, v, m0, d⟩ := H
  have kl := (fsS_at fs s fl).2.2
  exact ⟨⟨q, ⟨F, v, m0, d⟩, by rw [fsS_o fs s (by decide) (by decide)]; exact f7, by omega, hne⟩, fun k h1 h2 => fsS_o fs s h1 h2, kl⟩
/-- both answer alike; the component's cells for the search may change -/
def QU {α : Type} (x a TA UA V : Nat) (t r : Nat → Nat) (Rb : RA) (fs : List Value) (mc : Option (α × CH)) (mt : Option (α × TS)) (h : CH) (u : TS) : Prop := ∃ v h' u' fs', mc = some (v, h') ∧ mt = some (v, u') ∧ Mod (sT x a V t r Rb) 0 0 h h' ∧ QTs x a TA UA V t r Rb fs' h' ∧ (∀ k, k ≠ 10 → k ≠ 11 → fs'[k]? = fs[k]?) ∧ fs'.length = fs.length ∧ Fr QF u u'
theorem q_turned {f : Nat} (hf : 2 ^ 63 ≤ f) {h : CH} {x a TA UA V : Nat} {t r : Nat → Nat} {Rb : RA} {fs : List Value} {u : TS} {LS : LSt} (E : QE h x u LS) (Q : QTs x a TA UA V t r Rb fs h) (hap : ∀ k y A R, k < LS.length → m_X0_at f h x (ni k) = some (y, h) → isOw h y R A → AP x a TA UA V t r R Rb) (l n : Int32) : QU x a TA UA V t r Rb fs (m_X0_turned f h x l n) (m_X3_turned f u l n) h u := by
  have E' := E
  obtain ⟨w, kf0, C, T, L⟩ := E
  unfold m_X0_turned m_X3_turned m_X0_turned_6
  rw [gd_of C.isC]
  rcases askT_cases (f := f) hf E' Q hap l n with ⟨e1, e2⟩ | ⟨k, A, R, y, h', rfl, hl, LO, e1, e2, e3, e4⟩
  · rw [e1, e2]
    exact ⟨-2, h, u, fs, rfl, rfl, Mod.rf w, Q, fun _ _ _ => rfl, rfl, Fr.rf⟩
  · rw [e1, e2, bd2_some, bd2_some]
    obtain ⟨_, _, f7, fl, hne⟩ := Q
    obtain ⟨q1, q2, q3⟩ := e3.q f7 fl hne
    obtain ⟨u', g1, g2⟩ := X3_t17 (f := f) hf T hl LO n 255 f 1 u (0, -1) rfl (by omega) (by omega) Fr.rf
    have g1' : m_X3_turned_17 f f u (ni k) n 0 1 = _ := g1
    obtain ⟨_, ⟨_, _, c1, _⟩, _⟩ := e3
    refine ⟨(trn A n.toInt 255 1 (0, -1)).1, h', u', _, ?_, ?_, e4, q1, q2, q3, g2⟩
    · rw [if_neg (by decide), oI_c (k := 10) c1 (fsS_at fs _ fl).1, bd_some]
      rfl
    · rw [if_pos (by decide), g1']
theorem q_turnOf {f : Nat} (hf : 2 ^ 63 ≤ f) {h : CH} {x a TA UA V : Nat} {t r : Nat → Nat} {Rb : RA} {fs : List Value} {u : TS} {LS : LSt} (E : QE h x u LS) (Q : QTs x a TA UA V t r Rb fs h) (hap : ∀ k y A R, k < LS.length → m_X0_at f h x (ni k) = some (y, h) → isOw h y R A → AP x a TA UA V t r R Rb) (l n : Int32) : QU x a TA UA V t r Rb fs (m_X0_turnOf f h x l n) (m_X3_turnOf f u l n) h u := by
  have E' := E
  obtain ⟨w, kf0, C, T, L⟩ := E
  unfold m_X0_turnOf m_X3_turnOf m_X0_turnOf_6
  rw [gd_of C.isC]
  rcases askT_cases (f := f) hf E' Q hap l n with ⟨e1, e2⟩ | ⟨k, A, R, y, h', rfl, hl, LO, e1, e2, e3, e4⟩
  · rw [e1, e2]
    exact ⟨-2, h, u, fs, rfl, rfl, Mod.rf w, Q, fun _ _ _ => rfl, rfl, Fr.rf⟩
  · rw [e1, e2, bd2_some, bd2_some]
    obtain ⟨_, _, f7, fl, hne⟩ := Q
    obtain ⟨q1, q2, q3⟩ := e3.q f7 fl hne
    obtain ⟨u', g1, g2⟩ := X3_t14 (f := f) hf T hl LO n 255 f 1 u 0 rfl (by omega) (by omega) Fr.rf
    have g1' : m_X3_turnOf_14 f f u (ni k) n 1 = _ := g1
    obtain ⟨_, ⟨_, _, c1, _⟩, _⟩ := e3
    refine ⟨(trn A n.toInt 255 1 (0, -1)).2, h', u', _, ?_, ?_, e4, q1, q2, q3, g2⟩
    · rw [if_neg (by decide), oI_c (k := 11) c1 (fsS_at fs _ fl).2.1, bd_some]
      rfl
    · rw [if_pos (by decide), g1']
