/-! end, count, cosine -/
set_option maxRecDepth 100000
theorem CIv.setx {h : CH} {A : Nat → Nat} {lo : Nat} {al : List Nat} (O : AOk A lo al) {b : Nat → Nat} {n : Nat} {fk fp : Int32} {ts : List It} {W : Nat → Mi} {acts : List Act} {wy : Why} (C : CIv h A lo b n fk fp ts W acts wy) {n' : Nat} {fk' fp' : Int32} {t1 t2 rf' : Value} {wy' : Why} (hn : n' ≤ n) (cw : CWy h lo rf' wy') : CIv (cs h (A 23) (xC A (ni ts.length) (ni n') fk' fp' t1 t2 rf')) A lo b n' fk' fp' ts W acts wy' ∧ Mod (· = A 23) 0 0 h (cs h (A 23) (xC A (ni ts.length) (ni n') fk' fp' t1 t2 rf')) := by
  obtain ⟨w, kf0, l0, n5, ⟨s1, s2, rf, c1, _⟩, X, ⟨tf, c2, c3'⟩, ⟨fl, L⟩, acl, AC'⟩ := C
  have m : Mod (· = A 23) 0 0 h (cs h (A 23) (xC A (ni ts.length) (ni n') fk' fp' t1 t2 rf')) := Mod.cs w c1 rfl
  have lt : A 23 < lo := (O.2.1 _ (fA_i (by decide) (by decide))).1
  have slo : ∀ q, (fun z => z = A 23) q → q < lo := fun q hq => by have e : q = A 23 := hq; omega
  have no : ∀ i, i < 30 → i ≠ 24 → i ≠ 23 → ¬ (fun z => z = A 23) (A i) := fun i hi h4 h3 e => O.ne hi (by decide) h4 (by decide) h3 e
  have hs : ∀ q, (fun z => z = A 23) q → ∀ ci fs, cm h q = some (.inl (ci, fs)) → ∃ fs', cm (cs h (A 23) (xC A (ni ts.length) (ni n') fk' fp' t1 t2 rf')) q = some (.inl (ci, fs')) := fun q hq ci fs hc => by
    have e : q = A 23 := hq
    subst e
    rw [c1] at hc; cases hc; exact ⟨_, cm_cs_s _ _ _⟩
  obtain ⟨p, hp⟩ := X.1
  have X1 : FX (cs h (A 23) (xC A (ni ts.length) (ni n') fk' fp' t1 t2 rf')) A := by
    obtain ⟨_, ⟨F, v, m0, a1, a2, a3⟩, ⟨g, a4⟩, ⟨N, a5⟩, a6, a7⟩ := X
    refine ⟨⟨p, m.at w hp (no 3 (by decide) (by decide) (by decide))⟩, ⟨F, v, m0, m.at w a1 (no 4 (by decide) (by decide) (by decide)), a2.mod m w (no 25 (by decide) (by decide) (by decide)) (no 26 (by decide) (by decide) (by decide)) (fun i hi => no (27 + i) (by omega) (by omega) (by omega)), m.at w a3 (no 5 (by decide) (by decide) (by decide))⟩, ⟨g, a4.md m w (no 6 (by decide) (by decide) (by decide)) (fun i hi => no (7 + i) (by omega) (by omega) (by omega))⟩, ⟨N, a5.md m w (no 10 (by decide) (by decide) (by decide)) (fun i hi => no (11 + i) (by omega) (by omega) (by omega))⟩, m.at w a6 (no 14 (by decide) (by decide) (by decide)), fun k hk => ?_⟩
    obtain ⟨r, b1, b2⟩ := a7 k hk
    exact ⟨r, m.at w b1 (no (15 + k) (by omega) (by omega) (by omega)), b2⟩
  exact ⟨⟨m.wf, kf0.mod m, l0, by omega, ⟨t1, t2, rf', cm_cs_s _ _ _, cw.nw m w slo⟩, X1, ⟨tf, m.at w c2 (no 2 (by decide) (by decide) (by decide)), fun i hi => c3' i (by omega)⟩, ⟨fl, L.nw m w kf0.kok slo (no 0 (by decide) (by decide) (by decide)) (no 1 (by decide) (by decide) (by decide)) hs⟩, acl, AC'.nw m w kf0.kok slo (no 21 (by decide) (by decide) (by decide)) (no 22 (by decide) (by decide) (by decide)) hs⟩, m⟩
theorem AOk.x {A : Nat → Nat} {lo : Nat} {al : List Nat} (O : AOk A lo al) : (∀ q, q ∈ al → ¬ (fun z => z = A 23) q) ∧ ¬ (fun z => z = A 23) 0 := ⟨fun q hq e => (O.2.1 _ (fA_i (i := 23) (by decide) (by decide))).2 (by have e' : q = A 23 := e; rw [← e']; exact hq), fun e => O.2.2.2 (by have e' : 0 = A 23 := e; rw [e']; exact fA_i (by decide) (by decide))⟩
theorem ok_end {f : Nat} {h : CH} {A : Nat → Nat} {lo y : Nat} {al : List Nat} {b : Nat → Nat} {n : Nat} {fk fp : Int32} {ts : List It} {W : Nat → Mi} {acts : List Act} {wy : Why} (I : Inv h A lo y al b n fk fp ts W acts wy) (v : Int32) : Ok (m_X0_end f h (A 23) v) (fun h1 => tcr h1 y (fun z => m_X3_end f z v)) h A lo y al := by
  have I' := I
  obtain ⟨O, C, P, u, H, T⟩ := I'
  have C' := C
  obtain ⟨w, kf0, l0, n5, ⟨s1, s2, rf, c1, cw⟩, X, ⟨tf, c2, c3'⟩, ⟨fl, L⟩, acl, AC'⟩ := C'
  have o3 : oI h 1 3 (A 23) = some (ni n) := oI_c c1 rfl
  have lo3 : m_X0_isIn f (Int32.toInt64 v) 0 (Int32.toInt64 (ni n)) = some (if inI v.toInt 0 n = true then 1 else 0) := in0_li v (by rw [toL, ni_toInt (by omega)]) (rg_nat.mpr (by rw [Int.natAbs_natCast]; omega))
  cases hi : inI v.toInt 0 n with
  | false =>
    refine Ok.same (r := -1) I ?_ (fun u T => ?_)
    · unfold m_X0_end
      rw [o3, bd_some, lo3, bd_some, hi]; rfl
    · unfold m_X3_end
      rw [T.1.1, in3_li v (a := Int32.toInt64 (ni n)) (hi := (n : Int)) (by rw [toL, ni_toInt (by omega)]) (rg_nat.mpr (by rw [Int.natAbs_natCast]; omega)), bd_some, hi]; rfl
  | true =>
    have hv := of_decide_eq_true hi
    obtain ⟨k, hk0⟩ := Int.eq_ofNat_of_zero_le hv.1
    have hk : k ≤ n := by omega
    have ev : v = ni k := by rw [i_of v, hk0]; rfl
    subst ev
    obtain ⟨C1, m⟩ := C.setx O (n' := k) (fk' := fk) (fp' := fp) (t1 := s1) (t2 := s2) hk cw
    have T0 : TI (rdU h y) b n fk fp ts W acts wy := T.rf (H.agr.rF (l := [])) (fun k _ hk => by cases hk)
    have F : Fr [4] (rdU h y) (sI (rdU h y) 4 (ni k)) := Fr.sI (by decide)
    refine Ok.mk (r := ni k) (u1 := sI (rdU h y) 4 (ni k)) O H m (by omega) (by omega) O.x.1 O.x.2 ?_ C1 P ?_ ?_
    · unfold m_X0_end
      rw [o3, bd_some, lo3, bd_some, hi, nift1]
      have e : pF h 1 3 (A 23) (.int (ni k)) = some (cs h (A 23) (xC A (ni ts.length) (ni k) fk fp s1 s2 rf)) := pF_c c1 w (by simp) _
      rw [e, bd_some]
    · unfold m_X3_end
      rw [T0.1.1, in3_li (ni k) (a := Int32.toInt64 (ni n)) (hi := (n : Int)) (by rw [toL, ni_toInt (by omega)]) (rg_nat.mpr (by rw [Int.natAbs_natCast]; omega)), bd_some, hi, nift1, nmv_eq]
    · obtain ⟨t0, t1, t2, t3, t4, t5, t6, t7, t8, t9⟩ := T0
      exact ⟨⟨rfl, by omega, fun i hi => t0.2.2 i (by omega)⟩, t1, t2, t3, t4, t5, t6, t7, t8, t9⟩
/-- how many of the first ones are turned -/
def cntT (ts : List It) : Nat → Nat := cntG (fun k => ((ts.getD k ([], none)).2).isSome)
theorem cnt_st' (G : Nat → Bool) (w : Nat) {i : Int32} (hi : i = if G w = true then 1 else 0) : ni (cntG G w) + i = ni (cntG G (w + 1)) := by rw [hi]; exact cnt_st G w
theorem X0_c48 {f : Nat} {h : CH} {A : Nat → Nat} {lo : Nat} {fl : List Nat} {ts : List It} {W : Nat → Mi} (L : CL h A lo fl ts W) (t5 : ts.length ≤ 5) {fs : List Value} {x : Nat} (hx : cm h x = some (.inl (1, fs))) (h0 : fs[0]? = some (.ref (A 0))) : ∀ j m k, k + j = ts.length → j < m → m_X0_count_48 f m h x (ni (cntT ts k)) (ni k) = some (ni (cntT ts ts.length), h) := by
  have ic : isC h (A 0) 17 = true := by obtain ⟨⟨mc, l1⟩, _⟩ := L.1; unfold isC; rw [l1]; rfl
  intro j
  induction j with
  | zero =>
    intro m k hk hm
    obtain ⟨m, rfl⟩ : ∃ z, m = z + 1 := ⟨m - 1, by omega⟩
    have : k = ts.length := by omega
    subst this
    rw [m_X0_count_48, oR_c hx h0, bd_some, gd_of ic, J2_size L.1, bd2_some]
    unfold m_X0_count_56
    rw [L.2.1, if_pos (lekk _)]; rfl
  | succ j ih =>
    intro m k hk hm
    obtain ⟨m, rfl⟩ : ∃ z, m = z + 1 := ⟨m - 1, by omega⟩
    have hkl : k < ts.length := by omega
    obtain ⟨a, z1', z2', z3', _⟩ := CL_at (f := f) L hx h0 hkl
    have nx' := ih m (k + 1) (by omega) (by omega)
    rw [m_X0_count_48, oR_c hx h0, bd_some, gd_of ic, J2_size L.1, bd2_some]
    unfold m_X0_count_56 m_X0_count_68 m_X0_count_74 m_X0_count_82
    rw [L.2.1, if_neg (fun hh => by have := (ni_le (by omega) (by omega)).mp hh; omega), oR_c hx h0, bd_some, gd_of ic, J2_get L.1 z1', bd2_some]
    unfold cLt at z3'
    cases hq : (ts.getD k ([], none)).2 with
    | none =>
      rw [hq] at z3'
      obtain ⟨R, o1, _⟩ := z3'
      have i6 : isC h a 6 = true := by unfold isC; rw [o1.1]; rfl
      have st := cnt_st' (fun k => ((ts.getD k ([], none)).2).isSome) k (i := 0) (by show (0 : Int32) = if ((ts.getD k ([], none)).2).isSome = true then 1 else 0; rw [hq]; rfl)
      have st' : ni (cntT ts k) + 0 = ni (cntT ts (k + 1)) := st
      rw [if_pos i6, gd_of i6, show m_X6_isTurned f h a = some (0, h) from rfl, bd2_some, if_pos rfl, nmv_eq, nmv_eq, st', ni_succ]
      exact nx'
    | some i =>
      rw [hq] at z3'
      obtain ⟨b', T, _, ⟨r0, o2, _⟩, _⟩ := z3'
      have i6 : ¬ isC h a 6 = true := fun hh => by unfold isC at hh; rw [o2] at hh; cases hh
      have i7 : isC h a 7 = true := by unfold isC; rw [o2]; rfl
      have st := cnt_st' (fun k => ((ts.getD k ([], none)).2).isSome) k (i := 1) (by show (1 : Int32) = if ((ts.getD k ([], none)).2).isSome = true then 1 else 0; rw [hq]; rfl)
      have st' : ni (cntT ts k) + 1 = ni (cntT ts (k + 1)) := st
      rw [if_neg i6, gd_of i7, gd_of i7, show m_X7_isTurned f h a = some (1, h) from rfl, bd2_some, if_neg (by decide), nmv_eq, nmv_eq, st', ni_succ]
      exact nx'
theorem X3_c4 {f : Nat} {u : TS} {b : Nat → Nat} {n : Nat} {fk fp : Int32} {ts : List It} {W : Nat → Mi} {acts : List Act} {wy : Why} (T : TI u b n fk fp ts W acts wy) (P : PI ts W acts) (v : Int32) : ∀ j m k, k + j = ts.length → j < m → m_X3_count_4 f m u v (ni (cntT ts k)) (ni k) = m_X3_count_36 f u v (ni (cntT ts ts.length)) := by
  obtain ⟨_, _, _, t3, _, _, t6, _⟩ := T
  have t5 := P.1
  intro j
  induction j with
  | zero =>
    intro m k hk hm
    obtain ⟨m, rfl⟩ : ∃ z, m = z + 1 := ⟨m - 1, by omega⟩
    have : k = ts.length := by omega
    subst this
    rw [m_X3_count_4, show Int32.toNatClampNeg (0 : Int32) = 0 from rfl, t3, if_pos (lekk _)]
  | succ j ih =>
    intro m k hk hm
    obtain ⟨m, rfl⟩ : ∃ z, m = z + 1 := ⟨m - 1, by omega⟩
    have hkl : k < ts.length := by omega
    have nx' := ih m (k + 1) (by omega) (by omega)
    have tk := t6 k hkl
    rw [m_X3_count_4, show Int32.toNatClampNeg (0 : Int32) = 0 from rfl, t3, if_neg (fun hh => by have := (ni_le (by omega) (by omega)).mp hh; omega), X3_isTurned (by omega), bd2_some]
    unfold m_X3_count_28
    cases hq : (ts.getD k ([], none)).2 with
    | none =>
      rw [hq] at tk
      have st := cnt_st' (fun k => ((ts.getD k ([], none)).2).isSome) k (i := 0) (by show (0 : Int32) = if ((ts.getD k ([], none)).2).isSome = true then 1 else 0; rw [hq]; rfl)
      have st' : ni (cntT ts k) + 0 = ni (cntT ts (k + 1)) := st
      have tk' : tA u 0 (3 + k) = -1 := tk
      rw [if_pos tk', if_pos rfl, nmv_eq, nmv_eq, st', ni_succ]
      exact nx'
    | some i =>
      rw [hq] at tk
      have pk := P.trn hkl hq
      have st := cnt_st' (fun k => ((ts.getD k ([], none)).2).isSome) k (i := 1) (by show (1 : Int32) = if ((ts.getD k ([], none)).2).isSome = true then 1 else 0; rw [hq]; rfl)
      have st' : ni (cntT ts k) + 1 = ni (cntT ts (k + 1)) := st
      have tk' : tA u 0 (3 + k) = ni i := tk.1
      rw [if_neg (show ¬ tA u 0 (3 + k) = -1 by rw [tk']; exact ni_m6 (by omega)), if_neg (by decide), nmv_eq, nmv_eq, st', ni_succ]
      exact nx'
theorem ok_count {f : Nat} (hf : 10 < f) {h : CH} {A : Nat → Nat} {lo y : Nat} {al : List Nat} {b : Nat → Nat} {n : Nat} {fk fp : Int32} {ts : List It} {W : Nat → Mi} {acts : List Act} {wy : Why} (I : Inv h A lo y al b n fk fp ts W acts wy) (v : Int32) : Ok (m_X0_count f h (A 23) v) (fun h1 => tcr h1 y (fun z => m_X3_count f z v)) h A lo y al := by
  have I' := I
  obtain ⟨O, C, P, _⟩ := I'
  obtain ⟨w, kf0, l0, n5, ⟨s1, s2, rf, c1, cw⟩, X, ⟨tf, c2, c3'⟩, ⟨fl, L⟩, acl, AC'⟩ := C
  have t5 := P.1
  have ic : isC h (A 0) 17 = true := by obtain ⟨⟨mc, l1⟩, _⟩ := L.1; unfold isC; rw [l1]; rfl
  have ia : isC h (A 21) 17 = true := by obtain ⟨⟨mc, l1⟩, _⟩ := AC'.1; unfold isC; rw [l1]; rfl
  have o0 : oR h 1 0 (A 23) = some (A 0) := oR_c c1 rfl
  have o14 : oR h 1 14 (A 23) = some (A 21) := oR_c c1 rfl
  have o1 : oI h 1 1 (A 23) = some (ni ts.length) := oI_c c1 rfl
  have o3 : oI h 1 3 (A 23) = some (ni n) := oI_c c1 rfl
  refine Ok.same (r := if v = 0 then ni ts.length else if v = 1 then ni (cntT ts ts.length) else if v = 2 then ni acts.length else if v = 3 then ni ts.length else if v = 4 then ni n else -1) I ?_ (fun u T => ?_)
  · unfold m_X0_count m_X0_count_43 m_X0_count_99
    by_cases v0 : v = 0
    · rw [if_pos v0, if_pos v0, o0, bd_some, gd_of ic, J2_size L.1, bd2_some, L.2.1]
    · rw [if_neg v0, if_neg v0]
      by_cases v1 : v = 1
      · rw [if_pos v1, if_pos v1]
        exact X0_c48 L t5 c1 rfl ts.length f 0 (by omega) (by omega)
      · rw [if_neg v1, if_neg v1]
        by_cases v2 : v = 2
        · rw [if_pos v2, if_pos v2, o14, bd_some, gd_of ia, J2_size AC'.1, bd2_some, AC'.2.1]
        · rw [if_neg v2, if_neg v2]
          by_cases v3 : v = 3
          · rw [if_pos v3, if_pos v3, o1, bd_some]
          · rw [if_neg v3, if_neg v3]
            by_cases v4 : v = 4
            · rw [if_pos v4, if_pos v4, o3, bd_some]
            · rw [if_neg v4, if_neg v4]
  · unfold m_X3_count
    have e := X3_c4 (f := f) T P v ts.length f 0 (by omega) (by omega)
    have e' : m_X3_count_4 f f u v 0 0 = _ := e
    rw [e']
    obtain ⟨q0, _, _, q3, q4, q5, _⟩ := T
    unfold m_X3_count_36
    rw [show Int32.toNatClampNeg (0 : Int32) = 0 from rfl, show Int32.toNatClampNeg (1 : Int32) = 1 from rfl, show Int32.toNatClampNeg (2 : Int32) = 2 from rfl, q3, q4, q5, q0.1]
    by_cases v0 : v = 0
    · rw [if_pos v0, if_pos v0]
    · rw [if_neg v0, if_neg v0]
      by_cases v1 : v = 1
      · rw [if_pos v1, if_pos v1]
      · rw [if_neg v1, if_neg v1]
        by_cases v2 : v = 2
        · rw [if_pos v2, if_pos v2]
        · rw [if_neg v2, if_neg v2]
          by_cases v3 : v = 3
          · rw [if_pos v3, if_pos v3]
          · rw [if_neg v3, if_neg v3]
            by_cases v4 : v = 4
            · rw [if_pos v4, if_pos v4]
            · rw [if_neg v4, if_neg v4]
theorem ok_cosine {f : Nat} (hf : 2 ^ 63 ≤ f) {h : CH} {A : Nat → Nat} {lo y : Nat} {al : List Nat} {b : Nat → Nat} {n : Nat} {fk fp : Int32} {ts : List It} {W : Nat → Mi} {acts : List Act} {wy : Why} (I : Inv h A lo y al b n fk fp ts W acts wy) (l v : Int32) : Ok (m_X0_cosine f h (A 23) l v) (fun h1 => tcr h1 y (fun z => m_X3_cosine f z l v)) h A lo y al := by
  have I' := I
  obtain ⟨O, C, P, _⟩ := I'
  obtain ⟨w, kf0, l0, n5, ⟨s1, s2, rf, c1, cw⟩, X, ⟨tf, c2, c3'⟩, ⟨fl, L⟩, acl, AC'⟩ := C
  have CV' := CL_CV P L c1 rfl
  have t5 := P.1
  have ea : ∀ x y : Nat, (ni x : Int32) + ni y = ni (x + y) := fun x y => (Int32.ofNat_add x y).symm
  cases hl : isLI (lsO' ts W) l with
  | false =>
    refine Ok.same (r := -1000000) I ?_ (fun u T => ?_)
    · unfold m_X0_cosine m_X0_cosine_5
      rw [gd_of CV'.isC, X0_isLattice CV', bd2_some, hl]; rfl
    · unfold m_X3_cosine
      rw [X3_isLattice (Inv_TV T P), bd2_some, hl]; rfl
  | true =>
    obtain ⟨k, M, nn, tn, rfl, hk, hM⟩ := isLI_ni (by rw [lsO_len]; exact t5) hl
    obtain ⟨hkl, _⟩ := lsO_at hM
    obtain ⟨a, z1', z2', z3', z4'⟩ := CL_at (f := f) L c1 rfl hkl
    unfold cLt at z3'
    cases hq : (ts.getD k ([], none)).2 with
    | none =>
      rw [hq] at z3'
      obtain ⟨R, o1, _⟩ := z3'
      have i6 : isC h a 6 = true := by unfold isC; rw [o1.1]; rfl
      refine Ok.same (r := -1000000) I ?_ (fun u T => ?_)
      · unfold m_X0_cosine m_X0_cosine_5
        rw [gd_of CV'.isC, X0_isLattice CV', bd2_some, hl, ift1, X0_isPart, bd_some]
        cases inI v.toInt 0 1 with
        | false => rfl
        | true =>
          rw [ift1, gd_of CV'.isC, z4', bd2_some]
          unfold m_X0_cosine_20
          rw [if_pos i6, if_pos rfl]; rfl
      · unfold m_X3_cosine
        have tk := T.2.2.2.2.2.2.1 k hkl
        rw [hq] at tk
        have tk' : tA u 0 (3 + k) = -1 := tk
        rw [X3_isLattice (Inv_TV T P), bd2_some, hl, ift1, X3_isTurned hk, bd2_some, if_pos tk', if_pos rfl]; rfl
    | some j =>
      rw [hq] at z3'
      obtain ⟨b', TT, _, ⟨r0, o2, _⟩, _⟩ := z3'
      have i6 : ¬ isC h a 6 = true := fun hh => by unfold isC at hh; rw [o2] at hh; cases hh
      have i7 : isC h a 7 = true := by unfold isC; rw [o2]; rfl
      have l3 : oL h 7 3 a = some (li (ovQ (qf (ts.getD k ([], none)).1))) := oL_c o2 rfl
      have l4 : oL h 7 4 a = some (li (upQ (qf (ts.getD k ([], none)).1))) := oL_c o2 rfl
      obtain ⟨p1, p2, p3', p4, p5, p6⟩ := P.trn hkl hq
      obtain ⟨bl, bo, bu⟩ := byM_le p4
      have bu' : (upQ (qf (ts.getD k ([], none)).1)).natAbs ≤ 36 := bu
      generalize hqq : qf (ts.getD k ([], none)).1 = q at *
      have gz : Int.gcd (upQ q) (ovQ q) ≠ 0 := fun e => by have := (Int.gcd_eq_zero_iff.mp e).2; omega
      have gl : Int.gcd (upQ q) (ovQ q) ≤ 36 := by
        have := Int.gcd_dvd_right (upQ q) (ovQ q)
        have := Int.le_of_dvd p5 this
        omega
      have dv := divisor_li (f := f) (a := upQ q) (b := ovQ q) (rg_nat.mpr (by omega)) (by omega)
      have gg : rg ((Int.gcd (upQ q) (ovQ q) : Nat) : Int) := rg_nat.mpr (by rw [Int.natAbs_natCast]; omega)
      cases hv : inI v.toInt 0 1 with
      | false =>
        refine Ok.same (r := -1000000) I ?_ (fun u T => ?_)
        · unfold m_X0_cosine m_X0_cosine_5
          rw [gd_of CV'.isC, X0_isLattice CV', bd2_some, hl, ift1, X0_isPart, bd_some, hv]; rfl
        · unfold m_X3_cosine
          have tk := T.2.2.2.2.2.2.1 k hkl
          rw [hq] at tk
          rw [X3_isLattice (Inv_TV T P), bd2_some, hl, ift1, X3_isTurned hk, bd2_some, if_neg (show ¬ tA u 0 (3 + k) = -1 by rw [tk.1]; exact ni_m6 (by omega)), if_neg (by decide), in3_li v (a := 1) (hi := 1) rfl rg_1, bd_some, hv]; rfl
      | true =>
        obtain ⟨d, rfl, hd⟩ := part_ni hv
        refine Ok.same (r := Int64.toInt32 (li ((if d = 0 then upQ q else ovQ q).tdiv (Int.gcd (upQ q) (ovQ q))))) I ?_ (fun u T => ?_)
        · unfold m_X0_cosine m_X0_cosine_5
          rw [gd_of CV'.isC, X0_isLattice CV', bd2_some, hl, ift1, X0_isPart, bd_some, hv, ift1, gd_of CV'.isC, z4', bd2_some]
          unfold m_X0_cosine_20 m_X0_cosine_81
          rw [if_neg i6, gd_of i7, if_neg (by decide), gd_of i7]
          by_cases hd0 : d = 0
          · subst hd0
            rw [if_neg (fun hh => hh rfl), l4, bd_some, bd_some, l3, bd_some, dv, bd_some, gd_of (nzL_li gg (by omega)), li_div (rg_nat.mpr (by omega)) gg, if_pos rfl]
          · have hd1 : d = 1 := by omega
            subst hd1
            rw [if_pos (by decide), l3, bd_some, l4, bd_some, bd_some, dv, bd_some, gd_of (nzL_li gg (by omega)), li_div (rg_nat.mpr (by omega)) gg, if_neg (by decide)]
        · unfold m_X3_cosine
          have tk := T.2.2.2.2.2.2.1 k hkl
          rw [hq] at tk
          rw [hqq] at tk
          have q0 := tk.2 0 (by decide); have q1 := tk.2 1 (by decide); have q2 := tk.2 2 (by decide); have q3 := tk.2 3 (by decide)
          have e8 : (8 : Int32) + (4 : Int32) * ni k = ni (8 + 4 * k) := by
            show Int32.ofNat 8 + Int32.ofNat 4 * Int32.ofNat k = Int32.ofNat (8 + 4 * k)
            rw [← Int32.ofNat_mul, ← Int32.ofNat_add]
          rw [X3_isLattice (Inv_TV T P), bd2_some, hl, ift1, X3_isTurned hk, bd2_some, if_neg (show ¬ tA u 0 (3 + k) = -1 by rw [tk.1]; exact ni_m6 (by omega)), if_neg (by decide), in3_li (ni d) (a := 1) (hi := 1) rfl rg_1, bd_some, hv, nift1, nmv_eq, e8, show (1 : Int32) = ni 1 from rfl, show (2 : Int32) = ni 2 from rfl, show (3 : Int32) = ni 3 from rfl, ea, ea, ea, gd_of (ix_ni (by omega) (by decide)), gd_of (ix_ni (by omega) (by decide)), gd_of (ix_ni (by omega) (by decide)), gd_of (ix_ni (by omega) (by decide)), gd_of (ix_ni (by omega) (by decide)), gd_of (ix_ni (by omega) (by decide)), nmv_eq, gd_of (ix_ni (by omega) (by decide)), gd_of (ix_ni (by omega) (by decide)), nmv_eq, ni_clamp (by omega), ni_clamp (by omega), ni_clamp (by omega), ni_clamp (by omega)]
          rw [show 8 + 4 * k + 0 = 8 + 4 * k from rfl] at q0
          rw [i_of (tA u 0 (8 + 4 * k)), i_of (tA u 0 (8 + 4 * k + 1)), i_of (tA u 0 (8 + 4 * k + 2)), i_of (tA u 0 (8 + 4 * k + 3)), q0, q1, q2, q3]
          simp only [← Int32.ofInt_mul, ← Int32.ofInt_add, ← Int32.ofInt_sub]
          have eu : q 0 * q 0 - (q 1 * q 1 + q 2 * q 2 + q 3 * q 3) = upQ q := by unfold upQ; omega
          have eo : q 0 * q 0 + (q 1 * q 1 + q 2 * q 2 + q 3 * q 3) = ovQ q := by unfold ovQ; omega
          rw [eu, eo, of32 (by omega), of32 (by omega), X3_part hf (rg_nat.mpr (by omega)) (rg_nat.mpr (by omega)) gz hd, bd_some]
