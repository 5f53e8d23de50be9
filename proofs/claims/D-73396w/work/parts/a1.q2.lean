/-! questions asked of one lattice: steps, volume, numbers -/
set_option maxRecDepth 100000
theorem ift1 {α : Type} (A B : α) : (if (if true = true then (1 : Int32) else 0) = 0 then A else B) = B := rfl
theorem iff0 {α : Type} (A B : α) : (if (if false = true then (1 : Int32) else 0) = 0 then A else B) = A := rfl
theorem nift1 {α : Type} (A B : α) : (if ¬ (if true = true then (1 : Int32) else 0) = 0 then A else B) = A := rfl
theorem niff0 {α : Type} (A B : α) : (if ¬ (if false = true then (1 : Int32) else 0) = 0 then A else B) = B := rfl
/-- a Hermite made of a lattice's rows -/
theorem herm_C {f : Nat} (hf : 2 ^ 33 ≤ f) {h : CH} {x : Nat} {LS : LSt} (w : wfh h) (kf0 : kf h) (C : CV h x LS) {k : Nat} {M : Mi} {n : Int} {tn : Bool} (hl : LS[k]? = some (M, n, tn)) (r1 : runOk 100 (M, [])) : ∃ a R h3 h' La R' k40, CV (cn h 2 (.inl (8, [.null, .null]))) x LS ∧ m_X0_at f (cn h 2 (.inl (8, [.null, .null]))) x (ni k) = some (a, cn h 2 (.inl (8, [.null, .null]))) ∧ (∀ {γ : Type} (K : Nat → CH → Option γ), (if isC (cn h 2 (.inl (8, [.null, .null]))) a 6 = true then bd2 (m_X6_rows f (cn h 2 (.inl (8, [.null, .null]))) a) K else gd (isC (cn h 2 (.inl (8, [.null, .null]))) a 7) (bd2 (m_X7_rows f (cn h 2 (.inl (8, [.null, .null]))) a) K)) = K R h3) ∧ m_X8_init f h3 h.1 R = some h' ∧ HX 22 57 h k40 h.1 La R' (hrun 100 (M, [])) h' := by
  have e1 : Ext 1 2 h (cn h 2 (.inl (8, [.null, .null]))) := Mod.cn w
  have C1 := C.ext e1 w kf0.kok
  obtain ⟨a, a1, a2⟩ := X0_at (f := f) C1 hl
  obtain ⟨R, h3, b1, b2, b3⟩ := L_rows (f := f) (by omega) e1.wf a2
  have e3 : Ext 16 41 h h3 := (e1.tr b2 (fun _ _ => id)).up (by omega) (by omega)
  have c3 : cm h3 h.1 = some (.inl (8, [.null, .null])) := b2.at e1.wf (cm_cn_s h 2 _) id
  obtain ⟨h', La, R', k40, d1, d2⟩ := C_herm (f := f) (by omega) b2.wf ((kf0.mod e1).mod b2) b1 e3 (Nat.le_refl _) c3 r1
  exact ⟨a, R.1, h3, h', La, R', k40, C1, a1, b3, d1, d2⟩
theorem herm_T {f : Nat} (hf : 2 ^ 63 ≤ f) {u : TS} {LS : LSt} (T : TV u LS) {k : Nat} {M : Mi} {n : Int} {tn : Bool} (hl : LS[k]? = some (M, n, tn)) (r1 : runOk 100 (M, [])) : ∃ v v2, m_X3_lays f u (ni k) = some v ∧ m_X3_forms f v = some v2 ∧ TF v (hrun 100 (M, [])) v2 ∧ tL v2 19 = li n ∧ Fr [18, 19, 20, 21, 22, 23, 24, 25] u v2 := by
  obtain ⟨v, t1, t2, t3, t4⟩ := (T.2.2 k M n tn hl).1 f hf u (fun _ => rfl)
  obtain ⟨v2, t5, t6⟩ := X3_forms (f := f) (by omega) (show 100 < f by omega) t2 r1
  exact ⟨v, v2, t1, t5, t6, by rw [(t6.2.2 19 (by decide)).2.1]; exact t3, (t4.mono (by decide)).tr (t6.2.2.mono (by decide))⟩
theorem q_steps {f : Nat} (hf : 2 ^ 63 ≤ f) {h : CH} {x : Nat} {u : TS} {LS : LSt} (E : QE h x u LS) (l : Int32) : QA (m_X0_steps f h x l) (m_X3_steps f u l) h u := by
  obtain ⟨w, kf0, C, T, L⟩ := E
  unfold m_X0_steps m_X3_steps m_X0_steps_5 m_X0_steps_34
  rw [gd_of C.isC, X0_isLattice C, bd2_some, X3_isLattice T, bd2_some]
  cases h1 : isLI LS l with
  | false => exact QA.mk (l := []) rfl rfl (Ext.rf w) (by omega) (by omega) Fr.rf (by decide)
  | true =>
    obtain ⟨k, M, n, tn, rfl, hk, hl⟩ := isLI_ni T.2.1 h1
    obtain ⟨r1, _⟩ := (L k M n tn hl).run
    obtain ⟨a, R, h3, h', La, R', k40, C1, a1, b3, d1, d2⟩ := herm_C (f := f) (by omega) w kf0 C hl r1
    obtain ⟨v, v2, t1, t5, t6, _, t7⟩ := herm_T (f := f) hf T hl r1
    have dE := d2.ext (run_len r1)
    obtain ⟨⟨_, q1, q2, _, _, EE, c, xs, q6, _, q8, _⟩, _⟩ := d2
    obtain ⟨mc, cL⟩ := q6.1
    refine QA.mk (r := ni (hrun 100 (M, [])).2.length) (h' := h') (u' := v2) ?_ ?_ dE (by omega) (by omega) t7 (by decide)
    · rw [ift1]
      simp only [nmv_eq]
      unfold m_X0_steps_11
      rw [gd_of C1.isC, a1, bd2_some]
      unfold m_X0_steps_17
      rw [b3 (fun a3 h2 => m_X0_steps_20 f h2 h.1 h.1 a3)]
      unfold m_X0_steps_20
      rw [d1, bd_some]
      unfold m_X0_steps_23
      rw [oR_c (k := 1) (x := La) q1 rfl, bd_some, gd_of (isC_c cL), J2_size q6, bd2_some, q8]
      rfl
    · rw [nift1, t1, bd_some, t5, bd_some, t6.2.1.1]
theorem ni_subl {n : Nat} (hn : n < 1000) : (ni n - 1).toInt = (n : Int) - 1 := by
  rcases Nat.eq_zero_or_pos n with h | h
  · subst h; rfl
  · obtain ⟨m, rfl⟩ : ∃ m, n = m + 1 := ⟨n - 1, by omega⟩
    rw [← ni_succ, Int32.add_sub_cancel, ni_toInt (by omega)]; omega
theorem q_step {f : Nat} (hf : 2 ^ 63 ≤ f) {h : CH} {x : Nat} {u : TS} {LS : LSt} (E : QE h x u LS) (l i j : Int32) : QA (m_X0_step f h x l i j) (m_X3_step_2 f u l i j) h u := by
  obtain ⟨w, kf0, C, T, L⟩ := E
  unfold m_X0_step m_X3_step_2 m_X0_step_5 m_X0_step_20 m_X3_step_2_20
  rw [gd_of C.isC, X0_isLattice C, bd2_some, X3_isLattice T, bd2_some, in0_li j (a := 3) (hi := 3) rfl (rg_sm (by omega) (by omega)), in3_li j (a := 3) (hi := 3) rfl (rg_sm (by omega) (by omega))]
  cases h1 : isLI LS l with
  | false => exact QA.mk (l := []) rfl rfl (Ext.rf w) (by omega) (by omega) Fr.rf (by decide)
  | true =>
    rw [ift1, ift1, bd_some, bd_some]
    cases h2 : inI j.toInt 0 3 with
    | false => exact QA.mk (l := []) rfl rfl (Ext.rf w) (by omega) (by omega) Fr.rf (by decide)
    | true =>
      obtain ⟨k, M, n, tn, rfl, hk, hl⟩ := isLI_ni T.2.1 h1
      obtain ⟨r1, _⟩ := (L k M n tn hl).run
      obtain ⟨a, R, h3, h', La, R', k40, C1, a1, b3, d1, d2⟩ := herm_C (f := f) (by omega) w kf0 C hl r1
      obtain ⟨v, v2, t1, t5, t6, _, t7⟩ := herm_T (f := f) hf T hl r1
      have dE := d2.ext (run_len r1)
      have ln := run_len r1
      obtain ⟨⟨_, q1, q2, _, _, EE, c, xs, q6, _, q8, q9, _⟩, _⟩ := d2
      obtain ⟨mc, cL⟩ := q6.1
      have cS : m_X0_step_26 f (cn h 2 (.inl (8, [.null, .null]))) x (ni k) i j h.1 = m_X0_step_51 f h' i j La (Int32.toInt64 i) 0 (ni (hrun 100 (M, [])).2.length) := by
        unfold m_X0_step_26
        rw [gd_of C1.isC, a1, bd2_some]
        unfold m_X0_step_32
        rw [b3 (fun a3 h2 => m_X0_step_35 f h2 i j h.1 h.1 a3)]
        unfold m_X0_step_35
        rw [d1, bd_some]
        unfold m_X0_step_38
        rw [oR_c (k := 1) (x := La) q1 rfl, bd_some, gd_of (isC_c cL), J2_size q6, bd2_some, q8]
      rw [nift1, nift1]
      simp only [nmv_eq]
      rw [cS, t1, bd_some, t5, bd_some, t6.2.1.1]
      unfold m_X0_step_51
      generalize hs : hrun 100 (M, []) = s at *
      have gL : rg ((ni s.2.length - 1).toInt) := i32_rg _
      rw [in0_li i (toL _) gL, bd_some, in3_li i (toL _) gL, bd_some, ni_subl (by omega)]
      cases h3' : inI i.toInt 0 ((s.2.length : Int) - 1) with
      | false => exact QA.mk rfl rfl dE (by omega) (by omega) t7 (by decide)
      | true =>
        rw [nift1, nift1]
        have hi := of_decide_eq_true h3'
        obtain ⟨m, rfl, hm⟩ : ∃ m, i = ni m ∧ m < s.2.length := by
          refine ⟨i.toInt.toNat, Int32.toInt_inj.mp ?_, by omega⟩
          rw [ni_toInt (by omega)]; omega
        have hx : xs[m]? = some (xs[m]'(by omega)) := List.getElem?_eq_getElem (by omega)
        obtain ⟨st, st1, st2⟩ := q9 m _ hx
        obtain ⟨y1, y2, y3, y4⟩ := t6.2.1.2 m st st1
        rw [gd_of (isC_c cL), J2_get q6 hx, bd2_some]
        unfold m_X0_step_69
        rw [gd_of (isC_c st2)]
        have hix : ix (ni m) 400 = true := ix_ni (by omega) (by decide)
        have hcl : Int32.toNatClampNeg (ni m) = m := ni_clamp (by omega)
        unfold m_X3_step_2_99
        simp only [gd_of hix, hcl, y1, y2, y3, y4]
        by_cases j0 : j = 0
        · subst j0
          rw [if_pos rfl, if_neg (fun h => h rfl)]
          exact QA.mk (r := st.1) (h' := h') (by rw [oI_c (k := 0) (x := st.1) st2 rfl]; rfl) rfl dE (by omega) (by omega) t7 (by decide)
        · rw [if_neg j0, if_pos j0]
          by_cases j1 : j = 1
          · subst j1
            rw [if_pos rfl, if_neg (fun h => h rfl)]
            exact QA.mk (r := st.2.1) (h' := h') (by rw [oI_c (k := 1) (x := st.2.1) st2 rfl]; rfl) rfl dE (by omega) (by omega) t7 (by decide)
          · rw [if_neg j1, if_pos j1]
            by_cases j2 : j = 2
            · subst j2
              rw [if_pos rfl, if_neg (fun h => h rfl)]
              exact QA.mk (r := st.2.2.1) (h' := h') (by rw [oI_c (k := 2) (x := st.2.2.1) st2 rfl]; rfl) rfl dE (by omega) (by omega) t7 (by decide)
            · rw [if_neg j2, if_pos j2]
              exact QA.mk (r := Int64.toInt32 st.2.2.2) (h' := h') (by rw [oL_c (k := 3) (x := st.2.2.2) st2 rfl]; rfl) rfl dE (by omega) (by omega) t7 (by decide)
theorem n3_le {n : Int} (h : 1 ≤ n ∧ n ≤ 36) : 1 ≤ n * n * n ∧ n * n * n ≤ 46656 := by
  have a1 : n * n ≤ 36 * 36 := Int.mul_le_mul h.2 h.2 (by omega) (by decide)
  have a0 : 0 < n * n := Int.mul_pos (by omega) (by omega)
  have a2 : n * n * n ≤ 36 * 36 * 36 := Int.mul_le_mul a1 h.2 (by omega) (by decide)
  have a3 : 0 < n * n * n := Int.mul_pos a0 (by omega)
  omega
theorem q_volume {f : Nat} (hf : 2 ^ 63 ≤ f) {h : CH} {x : Nat} {u : TS} {LS : LSt} (E : QE h x u LS) (l j : Int32) : QA (m_X0_volume f h x l j) (m_X3_volume f u l j) h u := by
  obtain ⟨w, kf0, C, T, L⟩ := E
  unfold m_X0_volume m_X3_volume m_X0_volume_5 m_X0_volume_15 m_X3_volume_18
  rw [gd_of C.isC, X0_isLattice C, bd2_some, X3_isLattice T, bd2_some, X0_isPart, in3_li j (a := 1) (hi := 1) rfl rg_1]
  cases h1 : isLI LS l with
  | false => exact QA.mk (l := []) rfl rfl (Ext.rf w) (by omega) (by omega) Fr.rf (by decide)
  | true =>
    rw [ift1, ift1, bd_some, bd_some]
    cases h2 : inI j.toInt 0 1 with
    | false => exact QA.mk (l := []) rfl rfl (Ext.rf w) (by omega) (by omega) Fr.rf (by decide)
    | true =>
      obtain ⟨k, M, n, tn, rfl, hk, hl⟩ := isLI_ni T.2.1 h1
      obtain ⟨j, rfl, hj⟩ := part_ni h2
      have LO := L k M n tn hl
      obtain ⟨Q, pq⟩ := LO.pq
      have dl := pq.det_le
      rw [det_m3] at dl
      have n3 := n3_le LO.n
      obtain ⟨a, a1, a2⟩ := X0_at (f := f) C hl
      obtain ⟨h3, b1, b2⟩ := L_over (f := f) (by omega) w a2
      have C3 := C.ext b1 w kf0.kok
      obtain ⟨a', a1', a2'⟩ := X0_at (f := f) C3 hl
      obtain ⟨R, h4, c1, c2, c3'⟩ := L_rows (f := f) (by omega) b1.wf a2'
      obtain ⟨v, t1, t2, t3, t4⟩ := (T.2.2 k M n tn hl).1 f hf u (fun _ => rfl)
      have rd : rg (dtf M) := rg_nat.mpr (by omega)
      have ra : rg ((dtf M).natAbs : Int) := rg_nat.mpr (by omega)
      have r3 : rg (n * n * n) := ⟨by omega, by omega⟩
      have hz : Int.gcd ((dtf M).natAbs : Int) (n * n * n) ≠ 0 := fun e => by have := (Int.gcd_eq_zero_iff.mp e).2; omega
      refine QA.mk (r := li ((if j = 0 then ((dtf M).natAbs : Int) else n * n * n).tdiv (Int.gcd ((dtf M).natAbs : Int) (n * n * n)))) (h' := h4) (u' := v) ?_ ?_ (b1.tr c2 (fun _ _ => id)) (by omega) (by omega) t4 (by decide)
      · rw [nift1, gd_of C.isC, a1, bd2_some]
        unfold m_X0_volume_24
        rw [b2 (fun r3 h2 => m_X0_volume_27 f h2 x (ni k) (ni j) r3)]
        unfold m_X0_volume_27
        rw [gd_of C3.isC, a1', bd2_some]
        unfold m_X0_volume_33
        rw [c3' (fun a3 h2 => m_X0_volume_36 f h2 (ni j) (li n) a3)]
        unfold m_X0_volume_36
        rw [gd_of (isC_R c1), X2_determinant c1, bd2_some]
        unfold m_X0_volume_39
        rw [abs_li rd, bd_some, li_mul, li_mul, X0_partr ra r3 hz hj, bd_some]
      · rw [nift1, t1, bd_some, X3_det (f := f) (by omega) t2, bd2_some, sized_li rd, bd_some, t3, li_mul, li_mul, X3_part (f := f) hf ra r3 hz hj, bd_some]
theorem q_smith {f : Nat} (hf : 2 ^ 63 ≤ f) {h : CH} {x : Nat} {u : TS} {LS : LSt} (E : QE h x u LS) (l j : Int32) : QA (m_X0_smith f h x l j) (m_X3_smith f u l j) h u := by
  obtain ⟨w, kf0, C, T, L⟩ := E
  unfold m_X0_smith m_X3_smith m_X0_smith_5 m_X0_smith_30 m_X0_smith_33 m_X3_smith_20
  rw [gd_of C.isC, X0_isLattice C, bd2_some, X3_isLattice T, bd2_some, X0_isSide, in3_li j (a := 2) (hi := 2) rfl (rg_sm (by omega) (by omega))]
  cases h1 : isLI LS l with
  | false => exact QA.mk (l := []) rfl rfl (Ext.rf w) (by omega) (by omega) Fr.rf (by decide)
  | true =>
    rw [ift1, ift1, bd_some, bd_some]
    cases h2 : inI j.toInt 0 2 with
    | false => exact QA.mk (l := []) rfl rfl (Ext.rf w) (by omega) (by omega) Fr.rf (by decide)
    | true =>
      obtain ⟨k, M, n, tn, rfl, hk, hl⟩ := isLI_ni T.2.1 h1
      obtain ⟨j, rfl, hj⟩ := side_ni h2
      have LO := L k M n tn hl
      obtain ⟨Q, pq⟩ := LO.pq
      have so := pq.smO
      obtain ⟨a, a1, a2⟩ := X0_at (f := f) C hl
      obtain ⟨R, h4, c1, c2, c3'⟩ := L_rows (f := f) (by omega) w a2
      obtain ⟨v, t1, t2, t3, t4⟩ := (T.2.2 k M n tn hl).1 f hf u (fun _ => rfl)
      refine QA.mk (r := li (smt M j)) (h' := h4) (u' := v) ?_ ?_ c2 (by omega) (by omega) t4 (by decide)
      · rw [ift1, gd_of C.isC, a1, bd2_some]
        unfold m_X0_smith_20
        rw [c3' (fun a3 h2 => m_X0_smith_23 f h2 (ni j) a3)]
        unfold m_X0_smith_23
        rw [gd_of (isC_R c1), X2_smith (f := f) (by omega) c1 so.1 so.2.1 so.2.2.1 so.2.2.2.1 so.2.2.2.2 hj, bd2_some]
        rfl
      · rw [nift1, t1, bd_some, X3_smithOf (f := f) hf t2 (fun i j hi hj => rg_abs (k := 2 ^ 48) (so.1 i j hi hj) (by decide)) (fun i j hi hj => rg_abs (k := 2 ^ 48) (so.2.1 i j hi hj) (by decide)) so.2.2.1 so.2.2.2.1 so.2.2.2.2 hj, bd2_some]
