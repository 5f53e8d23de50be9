/-! acts: exchange, negate, put -/
set_option maxRecDepth 100000
theorem X0_exc_g {f : Nat} {h : CH} {A : Nat → Nat} {lo : Nat} {b : Nat → Nat} {n : Nat} {fk fp : Int32} {ts : List It} {W : Nat → Mi} {acts : List Act} {wy : Why} (C : CIv h A lo b n fk fp ts W acts wy) (P : PI ts W acts) (l i j : Int32) : m_X0_exchange f h (A 23) l i j = if gE ts l i j = true then m_X0_exchange_33 f (cn h 4 (.inl (9, [.int 0, .int 0, .int 0, .long 0]))) i j (A 23) 2 l h.1 else some (-2, h) := by
  have C' := C
  obtain ⟨w, kf0, l0, n5, ⟨t1, t2, rf, c1, cw⟩, _⟩ := C'
  unfold m_X0_exchange m_X0_exchange_5 m_X0_exchange_47 m_X0_exchange_49 gE
  rw [gd_of (isC_c c1), X0_isOwn C P, bd2_some, X0_isSide, X0_isSide]
  cases ownB ts l
  · rfl
  · cases inI i.toInt 0 2
    · rfl
    · cases inI j.toInt 0 2
      · rfl
      · by_cases e : i = j
        · subst e; simp [bd]
        · simp [bd, e, nmv]
theorem X3_exc_g {f : Nat} {u : TS} {b : Nat → Nat} {n : Nat} {fk fp : Int32} {ts : List It} {W : Nat → Mi} {acts : List Act} {wy : Why} (T : TI u b n fk fp ts W acts wy) (P : PI ts W acts) (l i j : Int32) : m_X3_exchange f u l i j = if gE ts l i j = true then (if acts.length = 20 then bd2 (m_X3_refuses f u 2 3 l i) (fun r v => some (r, v)) else bd (m_X3_keeps f u) (fun v => m_X3_exchange_57 f f v l i j 0)) else some (-2, u) := by
  have e20 := acts20 T P
  unfold m_X3_exchange m_X3_exchange_27 gE
  rw [X3_isOwn T P, bd2_some, X3_isRow, X3_isRow]
  cases ownB ts l
  · rfl
  · cases inI i.toInt 0 2
    · rfl
    · cases inI j.toInt 0 2
      · rfl
      · by_cases e : i = j
        · subst e; simp [bd]
        · by_cases e' : acts.length = 20
          · simp only [bd_some, e, e20.mpr e', e', if_true, if_false, not_true_eq_false]; rfl
          · simp only [bd_some, e, e20, e', if_true, if_false, not_true_eq_false]; rfl
theorem gE_ni {ts : List It} {l i j : Int32} (h : gE ts l i j = true) : ∃ k r c, l = ni k ∧ k < ts.length ∧ (ts.getD k ([], none)).2 = none ∧ i = ni r ∧ r < 3 ∧ j = ni c ∧ c < 3 ∧ r ≠ c := by
  unfold gE at h
  simp only [Bool.and_eq_true] at h
  obtain ⟨h1, h2, h3, h4⟩ := h
  obtain ⟨k, rfl, k1, k2⟩ := ownB_ni h1
  obtain ⟨r, rfl, r1⟩ := row_i h2
  obtain ⟨c, rfl, r2⟩ := row_i h3
  refine ⟨k, r, c, rfl, k1, k2, rfl, r1, rfl, r2, fun e => ?_⟩
  subst e; simp at h4
theorem ok_exchange {f : Nat} (hf : 1000 < f) {h : CH} {A : Nat → Nat} {lo y : Nat} {al : List Nat} {b : Nat → Nat} {n : Nat} {fk fp : Int32} {ts : List It} {W : Nat → Mi} {acts : List Act} {wy : Why} (I : Inv h A lo y al b n fk fp ts W acts wy) (l i j : Int32) : Ok (m_X0_exchange f h (A 23) l i j) (fun h1 => tcr h1 y (fun z => m_X3_exchange f z l i j)) h A lo y al := by
  have I' := I
  obtain ⟨O, C, P, u, H, T⟩ := I'
  have eC := X0_exc_g (f := f) C P l i j
  have eT : ∀ u, TI u b n fk fp ts W acts wy → _ := fun u T => X3_exc_g (f := f) T P l i j
  by_cases g : gE ts l i j = true
  · rw [if_pos g] at eC
    obtain ⟨k, r, c, rfl, k1, k2, rfl, r1, rfl, r2, r3⟩ := gE_ni g
    have okW := ((P.own k1 k2).exc r1 r2 r3).1
    refine ok_act I (a := 2) (k := k) (i := r) (M := excR (W k) r c) k1 k2 r1 (fun r c hr hc _ => okW.1 r c hr hc) ?_ (fun u T => ?_)
    · obtain ⟨h1, i1, i2, i3, i4⟩ := X9_init (f := f) C.1 (0, ni r, ni c, 0)
      obtain ⟨h2, m2, C2, e2⟩ := X0_does (f := f) (by omega) O (C.ext i3) P k1 k2 i2 rfl (.inr (.inr ⟨r, c, 0, r1, r2, r3, rfl, rfl⟩)) r1 (fun r c hr hc => by have := okW.1 r c hr hc; omega) 2
      refine ⟨h2, ((i3.mono (T := dS A lo) (fun _ _ h => h.elim) (Nat.le_refl _) (Nat.le_refl _)).tr m2 (fun _ _ h => h)).up (by omega) (by omega), C2, ?_⟩
      have ic : isC h1 (A 23) 1 = true := by
        obtain ⟨_, _, _, _, ⟨t1, t2, rf, c1, _⟩, _⟩ := C.ext i3
        exact isC_c c1
      rw [eC]
      unfold m_X0_exchange_33 m_X0_exchange_41 m_X0_exchange_44 m_X0_exchange_49
      have i1' : m_X9_init f (cn h 4 (.inl (9, [.int 0, .int 0, .int 0, .long 0]))) h.1 0 (ni r) (ni c) 0 = some h1 := i1
      rw [i1', bd_some, gd_of ic, e2, bx_l]
    · show ∃ u1, m_X3_exchange f u _ _ _ = _ ∧ _
      rw [eT u T, if_pos g]
      by_cases h20 : acts.length = 20
      · rw [if_pos h20]
        obtain ⟨u1, a1, a2⟩ := X3_full (f := f) T h20 (a := 2) (by decide) k r (excR (W k) r c) (ni r)
        exact ⟨u1, by rw [a1]; rfl, a2⟩
      · rw [if_neg h20]
        exact X3_exchange (by omega) T P k1 k2 r1 r2 r3 (by have := P.2.2.1; omega)
  · rw [if_neg g] at eC
    exact Ok.same (r := -2) I eC (fun u T => by show m_X3_exchange f u _ _ _ = _; rw [eT u T, if_neg g])
theorem X0_neg_g {f : Nat} {h : CH} {A : Nat → Nat} {lo : Nat} {b : Nat → Nat} {n : Nat} {fk fp : Int32} {ts : List It} {W : Nat → Mi} {acts : List Act} {wy : Why} (C : CIv h A lo b n fk fp ts W acts wy) (P : PI ts W acts) (l i : Int32) : m_X0_negate f h (A 23) l i = if gN ts l i = true then m_X0_negate_21 f (cn h 4 (.inl (9, [.int 0, .int 0, .int 0, .long 0]))) i (A 23) 3 l h.1 else some (-2, h) := by
  have C' := C
  obtain ⟨w, kf0, l0, n5, ⟨t1, t2, rf, c1, cw⟩, _⟩ := C'
  unfold m_X0_negate m_X0_negate_5 m_X0_negate_35 m_X0_negate_37 gN
  rw [gd_of (isC_c c1), X0_isOwn C P, bd2_some, X0_isSide]
  cases ownB ts l
  · rfl
  · cases inI i.toInt 0 2 <;> rfl
theorem X3_neg_g {f : Nat} {u : TS} {b : Nat → Nat} {n : Nat} {fk fp : Int32} {ts : List It} {W : Nat → Mi} {acts : List Act} {wy : Why} (T : TI u b n fk fp ts W acts wy) (P : PI ts W acts) (l i : Int32) : m_X3_negate f u l i = if gN ts l i = true then (if acts.length = 20 then bd2 (m_X3_refuses f u 3 3 l i) (fun r v => some (r, v)) else bd (m_X3_keeps f u) (fun v => m_X3_negate_44 f f v l i 0)) else some (-2, u) := by
  have e20 := acts20 T P
  unfold m_X3_negate m_X3_negate_15 gN
  rw [X3_isOwn T P, bd2_some, X3_isRow]
  cases ownB ts l
  · rfl
  · cases inI i.toInt 0 2
    · rfl
    · by_cases e' : acts.length = 20
      · simp only [bd_some, e20.mpr e', e', if_true, if_false, not_true_eq_false]; rfl
      · simp only [bd_some, e20, e', if_true, if_false, not_true_eq_false]; rfl
theorem ok_negate {f : Nat} (hf : 1000 < f) {h : CH} {A : Nat → Nat} {lo y : Nat} {al : List Nat} {b : Nat → Nat} {n : Nat} {fk fp : Int32} {ts : List It} {W : Nat → Mi} {acts : List Act} {wy : Why} (I : Inv h A lo y al b n fk fp ts W acts wy) (l i : Int32) : Ok (m_X0_negate f h (A 23) l i) (fun h1 => tcr h1 y (fun z => m_X3_negate f z l i)) h A lo y al := by
  have I' := I
  obtain ⟨O, C, P, u, H, T⟩ := I'
  have eC := X0_neg_g (f := f) C P l i
  have eT : ∀ u, TI u b n fk fp ts W acts wy → _ := fun u T => X3_neg_g (f := f) T P l i
  by_cases g : gN ts l i = true
  · rw [if_pos g] at eC
    have g' := g
    unfold gN at g'
    obtain ⟨g1, g2⟩ := Bool.and_eq_true_iff.mp g'
    obtain ⟨k, rfl, k1, k2⟩ := ownB_ni g1
    obtain ⟨r, rfl, r1⟩ := row_i g2
    have okW := ((P.own k1 k2).ovr r1).1
    refine ok_act I (a := 3) (k := k) (i := r) (M := ovrR (W k) r) k1 k2 r1 (fun r c hr hc _ => okW.1 r c hr hc) ?_ (fun u T => ?_)
    · obtain ⟨h1, i1, i2, i3, i4⟩ := X9_init (f := f) C.1 (2, ni r, -1, 0)
      obtain ⟨h2, m2, C2, e2⟩ := X0_does (f := f) (by omega) O (C.ext i3) P k1 k2 i2 rfl (.inr (.inl ⟨r, -1, 0, r1, rfl, rfl⟩)) r1 (fun r c hr hc => by have := okW.1 r c hr hc; omega) 3
      refine ⟨h2, ((i3.mono (T := dS A lo) (fun _ _ h => h.elim) (Nat.le_refl _) (Nat.le_refl _)).tr m2 (fun _ _ h => h)).up (by omega) (by omega), C2, ?_⟩
      have ic : isC h1 (A 23) 1 = true := by
        obtain ⟨_, _, _, _, ⟨t1, t2, rf, c1, _⟩, _⟩ := C.ext i3
        exact isC_c c1
      rw [eC]
      unfold m_X0_negate_21 m_X0_negate_29 m_X0_negate_32 m_X0_negate_37
      have i1' : m_X9_init f (cn h 4 (.inl (9, [.int 0, .int 0, .int 0, .long 0]))) h.1 2 (ni r) (-1) 0 = some h1 := i1
      rw [i1', bd_some, gd_of ic, e2, bx_l]
    · show ∃ u1, m_X3_negate f u _ _ = _ ∧ _
      rw [eT u T, if_pos g]
      by_cases h20 : acts.length = 20
      · rw [if_pos h20]
        obtain ⟨u1, a1, a2⟩ := X3_full (f := f) T h20 (a := 3) (by decide) k r (ovrR (W k) r) (ni r)
        exact ⟨u1, by rw [a1]; rfl, a2⟩
      · rw [if_neg h20]
        exact X3_negate (by omega) T P k1 k2 r1 (by have := P.2.2.1; omega)
  · rw [if_neg g] at eC
    exact Ok.same (r := -2) I eC (fun u T => by show m_X3_negate f u _ _ = _; rw [eT u T, if_neg g])
theorem X0_put_g {f : Nat} {h : CH} {A : Nat → Nat} {lo : Nat} {b : Nat → Nat} {n : Nat} {fk fp : Int32} {ts : List It} {W : Nat → Mi} {acts : List Act} {wy : Why} (C : CIv h A lo b n fk fp ts W acts wy) (P : PI ts W acts) (l i j t : Int32) : m_X0_put f h (A 23) l i j t = if gP ts l i j t = true then bd2 (m_X0_at f h (A 23) l) (fun a h => m_X0_put_46 f h (A 23) l i j t a) else some (.inl (-1000), h) := by
  have C' := C
  obtain ⟨w, kf0, l0, n5, ⟨t1, t2, rf, c1, cw⟩, _⟩ := C'
  unfold m_X0_put m_X0_put_5 m_X0_put_37 gP
  rw [gd_of (isC_c c1), X0_isOwn C P, bd2_some, X0_isSide, X0_isSide, inS0 t (a := -6) (c := 6) (lo := -6) (hi := 6) rfl rfl (rg_sm (by omega) (by omega)) (rg_sm (by omega) (by omega)), gd_of (isC_c c1)]
  cases ownB ts l
  · rfl
  · cases inI i.toInt 0 2
    · rfl
    · cases inI j.toInt 0 2
      · rfl
      · cases inI t.toInt (-6) 6 <;> rfl
theorem X3_put_g {f : Nat} {u : TS} {b : Nat → Nat} {n : Nat} {fk fp : Int32} {ts : List It} {W : Nat → Mi} {acts : List Act} {wy : Why} (T : TI u b n fk fp ts W acts wy) (P : PI ts W acts) (l i j t : Int32) : m_X3_put f u l i j t = if gP ts l i j t = true then (if acts.length = 20 then bd2 (m_X3_refuses f u 4 3 l i) (fun r v => some (-2000, v)) else gd (ix ((((28 : Int32) + ((9 : Int32) * l)) + ((3 : Int32) * i)) + j) 73) (bd (m_X3_keeps f u) (fun v => gd (ix ((((28 : Int32) + ((9 : Int32) * l)) + ((3 : Int32) * i)) + j) 73) (bd2 (m_X3_stays f (sA v 0 (Int32.toNatClampNeg ((((28 : Int32) + ((9 : Int32) * l)) + ((3 : Int32) * i)) + j)) t) 4 l i) (fun r w => if 0 ≤ r then some (tA u 0 (Int32.toNatClampNeg ((((28 : Int32) + ((9 : Int32) * l)) + ((3 : Int32) * i)) + j)), w) else some (-2000, w)))))) else some (-1000, u) := by
  have e20 := acts20 T P
  unfold m_X3_put m_X3_put_31 m_X3_put_114 gP
  rw [X3_isOwn T P, bd2_some, X3_isAt2, inS3 t (a := -6) (c := 6) (lo := -6) (hi := 6) rfl rfl (rg_sm (by omega) (by omega)) (rg_sm (by omega) (by omega))]
  cases ownB ts l
  · rfl
  · cases inI i.toInt 0 2
    · rfl
    · cases inI j.toInt 0 2
      · rfl
      · cases inI t.toInt (-6) 6
        · rfl
        · by_cases e' : acts.length = 20
          · simp only [bd_some, e20.mpr e', e', if_true, if_false, not_true_eq_false]; rfl
          · simp only [bd_some, e20, e', if_true, if_false, not_true_eq_false]; rfl
theorem ok_put {f : Nat} (hf : 1000 < f) {h : CH} {A : Nat → Nat} {lo y : Nat} {al : List Nat} {b : Nat → Nat} {n : Nat} {fk fp : Int32} {ts : List It} {W : Nat → Mi} {acts : List Act} {wy : Why} (I : Inv h A lo y al b n fk fp ts W acts wy) (l i j t : Int32) : OkX (m_X0_put f h (A 23) l i j t) (fun h1 => tcr h1 y (fun z => m_X3_put f z l i j t)) h A lo y al := by
  have I' := I
  obtain ⟨O, C, P, u, H, T⟩ := I'
  have eC := X0_put_g (f := f) C P l i j t
  have T0 : TI (rdU h y) b n fk fp ts W acts wy := T.rf (H.agr.rF (l := [])) (fun k _ hk => by cases hk)
  have eT := X3_put_g (f := f) T0 P l i j t
  by_cases g : gP ts l i j t = true
  · rw [if_pos g] at eC eT
    have g' := g
    unfold gP at g'
    simp only [Bool.and_eq_true] at g'
    obtain ⟨g1, g2, g3, g4⟩ := g'
    obtain ⟨k, rfl, k1, k2⟩ := ownB_ni g1
    obtain ⟨r, rfl, r1⟩ := row_i g2
    obtain ⟨c, rfl, r2⟩ := row_i g3
    have t6 : t.toInt.natAbs ≤ 6 := by have := of_decide_eq_true g4; omega
    have okW := P.own k1 k2
    have k5 : k < 5 := by have := P.1; omega
    have b2k : ∀ r' c', r' < 3 → c' < 3 → (putR (W k) r c t.toInt r' c').natAbs ≤ 20 := fun r' c' hr hc => by
      unfold putR
      split
      · omega
      · exact okW.1 r' c' hr hc
    have was := T0.M k5 r1 r2
    -- the component
    obtain ⟨h1, m1, C1, e1⟩ : ∃ h1, Mod (dS A lo) 7 28 h h1 ∧ CIv h1 A lo b n fk fp ts (out W acts wy 4 k r (putR (W k) r c t.toInt)).2.1 (out W acts wy 4 k r (putR (W k) r c t.toInt)).2.2.1 (out W acts wy 4 k r (putR (W k) r c t.toInt)).2.2.2 ∧ m_X0_put f h (A 23) (ni k) (ni r) (ni c) t = some (.inl (if (out W acts wy 4 k r (putR (W k) r c t.toInt)).1 = 0 then tA (rdU h y) 0 (28 + 9 * k + 3 * r + c) else -2000), h1) := by
      have C' := C
      obtain ⟨w, kf0, l0, n5, ⟨t1, t2, rf, c1, cw⟩, X, _, ⟨fl, L⟩, _⟩ := C'
      obtain ⟨q, f1, f2, f3, f4⟩ := CL_at (f := f) L c1 rfl k1
      unfold cLt at f3
      rw [k2] at f3
      obtain ⟨R0, o1, o2⟩ := f3
      obtain ⟨h3, p1, p2, p3', p4⟩ := X2_copy (f := f) (by omega) w o1.2
      have u1 := uL_R p2 p3'.wf r1 r2 (Int32.toInt64 t)
      have u2 := stR_is p2 p3'.wf r1 (j := c) (Int32.toInt64 t)
      have m4 : Mod (rS (nwR h)) 0 0 h3 (stR h3 (nwR h) (lM (W k)) r c (Int32.toInt64 t)) := Mod.cs p3'.wf (p2.2.2.1 r r1) ⟨r, r1, rfl⟩
      generalize stR h3 (nwR h) (lM (W k)) r c (Int32.toInt64 t) = h4 at u1 u2 m4
      have hR4 : isN h4 (nwR h) (putR (W k) r c t.toInt) := u2.congr (fun i j hi hj => by
        unfold mset lM putR
        by_cases e : i = r ∧ j = c
        · rw [if_pos e, if_pos e, toL]
        · rw [if_neg e, if_neg e])
      have e4 : Ext 5 13 h h4 := Ext.trn p3' m4 (fun z hz => by obtain ⟨i, hi, e⟩ := hz; rw [e]; show h.1 ≤ h.1 + 1 + 1 + i; omega)
      have C4 := C.ext e4
      have nR : nwO lo (nwR h) := ⟨l0, by show lo ≤ h.1 + 1; omega, fun i _ => by show lo ≤ h.1 + 1 + 1 + i; omega⟩
      obtain ⟨h1, m1, C1, D1⟩ := X0_chg (f := f) (by omega) O C4 P k1 k2 hR4 nR r1 (fun r c hr hc => by have := b2k r c hr hc; omega) 4
      have c4 := e4.at w c1 id
      refine ⟨h1, ((e4.mono (T := dS A lo) (fun _ _ h => h.elim) (Nat.le_refl _) (Nat.le_refl _)).tr m1 (fun _ _ h => h)).up (by omega) (by omega), C1, ?_⟩
      have ew : Int64.toInt32 (li (W k r c)) = tA (rdU h y) 0 (28 + 9 * k + 3 * r + c) := by
        rw [← was, ← toL]; exact Int32.toInt32_toInt64 _
      rw [eC, f4, bd2_some]
      unfold m_X0_put_46
      rw [oR_c (k := 0) o1.1 rfl, bd_some, gd_of (isC_R o1.2), p1, bd2_some]
      unfold m_X0_put_52
      rw [show h.1 = (nwR h).1 from rfl, oR_R p2, bd_some, aR_R p2 r1, bd_some, aL_R p2 r1 r2, bd_some, nmv_eq, bd_some, aR_R p2 r1, bd_some, u1, bd_some, gd_of (isC_c c4)]
      rw [show (Int64.toInt32 (lM (W k) r c)) = tA (rdU h y) 0 (28 + 9 * k + 3 * r + c) from ew]
      rcases D1 with ⟨d1, d2⟩ | ⟨d1, q', g', d2, d3, d4⟩
      · rw [d2, bx_l, d1]; rfl
      · rw [d2, bx_r, gd_of d3, d1]
        unfold m_X0_put_90
        rw [d4, bd_some, if_neg (show ¬ (-5 : Int32) = 0 by decide)]
    -- the twin
    obtain ⟨u1, v1, v2⟩ : ∃ u1, m_X3_put f (rdU h y) (ni k) (ni r) (ni c) t = some (if (out W acts wy 4 k r (putR (W k) r c t.toInt)).1 = 0 then tA (rdU h y) 0 (28 + 9 * k + 3 * r + c) else -2000, u1) ∧ TI u1 b n fk fp ts (out W acts wy 4 k r (putR (W k) r c t.toInt)).2.1 (out W acts wy 4 k r (putR (W k) r c t.toInt)).2.2.1 (out W acts wy 4 k r (putR (W k) r c t.toInt)).2.2.2 := by
      rw [eT]
      by_cases h20 : acts.length = 20
      · rw [if_pos h20]
        obtain ⟨u1, a1, a2⟩ := X3_full (f := f) T0 h20 (a := 4) (by decide) k r (putR (W k) r c t.toInt) (ni r)
        refine ⟨u1, ?_, a2⟩
        rw [a1, out_f h20]; rfl
      · rw [if_neg h20, ixs, gd_of (ix_ni (by omega) (by decide)), ni_clamp (by omega)]
        obtain ⟨v, u1, a1, a2, a3⟩ := X3_put (f := f) (by omega) T0 P k1 k2 r1 r2 t6 (by have := P.2.2.1; omega)
        refine ⟨u1, ?_, a3⟩
        rw [a1, bd_some, gd_of (ix_ni (by omega) (by decide)), a2, bd2_some]
        by_cases hz : knd (putR (W k) r c t.toInt) r = 0
        · rw [out_y (by have := P.2.2.1; omega) hz]; rfl
        · rw [out_n P.2.2.1 (fun hh => hz hh.2)]; rfl
    exact OkX.mk O H m1 (by omega) (by omega) O.d.1 O.d.2 e1 C1 (P.out k1 k2 r1 (fun r c hr hc _ => b2k r c hr hc) 4) v1 v2
  · rw [if_neg g] at eC eT
    exact OkX.mk O H (S := fun _ => False) (Mod.rf C.1) (by omega) (by omega) (fun _ _ => id) id eC C P eT T0
