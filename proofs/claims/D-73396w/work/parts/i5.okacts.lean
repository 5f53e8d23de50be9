/-! acts: both -/
set_option maxRecDepth 100000
theorem OkX.mk {α : Type} {h : CH} {A : Nat → Nat} {lo y : Nat} {al : List Nat} (O : AOk A lo al) {mc : Option ((α ⊕ Nat) × CH)} {mf : TS → Option (α × TS)} {r : α} {h1 : CH} {u u1 : TS} {S : Nat → Prop} {k n' : Nat} {b : Nat → Nat} {n : Nat} {fk fp : Int32} {ts : List It} {W : Nat → Mi} {acts : List Act} {wy : Why} (H : HT h y al u) (m : Mod S k n' h h1) (hk : k ≤ 9000) (hn : n' ≤ 110000) (sal : ∀ q, q ∈ al → ¬ S q) (n0 : ¬ S 0) (e1 : mc = some (.inl r, h1)) (C1 : CIv h1 A lo b n fk fp ts W acts wy) (P1 : PI ts W acts) (e2 : mf (rdU h y) = some (r, u1)) (T1 : TI u1 b n fk fp ts W acts wy) : OkX mc (fun h1 => Jvm.Pilot.CCoincideBenchLaw_law_r8029_ca2b77.tcr h1 y mf) h A lo y al := by
  have H1 := H.md m sal
  rw [← H.rd m sal n0] at e2
  obtain ⟨h2, b1, b2, b3⟩ := H1.tcr (mf := mf) e2
  have C2 := C1.tw O H1 b2 b3
  refine ⟨r, h1, h2, e1, H1.isC, b1, ?_, ?_, b, n, fk, fp, ts, W, acts, wy, O, C2, P1, u1, b2, T1⟩
  · have := m.2.1; have := b3.2.1; omega
  · have := m.2.2.2.1; have := b3.2.2.2.1; omega
theorem X0_isOwn {f : Nat} {h : CH} {A : Nat → Nat} {lo : Nat} {b : Nat → Nat} {n : Nat} {fk fp : Int32} {ts : List It} {W : Nat → Mi} {acts : List Act} {wy : Why} (C : CIv h A lo b n fk fp ts W acts wy) (P : PI ts W acts) (l : Int32) : m_X0_isOwn f h (A 23) l = some (if ownB ts l = true then 1 else 0, h) := by
  obtain ⟨w, kf0, l0, n5, ⟨t1, t2, rf, c1, cw⟩, X, _, ⟨fl, L⟩, _⟩ := C
  have CV' := CL_CV P L c1 rfl
  unfold m_X0_isOwn m_X0_isOwn_5 m_X0_isOwn_13 m_X0_isOwn_16 m_X0_isOwn_23 m_X0_isOwn_24 ownB
  rw [gd_of (isC_c c1), X0_isLattice CV', bd2_some]
  have eL : isLI (lsO' ts W) l = inI l.toInt 0 ((ts.length : Int) - 1) := by unfold isLI; rw [lsO_len]
  rw [eL]
  cases h1 : inI l.toInt 0 ((ts.length : Int) - 1) with
  | false => rfl
  | true =>
    rw [← eL] at h1
    obtain ⟨k, M, n', tn, rfl, hk, hl⟩ := isLI_ni (by rw [lsO_len]; exact P.1) h1
    have kl : k < ts.length := by rw [← lsO_len ts W]; exact (List.getElem?_eq_some_iff.mp hl).1
    have ek : (ni k).toInt.toNat = k := by rw [ni_toInt (by omega)]; omega
    obtain ⟨q, f1, f2, f3, f4⟩ := CL_at (f := f) L c1 rfl kl
    rw [ek, if_neg (show ¬ (if true = true then (1 : Int32) else 0) = 0 by decide), gd_of (isC_c c1), f4, bd2_some]
    unfold cLt at f3
    cases hq : (ts.getD k ([], none)).2 with
    | none =>
      rw [hq] at f3
      obtain ⟨R0, o1, o2⟩ := f3
      rw [if_pos (isC_c o1.1)]; rfl
    | some j =>
      rw [hq] at f3
      obtain ⟨b', T, o1, ⟨r0, o2, o2'⟩, o3⟩ := f3
      rw [if_neg (show ¬ isC h q 6 = true from fun hh => by unfold isC at hh; rw [o2] at hh; cases hh), gd_of (isC_c o2)]; rfl
def gA (ts : List It) (l i j t : Int32) : Bool := ownB ts l && (inI i.toInt 0 2 && (inI j.toInt 0 2 && (!decide (i = j) && inI t.toInt (-99) 99)))
def gE (ts : List It) (l i j : Int32) : Bool := ownB ts l && (inI i.toInt 0 2 && (inI j.toInt 0 2 && !decide (i = j)))
def gN (ts : List It) (l i : Int32) : Bool := ownB ts l && inI i.toInt 0 2
def gP (ts : List It) (l i j t : Int32) : Bool := ownB ts l && (inI i.toInt 0 2 && (inI j.toInt 0 2 && inI t.toInt (-6) 6))
theorem inS0 {f : Nat} (x : Int32) {a c : Int64} {lo hi : Int} (ha : a = li lo) (hc : c = li hi) (g : rg lo) (g' : rg hi) : m_X0_isIn f (Int32.toInt64 x) a c = some (if inI x.toInt lo hi = true then 1 else 0) := by rw [toL, ha, hc, isIn_li (i32_rg x) g g']
theorem inS3 {f : Nat} (x : Int32) {a c : Int64} {lo hi : Int} (ha : a = li lo) (hc : c = li hi) (g : rg lo) (g' : rg hi) : m_X3_in f (Int32.toInt64 x) a c = some (if inI x.toInt lo hi = true then 1 else 0) := by rw [toL, ha, hc, in_li (i32_rg x) g g']
theorem X0_add_g {f : Nat} {h : CH} {A : Nat → Nat} {lo : Nat} {b : Nat → Nat} {n : Nat} {fk fp : Int32} {ts : List It} {W : Nat → Mi} {acts : List Act} {wy : Why} (C : CIv h A lo b n fk fp ts W acts wy) (P : PI ts W acts) (l i j t : Int32) : m_X0_add f h (A 23) l i j t = if gA ts l i j t = true then m_X0_add_48 f (cn h 4 (.inl (9, [.int 0, .int 0, .int 0, .long 0]))) i j t (A 23) 1 l h.1 else some (-2, h) := by
  have C' := C
  obtain ⟨w, kf0, l0, n5, ⟨t1, t2, rf, c1, cw⟩, _⟩ := C'
  unfold m_X0_add m_X0_add_5 m_X0_add_64 m_X0_add_66 gA
  rw [gd_of (isC_c c1), X0_isOwn C P, bd2_some, X0_isSide, X0_isSide, inS0 t (a := -99) (c := 99) (lo := -99) (hi := 99) rfl rfl (rg_sm (by omega) (by omega)) (rg_sm (by omega) (by omega))]
  cases ownB ts l
  · rfl
  · cases inI i.toInt 0 2
    · rfl
    · cases inI j.toInt 0 2
      · rfl
      · by_cases e : i = j
        · subst e; simp [bd]
        · cases inI t.toInt (-99) 99 <;> simp [bd, e, nmv]
theorem X3_add_g {f : Nat} {u : TS} {b : Nat → Nat} {n : Nat} {fk fp : Int32} {ts : List It} {W : Nat → Mi} {acts : List Act} {wy : Why} (T : TI u b n fk fp ts W acts wy) (P : PI ts W acts) (l i j t : Int32) : m_X3_add f u l i j t = if gA ts l i j t = true then (if acts.length = 20 then bd2 (m_X3_refuses f u 1 3 l i) (fun r v => some (r, v)) else bd (m_X3_keeps f u) (fun v => m_X3_add_72 f f v l i j t 0)) else some (-2, u) := by
  have e20 := acts20 T P
  unfold m_X3_add m_X3_add_42 gA
  rw [X3_isOwn T P, bd2_some, X3_isRow, X3_isRow, inS3 t (a := -99) (c := 99) (lo := -99) (hi := 99) rfl rfl (rg_sm (by omega) (by omega)) (rg_sm (by omega) (by omega))]
  cases ownB ts l
  · rfl
  · cases inI i.toInt 0 2
    · rfl
    · cases inI j.toInt 0 2
      · rfl
      · by_cases e : i = j
        · subst e; simp [bd]
        · cases inI t.toInt (-99) 99
          · simp [bd, e]
          · by_cases e' : acts.length = 20
            · simp only [bd_some, e, e20.mpr e', e', if_true, if_false, not_true_eq_false]; rfl
            · simp only [bd_some, e, e20, e', if_true, if_false, not_true_eq_false]; rfl
theorem gA_ni {ts : List It} {l i j t : Int32} (h : gA ts l i j t = true) : ∃ k r c, l = ni k ∧ k < ts.length ∧ (ts.getD k ([], none)).2 = none ∧ i = ni r ∧ r < 3 ∧ j = ni c ∧ c < 3 ∧ r ≠ c ∧ t.toInt.natAbs ≤ 99 := by
  unfold gA at h
  simp only [Bool.and_eq_true] at h
  obtain ⟨h1, h2, h3, h4, h5⟩ := h
  obtain ⟨k, rfl, k1, k2⟩ := ownB_ni h1
  obtain ⟨r, rfl, r1⟩ := row_i h2
  obtain ⟨c, rfl, r2⟩ := row_i h3
  refine ⟨k, r, c, rfl, k1, k2, rfl, r1, rfl, r2, fun e => ?_, ?_⟩
  · subst e; simp at h4
  · have := of_decide_eq_true h5; omega
theorem okM.add {M : Mi} (okW : okM M) {i j : Nat} (hj : j < 3) {t : Int} (ht : t.natAbs ≤ 99) : (∀ r c, r < 3 → c < 3 → r ≠ i → (addR M i j t r c).natAbs ≤ 20) ∧ ∀ r c, r < 3 → c < 3 → (addR M i j t r c).natAbs ≤ 2000 := by
  have b20 : ∀ r c, r < 3 → c < 3 → r ≠ i → (addR M i j t r c).natAbs ≤ 20 := fun r c hr hc hne => by
    unfold addR; rw [if_neg hne]; exact okW.1 r c hr hc
  refine ⟨b20, fun r c hr hc => ?_⟩
  by_cases e : r = i
  · unfold addR; rw [if_pos e]
    have e1 : (t * M j c).natAbs ≤ 99 * 20 := by rw [Int.natAbs_mul]; exact Nat.mul_le_mul ht (okW.1 j c hj hc)
    have e2 := okW.1 r c hr hc
    omega
  · have := b20 r c hr hc e; omega
/-- both do an act -/
theorem ok_act {h : CH} {A : Nat → Nat} {lo y : Nat} {al : List Nat} {b : Nat → Nat} {n : Nat} {fk fp : Int32} {ts : List It} {W : Nat → Mi} {acts : List Act} {wy : Why} (I : Inv h A lo y al b n fk fp ts W acts wy) {mc : Option (Int32 × CH)} {mf : TS → Option (Int32 × TS)} {a : Int32} {k i : Nat} {M : Mi} (hk : k < ts.length) (ho : (ts.getD k ([], none)).2 = none) (hi : i < 3) (h1 : ∀ r c, r < 3 → c < 3 → r ≠ i → (M r c).natAbs ≤ 20) (hc : ∃ h1, Mod (dS A lo) 8 32 h h1 ∧ CIv h1 A lo b n fk fp ts (out W acts wy a k i M).2.1 (out W acts wy a k i M).2.2.1 (out W acts wy a k i M).2.2.2 ∧ mc = some ((out W acts wy a k i M).1, h1)) (ht : ∀ u, TI u b n fk fp ts W acts wy → ∃ u1, mf u = some ((out W acts wy a k i M).1, u1) ∧ TI u1 b n fk fp ts (out W acts wy a k i M).2.1 (out W acts wy a k i M).2.2.1 (out W acts wy a k i M).2.2.2) : Ok mc (fun h1 => tcr h1 y mf) h A lo y al := by
  obtain ⟨O, C, P, u, H, T⟩ := I
  have T0 : TI (rdU h y) b n fk fp ts W acts wy := T.rf (H.agr.rF (l := [])) (fun k _ hk => by cases hk)
  obtain ⟨u1, t1, t2⟩ := ht _ T0
  obtain ⟨h1', m, C1, e⟩ := hc
  exact Ok.mk O H m (by omega) (by omega) O.d.1 O.d.2 e C1 (P.out hk ho hi h1 a) t1 t2
theorem ok_add {f : Nat} (hf : 1000 < f) {h : CH} {A : Nat → Nat} {lo y : Nat} {al : List Nat} {b : Nat → Nat} {n : Nat} {fk fp : Int32} {ts : List It} {W : Nat → Mi} {acts : List Act} {wy : Why} (I : Inv h A lo y al b n fk fp ts W acts wy) (l i j t : Int32) : Ok (m_X0_add f h (A 23) l i j t) (fun h1 => tcr h1 y (fun z => m_X3_add f z l i j t)) h A lo y al := by
  have I' := I
  obtain ⟨O, C, P, u, H, T⟩ := I'
  have eC := X0_add_g (f := f) C P l i j t
  have eT : ∀ u, TI u b n fk fp ts W acts wy → _ := fun u T => X3_add_g (f := f) T P l i j t
  by_cases g : gA ts l i j t = true
  · rw [if_pos g] at eC
    obtain ⟨k, r, c, rfl, k1, k2, rfl, r1, rfl, r2, r3, r4⟩ := gA_ni g
    have okW := P.own k1 k2
    have B := okW.add (i := r) r2 r4
    refine ok_act I (a := 1) (k := k) (i := r) (M := addR (W k) r c t.toInt) k1 k2 r1 B.1 ?_ (fun u T => ?_)
    · obtain ⟨h1, i1, i2, i3, i4⟩ := X9_init (f := f) C.1 (1, ni r, ni c, Int32.toInt64 t)
      obtain ⟨h2, m2, C2, e2⟩ := X0_does (f := f) (by omega) O (C.ext i3) P k1 k2 i2 rfl (.inl ⟨r, c, t.toInt, r1, r2, r3, by rw [toL], rfl⟩) r1 B.2 1
      refine ⟨h2, ((i3.mono (T := dS A lo) (fun _ _ h => h.elim) (Nat.le_refl _) (Nat.le_refl _)).tr m2 (fun _ _ h => h)).up (by omega) (by omega), C2, ?_⟩
      have ic : isC h1 (A 23) 1 = true := by
        obtain ⟨_, _, _, _, ⟨t1, t2, rf, c1, _⟩, _⟩ := C.ext i3
        exact isC_c c1
      rw [eC]
      unfold m_X0_add_48 m_X0_add_58 m_X0_add_61 m_X0_add_66
      have i1' : m_X9_init f (cn h 4 (.inl (9, [.int 0, .int 0, .int 0, .long 0]))) h.1 1 (ni r) (ni c) (Int32.toInt64 t) = some h1 := i1
      rw [i1', bd_some, gd_of ic, e2, bx_l]
    · show ∃ u1, m_X3_add f u _ _ _ _ = _ ∧ _
      rw [eT u T, if_pos g]
      by_cases h20 : acts.length = 20
      · rw [if_pos h20]
        obtain ⟨u1, a1, a2⟩ := X3_full (f := f) T h20 (a := 1) (by decide) k r (addR (W k) r c t.toInt) (ni r)
        exact ⟨u1, by rw [a1]; rfl, a2⟩
      · rw [if_neg h20]
        exact X3_add (by omega) T P k1 k2 r1 r2 r3 r4 (by have := P.2.2.1; omega)
  · rw [if_neg g] at eC
    exact Ok.same (r := -2) I eC (fun u T => by show m_X3_add f u _ _ _ _ = _; rw [eT u T, if_neg g])
