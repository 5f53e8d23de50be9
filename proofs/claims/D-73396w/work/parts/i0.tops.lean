/-! acts: the twin's -/
set_option maxRecDepth 100000
def putR (N : Mi) (r c : Nat) (v : Int) : Mi := fun a b => if a = r ∧ b = c then v else N a b
theorem X3_isOwn {f : Nat} {u : TS} {b : Nat → Nat} {n : Nat} {fk fp : Int32} {ts : List It} {W : Nat → Mi} {acts : List Act} {wy : Why} (T : TI u b n fk fp ts W acts wy) (P : PI ts W acts) (l : Int32) : m_X3_isOwn f u l = some (if ownB ts l = true then 1 else 0, u) := by
  have TV' := Inv_TV T P
  unfold m_X3_isOwn m_X3_isOwn_20 m_X3_isOwn_21 ownB
  rw [X3_isLattice TV', bd2_some]
  have eL : isLI (lsO' ts W) l = inI l.toInt 0 ((ts.length : Int) - 1) := by unfold isLI; rw [lsO_len]
  rw [eL]
  cases h1 : inI l.toInt 0 ((ts.length : Int) - 1) with
  | false => rfl
  | true =>
    rw [← eL] at h1
    obtain ⟨k, M, n', tn, rfl, hk, hl⟩ := isLI_ni (by rw [lsO_len]; exact P.1) h1
    have kl : k < ts.length := by rw [← lsO_len ts W]; exact (List.getElem?_eq_some_iff.mp hl).1
    have ek : (ni k).toInt.toNat = k := by rw [ni_toInt (by omega)]; omega
    rw [ek, if_neg (show ¬ (if true = true then (1 : Int32) else 0) = 0 by decide), X3_isTurned hk, bd2_some]
    have t6 := T.2.2.2.2.2.2.1 k kl
    cases hq : (ts.getD k ([], none)).2 with
    | none => rw [hq] at t6; rw [if_pos (show tA u 0 (3 + k) = -1 from t6)]; rfl
    | some j =>
      rw [hq] at t6
      rw [if_neg (show ¬ tA u 0 (3 + k) = -1 from fun hh => by
        have hj := P.trn kl hq
        rw [t6.1] at hh
        exact ni_m1' (by have := P.1; omega) hh)]; rfl
theorem X3_isRow {f : Nat} (i : Int32) : m_X3_isRow f i = some (if inI i.toInt 0 2 = true then 1 else 0) := by
  unfold m_X3_isRow
  rw [in3_li i (a := 2) (hi := 2) rfl (rg_sm (by omega) (by omega)), bd_some]
  cases inI i.toInt 0 2 <;> rfl
theorem i32_ma {a t b : Int32} (ha : a.toInt.natAbs ≤ 20) (ht : t.toInt.natAbs ≤ 99) (hb : b.toInt.natAbs ≤ 20) : (a + t * b).toInt = a.toInt + t.toInt * b.toInt := by
  have e : (t.toInt * b.toInt).natAbs ≤ 99 * 20 := by rw [Int.natAbs_mul]; exact Nat.mul_le_mul ht hb
  have h := i_of a; have h' := i_of t; have h'' := i_of b
  have : a + t * b = Int32.ofInt (a.toInt + t.toInt * b.toInt) := by rw [Int32.ofInt_add, Int32.ofInt_mul, ← h, ← h', ← h'']
  rw [this, Int32.toInt_ofInt_of_le (by omega) (by omega)]
theorem i32_ng {a : Int32} (ha : a.toInt.natAbs ≤ 20) : (-a).toInt = -a.toInt := by
  have h := i_of a
  have : -a = Int32.ofInt (-a.toInt) := by rw [Int32.ofInt_neg, ← h]
  rw [this, Int32.toInt_ofInt_of_le (by omega) (by omega)]
theorem out_f {W : Nat → Mi} {acts : List Act} {wy : Why} {a : Int32} {k i : Nat} {M : Mi} (h : acts.length = 20) : out W acts wy a k i M = (-5, W, acts, some (a, 3, ni k, -1)) := if_pos h
/-- full: refused -/
theorem X3_full {f : Nat} {u : TS} {b : Nat → Nat} {n : Nat} {fk fp : Int32} {ts : List It} {W : Nat → Mi} {acts : List Act} {wy : Why} (T : TI u b n fk fp ts W acts wy) (h : acts.length = 20) {a : Int32} (ha : a ≠ 0) (k i : Nat) (M : Mi) (r : Int32) : ∃ u1, m_X3_refuses f u a 3 (ni k) r = some ((out W acts wy a k i M).1, u1) ∧ TI u1 b n fk fp ts (out W acts wy a k i M).2.1 (out W acts wy a k i M).2.2.1 (out W acts wy a k i M).2.2.2 := by
  rw [out_f h]
  obtain ⟨u1, a1, a2⟩ := X3_refuses (f := f) T (k := 3) (l := ni k) (r := r) ha
  rw [if_pos rfl] at a2
  exact ⟨u1, a1, a2⟩
theorem acts20 {u : TS} {b : Nat → Nat} {n : Nat} {fk fp : Int32} {ts : List It} {W : Nat → Mi} {acts : List Act} {wy : Why} (T : TI u b n fk fp ts W acts wy) (P : PI ts W acts) : tA u 0 (Int32.toNatClampNeg (2 : Int32)) = (20 : Int32) ↔ acts.length = 20 := by
  rw [show Int32.toNatClampNeg (2 : Int32) = 2 from rfl, T.2.2.2.2.2.1, show (20 : Int32) = ni 20 from rfl]
  exact ni_inj (by have := P.2.2.1; omega) (by decide)
theorem row_i {i : Int32} (h : inI i.toInt 0 2 = true) : ∃ k, i = ni k ∧ k < 3 := by
  have h1 := of_decide_eq_true h
  have e := i_of i
  refine ⟨i.toInt.toNat, ?_, by omega⟩
  rw [show Int32.ofInt i.toInt = Int32.ofInt (i.toInt.toNat : Nat) by rw [show ((i.toInt.toNat : Nat) : Int) = i.toInt by omega], Int32.ofInt_eq_ofNat] at e
  exact e
theorem tI3 : (28 : Int32) = ni 28 ∧ (9 : Int32) = ni 9 ∧ (3 : Int32) = ni 3 := ⟨rfl, rfl, rfl⟩
theorem ixs {k i c : Nat} : (((28 : Int32) + ((9 : Int32) * ni k)) + ((3 : Int32) * ni i)) + ni c = ni (28 + 9 * k + 3 * i + c) := by
  have ea : ∀ x y : Nat, (ni x : Int32) + ni y = ni (x + y) := fun x y => (Int32.ofNat_add x y).symm
  have em : ∀ x y : Nat, (ni x : Int32) * ni y = ni (x * y) := fun x y => (Int32.ofNat_mul x y).symm
  rw [tI3.1, tI3.2.1, tI3.2.2, em, em, ea, ea, ea]
theorem TI.M {u : TS} {b : Nat → Nat} {n : Nat} {fk fp : Int32} {ts : List It} {W : Nat → Mi} {acts : List Act} {wy : Why} (T : TI u b n fk fp ts W acts wy) {k r c : Nat} (hk : k < 5) (hr : r < 3) (hc : c < 3) : (tA u 0 (28 + 9 * k + 3 * r + c)).toInt = W k r c := by
  have := T.2.2.2.2.2.2.2.1 k (3 * r + c) hk (by omega)
  rw [show 28 + 9 * k + (3 * r + c) = 28 + 9 * k + 3 * r + c by omega, show (3 * r + c) / 3 = r by omega, show (3 * r + c) % 3 = c by omega] at this
  exact this
/-- one lattice's rows are written -/
theorem TI.wr {u u1 : TS} {b : Nat → Nat} {n : Nat} {fk fp : Int32} {ts : List It} {W : Nat → Mi} {acts : List Act} {wy : Why} (T : TI u b n fk fp ts W acts wy) (h5 : ts.length ≤ 5) (F : Fr [0] u u1) {k : Nat} (hk : k < 5) (e : ∀ x, x < 73 → (∀ r c, r < 3 → c < 3 → x ≠ 28 + 9 * k + 3 * r + c) → tA u1 0 x = tA u 0 x) {M : Mi} (e1 : ∀ r c, r < 3 → c < 3 → (tA u1 0 (28 + 9 * k + 3 * r + c)).toInt = M r c) : TI u1 b n fk fp ts (updW W k M) acts wy := by
  refine T.rows h5 F (fun x hx => e x (by omega) (fun r c hr hc => by omega)) (fun l i hl hi => ?_)
  unfold updW
  by_cases hlk : l = k
  · subst hlk
    rw [if_pos rfl]
    have := e1 (i / 3) (i % 3) (by omega) (by omega)
    rw [show 28 + 9 * l + 3 * (i / 3) + i % 3 = 28 + 9 * l + i by omega] at this
    exact this
  · rw [if_neg hlk, e _ (by omega) (fun r c hr hc => by omega)]
    exact T.2.2.2.2.2.2.2.1 l i hl hi
theorem X3_add {f : Nat} (hf : 100 < f) {u : TS} {b : Nat → Nat} {n : Nat} {fk fp : Int32} {ts : List It} {W : Nat → Mi} {acts : List Act} {wy : Why} (T : TI u b n fk fp ts W acts wy) (P : PI ts W acts) {k i j : Nat} {t : Int32} (hk : k < ts.length) (ho : (ts.getD k ([], none)).2 = none) (hi : i < 3) (hj : j < 3) (hij : i ≠ j) (ht : t.toInt.natAbs ≤ 99) (ha : acts.length < 20) : ∃ u1, bd (m_X3_keeps f u) (fun u12 => m_X3_add_72 f f u12 (ni k) (ni i) (ni j) t (0 : Int32)) = some ((out W acts wy 1 k i (addR (W k) i j t.toInt)).1, u1) ∧ TI u1 b n fk fp ts (out W acts wy 1 k i (addR (W k) i j t.toInt)).2.1 (out W acts wy 1 k i (addR (W k) i j t.toInt)).2.2.1 (out W acts wy 1 k i (addR (W k) i j t.toInt)).2.2.2 := by
  obtain ⟨v, a1, a2⟩ := X3_keeps hf T ha k
  have k5 : k < 5 := by have := P.1; omega
  have okW := P.own hk ho
  rw [a1, bd_some]
  obtain ⟨v', ⟨p1, p2, p3'⟩, pe⟩ := loop3v (fun m w x => m_X3_add_72 f m w (ni k) (ni i) (ni j) t x) (fun w => m_X3_add_128 f w (ni k) (ni i)) (fun c w => Fr [0] v w ∧ (∀ x, (∀ d, d < c → x ≠ 28 + 9 * k + 3 * i + d) → tA w 0 x = tA v 0 x) ∧ ∀ d, d < c → tA w 0 (28 + 9 * k + 3 * i + d) = tA v 0 (28 + 9 * k + 3 * i + d) + t * tA v 0 (28 + 9 * k + 3 * j + d))
    (fun m w _ => by rw [m_X3_add_72, if_pos le33])
    (fun m w c hc p => by
      obtain ⟨q1, q2, q3⟩ := p
      refine ⟨_, ?_, q1.tr (Fr.sA (k := 0) (i := 28 + 9 * k + 3 * i + c) (v := tA v 0 (28 + 9 * k + 3 * i + c) + t * tA v 0 (28 + 9 * k + 3 * j + c)) (by decide)), fun x hx => ?_, fun d hd => ?_⟩
      · rw [m_X3_add_72, if_neg (le3 hc), ixs, ixs, gd_of (ix_ni (by omega) (by decide)), gd_of (ix_ni (by omega) (by decide)), gd_of (ix_ni (by omega) (by decide)), nmv_eq, nmv_eq, ni_succ, ni_clamp (by omega), ni_clamp (by omega), q2 (28 + 9 * k + 3 * i + c) (fun d hd => by omega), q2 (28 + 9 * k + 3 * j + c) (fun d hd => by omega)]
      · rw [tA_sA, if_neg (fun hh => hx c (by omega) hh.2)]; exact q2 x (fun d hd => hx d (by omega))
      · rw [tA_sA]
        by_cases e : d = c
        · rw [if_pos ⟨rfl, by omega⟩, e]
        · rw [if_neg (fun hh => by have := hh.2; omega)]; exact q3 d (by omega))
    (n := f) (v := v) (by omega) ⟨Fr.rf, fun _ _ => rfl, fun d hd => by omega⟩
  have pe' : m_X3_add_72 f f v (ni k) (ni i) (ni j) t (0 : Int32) = _ := pe
  have T2 : TI v' b n fk fp ts (updW W k (addR (W k) i j t.toInt)) (acts ++ [(k, W)]) wy := by
    refine a2.wr P.1 p1 k5 (fun x _ hx => p2 x (fun d hd => hx i d hi hd)) (fun r c hr hc => ?_)
    unfold addR
    by_cases e : r = i
    · subst e
      have x1 := a2.M k5 hr hc
      have x2 := a2.M k5 hj hc
      rw [if_pos rfl, p3' c hc, i32_ma (by rw [x1]; exact okW.1 r c hr hc) ht (by rw [x2]; exact okW.1 j c hj hc), x1, x2]
    · rw [if_neg e, p2 _ (fun d hd => by omega)]; exact a2.M k5 hr hc
  have b20 : ∀ r c, r < 3 → c < 3 → r ≠ i → (addR (W k) i j t.toInt r c).natAbs ≤ 20 := fun r c hr hc hne => by
    unfold addR; rw [if_neg hne]; exact okW.1 r c hr hc
  have b2k : ∀ r c, r < 3 → c < 3 → (addR (W k) i j t.toInt r c).natAbs ≤ 2000 := fun r c hr hc => by
    by_cases e : r = i
    · unfold addR; rw [if_pos e]
      have e1 : (t.toInt * W k j c).natAbs ≤ 99 * 20 := by rw [Int.natAbs_mul]; exact Nat.mul_le_mul ht (okW.1 j c hj hc)
      have e2 := okW.1 r c hr hc
      omega
    · have := b20 r c hr hc e; omega
  obtain ⟨u1, c1, c2⟩ := X3_stays hf T2 ha P.1 k5 hi b20 b2k (a := 1) (by decide)
  refine ⟨u1, ?_, c2⟩
  rw [pe']
  unfold m_X3_add_128
  rw [c1, bd2_some]
theorem dtf_exc {N : Mi} {r l : Nat} (hr : r < 3) (hl : l < 3) (hne : r ≠ l) : dtf (excR N r l) = - dtf N := by
  rcases c3 hr with rfl | rfl | rfl <;> rcases c3 hl with rfl | rfl | rfl <;> first | exact absurd rfl hne | (simp only [dtf, mnr, excR]; simp; grind)
theorem dtf_ovr {N : Mi} {r : Nat} (hr : r < 3) : dtf (ovrR N r) = - dtf N := by
  rcases c3 hr with rfl | rfl | rfl <;> (simp only [dtf, mnr, ovrR]; simp; grind)
theorem okM.exc {N : Mi} (h : okM N) {r l : Nat} (hr : r < 3) (hl : l < 3) (hne : r ≠ l) : okM (excR N r l) ∧ knd (excR N r l) r = 0 := by
  have d := dtf_exc (N := N) hr hl hne
  have o : okM (excR N r l) := by
    refine ⟨fun i j hi hj => ?_, by rw [d, Int.natAbs_neg]; exact h.2.1, by rw [d, Int.natAbs_neg]; exact h.2.2⟩
    unfold excR
    split
    · exact h.1 l j hl hj
    · split
      · exact h.1 r j hr hj
      · exact h.1 i j hi hj
  refine ⟨o, ?_⟩
  unfold knd
  have a := o.1 r 0 hr (by decide); have b := o.1 r 1 hr (by decide); have c := o.1 r 2 hr (by decide)
  rw [if_neg (by omega), if_pos ⟨o.2.1, o.2.2⟩]
theorem okM.ovr {N : Mi} (h : okM N) {r : Nat} (hr : r < 3) : okM (ovrR N r) ∧ knd (ovrR N r) r = 0 := by
  have d := dtf_ovr (N := N) hr
  have o : okM (ovrR N r) := by
    refine ⟨fun i j hi hj => ?_, by rw [d, Int.natAbs_neg]; exact h.2.1, by rw [d, Int.natAbs_neg]; exact h.2.2⟩
    unfold ovrR
    split
    · rw [Int.natAbs_neg]; exact h.1 i j hi hj
    · exact h.1 i j hi hj
  refine ⟨o, ?_⟩
  unfold knd
  have a := o.1 r 0 hr (by decide); have b := o.1 r 1 hr (by decide); have c := o.1 r 2 hr (by decide)
  rw [if_neg (by omega), if_pos ⟨o.2.1, o.2.2⟩]
theorem out_y {W : Nat → Mi} {acts : List Act} {wy : Why} {a : Int32} {k i : Nat} {M : Mi} (h : acts.length < 20) (hz : knd M i = 0) : out W acts wy a k i M = (0, updW W k M, acts ++ [(k, W)], wy) := by
  unfold out; rw [if_neg (by omega), if_pos hz]
theorem X3_exchange {f : Nat} (hf : 100 < f) {u : TS} {b : Nat → Nat} {n : Nat} {fk fp : Int32} {ts : List It} {W : Nat → Mi} {acts : List Act} {wy : Why} (T : TI u b n fk fp ts W acts wy) (P : PI ts W acts) {k i j : Nat} (hk : k < ts.length) (ho : (ts.getD k ([], none)).2 = none) (hi : i < 3) (hj : j < 3) (hij : i ≠ j) (ha : acts.length < 20) : ∃ u1, bd (m_X3_keeps f u) (fun u12 => m_X3_exchange_57 f f u12 (ni k) (ni i) (ni j) (0 : Int32)) = some ((out W acts wy 2 k i (excR (W k) i j)).1, u1) ∧ TI u1 b n fk fp ts (out W acts wy 2 k i (excR (W k) i j)).2.1 (out W acts wy 2 k i (excR (W k) i j)).2.2.1 (out W acts wy 2 k i (excR (W k) i j)).2.2.2 := by
  obtain ⟨v, a1, a2⟩ := X3_keeps hf T ha k
  have k5 : k < 5 := by have := P.1; omega
  have okW := P.own hk ho
  rw [a1, bd_some, out_y ha (okW.exc hi hj hij).2]
  obtain ⟨v', ⟨p1, p2, p3'⟩, pe⟩ := loop3v (fun m w x => m_X3_exchange_57 f m w (ni k) (ni i) (ni j) x) (fun w => m_X3_exchange_149 f w) (fun c w => Fr [0] v w ∧ (∀ x, (∀ d, d < c → x ≠ 28 + 9 * k + 3 * i + d ∧ x ≠ 28 + 9 * k + 3 * j + d) → tA w 0 x = tA v 0 x) ∧ ∀ d, d < c → tA w 0 (28 + 9 * k + 3 * i + d) = tA v 0 (28 + 9 * k + 3 * j + d) ∧ tA w 0 (28 + 9 * k + 3 * j + d) = tA v 0 (28 + 9 * k + 3 * i + d))
    (fun m w _ => by rw [m_X3_exchange_57, if_pos le33])
    (fun m w c hc p => by
      obtain ⟨q1, q2, q3⟩ := p
      refine ⟨_, ?_, (q1.tr (Fr.sA (k := 0) (i := 28 + 9 * k + 3 * i + c) (v := tA v 0 (28 + 9 * k + 3 * j + c)) (by decide))).tr (Fr.sA (k := 0) (i := 28 + 9 * k + 3 * j + c) (v := tA v 0 (28 + 9 * k + 3 * i + c)) (by decide)), fun x hx => ?_, fun d hd => ⟨?_, ?_⟩⟩
      · rw [m_X3_exchange_57, if_neg (le3 hc), ixs, ixs, gd_of (ix_ni (by omega) (by decide)), nmv_eq, gd_of (ix_ni (by omega) (by decide)), gd_of (ix_ni (by omega) (by decide)), nmv_eq, gd_of (ix_ni (by omega) (by decide)), nmv_eq, nmv_eq, ni_succ, ni_clamp (by omega), ni_clamp (by omega), q2 (28 + 9 * k + 3 * i + c) (fun d hd => by omega), q2 (28 + 9 * k + 3 * j + c) (fun d hd => by omega)]
      · rw [tA_sA, if_neg (fun hh => (hx c (by omega)).2 hh.2), tA_sA, if_neg (fun hh => (hx c (by omega)).1 hh.2)]; exact q2 x (fun d hd => hx d (by omega))
      · rw [tA_sA, if_neg (fun hh => by have := hh.2; omega), tA_sA]
        by_cases e : d = c
        · rw [if_pos ⟨rfl, by omega⟩, e]
        · rw [if_neg (fun hh => by have := hh.2; omega)]; exact (q3 d (by omega)).1
      · rw [tA_sA]
        by_cases e : d = c
        · rw [if_pos ⟨rfl, by omega⟩, e]
        · rw [if_neg (fun hh => by have := hh.2; omega), tA_sA, if_neg (fun hh => by have := hh.2; omega)]; exact (q3 d (by omega)).2)
    (n := f) (v := v) (by omega) ⟨Fr.rf, fun _ _ => rfl, fun d hd => by omega⟩
  have pe' : m_X3_exchange_57 f f v (ni k) (ni i) (ni j) (0 : Int32) = _ := pe
  refine ⟨v', pe', a2.wr P.1 p1 k5 (fun x _ hx => p2 x (fun d hd => ⟨hx i d hi hd, hx j d hj hd⟩)) (fun r c hr hc => ?_)⟩
  unfold excR
  by_cases e : r = i
  · subst e
    rw [if_pos rfl, (p3' c hc).1]; exact a2.M k5 hj hc
  · rw [if_neg e]
    by_cases e' : r = j
    · subst e'
      rw [if_pos rfl, (p3' c hc).2]; exact a2.M k5 hi hc
    · rw [if_neg e', p2 _ (fun d hd => ⟨by omega, by omega⟩)]; exact a2.M k5 hr hc
theorem X3_negate {f : Nat} (hf : 100 < f) {u : TS} {b : Nat → Nat} {n : Nat} {fk fp : Int32} {ts : List It} {W : Nat → Mi} {acts : List Act} {wy : Why} (T : TI u b n fk fp ts W acts wy) (P : PI ts W acts) {k i : Nat} (hk : k < ts.length) (ho : (ts.getD k ([], none)).2 = none) (hi : i < 3) (ha : acts.length < 20) : ∃ u1, bd (m_X3_keeps f u) (fun u12 => m_X3_negate_44 f f u12 (ni k) (ni i) (0 : Int32)) = some ((out W acts wy 3 k i (ovrR (W k) i)).1, u1) ∧ TI u1 b n fk fp ts (out W acts wy 3 k i (ovrR (W k) i)).2.1 (out W acts wy 3 k i (ovrR (W k) i)).2.2.1 (out W acts wy 3 k i (ovrR (W k) i)).2.2.2 := by
  obtain ⟨v, a1, a2⟩ := X3_keeps hf T ha k
  have k5 : k < 5 := by have := P.1; omega
  have okW := P.own hk ho
  rw [a1, bd_some, out_y ha (okW.ovr hi).2]
  obtain ⟨v', ⟨p1, p2, p3'⟩, pe⟩ := loop3v (fun m w x => m_X3_negate_44 f m w (ni k) (ni i) x) (fun w => m_X3_negate_92 f w) (fun c w => Fr [0] v w ∧ (∀ x, (∀ d, d < c → x ≠ 28 + 9 * k + 3 * i + d) → tA w 0 x = tA v 0 x) ∧ ∀ d, d < c → tA w 0 (28 + 9 * k + 3 * i + d) = - tA v 0 (28 + 9 * k + 3 * i + d))
    (fun m w _ => by rw [m_X3_negate_44, if_pos le33])
    (fun m w c hc p => by
      obtain ⟨q1, q2, q3⟩ := p
      refine ⟨_, ?_, q1.tr (Fr.sA (k := 0) (i := 28 + 9 * k + 3 * i + c) (v := - tA v 0 (28 + 9 * k + 3 * i + c)) (by decide)), fun x hx => ?_, fun d hd => ?_⟩
      · rw [m_X3_negate_44, if_neg (le3 hc), ixs, gd_of (ix_ni (by omega) (by decide)), gd_of (ix_ni (by omega) (by decide)), nmv_eq, nmv_eq, ni_succ, ni_clamp (by omega), q2 (28 + 9 * k + 3 * i + c) (fun d hd => by omega)]
      · rw [tA_sA, if_neg (fun hh => hx c (by omega) hh.2)]; exact q2 x (fun d hd => hx d (by omega))
      · rw [tA_sA]
        by_cases e : d = c
        · rw [if_pos ⟨rfl, by omega⟩, e]
        · rw [if_neg (fun hh => by have := hh.2; omega)]; exact q3 d (by omega))
    (n := f) (v := v) (by omega) ⟨Fr.rf, fun _ _ => rfl, fun d hd => by omega⟩
  have pe' : m_X3_negate_44 f f v (ni k) (ni i) (0 : Int32) = _ := pe
  refine ⟨v', pe', a2.wr P.1 p1 k5 (fun x _ hx => p2 x (fun d hd => hx i d hi hd)) (fun r c hr hc => ?_)⟩
  unfold ovrR
  by_cases e : r = i
  · subst e
    have x1 := a2.M k5 hr hc
    rw [if_pos rfl, p3' c hc, i32_ng (by rw [x1]; exact okW.1 r c hr hc), x1]
  · rw [if_neg e, p2 _ (fun d hd => by omega)]; exact a2.M k5 hr hc
theorem X3_put {f : Nat} (hf : 100 < f) {u : TS} {b : Nat → Nat} {n : Nat} {fk fp : Int32} {ts : List It} {W : Nat → Mi} {acts : List Act} {wy : Why} (T : TI u b n fk fp ts W acts wy) (P : PI ts W acts) {k i j : Nat} {t : Int32} (hk : k < ts.length) (ho : (ts.getD k ([], none)).2 = none) (hi : i < 3) (hj : j < 3) (ht : t.toInt.natAbs ≤ 6) (ha : acts.length < 20) : ∃ u12 u1, m_X3_keeps f u = some u12 ∧ m_X3_stays f (sA u12 0 (28 + 9 * k + 3 * i + j) t) 4 (ni k) (ni i) = some ((out W acts wy 4 k i (putR (W k) i j t.toInt)).1, u1) ∧ TI u1 b n fk fp ts (out W acts wy 4 k i (putR (W k) i j t.toInt)).2.1 (out W acts wy 4 k i (putR (W k) i j t.toInt)).2.2.1 (out W acts wy 4 k i (putR (W k) i j t.toInt)).2.2.2 := by
  obtain ⟨v, a1, a2⟩ := X3_keeps hf T ha k
  have k5 : k < 5 := by have := P.1; omega
  have okW := P.own hk ho
  have T2 : TI (sA v 0 (28 + 9 * k + 3 * i + j) t) b n fk fp ts (updW W k (putR (W k) i j t.toInt)) (acts ++ [(k, W)]) wy := by
    refine a2.wr P.1 (Fr.sA (by decide)) k5 (fun x _ hx => by rw [tA_sA, if_neg (fun hh => hx i j hi hj hh.2)]) (fun r c hr hc => ?_)
    unfold putR
    rw [tA_sA]
    by_cases e : r = i ∧ c = j
    · rw [if_pos e, if_pos ⟨rfl, by rw [e.1, e.2]⟩]
    · rw [if_neg e, if_neg (fun hh => e (by have := hh.2; omega))]; exact a2.M k5 hr hc
  have b2k : ∀ r c, r < 3 → c < 3 → (putR (W k) i j t.toInt r c).natAbs ≤ 20 := fun r c hr hc => by
    unfold putR
    split
    · omega
    · exact okW.1 r c hr hc
  obtain ⟨u1, c1, c2⟩ := X3_stays hf T2 ha P.1 k5 hi (fun r c hr hc _ => b2k r c hr hc) (fun r c hr hc => by have := b2k r c hr hc; omega) (a := 4) (by decide)
  exact ⟨v, u1, a1, c1, c2⟩
