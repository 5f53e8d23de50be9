/-! how many points are nearest; the meet's shortest -/
set_option maxRecDepth 100000
def cn27 (N : Mi) (s : Int) : Nat → Nat
  | 0 => 0
  | c + 1 => cn27 N s c + (if sc N c = s then 1 else 0)
def vI (A : Nat) : Int32 := ni A + (-1)
theorem vI_s (A : Nat) : vI A + 1 = vI (A + 1) := by
  unfold vI
  rw [← ni_succ, Int32.add_assoc, Int32.add_assoc, Int32.add_comm (-1) 1]
theorem vI_lt {A : Nat} (h : A < 3) : ¬ (1 : Int32) < vI A := by rcases c3 h with rfl | rfl | rfl <;> decide
theorem vI_3 : (1 : Int32) < vI 3 := by decide
theorem vI_toInt {A : Nat} (h : A < 3) : (vI A).toInt = (A : Int) - 1 := by rcases c3 h with rfl | rfl | rfl <;> decide
theorem sc_abc (N : Mi) {A B C : Nat} (hA : A < 3) (hB : B < 3) (hC : C < 3) : sc N (9 * A + 3 * B + C) = sq27 N ((A : Int) - 1) ((B : Int) - 1) ((C : Int) - 1) := by
  unfold sc k27
  dsimp only
  rw [show (9 * A + 3 * B + C) / 9 = A by omega, show (9 * A + 3 * B + C) / 3 % 3 = B by omega, show (9 * A + 3 * B + C) % 3 = C by omega]
theorem X11_k44 {f : Nat} (hf : 4 ≤ f) {k14 : CH → Nat → Int64 → Int32 → Int32 → Option (Int32 × CH)} {k23 : CH → Nat → Int64 → Int32 → Int32 → Int32 → Option (Int32 × CH)} {k32 : CH → Nat → Int64 → Int32 → Int32 → Int32 → Int32 → Option (Int32 × CH)} {h : CH} {x : Nat} {R : RA} {N : Mi} {c0 : Nat} (H : isRd h x R N c0) (s : Int64) (n0 : Int32) {A B C : Nat} (hA : A < 3) (hB : B < 3) (hC : C < 3) : m_X11_kissing_44 f k14 k23 k32 f h x s n0 (vI A) (vI B) (vI C) 0 0 = m_X11_kissing_118 f k14 k23 k32 h x s n0 (vI A) (vI B) (vI C) (li (sc N (9 * A + 3 * B + C))) := by
  obtain ⟨v2, p2, q2⟩ := loop3v (fun n v y => m_X11_kissing_44 f k14 k23 k32 n h x s n0 (vI A) (vI B) (vI C) v y) (fun v => m_X11_kissing_118 f k14 k23 k32 h x s n0 (vI A) (vI B) (vI C) v) (fun j v => v = li (p27 N ((A : Int) - 1) ((B : Int) - 1) ((C : Int) - 1) j))
    (fun n v _ => by rw [m_X11_kissing_44, if_pos le33])
    (fun n v j hj p => by
      refine ⟨_, ?_, rfl⟩
      have r0 : aR h 4 R.2.1 0 = some (R.2.2 0) := aR_R H.2 (i := 0) (by decide)
      have r1 : aR h 4 R.2.1 1 = some (R.2.2 1) := aR_R H.2 (i := 1) (by decide)
      have r2 : aR h 4 R.2.1 2 = some (R.2.2 2) := aR_R H.2 (i := 2) (by decide)
      rw [m_X11_kissing_44, if_neg (le3 hj), oR_c (k := 0) (x := R.1) H.1 rfl, bd_some, oR_R H.2, bd_some, r0, bd_some, aL_R H.2 (by decide) hj, bd_some, bd_some, oR_R H.2, bd_some, r1, bd_some, aL_R H.2 (by decide) hj, bd_some, bd_some, oR_R H.2, bd_some, r2, bd_some, aL_R H.2 (by decide) hj, bd_some]
      simp only [nmv_eq]
      rw [toL, toL, toL, vI_toInt hA, vI_toInt hB, vI_toInt hC]
      show m_X11_kissing_44 f k14 k23 k32 n h x s n0 (vI A) (vI B) (vI C) (v + (li ((A : Int) - 1) * li (N 0 j) + li ((B : Int) - 1) * li (N 1 j) + li ((C : Int) - 1) * li (N 2 j)) * (li ((A : Int) - 1) * li (N 0 j) + li ((B : Int) - 1) * li (N 1 j) + li ((C : Int) - 1) * li (N 2 j))) (ni j + 1) = _
      rw [li_mul, li_mul, li_mul, li_add, li_add, li_mul, p, li_add, ni_succ]
      rfl)
    hf (v := 0) rfl
  have e4 : m_X11_kissing_44 f k14 k23 k32 f h x s n0 (vI A) (vI B) (vI C) 0 0 = _ := q2
  rw [e4, p2, sc_abc N hA hB hC]
  rfl
theorem X11_k32 {f : Nat} (hf : 8 ≤ f) {k14 : CH → Nat → Int64 → Int32 → Int32 → Option (Int32 × CH)} {k23 : CH → Nat → Int64 → Int32 → Int32 → Int32 → Option (Int32 × CH)} {h : CH} {x : Nat} {R : RA} {N : Mi} {c0 : Nat} (H : isRd h x R N c0) {s : Int} (gs : rg s) (gc : ∀ c, c < 27 → rg (sc N c)) {A B : Nat} (hA : A < 3) (hB : B < 3) : ∀ k n C, C + k = 3 → k < n → m_X11_kissing_32 f k14 k23 n h x (li s) (ni (cn27 N s (9 * A + 3 * B + C))) (vI A) (vI B) (vI C) = k23 h x (li s) (ni (cn27 N s (9 * A + 3 * (B + 1)))) (vI A) (vI (B + 1)) := by
  intro k
  induction k with
  | zero =>
    intro n C hC hn
    obtain ⟨n, rfl⟩ : ∃ z, n = z + 1 := ⟨n - 1, by omega⟩
    have : C = 3 := by omega
    subst this
    rw [m_X11_kissing_32, if_pos vI_3]
    unfold m_X11_kissing_139
    rw [nmv_eq, vI_s]
    rfl
  | succ k ih =>
    intro n C hC hn
    obtain ⟨n, rfl⟩ : ∃ z, n = z + 1 := ⟨n - 1, by omega⟩
    have C3 : C < 3 := by omega
    rw [m_X11_kissing_32, if_neg (vI_lt C3), X11_k44 (by omega) H _ _ hA hB C3]
    unfold m_X11_kissing_118 m_X11_kissing_131
    simp only [nmv_eq]
    rw [vI_s, ← ih n (C + 1) (by omega) (by omega)]
    have e : cn27 N s (9 * A + 3 * B + (C + 1)) = cn27 N s (9 * A + 3 * B + C) + (if sc N (9 * A + 3 * B + C) = s then 1 else 0) := rfl
    rw [e]
    by_cases hs : sc N (9 * A + 3 * B + C) = s
    · rw [if_neg (fun h => h (by rw [hs])), if_pos hs, ← ni_succ]
    · rw [if_pos (show ¬ li (sc N (9 * A + 3 * B + C)) = li s from fun e => hs ((li_inj (gc _ (by omega)) gs).mp e)), if_neg hs, Int32.add_zero]
      rfl
theorem X11_k23 {f : Nat} (hf : 8 ≤ f) {k14 : CH → Nat → Int64 → Int32 → Int32 → Option (Int32 × CH)} {h : CH} {x : Nat} {R : RA} {N : Mi} {c0 : Nat} (H : isRd h x R N c0) {s : Int} (gs : rg s) (gc : ∀ c, c < 27 → rg (sc N c)) {A : Nat} (hA : A < 3) : ∀ k n B, B + k = 3 → k < n → m_X11_kissing_23 f k14 n h x (li s) (ni (cn27 N s (9 * A + 3 * B))) (vI A) (vI B) = k14 h x (li s) (ni (cn27 N s (9 * (A + 1)))) (vI (A + 1)) := by
  intro k
  induction k with
  | zero =>
    intro n B hB hn
    obtain ⟨n, rfl⟩ : ∃ z, n = z + 1 := ⟨n - 1, by omega⟩
    have : B = 3 := by omega
    subst this
    rw [m_X11_kissing_23, if_pos vI_3]
    unfold m_X11_kissing_145
    rw [nmv_eq, vI_s]
    rfl
  | succ k ih =>
    intro n B hB hn
    obtain ⟨n, rfl⟩ : ∃ z, n = z + 1 := ⟨n - 1, by omega⟩
    rw [m_X11_kissing_23, if_neg (vI_lt (by omega))]
    have e := X11_k32 (f := f) hf (k14 := k14) (k23 := m_X11_kissing_23 f k14 n) H gs gc hA (show B < 3 by omega) 3 f 0 rfl (by omega)
    have e' : m_X11_kissing_32 f k14 (m_X11_kissing_23 f k14 n) f h x (li s) (ni (cn27 N s (9 * A + 3 * B))) (vI A) (vI B) (-1) = _ := e
    rw [e']
    exact ih n (B + 1) (by omega) (by omega)
theorem X11_kissing {f : Nat} (hf : 8 ≤ f) {h : CH} {x : Nat} {R : RA} {N : Mi} {c0 : Nat} (H : isRd h x R N c0) (gs : rg (sqr N 0)) (gc : ∀ c, c < 27 → rg (sc N c)) : m_X11_kissing f h x = some (ni (cn27 N (sqr N 0) 27), h) := by
  unfold m_X11_kissing
  rw [oR_c (k := 0) (x := R.1) H.1 rfl, bd_some, gd_of (isC_R H.2), show m_X2_square f h R.1 0 = _ from X2_square H.2 (i := 0) (by decide), bd2_some]
  unfold m_X11_kissing_8
  have go : ∀ k n A, A + k = 3 → k < n → m_X11_kissing_14 f n h x (li (sqr N 0)) (ni (cn27 N (sqr N 0) (9 * A))) (vI A) = some (ni (cn27 N (sqr N 0) 27), h) := by
    intro k
    induction k with
    | zero =>
      intro n A hA hn
      obtain ⟨n, rfl⟩ : ∃ z, n = z + 1 := ⟨n - 1, by omega⟩
      have : A = 3 := by omega
      subst this
      rw [m_X11_kissing_14, if_pos vI_3]
      rfl
    | succ k ih =>
      intro n A hA hn
      obtain ⟨n, rfl⟩ : ∃ z, n = z + 1 := ⟨n - 1, by omega⟩
      rw [m_X11_kissing_14, if_neg (vI_lt (by omega))]
      have e := X11_k23 (f := f) hf (k14 := m_X11_kissing_14 f n) H gs gc (show A < 3 by omega) 3 f 0 rfl (by omega)
      have e' : m_X11_kissing_23 f (m_X11_kissing_14 f n) f h x (li (sqr N 0)) (ni (cn27 N (sqr N 0) (9 * A))) (vI A) (-1) = _ := e
      rw [e']
      exact ih n (A + 1) (by omega) (by omega)
  exact go 3 f 0 rfl (by omega)
theorem X3_k27 {f : Nat} (hf : 30 ≤ f) {u : TS} {N : Mi} (hR : tR 18 u N) {s : Int} (gs : rg s) (gc : ∀ c, c < 27 → rg (sc N c)) : m_X3_kiss_27 f f u (li s) 0 0 = some (ni (cn27 N s 27), u) := by
  obtain ⟨v2, p2, q2⟩ := loopn (fun n v x => m_X3_kiss_27 f n u (li s) v x) (fun v => some (v, u)) (fun k v => v = ni (cn27 N s k)) 27
    (fun n v _ => by rw [m_X3_kiss_27, if_pos (show (27 : Int32) ≤ ni 27 from lekk 27)]; rfl)
    (fun n v c hc p => by
      refine ⟨_, ?_, rfl⟩
      rw [m_X3_kiss_27, if_neg (show ¬ (27 : Int32) ≤ ni c from lek (by decide) hc), X3_sumLength (by omega) hR hc, bd2_some]
      unfold m_X3_kiss_52
      simp only [nmv_eq, ni_succ]
      have e : cn27 N s (c + 1) = cn27 N s c + (if sc N c = s then 1 else 0) := rfl
      rw [e, p]
      by_cases hs : sc N c = s
      · rw [if_neg (fun h => h (by rw [hs])), if_pos hs, ni_succ]
      · rw [if_pos (show ¬ li (sc N c) = li s from fun e => hs ((li_inj (gc _ (by omega)) gs).mp e)), if_neg hs, Int32.add_zero]
        rfl)
    27 f 0 0 rfl (by omega) rfl
  have e4 : m_X3_kiss_27 f f u (li s) 0 0 = _ := q2
  rw [e4, p2]
theorem herm_nz {M : Mi} {n : Int} {tn : Bool} (LO : LatOk M n tn) : dtf (hrun 100 (M, [])).1 ≠ 0 := by rw [← det_m3]; have := H_pos LO.run.2.1; omega
theorem shr_rg {N : Mi} (h : shr N) : rg (sqr N 0) := by
  have := (h.2.2 22 (by decide)).2
  have e22 : sc N 22 = sqr N 0 := by
    show sq27 N 1 0 0 = sqr N 0
    unfold sq27 sqr; grind
  rwa [e22] at this
theorem q_kiss {f : Nat} (hf : 2 ^ 63 ≤ f) {h : CH} {x : Nat} {u : TS} {LS : LSt} (E : QE h x u LS) (l : Int32) : QA (m_X0_kiss f h x l) (m_X3_kiss f u l) h u := by
  obtain ⟨w, kf0, C, T, L⟩ := E
  unfold m_X0_kiss m_X3_kiss m_X0_kiss_5 m_X0_kiss_21
  rw [gd_of C.isC, X0_isLattice C, bd2_some, X3_isLattice T, bd2_some]
  cases h1 : isLI LS l with
  | false => exact QA.mk (l := []) rfl rfl (Ext.rf w) (by omega) (by omega) Fr.rf (by decide)
  | true =>
    obtain ⟨k, M, n, tn, rfl, hk, hl⟩ := isLI_ni T.2.1 h1
    have LO := L k M n tn hl
    obtain ⟨R, h', a1, a2, a3⟩ := X0_reducedOf (f := f) hf w kf0 C hl LO
    obtain ⟨u', b1, b2, b3, b4, b5⟩ := X3_laysShort (f := f) hf T hl LO
    have sh := rdN_shr (herm_sh LO) (herm_nz LO)
    have gs := shr_rg sh
    refine QA.mk (r := ni (cn27 (rdN (hrun 100 (M, [])).1) (sqr (rdN (hrun 100 (M, [])).1) 0) 27)) (h' := h') (u' := u') ?_ ?_ a3 (by omega) (by omega) b5 (by decide)
    · rw [ift1, gd_of C.isC, a1, bd2_some]
      unfold m_X0_kiss_13
      rw [gd_of (isC_c a2.1), X11_kissing (f := f) (by omega) a2 gs (fun c hc => (sh.2.2 c hc).2), bd2_some]
      rfl
    · rw [nift1, b1, bd_some, X3_leastLength (f := f) (by omega) b2 sh, bd2_some, X3_k27 (f := f) (by omega) b2 gs (fun c hc => (sh.2.2 c hc).2)]
theorem q_meetLength {f : Nat} (hf : 2 ^ 63 ≤ f) {h : CH} {x : Nat} {u : TS} {LS : LSt} (E : QE h x u LS) (l m j : Int32) : QA (m_X0_meetLength f h x l m j) (m_X3_meetLength f u l m j) h u := by
  have E' := E
  obtain ⟨w, kf0, C, T, L⟩ := E
  unfold m_X0_meetLength m_X3_meetLength
  rw [gd_of C.isC]
  rcases ask_cases (f := f) E' l m with ⟨e1, e2⟩ | ⟨k1, k2, M1, n1, t1, M2, n2, t2, rfl, rfl, hk1, hk2, hl1, hl2, ⟨e1, e2⟩ | ⟨e1, e2, ht⟩⟩
  · rw [e1, e2, bd2_some, bd2_some]
    exact QA.mk (l := []) rfl rfl (Ext.rf w) (by omega) (by omega) Fr.rf (by decide)
  · rw [e1, e2, bd2_some, bd2_some]
    unfold m_X0_meetLength_6
    rw [m3_2, m3_2, X0_isPart, in3_li j (a := 1) (hi := 1) rfl rg_1]
    cases s1 : inI j.toInt 0 1 with
    | false => exact QA.mk (l := []) rfl rfl (Ext.rf w) (by omega) (by omega) Fr.rf (by decide)
    | true =>
      rw [bd_some, nift1, z_m3, bd_some, nift1, z_m3]
      exact QA.mk (l := []) rfl rfl (Ext.rf w) (by omega) (by omega) Fr.rf (by decide)
  · rw [e1, e2, bd2_some, bd2_some]
    unfold m_X0_meetLength_6
    rw [z_2, z_2, X0_isPart, in3_li j (a := 1) (hi := 1) rfl rg_1]
    cases s1 : inI j.toInt 0 1 with
    | false => exact QA.mk (l := []) rfl rfl (Ext.rf w) (by omega) (by omega) Fr.rf (by decide)
    | true =>
      obtain ⟨j, rfl, hj⟩ := part_ni s1
      rw [bd_some, nift1, z_z, bd_some, nift1, z_z]
      obtain ⟨P, Q, b, eP, eQ, eb, pq, b1, b2, ⟨a, h2, c1, ⟨R0, c2, c3'⟩, c4'⟩, u2, d1, d2, d3, d4⟩ := meet_CT (f := f) hf E' hl1 hl2 ht
      obtain ⟨_, _, _, _, m5, _, _, _, _, m10, m11⟩ := pq.mt
      have ent := SF_ent m11 m5
      obtain ⟨g, g0, g1, g2, g3, g4⟩ := ls_ok (F := mtC P Q) (o := b) (by omega)
      have entG : ∀ i j, i < 3 → j < 3 → (lsG (mtC P Q) b i j).natAbs ≤ 170000000 := fun i j hi hj => by
        have h1 := ent i j hi hj
        exact Nat.le_trans (Int.natAbs_tdiv_le_natAbs _ _) (by omega)
      have nzG : dtf (lsG (mtC P Q) b) ≠ 0 := fun e => by
        have hF := H_pos m5.1
        rw [g2, det_sm, det_m3, e] at hF
        simp at hF
      have sO := shOk_of entG
      have sh := rdN_shr sO nzG
      have gs := shr_rg sh
      have mob : lsO (mtC P Q) b ≤ b := by
        have := Int.mul_le_mul_of_nonneg_right (show (1 : Int) ≤ g by omega) (show 0 ≤ lsO (mtC P Q) b by omega)
        omega
      generalize hmo : lsO (mtC P Q) b = mo at *
      generalize hG : lsG (mtC P Q) b = G at *
      have mm := n2_le (n := mo) ⟨by omega, by omega⟩
      have r2 : rg (mo * mo) := ⟨by omega, by omega⟩
      have hz : Int.gcd (sqr (rdN G) 0) (mo * mo) ≠ 0 := fun e => by have := (Int.gcd_eq_zero_iff.mp e).2; omega
      -- the component
      have e1' : Ext 1 2 h2 (cn h2 2 (.inl (11, [.null, .int 0]))) := Mod.cn c4'.wf
      have c2' := e1'.at c4'.wf c2 id
      have c3'' := c3'.ext e1' c4'.wf
      obtain ⟨R, h3, y1, y2, y3⟩ := C_new11 (f := f) hf e1'.wf (cm_cn_s h2 2 _) c3'' sO
      have e3 : Ext 6 15 h2 h3 := (Ext.trn e1' y3 (fun q hq => by omega)).up (by omega) (by omega)
      have c2'' := e3.at c4'.wf c2 id
      -- the twin
      obtain ⟨B, s1', s2, s3⟩ := sO
      obtain ⟨u3, t1', t2', t3', t4'⟩ := X3_shortens (f := f) (k := rK) (by rw [rK_eq]; omega) s1' s2 s3 nzG d2
      have o19 : tL u3 19 = li mo := by rw [(t4' 19 (by decide)).2.1]; exact d3
      refine QA.mk (l := QF) (r := li ((if j = 0 then sqr (rdN G) 0 else mo * mo).tdiv (Int.gcd (sqr (rdN G) 0) (mo * mo)))) (h' := h3) (u' := u3) ?_ ?_ (c4'.tr e3 (fun _ _ => id)) (by omega) (by omega) ((d4.mono (by decide)).tr (t4'.mono (by decide))) (fun _ h => h)
      · rw [gd_of C.isC, c1, bd2_some]
        unfold m_X0_meetLength_41
        simp only [nmv_eq]
        unfold m_X0_meetLength_46
        rw [oR_c (k := 0) (x := R0.1) c2' rfl, bd_some, y1, bd_some]
        unfold m_X0_meetLength_55
        rw [oR_c (k := 0) (x := R.1) y2.1 rfl, bd_some, gd_of (isC_R y2.2), show m_X2_square f h3 R.1 0 = _ from X2_square y2.2 (i := 0) (by decide), bd2_some]
        unfold m_X0_meetLength_62
        rw [oL_c (k := 1) (x := li mo) c2'' rfl, bd_some, bd_some, li_mul, X0_partr gs r2 hz hj, bd_some]
      · rw [d1, bd_some, t1', bd_some, show m_X3_leastLength f u3 = _ from X3_leastLength (f := f) (by omega) t2' sh, bd2_some, o19, li_mul]
        have e9 : m_X3_part f (li (sqr (rdN G) 0)) (li (mo * mo)) (ni j) = _ := X3_part (f := f) hf gs r2 hz hj
        exact (by rw [show sqr (flp (rdg rK G 0).1) 0 = sqr (rdN G) 0 from rfl, e9, bd_some])
