/-! ways: the twin, in the heap -/
set_option maxRecDepth 100000
theorem HT.B {h : CH} {y : Nat} {al : List Nat} {u : TS} (H : HT h y al u) {k : Nat} (hk : k ∈ [18, 27, 29, 32]) : ∃ a, oR h 0 k y = some a ∧ ∀ i, i < 9 → aL h 1 a (ni i) = some (tB u k i) := by
  obtain ⟨w, ad, t, rfl⟩ := H
  simp only [List.mem_cons, List.not_mem_nil, or_false] at hk
  have g : ∀ k, (ad k, (.inr (1, 9, .inr (.inl (tB u k))) : AC)) ∈ twl ad u → ∀ i, i < 9 → aL h 1 (ad k) (ni i) = some (tB u k i) := fun k hm i hi => by
    unfold aL; rw [(t.2.1 _ hm).1]
    simp only [ix_ni hi (by decide), and_self, if_true]
    rw [ni_clamp (by omega)]
  rcases hk with rfl | rfl | rfl | rfl
  · exact ⟨ad 18, oR_c t.obj rfl, g 18 (by unfold twl; simp)⟩
  · exact ⟨ad 27, oR_c t.obj rfl, g 27 (by unfold twl; simp)⟩
  · exact ⟨ad 29, oR_c t.obj rfl, g 29 (by unfold twl; simp)⟩
  · exact ⟨ad 32, oR_c t.obj rfl, g 32 (by unfold twl; simp)⟩
theorem sgb_T : ∀ w, w < 48 → ∀ j, j < 3 → decide ((((rmI (ni w) (8 : Int32)) >>> (((2 : Int32) - ni j) &&& 31)) &&& (1 : Int32)) = (1 : Int32)) = sgb w j := by decide +kernel
theorem ord_ix : ∀ w, w < 48 → ∀ j, j < 3 → ((3 : Int32) * (ni w / (8 : Int32))) + ni j = ni (3 * (w / 8) + j) := by decide +kernel
theorem ord_ch : ∀ k, k < 6 → ∀ j, j < 3 → (strC.getD 10 []).getD (3 * k + j) 0 = 48 + ordT k j := by decide +kernel
theorem ord_at : ∀ i, i < 3 → ∀ o, o < 3 → (((3 : Int32) * ni i + ni (48 + o)) - (48 : Int32)) = ni (3 * i + o) := by decide +kernel
/-- a row as the way takes it -/
theorem X3_g85 {f : Nat} (hf : 4 ≤ f) {k76 : CH → Nat → Int32 → Int64 → Nat → Int32 → Option (Int32 × CH)} {h0 : CH} {y : Nat} {al : List Nat} {u : TS} (H : HT h0 y al u) (kf0 : kf h0) {M : Mi} (hM : tR 27 u M) {V : Nat} (hVa : V ∉ al) {v0 : Nat → Int} (hV : cm h0 V = some (vcl v0)) {w : Nat} (hw : w < 48) {i : Nat} (hi : i < 3) (n1 : Int64) : ∃ h', m_X3_goesBy_85 f k76 f h0 y (ni w) n1 V (ni i) 0 = m_X3_goesBy_155 f k76 h' y (ni w) n1 V (ni i) ∧ cm h' V = some (vcl (goV M w i)) ∧ Mod (· = V) 0 0 h0 h' := by
  obtain ⟨h', ⟨p1, v, p2, pp⟩, q2⟩ := loop3v (fun n h z => m_X3_goesBy_85 f k76 n h y (ni w) n1 V (ni i) z) (fun h => m_X3_goesBy_155 f k76 h y (ni w) n1 V (ni i)) (fun j h => Mod (· = V) 0 0 h0 h ∧ ∃ v, cm h V = some (vcl v) ∧ ∀ z, z < j → v z = goV M w i z)
    (fun n v _ => by rw [m_X3_goesBy_85, if_pos le33])
    (fun m h j hj ⟨p1, v, p2, pp⟩ => by
      have H1 := H.md p1 (fun q hq e => hVa (by have e' : q = V := e; rw [← e']; exact hq))
      have kf1 := kf0.mod p1
      obtain ⟨a, a1, a2⟩ := H1.B (k := 27) (by decide)
      obtain ⟨s, s1, s2⟩ := K_str p1.wf kf1 (i := 10) (by decide)
      have ot := ordT_lt (w / 8) (by omega) j hj
      have ch := J6_charAt (f := f) s2 (i := 3 * (w / 8) + j) (by have : (strC.getD 10 []).length = 18 := rfl; omega)
      rw [ord_ch (w / 8) (by omega) j hj] at ch
      have al0 : aL h 1 a (ni (3 * i + ordT (w / 8) j)) = some (li (M i (ordT (w / 8) j))) := by
        rw [a2 _ (by omega), hM i _ hi ot]
      refine ⟨cs h V (vcl (vst v j (goV M w i j))), ?_, ?_, vst v j (goV M w i j), cm_cs_s _ _ _, fun z hz => ?_⟩
      · rw [m_X3_goesBy_85, if_neg (le3 hj), a1, bd_some, s1, bd_some, gd_of s2.d.1, ord_ix w hw j hj, ch, bd2_some]
        unfold m_X3_goesBy_114
        rw [ord_at i hi _ ot, al0, bd_some]
        have hs0 := sgb_T w hw j hj
        cases hs : sgb w j with
        | false =>
          rw [hs] at hs0
          rw [if_pos (show ¬ _ from of_decide_eq_false hs0)]
          unfold m_X3_goesBy_148
          have eg : goV M w i j = M i (ordT (w / 8) j) := by unfold goV; rw [hs]; rfl
          rw [eg, uL_V p1.wf p2 hj, bd_some, nmv_eq, ni_succ]
        | true =>
          rw [hs] at hs0
          rw [if_neg (show ¬ ¬ _ from fun hn => hn (of_decide_eq_true hs0))]
          unfold m_X3_goesBy_148
          have eg : goV M w i j = -(M i (ordT (w / 8) j)) := by unfold goV; rw [hs]; rfl
          rw [eg, li_neg, uL_V p1.wf p2 hj, bd_some, nmv_eq, ni_succ]
      · exact (p1.tr (Mod.cs (S := (· = V)) p1.wf p2 rfl) (fun _ _ => id))
      · unfold vst
        split
        · rename_i e; rw [e]
        · exact pp z (by omega))
    hf (v := h0) ⟨Mod.rf H.1, v0, hV, fun z hz => by omega⟩
  exact ⟨h', q2, by rw [p2, vcl_congr pp], p1⟩
theorem X3_g76 {f : Nat} (hf : 4 ≤ f) {h0 : CH} (kf0 : kf h0) {M1 M2 : Mi} {n1 n2 : Int} {t1 t2 : Bool} (LO1 : LatOk M1 n1 t1) (LO2 : LatOk M2 n2 t2) {y : Nat} {al : List Nat} {V : Nat} (hVa : V ∉ al) {w : Nat} (hw : w < 48) : ∀ k n i h u, i + k = 3 → k < n → HT h y al u → Mod (fun q => q ∈ al ∨ q = V) 0 0 h0 h → tR 27 u M1 → tR 18 u (hrun 100 (M2, [])).1 → tL u 19 = li n2 → (∃ v, cm h V = some (vcl v)) → ∃ (g : Bool) (h' : CH) (u' : TS), m_X3_goesBy_76 f n h y (ni w) (li n1) V (ni i) = some (if g = true then 1 else 0, h') ∧ (g = true ↔ ∀ j, i ≤ j → j < 3 → hasP (m3 M2) n2 (v3 (goV M1 w j)) n1) ∧ HT h' y al u' ∧ Mod (fun q => q ∈ al ∨ q = V) 0 0 h0 h' ∧ rF [26] u u' := by
  intro k
  induction k with
  | zero =>
    intro n i h u hi hn H e _ _ _ _
    obtain ⟨n, rfl⟩ : ∃ z, n = z + 1 := ⟨n - 1, by omega⟩
    have : i = 3 := by omega
    subst this
    rw [m_X3_goesBy_76, if_pos le33]
    exact ⟨true, h, u, rfl, ⟨fun _ j h1 h2 => by omega, fun _ => rfl⟩, H, e, Fr.rf.rF⟩
  | succ k ih =>
    intro n i h u hi hn H e tM tH tn ⟨v, hv⟩
    obtain ⟨n, rfl⟩ : ∃ z, n = z + 1 := ⟨n - 1, by omega⟩
    have i3' : i < 3 := by omega
    obtain ⟨h2, s1, s2, s3⟩ := X3_g85 (f := f) hf (k76 := m_X3_goesBy_76 f n) H (kf0.mod e) tM hVa hv hw i3' (li n1)
    rw [m_X3_goesBy_76, if_neg (le3 i3'), show (0 : Int32) = ni 0 from rfl]
    rw [show (0 : Int32) = ni 0 from rfl] at s1
    rw [s1]
    have H2 := H.md s3 (fun q hq e => hVa (by have e' : q = V := e; rw [← e']; exact hq))
    unfold m_X3_goesBy_155
    have l0 : aL h2 1 V 0 = some (li (goV M1 w i 0)) := aL_V s2 (j := 0) (by decide)
    have l1 : aL h2 1 V 1 = some (li (goV M1 w i 1)) := aL_V s2 (j := 1) (by decide)
    have l2 : aL h2 1 V 2 = some (li (goV M1 w i 2)) := aL_V s2 (j := 2) (by decide)
    rw [show (ni 0 : Int32) = 0 from rfl, l0, bd_some, l1, bd_some, l2, bd_some]
    have A := H2.agr
    obtain ⟨g, u3, o1, o2, o3⟩ := has_T (f := f) hf (u := rdU h2 y) LO2 (A.tR (by decide) tH) (by rw [A.L (by decide)]; exact tn) (p := goV M1 w i) (X := 1247) (by decide) (goV_le LO1 hw i3') LO1.n
    obtain ⟨h3, c1, H3, m3'⟩ := H2.tcr (mf := fun z => m_X3_hasPoint f z (li (goV M1 w i 0)) (li (goV M1 w i 1)) (li (goV M1 w i 2)) (li n1)) o1
    rw [c1, bd2_some]
    have f3 : rF [26] u u3 := A.rF.tr o3.rF
    have e3 : Mod (fun q => q ∈ al ∨ q = V) 0 0 h0 h3 := (e.tr (s3.mono (T := fun q => q ∈ al ∨ q = V) (fun _ _ hh => .inr hh) (Nat.le_refl _) (Nat.le_refl _)) (fun _ _ => id)).tr (m3'.mono (T := fun q => q ∈ al ∨ q = V) (fun _ _ hh => .inl hh) (Nat.le_refl _) (Nat.le_refl _)) (fun _ _ => id)
    cases g with
    | false =>
      rw [niff0]
      refine ⟨false, h3, u3, rfl, ⟨fun hh => (by cases hh), fun hh => ?_⟩, H3, e3, f3⟩
      have := o2.mpr (hh i (Nat.le_refl _) i3')
      cases this
    | true =>
      rw [nift1, nmv_eq, ni_succ]
      obtain ⟨g', h', u', z1', z2', z3', z4', z5⟩ := ih n (i + 1) h3 u3 (by omega) (by omega) H3 e3 (fun a b ha hb => by rw [f3.2.2.2 27 (by decide) (by decide)]; exact tM a b ha hb) (fun a b ha hb => by rw [f3.2.2.2 18 (by decide) (by decide)]; exact tH a b ha hb) (by rw [f3.2.1 19 (by decide) (by decide)]; exact tn) ⟨_, m3'.at s3.wf s2 hVa⟩
      refine ⟨g', h', u', z1', z2'.trans ⟨fun hh j h1 h2 => ?_, fun hh j h1 h2 => hh j (by omega) h2⟩, z3', z4', f3.tr z5⟩
      by_cases hji : j = i
      · rw [hji]; exact o2.mp rfl
      · exact hh j (by omega) h2
theorem X3_goesBy {f : Nat} (hf : 2 ^ 63 ≤ f) {h : CH} {y : Nat} {al : List Nat} {u : TS} {LS : LSt} (H : HT h y al u) (kf0 : kf h) (T : TV u LS) (L : LV LS) {k1 k2 : Nat} {M1 M2 : Mi} {n1 n2 : Int} {t1 t2 : Bool} (hl1 : LS[k1]? = some (M1, n1, t1)) (hl2 : LS[k2]? = some (M2, n2, t2)) {w : Nat} (hw : w < 48) : ∃ (g : Bool) (h' : CH) (u' : TS), m_X3_goesBy f h y (ni w) (ni k1) (ni k2) = some (if g = true then 1 else 0, h') ∧ (g = true ↔ gPr M1 n1 M2 n2 w) ∧ HT h' y al u' ∧ Mod (· ∈ al) 1 3 h h' ∧ rF QF u u' := by
  have LO1 := L k1 M1 n1 t1 hl1
  have LO2 := L k2 M2 n2 t2 hl2
  have b1 := LO1.n
  have b2 := LO2.n
  have d1 := LO1.e.2
  have d2 := LO2.e.2
  have f4 : 4 ≤ f := by omega
  unfold m_X3_goesBy
  have T0 := H.agr.tv T
  obtain ⟨v, a1, a2, a3, a4⟩ := (T0.2.2 k1 M1 n1 t1 hl1).1 f hf (rdU h y) (fun _ => rfl)
  obtain ⟨v2, e1, e2, e3, e4, e5, e6⟩ := X3_laysFirst (f := f) (by omega) a1 a2 a3 a4
  obtain ⟨h1, c1, H1, m1⟩ := H.tcv (mf := fun z => m_X3_laysFirst f z (ni k1)) e1
  have F1' : rF [18, 19, 20, 27, 28] u v2 := H.agr.rF.tr e6.rF
  have D1 : m_X3_det f (rdU h1 y) = some (li (dtf M1), rdU h1 y) := X3_det f4 (H1.agr.tR (by decide) e4)
  obtain ⟨h2, c2, H2, m2⟩ := H1.tcr (mf := fun z => m_X3_det f z) D1
  have H2 := H2.up (v := v2) (Eq.symm H1.agr)
  obtain ⟨h3, u3, c3', H3, r3, o3, m3', f3⟩ := HT_lays (f := f) hf H2 (F1'.tv (by decide) T) hl2
  have D3 : m_X3_det f (rdU h3 y) = some (li (dtf M2), rdU h3 y) := X3_det f4 (H3.agr.tR (by decide) r3)
  obtain ⟨h4, c4, H4, m4⟩ := H3.tcr (mf := fun z => m_X3_det f z) D3
  have H4 := H4.up (v := u3) (Eq.symm H3.agr)
  have F3 : rF [18, 19, 20, 27, 28] u u3 := F1'.tr (f3.mono (by decide))
  have m04 : Mod (· ∈ al) 0 0 h h4 := ((m1.tr m2 (fun _ _ => id)).tr m3' (fun _ _ => id)).tr m4 (fun _ _ => id)
  have t27 : tR 27 u3 M1 := fun i j hi hj => by rw [f3.2.2.2 27 (by decide) (by decide)]; exact e2 i j hi hj
  rw [c1, bd_some, c2, bd2_some, sized_li (rg_nat.mpr (by omega)), bd_some, H2.oL, bd_some, c3', bd_some, H3.oL, bd_some, bd_some, bd_some, c4, bd2_some, sized_li (rg_nat.mpr (by omega)), bd_some, e5, o3, li_mul, li_mul, li_mul, li_mul, li_mul, li_mul]
  have bnd : ∀ (D : Nat) (n : Int), D ≤ 2799360 → 1 ≤ n ∧ n ≤ 36 → rg ((D : Int) * n * n * n) := fun D n hD hn => by
    refine rg_nat.mpr ?_
    rw [Int.natAbs_mul, Int.natAbs_mul, Int.natAbs_mul, Int.natAbs_natCast]
    have hn' : n.natAbs ≤ 36 := by omega
    exact Nat.lt_of_le_of_lt (Nat.mul_le_mul (Nat.mul_le_mul (Nat.mul_le_mul hD hn') hn') hn') (by decide)
  have g1 := bnd _ n2 d1 b2
  have g2 := bnd _ n1 d2 b1
  by_cases hq : ((dtf M1).natAbs : Int) * n2 * n2 * n2 = ((dtf M2).natAbs : Int) * n1 * n1 * n1
  · rw [if_pos ((li_inj g1 g2).mpr hq)]
    have A4 := H4.agr
    obtain ⟨v5, x1, x2⟩ := X3_forms (f := f) f4 (show 100 < f by omega) (A4.tR (by decide) r3) LO2.run.1
    obtain ⟨h5, c5, H5, m5⟩ := H4.tcv (mf := fun z => m_X3_forms f z) x1
    rw [c5, bd_some, nmv_eq, nmv_eq]
    unfold m_X3_goesBy_71
    have m6 : Ext 1 3 h5 (cn h5 3 (.inr (1, 3, .inr (.inl (fun _ => 0))))) := Mod.cn m5.wf
    have hV : h5.1 ∉ al := fun hv => by have := (H5.lt hv).2; omega
    have H6 := H5.md m6 (fun _ _ => id)
    have m05 := m04.tr m5 (fun _ _ => id)
    have f5 : rF fF u3 v5 := A4.rF.tr x2.2.2.rF
    obtain ⟨g, h', u', z1', z2', z3', z4', z5⟩ := X3_g76 (f := f) f4 ((kf0.mod m05).mod m6) LO1 LO2 hV hw 3 f 0 _ v5 rfl (by omega) H6 (Mod.rf m6.wf) (fun a b ha hb => by rw [f5.2.2.2 27 (by decide) (by decide)]; exact t27 a b ha hb) x2.1 (by rw [f5.2.1 19 (by decide) (by decide)]; exact o3) ⟨fun _ => 0, by rw [cm_cn_s, vcl_0]⟩
    refine ⟨g, h', u', z1', z2'.trans ⟨fun hh => ⟨fun i hi => hh i (Nat.zero_le _) hi, hq⟩, fun hh j _ hj => hh.1 j hj⟩, z3', ?_, ((F3.mono (by decide)).tr (f5.mono (by decide))).tr (z5.mono (by decide))⟩
    refine ((m05.tr m6 (fun _ _ hh => hh.elim)).tr z4' (fun q hq hh => ?_)).up (by omega) (by omega)
    rcases hh with hh | hh
    · exact hh
    · have := m05.ge; omega
  · rw [if_neg (fun hn => hq ((li_inj g1 g2).mp hn))]
    exact ⟨false, h4, u3, rfl, ⟨fun hh => (by cases hh), fun hh => absurd hh.2 hq⟩, H4, m04.up (by omega) (by omega), F3.mono (by decide)⟩
