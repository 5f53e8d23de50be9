/-! feed -/
set_option maxRecDepth 100000
theorem bitk (V : BitVec 32) (s : Nat) (hs : s ≤ 24) : (BitVec.signExtend 32 (BitVec.signExtend 8 (V.sshiftRight s)) &&& 255#32) = (V >>> s &&& 255#32) := by
  ext i hi
  simp only [BitVec.getElem_and]
  by_cases h8 : i < 8
  · congr 1
    have e1 : (BitVec.signExtend 32 (BitVec.signExtend 8 (V.sshiftRight s)))[i] = (BitVec.signExtend 8 (V.sshiftRight s))[i] := by
      rw [BitVec.getElem_signExtend, dif_pos h8]
    have e2 : (BitVec.signExtend 8 (V.sshiftRight s))[i] = (V.sshiftRight s)[i] := by
      rw [BitVec.getElem_signExtend, dif_pos hi]
    have e3 : (V.sshiftRight s)[i] = V.getLsbD (s + i) := by
      rw [BitVec.getElem_sshiftRight, dif_pos (by omega)]
      exact (BitVec.getLsbD_eq_getElem _).symm
    have e4 : (V >>> s)[i] = V.getLsbD (s + i) := by
      rw [BitVec.getElem_ushiftRight]
    rw [e1, e2, e3, e4]
  · have : (255#32)[i] = false := by
      have : ∀ i (hi : i < 32), ¬ i < 8 → (255#32)[i] = false := by decide
      exact this i hi h8
    rw [this, Bool.and_false, Bool.and_false]
/-- byte k of four -/
def bt (v : Int32) (k : Nat) : Nat := ((ushI v (ni (24 - 8 * k))) &&& (255 : Int32)).toBitVec.toNat
theorem bt_lt (v : Int32) (k : Nat) : bt v k < 256 := by
  unfold bt
  rw [Int32.toBitVec_and, BitVec.toNat_and]
  exact Nat.lt_of_le_of_lt Nat.and_le_right (by decide)
theorem bt_T (v : Int32) (k : Nat) : ushI v (ni (24 - 8 * k)) &&& (255 : Int32) = ni (bt v k) := by
  apply Int32.toBitVec_inj.mp
  show _ = BitVec.ofNat 32 (bt v k)
  unfold bt
  rw [BitVec.ofNat_toNat, BitVec.setWidth_eq]
theorem bt_C (v : Int32) {k : Nat} (hk : k < 4) : (vp_nar .byte (Int8.toInt32 (Int32.toInt8 (v >>> ((ni (24 - 8 * k)) &&& 31))))) &&& (255 : Int32) = ni (bt v k) := by
  have e0 : vp_nar .byte (Int8.toInt32 (Int32.toInt8 (v >>> ((ni (24 - 8 * k)) &&& 31)))) = Int8.toInt32 (Int32.toInt8 (v >>> ((ni (24 - 8 * k)) &&& 31))) := by
    show (Int8.toInt32 (Int32.toInt8 (v >>> ((ni (24 - 8 * k)) &&& 31)))).toInt8.toInt32 = _
    rw [Int8.toInt8_toInt32]
  rw [e0, ← bt_T]
  apply Int32.toBitVec_inj.mp
  unfold ushI
  have key : ∀ s : Nat, s ≤ 24 → (v >>> ((ni s) &&& 31)).toBitVec = v.toBitVec.sshiftRight s → (v.toUInt32 >>> ((ni s).toUInt32 &&& Int32.toUInt32 31)).toInt32.toBitVec = v.toBitVec >>> s → (Int8.toInt32 (Int32.toInt8 (v >>> ((ni s) &&& 31))) &&& (255 : Int32)).toBitVec = ((v.toUInt32 >>> ((ni s).toUInt32 &&& Int32.toUInt32 31)).toInt32 &&& (255 : Int32)).toBitVec := fun s hs e1 e2 => by
    rw [Int32.toBitVec_and, Int32.toBitVec_and, Int8.toBitVec_toInt32, Int32.toBitVec_toInt8, e1, e2]
    exact bitk _ s hs
  rcases (show k = 0 ∨ k = 1 ∨ k = 2 ∨ k = 3 by omega) with rfl | rfl | rfl | rfl
  · exact key 24 (by decide) (by rw [Int32.toBitVec_shiftRight]; rfl) rfl
  · exact key 16 (by decide) (by rw [Int32.toBitVec_shiftRight]; rfl) rfl
  · exact key 8 (by decide) (by rw [Int32.toBitVec_shiftRight]; rfl) rfl
  · exact key 0 (by decide) (by rw [Int32.toBitVec_shiftRight]; rfl) rfl
def fS (A : Nat → Nat) : Nat → Prop := fun q => q = A 23 ∨ q = A 2
/-- one byte more on the component's tape -/
theorem CIv.put1 {h : CH} {A : Nat → Nat} {lo : Nat} {al : List Nat} (O : AOk A lo al) {b : Nat → Nat} {n : Nat} {fk fp : Int32} {ts : List It} {W : Nat → Mi} {acts : List Act} {wy : Why} (C : CIv h A lo b n fk fp ts W acts wy) (hn : n < 500) {X : Int32} {c : Nat} (hc : c < 256) (hX : X &&& 255 = ni c) : ∃ h1 h2, oR h 1 2 (A 23) = some (A 2) ∧ oI h 1 3 (A 23) = some (ni n) ∧ uI h 2 (A 2) (ni n) X = some h1 ∧ oI h1 1 3 (A 23) = some (ni n) ∧ pF h1 1 3 (A 23) (.int (ni (n + 1))) = some h2 ∧ CIv h2 A lo (fun i => if i = n then c else b i) (n + 1) fk fp ts W acts wy ∧ Mod (fS A) 0 0 h h2 := by
  obtain ⟨w, kf0, l0, n5, ⟨s1, s2, rf, c1, cw⟩, X0, ⟨tf, c2, c3'⟩, ⟨fl, L⟩, acl, AC'⟩ := C
  have b2 := (w.1 _ _ c2).1
  have u1 : uI h 2 (A 2) (ni n) X = some (cs h (A 2) (.inr (2, 500, .inl (upd tf n X)))) := by
    unfold uI; rw [c2]
    show (if 2 = 2 ∧ h.2.2.1 ≤ A 2 ∧ ix (ni n) 500 = true then _ else _) = _
    rw [if_pos ⟨rfl, b2, ix_ni hn (by decide)⟩, ni_clamp (by omega)]
  have n232 : A 23 ≠ A 2 := O.ne (by decide) (by decide) (by decide) (by decide) (by decide)
  have m1 : Mod (fS A) 0 0 h (cs h (A 2) (.inr (2, 500, .inl (upd tf n X)))) := Mod.cs w c2 (.inr rfl)
  have c1' : cm (cs h (A 2) (.inr (2, 500, .inl (upd tf n X)))) (A 23) = some (xC A (ni ts.length) (ni n) fk fp s1 s2 rf) := by rw [cm_cs_o _ n232]; exact c1
  have p1 : pF (cs h (A 2) (.inr (2, 500, .inl (upd tf n X)))) 1 3 (A 23) (.int (ni (n + 1))) = some (cs (cs h (A 2) (.inr (2, 500, .inl (upd tf n X)))) (A 23) (xC A (ni ts.length) (ni (n + 1)) fk fp s1 s2 rf)) := pF_c c1' m1.wf (by simp) _
  have m2 : Mod (fS A) 0 0 _ (cs (cs h (A 2) (.inr (2, 500, .inl (upd tf n X)))) (A 23) (xC A (ni ts.length) (ni (n + 1)) fk fp s1 s2 rf)) := Mod.cs m1.wf c1' (.inl rfl)
  have m := m1.tr m2 (fun _ _ => id)
  have lt : ∀ i, i < 30 → i ≠ 24 → A i < lo := fun i hi h4 => (O.2.1 _ (fA_i hi h4)).1
  have slo : ∀ q, fS A q → q < lo := fun q hq => by
    rcases hq with hq | hq
    · rw [hq]; exact lt 23 (by decide) (by decide)
    · rw [hq]; exact lt 2 (by decide) (by decide)
  have no : ∀ i, i < 30 → i ≠ 24 → i ≠ 23 → i ≠ 2 → ¬ fS A (A i) := fun i hi h4 h3 h2 e => by
    rcases e with e | e
    · exact O.ne hi (by decide) h4 (by decide) h3 e
    · exact O.ne hi (by decide) h4 (by decide) h2 e
  generalize hh : cs (cs h (A 2) (.inr (2, 500, .inl (upd tf n X)))) (A 23) (xC A (ni ts.length) (ni (n + 1)) fk fp s1 s2 rf) = h2 at m p1
  have x2 : cm h2 (A 23) = some (xC A (ni ts.length) (ni (n + 1)) fk fp s1 s2 rf) := by rw [← hh]; exact cm_cs_s _ _ _
  have t2 : cm h2 (A 2) = some (.inr (2, 500, .inl (upd tf n X))) := by rw [← hh, cm_cs_o _ (Ne.symm n232)]; exact cm_cs_s _ _ _
  have hs : ∀ q, fS A q → ∀ ci fs, cm h q = some (.inl (ci, fs)) → ∃ fs', cm h2 q = some (.inl (ci, fs')) := fun q hq ci fs hc => by
    rcases hq with hq | hq
    · rw [hq] at hc ⊢; rw [c1] at hc; cases hc; exact ⟨_, x2⟩
    · rw [hq, c2] at hc; cases hc
  have X1 : FX h2 A := by
    obtain ⟨⟨p, hp⟩, ⟨F, v, m0, a1, a2, a3⟩, ⟨g, a4⟩, ⟨N, a5⟩, a6, a7⟩ := X0
    refine ⟨⟨p, m.at w hp (no 3 (by decide) (by decide) (by decide) (by decide))⟩, ⟨F, v, m0, m.at w a1 (no 4 (by decide) (by decide) (by decide) (by decide)), a2.mod m w (no 25 (by decide) (by decide) (by decide) (by decide)) (no 26 (by decide) (by decide) (by decide) (by decide)) (fun i hi => no (27 + i) (by omega) (by omega) (by omega) (by omega)), m.at w a3 (no 5 (by decide) (by decide) (by decide) (by decide))⟩, ⟨g, a4.md m w (no 6 (by decide) (by decide) (by decide) (by decide)) (fun i hi => no (7 + i) (by omega) (by omega) (by omega) (by omega))⟩, ⟨N, a5.md m w (no 10 (by decide) (by decide) (by decide) (by decide)) (fun i hi => no (11 + i) (by omega) (by omega) (by omega) (by omega))⟩, m.at w a6 (no 14 (by decide) (by decide) (by decide) (by decide)), fun k hk => ?_⟩
    obtain ⟨r, b1, b2⟩ := a7 k hk
    exact ⟨r, m.at w b1 (no (15 + k) (by omega) (by omega) (by omega) (by omega)), b2⟩
  refine ⟨_, h2, oR_c c1 rfl, oI_c c1 rfl, u1, oI_c c1' rfl, p1, ⟨m.wf, kf0.mod m, Nat.le_trans l0 m.ge, by omega, ⟨s1, s2, rf, x2, cw.nw m w slo⟩, X1, ⟨_, t2, fun i hi => ?_⟩, ⟨fl, L.nw m w kf0.kok slo (no 0 (by decide) (by decide) (by decide) (by decide)) (no 1 (by decide) (by decide) (by decide) (by decide)) hs⟩, acl, AC'.nw m w kf0.kok slo (no 21 (by decide) (by decide) (by decide) (by decide)) (no 22 (by decide) (by decide) (by decide) (by decide)) hs⟩, m⟩
  show (if i = n then c else b i) < 256 ∧ ((if i = n then X else tf i) &&& 255) = ni (if i = n then c else b i)
  by_cases e : i = n
  · rw [if_pos e, if_pos e]; exact ⟨hc, hX⟩
  · rw [if_neg e, if_neg e]; exact c3' i (by omega)
theorem CIv.cgb {h : CH} {A : Nat → Nat} {lo : Nat} {b b' : Nat → Nat} {n : Nat} {fk fp : Int32} {ts : List It} {W : Nat → Mi} {acts : List Act} {wy : Why} (C : CIv h A lo b n fk fp ts W acts wy) (e : ∀ i, i < n → b i = b' i) : CIv h A lo b' n fk fp ts W acts wy := by
  obtain ⟨w, kf0, l0, n5, a1, X, ⟨tf, c2, c3'⟩, a2⟩ := C
  exact ⟨w, kf0, l0, n5, a1, X, ⟨tf, c2, fun i hi => by rw [← e i hi]; exact c3' i hi⟩, a2⟩
def bap (b : Nat → Nat) (n : Nat) (v : Int32) : Nat → Nat := fun i => if i < n then b i else bt v (i - n)
theorem X0_puts {f : Nat} (hf : 10 < f) {h : CH} {A : Nat → Nat} {lo : Nat} {al : List Nat} (O : AOk A lo al) {b : Nat → Nat} {n : Nat} {fk fp : Int32} {ts : List It} {W : Nat → Mi} {acts : List Act} {wy : Why} (C : CIv h A lo b n fk fp ts W acts wy) (hn : n + 4 ≤ 500) (v : Int32) : ∃ h', m_X0_puts f h (A 23) v = some h' ∧ CIv h' A lo (bap b n v) (n + 4) fk fp ts W acts wy ∧ Mod (fS A) 0 0 h h' := by
  have key : ∀ j k m h1, k + j = 4 → j < m → CIv h1 A lo (bap b n v) (n + k) fk fp ts W acts wy → Mod (fS A) 0 0 h h1 → ∃ h', m_X0_puts_3 f m h1 (A 23) v (ni 24 - 8 * ni k) = some h' ∧ CIv h' A lo (bap b n v) (n + 4) fk fp ts W acts wy ∧ Mod (fS A) 0 0 h h' := by
    intro j
    induction j with
    | zero =>
      intro k m h1 hk hm C1 M1
      obtain ⟨m, rfl⟩ : ∃ z, m = z + 1 := ⟨m - 1, by omega⟩
      have : k = 4 := by omega
      subst this
      rw [m_X0_puts_3, if_pos (show (ni 24 - 8 * ni 4 : Int32) < 0 by decide)]
      exact ⟨h1, rfl, C1, M1⟩
    | succ j ih =>
      intro k m h1 hk hm C1 M1
      obtain ⟨m, rfl⟩ : ∃ z, m = z + 1 := ⟨m - 1, by omega⟩
      have k4 : k < 4 := by omega
      have ek : (ni 24 - 8 * ni k : Int32) = ni (24 - 8 * k) ∧ ¬ (ni 24 - 8 * ni k : Int32) < 0 ∧ (ni 24 - 8 * ni k : Int32) + (-8) = ni 24 - 8 * ni (k + 1) := by
        have : ∀ k, k < 4 → (ni 24 - 8 * ni k : Int32) = ni (24 - 8 * k) ∧ ¬ (ni 24 - 8 * ni k : Int32) < 0 ∧ (ni 24 - 8 * ni k : Int32) + (-8) = ni 24 - 8 * ni (k + 1) := by decide
        exact this k k4
      obtain ⟨g1, g2, a1, a2, a3, a4, a5, a6, a7⟩ := C1.put1 O (by omega) (bt_lt v k) (bt_C v k4)
      rw [m_X0_puts_3, if_neg ek.2.1, a1, bd_some, a2, bd_some, ek.1, a3, bd_some, a4, bd_some, ni_succ, a5, bd_some, nmv_eq, ← ek.1, ek.2.2]
      exact ih (k + 1) m g2 (by omega) (by omega) (a6.cgb (fun i hi => by
        show (if i = n + k then bt v k else bap b n v i) = bap b n v i
        by_cases e : i = n + k
        · rw [if_pos e]; unfold bap; rw [if_neg (by omega), e, show n + k - n = k by omega]
        · rw [if_neg e])) (M1.tr a7 (fun _ _ => id))
  unfold m_X0_puts
  exact key 4 0 f h rfl (by omega) (C.cgb (fun i hi => by unfold bap; rw [if_pos (by omega)])) (Mod.rf C.1)
def fv (a b c d e : Int32) (k : Nat) : Int32 := [a, b, c, d, e].getD k 0
def b20 (b : Nat → Nat) (n : Nat) (g : Nat → Int32) : Nat → Nat := fun i => if i < n then b i else bt (g ((i - n) / 4)) ((i - n) % 4)
theorem ok_feed {f : Nat} (hf : 100 < f) {h : CH} {A : Nat → Nat} {lo y : Nat} {al : List Nat} {b : Nat → Nat} {n : Nat} {fk fp : Int32} {ts : List It} {W : Nat → Mi} {acts : List Act} {wy : Why} (I : Inv h A lo y al b n fk fp ts W acts wy) (a1 a2 a3 a4 a5 : Int32) : Ok (m_X0_feed f h (A 23) a1 a2 a3 a4 a5) (fun h1 => m_X3_feed f h1 y a1 a2 a3 a4 a5) h A lo y al := by
  have I' := I
  obtain ⟨O, C, P, u, H, T⟩ := I'
  have C' := C
  obtain ⟨w, kf0, l0, n5, ⟨s1, s2, rf, c1, cw⟩, _⟩ := C'
  have o3 : oI h 1 3 (A 23) = some (ni n) := oI_c c1 rfl
  have e20 : (ni n : Int32) + 20 = ni (n + 20) := (Int32.ofNat_add n 20).symm
  have t4 := T.1.1
  by_cases hn : n + 20 ≤ 500
  · obtain ⟨h1, p1, q1, r1⟩ := X0_puts (f := f) (by omega) O C (by omega) a1
    obtain ⟨h2, p2, q2, r2⟩ := X0_puts (f := f) (by omega) O q1 (by omega) a2
    obtain ⟨h3, p3', q3, r3⟩ := X0_puts (f := f) (by omega) O q2 (by omega) a3
    obtain ⟨h4, p4, q4, r4⟩ := X0_puts (f := f) (by omega) O q3 (by omega) a4
    obtain ⟨h5, p5, q5, r5⟩ := X0_puts (f := f) (by omega) O q4 (by omega) a5
    have M5 : Mod (fS A) 0 0 h h5 := (((r1.tr r2 (fun _ _ => id)).tr r3 (fun _ _ => id)).tr r4 (fun _ _ => id)).tr r5 (fun _ _ => id)
    have C5 : CIv h5 A lo (b20 b n (fv a1 a2 a3 a4 a5)) (n + 20) fk fp ts W acts wy := (show CIv h5 A lo _ (n + 20) fk fp ts W acts wy from q5).cgb (fun i hi => by
      unfold bap b20
      by_cases i0 : i < n
      · rw [if_pos (by omega), if_pos (by omega), if_pos (by omega), if_pos (by omega), if_pos i0, if_pos i0]
      · rw [if_neg i0]
        by_cases j1 : i < n + 4
        · rw [if_pos (by omega), if_pos (by omega), if_pos (by omega), if_pos (by omega), if_neg i0, show (i - n) / 4 = 0 by omega, show (i - n) % 4 = i - n by omega]; rfl
        · by_cases j2 : i < n + 4 + 4
          · rw [if_pos (by omega), if_pos (by omega), if_pos (by omega), if_neg (by omega), if_neg i0, show (i - n) / 4 = 1 by omega, show (i - n) % 4 = i - (n + 4) by omega]; rfl
          · by_cases j3 : i < n + 4 + 4 + 4
            · rw [if_pos (by omega), if_pos (by omega), if_neg (by omega), if_neg i0, show (i - n) / 4 = 2 by omega, show (i - n) % 4 = i - (n + 4 + 4) by omega]; rfl
            · by_cases j4 : i < n + 4 + 4 + 4 + 4
              · rw [if_pos (by omega), if_neg (by omega), if_neg i0, show (i - n) / 4 = 3 by omega, show (i - n) % 4 = i - (n + 4 + 4 + 4) by omega]; rfl
              · rw [if_neg (by omega), if_neg i0, show (i - n) / 4 = 4 by omega, show (i - n) % 4 = i - (n + 4 + 4 + 4 + 4) by omega]; rfl)
    have al2 : ∀ q, q ∈ al → ¬ fS A q := fun q hq e => by
      rcases e with e | e
      · exact (O.2.1 _ (fA_i (i := 23) (by decide) (by decide))).2 (by rw [← e]; exact hq)
      · exact (O.2.1 _ (fA_i (i := 2) (by decide) (by decide))).2 (by rw [← e]; exact hq)
    have H5 := H.md M5 al2
    have ic : ∀ {h : CH} {b : Nat → Nat} {n : Nat}, CIv h A lo b n fk fp ts W acts wy → isC h (A 23) 1 = true := fun {h b n} C => by
      obtain ⟨_, _, _, _, ⟨s1, s2, rf, c1, _⟩, _⟩ := C
      unfold isC; rw [c1]; rfl
    have o5 : oI h5 1 3 (A 23) = some (ni (n + 20)) := by
      obtain ⟨_, _, _, _, ⟨s1, s2, rf, c1, _⟩, _⟩ := C5
      exact oI_c c1 rfl
    have ec : m_X0_feed f h (A 23) a1 a2 a3 a4 a5 = some (ni (n + 20), h5) := by
      unfold m_X0_feed m_X0_feed_20 m_X0_feed_25 m_X0_feed_30 m_X0_feed_36 m_X0_feed_42
      rw [o3, bd_some, e20, if_pos (show ni (n + 20) ≤ (500 : Int32) from (ni_le (k := 500) (by omega) (by decide)).mpr hn), gd_of (ic C), p1, bd_some, gd_of (ic q1), p2, bd_some, gd_of (ic q2), p3', bd_some, gd_of (ic q3), p4, bd_some, gd_of (ic q4), p5, bd_some, o5, bd_some]
    -- the twin
    have eV : Ext 1 5 h5 (cn h5 5 (.inr (0, 5, .inl (fun _ => 0)))) := Mod.cn M5.wf
    have cV := cm_cn_s h5 5 (.inr (0, 5, .inl (fun _ => (0 : Int32))))
    have hVs : h5.1 ∉ al := fun hv => by have := (H5.lt hv).2; omega
    have H6 := H5.md eV (fun _ _ => id)
    have C6 := C5.ext eV
    generalize hg6 : cn h5 5 (.inr (0, 5, .inl (fun _ => 0))) = h6 at eV cV H6 C6
    have st : ∀ {h : CH} (w : wfh h) {g : Nat → Int32} (hc : cm h h5.1 = some (.inr (0, 5, .inl g))) {i : Nat} (hi : i < 5) (v : Int32), uI h 0 h5.1 (ni i) v = some (cs h h5.1 (.inr (0, 5, .inl (upd g i v)))) := fun {h} w {g} hc {i} hi v => by
      unfold uI; rw [hc]
      show (if 0 = 0 ∧ h.2.2.1 ≤ h5.1 ∧ ix (ni i) 5 = true then _ else _) = _
      rw [if_pos ⟨rfl, (w.1 _ _ hc).1, ix_ni hi (by decide)⟩, ni_clamp (by omega)]
    have z0 : uI h6 0 h5.1 0 a1 = _ := st eV.wf cV (i := 0) (by decide) a1
    have n1 : Mod (· = h5.1) 0 0 h6 (cs h6 h5.1 (.inr (0, 5, .inl (upd (fun _ => 0) 0 a1)))) := Mod.cs eV.wf cV rfl
    have d1 := cm_cs_s h6 h5.1 (.inr (0, 5, .inl (upd (fun _ => 0) 0 a1)))
    have z1' : uI _ 0 h5.1 1 a2 = _ := st n1.wf d1 (i := 1) (by decide) a2
    have n2 : Mod (· = h5.1) 0 0 _ (cs _ h5.1 (.inr (0, 5, .inl (upd (upd (fun _ => 0) 0 a1) 1 a2)))) := Mod.cs n1.wf d1 rfl
    have d2 := cm_cs_s (cs h6 h5.1 (.inr (0, 5, .inl (upd (fun _ => 0) 0 a1)))) h5.1 (.inr (0, 5, .inl (upd (upd (fun _ => 0) 0 a1) 1 a2)))
    have z2' : uI _ 0 h5.1 2 a3 = _ := st n2.wf d2 (i := 2) (by decide) a3
    have n3 : Mod (· = h5.1) 0 0 _ (cs _ h5.1 (.inr (0, 5, .inl (upd (upd (upd (fun _ => 0) 0 a1) 1 a2) 2 a3)))) := Mod.cs n2.wf d2 rfl
    have d3 := cm_cs_s (cs (cs h6 h5.1 (.inr (0, 5, .inl (upd (fun _ => 0) 0 a1)))) h5.1 (.inr (0, 5, .inl (upd (upd (fun _ => 0) 0 a1) 1 a2)))) h5.1 (.inr (0, 5, .inl (upd (upd (upd (fun _ => 0) 0 a1) 1 a2) 2 a3)))
    have z3' : uI _ 0 h5.1 3 a4 = _ := st n3.wf d3 (i := 3) (by decide) a4
    have n4 : Mod (· = h5.1) 0 0 _ (cs _ h5.1 (.inr (0, 5, .inl (upd (upd (upd (upd (fun _ => 0) 0 a1) 1 a2) 2 a3) 3 a4)))) := Mod.cs n3.wf d3 rfl
    have d4 := cm_cs_s (cs (cs (cs h6 h5.1 (.inr (0, 5, .inl (upd (fun _ => 0) 0 a1)))) h5.1 (.inr (0, 5, .inl (upd (upd (fun _ => 0) 0 a1) 1 a2)))) h5.1 (.inr (0, 5, .inl (upd (upd (upd (fun _ => 0) 0 a1) 1 a2) 2 a3)))) h5.1 (.inr (0, 5, .inl (upd (upd (upd (upd (fun _ => 0) 0 a1) 1 a2) 2 a3) 3 a4)))
    have z4' : uI _ 0 h5.1 4 a5 = _ := st n4.wf d4 (i := 4) (by decide) a5
    have n5' : Mod (· = h5.1) 0 0 _ (cs _ h5.1 (.inr (0, 5, .inl (upd (upd (upd (upd (upd (fun _ => 0) 0 a1) 1 a2) 2 a3) 3 a4) 4 a5)))) := Mod.cs n4.wf d4 rfl
    have N7 := (((n1.tr n2 (fun _ _ => id)).tr n3 (fun _ _ => id)).tr n4 (fun _ _ => id)).tr n5' (fun _ _ => id)
    have c7 := cm_cs_s (cs (cs (cs (cs h6 h5.1 (.inr (0, 5, .inl (upd (fun _ => 0) 0 a1)))) h5.1 (.inr (0, 5, .inl (upd (upd (fun _ => 0) 0 a1) 1 a2)))) h5.1 (.inr (0, 5, .inl (upd (upd (upd (fun _ => 0) 0 a1) 1 a2) 2 a3)))) h5.1 (.inr (0, 5, .inl (upd (upd (upd (upd (fun _ => 0) 0 a1) 1 a2) 2 a3) 3 a4)))) h5.1 (.inr (0, 5, .inl (upd (upd (upd (upd (upd (fun _ => 0) 0 a1) 1 a2) 2 a3) 3 a4) 4 a5)))
    have sm : m_X3_feed f h5 y a1 a2 a3 a4 a5 = m_X3_feed_42 f f (cs (cs (cs (cs (cs h6 h5.1 (.inr (0, 5, .inl (upd (fun _ => 0) 0 a1)))) h5.1 (.inr (0, 5, .inl (upd (upd (fun _ => 0) 0 a1) 1 a2)))) h5.1 (.inr (0, 5, .inl (upd (upd (upd (fun _ => 0) 0 a1) 1 a2) 2 a3)))) h5.1 (.inr (0, 5, .inl (upd (upd (upd (upd (fun _ => 0) 0 a1) 1 a2) 2 a3) 3 a4)))) h5.1 (.inr (0, 5, .inl (upd (upd (upd (upd (upd (fun _ => 0) 0 a1) 1 a2) 2 a3) 3 a4) 4 a5)))) y h5.1 0 := by
      unfold m_X3_feed m_X3_feed_15
      rw [H5.i4, bd_some, t4, if_pos (show ni n ≤ (480 : Int32) from (ni_le (k := 480) (by omega) (by decide)).mpr (by omega)), nmv_eq, nmv_eq, hg6, z0, bd_some, z1', bd_some, z2', bd_some, z3', bd_some, z4', bd_some]
    generalize cs (cs (cs (cs (cs h6 h5.1 (.inr (0, 5, .inl (upd (fun _ => 0) 0 a1)))) h5.1 (.inr (0, 5, .inl (upd (upd (fun _ => 0) 0 a1) 1 a2)))) h5.1 (.inr (0, 5, .inl (upd (upd (upd (fun _ => 0) 0 a1) 1 a2) 2 a3)))) h5.1 (.inr (0, 5, .inl (upd (upd (upd (upd (fun _ => 0) 0 a1) 1 a2) 2 a3) 3 a4)))) h5.1 (.inr (0, 5, .inl (upd (upd (upd (upd (upd (fun _ => 0) 0 a1) 1 a2) 2 a3) 3 a4) 4 a5))) = h7 at N7 c7 sm
    have H7 := H6.md N7 (fun q hq e => hVs (by have e' : q = h5.1 := e; rw [← e']; exact hq))
    have av : ∀ {g : CH}, cm g h5.1 = cm h7 h5.1 → ∀ k, k < 5 → aI g 0 h5.1 (ni k) = some (fv a1 a2 a3 a4 a5 k) := fun {g} hg k hk => by
      unfold aI; rw [hg, c7]
      simp only [ix_ni hk (by decide), and_self, if_true]
      rw [ni_clamp (by omega)]
      rcases (show k = 0 ∨ k = 1 ∨ k = 2 ∨ k = 3 ∨ k = 4 by omega) with rfl | rfl | rfl | rfl | rfl <;> rfl
    have ea : ∀ x y : Nat, (ni x : Int32) + ni y = ni (x + y) := fun x y => (Int32.ofNat_add x y).symm
    have key : ∀ j k m g v, k + j = 20 → j < m → Pst h7 y al u [3] g v → (∀ i, i < n → tA v 3 i = tA u 3 i) → (∀ i, i < k → tA v 3 (n + i) = ni (bt (fv a1 a2 a3 a4 a5 (i / 4)) (i % 4))) → ∃ g' v', m_X3_feed_42 f m g y h5.1 (ni k) = m_X3_feed_89 f g' y ∧ Pst h7 y al u [3] g' v' ∧ (∀ i, i < n → tA v' 3 i = tA u 3 i) ∧ ∀ i, i < 20 → tA v' 3 (n + i) = ni (bt (fv a1 a2 a3 a4 a5 (i / 4)) (i % 4)) := by
      intro j
      induction j with
      | zero =>
        intro k m g v hk hm Pg e1 e2
        obtain ⟨m, rfl⟩ : ∃ z, m = z + 1 := ⟨m - 1, by omega⟩
        have : k = 20 := by omega
        subst this
        rw [m_X3_feed_42, if_pos (show (20 : Int32) ≤ ni 20 from lekk 20)]
        exact ⟨g, v, rfl, Pg, e1, e2⟩
      | succ j ih =>
        intro k m g v hk hm Pg e1 e2
        obtain ⟨m, rfl⟩ : ∃ z, m = z + 1 := ⟨m - 1, by omega⟩
        have k20 : k < 20 := by omega
        have e4 : tI v 4 = ni n := by rw [Pg.2.1.1 4 (by decide) (by decide)]; exact t4
        have ek : (ni k / (4 : Int32)) = ni (k / 4) ∧ ((24 : Int32) - ((8 : Int32) * (rmI (ni k) (4 : Int32)))) = ni (24 - 8 * (k % 4)) := by
          have : ∀ k, k < 20 → (ni k / (4 : Int32)) = ni (k / 4) ∧ ((24 : Int32) - ((8 : Int32) * (rmI (ni k) (4 : Int32)))) = ni (24 - 8 * (k % 4)) := by decide +kernel
          exact this k k20
        have hcg : cm g h5.1 = cm h7 h5.1 := Pg.2.2.2.2.2.2.2.2.1 _ (by have := (N7.wf.1 _ _ c7).2; exact this) hVs
        obtain ⟨g1, d1, d2, d3⟩ := Pg.1.u3 (i := n + k) (by omega) (ni (bt (fv a1 a2 a3 a4 a5 (k / 4)) (k % 4)))
        rw [m_X3_feed_42, if_neg (show ¬ (20 : Int32) ≤ ni k from fun hh => by have := (ni_le (n := 20) (by decide) (by omega)).mp hh; omega), Pg.1.r3, bd_some, Pg.1.i4, bd_some, e4, ek.1, av hcg (k / 4) (by omega), bd_some, ek.2, bt_T, ea, d1, bd_some, nmv_eq, ni_succ]
        refine ih (k + 1) m g1 _ (by omega) (by omega) (Pg.tr ⟨d2, (Fr.sA (l := [3]) (by decide)).rF, d3⟩) (fun i hi => ?_) (fun i hi => ?_)
        · rw [tA_sA, if_neg (fun hh => by have := hh.2; omega)]; exact e1 i hi
        · rw [tA_sA]
          by_cases e : i = k
          · rw [if_pos ⟨rfl, by omega⟩, e]
          · rw [if_neg (fun hh => by have := hh.2; omega)]; exact e2 i (by omega)
    obtain ⟨g8, v8, k1, k2, k3, k4⟩ := key 20 0 f h7 u rfl (by omega) (Pst.rf H7) (fun _ _ => rfl) (fun i hi => by omega)
    have k1' : m_X3_feed_42 f f h7 y h5.1 0 = m_X3_feed_89 f g8 y := k1
    have e4 : tI v8 4 = ni n := by rw [k2.2.1.1 4 (by decide) (by decide)]; exact t4
    obtain ⟨g9, j1, j2, j3⟩ := k2.1.pi4 (ni (n + 20))
    have i9 : oI g9 0 4 y = some (ni (n + 20)) := j2.i4
    have et : m_X3_feed f h5 y a1 a2 a3 a4 a5 = some (ni (n + 20), g9) := by
      rw [sm, k1']
      unfold m_X3_feed_89
      rw [k2.1.i4, bd_some, e4, e20, j1, bd_some, i9, bd_some]
    have C7 : CIv h7 A lo (b20 b n (fv a1 a2 a3 a4 a5)) (n + 20) fk fp ts W acts wy := C5.ext (Ext.trn (S := fun _ => False) eV N7 (fun q hq => by have e' : q = h5.1 := hq; omega))
    have M79 := k2.2.2.tr j3 (fun _ _ => id)
    have C9 := C7.tw O H7 j2 M79
    have F9 : rF [3, 4] u (sI v8 4 (ni (n + 20))) := (k2.2.1.mono (by decide)).tr (Fr.sI (l := [3, 4]) (by decide)).rF
    refine ⟨ni (n + 20), h5, g9, ec, H5.isC, et, ?_, ?_, b20 b n (fv a1 a2 a3 a4 a5), n + 20, fk, fp, ts, W, acts, wy, O, C9, P, _, j2, ?_⟩
    · have := M5.2.1; have := eV.2.1; have := N7.2.1; have := M79.2.1; omega
    · have := M5.2.2.2.1; have := eV.2.2.2.1; have := N7.2.2.2.1; have := M79.2.2.2.1; omega
    · obtain ⟨t0, t1, t2, t3, t4', t5, t6, t7, t8, t9⟩ := T
      have e0 : tA (sI v8 4 (ni (n + 20))) 0 = tA u 0 := F9.2.2.1 0 (by decide) (by decide)
      have e2 : tA (sI v8 4 (ni (n + 20))) 2 = tA u 2 := F9.2.2.1 2 (by decide) (by decide)
      refine ⟨⟨rfl, by omega, fun i hi => ?_⟩, by rw [F9.1 5 (by decide) (by decide)]; exact t1, by rw [F9.1 6 (by decide) (by decide)]; exact t2, by rw [e0]; exact t3, by rw [e0]; exact t4', by rw [e0]; exact t5, by rw [e0]; exact t6, by rw [e0]; exact t7, by rw [e2]; exact t8, ?_⟩
      · have et3 : tA (sI v8 4 (ni (n + 20))) 3 = tA v8 3 := rfl
        rw [et3]
        unfold b20
        by_cases i0 : i < n
        · rw [if_pos i0]; exact ⟨(t0.2.2 i i0).1, by rw [k3 i i0]; exact (t0.2.2 i i0).2⟩
        · rw [if_neg i0]
          have := k4 (i - n) (by omega)
          rw [show n + (i - n) = i by omega] at this
          exact ⟨bt_lt _ _, this⟩
      · cases wy with
        | none => show tI _ 7 = 0; rw [F9.1 7 (by decide) (by decide)]; exact t9
        | some z =>
          obtain ⟨q1', q2', q3', q4'⟩ := z
          exact ⟨by rw [F9.1 7 (by decide) (by decide)]; exact t9.1, t9.2.1, by rw [F9.1 8 (by decide) (by decide)]; exact t9.2.2.1, by rw [F9.1 9 (by decide) (by decide)]; exact t9.2.2.2.1, by rw [F9.1 10 (by decide) (by decide)]; exact t9.2.2.2.2⟩
  · refine ⟨-1, h, h, ?_, H.isC, ?_, by omega, by omega, b, n, fk, fp, ts, W, acts, wy, I⟩
    · unfold m_X0_feed
      rw [o3, bd_some, e20, if_neg (show ¬ ni (n + 20) ≤ (500 : Int32) from fun hh => hn ((ni_le (k := 500) (by omega) (by decide)).mp hh))]
    · show m_X3_feed f h y a1 a2 a3 a4 a5 = _
      unfold m_X3_feed
      rw [H.i4, bd_some, t4, if_neg (show ¬ ni n ≤ (480 : Int32) from fun hh => by have := (ni_le (k := 480) (by omega) (by decide)).mp hh; omega)]
