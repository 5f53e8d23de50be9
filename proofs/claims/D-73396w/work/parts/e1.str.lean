/-! Strings: constants and made ones -/
set_option maxRecDepth 100000
/-- the String at a has these letters -/
def isS (h : CH) (a : Nat) (bs : List Nat) : Prop := bs.length ≤ 500 ∧ (∀ b, b ∈ bs → b < 128) ∧ ∃ v, ((∃ c3 c4, cm h a = some (.inl (19, [.ref v, .int 0, c3, c4]))) ∧ (∃ f, cm h v = some (.inr (2, bs.length, .inl f)) ∧ ∀ i, i < bs.length → f i = ni (bs.getD i 0))) ∨ (cm h a = none ∧ h.2.2.2.2.1 a = some (.inr (.inl v)) ∧ cm h v = none ∧ h.2.2.2.2.1 v = some (.inr (.inr (bs.map ni))))
theorem isS.d {h : CH} {a : Nat} {bs : List Nat} (H : isS h a bs) : isC h a 19 = true ∧ oI h 19 1 a = some 0 ∧ isO h a = true ∧ ∃ v, oR h 19 0 a = some v ∧ aN h 2 v = some bs.length ∧ ∀ i, i < bs.length → aI h 2 v (ni i) = some (ni (bs.getD i 0)) := by
  obtain ⟨hl, _, v, ⟨⟨c3, c4, h1⟩, f, h2, h3⟩ | ⟨h1, h2, h3, h4⟩⟩ := H
  · refine ⟨by unfold isC; rw [h1]; rfl, oI_c h1 rfl, by unfold isO; rw [h1]; rfl, v, oR_c h1 rfl, by unfold aN; rw [h2]; rfl, fun i hi => ?_⟩
    unfold aI; rw [h2]
    simp only [ix_ni hi (by omega), and_self, if_true]
    rw [ni_clamp (by omega), h3 i hi]
  · refine ⟨by unfold isC; rw [h1, h2]; rfl, by unfold oI oF; rw [h1, h2]; rfl, by unfold isO; rw [h1, h2], v, by unfold oR oF; rw [h1, h2]; rfl, ?_, fun i hi => ?_⟩
    · unfold aN; rw [h3, h4]
      simp only [if_true, List.length_map]
    · unfold aI; rw [h3, h4]
      simp only [List.length_map, ix_ni hi (by omega), and_self, if_true]
      rw [ni_clamp (by omega)]
      simp only [List.getD_eq_getElem?_getD, List.getElem?_map]
      rw [List.getElem?_eq_getElem hi]
      rfl
theorem isS.ext {k n : Nat} {h h1 : CH} {a : Nat} {bs : List Nat} (H : isS h a bs) (m : Ext k n h h1) (w : wfh h) (kk : kok h) : isS h1 a bs := by
  obtain ⟨hl, h0, v, ⟨⟨c3, c4, q1⟩, f, q2, q3⟩ | ⟨q1, q2, q3, q4⟩⟩ := H
  · exact ⟨hl, h0, v, .inl ⟨⟨c3, c4, m.at w q1 id⟩, f, m.at w q2 id, q3⟩⟩
  · have no : ∀ q e, h.2.2.2.2.1 q = some e → cm h q = none → cm h1 q = none := fun q e he hc => by
      have := kk q e he
      rw [m.2.2.2.2.2.2.1 q (by have := w.2; omega) id]; exact hc
    exact ⟨hl, h0, v, .inr ⟨no _ _ q2 q1, by rw [m.2.2.2.2.2.1]; exact q2, no _ _ q4 q3, by rw [m.2.2.2.2.2.1]; exact q4⟩⟩
/-- cells of S are changed, none of them is of the String -/
theorem isS.mod {S : Nat → Prop} {k n : Nat} {h h1 : CH} {a : Nat} {bs : List Nat} (H : isS h a bs) (m : Mod S k n h h1) (w : wfh h) (kk : kok h) (hS : ∀ q, S q → h.2.2.1 ≤ q ∧ (∀ fs, cm h q ≠ some (.inl (19, fs))) ∧ ∀ n f, cm h q ≠ some (.inr (2, n, .inl f))) : isS h1 a bs := by
  obtain ⟨hl, h0, v, ⟨⟨c3, c4, q1⟩, f, q2, q3⟩ | ⟨q1, q2, q3, q4⟩⟩ := H
  · exact ⟨hl, h0, v, .inl ⟨⟨c3, c4, m.at w q1 (fun hs => (hS _ hs).2.1 _ q1)⟩, f, m.at w q2 (fun hs => (hS _ hs).2.2 _ _ q2), q3⟩⟩
  · have no : ∀ q e, h.2.2.2.2.1 q = some e → cm h q = none → cm h1 q = none := fun q e he hc => by
      have := kk q e he
      rw [m.2.2.2.2.2.2.1 q (by have := w.2; omega) (fun hs => by have := (hS _ hs).1; omega)]; exact hc
    exact ⟨hl, h0, v, .inr ⟨no _ _ q2 q1, by rw [m.2.2.2.2.2.1]; exact q2, no _ _ q4 q3, by rw [m.2.2.2.2.2.1]; exact q4⟩⟩
theorem isS.one {h : CH} {a : Nat} {bs bs' : List Nat} (H : isS h a bs) (H' : isS h a bs') : bs = bs' := by
  obtain ⟨_, _, _, v, e1, e2, e3⟩ := H.d
  obtain ⟨_, _, _, v', e1', e2', e3'⟩ := H'.d
  have hv : v = v' := Option.some.inj (e1.symm.trans e1')
  subst hv
  have hl : bs.length = bs'.length := Option.some.inj (e2.symm.trans e2')
  refine List.ext_getElem hl (fun i h1 h2 => ?_)
  have q := (e3 i h1).symm.trans (e3' i h2)
  have q := Option.some.inj q
  have b1 := H.2.1 (bs[i]) (List.getElem_mem h1)
  have b2 := H'.2.1 (bs'[i]) (List.getElem_mem h2)
  simp only [List.getD_eq_getElem?_getD, List.getElem?_eq_getElem h1, List.getElem?_eq_getElem h2, Option.getD_some] at q
  exact (ni_inj (by omega) (by omega)).mp q
theorem ch_and : ∀ b, b < 128 → ((ni b) &&& (255 : Int32)) = ni b ∧ UInt32.toInt32 (Int32.toUInt32 (ni b) % 65536) = ni b ∧ cb (ni b) = true := by decide +kernel
theorem J12_ck {f : Nat} {h : CH} {i n : Nat} (hi : i < n) (hn : n < 2 ^ 31) : m_J6_checkIndex f h (ni i) (ni n) = some h := by
  have h1 : ¬ ni i < 0 := by
    rw [show (0 : Int32) = ni 0 from rfl, ni_lt (by omega) (by omega)]; omega
  have h2 : ni i < ni n := (ni_lt (by omega) (by omega)).mpr hi
  unfold m_J6_checkIndex
  by_cases hs : sR h 10 = none
  · rw [if_pos hs]; unfold m_J12_checkIndex_N2; rw [if_neg h1, if_pos h2, bd2_some]; rfl
  · rw [if_neg hs]
    cases hq : sR h 10 with
    | none => exact absurd hq hs
    | some q => rw [bd_some]; unfold m_J12_checkIndex; rw [if_neg h1, if_pos h2, bd2_some]; rfl
theorem J6_charAt {f : Nat} {h : CH} {a : Nat} {bs : List Nat} (H : isS h a bs) {i : Nat} (hi : i < bs.length) : m_J6_charAt f h a (ni i) = some (ni (bs.getD i 0), h) := by
  obtain ⟨d1, d2, _, v, d3, d4, d5⟩ := H.d
  have hb : bs.getD i 0 < 128 := by
    rw [List.getD_eq_getElem?_getD, List.getElem?_eq_getElem hi]
    exact H.2.1 _ (List.getElem_mem hi)
  obtain ⟨c1, c2, c3'⟩ := ch_and _ hb
  have hl := H.1
  unfold m_J6_charAt m_J6_isLatin1 m_J6_isLatin1_18 m_J6_charAt_4
  rw [gd_of d1, if_neg (by decide), d2, bd_some, if_neg (by decide), gd_of (by decide), bd2_some, if_neg (by decide), d3, bd_some]
  unfold m_J11_charAt m_J11_charAt_6
  rw [d4, bd_some, show Int32.ofNat bs.length = ni bs.length from rfl, J12_ck hi (by omega), bd_some, d5 i hi, bd_some, c1, c2, gd_of c3', bd2_some]
  unfold m_J6_charAt_15
  rw [gd_of c3']
theorem J6_length {f : Nat} {h : CH} {a : Nat} {bs : List Nat} (H : isS h a bs) : m_J6_length f h a = some (ni bs.length, h) := by
  obtain ⟨d1, d2, _, v, d3, d4, d5⟩ := H.d
  have hl := H.1
  unfold m_J6_length m_J6_coder m_J6_coder_14 m_J6_length_9
  rw [d3, bd_some, d4, bd_some, gd_of d1, if_neg (by decide), d2, bd_some, gd_of (by decide), bd2_some]
  have : ∀ x : Int32, x >>> ((0 : Int32) &&& 31) = x := fun x => by
    rw [show ((0 : Int32) &&& 31) = 0 from rfl]; exact Int32.shiftRight_zero
  rw [this]
theorem J6_equals {f : Nat} (hf : 600 ≤ f) {h : CH} {a b : Nat} {bs bs' : List Nat} (H : isS h a bs) (H' : isS h b bs') : m_J6_equals f h a b = some (if bs = bs' then 1 else 0, h) := by
  unfold m_J6_equals
  by_cases hab : a = b
  · rw [if_neg (fun hn => hn hab)]
    subst hab
    rw [if_pos (H.one H')]
  · obtain ⟨d1, d2, _, v, d3, d4, d5⟩ := H.d
    obtain ⟨d1', d2', _, v', d3', d4', d5'⟩ := H'.d
    have hl := H.1
    have hl' := H'.1
    rw [if_pos hab, gd_of d1', if_neg (by decide), gd_of d1', if_neg (by decide), d2, bd_some, d2', bd_some, if_neg (fun hn => hn rfl)]
    unfold m_J6_equals_36 m_J11_equals
    rw [d3, bd_some, d3', bd_some, d4, bd_some, d4', bd_some]
    by_cases hle : bs.length = bs'.length
    · rw [if_neg (fun hn => hn (by rw [hle]))]
      have key : ∀ k n i, i + k = bs.length → k < n → (∀ j, j < i → bs.getD j 0 = bs'.getD j 0) → m_J11_equals_9 f n h v v' (ni i) = some (if bs = bs' then 1 else 0, h) := by
        intro k
        induction k with
        | zero =>
          intro n i hi hn hq
          obtain ⟨n, rfl⟩ : ∃ z, n = z + 1 := ⟨n - 1, by omega⟩
          have : i = bs.length := by omega
          subst this
          rw [m_J11_equals_9, d4, bd_some, if_pos (show ni bs.length ≤ ni bs.length from (ni_le (by omega) (by omega)).mpr (Nat.le_refl _))]
          have e : bs = bs' := List.ext_getElem hle (fun j h1 h2 => by
            have := hq j h1
            simp only [List.getD_eq_getElem?_getD, List.getElem?_eq_getElem h1, List.getElem?_eq_getElem h2, Option.getD_some] at this
            exact this)
          rw [if_pos e]; rfl
        | succ k ih =>
          intro n i hi hn hq
          obtain ⟨n, rfl⟩ : ∃ z, n = z + 1 := ⟨n - 1, by omega⟩
          have hi' : i < bs.length := by omega
          rw [m_J11_equals_9, d4, bd_some, if_neg (show ¬ ni bs.length ≤ ni i from fun hh => by have := (ni_le (by omega) (by omega)).mp hh; omega), d5 i hi', bd_some, d5' i (by omega), bd_some]
          have b1 : bs.getD i 0 < 128 := by
            rw [List.getD_eq_getElem?_getD, List.getElem?_eq_getElem hi']
            exact H.2.1 _ (List.getElem_mem hi')
          have b2 : bs'.getD i 0 < 128 := by
            rw [List.getD_eq_getElem?_getD, List.getElem?_eq_getElem (show i < bs'.length by omega)]
            exact H'.2.1 _ (List.getElem_mem _)
          by_cases hc : bs.getD i 0 = bs'.getD i 0
          · rw [if_pos (by rw [hc]), nmv_eq, ni_succ]
            exact ih n (i + 1) (by omega) (by omega) (fun j hj => by
              by_cases e : j = i
              · rw [e]; exact hc
              · exact hq j (by omega))
          · rw [if_neg (fun hh => hc ((ni_inj (by omega) (by omega)).mp hh)), if_neg (fun hh => hc (by rw [hh]))]
            rfl
      rw [show (0 : Int32) = ni 0 from rfl, key bs.length f 0 (by omega) (by omega) (fun j hj => by omega), bd2_some]
      unfold m_J6_equals_47
      split
      · rw [if_neg (by decide)]; rfl
      · rw [if_pos rfl]; rfl
    · rw [if_pos (fun hn => hle ((ni_inj (by omega) (by omega)).mp hn)), bd2_some, if_neg (fun hh => hle (by rw [hh]))]
      rfl
def strC : List (List Nat) := [[114, 101, 102, 117, 115, 101, 100], [], [116, 117, 114, 110], [108, 97, 116, 116, 105, 99, 101], [111, 102], [98, 121], [108, 97, 116, 116, 105, 99, 101], [116, 117, 114, 110], [111, 102], [98, 121], [48, 49, 50, 48, 50, 49, 49, 48, 50, 49, 50, 48, 50, 48, 49, 50, 49, 48]]
theorem strC_B : ∀ i, i < 11 → strB.getD i [] = (strC.getD i []).map ni := by decide +kernel
theorem strC_ok : ∀ i, i < 11 → (strC.getD i []).length ≤ 500 ∧ ∀ b, b ∈ strC.getD i [] → b < 128 := by decide +kernel
/-- a constant String -/
theorem K_str {h : CH} (w : wfh h) (kf0 : kf h) {i : Nat} (hi : i < 11) : ∃ a, sR h (20 + i) = some a ∧ isS h a (strC.getD i []) := by
  obtain ⟨k0, _, _, k4, _⟩ := kf0
  obtain ⟨k, v, q1, q2, q3⟩ := k4 i hi
  have no : ∀ q e, h.2.2.2.2.1 q = some e → cm h q = none := fun q e he => by
    have h1 := k0 q e he
    cases hc : cm h q with
    | none => rfl
    | some z => have := (w.1 _ _ hc).1; omega
  rw [strC_B i hi] at q3
  exact ⟨k, q1, (strC_ok i hi).1, (strC_ok i hi).2, v, .inr ⟨no _ _ q2, q2, no _ _ q3, q3⟩⟩
