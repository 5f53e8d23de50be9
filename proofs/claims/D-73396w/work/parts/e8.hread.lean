/-! reading: the twin's steps, in the heap -/
set_option maxRecDepth 100000
theorem tTp.rf {l : List Nat} {u v : TS} {b : Nat → Nat} {n : Nat} (T : tTp u b n) (a : rF l u v) (h3 : 3 ∉ l) (h4 : 4 ∉ l) : tTp v b n := ⟨by rw [a.1 4 h4 (by decide)]; exact T.1, T.2.1, fun i hi => ⟨(T.2.2 i hi).1, by rw [a.2.2.1 3 h3 (by decide)]; exact (T.2.2 i hi).2⟩⟩
theorem tGd.rf {l : List Nat} {u v : TS} {b : Nat → Nat} {n : Nat} {s : Lx} (H : tGd u b n s) (a : rF l u v) (hl : ∀ k, k ∈ l → k ∉ [3, 4, 5, 6, 11, 12, 13, 14, 15]) : tGd v b n s := by
  have g : ∀ k, k ∈ [3, 4, 5, 6, 11, 12, 13, 14, 15] → k ∉ l := fun k hk h => hl k h hk
  obtain ⟨a1, a2, ⟨a3, a4, a5, a6⟩, a7⟩ := H
  exact ⟨by rw [a.1 15 (g _ (by decide)) (by decide)]; exact a1, a2.rf a (g _ (by decide)) (g _ (by decide)), ⟨by rw [a.1 11 (g _ (by decide)) (by decide)]; exact a3, by rw [a.1 12 (g _ (by decide)) (by decide)]; exact a4, by rw [a.1 13 (g _ (by decide)) (by decide)]; exact a5, fun h => by rw [a.1 14 (g _ (by decide)) (by decide)]; exact a6 h⟩, a7.1, by rw [a.1 5 (g _ (by decide)) (by decide)]; exact a7.2.1, by rw [a.1 6 (g _ (by decide)) (by decide)]; exact a7.2.2⟩
theorem tBd.rf {l : List Nat} {u v : TS} {e : Nat × Nat} (H : tBd u e) (a : rF l u v) (hl : ∀ k, k ∈ l → k ∉ [5, 6, 15]) : tBd v e := by
  have g : ∀ k, k ∈ [5, 6, 15] → k ∉ l := fun k hk h => hl k h hk
  exact ⟨by rw [a.1 15 (g _ (by decide)) (by decide)]; exact H.1, by rw [a.1 5 (g _ (by decide)) (by decide)]; exact H.2.1, by rw [a.1 6 (g _ (by decide)) (by decide)]; exact H.2.2⟩
theorem tNm.rf {l : List Nat} {u v : TS} {b : Nat → Nat} {n : Nat} {ns : List (List Nat)} (H : tNm u b n ns) (a : rF l u v) (h1 : 16 ∉ l) (h2 : 17 ∉ l) : tNm v b n ns := ⟨H.1, fun k w hk => by
  obtain ⟨q, a1, a2, a3⟩ := H.2 k w hk
  exact ⟨q, by rw [a.2.2.1 16 h1 (by decide)]; exact a1, by rw [a.2.2.1 17 h2 (by decide)]; exact a2, a3⟩⟩
theorem rF.rf {l : List Nat} {u : TS} : rF l u u := Fr.rf.rF
/-- the twin went on, changed in fields of l alone -/
def Pst (h : CH) (y : Nat) (al : List Nat) (u : TS) (l : List Nat) (h' : CH) (u' : TS) : Prop := HT h' y al u' ∧ rF l u u' ∧ Mod (· ∈ al) 0 0 h h'
theorem Pst.rf {h : CH} {y : Nat} {al : List Nat} {u : TS} {l : List Nat} (H : HT h y al u) : Pst h y al u l h u := ⟨H, rF.rf, Mod.rf H.1⟩
theorem Pst.tr {h h1 h2 : CH} {y : Nat} {al : List Nat} {u u1 u2 : TS} {l : List Nat} (a : Pst h y al u l h1 u1) (b : Pst h1 y al u1 l h2 u2) : Pst h y al u l h2 u2 := ⟨b.1, a.2.1.tr b.2.1, a.2.2.tr b.2.2 (fun _ _ => id)⟩
theorem Pst.up {h h1 : CH} {y : Nat} {al : List Nat} {u u1 : TS} {l l' : List Nat} (a : Pst h y al u l h1 u1) (hl : ∀ k, k ∈ l → k ∈ l') : Pst h y al u l' h1 u1 := ⟨a.1, a.2.1.mono hl, a.2.2⟩
abbrev RDl : List Nat := [0, 5, 6, 11, 12, 13, 14, 15, 16, 17]
theorem HT.cv {h : CH} {y : Nat} {al : List Nat} {u : TS} (H : HT h y al u) {mf : TS → Option TS} {u9 : TS} {l : List Nat} (e : mf (rdU h y) = some u9) (fr : Fr l (rdU h y) u9) : ∃ h', Jvm.Pilot.CCoincideBenchLaw_law_r8029_ca2b77.tcv h y mf = some h' ∧ Pst h y al u l h' u9 := by
  obtain ⟨h', a1, a2, a3⟩ := H.tcv e
  exact ⟨h', a1, a2, H.agr.rF.tr fr.rF, a3⟩
theorem HT.cr {α : Type} {h : CH} {y : Nat} {al : List Nat} {u : TS} (H : HT h y al u) {mf : TS → Option (α × TS)} {r : α} {u9 : TS} {l : List Nat} (e : mf (rdU h y) = some (r, u9)) (fr : Fr l (rdU h y) u9) : ∃ h', Jvm.Pilot.CCoincideBenchLaw_law_r8029_ca2b77.tcr h y mf = some (r, h') ∧ Pst h y al u l h' u9 := by
  obtain ⟨h', a1, a2, a3⟩ := H.tcr e
  exact ⟨h', a1, a2, H.agr.rF.tr fr.rF, a3⟩
theorem tGd.ag {u v : TS} {b : Nat → Nat} {n : Nat} {s : Lx} (H : tGd u b n s) (a : agr v u) : tGd v b n s := H.rf (a.rF (l := [])) (fun k hk => by cases hk)
theorem tBd.ag {u v : TS} {e : Nat × Nat} (H : tBd u e) (a : agr v u) : tBd v e := H.rf (a.rF (l := [])) (fun k hk => by cases hk)
theorem HT.pass1 {f : Nat} (hf : 501 < f) {h : CH} {y : Nat} {al : List Nat} {u : TS} (H : HT h y al u) {b : Nat → Nat} {n : Nat} {s : Lx} (G : tGd u b n s) : ∃ h' u', Jvm.Pilot.CCoincideBenchLaw_law_r8029_ca2b77.tcv h y (fun z => m_X3_passes f z 1) = some h' ∧ tGd u' b n (nx b n s.2.2) ∧ Pst h y al u [11, 12, 13, 14] h' u' := by
  obtain ⟨u', e1, e2, e3⟩ := X3_passes1 (f := f) hf (G.ag H.agr)
  obtain ⟨h', c1, c2⟩ := H.cv (mf := fun z => m_X3_passes f z 1) e1 e3
  exact ⟨h', u', c1, e2, c2⟩
theorem HT.pass0 {f : Nat} {h : CH} {y : Nat} {al : List Nat} {u : TS} (H : HT h y al u) {b : Nat → Nat} {n : Nat} {s : Lx} (G : tGd u b n s) : ∃ h' u', Jvm.Pilot.CCoincideBenchLaw_law_r8029_ca2b77.tcv h y (fun z => m_X3_passes f z 0) = some h' ∧ tBd u' (1, s.2.1) ∧ Pst h y al u [5, 6, 15] h' u' := by
  obtain ⟨u', e1, e2, e3⟩ := X3_passes0 (f := f) (G.ag H.agr)
  obtain ⟨h', c1, c2⟩ := H.cv (mf := fun z => m_X3_passes f z 0) e1 e3
  exact ⟨h', u', c1, e2, c2⟩
theorem HT.passB {f : Nat} {h : CH} {y : Nat} {al : List Nat} {u : TS} (H : HT h y al u) {e : Nat × Nat} (G : tBd u e) (k : Int32) : ∃ h' u', Jvm.Pilot.CCoincideBenchLaw_law_r8029_ca2b77.tcv h y (fun z => m_X3_passes f z k) = some h' ∧ tBd u' e ∧ Pst h y al u [] h' u' := by
  obtain ⟨h', c1, c2⟩ := H.cv (mf := fun z => m_X3_passes f z k) (l := []) (X3_passesB (f := f) (G.ag H.agr) k) Fr.rf
  exact ⟨h', _, c1, G.ag H.agr, c2⟩
theorem HT.flt {f : Nat} {h : CH} {y : Nat} {al : List Nat} {u : TS} (H : HT h y al u) {b : Nat → Nat} {n : Nat} {s : Lx} (G : tGd u b n s) (k : Nat) : ∃ h' u', Jvm.Pilot.CCoincideBenchLaw_law_r8029_ca2b77.tcv h y (fun z => m_X3_faults f z (ni k)) = some h' ∧ tBd u' (k, s.2.1) ∧ Pst h y al u [5, 6, 15] h' u' := by
  obtain ⟨u', e1, e2, e3⟩ := X3_faults (f := f) (G.ag H.agr) k
  obtain ⟨h', c1, c2⟩ := H.cv (mf := fun z => m_X3_faults f z (ni k)) e1 e3
  exact ⟨h', u', c1, e2, c2⟩
theorem HT.see {f : Nat} (hf : 501 < f) {h : CH} {y : Nat} {al : List Nat} {u : TS} (H : HT h y al u) {b : Nat → Nat} {n : Nat} {s : Lx} (G : tGd u b n s) {most : Nat} (hm : most ≤ 6) : ∃ h' u' r, Jvm.Pilot.CCoincideBenchLaw_law_r8029_ca2b77.tcr h y (fun z => m_X3_sees f z (ni most)) = some (r, h') ∧ tRs u u' b n (pSee b n most s) r ∧ Pst h y al u [5, 6, 11, 12, 13, 14, 15] h' u' := by
  obtain ⟨u', r, e1, e2, e3⟩ := X3_sees (f := f) hf (G.ag H.agr) hm
  obtain ⟨h', c1, c2⟩ := H.cr (mf := fun z => m_X3_sees f z (ni most)) e1 e3
  exact ⟨h', u', r, c1, by
    revert e2; cases pSee b n most s with
    | inl e => exact id
    | inr e => exact id, c2⟩
theorem HT.nam {f : Nat} (hf : 501 < f) {h : CH} {y : Nat} {al : List Nat} {u : TS} (H : HT h y al u) {b : Nat → Nat} {n : Nat} {s : Lx} (G : tGd u b n s) {ns : List (List Nat)} (N : tNm u b n ns) (hM : tA u 0 0 = ni ns.length) : ∃ h' u', Jvm.Pilot.CCoincideBenchLaw_law_r8029_ca2b77.tcr h y (fun z => m_X3_named f z) = some (ixI (ixo (word b s) ns 0), h') ∧ Pst h y al u [] h' u' := by
  have A := H.agr
  obtain ⟨h', c1, c2⟩ := H.cr (mf := fun z => m_X3_named f z) (l := []) (X3_named (f := f) hf (G.ag A) (N.rf (A.rF (l := [])) (by decide) (by decide)) (by rw [A.A (by decide)]; exact hM)) Fr.rf
  exact ⟨h', _, c1, c2⟩
/-- a word of the tape against a String -/
theorem X3_isWord {f : Nat} (hf : 501 < f) {h : CH} {y : Nat} {al : List Nat} {u : TS} (H : HT h y al u) {b : Nat → Nat} {n : Nat} {s : Lx} (G : tGd u b n s) {a : Nat} {w : List Nat} (hw : isS h a w) : m_X3_isWord f h y a = some (if isWd b s w = true then 1 else 0, h) := by
  obtain ⟨g1, ⟨t1, t2, t3⟩, ⟨g3, g4, g5, g6⟩, ⟨o1, o2, o3, o⟩, _⟩ := G
  have wl := hw.1
  have no : m_X3_isWord_29 f h y a 0 = some (0, h) := by
    unfold m_X3_isWord_29
    obtain ⟨f', rfl⟩ : ∃ z, f = z + 1 := ⟨f - 1, by omega⟩
    rw [m_X3_isWord_32, gd_of hw.d.1, J6_length hw, bd2_some]
    unfold m_X3_isWord_37
    split
    · rfl
    · rw [if_pos rfl]; rfl
  unfold m_X3_isWord
  rw [H.i13, bd_some, g5]
  unfold isWd
  by_cases h1 : s.1 = 1
  · rw [if_neg (fun hh => hh ((tk_1 _ o1).mpr h1)), H.i11, bd_some, H.i12, bd_some, gd_of hw.d.1, J6_length hw, bd2_some]
    unfold m_X3_isWord_21
    have esub : (tI u 11) - (tI u 12) = ni (s.2.2 - s.2.1) := by
      rw [g3, g4]
      show Int32.ofNat s.2.2 - Int32.ofNat s.2.1 = Int32.ofNat (s.2.2 - s.2.1)
      rw [Int32.ofNat_sub _ _ o2]
    rw [esub]
    by_cases hl : s.2.2 - s.2.1 = w.length
    · rw [if_neg (fun hh => hh (by rw [hl]))]
      have ea : ∀ x y : Nat, (ni x : Int32) + ni y = ni (x + y) := fun x y => (Int32.ofNat_add x y).symm
      have key : ∀ k m i, i + k = w.length → k < m → (∀ z, z < i → w.getD z 0 = b (s.2.1 + z)) → m_X3_isWord_32 f m h y a 1 (ni i) = some (if word b s = w then 1 else 0, h) := by
        intro k
        induction k with
        | zero =>
          intro m i hi hm hz
          obtain ⟨m, rfl⟩ : ∃ z, m = z + 1 := ⟨m - 1, by omega⟩
          have : i = w.length := by omega
          subst this
          rw [m_X3_isWord_32, gd_of hw.d.1, J6_length hw, bd2_some]
          unfold m_X3_isWord_37
          rw [if_pos (lekk _), if_pos (lst_eq (by rw [word_len]; exact hl) (fun z hz' => by rw [word_len] at hz'; rw [hz z (by omega), word_gd (by omega)]))]
          rfl
        | succ k ih =>
          intro m i hi hm hz
          obtain ⟨m, rfl⟩ : ∃ z, m = z + 1 := ⟨m - 1, by omega⟩
          have hiw : i < w.length := by omega
          have hb := hw.2.1 (w[i]) (List.getElem_mem hiw)
          have hgd : w.getD i 0 = w[i] := by rw [List.getD_eq_getElem?_getD, List.getElem?_eq_getElem hiw]; rfl
          obtain ⟨b1, b2⟩ := t3 (s.2.1 + i) (by omega)
          rw [m_X3_isWord_32, gd_of hw.d.1, J6_length hw, bd2_some]
          unfold m_X3_isWord_37
          rw [if_neg (fun hh => by have := (ni_le (by omega) (by omega)).mp hh; omega), if_neg (by decide), H.r3, bd_some, H.i12, bd_some, g4, ea, H.a3 (by omega), bd_some, gd_of hw.d.1, J6_charAt hw hiw, bd2_some, b2]
          unfold m_X3_isWord_60 m_X3_isWord_68
          by_cases hc : w.getD i 0 = b (s.2.1 + i)
          · rw [if_neg (fun hh => hh (by rw [hc])), nmv_eq, ni_succ]
            exact ih m (i + 1) (by omega) (by omega) (fun z hz' => by
              by_cases e : z = i
              · rw [e]; exact hc
              · exact hz z (by omega))
          · rw [if_pos (fun hh => hc ((ni_inj (by omega) (by omega)).mp hh).symm), nmv_eq, ni_succ, if_neg (fun e => hc (by rw [← e, word_gd (by omega)]))]
            obtain ⟨m, rfl⟩ : ∃ z, m = z + 1 := ⟨m - 1, by omega⟩
            rw [m_X3_isWord_32, gd_of hw.d.1, J6_length hw, bd2_some]
            unfold m_X3_isWord_37
            split
            · rfl
            · rw [if_pos rfl]; rfl
      unfold m_X3_isWord_29
      rw [show (0 : Int32) = ni 0 from rfl, key w.length f 0 (by omega) (by omega) (fun z hz => by omega)]
      by_cases he : word b s = w
      · rw [if_pos he, if_pos (decide_eq_true ⟨h1, he⟩)]
      · rw [if_neg he, if_neg (fun hh => he (of_decide_eq_true hh).2)]; rfl
    · rw [if_pos (fun hh => hl ((ni_inj (by omega) (by omega)).mp hh))]
      unfold m_X3_isWord_28
      rw [no, if_neg (fun hh => hl (by have := (of_decide_eq_true hh).2; rw [← this, word_len]))]
  · rw [if_pos (fun hh => h1 ((tk_1 _ o1).mp hh))]
    unfold m_X3_isWord_28
    rw [no, if_neg (fun hh => h1 (of_decide_eq_true hh).1)]
theorem X3_kWord {f : Nat} (hf : 501 < f) {h : CH} (kf0 : kf h) {y : Nat} {al : List Nat} {u : TS} (H : HT h y al u) {b : Nat → Nat} {n : Nat} {s : Lx} (G : tGd u b n s) {i : Nat} (hi : i < 11) : ∃ a, sR h (20 + i) = some a ∧ m_X3_isWord f h y a = some (if isWd b s (strC.getD i []) = true then 1 else 0, h) := by
  obtain ⟨a, a1, a2⟩ := K_str H.1 kf0 hi
  exact ⟨a, a1, X3_isWord hf H G a2⟩
def isKp (b : Nat → Nat) (s : Lx) : Bool := isWd b s wLat || isWd b s wTurn || isWd b s wOf || isWd b s wBy
theorem X3_isKept {f : Nat} (hf : 501 < f) {h : CH} (kf0 : kf h) {y : Nat} {al : List Nat} {u : TS} (H : HT h y al u) {b : Nat → Nat} {n : Nat} {s : Lx} (G : tGd u b n s) : m_X3_isKept f h y = some (if isKp b s = true then 1 else 0, h) := by
  obtain ⟨a6, p6, q6⟩ := X3_kWord (f := f) hf kf0 H G (i := 6) (by decide)
  obtain ⟨a7, p7, q7⟩ := X3_kWord (f := f) hf kf0 H G (i := 7) (by decide)
  obtain ⟨a8, p8, q8⟩ := X3_kWord (f := f) hf kf0 H G (i := 8) (by decide)
  obtain ⟨a9, p9, q9⟩ := X3_kWord (f := f) hf kf0 H G (i := 9) (by decide)
  have q6' : m_X3_isWord f h y a6 = some (if isWd b s wLat = true then 1 else 0, h) := q6
  have q7' : m_X3_isWord f h y a7 = some (if isWd b s wTurn = true then 1 else 0, h) := q7
  have q8' : m_X3_isWord f h y a8 = some (if isWd b s wOf = true then 1 else 0, h) := q8
  have q9' : m_X3_isWord f h y a9 = some (if isWd b s wBy = true then 1 else 0, h) := q9
  unfold m_X3_isKept m_X3_isKept_6 m_X3_isKept_15 m_X3_isKept_24 m_X3_isKept_33 m_X3_isKept_36 m_X3_isKept_41 isKp
  rw [p6, bd_some, gd_of H.isC, q6', bd2_some]
  cases isWd b s wLat with
  | true => rfl
  | false =>
    rw [niff0, p7, bd_some, gd_of H.isC, q7', bd2_some]
    cases isWd b s wTurn with
    | true => rfl
    | false =>
      rw [niff0, p8, bd_some, gd_of H.isC, q8', bd2_some]
      cases isWd b s wOf with
      | true => rfl
      | false =>
        rw [niff0, p9, bd_some, gd_of H.isC, q9', bd2_some]
        cases isWd b s wBy with
        | true => rfl
        | false => rfl
