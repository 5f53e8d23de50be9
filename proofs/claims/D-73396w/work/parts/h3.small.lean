/-! the small ones: fault, why, count, end -/
set_option maxRecDepth 100000
theorem Ok.mk {α : Type} {h : CH} {A : Nat → Nat} {lo y : Nat} {al : List Nat} (O : AOk A lo al) {mc : Option (α × CH)} {mf : TS → Option (α × TS)} {r : α} {h1 : CH} {u u1 : TS} {S : Nat → Prop} {k n' : Nat} {b : Nat → Nat} {n : Nat} {fk fp : Int32} {ts : List It} {W : Nat → Mi} {acts : List Act} {wy : Why} (H : HT h y al u) (m : Mod S k n' h h1) (hk : k ≤ 9000) (hn : n' ≤ 110000) (sal : ∀ q, q ∈ al → ¬ S q) (n0 : ¬ S 0) (e1 : mc = some (r, h1)) (C1 : CIv h1 A lo b n fk fp ts W acts wy) (P1 : PI ts W acts) (e2 : mf (rdU h y) = some (r, u1)) (T1 : TI u1 b n fk fp ts W acts wy) : Ok mc (fun h1 => tcr h1 y mf) h A lo y al := by
  have H1 := H.md m sal
  rw [← H.rd m sal n0] at e2
  obtain ⟨h2, b1, b2, b3⟩ := H1.tcr (mf := mf) e2
  have C2 := C1.tw O H1 b2 b3
  refine ⟨r, h1, h2, e1, H1.isC, b1, ?_, ?_, b, n, fk, fp, ts, W, acts, wy, O, C2, P1, u1, b2, T1⟩
  · have := m.2.1; have := b3.2.1; omega
  · have := m.2.2.2.1; have := b3.2.2.2.1; omega
/-- nothing is changed -/
theorem Ok.same {α : Type} {h : CH} {A : Nat → Nat} {lo y : Nat} {al : List Nat} {mc : Option (α × CH)} {mf : TS → Option (α × TS)} {r : α} {b : Nat → Nat} {n : Nat} {fk fp : Int32} {ts : List It} {W : Nat → Mi} {acts : List Act} {wy : Why} (I : Inv h A lo y al b n fk fp ts W acts wy) (e1 : mc = some (r, h)) (e2 : ∀ u, TI u b n fk fp ts W acts wy → mf u = some (r, u)) : Ok mc (fun h1 => tcr h1 y mf) h A lo y al := by
  obtain ⟨O, C, P, u, H, T⟩ := I
  have T0 : TI (rdU h y) b n fk fp ts W acts wy := T.rf (H.agr.rF (l := [])) (fun k _ hk => by cases hk)
  exact Ok.mk O H (S := fun _ => False) (Mod.rf C.1) (by omega) (by omega) (fun _ _ => id) id e1 C P (e2 _ T0) T0
theorem ok_fault {f : Nat} {h : CH} {A : Nat → Nat} {lo y : Nat} {al : List Nat} {b : Nat → Nat} {n : Nat} {fk fp : Int32} {ts : List It} {W : Nat → Mi} {acts : List Act} {wy : Why} (I : Inv h A lo y al b n fk fp ts W acts wy) (v : Int32) : Ok (m_X0_fault f h (A 23) v) (fun h1 => tcr h1 y (fun z => m_X3_fault f z v)) h A lo y al := by
  have I' := I
  obtain ⟨O, ⟨w, kf0, _, _, ⟨t1, t2, rf, c1, _⟩, _⟩, _⟩ := I'
  have o4 : oI h 1 4 (A 23) = some fk := oI_c c1 rfl
  have o5 : oI h 1 5 (A 23) = some fp := oI_c c1 rfl
  refine Ok.same (r := if v = 0 then fk else if v = 1 then fp else -1) I ?_ (fun u T => ?_)
  · unfold m_X0_fault
    by_cases h0 : v = 0
    · rw [if_neg (fun hh => hh h0), o4, bd_some, if_pos h0]; rfl
    · rw [if_pos h0, if_neg h0]
      by_cases h1 : v = 1
      · rw [if_neg (fun hh => hh h1), o5, bd_some, if_pos h1]; rfl
      · rw [if_pos h1, if_neg h1]; rfl
  · unfold m_X3_fault
    by_cases h0 : v = 0
    · rw [if_neg (fun hh => hh h0), if_pos h0, T.2.1]; rfl
    · rw [if_pos h0, if_neg h0]
      by_cases h1 : v = 1
      · rw [if_neg (fun hh => hh h1), if_pos h1, T.2.2.1]; rfl
      · rw [if_pos h1, if_neg h1]; rfl
theorem ok_why {f : Nat} {h : CH} {A : Nat → Nat} {lo y : Nat} {al : List Nat} {b : Nat → Nat} {n : Nat} {fk fp : Int32} {ts : List It} {W : Nat → Mi} {acts : List Act} {wy : Why} (I : Inv h A lo y al b n fk fp ts W acts wy) (v : Int32) : Ok (m_X0_why f h (A 23) v) (fun h1 => tcr h1 y (fun z => m_X3_why f z v)) h A lo y al := by
  have I' := I
  obtain ⟨O, ⟨w, kf0, _, _, ⟨t1, t2, rf, c1, cw⟩, _⟩, _⟩ := I'
  refine Ok.same (r := if inI v.toInt 0 3 = true then (match wy with | none => -1 | some (a, k, l, r) => if v = 0 then a else if v = 1 then k else if v = 2 then l else r) else -2) I ?_ (fun u T => ?_)
  · unfold m_X0_why
    rw [in0_li v (a := 3) (hi := 3) rfl (rg_sm (by omega) (by omega)), bd_some]
    cases hi : inI v.toInt 0 3 with
    | false => rfl
    | true =>
      rw [nift1, if_pos rfl]
      cases wy with
      | none =>
        have cw' : rf = .null := cw
        subst cw'
        have oq : oQ h 1 13 (A 23) = some none := oQ_n c1 rfl
        rw [oq, bd_some, if_pos rfl]
      | some z =>
        obtain ⟨a, k, l, r⟩ := z
        obtain ⟨q, c, fs, gs, rfl, b1, b2, b3, b4, b5, b6, b7, b8, b9, b10⟩ := cw
        have oq : oQ h 1 13 (A 23) = some (some q) := oQ_r c1 rfl
        have oR' : oR h 1 13 (A 23) = some q := oR_c c1 rfl
        have iq : isC h q 16 = true := by unfold isC; rw [b4]; rfl
        have hh : m_X17_hindrance f h q = some (c, h) := by
          unfold m_X17_hindrance
          rw [oR_c b4 b5, bd_some, gd_of (by rw [decide_eq_true b3, decide_eq_true (w.1 _ _ b4).1]; rfl)]
          rcases b10 with rfl | rfl | rfl
          · have n12 : ¬ isC h c 12 = true := fun hh => by unfold isC at hh; rw [b8] at hh; cases hh
            have p13 : isC h c 13 = true := by unfold isC; rw [b8]; rfl
            rw [if_neg n12, if_pos p13, if_neg (by decide), if_neg n12, if_pos p13]
          · have n12 : ¬ isC h c 12 = true := fun hh => by unfold isC at hh; rw [b8] at hh; cases hh
            have n13 : ¬ isC h c 13 = true := fun hh => by unfold isC at hh; rw [b8] at hh; cases hh
            have p14 : isC h c 14 = true := by unfold isC; rw [b8]; rfl
            rw [if_neg n12, if_neg n13, gd_of p14, if_neg (by decide), if_neg n12, if_neg n13, gd_of p14]
          · have p12 : isC h c 12 = true := by unfold isC; rw [b8]; rfl
            rw [if_pos p12, if_neg (by decide), if_pos p12]
        rw [oq, bd_some, if_neg (fun hh => by cases hh)]
        by_cases v0 : v = 0
        · rw [if_pos v0, oR', bd_some, oI_c b4 b6, bd_some]
          show some (a, h) = some (if v = 0 then a else _, h)
          rw [if_pos v0]
        · rw [if_neg v0]
          by_cases v1 : v = 1
          · rw [if_pos v1, oR', bd_some, gd_of iq, hh, bd2_some]
            show m_X0_why_67 f h c = some (if v = 0 then a else if v = 1 then k else _, h)
            rw [if_neg v0, if_pos v1]
            unfold m_X0_why_67 m_X0_why_70
            rcases b10 with rfl | rfl | rfl
            · rw [if_neg (show ¬ isC h c 12 = true from fun hh => by unfold isC at hh; rw [b8] at hh; cases hh), if_pos (show isC h c 13 = true by unfold isC; rw [b8]; rfl)]; rfl
            · rw [if_neg (show ¬ isC h c 12 = true from fun hh => by unfold isC at hh; rw [b8] at hh; cases hh), if_neg (show ¬ isC h c 13 = true from fun hh => by unfold isC at hh; rw [b8] at hh; cases hh), gd_of (show isC h c 14 = true by unfold isC; rw [b8]; rfl)]; rfl
            · rw [if_pos (show isC h c 12 = true by unfold isC; rw [b8]; rfl)]; rfl
          · rw [if_neg v1]
            by_cases v2 : v = 2
            · rw [if_pos v2, oR', bd_some, oI_c b4 b7, bd_some]
              show some (l, h) = some (if v = 0 then a else if v = 1 then k else if v = 2 then l else r, h)
              rw [if_neg v0, if_neg v1, if_pos v2]
            · rw [if_neg v2, oR', bd_some, gd_of iq, hh, bd2_some]
              show m_X0_why_86 f h c = some (if v = 0 then a else if v = 1 then k else if v = 2 then l else r, h)
              rw [if_neg v0, if_neg v1, if_neg v2]
              unfold m_X0_why_86
              rcases b10 with rfl | rfl | rfl
              · rw [if_neg (show ¬ isC h c 12 = true from fun hh => by unfold isC at hh; rw [b8] at hh; cases hh), if_pos (show isC h c 13 = true by unfold isC; rw [b8]; rfl), oI_c (ci := 13) b8 b9, bd_some]
              · rw [if_neg (show ¬ isC h c 12 = true from fun hh => by unfold isC at hh; rw [b8] at hh; cases hh), if_neg (show ¬ isC h c 13 = true from fun hh => by unfold isC at hh; rw [b8] at hh; cases hh), oI_c (ci := 14) b8 b9, bd_some]
              · rw [if_pos (show isC h c 12 = true by unfold isC; rw [b8]; rfl), oI_c (ci := 12) b8 b9, bd_some]
  · unfold m_X3_why m_X3_why_63
    rw [in3_li v (a := 3) (hi := 3) rfl (rg_sm (by omega) (by omega)), bd_some]
    cases hi : inI v.toInt 0 3 with
    | false => rfl
    | true =>
      rw [nift1, if_pos rfl]
      have T9 := T.2.2.2.2.2.2.2.2.2
      cases wy with
      | none =>
        have T9' : tI u 7 = 0 := T9
        rw [T9', if_neg (fun hh => hh rfl)]
      | some z =>
        obtain ⟨a, k, l, r⟩ := z
        obtain ⟨d1, d2, d3, d4, d5⟩ := T9
        rw [d1, if_pos d2, d3, d4, d5]
        by_cases v0 : v = 0
        · rw [if_neg (fun hh => hh v0)]
          show some (a, u) = some (if v = 0 then a else _, u)
          rw [if_pos v0]
        · rw [if_pos v0]
          by_cases v1 : v = 1
          · rw [if_neg (fun hh => hh v1)]
            show some (k, u) = some (if v = 0 then a else if v = 1 then k else _, u)
            rw [if_neg v0, if_pos v1]
          · rw [if_pos v1]
            by_cases v2 : v = 2
            · rw [if_neg (fun hh => hh v2)]
              show some (l, u) = some (if v = 0 then a else if v = 1 then k else if v = 2 then l else r, u)
              rw [if_neg v0, if_neg v1, if_pos v2]
            · rw [if_pos v2]
              show some (r, u) = some (if v = 0 then a else if v = 1 then k else if v = 2 then l else r, u)
              rw [if_neg v0, if_neg v1, if_neg v2]
