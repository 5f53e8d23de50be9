/-! the twin's cells in the heap: read and written one by one -/
set_option maxRecDepth 100000
theorem Tw.set {h : CH} {y : Nat} {ad : Nat → Nat} {u u' : TS} (H : Tw h y ad u) (w : wfh h) {m a : Nat} {e e0 : AC} (hm : (twl ad u)[m]? = some (a, e0)) (hu : twl ad u' = (twl ad u).set m (a, e)) : Tw (cs h a e) y ad u' ∧ Mod (· ∈ adl ad) 0 0 h (cs h a e) := by
  have hin := List.mem_of_getElem? hm
  have c0 := (H.2.1 _ hin).1
  have ha : a ∈ adl ad := by rw [← twl_adl ad u]; exact List.mem_map.mpr ⟨_, hin, rfl⟩
  have m1 : Mod (· ∈ adl ad) 0 0 h (cs h a e) := Mod.cs w c0 ha
  refine ⟨⟨H.1, fun q hq => ?_, H.2.2⟩, m1⟩
  rw [hu] at hq
  obtain ⟨j, hj, ej⟩ := List.mem_iff_getElem.mp hq
  rw [List.length_set] at hj
  rw [List.getElem_set] at ej
  by_cases hmj : m = j
  · rw [if_pos hmj] at ej
    subst ej
    exact ⟨cm_cs_s _ _ _, (H.2.1 _ hin).2⟩
  · rw [if_neg hmj] at ej
    have hq' : q ∈ twl ad u := by rw [← ej]; exact List.getElem_mem hj
    have hne : q.1 ≠ a := fun e9 => hmj (by
      have nd := H.2.2
      rw [← twl_adl ad u] at nd
      obtain ⟨hm1, hm2⟩ := List.getElem?_eq_some_iff.mp hm
      have l1 : ((twl ad u).map (·.1))[m]'(by rw [List.length_map]; exact hm1) = ((twl ad u).map (·.1))[j]'(by rw [List.length_map]; exact hj) := by
        rw [List.getElem_map, List.getElem_map, hm2, ej]; exact e9.symm
      have pw := List.pairwise_iff_getElem.mp nd
      rcases Nat.lt_trichotomy m j with hlt | he | hlt
      · exact absurd l1 (pw m j _ _ hlt)
      · exact he
      · exact absurd l1.symm (pw j m _ _ hlt))
    obtain ⟨z1, z2⟩ := H.2.1 q hq'
    refine ⟨?_, z2⟩
    show va_up h.2.2.2.1 a (some e) q.1 = some q.2
    rw [← z1]
    show (if q.1 = a then some e else h.2.2.2.1 q.1) = cm h q.1
    rw [if_neg hne]; rfl
theorem HT.w {h : CH} {y : Nat} {al : List Nat} {u : TS} (H : HT h y al u) : wfh h := H.1
theorem HT.i4 {h : CH} {y : Nat} {al : List Nat} {u : TS} (H : HT h y al u) : oI h 0 4 y = some (tI u 4) := by
  obtain ⟨w, ad, t, rfl⟩ := H
  exact oI_c t.obj rfl
theorem HT.pi4 {h : CH} {y : Nat} {al : List Nat} {u : TS} (H : HT h y al u) (v : Int32) : ∃ h', pF h 0 4 y (.int v) = some h' ∧ HT h' y al (sI u 4 v) ∧ Mod (· ∈ al) 0 0 h h' := by
  have hb := H.lt H.y
  obtain ⟨w, ad, t, rfl⟩ := H
  obtain ⟨s1, s2⟩ := t.set (u' := sI u 4 v) w (m := 0) (a := ad 40) (e := .inl (0, (twF ad u).set 4 (.int v))) rfl rfl
  rw [t.1] at s1 s2
  refine ⟨_, ?_, ⟨s2.wf, ad, s1, rfl⟩, s2⟩
  unfold pF
  rw [t.obj]
  exact if_pos ⟨rfl, hb.1, by show 4 < 40; decide⟩
theorem HT.i5 {h : CH} {y : Nat} {al : List Nat} {u : TS} (H : HT h y al u) : oI h 0 5 y = some (tI u 5) := by
  obtain ⟨w, ad, t, rfl⟩ := H
  exact oI_c t.obj rfl
theorem HT.pi5 {h : CH} {y : Nat} {al : List Nat} {u : TS} (H : HT h y al u) (v : Int32) : ∃ h', pF h 0 5 y (.int v) = some h' ∧ HT h' y al (sI u 5 v) ∧ Mod (· ∈ al) 0 0 h h' := by
  have hb := H.lt H.y
  obtain ⟨w, ad, t, rfl⟩ := H
  obtain ⟨s1, s2⟩ := t.set (u' := sI u 5 v) w (m := 0) (a := ad 40) (e := .inl (0, (twF ad u).set 5 (.int v))) rfl rfl
  rw [t.1] at s1 s2
  refine ⟨_, ?_, ⟨s2.wf, ad, s1, rfl⟩, s2⟩
  unfold pF
  rw [t.obj]
  exact if_pos ⟨rfl, hb.1, by show 5 < 40; decide⟩
theorem HT.i6 {h : CH} {y : Nat} {al : List Nat} {u : TS} (H : HT h y al u) : oI h 0 6 y = some (tI u 6) := by
  obtain ⟨w, ad, t, rfl⟩ := H
  exact oI_c t.obj rfl
theorem HT.pi6 {h : CH} {y : Nat} {al : List Nat} {u : TS} (H : HT h y al u) (v : Int32) : ∃ h', pF h 0 6 y (.int v) = some h' ∧ HT h' y al (sI u 6 v) ∧ Mod (· ∈ al) 0 0 h h' := by
  have hb := H.lt H.y
  obtain ⟨w, ad, t, rfl⟩ := H
  obtain ⟨s1, s2⟩ := t.set (u' := sI u 6 v) w (m := 0) (a := ad 40) (e := .inl (0, (twF ad u).set 6 (.int v))) rfl rfl
  rw [t.1] at s1 s2
  refine ⟨_, ?_, ⟨s2.wf, ad, s1, rfl⟩, s2⟩
  unfold pF
  rw [t.obj]
  exact if_pos ⟨rfl, hb.1, by show 6 < 40; decide⟩
theorem HT.i7 {h : CH} {y : Nat} {al : List Nat} {u : TS} (H : HT h y al u) : oI h 0 7 y = some (tI u 7) := by
  obtain ⟨w, ad, t, rfl⟩ := H
  exact oI_c t.obj rfl
theorem HT.pi7 {h : CH} {y : Nat} {al : List Nat} {u : TS} (H : HT h y al u) (v : Int32) : ∃ h', pF h 0 7 y (.int v) = some h' ∧ HT h' y al (sI u 7 v) ∧ Mod (· ∈ al) 0 0 h h' := by
  have hb := H.lt H.y
  obtain ⟨w, ad, t, rfl⟩ := H
  obtain ⟨s1, s2⟩ := t.set (u' := sI u 7 v) w (m := 0) (a := ad 40) (e := .inl (0, (twF ad u).set 7 (.int v))) rfl rfl
  rw [t.1] at s1 s2
  refine ⟨_, ?_, ⟨s2.wf, ad, s1, rfl⟩, s2⟩
  unfold pF
  rw [t.obj]
  exact if_pos ⟨rfl, hb.1, by show 7 < 40; decide⟩
theorem HT.i8 {h : CH} {y : Nat} {al : List Nat} {u : TS} (H : HT h y al u) : oI h 0 8 y = some (tI u 8) := by
  obtain ⟨w, ad, t, rfl⟩ := H
  exact oI_c t.obj rfl
theorem HT.pi8 {h : CH} {y : Nat} {al : List Nat} {u : TS} (H : HT h y al u) (v : Int32) : ∃ h', pF h 0 8 y (.int v) = some h' ∧ HT h' y al (sI u 8 v) ∧ Mod (· ∈ al) 0 0 h h' := by
  have hb := H.lt H.y
  obtain ⟨w, ad, t, rfl⟩ := H
  obtain ⟨s1, s2⟩ := t.set (u' := sI u 8 v) w (m := 0) (a := ad 40) (e := .inl (0, (twF ad u).set 8 (.int v))) rfl rfl
  rw [t.1] at s1 s2
  refine ⟨_, ?_, ⟨s2.wf, ad, s1, rfl⟩, s2⟩
  unfold pF
  rw [t.obj]
  exact if_pos ⟨rfl, hb.1, by show 8 < 40; decide⟩
theorem HT.i9 {h : CH} {y : Nat} {al : List Nat} {u : TS} (H : HT h y al u) : oI h 0 9 y = some (tI u 9) := by
  obtain ⟨w, ad, t, rfl⟩ := H
  exact oI_c t.obj rfl
theorem HT.pi9 {h : CH} {y : Nat} {al : List Nat} {u : TS} (H : HT h y al u) (v : Int32) : ∃ h', pF h 0 9 y (.int v) = some h' ∧ HT h' y al (sI u 9 v) ∧ Mod (· ∈ al) 0 0 h h' := by
  have hb := H.lt H.y
  obtain ⟨w, ad, t, rfl⟩ := H
  obtain ⟨s1, s2⟩ := t.set (u' := sI u 9 v) w (m := 0) (a := ad 40) (e := .inl (0, (twF ad u).set 9 (.int v))) rfl rfl
  rw [t.1] at s1 s2
  refine ⟨_, ?_, ⟨s2.wf, ad, s1, rfl⟩, s2⟩
  unfold pF
  rw [t.obj]
  exact if_pos ⟨rfl, hb.1, by show 9 < 40; decide⟩
theorem HT.i10 {h : CH} {y : Nat} {al : List Nat} {u : TS} (H : HT h y al u) : oI h 0 10 y = some (tI u 10) := by
  obtain ⟨w, ad, t, rfl⟩ := H
  exact oI_c t.obj rfl
theorem HT.pi10 {h : CH} {y : Nat} {al : List Nat} {u : TS} (H : HT h y al u) (v : Int32) : ∃ h', pF h 0 10 y (.int v) = some h' ∧ HT h' y al (sI u 10 v) ∧ Mod (· ∈ al) 0 0 h h' := by
  have hb := H.lt H.y
  obtain ⟨w, ad, t, rfl⟩ := H
  obtain ⟨s1, s2⟩ := t.set (u' := sI u 10 v) w (m := 0) (a := ad 40) (e := .inl (0, (twF ad u).set 10 (.int v))) rfl rfl
  rw [t.1] at s1 s2
  refine ⟨_, ?_, ⟨s2.wf, ad, s1, rfl⟩, s2⟩
  unfold pF
  rw [t.obj]
  exact if_pos ⟨rfl, hb.1, by show 10 < 40; decide⟩
theorem HT.i11 {h : CH} {y : Nat} {al : List Nat} {u : TS} (H : HT h y al u) : oI h 0 11 y = some (tI u 11) := by
  obtain ⟨w, ad, t, rfl⟩ := H
  exact oI_c t.obj rfl
theorem HT.pi11 {h : CH} {y : Nat} {al : List Nat} {u : TS} (H : HT h y al u) (v : Int32) : ∃ h', pF h 0 11 y (.int v) = some h' ∧ HT h' y al (sI u 11 v) ∧ Mod (· ∈ al) 0 0 h h' := by
  have hb := H.lt H.y
  obtain ⟨w, ad, t, rfl⟩ := H
  obtain ⟨s1, s2⟩ := t.set (u' := sI u 11 v) w (m := 0) (a := ad 40) (e := .inl (0, (twF ad u).set 11 (.int v))) rfl rfl
  rw [t.1] at s1 s2
  refine ⟨_, ?_, ⟨s2.wf, ad, s1, rfl⟩, s2⟩
  unfold pF
  rw [t.obj]
  exact if_pos ⟨rfl, hb.1, by show 11 < 40; decide⟩
theorem HT.i12 {h : CH} {y : Nat} {al : List Nat} {u : TS} (H : HT h y al u) : oI h 0 12 y = some (tI u 12) := by
  obtain ⟨w, ad, t, rfl⟩ := H
  exact oI_c t.obj rfl
theorem HT.pi12 {h : CH} {y : Nat} {al : List Nat} {u : TS} (H : HT h y al u) (v : Int32) : ∃ h', pF h 0 12 y (.int v) = some h' ∧ HT h' y al (sI u 12 v) ∧ Mod (· ∈ al) 0 0 h h' := by
  have hb := H.lt H.y
  obtain ⟨w, ad, t, rfl⟩ := H
  obtain ⟨s1, s2⟩ := t.set (u' := sI u 12 v) w (m := 0) (a := ad 40) (e := .inl (0, (twF ad u).set 12 (.int v))) rfl rfl
  rw [t.1] at s1 s2
  refine ⟨_, ?_, ⟨s2.wf, ad, s1, rfl⟩, s2⟩
  unfold pF
  rw [t.obj]
  exact if_pos ⟨rfl, hb.1, by show 12 < 40; decide⟩
theorem HT.i13 {h : CH} {y : Nat} {al : List Nat} {u : TS} (H : HT h y al u) : oI h 0 13 y = some (tI u 13) := by
  obtain ⟨w, ad, t, rfl⟩ := H
  exact oI_c t.obj rfl
theorem HT.pi13 {h : CH} {y : Nat} {al : List Nat} {u : TS} (H : HT h y al u) (v : Int32) : ∃ h', pF h 0 13 y (.int v) = some h' ∧ HT h' y al (sI u 13 v) ∧ Mod (· ∈ al) 0 0 h h' := by
  have hb := H.lt H.y
  obtain ⟨w, ad, t, rfl⟩ := H
  obtain ⟨s1, s2⟩ := t.set (u' := sI u 13 v) w (m := 0) (a := ad 40) (e := .inl (0, (twF ad u).set 13 (.int v))) rfl rfl
  rw [t.1] at s1 s2
  refine ⟨_, ?_, ⟨s2.wf, ad, s1, rfl⟩, s2⟩
  unfold pF
  rw [t.obj]
  exact if_pos ⟨rfl, hb.1, by show 13 < 40; decide⟩
theorem HT.i14 {h : CH} {y : Nat} {al : List Nat} {u : TS} (H : HT h y al u) : oI h 0 14 y = some (tI u 14) := by
  obtain ⟨w, ad, t, rfl⟩ := H
  exact oI_c t.obj rfl
theorem HT.pi14 {h : CH} {y : Nat} {al : List Nat} {u : TS} (H : HT h y al u) (v : Int32) : ∃ h', pF h 0 14 y (.int v) = some h' ∧ HT h' y al (sI u 14 v) ∧ Mod (· ∈ al) 0 0 h h' := by
  have hb := H.lt H.y
  obtain ⟨w, ad, t, rfl⟩ := H
  obtain ⟨s1, s2⟩ := t.set (u' := sI u 14 v) w (m := 0) (a := ad 40) (e := .inl (0, (twF ad u).set 14 (.int v))) rfl rfl
  rw [t.1] at s1 s2
  refine ⟨_, ?_, ⟨s2.wf, ad, s1, rfl⟩, s2⟩
  unfold pF
  rw [t.obj]
  exact if_pos ⟨rfl, hb.1, by show 14 < 40; decide⟩
theorem HT.i15 {h : CH} {y : Nat} {al : List Nat} {u : TS} (H : HT h y al u) : oI h 0 15 y = some (tI u 15) := by
  obtain ⟨w, ad, t, rfl⟩ := H
  exact oI_c t.obj rfl
theorem HT.pi15 {h : CH} {y : Nat} {al : List Nat} {u : TS} (H : HT h y al u) (v : Int32) : ∃ h', pF h 0 15 y (.int v) = some h' ∧ HT h' y al (sI u 15 v) ∧ Mod (· ∈ al) 0 0 h h' := by
  have hb := H.lt H.y
  obtain ⟨w, ad, t, rfl⟩ := H
  obtain ⟨s1, s2⟩ := t.set (u' := sI u 15 v) w (m := 0) (a := ad 40) (e := .inl (0, (twF ad u).set 15 (.int v))) rfl rfl
  rw [t.1] at s1 s2
  refine ⟨_, ?_, ⟨s2.wf, ad, s1, rfl⟩, s2⟩
  unfold pF
  rw [t.obj]
  exact if_pos ⟨rfl, hb.1, by show 15 < 40; decide⟩
theorem HT.r0 {h : CH} {y : Nat} {al : List Nat} {u : TS} (H : HT h y al u) : oR h 0 0 y = some (al.getD 1 0) := by
  obtain ⟨w, ad, t, rfl⟩ := H
  exact oR_c t.obj rfl
theorem HT.a0 {h : CH} {y : Nat} {al : List Nat} {u : TS} (H : HT h y al u) {i : Nat} (hi : i < 73) : aI h 0 (al.getD 1 0) (ni i) = some (tA u 0 i) := by
  obtain ⟨w, ad, t, rfl⟩ := H
  have c := (t.2.1 (ad 0, .inr (0, 73, .inl (tA u 0))) (by unfold twl; simp)).1
  show aI h 0 (ad 0) (ni i) = _
  unfold aI; rw [c]
  simp only [ix_ni hi (by decide), and_self, if_true]
  rw [ni_clamp (by omega)]
theorem HT.u0 {h : CH} {y : Nat} {al : List Nat} {u : TS} (H : HT h y al u) {i : Nat} (hi : i < 73) (v : Int32) : ∃ h', uI h 0 (al.getD 1 0) (ni i) v = some h' ∧ HT h' y al (sA u 0 i v) ∧ Mod (· ∈ al) 0 0 h h' := by
  obtain ⟨w, ad, t, rfl⟩ := H
  obtain ⟨c, cb'⟩ := t.2.1 (ad 0, .inr (0, 73, .inl (tA u 0))) (by unfold twl; simp)
  obtain ⟨s1, s2⟩ := t.set (u' := sA u 0 i v) w (m := 1) (a := ad 0) (e := .inr (0, 73, .inl (upd (tA u 0) i v))) rfl rfl
  refine ⟨_, ?_, ⟨s2.wf, ad, s1, rfl⟩, s2⟩
  show uI h 0 (ad 0) (ni i) v = _
  unfold uI; rw [c]
  have hx := ix_ni hi (show 73 < 2 ^ 31 by decide)
  show (if 0 = 0 ∧ h.2.2.1 ≤ ad 0 ∧ ix (ni i) 73 = true then _ else _) = _
  rw [if_pos ⟨rfl, cb', hx⟩, ni_clamp (by omega)]
theorem HT.r1 {h : CH} {y : Nat} {al : List Nat} {u : TS} (H : HT h y al u) : oR h 0 1 y = some (al.getD 2 0) := by
  obtain ⟨w, ad, t, rfl⟩ := H
  exact oR_c t.obj rfl
theorem HT.a1 {h : CH} {y : Nat} {al : List Nat} {u : TS} (H : HT h y al u) {i : Nat} (hi : i < 73) : aI h 0 (al.getD 2 0) (ni i) = some (tA u 1 i) := by
  obtain ⟨w, ad, t, rfl⟩ := H
  have c := (t.2.1 (ad 1, .inr (0, 73, .inl (tA u 1))) (by unfold twl; simp)).1
  show aI h 0 (ad 1) (ni i) = _
  unfold aI; rw [c]
  simp only [ix_ni hi (by decide), and_self, if_true]
  rw [ni_clamp (by omega)]
theorem HT.u1 {h : CH} {y : Nat} {al : List Nat} {u : TS} (H : HT h y al u) {i : Nat} (hi : i < 73) (v : Int32) : ∃ h', uI h 0 (al.getD 2 0) (ni i) v = some h' ∧ HT h' y al (sA u 1 i v) ∧ Mod (· ∈ al) 0 0 h h' := by
  obtain ⟨w, ad, t, rfl⟩ := H
  obtain ⟨c, cb'⟩ := t.2.1 (ad 1, .inr (0, 73, .inl (tA u 1))) (by unfold twl; simp)
  obtain ⟨s1, s2⟩ := t.set (u' := sA u 1 i v) w (m := 2) (a := ad 1) (e := .inr (0, 73, .inl (upd (tA u 1) i v))) rfl rfl
  refine ⟨_, ?_, ⟨s2.wf, ad, s1, rfl⟩, s2⟩
  show uI h 0 (ad 1) (ni i) v = _
  unfold uI; rw [c]
  have hx := ix_ni hi (show 73 < 2 ^ 31 by decide)
  show (if 0 = 0 ∧ h.2.2.1 ≤ ad 1 ∧ ix (ni i) 73 = true then _ else _) = _
  rw [if_pos ⟨rfl, cb', hx⟩, ni_clamp (by omega)]
theorem HT.r2 {h : CH} {y : Nat} {al : List Nat} {u : TS} (H : HT h y al u) : oR h 0 2 y = some (al.getD 3 0) := by
  obtain ⟨w, ad, t, rfl⟩ := H
  exact oR_c t.obj rfl
theorem HT.a2 {h : CH} {y : Nat} {al : List Nat} {u : TS} (H : HT h y al u) {i : Nat} (hi : i < 900) : aI h 0 (al.getD 3 0) (ni i) = some (tA u 2 i) := by
  obtain ⟨w, ad, t, rfl⟩ := H
  have c := (t.2.1 (ad 2, .inr (0, 900, .inl (tA u 2))) (by unfold twl; simp)).1
  show aI h 0 (ad 2) (ni i) = _
  unfold aI; rw [c]
  simp only [ix_ni hi (by decide), and_self, if_true]
  rw [ni_clamp (by omega)]
theorem HT.u2 {h : CH} {y : Nat} {al : List Nat} {u : TS} (H : HT h y al u) {i : Nat} (hi : i < 900) (v : Int32) : ∃ h', uI h 0 (al.getD 3 0) (ni i) v = some h' ∧ HT h' y al (sA u 2 i v) ∧ Mod (· ∈ al) 0 0 h h' := by
  obtain ⟨w, ad, t, rfl⟩ := H
  obtain ⟨c, cb'⟩ := t.2.1 (ad 2, .inr (0, 900, .inl (tA u 2))) (by unfold twl; simp)
  obtain ⟨s1, s2⟩ := t.set (u' := sA u 2 i v) w (m := 3) (a := ad 2) (e := .inr (0, 900, .inl (upd (tA u 2) i v))) rfl rfl
  refine ⟨_, ?_, ⟨s2.wf, ad, s1, rfl⟩, s2⟩
  show uI h 0 (ad 2) (ni i) v = _
  unfold uI; rw [c]
  have hx := ix_ni hi (show 900 < 2 ^ 31 by decide)
  show (if 0 = 0 ∧ h.2.2.1 ≤ ad 2 ∧ ix (ni i) 900 = true then _ else _) = _
  rw [if_pos ⟨rfl, cb', hx⟩, ni_clamp (by omega)]
theorem HT.r3 {h : CH} {y : Nat} {al : List Nat} {u : TS} (H : HT h y al u) : oR h 0 3 y = some (al.getD 4 0) := by
  obtain ⟨w, ad, t, rfl⟩ := H
  exact oR_c t.obj rfl
theorem HT.a3 {h : CH} {y : Nat} {al : List Nat} {u : TS} (H : HT h y al u) {i : Nat} (hi : i < 500) : aI h 0 (al.getD 4 0) (ni i) = some (tA u 3 i) := by
  obtain ⟨w, ad, t, rfl⟩ := H
  have c := (t.2.1 (ad 3, .inr (0, 500, .inl (tA u 3))) (by unfold twl; simp)).1
  show aI h 0 (ad 3) (ni i) = _
  unfold aI; rw [c]
  simp only [ix_ni hi (by decide), and_self, if_true]
  rw [ni_clamp (by omega)]
theorem HT.u3 {h : CH} {y : Nat} {al : List Nat} {u : TS} (H : HT h y al u) {i : Nat} (hi : i < 500) (v : Int32) : ∃ h', uI h 0 (al.getD 4 0) (ni i) v = some h' ∧ HT h' y al (sA u 3 i v) ∧ Mod (· ∈ al) 0 0 h h' := by
  obtain ⟨w, ad, t, rfl⟩ := H
  obtain ⟨c, cb'⟩ := t.2.1 (ad 3, .inr (0, 500, .inl (tA u 3))) (by unfold twl; simp)
  obtain ⟨s1, s2⟩ := t.set (u' := sA u 3 i v) w (m := 4) (a := ad 3) (e := .inr (0, 500, .inl (upd (tA u 3) i v))) rfl rfl
  refine ⟨_, ?_, ⟨s2.wf, ad, s1, rfl⟩, s2⟩
  show uI h 0 (ad 3) (ni i) v = _
  unfold uI; rw [c]
  have hx := ix_ni hi (show 500 < 2 ^ 31 by decide)
  show (if 0 = 0 ∧ h.2.2.1 ≤ ad 3 ∧ ix (ni i) 500 = true then _ else _) = _
  rw [if_pos ⟨rfl, cb', hx⟩, ni_clamp (by omega)]
theorem HT.r16 {h : CH} {y : Nat} {al : List Nat} {u : TS} (H : HT h y al u) : oR h 0 16 y = some (al.getD 5 0) := by
  obtain ⟨w, ad, t, rfl⟩ := H
  exact oR_c t.obj rfl
theorem HT.a16 {h : CH} {y : Nat} {al : List Nat} {u : TS} (H : HT h y al u) {i : Nat} (hi : i < 5) : aI h 0 (al.getD 5 0) (ni i) = some (tA u 16 i) := by
  obtain ⟨w, ad, t, rfl⟩ := H
  have c := (t.2.1 (ad 16, .inr (0, 5, .inl (tA u 16))) (by unfold twl; simp)).1
  show aI h 0 (ad 16) (ni i) = _
  unfold aI; rw [c]
  simp only [ix_ni hi (by decide), and_self, if_true]
  rw [ni_clamp (by omega)]
theorem HT.u16 {h : CH} {y : Nat} {al : List Nat} {u : TS} (H : HT h y al u) {i : Nat} (hi : i < 5) (v : Int32) : ∃ h', uI h 0 (al.getD 5 0) (ni i) v = some h' ∧ HT h' y al (sA u 16 i v) ∧ Mod (· ∈ al) 0 0 h h' := by
  obtain ⟨w, ad, t, rfl⟩ := H
  obtain ⟨c, cb'⟩ := t.2.1 (ad 16, .inr (0, 5, .inl (tA u 16))) (by unfold twl; simp)
  obtain ⟨s1, s2⟩ := t.set (u' := sA u 16 i v) w (m := 5) (a := ad 16) (e := .inr (0, 5, .inl (upd (tA u 16) i v))) rfl rfl
  refine ⟨_, ?_, ⟨s2.wf, ad, s1, rfl⟩, s2⟩
  show uI h 0 (ad 16) (ni i) v = _
  unfold uI; rw [c]
  have hx := ix_ni hi (show 5 < 2 ^ 31 by decide)
  show (if 0 = 0 ∧ h.2.2.1 ≤ ad 16 ∧ ix (ni i) 5 = true then _ else _) = _
  rw [if_pos ⟨rfl, cb', hx⟩, ni_clamp (by omega)]
theorem HT.r17 {h : CH} {y : Nat} {al : List Nat} {u : TS} (H : HT h y al u) : oR h 0 17 y = some (al.getD 6 0) := by
  obtain ⟨w, ad, t, rfl⟩ := H
  exact oR_c t.obj rfl
theorem HT.a17 {h : CH} {y : Nat} {al : List Nat} {u : TS} (H : HT h y al u) {i : Nat} (hi : i < 5) : aI h 0 (al.getD 6 0) (ni i) = some (tA u 17 i) := by
  obtain ⟨w, ad, t, rfl⟩ := H
  have c := (t.2.1 (ad 17, .inr (0, 5, .inl (tA u 17))) (by unfold twl; simp)).1
  show aI h 0 (ad 17) (ni i) = _
  unfold aI; rw [c]
  simp only [ix_ni hi (by decide), and_self, if_true]
  rw [ni_clamp (by omega)]
theorem HT.u17 {h : CH} {y : Nat} {al : List Nat} {u : TS} (H : HT h y al u) {i : Nat} (hi : i < 5) (v : Int32) : ∃ h', uI h 0 (al.getD 6 0) (ni i) v = some h' ∧ HT h' y al (sA u 17 i v) ∧ Mod (· ∈ al) 0 0 h h' := by
  obtain ⟨w, ad, t, rfl⟩ := H
  obtain ⟨c, cb'⟩ := t.2.1 (ad 17, .inr (0, 5, .inl (tA u 17))) (by unfold twl; simp)
  obtain ⟨s1, s2⟩ := t.set (u' := sA u 17 i v) w (m := 6) (a := ad 17) (e := .inr (0, 5, .inl (upd (tA u 17) i v))) rfl rfl
  refine ⟨_, ?_, ⟨s2.wf, ad, s1, rfl⟩, s2⟩
  show uI h 0 (ad 17) (ni i) v = _
  unfold uI; rw [c]
  have hx := ix_ni hi (show 5 < 2 ^ 31 by decide)
  show (if 0 = 0 ∧ h.2.2.1 ≤ ad 17 ∧ ix (ni i) 5 = true then _ else _) = _
  rw [if_pos ⟨rfl, cb', hx⟩, ni_clamp (by omega)]
