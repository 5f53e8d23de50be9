/-! reading: the component's faults, words, numbers -/
set_option maxRecDepth 100000
def isFt (h : CH) (q : Nat) (e : Nat × Nat) : Prop := ∃ fs, cm h q = some (.inl (5, fs)) ∧ fs[6]? = some (.int (ni e.1)) ∧ fs[7]? = some (.int (ni e.2))
theorem isFt.ext {k n : Nat} {h h1 : CH} {q : Nat} {e : Nat × Nat} (H : isFt h q e) (m : Ext k n h h1) (w : wfh h) : isFt h1 q e := by
  obtain ⟨fs, a1, a2⟩ := H
  exact ⟨fs, m.at w a1 id, a2⟩
theorem isFt.c {h : CH} {q : Nat} {e : Nat × Nat} (H : isFt h q e) : isC h q 5 = true := by
  obtain ⟨fs, a1, a2⟩ := H
  unfold isC; rw [a1]; rfl
theorem X5_new {f : Nat} {h : CH} (w : wfh h) (k p : Nat) : ∃ h', m_X5_init f (cn h 8 (.inl (5, [.null, .null, .null, .null, .null, .int 0, .int 0, .int 0]))) h.1 (ni k) (ni p) = some h' ∧ isFt h' h.1 (k, p) ∧ Ext 1 8 h h' := by
  have e1 : Ext 1 8 h (cn h 8 (.inl (5, [.null, .null, .null, .null, .null, .int 0, .int 0, .int 0]))) := Mod.cn w
  have c1 := cm_cn_s h 8 (.inl (5, [.null, .null, .null, .null, .null, .int 0, .int 0, .int 0]))
  generalize cn h 8 (.inl (5, [.null, .null, .null, .null, .null, .int 0, .int 0, .int 0])) = h1 at e1 c1 ⊢
  unfold m_X5_init m_J14_init_X5 m_J13_init_X5 m_J14_init_X5_4 m_X5_init_4
  rw [pF_c c1 e1.wf (by simp), bd_some]
  have m2 : Mod (· = h.1) 0 0 h1 _ := Mod.cs (e := .inl (5, [Value.null, .null, .null, .null, .null, .int 0, .int 0, .int 0].set 0 (.ref h.1))) e1.wf c1 rfl
  have c2 := cm_cs_s h1 h.1 (.inl (5, [Value.null, .null, .null, .null, .null, .int 0, .int 0, .int 0].set 0 (.ref h.1)))
  generalize cs h1 h.1 (.inl (5, [Value.null, .null, .null, .null, .null, .int 0, .int 0, .int 0].set 0 (.ref h.1))) = h2 at m2 c2 ⊢
  rw [pF_c c2 m2.wf (by simp), bd_some]
  generalize hv1 : va_rf (sR h2 8) = v1
  have m3 : Mod (· = h.1) 0 0 h2 _ := Mod.cs (e := .inl (5, ([Value.null, .null, .null, .null, .null, .int 0, .int 0, .int 0].set 0 (.ref h.1)).set 1 v1)) m2.wf c2 rfl
  have c3 := cm_cs_s h2 h.1 (.inl (5, ([Value.null, .null, .null, .null, .null, .int 0, .int 0, .int 0].set 0 (.ref h.1)).set 1 v1))
  have s3 : ∀ i, sR (cs h2 h.1 (.inl (5, ([Value.null, .null, .null, .null, .null, .int 0, .int 0, .int 0].set 0 (.ref h.1)).set 1 v1))) i = sR h2 i := fun i => rfl
  generalize cs h2 h.1 (.inl (5, ([Value.null, .null, .null, .null, .null, .int 0, .int 0, .int 0].set 0 (.ref h.1)).set 1 v1)) = h3 at m3 c3 s3 ⊢
  rw [pF_c c3 m3.wf (by simp), bd_some]
  generalize va_rf (sR h3 9) = v2
  have m4 : Mod (· = h.1) 0 0 h3 _ := Mod.cs (e := .inl (5, (([Value.null, .null, .null, .null, .null, .int 0, .int 0, .int 0].set 0 (.ref h.1)).set 1 v1).set 2 v2)) m3.wf c3 rfl
  have c4 := cm_cs_s h3 h.1 (.inl (5, (([Value.null, .null, .null, .null, .null, .int 0, .int 0, .int 0].set 0 (.ref h.1)).set 1 v1).set 2 v2))
  have s4 : ∀ i, sR (cs h3 h.1 (.inl (5, (([Value.null, .null, .null, .null, .null, .int 0, .int 0, .int 0].set 0 (.ref h.1)).set 1 v1).set 2 v2))) i = sR h2 i := fun i => s3 i
  generalize cs h3 h.1 (.inl (5, (([Value.null, .null, .null, .null, .null, .int 0, .int 0, .int 0].set 0 (.ref h.1)).set 1 v1).set 2 v2)) = h4 at m4 c4 s4 ⊢
  have fl : flk h4 5 1 4 h.1 = true := by
    unfold flk
    have o1 : oF h4 5 1 h.1 = some v1 := by unfold oF; rw [c4]; rfl
    have o4 : oF h4 5 4 h.1 = some .null := by unfold oF; rw [c4]; rfl
    rw [o1, o4, s4, hv1, decide_eq_true (rfl : some v1 = some v1), decide_eq_true (rfl : (some Value.null : Option Value) = some .null), decide_eq_true (m4.wf.1 _ _ c4).1]; rfl
  rw [gd_of fl, bd_some, bd_some, pF_c c4 m4.wf (by simp), bd_some]
  have m5 : Mod (· = h.1) 0 0 h4 _ := Mod.cs (e := .inl (5, ((([Value.null, .null, .null, .null, .null, .int 0, .int 0, .int 0].set 0 (.ref h.1)).set 1 v1).set 2 v2).set 6 (.int (ni k)))) m4.wf c4 rfl
  have c5 := cm_cs_s h4 h.1 (.inl (5, ((([Value.null, .null, .null, .null, .null, .int 0, .int 0, .int 0].set 0 (.ref h.1)).set 1 v1).set 2 v2).set 6 (.int (ni k))))
  generalize cs h4 h.1 (.inl (5, ((([Value.null, .null, .null, .null, .null, .int 0, .int 0, .int 0].set 0 (.ref h.1)).set 1 v1).set 2 v2).set 6 (.int (ni k)))) = h5 at m5 c5 ⊢
  rw [pF_c c5 m5.wf (by simp), bd_some]
  have m6 : Mod (· = h.1) 0 0 h5 _ := Mod.cs (e := .inl (5, (((([Value.null, .null, .null, .null, .null, .int 0, .int 0, .int 0].set 0 (.ref h.1)).set 1 v1).set 2 v2).set 6 (.int (ni k))).set 7 (.int (ni p)))) m5.wf c5 rfl
  have g : ∀ q, (fun z => z = h.1) q → h.1 ≤ q := fun q hq => by have e' : q = h.1 := hq; omega
  exact ⟨_, rfl, ⟨_, cm_cs_s _ _ _, rfl, rfl⟩, (Ext.trn (Ext.trn (Ext.trn (Ext.trn (Ext.trn e1 m2 g) m3 g) m4 g) m5 g) m6 g).up (by omega) (by omega)⟩
/-- the reader at work: the piece s is at hand -/
def RS (h : CH) (r FL NL x ln : Nat) (la : Int32) (t : Nat → Nat) (b : Nat → Nat) (n : Nat) (s : Lx) : Prop := wfh h ∧ kf h ∧ Tk h t ∧ cTp h x b n ∧ cRe h r FL NL x ln la t b s ∧ LxOk b n s
theorem RS.isC {h : CH} {r FL NL x ln : Nat} {la : Int32} {t : Nat → Nat} {b : Nat → Nat} {n : Nat} {s : Lx} (H : RS h r FL NL x ln la t b n s) : isC h r 4 = true := by
  obtain ⟨_, _, _, _, ⟨num, wd, h1, _⟩, _⟩ := H
  exact isC_re h1
theorem RS.n5 {h : CH} {r FL NL x ln : Nat} {la : Int32} {t : Nat → Nat} {b : Nat → Nat} {n : Nat} {s : Lx} (H : RS h r FL NL x ln la t b n s) : n ≤ 500 := by
  obtain ⟨_, _, _, ⟨_, _, _, _, _, _, _, a5, _⟩, _⟩ := H
  exact a5
theorem RS.adv {f : Nat} (hf : 501 < f) {h : CH} {r FL NL x ln : Nat} {la : Int32} {t : Nat → Nat} {b : Nat → Nat} {n : Nat} {s : Lx} (H : RS h r FL NL x ln la t b n s) : ∃ h', m_X4_advance f h r = some h' ∧ RS h' r FL NL x ln la t b n (nx b n s.2.2) ∧ Mod (· = r) (5 * ((nx b n s.2.2).2.2 - s.2.2)) (29 * ((nx b n s.2.2).2.2 - s.2.2)) h h' := by
  obtain ⟨w, k, T, C, ⟨num, wd, h1, _⟩, o⟩ := H
  obtain ⟨h', a1, a2, a3⟩ := X4_advance (f := f) hf w k T C h1 o.2.2.1
  exact ⟨h', a1, ⟨a3.wf, k.mod a3, T.mod a3, C.re a3 w h1, a2, (nx_ok o.2.2.1).1⟩, a3⟩
/-- what the piece is -/
theorem RS.tk {h : CH} {r FL NL x ln : Nat} {la : Int32} {t : Nat → Nat} {b : Nat → Nat} {n : Nat} {s : Lx} (H : RS h r FL NL x ln la t b n s) {k : Nat} (hk : k < 6) : ∃ a c, oR h 4 7 r = some a ∧ sR h (2 + tkC k) = some c ∧ (a = c ↔ s.1 = k) := by
  obtain ⟨w, _, T, C, ⟨num, wd, h1, _⟩, o⟩ := H
  have ho := o.1
  refine ⟨t (tkC s.1), t (tkC k), oR_c h1 rfl, T.1 _ (tkC_lt k hk), fun e => ?_, fun e => by rw [e]⟩
  exact tkC_inj _ (by omega) _ hk (T.2 _ _ (tkC_lt _ (by omega)) (tkC_lt k hk) e)
theorem X4_isWord {f : Nat} (hf : 600 ≤ f) {h : CH} {r FL NL x ln : Nat} {la : Int32} {t : Nat → Nat} {b : Nat → Nat} {n : Nat} {s : Lx} (H : RS h r FL NL x ln la t b n s) {a : Nat} {w : List Nat} (hw : isS h a w) : m_X4_isWord f h r a = some (if isWd b s w = true then 1 else 0, h) := by
  obtain ⟨a1, c1, q1, q2, q3⟩ := H.tk (k := 1) (by decide)
  obtain ⟨w0, _, T, C, ⟨num, wd, h1, h2, _⟩, o⟩ := H
  have q2' : sR h 7 = some c1 := q2
  unfold m_X4_isWord m_X4_isWord_25 m_X4_isWord_18 m_X4_isWord_26 isWd
  rw [q1, bd_some, q2', bd_some]
  by_cases k1 : s.1 = 1
  · have hS := h2 k1
    have o8 : oR h 4 8 r = some wd := oR_c h1 rfl
    rw [if_neg (fun hh => hh (q3.mpr k1)), o8, bd_some, gd_of hS.d.1, J6_equals hf hS hw, bd2_some]
    by_cases e : word b s = w
    · rw [if_pos e, if_neg (by decide), if_pos (decide_eq_true ⟨k1, e⟩)]; rfl
    · rw [if_neg e, if_pos rfl, if_neg (fun hh => e (of_decide_eq_true hh).2)]; rfl
  · rw [if_pos (fun hh => k1 (q3.mp hh)), if_neg (fun hh => k1 (of_decide_eq_true hh).1)]; rfl
theorem X4_kWord {f : Nat} (hf : 600 ≤ f) {h : CH} {r FL NL x ln : Nat} {la : Int32} {t : Nat → Nat} {b : Nat → Nat} {n : Nat} {s : Lx} (H : RS h r FL NL x ln la t b n s) {i : Nat} (hi : i < 11) : ∃ a, sR h (20 + i) = some a ∧ m_X4_isWord f h r a = some (if isWd b s (strC.getD i []) = true then 1 else 0, h) := by
  obtain ⟨a, a1, a2⟩ := K_str H.1 H.2.1 hi
  exact ⟨a, a1, X4_isWord hf H a2⟩
theorem X4_isOwn {f : Nat} (hf : 600 ≤ f) {h : CH} {r FL NL x ln : Nat} {la : Int32} {t : Nat → Nat} {b : Nat → Nat} {n : Nat} {s : Lx} (H : RS h r FL NL x ln la t b n s) : m_X4_isOwn f h r = some (if isKp b s = true then 1 else 0, h) := by
  obtain ⟨a6, p6, q6⟩ := X4_kWord (f := f) hf H (i := 3) (by decide)
  obtain ⟨a7, p7, q7⟩ := X4_kWord (f := f) hf H (i := 2) (by decide)
  obtain ⟨a8, p8, q8⟩ := X4_kWord (f := f) hf H (i := 4) (by decide)
  obtain ⟨a9, p9, q9⟩ := X4_kWord (f := f) hf H (i := 5) (by decide)
  have q6' : m_X4_isWord f h r a6 = some (if isWd b s wLat = true then 1 else 0, h) := q6
  have q7' : m_X4_isWord f h r a7 = some (if isWd b s wTurn = true then 1 else 0, h) := q7
  have q8' : m_X4_isWord f h r a8 = some (if isWd b s wOf = true then 1 else 0, h) := q8
  have q9' : m_X4_isWord f h r a9 = some (if isWd b s wBy = true then 1 else 0, h) := q9
  unfold m_X4_isOwn m_X4_isOwn_6 m_X4_isOwn_15 m_X4_isOwn_24 m_X4_isOwn_33 m_X4_isOwn_36 m_X4_isOwn_41 isKp
  rw [p6, bd_some, gd_of H.isC, q6', bd2_some]
  cases isWd b s wLat with
  | true => rfl
  | false =>
    rw [niff0, p7, bd_some, gd_of H.isC, q7', bd2_some]
    cases isWd b s wTurn with
    | true => rfl
    | false =>
      rw [niff0, p8, bd_some, gd_of H.isC, q8', bd2_some]
      cases isWd b s wOf with
      | true => rfl
      | false =>
        rw [niff0, p9, bd_some, gd_of H.isC, q9', bd2_some]
        cases isWd b s wBy with
        | true => rfl
        | false => rfl
theorem bx_l {α β : Type} (a : α) (h : CH) (k : α → CH → Option β) (kx : Nat → CH → Option β) : bx (some (.inl a, h)) k kx = k a h := rfl
theorem bx_r {α β : Type} (q : Nat) (h : CH) (k : α → CH → Option β) (kx : Nat → CH → Option β) : bx (some (.inr q, h)) k kx = kx q h := rfl
theorem X4_needs1 {f : Nat} {h : CH} {r : Nat} {v : Int32} (hv : ¬ v = 0) (k : Int32) : m_X4_needs f h r v k = some (.inl (), h) := by
  unfold m_X4_needs; rw [if_pos hv]
theorem X4_needs0 {f : Nat} {h : CH} {r FL NL x ln : Nat} {la : Int32} {t : Nat → Nat} {b : Nat → Nat} {n : Nat} {s : Lx} (H : RS h r FL NL x ln la t b n s) (k : Nat) : ∃ q h', m_X4_needs f h r 0 (ni k) = some (.inr q, h') ∧ isFt h' q (k, s.2.1) ∧ Ext 1 8 h h' := by
  obtain ⟨w0, _, T, C, ⟨num, wd, h1, _⟩, o⟩ := H
  unfold m_X4_needs m_X4_needs_7 m_X4_needs_16
  obtain ⟨h', a1, a2, a3⟩ := X5_new (f := f) w0 k s.2.1
  have e1 : Ext 1 8 h (cn h 8 (.inl (5, [.null, .null, .null, .null, .null, .int 0, .int 0, .int 0]))) := Mod.cn w0
  have o3 : oI (cn h 8 (.inl (5, [.null, .null, .null, .null, .null, .int 0, .int 0, .int 0]))) 4 3 r = some (ni s.2.1) := oI_c (e1.at w0 h1 id) rfl
  rw [if_neg (fun hh => hh rfl), nmv_eq, nmv_eq, o3, bd_some, a1, bd_some, gd_of a2.c]
  exact ⟨h.1, h', rfl, a2, a3⟩
/-- a step of the reader that went wrong -/
def Bad {α : Type} (m : Option ((α ⊕ Nat) × CH)) (h : CH) (r : Nat) (e : Nat × Nat) (k n : Nat) : Prop := ∃ q h', m = some (.inr q, h') ∧ isFt h' q e ∧ Mod (· = r) k n h h'
theorem Bad.mk {α : Type} {m : Option ((α ⊕ Nat) × CH)} {h h1 h' : CH} {r q : Nat} {e : Nat × Nat} {k n k' n' : Nat} (hm : m = some (.inr q, h')) (a : isFt h' q e) (b : Mod (· = r) k n h h1) (c : Ext 1 8 h1 h') (hk : k + 1 ≤ k') (hn : n + 8 ≤ n') : Bad m h r e k' n' := ⟨q, h', hm, a, (b.tr (c.mono (T := (· = r)) (fun _ _ hh => hh.elim) (Nat.le_refl _) (Nat.le_refl _)) (fun _ _ => id)).up hk hn⟩
def RsS (f : Nat) (h : CH) (r FL NL x ln : Nat) (la : Int32) (t : Nat → Nat) (b : Nat → Nat) (n : Nat) (s : Lx) (m : Option ((Int32 ⊕ Nat) × CH)) : Rs (Int × Lx) → Prop
  | .inl e => Bad m h r e (5 * (n - s.2.2) + 1) (29 * (n - s.2.2) + 8)
  | .inr (v, s1) => ∃ v' h', m = some (.inl v', h') ∧ v'.toInt = v ∧ v.natAbs ≤ 6 ∧ RS h' r FL NL x ln (ni s1.2.1) t b n (nx b n s1.2.2) ∧ Mod (· = r) (5 * ((nx b n s1.2.2).2.2 - s.2.2)) (29 * ((nx b n s1.2.2).2.2 - s.2.2)) h h'
/-- the number at hand -/
theorem X4_s24 {f : Nat} (hf : 501 < f) {h : CH} {r FL NL x ln : Nat} {la : Int32} {t : Nat → Nat} {b : Nat → Nat} {n : Nat} {s : Lx} (H : RS h r FL NL x ln la t b n s) {most : Nat} (hm : most ≤ 6) (x2 : Int32) : (s.1 ≠ 2 → Bad (m_X4_signed_24 f h r (ni most) x2) h r (1, s.2.1) 1 8) ∧ (s.1 = 2 → most < val b s → Bad (m_X4_signed_24 f h r (ni most) x2) h r (2, s.2.1) 1 8) ∧ (s.1 = 2 → ¬ most < val b s → ∃ h', m_X4_signed_24 f h r (ni most) x2 = some (.inl (if x2 = 0 then ni (val b s) else -ni (val b s)), h') ∧ RS h' r FL NL x ln (ni s.2.1) t b n (nx b n s.2.2) ∧ Mod (· = r) (5 * ((nx b n s.2.2).2.2 - s.2.2)) (29 * ((nx b n s.2.2).2.2 - s.2.2)) h h') := by
  obtain ⟨a1, c1, q1, q2, q3⟩ := H.tk (k := 2) (by decide)
  have q2' : sR h 5 = some c1 := q2
  have w0 := H.1
  unfold m_X4_signed_24 m_X4_signed_40
  rw [q1, bd_some, q2', bd_some, gd_of H.isC]
  refine ⟨fun k2 => ?_, fun k2 hv => ?_, fun k2 hv => ?_⟩
  · rw [if_pos (fun hh => k2 (q3.mp hh))]
    obtain ⟨q, h', z1', z2', z3'⟩ := X4_needs0 (f := f) H 1
    have z1'' : m_X4_needs f h r 0 1 = some (.inr q, h') := z1'
    refine Bad.mk (q := q) (h' := h') ?_ z2' (Mod.rf w0) z3' (by omega) (by omega)
    rw [z1'']
    show gd (Jvm.Pilot.CCoincideBenchLaw_law_r8029_ca2b77.isC h' q 5) _ = _
    rw [gd_of z2'.c]
  · rw [if_neg (fun hh => hh (q3.mpr k2)), gd_of H.isC, X4_needs1 (by decide)]
    show Bad (m_X4_signed_44 f h r (ni most) x2) h r (2, s.2.1) 1 8
    have H' := H
    obtain ⟨_, _, T, C, ⟨num, wd, h1, h2, h3⟩, o⟩ := H'
    have o4 : oI h 4 4 r = some (ni (min 9999 (val b s))) := by rw [← h3 k2]; exact oI_c h1 rfl
    unfold m_X4_signed_44 m_X4_signed_58
    rw [o4, bd_some, if_pos (show ni most < ni (min 9999 (val b s)) from (ni_lt (by omega) (by omega)).mpr (by omega)), gd_of H.isC]
    obtain ⟨q, h', z1', z2', z3'⟩ := X4_needs0 (f := f) H 2
    have z1'' : m_X4_needs f h r 0 2 = some (.inr q, h') := z1'
    refine Bad.mk (q := q) (h' := h') ?_ z2' (Mod.rf w0) z3' (by omega) (by omega)
    rw [z1'']
    show gd (Jvm.Pilot.CCoincideBenchLaw_law_r8029_ca2b77.isC h' q 5) _ = _
    rw [gd_of z2'.c]
  · rw [if_neg (fun hh => hh (q3.mpr k2)), gd_of H.isC, X4_needs1 (by decide)]
    have H' := H
    obtain ⟨w, kf0, T, C, ⟨num, wd, h1, h2, h3⟩, o⟩ := H'
    have enum : num = ni (val b s) := by rw [h3 k2, show min 9999 (val b s) = val b s by omega]
    have o4 : oI h 4 4 r = some (ni (val b s)) := by rw [← enum]; exact oI_c h1 rfl
    have o3 : oI h 4 3 r = some (ni s.2.1) := oI_c h1 rfl
    show ∃ h', m_X4_signed_44 f h r (ni most) x2 = _ ∧ _
    unfold m_X4_signed_44 m_X4_signed_58
    rw [o4, bd_some, if_neg (show ¬ ni most < ni (val b s) from fun hh => hv ((ni_lt (by omega) (by omega)).mp hh)), gd_of H.isC, X4_needs1 (by decide)]
    show ∃ h', m_X4_signed_62 f h r x2 = _ ∧ _
    unfold m_X4_signed_62 m_X4_signed_86 m_X4_signed_91
    have pl : pF h 4 6 r (.int (ni s.2.1)) = some (cs h r (reC FL NL x s.2.2 s.2.1 num ln (ni s.2.1) (.ref (t (tkC s.1))) wd)) := pF_c h1 w (by simp) _
    rw [o3, bd_some, pl, bd_some]
    have m1 := re_md w h1 (reC FL NL x s.2.2 s.2.1 num ln (ni s.2.1) (.ref (t (tkC s.1))) wd)
    have c1' := cm_cs_s h r (reC FL NL x s.2.2 s.2.1 num ln (ni s.2.1) (.ref (t (tkC s.1))) wd)
    have C1 := C.re m1 w h1
    have T1 := T.mod m1
    have kf1 := kf0.mod m1
    generalize cs h r (reC FL NL x s.2.2 s.2.1 num ln (ni s.2.1) (.ref (t (tkC s.1))) wd) = k at m1 c1' C1 T1 kf1 ⊢
    have H1 : RS k r FL NL x ln (ni s.2.1) t b n s := ⟨m1.wf, kf1, T1, C1, ⟨num, wd, c1', fun hh => by omega, h3⟩, o⟩
    have o4' : oI k 4 4 r = some (ni (val b s)) := by rw [← enum]; exact oI_c c1' rfl
    obtain ⟨k', y1, y2, y3⟩ := H1.adv (f := f) hf
    refine ⟨k', ?_, y2, (m1.tr y3 (fun _ _ => id)).up (by omega) (by omega)⟩
    by_cases hx : x2 = 0
    · rw [if_pos hx, if_pos hx, o4', bd_some, gd_of H1.isC, y1, bd_some]
    · rw [if_neg hx, if_neg hx, o4', bd_some, gd_of H1.isC, y1, bd_some]
theorem X4_signed {f : Nat} (hf : 501 < f) {h : CH} {r FL NL x ln : Nat} {la : Int32} {t : Nat → Nat} {b : Nat → Nat} {n : Nat} {s : Lx} (H : RS h r FL NL x ln la t b n s) {most : Nat} (hm : most ≤ 6) : RsS f h r FL NL x ln la t b n s (m_X4_signed f h r (ni most)) (pSee b n most s) := by
  obtain ⟨a1, c1, q1, q2, q3⟩ := H.tk (k := 4) (by decide)
  have q2' : sR h 3 = some c1 := q2
  unfold m_X4_signed m_X4_signed_15 pSee
  rw [q1, bd_some, q2', bd_some]
  have o := H.2.2.2.2.2
  by_cases k4 : s.1 = 4
  · rw [if_neg (fun hh => hh (q3.mpr k4)), if_pos k4, if_neg (by decide), gd_of H.isC]
    obtain ⟨h1, y1, y2, y3⟩ := H.adv (f := f) hf
    rw [y1, bd_some]
    have o1 := y2.2.2.2.2.2
    obtain ⟨p1, p2, p3'⟩ := X4_s24 (f := f) hf y2 hm 1
    have nn := nx_ok (b := b) (n := n) o.2.2.1
    generalize nx b n s.2.2 = s1 at o1 p1 p2 p3' nn y3 ⊢
    have b1 := o1.2.2.1
    have b2 := o1.2.1
    by_cases k1 : s1.1 ≠ 2
    · obtain ⟨q, h', z1', z2', z3'⟩ := p1 k1
      rw [if_pos k1]
      exact ⟨q, h', z1', z2', (y3.tr z3' (fun _ _ => id)).up (by omega) (by omega)⟩
    · have k1' : s1.1 = 2 := by omega
      rw [if_neg k1]
      by_cases k2 : most < val b s1
      · obtain ⟨q, h', z1', z2', z3'⟩ := p2 k1' k2
        rw [if_pos k2]
        exact ⟨q, h', z1', z2', (y3.tr z3' (fun _ _ => id)).up (by omega) (by omega)⟩
      · obtain ⟨h', z1', z2', z3'⟩ := p3' k1' k2
        rw [if_neg k2]
        have nn2 := nx_ok (b := b) (n := n) b1
        have b3 := nn2.1.2.1
        refine ⟨_, h', z1', ?_, by omega, z2', (y3.tr z3' (fun _ _ => id)).up (by omega) (by omega)⟩
        rw [if_neg (by decide)]; exact ni_neg6 _ (by omega)
  · rw [if_pos (fun hh => k4 (q3.mp hh)), if_neg k4, if_pos rfl]
    obtain ⟨p1, p2, p3'⟩ := X4_s24 (f := f) hf H hm 0
    by_cases k1 : s.1 ≠ 2
    · obtain ⟨q, h', z1', z2', z3'⟩ := p1 k1
      rw [if_pos k1]
      exact ⟨q, h', z1', z2', z3'.up (by omega) (by omega)⟩
    · have k1' : s.1 = 2 := by omega
      rw [if_neg k1]
      by_cases k2 : most < val b s
      · obtain ⟨q, h', z1', z2', z3'⟩ := p2 k1' k2
        rw [if_pos k2]
        exact ⟨q, h', z1', z2', z3'.up (by omega) (by omega)⟩
      · obtain ⟨h', z1', z2', z3'⟩ := p3' k1' k2
        rw [if_neg k2]
        refine ⟨_, h', z1', ?_, by omega, z2', z3'⟩
        rw [if_pos rfl]; exact ni_toInt (by omega)
