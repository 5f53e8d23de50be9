/-! lattices: the component -/
set_option maxRecDepth 100000
/-- like Ok, of a call that might throw -/
def OkX {α : Type} (mc : Option ((α ⊕ Nat) × CH)) (mt : CH → Option (α × CH)) (h : CH) (A : Nat → Nat) (lo y : Nat) (al : List Nat) : Prop := ∃ r h1 h2, mc = some (.inl r, h1) ∧ isC h1 y 0 = true ∧ mt h1 = some (r, h2) ∧ h2.1 ≤ h.1 + 9300 ∧ h2.2.1 ≤ h.2.1 + 112000 ∧ ∃ b n fk fp ts W acts wy, Inv h2 A lo y al b n fk fp ts W acts wy
/-- the new reader -/
theorem X4_new {f : Nat} {h : CH} (w : wfh h) (kf0 : kf h) (x : Nat) : ∃ FL NL wd h', m_X4_init f (cn h 10 (.inl (4, [.null, .null, .int 0, .int 0, .int 0, .int 0, .int 0, .null, .null, .null]))) h.1 x = some h' ∧ cm h' h.1 = some (reC FL NL x 0 0 0 0 0 .null wd) ∧ LI h' h.1 FL NL [] [] [] ∧ Ext 5 30 h h' := by
  have e1 : Ext 1 10 h (cn h 10 (.inl (4, [.null, .null, .int 0, .int 0, .int 0, .int 0, .int 0, .null, .null, .null]))) := Mod.cn w
  have c1 := cm_cn_s h 10 (.inl (4, [.null, .null, .int 0, .int 0, .int 0, .int 0, .int 0, .null, .null, .null]))
  have s1 : (cn h 10 (.inl (4, [.null, .null, .int 0, .int 0, .int 0, .int 0, .int 0, .null, .null, .null]))).1 = h.1 + 1 := rfl
  generalize cn h 10 (.inl (4, [.null, .null, .int 0, .int 0, .int 0, .int 0, .int 0, .null, .null, .null])) = h1 at e1 c1 s1 ⊢
  unfold m_X4_init
  rw [pF_c c1 e1.wf (by simp), bd_some]
  have m2 : Mod (· = h.1) 0 0 h1 _ := Mod.cs (e := .inl (4, [Value.null, .null, .int 0, .int 0, .int 0, .int 0, .int 0, .null, .null, .null].set 9 (.ref x))) e1.wf c1 rfl
  have c2 := cm_cs_s h1 h.1 (.inl (4, [Value.null, .null, .int 0, .int 0, .int 0, .int 0, .int 0, .null, .null, .null].set 9 (.ref x)))
  have s2 : (cs h1 h.1 (.inl (4, [Value.null, .null, .int 0, .int 0, .int 0, .int 0, .int 0, .null, .null, .null].set 9 (.ref x)))).1 = h.1 + 1 := s1
  generalize cs h1 h.1 (.inl (4, [Value.null, .null, .int 0, .int 0, .int 0, .int 0, .int 0, .null, .null, .null].set 9 (.ref x))) = h2 at m2 c2 s2 ⊢
  rw [nmv_eq, nmv_eq]
  unfold m_X4_init_13 m_X4_init_18 m_X4_init_25 m_X4_init_30
  obtain ⟨h3, a1, a2, a3, a4⟩ := J2_new (f := f) m2.wf (c := 5) (by decide) (by decide)
  have a1' : m_J2_init f (cn h2 3 (.inl (17, [.int 0, .null, .int 0]))) h2.1 5 = some h3 := a1
  have c3' := a3.at m2.wf c2 id
  rw [a1', bd_some, pF_c c3' a3.wf (by simp), bd_some]
  have m4 : Mod (· = h.1) 0 0 h3 _ := Mod.cs (e := .inl (4, ([Value.null, .null, .int 0, .int 0, .int 0, .int 0, .int 0, .null, .null, .null].set 9 (.ref x)).set 0 (.ref h2.1))) a3.wf c3' rfl
  have c4 := cm_cs_s h3 h.1 (.inl (4, ([Value.null, .null, .int 0, .int 0, .int 0, .int 0, .int 0, .null, .null, .null].set 9 (.ref x)).set 0 (.ref h2.1)))
  have s4 : (cs h3 h.1 (.inl (4, ([Value.null, .null, .int 0, .int 0, .int 0, .int 0, .int 0, .null, .null, .null].set 9 (.ref x)).set 0 (.ref h2.1)))).1 = h2.1 + 2 := a4
  have kf3 := ((kf0.mod e1).mod m2).mod a3
  have ne : ∀ {k : CH} {q : Nat} {e : AC} {fs : List Value}, cm k h.1 = some (.inl (4, fs)) → cm k q = some e → (∀ fs, e ≠ .inl (4, fs)) → ¬ (fun z => z = h.1) q := fun {k q e fs} hk hq hn e9 => by
    have e' : q = h.1 := e9
    rw [e', hk] at hq
    cases hq; exact hn _ rfl
  have lm : ∀ {k k' : CH} {fs fs' : List Value} (w : wfh k) (kk : kok k) (m : Mod (· = h.1) 0 0 k k') (hk : cm k h.1 = some (.inl (4, fs))) (hk' : cm k' h.1 = some (.inl (4, fs'))) {a E : Nat} {xs : List Nat}, isL k a E 5 xs → isL k' a E 5 xs := fun {k k' fs fs'} w kk m hk hk' {a E xs} L => by
    have L' := L
    obtain ⟨⟨mc, l1⟩, l2, l3, l4, l5⟩ := L'
    have hE : cm k E = some (.inr (3, 5, .inr (.inr (lsf xs)))) := by
      rcases l5 with l5 | l5
      · omega
      · exact l5.2
    exact L.mod m w kk (ne hk l1 (fun fs hh => by cases hh)) (ne hk hE (fun fs hh => by cases hh)) (fun q hq ci fs2 hc => by
      have e' : q = h.1 := hq
      subst e'
      rw [hk] at hc; cases hc; exact ⟨_, hk'⟩)
  have L4 := lm a3.wf kf3.kok m4 c3' c4 a2
  have kf4 := kf3.mod m4
  generalize cs h3 h.1 (.inl (4, ([Value.null, .null, .int 0, .int 0, .int 0, .int 0, .int 0, .null, .null, .null].set 9 (.ref x)).set 0 (.ref h2.1))) = h4 at m4 c4 s4 L4 kf4 ⊢
  rw [nmv_eq, nmv_eq]
  obtain ⟨h5, b1, b2, b3, b4⟩ := J2_new (f := f) m4.wf (c := 5) (by decide) (by decide)
  have b1' : m_J2_init f (cn h4 3 (.inl (17, [.int 0, .null, .int 0]))) h4.1 5 = some h5 := b1
  have c5 := b3.at m4.wf c4 id
  have L5 := L4.ext b3 m4.wf kf4.kok
  rw [b1', bd_some, pF_c c5 b3.wf (by simp), bd_some]
  have m6 : Mod (· = h.1) 0 0 h5 _ := Mod.cs (e := .inl (4, (([Value.null, .null, .int 0, .int 0, .int 0, .int 0, .int 0, .null, .null, .null].set 9 (.ref x)).set 0 (.ref h2.1)).set 1 (.ref h4.1))) b3.wf c5 rfl
  have c6 := cm_cs_s h5 h.1 (.inl (4, (([Value.null, .null, .int 0, .int 0, .int 0, .int 0, .int 0, .null, .null, .null].set 9 (.ref x)).set 0 (.ref h2.1)).set 1 (.ref h4.1)))
  have kf5 := kf4.mod b3
  have L6 := lm b3.wf kf5.kok m6 c5 c6 L5
  have N6 := lm b3.wf kf5.kok m6 c5 c6 b2
  have kf6 := kf5.mod m6
  generalize cs h5 h.1 (.inl (4, (([Value.null, .null, .int 0, .int 0, .int 0, .int 0, .int 0, .null, .null, .null].set 9 (.ref x)).set 0 (.ref h2.1)).set 1 (.ref h4.1))) = h6 at m6 c6 L6 N6 kf6 ⊢
  obtain ⟨wd, w1, w2⟩ := K_str m6.wf kf6 (i := 1) (by decide)
  have w1' : sR h6 (20 + 1) = some wd := w1
  rw [w1', bd_some, pF_c c6 m6.wf (by simp), bd_some]
  have m7 : Mod (· = h.1) 0 0 h6 _ := Mod.cs (e := .inl (4, ((([Value.null, .null, .int 0, .int 0, .int 0, .int 0, .int 0, .null, .null, .null].set 9 (.ref x)).set 0 (.ref h2.1)).set 1 (.ref h4.1)).set 8 (.ref wd))) m6.wf c6 rfl
  have c7 := cm_cs_s h6 h.1 (.inl (4, ((([Value.null, .null, .int 0, .int 0, .int 0, .int 0, .int 0, .null, .null, .null].set 9 (.ref x)).set 0 (.ref h2.1)).set 1 (.ref h4.1)).set 8 (.ref wd)))
  have L7 := lm m6.wf kf6.kok m7 c6 c7 L6
  have N7 := lm m6.wf kf6.kok m7 c6 c7 N6
  have g : ∀ z, (fun p => p = h.1) z → h.1 ≤ z := fun z hz => by have e' : z = h.1 := hz; omega
  refine ⟨h2.1, h4.1, wd, _, rfl, c7, ⟨h2.1 + 1, h4.1 + 1, [], L7, N7, rfl, rfl, fun k w hk => (by cases hk), fun k it hk => (by cases hk), ⟨by omega, by omega, by omega, by omega⟩, by omega, by omega, List.nodup_nil⟩, ?_⟩
  exact (Ext.trn (Ext.trn ((Ext.trn ((Ext.trn e1 m2 g).tr a3 (fun _ _ => id)) m4 g).tr b3 (fun _ _ => id)) m6 g) m7 g).up (by omega) (by omega)
/-- what the reader gives -/
def RdA (h : CH) (x : Nat) (m : Option ((Unit ⊕ Nat) × CH)) : Rs (List It) → Prop
  | .inl e => ∃ q h', m = some (.inr q, h') ∧ isFt h' q e ∧ Ext 3200 17000 h h'
  | .inr ts => ∃ h' fl FL E, m = some (.inl (), h') ∧ (∃ fs, cm h' h.1 = some (.inl (4, fs))) ∧ oI h' 4 5 h.1 = some (ni ts.length) ∧ oR h' 4 0 h.1 = some FL ∧ isL h' FL E 5 fl ∧ h.1 ≤ FL ∧ h.1 ≤ E ∧ fl.length = ts.length ∧ fl.Nodup ∧ (∀ (k : Nat) it, ts[k]? = some it → ∃ a, fl[k]? = some a ∧ h.1 ≤ a ∧ cIt h' h.1 fl a it) ∧ Ext 3200 17000 h h'
theorem X4_whole {f : Nat} (hf : 601 < f) {h : CH} (w : wfh h) (kf0 : kf h) {x : Nat} {b : Nat → Nat} {n : Nat} (C : cTp h x b n) : ∃ h1, m_X4_init f (cn h 10 (.inl (4, [.null, .null, .int 0, .int 0, .int 0, .int 0, .int 0, .null, .null, .null]))) h.1 x = some h1 ∧ isC h1 h.1 4 = true ∧ RdA h x (m_X4_read f h1 h.1) (pAll b n) := by
  obtain ⟨FL, NL, wd, h1, a1, a2, a3, a4⟩ := X4_new (f := f) w kf0 x
  obtain ⟨t, T⟩ := Tk.of kf0
  have n5 : n ≤ 500 := by obtain ⟨_, _, _, _, _, _, _, a5, _⟩ := C; exact a5
  have kf1 := kf0.mod a4
  have C1 := C.mod a4 w (fun q hq => hq.elim)
  obtain ⟨h2, b1, b2, b3⟩ := X4_advance (f := f) (by omega) a4.wf kf1 (T.mod a4) C1 a2 (Nat.zero_le _)
  have hc1 : isC h1 h.1 4 = true := isC_re a2
  refine ⟨h1, a1, hc1, ?_⟩
  have nn := nx_ok (b := b) (n := n) (Nat.zero_le _)
  have H2 : RS h2 h.1 FL NL x ([] : List It).length 0 t b n (nx b n 0) := ⟨b3.wf, kf1.mod b3, (T.mod a4).mod b3, C1.re b3 a4.wf a2, b2, nn.1⟩
  have L2 : LI h2 h.1 FL NL [] [] [] := by
    obtain ⟨fs2, hr2⟩ := H2.cell
    exact a3.re b3 a4.wf kf1.kok a2 hr2
  have R := X4_r4 (f := f) hf (r := h.1) (FL := FL) (NL := NL) (x := x) (t := t) (b := b) (n := n) (lo := h.1) (Nat.le_refl _) 501 f h2 [] [] (nx b n 0) 0 [] (by omega) (by omega) H2 L2 rfl ⟨Nat.zero_le _, fun k hk => by cases hk⟩ (by have := a4.ge; have := b3.ge; omega)
  have eR : m_X4_read f h1 h.1 = m_X4_read_4 f f h2 h.1 := by
    unfold m_X4_read
    rw [gd_of hc1, b1, bd_some]
  rw [eR]
  have o1 := nn.1.2.2.1
  have E12 : Ext (5 + 5 * (nx b n 0).2.2) (30 + 29 * (nx b n 0).2.2) h h2 := by
    refine (a4.tr b3 (fun q hq e => ?_)).up (by omega) (by omega)
    have e' : q = h.1 := e
    omega
  have toE : ∀ {k n' : Nat} {g : CH}, Mod (fun q => h.1 ≤ q) k n' h2 g → Ext (5 + 5 * (nx b n 0).2.2 + k) (30 + 29 * (nx b n 0).2.2 + n') h g := fun {k n' g} m => E12.tr m (fun q hq hh => by have hh' : h.1 ≤ q := hh; omega)
  unfold pAll
  have R' : RsR h2 h.1 FL NL x t b n (nx b n 0).2.2 h.1 (70 * (6 - 0)) (m_X4_read_4 f f h2 h.1) (pRead b n 501 [] [] (nx b n 0)) := R
  revert R'
  cases pRead b n 501 [] [] (nx b n 0) with
  | inl e =>
    rintro ⟨q, h', z1', z2', z3'⟩
    exact ⟨q, h', z1', z2', (toE z3').up (by omega) (by omega)⟩
  | inr ts =>
    rintro ⟨h', la', fl', ns', s', z1', z2', ⟨E, F, nl, l1, l2, l3, l4, l5, l6, l7, l8, l9⟩, z4'⟩
    obtain ⟨num, wd', hr, _⟩ := z2'.2.2.2.2.1
    have e := (toE z4').up (k' := 3200) (n' := 17000) (by omega) (by omega)
    exact ⟨h', fl', FL, E, z1', ⟨_, hr⟩, oI_c hr rfl, oR_c hr rfl, l1, l7.1, l7.2.2.1, l3, l9.2, l6, e⟩
