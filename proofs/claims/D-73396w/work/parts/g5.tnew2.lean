/-! a new turned one, whole -/
set_option maxRecDepth 100000
def upQ (q : Nat → Int) : Int := q 0 * q 0 - q 1 * q 1 - q 2 * q 2 - q 3 * q 3
theorem by_ent (x : Nat → Int32) (q : Nat → Int) (hx : ∀ k, k < 4 → x k = Int32.ofInt (q k)) : (((x 0 * x 0) + (x 1 * x 1)) - (x 2 * x 2)) - (x 3 * x 3) = Int32.ofInt (byM q 0 0) ∧ (2 : Int32) * ((x 1 * x 2) - (x 0 * x 3)) = Int32.ofInt (byM q 0 1) ∧ (2 : Int32) * ((x 1 * x 3) + (x 0 * x 2)) = Int32.ofInt (byM q 0 2) ∧ (2 : Int32) * ((x 1 * x 2) + (x 0 * x 3)) = Int32.ofInt (byM q 1 0) ∧ (((x 0 * x 0) - (x 1 * x 1)) + (x 2 * x 2)) - (x 3 * x 3) = Int32.ofInt (byM q 1 1) ∧ (2 : Int32) * ((x 2 * x 3) - (x 0 * x 1)) = Int32.ofInt (byM q 1 2) ∧ (2 : Int32) * ((x 1 * x 3) - (x 0 * x 2)) = Int32.ofInt (byM q 2 0) ∧ (2 : Int32) * ((x 2 * x 3) + (x 0 * x 1)) = Int32.ofInt (byM q 2 1) ∧ (((x 0 * x 0) - (x 1 * x 1)) - (x 2 * x 2)) + (x 3 * x 3) = Int32.ofInt (byM q 2 2) ∧ (((x 0 * x 0) + (x 1 * x 1)) + (x 2 * x 2)) + (x 3 * x 3) = Int32.ofInt (ovQ q) ∧ (((x 0 * x 0) - (x 1 * x 1)) - (x 2 * x 2)) - (x 3 * x 3) = Int32.ofInt (upQ q) := by
  rw [hx 0 (by decide), hx 1 (by decide), hx 2 (by decide), hx 3 (by decide), show (2 : Int32) = Int32.ofInt 2 from rfl]
  simp only [← Int32.ofInt_mul, ← Int32.ofInt_add, ← Int32.ofInt_sub]
  exact ⟨rfl, rfl, rfl, rfl, rfl, rfl, rfl, rfl, rfl, rfl, rfl⟩
/-- one row of the turn: a new array, laid, put into the grid -/
theorem X7_row {h : CH} (w : wfh h) {G : Nat} {gg : Nat → Option Nat} (hG : cm h G = some (.inr (5, 3, .inr (.inr gg)))) {i : Nat} (hi : i < 3) (u0 u1 u2 : Int32) : ∃ h', (∀ {γ : Type} (K : CH → Option γ), bd (uI (cn h 3 (.inr (0, 3, .inl (fun _ => 0)))) 0 h.1 (0 : Int32) u0) (fun h1 => bd (uI h1 0 h.1 (1 : Int32) u1) fun h2 => bd (uI h2 0 h.1 (2 : Int32) u2) fun h3 => bd (aN h3 0 h.1) fun _ => bd (uQ h3 5 G (ni i) (some h.1)) K) = K h') ∧ (∃ r, cm h' h.1 = some (.inr (0, 3, .inl r)) ∧ r 0 = u0 ∧ r 1 = u1 ∧ r 2 = u2) ∧ cm h' G = some (.inr (5, 3, .inr (.inr (va_up gg i (some h.1))))) ∧ Mod (· = G) 1 3 h h' ∧ h'.1 = h.1 + 1 := by
  have e1 : Ext 1 3 h (cn h 3 (.inr (0, 3, .inl (fun _ => 0)))) := Mod.cn w
  have c1 := cm_cn_s h 3 (.inr (0, 3, .inl (fun _ => (0 : Int32))))
  have s1 : (cn h 3 (.inr (0, 3, .inl (fun _ => 0)))).1 = h.1 + 1 := rfl
  have gl := (w.1 _ _ hG).2
  generalize cn h 3 (.inr (0, 3, .inl (fun _ => 0))) = h1 at e1 c1 s1 ⊢
  obtain ⟨h2, a1, ⟨r, a2, a3⟩, a4, a5⟩ := I3 e1.wf c1 u0 u1 u2
  have g2 := a4.at e1.wf (e1.at w hG id) (fun e => by have e' : G = h.1 := e; omega)
  have m3 : Mod (· = G) 0 0 h2 (cs h2 G (.inr (5, 3, .inr (.inr (va_up gg i (some h.1)))))) := Mod.cs a4.wf g2 rfl
  have an : aN h2 0 h.1 = some 3 := by unfold aN; rw [a2]; rfl
  refine ⟨_, fun {γ} K => ?_, ⟨r, m3.at a4.wf a2 (fun e => by have e' : h.1 = G := e; omega), a3⟩, cm_cs_s _ _ _, ?_, by show h2.1 = _; omega⟩
  · rw [a1, an, bd_some, uQ_g a4.wf g2 hi, bd_some]
  · exact ((Ext.trn (S := (· = G)) (e1.mono (T := (· = G)) (fun _ _ hh => hh.elim) (Nat.le_refl _) (Nat.le_refl _)) a4 (fun q hq => by have e' : q = h.1 := hq; omega)).tr m3 (fun _ _ => id)).up (by omega) (by omega)
theorem X7_new {f : Nat} (hf : 4 ≤ f) {h : CH} (w : wfh h) {b' Q : Nat} {qa : Nat → Int32} (hQ : cm h Q = some (.inr (0, 4, .inl qa))) {q : Nat → Int} (hqa : ∀ k, k < 4 → (qa k).toInt = q k) (hq : ∀ k, k < 4 → (q k).natAbs ≤ 3) : ∃ T h', m_X7_init f (cn h 5 (.inl (7, [.null, .null, .null, .long 0, .long 0]))) h.1 b' Q = some h' ∧ isTn h' h.1 b' T (fun i j => byM q j i) (ovQ q) (upQ q) ∧ Ext 25 80 h h' ∧ nwO h.1 T := by
  have e1 : Ext 1 5 h (cn h 5 (.inl (7, [.null, .null, .null, .long 0, .long 0]))) := Mod.cn w
  have c1 := cm_cn_s h 5 (.inl (7, [.null, .null, .null, .long 0, .long 0]))
  have s1 : (cn h 5 (.inl (7, [.null, .null, .null, .long 0, .long 0]))).1 = h.1 + 1 := rfl
  have Ql := (w.1 _ _ hQ).2
  generalize cn h 5 (.inl (7, [.null, .null, .null, .long 0, .long 0])) = h1 at e1 c1 s1 ⊢
  have Q1 := e1.at w hQ id
  unfold m_X7_init m_X6_init_X7 m_X6_init_X7_8 m_X6_init_X7_12
  obtain ⟨h2, a1, a2, a3, a4⟩ := X2_new (f := f) e1.wf
  have c2 := a3.at e1.wf c1 id
  rw [nmv_eq, nmv_eq, a1, bd_some, pF_c c2 a3.wf (by simp), bd_some, bd_some]
  have m3 : Mod (· = h.1) 0 0 h2 _ := Mod.cs (e := .inl (7, [Value.null, .null, .null, .long 0, .long 0].set 0 (.ref h1.1))) a3.wf c2 rfl
  have c3' := cm_cs_s h2 h.1 (.inl (7, [Value.null, .null, .null, .long 0, .long 0].set 0 (.ref h1.1)))
  have s3 : (cs h2 h.1 (.inl (7, [Value.null, .null, .null, .long 0, .long 0].set 0 (.ref h1.1)))).1 = h1.1 + 5 := a4
  have Q3 := m3.at a3.wf (a3.at e1.wf Q1 id) (fun e => by have e' : Q = h.1 := e; omega)
  generalize cs h2 h.1 (.inl (7, [Value.null, .null, .null, .long 0, .long 0].set 0 (.ref h1.1))) = h3 at m3 c3' s3 Q3 ⊢
  unfold m_X7_init_4
  rw [pF_c c3' m3.wf (by simp), bd_some]
  have m4 : Mod (· = h.1) 0 0 h3 _ := Mod.cs (e := .inl (7, ([Value.null, .null, .null, .long 0, .long 0].set 0 (.ref h1.1)).set 1 (.ref b'))) m3.wf c3' rfl
  have c4 := cm_cs_s h3 h.1 (.inl (7, ([Value.null, .null, .null, .long 0, .long 0].set 0 (.ref h1.1)).set 1 (.ref b')))
  have s4 : (cs h3 h.1 (.inl (7, ([Value.null, .null, .null, .long 0, .long 0].set 0 (.ref h1.1)).set 1 (.ref b')))).1 = h1.1 + 5 := s3
  have Q4 := m4.at m3.wf Q3 (fun e => by have e' : Q = h.1 := e; omega)
  generalize cs h3 h.1 (.inl (7, ([Value.null, .null, .null, .long 0, .long 0].set 0 (.ref h1.1)).set 1 (.ref b'))) = h4 at m4 c4 s4 Q4 ⊢
  have aq : ∀ k, k < 4 → aI h4 0 Q (ni k) = some (qa k) := fun k hk => by
    unfold aI; rw [Q4]
    simp only [ix_ni hk (by decide), and_self, if_true]
    rw [ni_clamp (by omega)]
  have aq0 : aI h4 0 Q 0 = some (qa 0) := aq 0 (by decide)
  have aq1 : aI h4 0 Q 1 = some (qa 1) := aq 1 (by decide)
  have aq2 : aI h4 0 Q 2 = some (qa 2) := aq 2 (by decide)
  have aq3 : aI h4 0 Q 3 = some (qa 3) := aq 3 (by decide)
  rw [aq0, bd_some, aq1, bd_some, aq2, bd_some, aq3, bd_some, nmv_eq, nmv_eq]
  obtain ⟨y1, y2, y3, y4, y5, y6, y7, y8, y9, y10, y11⟩ := by_ent qa q (fun k hk => by rw [← hqa k hk]; exact i_of _)
  obtain ⟨bl, bo, bu⟩ := byM_le hq
  unfold m_X7_init_32 m_X7_init_37 m_X7_init_97 m_X7_init_157 m_X7_init_218 m_X7_init_222
  rw [nmv_eq, nmv_eq]
  have e5 : Ext 1 3 h4 (cn h4 3 (.inr (5, 3, .inr (.inr (fun _ => none))))) := Mod.cn m4.wf
  have c5 := cm_cn_s h4 3 (.inr (5, 3, .inr (.inr (fun _ => (none : Option Nat)))))
  have s5 : (cn h4 3 (.inr (5, 3, .inr (.inr (fun _ => none))))).1 = h4.1 + 1 := rfl
  generalize cn h4 3 (.inr (5, 3, .inr (.inr (fun _ => none)))) = h5 at e5 c5 s5 ⊢
  obtain ⟨h6, r1, ⟨ra, r2, r3, r4, r5⟩, r6, r7, r8⟩ := X7_row e5.wf c5 (i := 0) (by decide) (((qa 0 * qa 0 + qa 1 * qa 1) - qa 2 * qa 2) - qa 3 * qa 3) ((2 : Int32) * (qa 1 * qa 2 - qa 0 * qa 3)) ((2 : Int32) * (qa 1 * qa 3 + qa 0 * qa 2))
  have r1' := fun {γ : Type} (K : CH → Option γ) => r1 K
  rw [show (ni 0 : Int32) = 0 from rfl] at r1'
  rw [r1', nmv_eq, nmv_eq]
  obtain ⟨h7, t1, ⟨rb, t2, t3, t4, t5⟩, t6, t7, t8⟩ := X7_row r7.wf r6 (i := 1) (by decide) ((2 : Int32) * (qa 1 * qa 2 + qa 0 * qa 3)) (((qa 0 * qa 0 - qa 1 * qa 1) + qa 2 * qa 2) - qa 3 * qa 3) ((2 : Int32) * (qa 2 * qa 3 - qa 0 * qa 1))
  have t1' := fun {γ : Type} (K : CH → Option γ) => t1 K
  rw [show (ni 1 : Int32) = 1 from rfl] at t1'
  rw [t1', nmv_eq, nmv_eq]
  obtain ⟨h8, u1, ⟨rc, u2, u3, u4, u5⟩, u6, u7, u8⟩ := X7_row t7.wf t6 (i := 2) (by decide) ((2 : Int32) * (qa 1 * qa 3 - qa 0 * qa 2)) ((2 : Int32) * (qa 2 * qa 3 + qa 0 * qa 1)) (((qa 0 * qa 0 - qa 1 * qa 1) - qa 2 * qa 2) + qa 3 * qa 3)
  have u1' := fun {γ : Type} (K : CH → Option γ) => u1 K
  rw [show (ni 2 : Int32) = 2 from rfl] at u1'
  rw [u1', nmv_eq, nmv_eq]
  have r2' := u7.at t7.wf (t7.at r7.wf r2 (fun e => by have e' : h5.1 = h4.1 := e; omega)) (fun e => by have e' : h5.1 = h4.1 := e; omega)
  have t2' := u7.at t7.wf t2 (fun e => by have e' : h6.1 = h4.1 := e; omega)
  have c8 := u7.at t7.wf (t7.at r7.wf (r7.at e5.wf (e5.at m4.wf c4 id) (fun e => by have e' : h.1 = h4.1 := e; omega)) (fun e => by have e' : h.1 = h4.1 := e; omega)) (fun e => by have e' : h.1 = h4.1 := e; omega)
  obtain ⟨h9, v1, v2, v3', v4⟩ := X2_new (f := f) u7.wf
  have c9 := v3'.at u7.wf c8 id
  rw [v1, bd_some, pF_c c9 v3'.wf (by simp), bd_some]
  have m10 : Mod (· = h.1) 0 0 h9 _ := Mod.cs (e := .inl (7, (([Value.null, .null, .null, .long 0, .long 0].set 0 (.ref h1.1)).set 1 (.ref b')).set 2 (.ref h8.1))) v3'.wf c9 rfl
  have c10 := cm_cs_s h9 h.1 (.inl (7, (([Value.null, .null, .null, .long 0, .long 0].set 0 (.ref h1.1)).set 1 (.ref b')).set 2 (.ref h8.1)))
  have R10 := v2.mod m10 v3'.wf (fun e => by have e' : h8.1 = h.1 := e; omega) (fun e => by have e' : h8.1 + 1 = h.1 := e; omega) (fun i hi e => by have e' : h8.1 + 1 + 1 + i = h.1 := e; omega)
  have nh : ∀ z, z ≠ h.1 → ¬ (fun p => p = h.1) z := fun z hz e => hz e
  have G10 : isG (cs h9 h.1 (.inl (7, (([Value.null, .null, .null, .long 0, .long 0].set 0 (.ref h1.1)).set 1 (.ref b')).set 2 (.ref h8.1)))) h4.1 (fun i => if i = 0 then h5.1 else if i = 1 then h6.1 else h7.1) q := by
    refine ⟨⟨_, m10.at v3'.wf (v3'.at u7.wf u6 id) (nh _ (by omega)), fun i hi => ?_⟩, fun i hi => ?_⟩
    · rcases c3 hi with rfl | rfl | rfl <;> rfl
    · rcases c3 hi with rfl | rfl | rfl
      · exact ⟨ra, m10.at v3'.wf (v3'.at u7.wf r2' id) (nh h5.1 (by omega)), fun j hj => by
          rcases c3 hj with rfl | rfl | rfl
          · rw [r3]; exact y1
          · rw [r4]; exact y2
          · rw [r5]; exact y3⟩
      · exact ⟨rb, m10.at v3'.wf (v3'.at u7.wf t2' id) (nh h6.1 (by omega)), fun j hj => by
          rcases c3 hj with rfl | rfl | rfl
          · rw [t3]; exact y4
          · rw [t4]; exact y5
          · rw [t5]; exact y6⟩
      · exact ⟨rc, m10.at v3'.wf (v3'.at u7.wf u2 id) (nh h7.1 (by omega)), fun j hj => by
          rcases c3 hj with rfl | rfl | rfl
          · rw [u3]; exact y7
          · rw [u4]; exact y8
          · rw [u5]; exact y9⟩
  generalize cs h9 h.1 (.inl (7, (([Value.null, .null, .null, .long 0, .long 0].set 0 (.ref h1.1)).set 1 (.ref b')).set 2 (.ref h8.1))) = h10 at m10 c10 R10 G10 ⊢
  obtain ⟨h11, w1, w2, w3⟩ := X7_i228 (f := f) hf m10.wf (a := h.1) (b' := b') (r0 := h1.1) (G := h4.1) hq (T := nwR h8) (o1 := .long 0) (o2 := .long 0) c10 G10 R10 (qa 0) (qa 1) (qa 2) (qa 3)
  rw [w1]
  unfold m_X7_init_277
  have nT : ¬ rS (nwR h8) h.1 := fun ⟨i, hi, e⟩ => by have e' : h.1 = h8.1 + 1 + 1 + i := e; omega
  have c11 := w3.at m10.wf c10 nT
  rw [y10, y11, of32 (by omega), of32 (show (upQ q).natAbs ≤ 1000000 by unfold upQ; omega), pF_c c11 w3.wf (by simp), bd_some]
  have m12 : Mod (· = h.1) 0 0 h11 _ := Mod.cs (e := .inl (7, ((([Value.null, .null, .null, .long 0, .long 0].set 0 (.ref h1.1)).set 1 (.ref b')).set 2 (.ref h8.1)).set 3 (.long (li (ovQ q))))) w3.wf c11 rfl
  have c12 := cm_cs_s h11 h.1 (.inl (7, ((([Value.null, .null, .null, .long 0, .long 0].set 0 (.ref h1.1)).set 1 (.ref b')).set 2 (.ref h8.1)).set 3 (.long (li (ovQ q)))))
  have nn1 : ¬ (fun p => p = h.1) (nwR h8).1 := fun e => by have e' : h8.1 = h.1 := e; omega
  have nn2 : ¬ (fun p => p = h.1) (nwR h8).2.1 := fun e => by have e' : h8.1 + 1 = h.1 := e; omega
  have nn3 : ∀ i, i < 3 → ¬ (fun p => p = h.1) ((nwR h8).2.2 i) := fun i hi e => by have e' : h8.1 + 1 + 1 + i = h.1 := e; omega
  have R12 := w2.mod m12 w3.wf nn1 nn2 nn3
  generalize cs h11 h.1 (.inl (7, ((([Value.null, .null, .null, .long 0, .long 0].set 0 (.ref h1.1)).set 1 (.ref b')).set 2 (.ref h8.1)).set 3 (.long (li (ovQ q))))) = h12 at m12 c12 R12 ⊢
  rw [pF_c c12 m12.wf (by simp), bd_some]
  have m13 : Mod (· = h.1) 0 0 h12 _ := Mod.cs (e := .inl (7, (((([Value.null, .null, .null, .long 0, .long 0].set 0 (.ref h1.1)).set 1 (.ref b')).set 2 (.ref h8.1)).set 3 (.long (li (ovQ q)))).set 4 (.long (li (upQ q))))) m12.wf c12 rfl
  refine ⟨nwR h8, _, rfl, ⟨h1.1, by rw [cm_cs_s]; rfl, R12.mod m13 m12.wf nn1 nn2 nn3⟩, ?_, ⟨by show h.1 ≤ h8.1; omega, by show h.1 ≤ h8.1 + 1; omega, fun i hi => by show h.1 ≤ h8.1 + 1 + 1 + i; omega⟩⟩
  have g : ∀ z, (fun p => p = h.1) z → h.1 ≤ z := fun z hz => by have e' : z = h.1 := hz; omega
  have g4 : ∀ z, (fun p => p = h4.1) z → h.1 ≤ z := fun z hz => by have e' : z = h4.1 := hz; omega
  have gT : ∀ z, rS (nwR h8) z → h.1 ≤ z := fun z ⟨i, hi, e⟩ => by have e' : z = h8.1 + 1 + 1 + i := e; omega
  exact (Ext.trn (Ext.trn (Ext.trn (Ext.trn ((Ext.trn (Ext.trn (Ext.trn ((Ext.trn (Ext.trn (e1.tr a3 (fun _ _ => id)) m3 g) m4 g).tr e5 (fun _ _ => id)) r7 g4) t7 g4) u7 g4).tr v3' (fun _ _ => id)) m10 g) w3 gT) m12 g) m13 g).up (by omega) (by omega)
