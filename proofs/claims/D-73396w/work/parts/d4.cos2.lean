/-! cosets: the component's places -/
set_option maxRecDepth 100000
/-- a point's places by the rows, laid in a new array -/
theorem X0_c80 {f : Nat} (hf : 4 ≤ f) {h0 : CH} (w : wfh h0) (kf0 : kf h0) {x : Nat} {LS : LSt} (C : CV h0 x LS) {k : Nat} {M : Mi} {n : Int} {tn : Bool} (hl : LS[k]? = some (M, n, tn)) {K : RA} (hK : isN h0 K (fun i j => mnr M j i)) {a b c : Int32} {D : Int} (gD : rg D) (hD : D ≠ 0) {s : Nat → Int} (gh : ∀ j, j < 3 → rg (hvs M n (p3 a.toInt b.toInt c.toInt) j)) (hs : ∀ j, j < 3 → hvs M n (p3 a.toInt b.toInt c.toInt) j = D * s j) (x11 : Nat) : ∃ h', Ext 16 42 h0 h' ∧ cm h' h0.1 = some (vcl s) ∧ m_X0_coset_80 f f (cn h0 3 (.inr (1, 3, .inr (.inl (fun _ => 0))))) x (ni k) a b c K.1 (li D) x11 h0.1 0 = m_X0_coset_152 f h' x11 h0.1 := by
  have c0 : cm (cn h0 3 (.inr (1, 3, .inr (.inl (fun _ => 0))))) h0.1 = some (vcl (fun _ => 0)) := by
    rw [cm_cn_s]
    exact congrArg some vcl_0
  obtain ⟨h', ⟨p1, v, p2, pp⟩, q2⟩ := loop3v (fun n h y => m_X0_coset_80 f n h x (ni k) a b c K.1 (li D) x11 h0.1 y) (fun h => m_X0_coset_152 f h x11 h0.1) (fun j h => Ext (1 + 5 * j) (3 + 13 * j) h0 h ∧ ∃ v, cm h h0.1 = some (vcl v) ∧ ∀ i, i < j → v i = s i)
    (fun n v _ => by rw [m_X0_coset_80, if_pos le33])
    (fun m h j hj ⟨p1, v, p2, pp⟩ => by
      have hK' := hK.ext p1 w
      have C' := C.ext p1 w kf0.kok
      obtain ⟨a0, a1, a2⟩ := X0_at (f := f) C' hl
      obtain ⟨h4, c1, c2⟩ := L_over (f := f) (by omega) p1.wf a2
      have r0 : aR h 4 K.2.1 0 = some (K.2.2 0) := aR_R hK' (i := 0) (by decide)
      have r1 : aR h 4 K.2.1 1 = some (K.2.2 1) := aR_R hK' (i := 1) (by decide)
      have r2 : aR h 4 K.2.1 2 = some (K.2.2 2) := aR_R hK' (i := 2) (by decide)
      have p4 := c1.at p1.wf p2 id
      obtain ⟨l1, l2, l3⟩ := toL3 a b c
      refine ⟨cs h4 h0.1 (vcl (vst v j (s j))), ?_, ?_, vst v j (s j), ?_, ?_⟩
      · rw [m_X0_coset_80, if_neg (le3 hj), oR_R hK', bd_some, r0, bd_some, aL_R hK' (by decide) hj, bd_some, bd_some, r1, bd_some, aL_R hK' (by decide) hj, bd_some, bd_some, r2, bd_some, aL_R hK' (by decide) hj, bd_some, gd_of C'.isC, a1, bd2_some]
        unfold m_X0_coset_138
        rw [c2 (fun r3 h2 => m_X0_coset_141 f (m_X0_coset_80 f m) h2 x (ni k) a b c K.1 (li D) x11 h0.1 (ni j) h0.1 (ni j) _ r3)]
        unfold m_X0_coset_141
        rw [gd_of (nzL_li gD hD), l1, l2, l3, li_mul, li_mul, li_mul, li_add, li_add, li_mul]
        have e : li ((p3 a.toInt b.toInt c.toInt 0 * mnr M j 0 + p3 a.toInt b.toInt c.toInt 1 * mnr M j 1 + p3 a.toInt b.toInt c.toInt 2 * mnr M j 2) * n) / li D = li (s j) := by
          show li (hvs M n (p3 a.toInt b.toInt c.toInt) j) / li D = li (s j)
          rw [li_div (gh j hj) gD, hs j hj, Int.mul_tdiv_cancel_left _ hD]
        rw [e, uL_V c1.wf p4 hj, bd_some, nmv_eq, ni_succ]
      · exact ((Ext.trn (p1.tr c1 (fun _ _ => id)) (Mod.cs (S := fun q => q = h0.1) c1.wf p4 rfl) (fun q hq => by omega)).up (by omega) (by omega))
      · exact cm_cs_s _ _ _
      · intro i hi
        unfold vst
        split
        · rename_i e; rw [e]
        · exact pp i (by omega))
    hf (v := cn h0 3 (.inr (1, 3, .inr (.inl (fun _ => 0))))) ⟨Mod.cn w, fun _ => 0, c0, fun i hi => by omega⟩
  refine ⟨h', p1.up (by omega) (by omega), ?_, q2⟩
  rw [p2, vcl_congr pp]

theorem X0_cosetOf {f : Nat} (hf : 2 ^ 63 ≤ f) {h : CH} {x : Nat} {u : TS} {LS : LSt} (E : QE h x u LS) {k1 k2 : Nat} {M1 M2 : Mi} {n1 n2 : Int} {t1 t2 : Bool} (hl1 : LS[k1]? = some (M1, n1, t1)) (hl2 : LS[k2]? = some (M2, n2, t2)) (ht : ¬ (t1 = true ∧ t2 = true)) {a b c d : Int32} {s : Nat → Int} (s2 : ∀ j, j < 3 → hvs M1 n1 (p3 a.toInt b.toInt c.toInt) j = d.toInt * dtf M1 * s j) (s3 : ∀ j, j < 3 → rg (hvs M1 n1 (p3 a.toInt b.toInt c.toInt) j)) (s4 : rg (d.toInt * dtf M1)) (s5 : d.toInt * dtf M1 ≠ 0) (s6 : ∀ j, j < 3 → (s j).natAbs ≤ 168000000000) {P Q : Mi} {b' : Int} (eP : P = mscl (b'.tdiv n1) M1) (eQ : Q = mscl (b'.tdiv n2) M2) (eb : b' = btw n1 n2) : ∃ h', bd2 (m_X0_at f h x (ni k1)) (fun a4 h3 => m_X0_coset_29 f h3 x (ni k1) (ni k2) a b c d a4) = some (li (crn (sF P Q (dQ Q) kB) s 3).2, h') ∧ Ext 1100 5000 h h' := by
  have E' := E
  obtain ⟨w, kf0, C, T, L⟩ := E
  obtain ⟨a0, a1, a2⟩ := X0_at (f := f) C hl1
  obtain ⟨R, h3, b1, b2, b3⟩ := L_rows (f := f) (by omega) w a2
  rw [a1, bd2_some]
  unfold m_X0_coset_29
  rw [b3 (fun a3 h2 => m_X0_coset_32 f h2 x (ni k1) (ni k2) a b c d a3)]
  unfold m_X0_coset_32
  obtain ⟨h4, d1, d2, d3, _⟩ := X2_adjoint (f := f) (by omega) b2.wf b1
  rw [gd_of (isC_R b1), d1, bd2_some]
  have e04 : Ext 20 52 h h4 := (b2.tr d3 (fun _ _ => id)).up (by omega) (by omega)
  have C4 := C.ext e04 w kf0.kok
  unfold m_X0_coset_35
  obtain ⟨a0', a1', a2'⟩ := X0_at (f := f) C4 hl1
  rw [gd_of C4.isC, a1', bd2_some]
  unfold m_X0_coset_45
  obtain ⟨R5, h5, f1, f2, f3⟩ := L_rows (f := f) (by omega) d3.wf a2'
  rw [f3 (fun a3 h2 => m_X0_coset_48 f h2 x (ni k1) (ni k2) a b c h3.1 (Int32.toInt64 d) a3)]
  unfold m_X0_coset_48
  rw [gd_of (isC_R f1), X2_determinant f1, bd2_some]
  unfold m_X0_coset_51
  simp only [nmv_eq]
  rw [toL d, li_mul]
  have e56 : Ext 1 2 h5 (cn h5 2 (.inl (8, [.null, .null]))) := Mod.cn f2.wf
  have e06 : Ext 40 100 h (cn h5 2 (.inl (8, [.null, .null]))) := ((e04.tr f2 (fun _ _ => id)).tr e56 (fun _ _ => id)).up (by omega) (by omega)
  have E6 := E'.st e06 (Fr.rf (u := u) (l := [])) (by decide)
  unfold m_X0_coset_57
  obtain ⟨P', Q', X, b9, eP', eQ', eb', pq, x1, x2, x3, x4, x5, x6, R7, h7, y1, y2, y3⟩ := X0_toldBy (f := f) hf E6 hl1 hl2 ht
  have ebb : b9 = b' := by rw [eb', eb]
  subst ebb
  have ePP : P' = P := by rw [eP', eP]
  have eQQ : Q' = Q := by rw [eQ', eQ]
  subst ePP eQQ
  rw [gd_of E6.2.2.1.isC, y1, bd2_some]
  unfold m_X0_coset_64
  obtain ⟨tr1, tr2⟩ := told_run pq x1 x2 x4 (by omega) x6
  have c7 : cm h7 h5.1 = some (.inl (8, [.null, .null])) := y3.at e56.wf (cm_cn_s h5 2 _) id
  have kf7 := E6.2.1.mod y3
  have e57 : Ext 171 452 h5 h7 := (e56.tr y3 (fun _ _ => id)).up (by omega) (by omega)
  obtain ⟨h8, La, R8, k40, g1, g2⟩ := C_herm (f := f) (by omega) y3.wf kf7 y2 e57 (Nat.le_refl _) c7 tr1
  rw [g1, bd_some]
  unfold m_X0_coset_67
  have e58 := g2.ext (run_len tr1)
  obtain ⟨⟨_, q1, q2, _⟩, _⟩ := g2
  simp only [nmv_eq]
  rw [oR_c (k := 0) (x := R8.1) q1 rfl, bd_some]
  unfold m_X0_coset_75
  have e48 : Ext 1000 4600 h4 h8 := (f2.tr e58 (fun _ _ => id)).up (by omega) (by omega)
  have C8 := C4.ext e48 d3.wf (kf0.mod e04).kok
  have kf8 := (kf0.mod e04).mod e48
  obtain ⟨h9, v1, v2, v3'⟩ := X0_c80 (f := f) (by omega) e48.wf kf8 C8 hl1 (d2.ext e48 d3.wf) s4 s5 s3 s2 R8.1
  have v3'' : m_X0_coset_80 f f (cn h8 3 (.inr (1, 3, .inr (.inl (fun _ => 0))))) x (ni k1) a b c h3.1 (li (d.toInt * dtf M1)) R8.1 h8.1 0 = _ := v3'
  rw [v3'']
  unfold m_X0_coset_152
  obtain ⟨_, _, _, _, _, _, m7, m8, _⟩ := pq.mt
  have q9 : isN h9 R8 (sF P' Q' (dQ Q') kB) := (q2.ext v1 e48.wf).congr (fun i j hi hj => by show li _ = li _; rw [m3_at tr2 i j hi hj])
  have ne : ∀ i, i < 3 → R8.2.2 i ≠ h8.1 := fun i hi e => by have := (e48.wf.1 _ _ (q2.2.2.1 i hi)).2; omega
  have hH := m7
  obtain ⟨_, _, _, z1', z2', z3', _⟩ := m7
  have hpos := H_pos hH
  obtain ⟨h10, r1, r2⟩ := X0_c158 (f := f) (by omega) ne (fun i j hi hj => by have := H_ent hH i j hi hj; omega) (fun c hc => by rcases c3 hc with rfl | rfl | rfl; exact z1'; exact z2'; exact z3') s6 v1.wf q9 v2
  refine ⟨h10, r1, ?_⟩
  have e09 : Ext 1100 5000 h h9 := ((e04.tr e48 (fun _ _ => id)).tr v1 (fun _ _ => id)).up (by omega) (by omega)
  exact (Ext.trn e09 r2 (fun q hq => by have := e04.ge; have := e48.ge; omega)).up (by omega) (by omega)
