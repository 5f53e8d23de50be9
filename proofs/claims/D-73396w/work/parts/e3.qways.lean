/-! symmetries, takes -/
set_option maxRecDepth 100000
def cntG (G : Nat → Bool) : Nat → Nat
  | 0 => 0
  | n + 1 => cntG G n + if G n = true then 1 else 0
theorem cntG_le (G : Nat → Bool) : ∀ n, cntG G n ≤ n
  | 0 => Nat.le_refl _
  | n + 1 => by have := cntG_le G n; unfold cntG; split <;> omega
def fstG (G : Nat → Bool) : Nat → Nat → Int32
  | 0, _ => -1
  | k + 1, w => if G w = true then ni w else fstG G k (w + 1)
theorem exG (P : Nat → Prop) : ∃ G : Nat → Bool, ∀ w, G w = true ↔ P w := ⟨fun w => @decide (P w) (Classical.propDecidable _), fun w => @decide_eq_true_iff _ (Classical.propDecidable _)⟩
theorem bb_G {b g : Bool} {P : Prop} (h1 : b = true ↔ P) (h2 : g = true ↔ P) : b = g := bool_iff h1 h2
theorem lek48 {w : Nat} (h : w < 48) : ¬ (48 : Int32) ≤ ni w := by
  rw [show (48 : Int32) = ni 48 from rfl, ni_le (by omega) (by omega)]; omega
theorem cnt_st (G : Nat → Bool) (w : Nat) : ni (cntG G w) + (if G w = true then 1 else 0) = ni (cntG G (w + 1)) := by
  rw [show cntG G (w + 1) = cntG G w + (if G w = true then 1 else 0) from rfl]
  cases G w with
  | false => show ni (cntG G w) + 0 = ni (cntG G w + 0); rw [Int32.add_zero, Nat.add_zero]
  | true => exact ni_succ _
theorem X0_sy15 {f : Nat} (hf : 4 ≤ f) {h0 : CH} (w0 : wfh h0) (kf0 : kf h0) {x OR : Nat} {o : Nat → Nat} {LS : LSt} (C : CV h0 x LS) (L : LV LS) (HO : isOr h0 x OR o) {l : Nat} {M : Mi} {n : Int} {tn : Bool} (hl : LS[l]? = some (M, n, tn)) {G : Nat → Bool} (hG : ∀ w, w < 48 → (G w = true ↔ gPr M n M n w)) : ∀ k m w h, w + k = 48 → k < m → Ext (140 * w) (400 * w) h0 h → ∃ h', m_X0_symmetries_15 f m h x (ni l) (ni (cntG G w)) (ni w) = some (ni (cntG G 48), h') ∧ Ext 6720 19200 h0 h' := by
  intro k
  induction k with
  | zero =>
    intro m w h hw hm e
    obtain ⟨m, rfl⟩ : ∃ z, m = z + 1 := ⟨m - 1, by omega⟩
    have : w = 48 := by omega
    subst this
    rw [m_X0_symmetries_15, if_pos (show (48 : Int32) ≤ ni 48 from lekk 48)]
    exact ⟨h, rfl, e.up (by omega) (by omega)⟩
  | succ k ih =>
    intro m w h hw hm e
    obtain ⟨m, rfl⟩ : ∃ z, m = z + 1 := ⟨m - 1, by omega⟩
    have w48 : w < 48 := by omega
    have C' := C.ext e w0 kf0.kok
    obtain ⟨a, a1, a2⟩ := X0_at (f := f) C' hl
    obtain ⟨g, h2, g1, g2, g3⟩ := X0_goes (f := f) hf e.wf (HO.ext e w0) (L l M n tn hl) (L l M n tn hl) a2 a2 w48
    have eg := bb_G g2 (hG w w48)
    rw [m_X0_symmetries_15, if_neg (lek48 w48), gd_of C'.isC, a1, bd2_some]
    unfold m_X0_symmetries_29 m_X0_symmetries_34
    rw [gd_of C'.isC, a1, bd2_some, gd_of C'.isC, g1, bd2_some]
    unfold m_X0_symmetries_37 m_X0_symmetries_45
    have e2 : Ext (140 * (w + 1)) (400 * (w + 1)) h0 h2 := (e.tr g3 (fun _ _ => id)).up (by omega) (by omega)
    obtain ⟨h', i1, i2⟩ := ih m (w + 1) h2 (by omega) (by omega) e2
    refine ⟨h', ?_, i2⟩
    subst eg
    have ec := cnt_st G w
    cases hg : G w with
    | false =>
      rw [hg] at ec
      rw [iff0, nmv_eq, nmv_eq, ni_succ]
      have ec' : ni (cntG G w) + 0 = ni (cntG G (w + 1)) := ec
      rw [ec']; exact i1
    | true =>
      rw [hg] at ec
      have ec' : ni (cntG G w) + 1 = ni (cntG G (w + 1)) := ec
      rw [ift1, nmv_eq, nmv_eq, ec', ni_succ]; exact i1
theorem X3_sy15 {f : Nat} (hf : 2 ^ 63 ≤ f) {h0 : CH} (kf0 : kf h0) {y : Nat} {al : List Nat} {u0 : TS} {LS : LSt} (T : TV u0 LS) (L : LV LS) {l : Nat} {M : Mi} {n : Int} {tn : Bool} (hl : LS[l]? = some (M, n, tn)) {G : Nat → Bool} (hG : ∀ w, w < 48 → (G w = true ↔ gPr M n M n w)) : ∀ k m w h u, w + k = 48 → k < m → HT h y al u → rF QF u0 u → Mod (· ∈ al) w (3 * w) h0 h → ∃ h' u', m_X3_symmetries_15 f m h y (ni l) (ni (cntG G w)) (ni w) = some (ni (cntG G 48), h') ∧ HT h' y al u' ∧ rF QF u0 u' ∧ Mod (· ∈ al) 48 144 h0 h' := by
  intro k
  induction k with
  | zero =>
    intro m w h u hw hm H F e
    obtain ⟨m, rfl⟩ : ∃ z, m = z + 1 := ⟨m - 1, by omega⟩
    have : w = 48 := by omega
    subst this
    rw [m_X3_symmetries_15, if_pos (show (48 : Int32) ≤ ni 48 from lekk 48)]
    exact ⟨h, u, rfl, H, F, e.up (by omega) (by omega)⟩
  | succ k ih =>
    intro m w h u hw hm H F e
    obtain ⟨m, rfl⟩ : ∃ z, m = z + 1 := ⟨m - 1, by omega⟩
    have w48 : w < 48 := by omega
    obtain ⟨g, h2, u2, g1, g2, g3, g4, g5⟩ := X3_goesBy (f := f) hf H (kf0.mod e) (F.tv (by decide) T) L hl hl w48
    have eg := bb_G g2 (hG w w48)
    rw [m_X3_symmetries_15, if_neg (lek48 w48), gd_of H.isC, g1, bd2_some]
    unfold m_X3_symmetries_29 m_X3_symmetries_37
    obtain ⟨h', u', i1, i2⟩ := ih m (w + 1) h2 u2 (by omega) (by omega) g3 (F.tr g5) ((e.tr g4 (fun _ _ => id)).up (by omega) (by omega))
    refine ⟨h', u', ?_, i2⟩
    subst eg
    have ec := cnt_st G w
    cases hg : G w with
    | false =>
      rw [hg] at ec
      rw [iff0, nmv_eq, nmv_eq, ni_succ]
      have ec' : ni (cntG G w) + 0 = ni (cntG G (w + 1)) := ec
      rw [ec']; exact i1
    | true =>
      rw [hg] at ec
      have ec' : ni (cntG G w) + 1 = ni (cntG G (w + 1)) := ec
      rw [ift1, nmv_eq, nmv_eq, ec', ni_succ]; exact i1
theorem X0_ta21 {f : Nat} (hf : 4 ≤ f) {h0 : CH} (w0 : wfh h0) (kf0 : kf h0) {x OR : Nat} {o : Nat → Nat} {LS : LSt} (C : CV h0 x LS) (L : LV LS) (HO : isOr h0 x OR o) {l1 l2 : Nat} {M1 M2 : Mi} {n1 n2 : Int} {t1 t2 : Bool} (hl1 : LS[l1]? = some (M1, n1, t1)) (hl2 : LS[l2]? = some (M2, n2, t2)) {G : Nat → Bool} (hG : ∀ w, w < 48 → (G w = true ↔ gPr M1 n1 M2 n2 w)) : ∀ k m w h, w + k = 48 → k < m → Ext (140 * w) (400 * w) h0 h → ∃ h', m_X0_takes_21 f m h x (ni l1) (ni l2) (ni w) = some (fstG G k w, h') ∧ Ext 6720 19200 h0 h' := by
  intro k
  induction k with
  | zero =>
    intro m w h hw hm e
    obtain ⟨m, rfl⟩ : ∃ z, m = z + 1 := ⟨m - 1, by omega⟩
    have : w = 48 := by omega
    subst this
    rw [m_X0_takes_21, if_pos (show (48 : Int32) ≤ ni 48 from lekk 48)]
    exact ⟨h, rfl, e.up (by omega) (by omega)⟩
  | succ k ih =>
    intro m w h hw hm e
    obtain ⟨m, rfl⟩ : ∃ z, m = z + 1 := ⟨m - 1, by omega⟩
    have w48 : w < 48 := by omega
    have C' := C.ext e w0 kf0.kok
    obtain ⟨a, a1, a2⟩ := X0_at (f := f) C' hl1
    obtain ⟨b, b1, b2⟩ := X0_at (f := f) C' hl2
    obtain ⟨g, h2, g1, g2, g3⟩ := X0_goes (f := f) hf e.wf (HO.ext e w0) (L l1 M1 n1 t1 hl1) (L l2 M2 n2 t2 hl2) a2 b2 w48
    have eg := bb_G g2 (hG w w48)
    rw [m_X0_takes_21, if_neg (lek48 w48), gd_of C'.isC, a1, bd2_some]
    unfold m_X0_takes_34 m_X0_takes_39
    rw [gd_of C'.isC, b1, bd2_some, gd_of C'.isC, g1, bd2_some]
    unfold m_X0_takes_42
    have e2 : Ext (140 * (w + 1)) (400 * (w + 1)) h0 h2 := (e.tr g3 (fun _ _ => id)).up (by omega) (by omega)
    subst eg
    cases hg : G w with
    | false =>
      obtain ⟨h', i1, i2⟩ := ih m (w + 1) h2 (by omega) (by omega) e2
      refine ⟨h', ?_, i2⟩
      rw [iff0, nmv_eq, ni_succ, i1, fstG, if_neg (by rw [hg]; decide)]
    | true =>
      refine ⟨h2, ?_, e2.up (by omega) (by omega)⟩
      rw [ift1, fstG, if_pos hg]; rfl
theorem X3_ta21 {f : Nat} (hf : 2 ^ 63 ≤ f) {h0 : CH} (kf0 : kf h0) {y : Nat} {al : List Nat} {u0 : TS} {LS : LSt} (T : TV u0 LS) (L : LV LS) {l1 l2 : Nat} {M1 M2 : Mi} {n1 n2 : Int} {t1 t2 : Bool} (hl1 : LS[l1]? = some (M1, n1, t1)) (hl2 : LS[l2]? = some (M2, n2, t2)) {G : Nat → Bool} (hG : ∀ w, w < 48 → (G w = true ↔ gPr M1 n1 M2 n2 w)) : ∀ k m w h u, w + k = 48 → k < m → HT h y al u → rF QF u0 u → Mod (· ∈ al) w (3 * w) h0 h → ∃ h' u', m_X3_takes_21 f m h y (ni l1) (ni l2) (ni w) = some (fstG G k w, h') ∧ HT h' y al u' ∧ rF QF u0 u' ∧ Mod (· ∈ al) 48 144 h0 h' := by
  intro k
  induction k with
  | zero =>
    intro m w h u hw hm H F e
    obtain ⟨m, rfl⟩ : ∃ z, m = z + 1 := ⟨m - 1, by omega⟩
    have : w = 48 := by omega
    subst this
    rw [m_X3_takes_21, if_pos (show (48 : Int32) ≤ ni 48 from lekk 48)]
    exact ⟨h, u, rfl, H, F, e.up (by omega) (by omega)⟩
  | succ k ih =>
    intro m w h u hw hm H F e
    obtain ⟨m, rfl⟩ : ∃ z, m = z + 1 := ⟨m - 1, by omega⟩
    have w48 : w < 48 := by omega
    obtain ⟨g, h2, u2, g1, g2, g3, g4, g5⟩ := X3_goesBy (f := f) hf H (kf0.mod e) (F.tv (by decide) T) L hl1 hl2 w48
    have eg := bb_G g2 (hG w w48)
    rw [m_X3_takes_21, if_neg (lek48 w48), gd_of H.isC, g1, bd2_some]
    unfold m_X3_takes_34
    have e2 : Mod (· ∈ al) (w + 1) (3 * (w + 1)) h0 h2 := (e.tr g4 (fun _ _ => id)).up (by omega) (by omega)
    subst eg
    cases hg : G w with
    | false =>
      obtain ⟨h', u', i1, i2⟩ := ih m (w + 1) h2 u2 (by omega) (by omega) g3 (F.tr g5) e2
      refine ⟨h', u', ?_, i2⟩
      rw [iff0, nmv_eq, ni_succ, i1, fstG, if_neg (by rw [hg]; decide)]
    | true =>
      refine ⟨h2, u2, ?_, g3, F.tr g5, e2.up (by omega) (by omega)⟩
      rw [ift1, fstG, if_pos hg]; rfl
theorem q_symmetries {f : Nat} (hf : 2 ^ 63 ≤ f) {h : CH} {x OR : Nat} {o : Nat → Nat} {u : TS} {LS : LSt} (E : QE h x u LS) (HO : isOr h x OR o) {y : Nat} {al : List Nat} (H : HT h y al u) (l : Int32) : QH (fun _ => False) (m_X0_symmetries f h x l) (fun h1 => m_X3_symmetries f h1 y l) h y al u := by
  have E0 := E.ag H.agr
  obtain ⟨w, kf0, C, T, L⟩ := E0
  have nS : ∀ q, q ∈ al → ¬ (fun _ : Nat => False) q := fun _ _ => id
  unfold m_X0_symmetries m_X0_symmetries_5
  rw [gd_of C.isC, X0_isLattice C, bd2_some]
  cases h1 : isLI LS l with
  | false =>
    have e2 := X3_isLattice (f := f) T l
    rw [h1] at e2
    obtain ⟨h2, b1, b2, b3⟩ := H.tcr (mf := fun z => m_X3_isLattice f z l) e2
    refine ⟨-2, h, h2, _, rfl, ?_, (Ext.rf w).up (by omega) (by omega), b3.up (by omega) (by omega), b2, H.agr.rF, fun _ hq => hq.elim⟩
    show m_X3_symmetries f h y l = _
    unfold m_X3_symmetries
    rw [b1, bd2_some]; rfl
  | true =>
    obtain ⟨k, M, n, tn, rfl, hk, hl⟩ := isLI_ni T.2.1 h1
    obtain ⟨G, hG⟩ := exG (gPr M n M n)
    obtain ⟨h', s1, s2⟩ := X0_sy15 (f := f) (by omega) w kf0 C L HO hl (G := G) (fun w _ => hG w) 48 f 0 h rfl (by omega) ((Ext.rf w).up (by omega) (by omega))
    have H1 := H.md s2 nS
    have e2 := X3_isLattice (f := f) T (ni k)
    rw [h1, ← H.rd s2 nS id] at e2
    obtain ⟨h2, b1, b2, b3⟩ := H1.tcr (mf := fun z => m_X3_isLattice f z (ni k)) e2
    obtain ⟨h3, u3, t1, t2, t3, t4⟩ := X3_sy15 (f := f) hf ((kf0.mod s2).mod b3) (y := y) (al := al) (u0 := u) E.2.2.2.1 L hl (G := G) (fun w _ => hG w) 48 f 0 h2 _ rfl (by omega) b2 (by rw [H.rd s2 nS id]; exact H.agr.rF) ((Mod.rf b3.wf).up (by omega) (by omega))
    refine ⟨_, h', h3, u3, s1, ?_, s2.up (by omega) (by omega), (b3.tr t4 (fun _ _ => id)).up (by omega) (by omega), t2, t3, fun _ hq => hq.elim⟩
    show m_X3_symmetries f h' y (ni k) = _
    unfold m_X3_symmetries
    rw [b1, bd2_some]
    exact t1
theorem q_takes {f : Nat} (hf : 2 ^ 63 ≤ f) {h : CH} {x OR : Nat} {o : Nat → Nat} {u : TS} {LS : LSt} (E : QE h x u LS) (HO : isOr h x OR o) {y : Nat} {al : List Nat} (H : HT h y al u) (l m : Int32) : QH (fun _ => False) (m_X0_takes f h x l m) (fun h1 => m_X3_takes f h1 y l m) h y al u := by
  have E0 := E.ag H.agr
  obtain ⟨w, kf0, C, T, L⟩ := E0
  have nS : ∀ q, q ∈ al → ¬ (fun _ : Nat => False) q := fun _ _ => id
  unfold m_X0_takes m_X0_takes_5
  rw [gd_of C.isC, X0_isLattice C, bd2_some]
  cases h1 : isLI LS l with
  | false =>
    have e2 := X3_isLattice (f := f) T l
    rw [h1] at e2
    obtain ⟨h2, b1, b2, b3⟩ := H.tcr (mf := fun z => m_X3_isLattice f z l) e2
    refine ⟨-2, h, h2, _, rfl, ?_, (Ext.rf w).up (by omega) (by omega), b3.up (by omega) (by omega), b2, H.agr.rF, fun _ hq => hq.elim⟩
    show m_X3_takes f h y l m = _
    unfold m_X3_takes
    rw [b1, bd2_some]; rfl
  | true =>
    rw [ift1, gd_of C.isC, X0_isLattice C, bd2_some]
    unfold m_X0_takes_13
    cases h2 : isLI LS m with
    | false =>
      have e2 := X3_isLattice (f := f) T l
      rw [h1] at e2
      obtain ⟨g2, b1, b2, b3⟩ := H.tcr (mf := fun z => m_X3_isLattice f z l) e2
      have e3 := X3_isLattice (f := f) (b2.agr.tv T) m
      rw [h2] at e3
      obtain ⟨g3, c1, c2, c3'⟩ := b2.tcr (mf := fun z => m_X3_isLattice f z m) e3
      refine ⟨-2, h, g3, _, rfl, ?_, (Ext.rf w).up (by omega) (by omega), (b3.tr c3' (fun _ _ => id)).up (by omega) (by omega), c2, (H.agr.rF).tr b2.agr.rF, fun _ hq => hq.elim⟩
      show m_X3_takes f h y l m = _
      unfold m_X3_takes
      rw [b1, bd2_some, ift1, c1, bd2_some]; rfl
    | true =>
      obtain ⟨k1, M1, n1, t1, rfl, hk1, hl1⟩ := isLI_ni T.2.1 h1
      obtain ⟨k2, M2, n2, t2, rfl, hk2, hl2⟩ := isLI_ni T.2.1 h2
      obtain ⟨G, hG⟩ := exG (gPr M1 n1 M2 n2)
      obtain ⟨h', s1, s2⟩ := X0_ta21 (f := f) (by omega) w kf0 C L HO hl1 hl2 (G := G) (fun w _ => hG w) 48 f 0 h rfl (by omega) ((Ext.rf w).up (by omega) (by omega))
      have H1 := H.md s2 nS
      have e2 := X3_isLattice (f := f) T (ni k1)
      rw [h1, ← H.rd s2 nS id] at e2
      obtain ⟨g2, b1, b2, b3⟩ := H1.tcr (mf := fun z => m_X3_isLattice f z (ni k1)) e2
      have e3 := X3_isLattice (f := f) (b2.agr.tv (by rw [H.rd s2 nS id]; exact T)) (ni k2)
      rw [h2] at e3
      obtain ⟨g3, c1, c2, c3'⟩ := b2.tcr (mf := fun z => m_X3_isLattice f z (ni k2)) e3
      have m13 := b3.tr c3' (fun _ _ => id)
      obtain ⟨h3, u3, t1', t2', t3', t4'⟩ := X3_ta21 (f := f) hf ((kf0.mod s2).mod m13) (y := y) (al := al) (u0 := u) E.2.2.2.1 L hl1 hl2 (G := G) (fun w _ => hG w) 48 f 0 g3 _ rfl (by omega) c2 (((by rw [H.rd s2 nS id]; exact H.agr.rF : rF QF u (rdU h' y))).tr b2.agr.rF) ((Mod.rf m13.wf).up (by omega) (by omega))
      refine ⟨_, h', h3, u3, s1, ?_, s2.up (by omega) (by omega), (m13.tr t4' (fun _ _ => id)).up (by omega) (by omega), t2', t3', fun _ hq => hq.elim⟩
      show m_X3_takes f h' y (ni k1) (ni k2) = _
      unfold m_X3_takes
      rw [b1, bd2_some, ift1, c1, bd2_some]
      exact t1'
