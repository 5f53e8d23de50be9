/-! the twin in the heap: chains of calls -/
set_option maxRecDepth 100000
abbrev rI : List Nat := [4, 5, 6, 7, 8, 9, 10, 11, 12, 13, 14, 15, 25, 35]
abbrev rL : List Nat := [19, 28, 30, 31]
abbrev rA : List Nat := [0, 1, 2, 3, 16, 17, 21, 22, 23]
abbrev rB : List Nat := [18, 20, 24, 26, 27, 29, 32, 33, 34, 36, 37, 38, 39]
/-- of the twin's real fields only those of l changed -/
def rF (l : List Nat) (u v : TS) : Prop := (∀ k, k ∉ l → k ∈ rI → tI v k = tI u k) ∧ (∀ k, k ∉ l → k ∈ rL → tL v k = tL u k) ∧ (∀ k, k ∉ l → k ∈ rA → tA v k = tA u k) ∧ ∀ k, k ∉ l → k ∈ rB → tB v k = tB u k
theorem Fr.rF {l : List Nat} {u v : TS} (h : Fr l u v) : rF l u v := ⟨fun k hk _ => (h k hk).1, fun k hk _ => (h k hk).2.1, fun k hk _ => funext (h k hk).2.2.1, fun k hk _ => funext (h k hk).2.2.2⟩
theorem agr.rF {l : List Nat} {u v : TS} (h : agr v u) : rF l u v := ⟨fun _ _ hr => h.I hr, fun _ _ hr => h.L hr, fun _ _ hr => h.A hr, fun _ _ hr => h.B hr⟩
theorem rF.tr {l : List Nat} {u v w : TS} (a : rF l u v) (b : rF l v w) : rF l u w := ⟨fun k hk hr => (b.1 k hk hr).trans (a.1 k hk hr), fun k hk hr => (b.2.1 k hk hr).trans (a.2.1 k hk hr), fun k hk hr => (b.2.2.1 k hk hr).trans (a.2.2.1 k hk hr), fun k hk hr => (b.2.2.2 k hk hr).trans (a.2.2.2 k hk hr)⟩
theorem rF.mono {l l' : List Nat} {u v : TS} (a : rF l u v) (h : ∀ k, k ∈ l → k ∈ l') : rF l' u v := ⟨fun k hk => a.1 k (fun z => hk (h k z)), fun k hk => a.2.1 k (fun z => hk (h k z)), fun k hk => a.2.2.1 k (fun z => hk (h k z)), fun k hk => a.2.2.2 k (fun z => hk (h k z))⟩
/-- the twin at y, its cells are those of al -/
def HT (h : CH) (y : Nat) (al : List Nat) (u : TS) : Prop := wfh h ∧ ∃ ad, Tw h y ad u ∧ adl ad = al
theorem HT.agr {h : CH} {y : Nat} {al : List Nat} {u : TS} (H : HT h y al u) : agr (rdU h y) u := by
  obtain ⟨_, ad, t, _⟩ := H
  exact t.agr
theorem HT.tcr {α : Type} {h : CH} {y : Nat} {al : List Nat} {u : TS} (H : HT h y al u) {mf : TS → Option (α × TS)} {r : α} {u9 : TS} (e : mf (rdU h y) = some (r, u9)) : ∃ h', tcr h y mf = some (r, h') ∧ HT h' y al u9 ∧ Mod (· ∈ al) 0 0 h h' := by
  obtain ⟨w, ad, t, rfl⟩ := H
  obtain ⟨h', a1, a2, a3⟩ := t.tcr w e
  exact ⟨h', a1, ⟨a3.wf, _, a2, t.adr⟩, a3⟩
theorem HT.tcv {h : CH} {y : Nat} {al : List Nat} {u : TS} (H : HT h y al u) {mf : TS → Option TS} {u9 : TS} (e : mf (rdU h y) = some u9) : ∃ h', tcv h y mf = some h' ∧ HT h' y al u9 ∧ Mod (· ∈ al) 0 0 h h' := by
  obtain ⟨w, ad, t, rfl⟩ := H
  obtain ⟨h', a1, a2, a3⟩ := t.tcv w e
  exact ⟨h', a1, ⟨a3.wf, _, a2, t.adr⟩, a3⟩
theorem HT.md {S : Nat → Prop} {k n : Nat} {h h1 : CH} {y : Nat} {al : List Nat} {u : TS} (H : HT h y al u) (m : Mod S k n h h1) (hS : ∀ q, q ∈ al → ¬ S q) : HT h1 y al u := by
  obtain ⟨w, ad, t, rfl⟩ := H
  exact ⟨m.wf, ad, t.md m w hS, rfl⟩
theorem HT.lt {h : CH} {y : Nat} {al : List Nat} {u : TS} (H : HT h y al u) {q : Nat} (hq : q ∈ al) : h.2.2.1 ≤ q ∧ q < h.1 := by
  obtain ⟨w, ad, t, rfl⟩ := H
  rw [← twl_adl ad u] at hq
  obtain ⟨z, hz, rfl⟩ := List.mem_map.mp hq
  exact w.1 _ _ (t.2.1 z hz).1
theorem HT.y {h : CH} {y : Nat} {al : List Nat} {u : TS} (H : HT h y al u) : y ∈ al := by
  obtain ⟨w, ad, t, rfl⟩ := H
  rw [← t.1]
  unfold adl; exact List.mem_cons_self
theorem HT.isC {h : CH} {y : Nat} {al : List Nat} {u : TS} (H : HT h y al u) : isC h y 0 = true := by
  obtain ⟨w, ad, t, rfl⟩ := H
  unfold Jvm.Pilot.CCoincideBenchLaw_law_r8029_ca2b77.isC; rw [t.obj]; rfl
theorem HT.oL {h : CH} {y : Nat} {al : List Nat} {u : TS} (H : HT h y al u) : oL h 0 19 y = some (tL u 19) := by
  obtain ⟨w, ad, t, rfl⟩ := H
  exact oL_c t.obj rfl
theorem HT.up {h : CH} {y : Nat} {al : List Nat} {u v : TS} (H : HT h y al u) (a : Jvm.Pilot.CCoincideBenchLaw_law_r8029_ca2b77.agr v u) : HT h y al v := by
  obtain ⟨w, ad, t, rfl⟩ := H
  have e : twl ad v = twl ad u := by
    unfold Jvm.Pilot.CCoincideBenchLaw_law_r8029_ca2b77.agr twl twF at a
    simp only [List.cons.injEq, Prod.mk.injEq, Sum.inl.injEq, Sum.inr.injEq, Value.int.injEq, Value.long.injEq, true_and, and_true] at a
    unfold twl twF
    simp only [a]
  exact ⟨w, ad, ⟨t.1, by rw [e]; exact t.2.1, t.2.2⟩, rfl⟩
theorem rdA_in {h : CH} {y : Nat} {ad : Nat → Nat} {u : TS} (t : Tw h y ad u) (k : Nat) : rdA h y k ∈ adl ad ∨ rdA h y k = 0 := by
  unfold rdA
  by_cases hk : k = 40
  · rw [if_pos hk, ← t.1]; exact .inl (by unfold adl; exact List.mem_cons_self)
  · rw [if_neg hk, t.rdF]
    cases hc : (twF ad u)[k]? with
    | none => exact .inr rfl
    | some v =>
      cases v with
      | ref a =>
        left
        have hm := List.mem_of_getElem? hc
        unfold twF at hm
        unfold adl
        simp only [List.mem_cons, Value.ref.injEq, List.not_mem_nil, or_false, reduceCtorEq, false_or] at hm ⊢
        right
        exact hm
      | _ => exact .inr rfl
/-- what is read off the twin stays where its cells do -/
theorem HT.rd {S : Nat → Prop} {k n : Nat} {h h1 : CH} {y : Nat} {al : List Nat} {u : TS} (H : HT h y al u) (m : Mod S k n h h1) (hS : ∀ q, q ∈ al → ¬ S q) (h0 : ¬ S 0) : rdU h1 y = rdU h y := by
  have hl := fun q hq => (H.lt (q := q) hq).2
  have hy := hl y H.y
  obtain ⟨w, ad, t, rfl⟩ := H
  have ey : cm h1 y = cm h y := m.2.2.2.2.2.2.1 y hy (hS y (by rw [← t.1]; unfold adl; exact List.mem_cons_self))
  have eF : rdF h1 y = rdF h y := by unfold Jvm.Pilot.CCoincideBenchLaw_law_r8029_ca2b77.rdF; rw [ey]
  have eA : ∀ k, rdA h1 y k = rdA h y k := fun k => by unfold rdA; rw [eF]
  have ec : ∀ k, cm h1 (rdA h y k) = cm h (rdA h y k) := fun k => by
    rcases rdA_in t k with hq | hq
    · exact m.2.2.2.2.2.2.1 _ (hl _ hq) (hS _ hq)
    · rw [hq]; exact m.2.2.2.2.2.2.1 _ (by omega) h0
  unfold rdU
  refine Prod.ext (funext fun k => ?_) (Prod.ext (funext fun k => ?_) (Prod.ext (funext fun k => ?_) (funext fun k => ?_)))
  · show rdI h1 y k = rdI h y k
    unfold rdI; rw [eF]
  · show rdL h1 y k = rdL h y k
    unfold rdL; rw [eF]
  · show rdP h1 (rdA h1 y k) = rdP h (rdA h y k)
    rw [eA]; unfold rdP; rw [ec]
  · show rdQ h1 (rdA h1 y k) = rdQ h (rdA h y k)
    rw [eA]; unfold rdQ; rw [ec]
/-- both answer alike, the twin in the heap, after the component -/
def QH {α : Type} (S : Nat → Prop) (mc : Option (α × CH)) (mt : CH → Option (α × CH)) (h : CH) (y : Nat) (al : List Nat) (u : TS) : Prop := ∃ r h1 h2 u', mc = some (r, h1) ∧ mt h1 = some (r, h2) ∧ Mod S 9000 110000 h h1 ∧ Mod (· ∈ al) 300 2000 h1 h2 ∧ HT h2 y al u' ∧ rF QF u u' ∧ ∀ q, S q → ∃ p : Nat → Int32, cm h1 q = some (.inr (0, 3, .inl p))
theorem QM.qh {α : Type} {S : Nat → Prop} {mc : Option (α × CH)} {mf : TS → Option (α × TS)} {h : CH} {y : Nat} {al : List Nat} {u : TS} (H : HT h y al u) (Q : QM S mc (mf (rdU h y)) h (rdU h y)) (hS : ∀ q, q ∈ al → ¬ S q) (h0 : ¬ S 0) : QH S mc (fun h1 => tcr h1 y mf) h y al u := by
  obtain ⟨r, h1, u1, a1, a2, a3, a4, a5⟩ := Q
  have H1 := H.md a3 hS
  rw [← H.rd a3 hS h0] at a2
  obtain ⟨h2, b1, b2, b3⟩ := H1.tcr a2
  exact ⟨r, h1, h2, u1, a1, b1, a3, b3.up (by omega) (by omega), b2, H.agr.rF.tr a4.rF, a5⟩
theorem QA.qh {α : Type} {mc : Option (α × CH)} {mf : TS → Option (α × TS)} {h : CH} {y : Nat} {al : List Nat} {u : TS} (H : HT h y al u) (Q : QA mc (mf (rdU h y)) h (rdU h y)) : QH (fun _ => False) mc (fun h1 => tcr h1 y mf) h y al u := by
  obtain ⟨r, h1, u1, a1, a2, a3, a4⟩ := Q
  exact QM.qh H ⟨r, h1, u1, a1, a2, a3, a4, fun _ hq => hq.elim⟩ (fun _ _ => id) id
theorem QE.ag {h : CH} {x : Nat} {u v : TS} {LS : LSt} (E : QE h x u LS) (a : agr v u) : QE h x v LS := ⟨E.1, E.2.1, E.2.2.1, a.tv E.2.2.2.1, E.2.2.2.2⟩
theorem rF.tv {l : List Nat} {u v : TS} {LS : LSt} (h : rF l u v) (hl : 0 ∉ l) (T : TV u LS) : TV v LS := by
  have e : tA v 0 = tA u 0 := h.2.2.1 0 hl (by decide)
  refine ⟨by rw [e]; exact T.1, T.2.1, fun i M n tn hi => ?_⟩
  obtain ⟨t1, t2⟩ := T.2.2 i M n tn hi
  exact ⟨fun f hf w hw => t1 f hf w (fun x => by rw [hw x, e]), by rw [e]; exact t2⟩
theorem HT_told {f : Nat} (hf : 2 ^ 63 ≤ f) {h : CH} {y : Nat} {al : List Nat} {u : TS} {LS : LSt} (H : HT h y al u) (T : TV u LS) (L : LV LS) {k1 k2 : Nat} {M1 M2 P Q : Mi} {n1 n2 b : Int} {t1 t2 : Bool} (hl1 : LS[k1]? = some (M1, n1, t1)) (hl2 : LS[k2]? = some (M2, n2, t2)) (eP : P = mscl (b.tdiv n1) M1) (eQ : Q = mscl (b.tdiv n2) M2) (eb : b = btw n1 n2) (pq : PQ (m3 P) (m3 Q) b) : ∃ h1 h2 u2, tcv h y (fun z => m_X3_laysBoth f z (ni k1) (ni k2)) = some h1 ∧ tcv h1 y (fun z => m_X3_tells f z) = some h2 ∧ HT h2 y al u2 ∧ tR 32 u2 (tel P Q (dQ Q) 3) ∧ Mod (· ∈ al) 0 0 h h2 ∧ rF mtF u u2 := by
  have T0 := H.agr.tv T
  have b1 := (L k1 M1 n1 t1 hl1).n
  have b2 := (L k2 M2 n2 t2 hl2).n
  have hb := pq.n
  obtain ⟨v1, s1, s2, s3, s4, s5, s6, s7⟩ := X3_laysBoth (f := f) hf (T0.2.2 k1 M1 n1 t1 hl1).1 (T0.2.2 k2 M2 n2 t2 hl2).1 (show rg n1 from ⟨by omega, by omega⟩) (show rg n2 from ⟨by omega, by omega⟩) (by omega) (by omega) (show rg (btw n1 n2) by rw [← eb]; exact ⟨by omega, by omega⟩)
  rw [← eb] at s2 s3
  obtain ⟨h1, c1, H1, m1⟩ := H.tcv (mf := fun z => m_X3_laysBoth f z (ni k1) (ni k2)) s1
  have s2' : tR 27 (rdU h1 y) P := H1.agr.tR (by decide) (by rw [eP]; exact s2.congr (fun i j _ _ => Int.mul_comm _ _))
  have s3' : tR 29 (rdU h1 y) Q := H1.agr.tR (by decide) (by rw [eQ]; exact s3.congr (fun i j _ _ => Int.mul_comm _ _))
  obtain ⟨_, m2, _⟩ := pq.mt
  obtain ⟨v2, t1', t2', t3'⟩ := X3_tells (f := f) hf s2' s3' m2.1 m2.2.1 m2.2.2.1 m2.2.2.2
  obtain ⟨h2, c2, H2, m2'⟩ := H1.tcv (mf := fun z => m_X3_tells f z) t1'
  exact ⟨h1, h2, v2, c1, c2, H2, t2', m1.tr m2' (fun _ _ => id), ((H.agr.rF.tr (s7.mono (by decide)).rF).tr H1.agr.rF).tr (t3'.mono (by decide)).rF⟩
theorem HT_lays {f : Nat} (hf : 2 ^ 63 ≤ f) {h : CH} {y : Nat} {al : List Nat} {u : TS} {LS : LSt} (H : HT h y al u) (T : TV u LS) {k : Nat} {M : Mi} {n : Int} {tn : Bool} (hl : LS[k]? = some (M, n, tn)) : ∃ h1 u1, tcv h y (fun z => m_X3_lays f z (ni k)) = some h1 ∧ HT h1 y al u1 ∧ tR 18 u1 M ∧ tL u1 19 = li n ∧ Mod (· ∈ al) 0 0 h h1 ∧ rF [18, 19, 20] u u1 := by
  have T0 := H.agr.tv T
  obtain ⟨v, a1, a2, a3, a4⟩ := (T0.2.2 k M n tn hl).1 f hf (rdU h y) (fun _ => rfl)
  obtain ⟨h1, c1, H1, m1⟩ := H.tcv (mf := fun z => m_X3_lays f z (ni k)) a1
  exact ⟨h1, v, c1, H1, a2, a3, m1, H.agr.rF.tr a4.rF⟩
theorem q_coset {f : Nat} (hf : 2 ^ 63 ≤ f) {h : CH} {x : Nat} {u : TS} {LS : LSt} (E : QE h x u LS) {y : Nat} {al : List Nat} (H : HT h y al u) (l m a b c d : Int32) : QH (fun _ => False) (m_X0_coset f h x l m a b c d) (fun h1 => m_X3_coset f h1 y l m a b c d) h y al u := by
  have E0 := E.ag H.agr
  have nS : ∀ q, q ∈ al → ¬ (fun _ : Nat => False) q := fun _ _ => id
  unfold m_X0_coset
  rw [gd_of E.2.2.1.isC]
  rcases askP_cases (f := f) hf E0 l m a b c d with ⟨r, h', u', e1, e2, e3, e4, e5⟩ | ⟨k1, k2, M1, n1, t1, M2, n2, t2, h', u', rfl, rfl, hk1, hk2, hl1, hl2, ht, hP, hh, e1, e2, e4, e5⟩
  · rw [e1, bd2_some, m_X0_coset_13, if_neg e3]
    have H1 := H.md e4 nS
    rw [← H.rd e4 nS id] at e2
    obtain ⟨h2, b1, b2, b3⟩ := H1.tcr (mf := fun z => m_X3_whyNoPoint f z l m a b c d) e2
    refine ⟨Int32.toInt64 r, h', h2, u', rfl, ?_, e4.up (by omega) (by omega), b3.up (by omega) (by omega), b2, H.agr.rF.tr (e5.mono (by decide)).rF, fun _ hq => hq.elim⟩
    show m_X3_coset f h' y l m a b c d = _
    unfold m_X3_coset
    rw [b1, bd2_some, if_neg e3]
  · have E1 := E0.st e4 (Fr.rf (u := rdU h y) (l := [])) (by decide)
    obtain ⟨q1, q2⟩ := isPI_ok hP
    obtain ⟨s, s1, s2, s3, s4, s5, s6⟩ := crd (E.2.2.2.2 k1 M1 n1 t1 hl1) q1 q2 hh
    obtain ⟨h1, o1, o2⟩ := X0_cosetOf (f := f) hf E1 hl1 hl2 ht s2 s3 s4 s5 s6 rfl rfl rfl
    have e01 : Ext 9000 110000 h h1 := (e4.tr o2 (fun _ _ => id)).up (by omega) (by omega)
    have H1 := H.md e01 nS
    rw [← H.rd e01 nS id] at e2
    obtain ⟨g1, c1, H2, m1⟩ := H1.tcr (mf := fun z => m_X3_whyNoPoint f z (ni k1) (ni k2) a b c d) e2
    have T2 : TV u' LS := E0.2.2.2.1.fr e5 (by decide)
    obtain ⟨pq, _⟩ := pairPQ (E.2.2.2.2 k1 M1 n1 t1 hl1) (E.2.2.2.2 k2 M2 n2 t2 hl2) ht
    obtain ⟨g2, g3, u3, c2, c3', H3, w3, m3', f3⟩ := HT_told (f := f) hf H2 T2 E.2.2.2.2 hl1 hl2 rfl rfl rfl pq
    obtain ⟨g4, u4, c4, H4, r4, o4, m4, f4⟩ := HT_lays (f := f) hf H3 (f3.tv (by decide) T2) hl1
    have w4 : tR 32 u4 (sF (mscl ((btw n1 n2).tdiv n1) M1) (mscl ((btw n1 n2).tdiv n2) M2) (dQ (mscl ((btw n1 n2).tdiv n2) M2)) kB) := by
      obtain ⟨_, _, _, _, _, m6, _⟩ := pq.mt
      intro i j hi hj
      rw [f4.2.2.2 32 (by decide) (by decide)]
      exact (w3.congr (m3_at m6)) i j hi hj
    have m14 : Mod (· ∈ al) 0 0 h1 g4 := (m1.tr m3' (fun _ _ => id)).tr m4 (fun _ _ => id)
    have m5 : Ext 1 3 g4 (cn g4 3 (.inr (1, 3, .inr (.inl (fun _ => 0))))) := Mod.cn m4.wf
    have hV : g4.1 ∉ al := fun hv => by have := (H4.lt hv).2; omega
    obtain ⟨w5, ad, t5, ea⟩ := H4.md m5 nS
    obtain ⟨_, _, _, _, _, _, m7, m8, _⟩ := pq.mt
    have hH := m7
    obtain ⟨_, _, _, z1', z2', z3', _⟩ := m7
    obtain ⟨h6, ad6, u6, k1', k2', k3, k4, k5, k6⟩ := X3_c42 (f := f) (by omega) w5 t5 (by rw [ea]; exact hV) (show cm (cn g4 3 (.inr (1, 3, .inr (.inl (fun _ => 0))))) g4.1 = some (vcl (fun _ => 0)) by rw [cm_cn_s, vcl_0]) r4 o4 w4 s2 s3 s4 s5 (fun i j hi hj => by have := H_ent hH i j hi hj; omega) (fun c hc => by rcases c3 hc with rfl | rfl | rfl; exact z1'; exact z2'; exact z3') s6
    have m6' : Mod (· ∈ al) 1 3 h1 h6 := by
      rw [ea] at k6
      refine ((m14.tr m5 (fun _ _ hh => hh.elim)).tr (k6.mono (T := fun q => q ∈ al ∨ q = g4.1) (fun _ _ => id) (Nat.le_refl _) (Nat.le_refl _)) (fun q hq hh => ?_)).up (by omega) (by omega)
      rcases hh with hh | hh
      · exact hh
      · have := m14.ge; omega
    exact ⟨_, h1, h6, u6, Eq.trans (by rw [e1, bd2_some, m_X0_coset_13, z_z, gd_of E1.2.2.1.isC]) o1, Eq.trans (b := m_X3_coset_42 f (cn g4 3 (.inr (1, 3, .inr (.inl (fun _ => 0))))) y a b c d g4.1) (by
      show m_X3_coset f h1 y (ni k1) (ni k2) a b c d = _
      unfold m_X3_coset
      rw [c1, bd2_some, z_z, c2, bd_some, c3', bd_some, c4, bd_some, nmv_eq, nmv_eq]) k1', e01, m6'.up (by omega) (by omega), ⟨k2', ad6, k3, k5.trans ea⟩, ((((H.agr.rF.tr (e5.mono (by decide)).rF).tr (f3.mono (by decide))).tr (f4.mono (by decide))).tr k4.rF), fun _ hq => hq.elim⟩
