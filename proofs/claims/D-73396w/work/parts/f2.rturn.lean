/-! reading: the twin's turns -/
set_option maxRecDepth 100000
theorem pTurC_n {k : Nat} {vs : List Int} {l : Nat} {s : Lx} (h : vs.getD 0 0 = 0 ∧ vs.getD 1 0 = 0 ∧ vs.getD 2 0 = 0 ∧ vs.getD 3 0 = 0) : pTurC k (.inr (vs, l, s)) = .inl (2, l) := if_pos h
theorem pTurC_y {k : Nat} {vs : List Int} {l : Nat} {s : Lx} (h : ¬ (vs.getD 0 0 = 0 ∧ vs.getD 1 0 = 0 ∧ vs.getD 2 0 = 0 ∧ vs.getD 3 0 = 0)) : pTurC k (.inr (vs, l, s)) = .inr ((vs, some k), s) := if_neg h
theorem X3_rt239B {f : Nat} {h : CH} {y : Nat} {al : List Nat} {u : TS} (H : HT h y al u) {e : Nat × Nat} (G : tBd u e) (x1 : Int32) : m_X3_readsTurn_239 f h y x1 = some h := by
  unfold m_X3_readsTurn_239
  rw [H.i15, bd_some, G.1, if_pos (by decide)]; rfl
theorem X3_rt167B {f : Nat} {h : CH} {y : Nat} {al : List Nat} {u : TS} (H : HT h y al u) {e : Nat × Nat} (G : tBd u e) (x1 x2 x3 x4 : Int32) (m : Nat) : m_X3_readsTurn_167 f (m + 1) h y x1 x2 x3 x4 = some h := by
  rw [m_X3_readsTurn_167]
  split
  · exact X3_rt239B H G x1
  · rw [H.i15, bd_some, G.1, if_pos (by decide)]; exact X3_rt239B H G x1
theorem X3_rt228B {f : Nat} {h : CH} {y : Nat} {al : List Nat} {u : TS} (H : HT h y al u) {e : Nat × Nat} (G : tBd u e) (x1 x2 x3 x4 : Int32) (m : Nat) : ∃ h' u', m_X3_readsTurn_228 f (m_X3_readsTurn_167 f (m + 1)) h y x1 x2 x3 x4 = some h' ∧ tBd u' e ∧ Pst h y al u [] h' u' := by
  obtain ⟨h1, u1, c1, g1, p1⟩ := H.passB (f := f) G 1
  unfold m_X3_readsTurn_228
  rw [c1, bd_some, nmv_eq, X3_rt167B p1.1 g1]
  exact ⟨h1, u1, rfl, g1, p1⟩
theorem or_0 (a c : Int32) : a ||| c = 0 ↔ a = 0 ∧ c = 0 := by
  constructor
  · intro h
    have h' : (a ||| c).toBitVec = (0 : Int32).toBitVec := by rw [h]
    rw [Int32.toBitVec_or] at h'
    have g : ∀ x y : BitVec 32, x ||| y = 0#32 → x = 0#32 ∧ y = 0#32 := fun x y hxy => by
      constructor
      · ext i hi
        have := congrArg (fun z => z.getLsbD i) hxy
        simp only [BitVec.getLsbD_or, BitVec.getLsbD_zero, Bool.or_eq_false_iff] at this
        simp [BitVec.getLsbD_eq_getElem hi, this.1] at this ⊢
        exact this.1
      · ext i hi
        have := congrArg (fun z => z.getLsbD i) hxy
        simp only [BitVec.getLsbD_or, BitVec.getLsbD_zero, Bool.or_eq_false_iff] at this
        simp [BitVec.getLsbD_eq_getElem hi, this.2] at this ⊢
        exact this.2
    obtain ⟨g1, g2⟩ := g _ _ h'
    exact ⟨Int32.toBitVec_inj.mp g1, Int32.toBitVec_inj.mp g2⟩
  · rintro ⟨rfl, rfl⟩; rfl
theorem z_iff (x : Int32) : x = 0 ↔ x.toInt = 0 := ⟨fun h => by rw [h]; rfl, fun h => by rw [i_of x, h]; rfl⟩
theorem lt_4 {k : Nat} (h : k < 4) : ¬ (4 : Int32) ≤ ni k := by
  rw [show (4 : Int32) = ni 4 from rfl, ni_le (by omega) (by omega)]; omega
theorem X3_rt167 {f : Nat} (hf : 501 < f) {y : Nat} {al : List Nat} {b : Nat → Nat} {n m : Nat} (hm : m < 5) {o : Nat} {h0 : CH} {u0 : TS} : ∀ j k M h u s vs l x3, k + j = 4 → j < M → Pst h0 y al u0 RLl h u → tGd u b n s → tA u 0 0 = ni m → vs.length = k → (∀ v, v ∈ vs → v.natAbs ≤ 6) → (∀ i, i < k → (tA u 0 (8 + 4 * m + i)).toInt = vs.getD i 0) → (∀ p, (p < 8 + 4 * m ∨ 8 + 4 * m + 4 ≤ p) → tA u 0 p = tA u0 0 p) → (x3 = 0 ↔ ∀ i, i < k → vs.getD i 0 = 0) → (k = 4 → x3 ≠ 0) → ∃ h' u', m_X3_readsTurn_167 f M h y (ni o) (ni (8 + 4 * m)) x3 (ni k) = some h' ∧ tLR u0 u' b n m (pTurC o (pNums b n 3 j s vs l)) ∧ Pst h0 y al u0 RLl h' u' := by
  have ea : ∀ x y : Nat, (ni x : Int32) + ni y = ni (x + y) := fun x y => (Int32.ofNat_add x y).symm
  intro j
  induction j with
  | zero =>
    intro k M h u s vs l x3 hk hM P G h00 hl hv hmem hfr hx3 hdt
    obtain ⟨M, rfl⟩ : ∃ z, M = z + 1 := ⟨M - 1, by omega⟩
    have : k = 4 := by omega
    subst this
    rw [m_X3_readsTurn_167, if_pos (show (4 : Int32) ≤ ni 4 from lekk 4)]
    unfold m_X3_readsTurn_239
    have H := P.1
    have a0 : aI h 0 (al.getD 1 0) 0 = some (ni m) := by rw [← h00]; exact H.a0 (i := 0) (by decide)
    obtain ⟨h1, d1, d2, d3⟩ := H.u0 (i := 3 + m) (by omega) (ni o)
    have a0' : aI h1 0 (al.getD 1 0) 0 = some (ni m) := by
      have := d2.a0 (i := 0) (by decide)
      rw [tA_sA, if_neg (fun hh => by have := hh.2; omega), h00] at this; exact this
    obtain ⟨h2, f1, f2, f3⟩ := d2.u0 (i := 0) (by decide) (ni (m + 1))
    have f1' : uI h1 0 (al.getD 1 0) 0 (ni (m + 1)) = some h2 := f1
    rw [H.i15, bd_some, G.1, if_neg (fun hh => hh rfl), H.r0, bd_some, bd_some, a0, bd_some, show (3 : Int32) = ni 3 from rfl, ea, d1, bd_some, d2.r0, bd_some, a0', bd_some, ni_succ, f1', bd_some]
    have F : Fr [0] u (sA (sA u 0 (3 + m) (ni o)) 0 0 (ni (m + 1))) := (Fr.sA (by decide)).tr (Fr.sA (by decide))
    refine ⟨h2, _, rfl, ?_, f2, P.2.1.tr (F.mono (by decide)).rF, P.2.2.tr (d3.tr f3 (fun _ _ => id)) (fun _ _ => id)⟩
    have nz : ¬ (vs.getD 0 0 = 0 ∧ vs.getD 1 0 = 0 ∧ vs.getD 2 0 = 0 ∧ vs.getD 3 0 = 0) := fun hz => hdt rfl (hx3.mpr (fun i hi => by
      rcases (show i = 0 ∨ i = 1 ∨ i = 2 ∨ i = 3 by omega) with rfl | rfl | rfl | rfl
      · exact hz.1
      · exact hz.2.1
      · exact hz.2.2.1
      · exact hz.2.2.2))
    rw [show pNums b n 3 0 s vs l = .inr (vs, l, s) from rfl, pTurC_y nz]
    refine ⟨G.fr F (by decide), ⟨?_, fun i hi => ?_⟩, ?_, fun p p0 p1 _ p2 => ?_⟩
    · rw [tA_sA, if_neg (fun hh => by have := hh.2; omega), tA_sA, if_pos ⟨rfl, rfl⟩]
    · rw [tA_sA, if_neg (fun hh => by have := hh.2; omega), tA_sA, if_neg (fun hh => by have := hh.2; omega)]; exact hmem i hi
    · rw [tA_sA, if_pos ⟨rfl, rfl⟩]
    · rw [tA_sA, if_neg (fun hh => p0 hh.2), tA_sA, if_neg (fun hh => p1 hh.2)]; exact hfr p p2
  | succ j ih =>
    intro k M h u s vs l x3 hk hM P G h00 hl hv hmem hfr hx3 _
    obtain ⟨M, rfl⟩ : ∃ z, M = z + 2 := ⟨M - 2, by omega⟩
    have H := P.1
    obtain ⟨h1, u1, r, c1, t1, p1⟩ := H.see (f := f) hf G (most := 3) (by decide)
    obtain ⟨h2, d1, d2, d3⟩ := p1.1.u0 (i := 8 + 4 * m + k) (by omega) r
    have F2 : Fr [0] u1 (sA u1 0 (8 + 4 * m + k) r) := Fr.sA (by decide)
    have P2 : Pst h0 y al u0 RLl h2 (sA u1 0 (8 + 4 * m + k) r) := (P.tr (p1.up (by decide))).tr ⟨d2, (F2.mono (by decide)).rF, d3⟩
    have ar : aI h2 0 (al.getD 1 0) (ni (8 + 4 * m + k)) = some r := by
      have := d2.a0 (i := 8 + 4 * m + k) (by omega)
      rw [tA_sA, if_pos ⟨rfl, rfl⟩] at this; exact this
    rw [m_X3_readsTurn_167, if_neg (lt_4 (by omega)), H.i15, bd_some, G.1, if_neg (fun hh => hh rfl), H.r0, bd_some, show (3 : Int32) = ni 3 from rfl, c1, bd2_some, ea, d1, bd_some, d2.r0, bd_some, ar, bd_some, nmv_eq, d2.i15, bd_some]
    unfold pNums
    cases hp : pSee b n 3 s with
    | inl e =>
      rw [hp] at t1
      have B2 : tBd (sA u1 0 (8 + 4 * m + k) r) e := tBd.fr t1 F2 (by decide)
      rw [B2.1, if_pos (by decide)]
      obtain ⟨h3, u3, c3', g3, p3'⟩ := X3_rt228B (f := f) d2 B2 (ni o) (ni (8 + 4 * m)) (x3 ||| r) (ni k) M
      exact ⟨h3, u3, c3', g3, P2.tr (p3'.up (by decide))⟩
    | inr vsx =>
      obtain ⟨v, s1⟩ := vsx
      rw [hp] at t1
      obtain ⟨tv, tv6, tg⟩ := t1
      have G2 : tGd (sA u1 0 (8 + 4 * m + k) r) b n s1 := tg.fr F2 (by decide)
      have h00' : tA (sA u1 0 (8 + 4 * m + k) r) 0 0 = ni m := by
        rw [tA_sA, if_neg (fun hh => by have := hh.2; omega), p1.2.1.2.2.1 0 (by decide) (by decide)]; exact h00
      have hv' : ∀ w, w ∈ vs ++ [v] → w.natAbs ≤ 6 := fun w hw => by
        rcases List.mem_append.mp hw with hw | hw
        · exact hv w hw
        · rw [List.mem_singleton.mp hw]; exact tv6
      have hmem' : ∀ i, i < k + 1 → (tA (sA u1 0 (8 + 4 * m + k) r) 0 (8 + 4 * m + i)).toInt = (vs ++ [v]).getD i 0 := fun i hi => by
        rw [getD_app, hl]
        by_cases e : i < k
        · rw [if_pos e, tA_sA, if_neg (fun hh => by have := hh.2; omega), p1.2.1.2.2.1 0 (by decide) (by decide)]; exact hmem i e
        · have : i = k := by omega
          subst this
          rw [if_neg e, if_pos rfl, tA_sA, if_pos ⟨rfl, rfl⟩]; exact tv
      have hfr' : ∀ p, (p < 8 + 4 * m ∨ 8 + 4 * m + 4 ≤ p) → tA (sA u1 0 (8 + 4 * m + k) r) 0 p = tA u0 0 p := fun p hp => by
        rw [tA_sA, if_neg (fun hh => by have := hh.2; omega), p1.2.1.2.2.1 0 (by decide) (by decide)]; exact hfr p hp
      have hx' : (x3 ||| r) = 0 ↔ ∀ i, i < k + 1 → (vs ++ [v]).getD i 0 = 0 := by
        rw [or_0, hx3, z_iff, tv]
        constructor
        · rintro ⟨q1, q2⟩ i hi
          rw [getD_app, hl]
          by_cases e : i < k
          · rw [if_pos e]; exact q1 i e
          · rw [if_neg e, if_pos (by omega)]; exact q2
        · intro q
          refine ⟨fun i hi => ?_, ?_⟩
          · have := q i (by omega)
            rw [getD_app, hl, if_pos hi] at this; exact this
          · have := q k (by omega)
            rw [getD_app, hl, if_neg (by omega), if_pos rfl] at this; exact this
      rw [G2.1, if_neg (fun hh => hh rfl)]
      have go : (k + 1 = 4 → (x3 ||| r) ≠ 0) → ∃ h' u', m_X3_readsTurn_228 f (m_X3_readsTurn_167 f (M + 1)) h2 y (ni o) (ni (8 + 4 * m)) (x3 ||| r) (ni k) = some h' ∧ tLR u0 u' b n m (pTurC o (pNums b n 3 j (nx b n s1.2.2) (vs ++ [v]) s1.2.1)) ∧ Pst h0 y al u0 RLl h' u' := fun hdt => by
        obtain ⟨h4, u4, c4, g4, p4⟩ := d2.pass1 (f := f) hf G2
        unfold m_X3_readsTurn_228
        rw [c4, bd_some, nmv_eq, ni_succ]
        have e4 : ∀ p, tA u4 0 p = tA (sA u1 0 (8 + 4 * m + k) r) 0 p := fun p => by rw [p4.2.1.2.2.1 0 (by decide) (by decide)]
        exact ih (k + 1) (M + 1) h4 u4 (nx b n s1.2.2) (vs ++ [v]) s1.2.1 (x3 ||| r) (by omega) (by omega) (P2.tr (p4.up (by decide))) g4 (by rw [e4]; exact h00') (by rw [List.length_append, hl]; rfl) hv' (fun i hi => by rw [e4]; exact hmem' i hi) (fun p hp => by rw [e4]; exact hfr' p hp) hx' hdt
      by_cases k3 : k = 3
      · subst k3
        have j0 : j = 0 := by omega
        subst j0
        rw [if_neg (show ¬ ¬ ni 3 = (ni 3 : Int32) from fun hh => hh rfl)]
        by_cases hz : (x3 ||| r) = 0
        · rw [if_neg (fun hh => hh hz)]
          obtain ⟨h4, u4, c4, g4, p4⟩ := d2.flt (f := f) G2 2
          rw [show (2 : Int32) = ni 2 from rfl, c4, bd_some]
          obtain ⟨h5, u5, c5, g5, p5⟩ := X3_rt228B (f := f) p4.1 g4 (ni o) (ni (8 + 4 * m)) (x3 ||| r) (ni 3) M
          refine ⟨h5, u5, c5, ?_, (P2.tr (p4.up (by decide))).tr (p5.up (by decide))⟩
          have zz := hx'.mp hz
          show tLR u0 u5 b n m (pTurC o (pNums b n 3 0 (nx b n s1.2.2) (vs ++ [v]) s1.2.1))
          rw [show pNums b n 3 0 (nx b n s1.2.2) (vs ++ [v]) s1.2.1 = .inr (vs ++ [v], s1.2.1, nx b n s1.2.2) from rfl, pTurC_n ⟨zz 0 (by decide), zz 1 (by decide), zz 2 (by decide), zz 3 (by decide)⟩]
          exact g5
        · rw [if_pos hz]
          exact go (fun _ => hz)
      · rw [if_pos (show ¬ ni k = (ni 3 : Int32) from fun hh => k3 ((ni_inj (by omega) (by decide)).mp hh))]
        exact go (fun e => by omega)
