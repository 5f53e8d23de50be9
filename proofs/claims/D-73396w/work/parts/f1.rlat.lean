/-! reading: the twin's rows -/
set_option maxRecDepth 100000
/-- what mem keeps of one told -/
def tItm (u : TS) (i : Nat) (it : It) : Prop := match it.2 with
  | none => tA u 0 (3 + i) = -1 ∧ ∀ k, k < 9 → (tA u 0 (28 + 9 * i + k)).toInt = it.1.getD k 0
  | some q => tA u 0 (3 + i) = ni q ∧ ∀ k, k < 4 → (tA u 0 (8 + 4 * i + k)).toInt = it.1.getD k 0
def tLR (u u' : TS) (b : Nat → Nat) (n m : Nat) : Rs (It × Lx) → Prop
  | .inl e => tBd u' e
  | .inr (it, s) => tGd u' b n s ∧ tItm u' m it ∧ tA u' 0 0 = ni (m + 1) ∧ ∀ p, p ≠ 0 → p ≠ 3 + m → (p < 28 + 9 * m ∨ 28 + 9 * m + 9 ≤ p) → (p < 8 + 4 * m ∨ 8 + 4 * m + 4 ≤ p) → tA u' 0 p = tA u 0 p
abbrev RLl : List Nat := [0, 5, 6, 11, 12, 13, 14, 15]
theorem pLatC_y {vs : List Int} {l : Nat} {s : Lx} (h : 1 ≤ (dtf (lsM vs)).natAbs ∧ (dtf (lsM vs)).natAbs ≤ 60) : pLatC (.inr (vs, l, s)) = .inr ((vs, none), s) := if_pos h
theorem pLatC_n {vs : List Int} {l : Nat} {s : Lx} (h : ¬ (1 ≤ (dtf (lsM vs)).natAbs ∧ (dtf (lsM vs)).natAbs ≤ 60)) : pLatC (.inr (vs, l, s)) = .inl (2, l) := if_neg h
theorem X3_rl104B {f : Nat} {h : CH} {y : Nat} {al : List Nat} {u : TS} (H : HT h y al u) {e : Nat × Nat} (G : tBd u e) : m_X3_readsLattice_104 f h y = some h := by
  unfold m_X3_readsLattice_104
  rw [H.i15, bd_some, G.1, if_pos (by decide)]; rfl
theorem X3_rl30B {f : Nat} {h : CH} {y : Nat} {al : List Nat} {u : TS} (H : HT h y al u) {e : Nat × Nat} (G : tBd u e) (x1 x2 : Int32) (m : Nat) : m_X3_readsLattice_30 f (m + 1) h y x1 x2 = some h := by
  rw [m_X3_readsLattice_30]
  split
  · exact X3_rl104B H G
  · rw [H.i15, bd_some, G.1, if_pos (by decide)]; exact X3_rl104B H G
theorem X3_rl93B {f : Nat} {h : CH} {y : Nat} {al : List Nat} {u : TS} (H : HT h y al u) {e : Nat × Nat} (G : tBd u e) (x1 x2 : Int32) (m : Nat) : ∃ h' u', m_X3_readsLattice_93 f (m_X3_readsLattice_30 f (m + 1)) h y x1 x2 = some h' ∧ tBd u' e ∧ Pst h y al u [] h' u' := by
  obtain ⟨h1, u1, c1, g1, p1⟩ := H.passB (f := f) G 1
  unfold m_X3_readsLattice_93
  rw [c1, bd_some, nmv_eq, X3_rl30B p1.1 g1]
  exact ⟨h1, u1, rfl, g1, p1⟩
theorem getD_app {vs : List Int} {v : Int} {j : Nat} : (vs ++ [v]).getD j 0 = if j < vs.length then vs.getD j 0 else if j = vs.length then v else 0 := by
  rw [List.getD_eq_getElem?_getD, List.getD_eq_getElem?_getD]
  by_cases h : j < vs.length
  · rw [if_pos h, List.getElem?_append_left h]
  · rw [if_neg h, List.getElem?_append_right (by omega)]
    by_cases h2 : j = vs.length
    · rw [if_pos h2, h2, Nat.sub_self]; rfl
    · rw [if_neg h2]
      obtain ⟨z, hz⟩ : ∃ z, j - vs.length = z + 1 := ⟨j - vs.length - 1, by omega⟩
      rw [hz]; rfl
theorem getD_le {vs : List Int} {B : Nat} (h : ∀ v, v ∈ vs → v.natAbs ≤ B) (j : Nat) : (vs.getD j 0).natAbs ≤ B := by
  rw [List.getD_eq_getElem?_getD]
  cases hc : vs[j]? with
  | none => show (0 : Int).natAbs ≤ B; omega
  | some v => exact h v (List.mem_of_getElem? hc)
theorem X3_rl30 {f : Nat} (hf : 501 < f) {y : Nat} {al : List Nat} {b : Nat → Nat} {n m : Nat} (hm : m < 5) {h0 : CH} {u0 : TS} : ∀ j k M h u s vs l, k + j = 9 → j < M → Pst h0 y al u0 RLl h u → tGd u b n s → tA u 0 0 = ni m → vs.length = k → (∀ v, v ∈ vs → v.natAbs ≤ 6) → (∀ i, i < k → (tA u 0 (28 + 9 * m + i)).toInt = vs.getD i 0) → (∀ p, (p < 28 + 9 * m ∨ 28 + 9 * m + 9 ≤ p) → tA u 0 p = tA u0 0 p) → (k = 9 → 1 ≤ (dtf (lsM vs)).natAbs ∧ (dtf (lsM vs)).natAbs ≤ 60) → ∃ h' u', m_X3_readsLattice_30 f M h y (ni (28 + 9 * m)) (ni k) = some h' ∧ tLR u0 u' b n m (pLatC (pNums b n 6 j s vs l)) ∧ Pst h0 y al u0 RLl h' u' := by
  have ea : ∀ x y : Nat, (ni x : Int32) + ni y = ni (x + y) := fun x y => (Int32.ofNat_add x y).symm
  intro j
  induction j with
  | zero =>
    intro k M h u s vs l hk hM P G h00 hl hv hmem hfr hdt
    obtain ⟨M, rfl⟩ : ∃ z, M = z + 1 := ⟨M - 1, by omega⟩
    have : k = 9 := by omega
    subst this
    rw [m_X3_readsLattice_30, if_pos (show (9 : Int32) ≤ ni 9 from lekk 9)]
    unfold m_X3_readsLattice_104
    have H := P.1
    have a0 : aI h 0 (al.getD 1 0) 0 = some (ni m) := by rw [← h00]; exact H.a0 (i := 0) (by decide)
    obtain ⟨h1, d1, d2, d3⟩ := H.u0 (i := 3 + m) (by omega) (-1)
    have a0' : aI h1 0 (al.getD 1 0) 0 = some (ni m) := by
      have := d2.a0 (i := 0) (by decide)
      rw [tA_sA, if_neg (fun hh => by have := hh.2; omega), h00] at this; exact this
    obtain ⟨h2, f1, f2, f3⟩ := d2.u0 (i := 0) (by decide) (ni (m + 1))
    have f1' : uI h1 0 (al.getD 1 0) 0 (ni (m + 1)) = some h2 := f1
    rw [H.i15, bd_some, G.1, if_neg (fun hh => hh rfl), H.r0, bd_some, bd_some, a0, bd_some, show (3 : Int32) = ni 3 from rfl, ea, d1, bd_some, d2.r0, bd_some, a0', bd_some, ni_succ, f1', bd_some]
    have F : Fr [0] u (sA (sA u 0 (3 + m) (-1)) 0 0 (ni (m + 1))) := (Fr.sA (by decide)).tr (Fr.sA (by decide))
    refine ⟨h2, _, rfl, ?_, f2, P.2.1.tr (F.mono (by decide)).rF, P.2.2.tr (d3.tr f3 (fun _ _ => id)) (fun _ _ => id)⟩
    rw [show pNums b n 6 0 s vs l = .inr (vs, l, s) from rfl, pLatC_y (hdt rfl)]
    refine ⟨G.fr F (by decide), ⟨?_, fun i hi => ?_⟩, ?_, fun p p0 p1 p2 _ => ?_⟩
    · rw [tA_sA, if_neg (fun hh => by have := hh.2; omega), tA_sA, if_pos ⟨rfl, rfl⟩]
    · rw [tA_sA, if_neg (fun hh => by have := hh.2; omega), tA_sA, if_neg (fun hh => by have := hh.2; omega)]; exact hmem i hi
    · rw [tA_sA, if_pos ⟨rfl, rfl⟩]
    · rw [tA_sA, if_neg (fun hh => p0 hh.2), tA_sA, if_neg (fun hh => p1 hh.2)]; exact hfr p p2
  | succ j ih =>
    intro k M h u s vs l hk hM P G h00 hl hv hmem hfr _
    obtain ⟨M, rfl⟩ : ∃ z, M = z + 2 := ⟨M - 2, by omega⟩
    have H := P.1
    obtain ⟨h1, u1, r, c1, t1, p1⟩ := H.see (f := f) hf G (most := 6) (by decide)
    obtain ⟨h2, d1, d2, d3⟩ := p1.1.u0 (i := 28 + 9 * m + k) (by omega) r
    have F2 : Fr [0] u1 (sA u1 0 (28 + 9 * m + k) r) := Fr.sA (by decide)
    have P2 : Pst h0 y al u0 RLl h2 (sA u1 0 (28 + 9 * m + k) r) := (P.tr (p1.up (by decide))).tr ⟨d2, (F2.mono (by decide)).rF, d3⟩
    rw [m_X3_readsLattice_30, if_neg (le9 (by omega)), H.i15, bd_some, G.1, if_neg (fun hh => hh rfl), H.r0, bd_some, show (6 : Int32) = ni 6 from rfl, c1, bd2_some, ea, d1, bd_some, d2.i15, bd_some]
    unfold pNums
    cases hp : pSee b n 6 s with
    | inl e =>
      rw [hp] at t1
      have B2 : tBd (sA u1 0 (28 + 9 * m + k) r) e := tBd.fr t1 F2 (by decide)
      rw [B2.1, if_pos (by decide)]
      obtain ⟨h3, u3, c3', g3, p3'⟩ := X3_rl93B (f := f) d2 B2 (ni (28 + 9 * m)) (ni k) M
      exact ⟨h3, u3, c3', g3, P2.tr (p3'.up (by decide))⟩
    | inr vsx =>
      obtain ⟨v, s1⟩ := vsx
      rw [hp] at t1
      obtain ⟨tv, tv6, tg⟩ := t1
      have G2 : tGd (sA u1 0 (28 + 9 * m + k) r) b n s1 := tg.fr F2 (by decide)
      have h00' : tA (sA u1 0 (28 + 9 * m + k) r) 0 0 = ni m := by
        rw [tA_sA, if_neg (fun hh => by have := hh.2; omega), p1.2.1.2.2.1 0 (by decide) (by decide)]; exact h00
      have hv' : ∀ w, w ∈ vs ++ [v] → w.natAbs ≤ 6 := fun w hw => by
        rcases List.mem_append.mp hw with hw | hw
        · exact hv w hw
        · rw [List.mem_singleton.mp hw]; exact tv6
      have hmem' : ∀ i, i < k + 1 → (tA (sA u1 0 (28 + 9 * m + k) r) 0 (28 + 9 * m + i)).toInt = (vs ++ [v]).getD i 0 := fun i hi => by
        rw [getD_app, hl]
        by_cases e : i < k
        · rw [if_pos e, tA_sA, if_neg (fun hh => by have := hh.2; omega), p1.2.1.2.2.1 0 (by decide) (by decide)]; exact hmem i e
        · have : i = k := by omega
          subst this
          rw [if_neg e, if_pos rfl, tA_sA, if_pos ⟨rfl, rfl⟩]; exact tv
      have hfr' : ∀ p, (p < 28 + 9 * m ∨ 28 + 9 * m + 9 ≤ p) → tA (sA u1 0 (28 + 9 * m + k) r) 0 p = tA u0 0 p := fun p hp => by
        rw [tA_sA, if_neg (fun hh => by have := hh.2; omega), p1.2.1.2.2.1 0 (by decide) (by decide)]; exact hfr p hp
      rw [G2.1, if_neg (fun hh => hh rfl)]
      -- one further
      have go : ∀ {h3 : CH} {u3 : TS}, Pst h2 y al (sA u1 0 (28 + 9 * m + k) r) [] h3 u3 → (k + 1 = 9 → 1 ≤ (dtf (lsM (vs ++ [v]))).natAbs ∧ (dtf (lsM (vs ++ [v]))).natAbs ≤ 60) → ∃ h' u', m_X3_readsLattice_93 f (m_X3_readsLattice_30 f (M + 1)) h3 y (ni (28 + 9 * m)) (ni k) = some h' ∧ tLR u0 u' b n m (pLatC (pNums b n 6 j (nx b n s1.2.2) (vs ++ [v]) s1.2.1)) ∧ Pst h0 y al u0 RLl h' u' := fun {h3 u3} P3 hdt => by
        obtain ⟨h4, u4, c4, g4, p4⟩ := P3.1.pass1 (f := f) hf (G2.rf P3.2.1 (fun k hk => by cases hk))
        unfold m_X3_readsLattice_93
        rw [c4, bd_some, nmv_eq, ni_succ]
        have e4 : ∀ p, tA u4 0 p = tA (sA u1 0 (28 + 9 * m + k) r) 0 p := fun p => by
          rw [p4.2.1.2.2.1 0 (by decide) (by decide), P3.2.1.2.2.1 0 (by decide) (by decide)]
        exact ih (k + 1) (M + 1) h4 u4 (nx b n s1.2.2) (vs ++ [v]) s1.2.1 (by omega) (by omega) ((P2.tr (P3.up (by decide))).tr (p4.up (by decide))) g4 (by rw [e4]; exact h00') (by rw [List.length_append, hl]; rfl) hv' (fun i hi => by rw [e4]; exact hmem' i hi) (fun p hp => by rw [e4]; exact hfr' p hp) hdt
      by_cases k8 : k = 8
      · subst k8
        have j0 : j = 0 := by omega
        subst j0
        have dM : ∀ i, i < 9 → (tA (sA u1 0 (28 + 9 * m + 8) r) 0 (28 + 9 * m + i)).toInt = lsM (vs ++ [v]) (i / 3) (i % 3) := fun i hi => by
          rw [hmem' i (by omega)]; unfold lsM; rw [show 3 * (i / 3) + i % 3 = i by omega]
        have dB : ∀ i j, i < 3 → j < 3 → (lsM (vs ++ [v]) i j).natAbs ≤ 2000 := fun i j _ _ => Nat.le_trans (getD_le hv' _) (by decide)
        have dt := X3_detOf (f := f) (by omega) (u := rdU h2 y) (B := 28 + 9 * m) (by omega) (M := lsM (vs ++ [v])) (fun i hi => by rw [d2.agr.A (by decide)]; exact dM i hi) dB
        obtain ⟨h3, c3', p3'⟩ := d2.cr (mf := fun z => m_X3_detOf f z (ni (28 + 9 * m))) (l := []) dt Fr.rf
        have dle : (dtf (lsM (vs ++ [v]))).natAbs < 2 ^ 63 := by
          have q : ∀ i j, i < 3 → j < 3 → (lsM (vs ++ [v]) i j).natAbs ≤ 6 := fun i j _ _ => getD_le hv' _
          have mb : ∀ a b c d : Int, a.natAbs ≤ 6 → b.natAbs ≤ 6 → c.natAbs ≤ 6 → d.natAbs ≤ 6 → (a * b - c * d).natAbs ≤ 72 := fun a b c d h1 h2 h3 h4 => by
            have e1 : (a * b).natAbs ≤ 6 * 6 := by rw [Int.natAbs_mul]; exact Nat.mul_le_mul h1 h2
            have e2 : (c * d).natAbs ≤ 6 * 6 := by rw [Int.natAbs_mul]; exact Nat.mul_le_mul h3 h4
            omega
          have pb : ∀ a b : Int, a.natAbs ≤ 6 → b.natAbs ≤ 72 → (a * b).natAbs ≤ 6 * 72 := fun a b h1 h2 => by rw [Int.natAbs_mul]; exact Nat.mul_le_mul h1 h2
          unfold dtf mnr
          have x0 := pb _ _ (q 0 0 (by decide) (by decide)) (mb _ _ _ _ (q 1 1 (by decide) (by decide)) (q 2 2 (by decide) (by decide)) (q 1 2 (by decide) (by decide)) (q 2 1 (by decide) (by decide)))
          have x1 := pb _ _ (q 0 1 (by decide) (by decide)) (mb _ _ _ _ (q 1 2 (by decide) (by decide)) (q 2 0 (by decide) (by decide)) (q 1 0 (by decide) (by decide)) (q 2 2 (by decide) (by decide)))
          have x2 := pb _ _ (q 0 2 (by decide) (by decide)) (mb _ _ _ _ (q 1 0 (by decide) (by decide)) (q 2 1 (by decide) (by decide)) (q 1 1 (by decide) (by decide)) (q 2 0 (by decide) (by decide)))
          show (_ + _ + _ : Int).natAbs < 2 ^ 63
          exact Nat.lt_of_le_of_lt (Nat.le_trans (Int.natAbs_add_le _ _) (Nat.add_le_add (Nat.le_trans (Int.natAbs_add_le _ _) (Nat.add_le_add x0 x1)) x2)) (by decide)
        rw [if_neg (fun hh => hh rfl), c3', bd2_some, sized_li (rg_nat.mpr dle), bd_some, show (1 : Int64) = li 1 from rfl, show (60 : Int64) = li 60 from rfl, in_li (rg_nat.mpr (by rw [Int.natAbs_natCast]; exact dle)) (rg_nat.mpr (by decide)) (rg_nat.mpr (by decide)), bd_some]
        cases hI : inI ((dtf (lsM (vs ++ [v]))).natAbs : Int) 1 60 with
        | true =>
          have hI' := of_decide_eq_true hI
          rw [nift1]
          exact go p3' (fun _ => by omega)
        | false =>
          have hI' := of_decide_eq_false hI
          rw [niff0]
          obtain ⟨h4, u4, c4, g4, p4⟩ := p3'.1.flt (f := f) (G2.rf p3'.2.1 (fun k hk => by cases hk)) 2
          rw [show (2 : Int32) = ni 2 from rfl, c4, bd_some]
          obtain ⟨h5, u5, c5, g5, p5⟩ := X3_rl93B (f := f) p4.1 g4 (ni (28 + 9 * m)) (ni 8) M
          refine ⟨h5, u5, c5, ?_, ((P2.tr (p3'.up (by decide))).tr (p4.up (by decide))).tr (p5.up (by decide))⟩
          show tLR u0 u5 b n m (pLatC (pNums b n 6 0 (nx b n s1.2.2) (vs ++ [v]) s1.2.1))
          rw [show pNums b n 6 0 (nx b n s1.2.2) (vs ++ [v]) s1.2.1 = .inr (vs ++ [v], s1.2.1, nx b n s1.2.2) from rfl, pLatC_n (fun hh => hI' (by omega))]
          exact g5
      · rw [if_pos (show ¬ ni k = (8 : Int32) from fun hh => k8 ((ni_inj (by omega) (by decide)).mp (show ni k = ni 8 from hh)))]
        exact go (Pst.rf d2) (fun e => by omega)
/-- one told by rows -/
def tLN (u u' : TS) (b : Nat → Nat) (n : Nat) (ns : List (List Nat)) : Rs (List Nat × It × Lx) → Prop
  | .inl e => tBd u' e
  | .inr (w, it, s) => tGd u' b n s ∧ tNm u' b n (ns ++ [w]) ∧ tItm u' ns.length it ∧ tA u' 0 0 = ni (ns.length + 1) ∧ ∀ p, p ≠ 0 → p ≠ 3 + ns.length → (p < 28 + 9 * ns.length ∨ 28 + 9 * ns.length + 9 ≤ p) → (p < 8 + 4 * ns.length ∨ 8 + 4 * ns.length + 4 ≤ p) → tA u' 0 p = tA u 0 p
def pIts (w : List Nat) : Rs (It × Lx) → Rs (List Nat × It × Lx)
  | .inl e => .inl e
  | .inr (it, s) => .inr (w, it, s)
def pRLat (b : Nat → Nat) (n : Nat) : Rs (List Nat × Lx) → Rs (List Nat × It × Lx)
  | .inl e => .inl e
  | .inr (w, s) => pIts w (pLat b n s)
theorem X3_readsLattice {f : Nat} (hf : 501 < f) {h : CH} (kf0 : kf h) {y : Nat} {al : List Nat} {u : TS} (H : HT h y al u) {b : Nat → Nat} {n : Nat} {s : Lx} (G : tGd u b n s) {ns : List (List Nat)} (N : tNm u b n ns) (hM : tA u 0 0 = ni ns.length) : ∃ h' u', m_X3_readsLattice f h y = some h' ∧ tLN u u' b n ns (pRLat b n (pName b n ns s)) ∧ Pst h y al u RDl h' u' := by
  have n5 := N.1
  obtain ⟨h1, u1, c1, t1, p1⟩ := X3_readsName (f := f) hf kf0 H G N hM
  unfold m_X3_readsLattice
  rw [gd_of H.isC, c1, bd_some]
  unfold m_X3_readsLattice_4 m_X3_readsLattice_25
  rw [p1.1.i15, bd_some]
  cases hp : pName b n ns s with
  | inl e =>
    rw [hp] at t1
    have B1 : tBd u1 e := t1
    obtain ⟨f', rfl⟩ : ∃ z, f = z + 1 := ⟨f - 1, by omega⟩
    rw [B1.1, if_neg (by decide), nmv_eq, X3_rl30B p1.1 B1]
    exact ⟨h1, u1, rfl, B1, p1.up (by decide)⟩
  | inr ws =>
    obtain ⟨w, s2⟩ := ws
    rw [hp] at t1
    obtain ⟨G1, N1⟩ := t1
    have n5' : ns.length + 1 ≤ 5 := by have := N1.1; rw [List.length_append] at this; exact this
    have h00 : tA u1 0 0 = ni ns.length := by rw [p1.2.1.2.2.1 0 (by decide) (by decide)]; exact hM
    have a0 : aI h1 0 (al.getD 1 0) 0 = some (ni ns.length) := by rw [← h00]; exact p1.1.a0 (i := 0) (by decide)
    have eb : (28 : Int32) + (9 : Int32) * ni ns.length = ni (28 + 9 * ns.length) := by
      show Int32.ofNat 28 + Int32.ofNat 9 * Int32.ofNat ns.length = Int32.ofNat (28 + 9 * ns.length)
      rw [← Int32.ofNat_mul, ← Int32.ofNat_add]
    rw [G1.1, if_pos rfl, p1.1.r0, bd_some, a0, bd_some, nmv_eq, eb]
    obtain ⟨h2, u2, c2, t2, p2⟩ := X3_rl30 (f := f) hf (y := y) (al := al) (b := b) (n := n) (m := ns.length) (by omega) (h0 := h1) (u0 := u1) 9 0 f h1 u1 s2 [] 0 rfl (by omega) (Pst.rf p1.1) G1 h00 rfl (fun v hv => by cases hv) (fun i hi => by omega) (fun _ _ => rfl) (fun e => by omega)
    refine ⟨h2, u2, c2, ?_, (p1.up (by decide)).tr (p2.up (by decide))⟩
    have N2 := N1.rf p2.2.1 (by decide) (by decide)
    have fr : ∀ p, tA u1 0 p = tA u 0 p := fun p => by rw [p1.2.1.2.2.1 0 (by decide) (by decide)]
    show tLN u u2 b n ns (pIts w (pLatC (pNums b n 6 9 s2 [] 0)))
    revert t2
    cases pLatC (pNums b n 6 9 s2 [] 0) with
    | inl e => exact id
    | inr q =>
      obtain ⟨it, s3⟩ := q
      rintro ⟨q1, q2, q3, q4⟩
      exact ⟨q1, N2, q2, q3, fun p p0 p1' p2' p3 => (q4 p p0 p1' p2' p3).trans (fr p)⟩
