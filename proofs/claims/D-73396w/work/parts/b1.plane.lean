/-! planes: what both know; areas -/
set_option maxRecDepth 100000
/-- the heap without some cells -/
def hid (S : Nat → Prop) [DecidablePred S] (h : CH) : CH := (h.1, h.2.1, h.2.2.1, fun q => if S q then none else cm h q, h.2.2.2.2)
theorem cm_hid (S : Nat → Prop) [DecidablePred S] (h : CH) (q : Nat) : cm (hid S h) q = if S q then none else cm h q := rfl
theorem hid_n {S : Nat → Prop} [DecidablePred S] {h : CH} {q : Nat} (hq : S q) : cm (hid S h) q = none := by rw [cm_hid, if_pos hq]
theorem hid_wf {S : Nat → Prop} [DecidablePred S] {h : CH} (w : wfh h) : wfh (hid S h) := ⟨fun a e ha => by
  rw [cm_hid] at ha
  by_cases hs : S a
  · rw [if_pos hs] at ha; cases ha
  · rw [if_neg hs] at ha; exact w.1 a e ha, w.2⟩
theorem Mod.out {S : Nat → Prop} [DecidablePred S] {h : CH} (w : wfh h) : Mod S 0 0 (hid S h) h := ⟨Nat.le_refl _, Nat.le_refl _, Nat.le_refl _, Nat.le_refl _, rfl, rfl, fun a _ hs => by rw [cm_hid, if_neg hs], w⟩
theorem Mod.hid {S : Nat → Prop} [DecidablePred S] {k n : Nat} {h h1 : CH} (m : Mod S k n h h1) (hb : ∀ q, S q → q < h.1) : Mod S k n (hid S h) (hid S h1) := ⟨m.1, m.2.1, m.2.2.1, m.2.2.2.1, m.2.2.2.2.1, m.2.2.2.2.2.1, fun a ha hs => by rw [cm_hid, cm_hid, if_neg hs, if_neg hs]; exact m.2.2.2.2.2.2.1 a ha hs, hid_wf m.wf⟩
theorem nS {S : Nat → Prop} {h : CH} (hn : ∀ q, S q → cm h q = none) {q : Nat} {e : AC} (hq : cm h q = some e) : ¬ S q := fun hs => by rw [hn q hs] at hq; cases hq
theorem isR.modn {S : Nat → Prop} {k n : Nat} {h h1 : CH} {R : RA} {m : Mx} (hR : isR h R m) (a : Mod S k n h h1) (w : wfh h) (hn : ∀ q, S q → cm h q = none) : isR h1 R m := hR.mod a w (nS hn hR.1) (nS hn hR.2.1) (fun i hi => nS hn (hR.2.2.1 i hi))
theorem isLt.modn {S : Nat → Prop} {k n : Nat} {h h1 : CH} (m : Mod S k n h h1) (w : wfh h) (hn : ∀ q, S q → cm h q = none) {a : Nat} {M : Mi} {o : Int} {tn : Bool} (hL : isLt h a M o tn) : isLt h1 a M o tn := by
  rcases hL with ⟨e, e2, R, hO⟩ | ⟨e, b, B, T, A, Tm, ov, up, ⟨r0, g1, g2⟩, h2, h3⟩
  · exact .inl ⟨e, e2, R, m.at w hO.1 (nS hn hO.1), hO.2.modn m w hn⟩
  · exact .inr ⟨e, b, B, T, A, Tm, ov, up, ⟨r0, m.at w g1 (nS hn g1), g2.modn m w hn⟩, ⟨m.at w h2.1 (nS hn h2.1), h2.2.modn m w hn⟩, h3⟩
theorem CV.modn {S : Nat → Prop} {k n : Nat} {h h1 : CH} {x : Nat} {LS : LSt} (H : CV h x LS) (m : Mod S k n h h1) (w : wfh h) (kk : kok h) (hn : ∀ q, S q → cm h q = none) (hb : ∀ q, S q → h.2.2.1 ≤ q) : CV h1 x LS := by
  obtain ⟨fs, La, E, c, xs, a1, a2, a3, a4, a5, a6⟩ := H
  refine ⟨fs, La, E, c, xs, m.at w a1 (nS hn a1), a2, a3.mod m w kk ?_ ?_ ?_, a4, a5, fun i M n tn hi => ?_⟩
  · obtain ⟨⟨mc, c1⟩, _⟩ := a3; exact nS hn c1
  · obtain ⟨_, _, _, _, h4 | h4⟩ := a3
    · intro hs
      have := hb E hs
      have := kk E _ h4.2.2.2
      omega
    · exact nS hn h4.2
  · intro q hq ci fs hc; rw [hn q hq] at hc; cases hc
  · obtain ⟨a, b1, b2⟩ := a6 i M n tn hi
    exact ⟨a, b1, b2.modn m w hn⟩
/-- the component's array for planes lies at PL, apart from the lattices -/
def QP (h : CH) (x PL : Nat) (LS : LSt) : Prop := (∃ fs, cm h x = some (.inl (1, fs)) ∧ fs[6]? = some (.ref PL)) ∧ (∃ p, cm h PL = some (.inr (0, 3, .inl p))) ∧ CV (hid (· = PL) h) x LS
def isPl (a b c : Int32) : Bool := inI a.toInt (-9) 9 && (inI b.toInt (-9) 9 && (inI c.toInt (-9) 9 && !(decide (a = 0) && (decide (b = 0) && decide (c = 0)))))
theorem X3_isPlane {f : Nat} (a b c : Int32) : m_X3_isPlane f a b c = some (if isPl a b c = true then 1 else 0) := by
  unfold m_X3_isPlane m_X3_isPlane_58 m_X3_isPlane_54 m_X3_isPlane_59 isPl
  have g : rg (-9) := rg_sm (by omega) (by omega)
  have g' : rg 9 := rg_sm (by omega) (by omega)
  rw [toL a, toL b, toL c, show (-9 : Int64) = li (-9) from rfl, show (9 : Int64) = li 9 from rfl, in_li (i32_rg a) g g', in_li (i32_rg b) g g', in_li (i32_rg c) g g']
  cases inI a.toInt (-9) 9 <;> cases inI b.toInt (-9) 9 <;> cases inI c.toInt (-9) 9 <;> simp only [bd_some] <;> by_cases ha : a = 0 <;> by_cases hb : b = 0 <;> by_cases hc : c = 0 <;> simp [ha, hb, hc, gd, zb]
theorem uI_a {h : CH} (w : wfh h) {A : Nat} {p : Nat → Int32} (hA : cm h A = some (.inr (0, 3, .inl p))) {j : Nat} (hj : j < 3) (v : Int32) : uI h 0 A (ni j) v = some (cs h A (.inr (0, 3, .inl (fun k => if k = j then v else p k)))) := by
  unfold uI
  rw [hA]
  have hb := (w.1 A _ hA).1
  simp only [ix_ni hj (by decide), hb, and_self, if_true]
  rw [ni_clamp (by omega)]
  rfl
theorem QP.base {h : CH} {x PL : Nat} {LS : LSt} (P : QP h x PL LS) (w : wfh h) : h.2.2.1 ≤ PL ∧ PL < h.1 := by
  obtain ⟨_, ⟨p, c2⟩, _⟩ := P
  exact w.1 _ _ c2
theorem QP.md {k n : Nat} {h h1 : CH} {x PL : Nat} {LS : LSt} (P : QP h x PL LS) (m : Mod (· = PL) k n h h1) (w : wfh h) (kk : kok h) {p : Nat → Int32} (cp : cm h1 PL = some (.inr (0, 3, .inl p))) : QP h1 x PL LS ∧ CV h1 x LS := by
  have b := P.base w
  obtain ⟨⟨fs, c1, c2⟩, ⟨p0, c3'⟩, c4'⟩ := P
  have hx : x ≠ PL := fun e => by rw [e, c3'] at c1; cases c1
  have C1 : CV (hid (· = PL) h1) x LS := c4'.modn (m.hid (fun q hq => by omega)) (hid_wf w) kk (fun q hq => hid_n hq) (fun q hq => by show h.2.2.1 ≤ q; omega)
  exact ⟨⟨⟨fs, m.at w c1 hx, c2⟩, ⟨p, cp⟩, C1⟩, C1.modn (Mod.out m.wf) (hid_wf m.wf) (show kok (hid (· = PL) h1) from (kok.mod m kk : kok h1)) (fun q hq => hid_n hq) (fun q hq => by show h1.2.2.1 ≤ q; rw [m.2.2.2.2.1]; omega)⟩
theorem QP.cv {h : CH} {x PL : Nat} {LS : LSt} (P : QP h x PL LS) (w : wfh h) (kk : kok h) : CV h x LS := by
  obtain ⟨p, c3'⟩ := P.2.1
  exact (P.md (Mod.rf w) w kk c3').2
theorem X0_isPlane {f : Nat} {h : CH} {x PL : Nat} {LS : LSt} (P : QP h x PL LS) (w : wfh h) (a b c : Int32) : ∃ h1 p, m_X0_isPlane f h x a b c = some (if isPl a b c = true then 1 else 0, h1) ∧ Mod (· = PL) 0 0 h h1 ∧ cm h1 PL = some (.inr (0, 3, .inl p)) ∧ p 0 = a ∧ p 1 = b ∧ p 2 = c := by
  obtain ⟨⟨fs, c1, c2⟩, ⟨p0, c3'⟩, c4'⟩ := P
  have hx : x ≠ PL := fun e => by rw [e, c3'] at c1; cases c1
  unfold m_X0_isPlane m_X0_isPlane_79 m_X0_isPlane_75 m_X0_isPlane_80
  have m1 : Mod (· = PL) 0 0 h _ := Mod.cs w c3' (e := .inr (0, 3, .inl (fun k => if k = 0 then a else p0 k))) rfl
  have d1 := m1.at w c1 hx
  have k1 := cm_cs_s h PL (.inr (0, 3, .inl (fun k => if k = 0 then a else p0 k)))
  have m2 : Mod (· = PL) 0 0 _ _ := Mod.cs m1.wf k1 (e := .inr (0, 3, .inl (fun k => if k = 1 then b else (if k = 0 then a else p0 k)))) rfl
  have d2 := m2.at m1.wf d1 hx
  have k2 := cm_cs_s (cs h PL (.inr (0, 3, .inl (fun k => if k = 0 then a else p0 k)))) PL (.inr (0, 3, .inl (fun k => if k = 1 then b else (if k = 0 then a else p0 k))))
  have m3' : Mod (· = PL) 0 0 _ _ := Mod.cs m2.wf k2 (e := .inr (0, 3, .inl (fun k => if k = 2 then c else (if k = 1 then b else (if k = 0 then a else p0 k))))) rfl
  have u1 : uI h 0 PL 0 a = _ := uI_a w c3' (j := 0) (by decide) a
  have u2 : uI _ 0 PL 1 b = _ := uI_a m1.wf k1 (j := 1) (by decide) b
  have u3 : uI _ 0 PL 2 c = _ := uI_a m2.wf k2 (j := 2) (by decide) c
  rw [oR_c (k := 6) (x := PL) c1 c2, bd_some, u1, bd_some, oR_c (k := 6) (x := PL) d1 c2, bd_some, u2, bd_some, oR_c (k := 6) (x := PL) d2 c2, bd_some, u3, bd_some]
  refine ⟨_, _, ?_, ((m1.tr m2 (fun _ _ => id)).tr m3' (fun _ _ => id)), cm_cs_s _ _ _, rfl, rfl, rfl⟩
  have g : rg (-9) := rg_sm (by omega) (by omega)
  have g' : rg 9 := rg_sm (by omega) (by omega)
  rw [toL a, toL b, toL c, show (-9 : Int64) = li (-9) from rfl, show (9 : Int64) = li 9 from rfl, isIn_li (i32_rg a) g g', isIn_li (i32_rg b) g g', isIn_li (i32_rg c) g g']
  unfold isPl
  cases inI a.toInt (-9) 9 <;> cases inI b.toInt (-9) 9 <;> cases inI c.toInt (-9) 9 <;> simp only [bd_some] <;> by_cases ha : a = 0 <;> by_cases hb : b = 0 <;> by_cases hc : c = 0 <;> simp [ha, hb, hc, gd, zb]

/-! the height of rows over a plane -/
def pv (p : Nat → Int32) : V3 := ((p 0).toInt, (p 1).toInt, (p 2).toInt)
theorem acr_dot (N : Mi) (p : Nat → Int32) : acr N p 0 = dot (m3 N).1 (pv p) ∧ acr N p 1 = dot (m3 N).2.1 (pv p) ∧ acr N p 2 = dot (m3 N).2.2 (pv p) := ⟨rfl, rfl, rfl⟩
theorem acr_dvd {A B : Mi} (h : eqL (m3 A) (m3 B)) (p : Nat → Int32) (d : Int) : (∀ i, i < 3 → d ∣ acr A p i) ↔ ∀ i, i < 3 → d ∣ acr B p i := by
  have one : ∀ {A B : Mi}, eqL (m3 A) (m3 B) → (∀ i, i < 3 → d ∣ acr A p i) → ∀ i, i < 3 → d ∣ acr B p i := fun {A B} h ha i hi => by
    have k : ∀ w, inL (m3 B) w → d ∣ dot w (pv p) := fun w hw => dv_lc (M := m3 A) ⟨ha 0 (by decide), ha 1 (by decide), ha 2 (by decide)⟩ ((h w).mpr hw)
    rcases c3 hi with rfl | rfl | rfl
    · exact k _ (inL_0 _)
    · exact k _ (inL_1 _)
    · exact k _ (inL_2 _)
  exact ⟨one h, one h.sy⟩
def gp (N : Mi) (p : Nat → Int32) : Nat := gr 0 (acr N p) 3
theorem gp_dvd (N : Mi) (p : Nat → Int32) (d : Nat) : d ∣ gp N p ↔ ∀ i, i < 3 → (d : Int) ∣ acr N p i := by
  unfold gp
  rw [gr_dvd 3]
  exact ⟨fun h => h.2, fun h => ⟨Nat.dvd_zero d, h⟩⟩
theorem gp_e {N : Mi} {p : Nat → Int32} {e : Int} (h : ∀ d : Int, d ∣ e ↔ ∀ i, i < 3 → d ∣ acr N p i) : e.natAbs = gp N p := by
  refine Nat.dvd_antisymm ((gp_dvd N p _).mpr (fun i hi => Int.natAbs_dvd.mpr ((h e).mp (Int.dvd_refl e) i hi))) ?_
  have := (h (gp N p : Int)).mpr ((gp_dvd N p _).mp (Nat.dvd_refl _))
  have k := Int.natAbs_dvd_natAbs.mpr this
  rwa [Int.natAbs_natCast] at k
theorem gp_eqL {A B : Mi} (h : eqL (m3 A) (m3 B)) (p : Nat → Int32) : gp A p = gp B p := Nat.dvd_antisymm ((gp_dvd B p _).mpr ((acr_dvd h p _).mp ((gp_dvd A p _).mp (Nat.dvd_refl _)))) ((gp_dvd A p _).mpr ((acr_dvd h p _).mpr ((gp_dvd B p _).mp (Nat.dvd_refl _))))
theorem acr_nz {N : Mi} (hz : dtf N ≠ 0) {p : Nat → Int32} (hp : ∃ j, j < 3 ∧ (p j).toInt ≠ 0) : ∃ i, i < 3 ∧ acr N p i ≠ 0 := by
  apply Classical.byContradiction
  intro h
  have a0 : ∀ i, i < 3 → acr N p i = 0 := fun i hi => Classical.byContradiction (fun e => h ⟨i, hi, e⟩)
  obtain ⟨j, hj, hj'⟩ := hp
  have := crs_ok (N := N) (p := p) (l := 0) (by decide) (fun a ha _ => a0 a ha) hj
  rw [a0 0 (by decide), Int.zero_mul] at this
  rcases Int.mul_eq_zero.mp this.symm with h | h
  · exact hz h
  · exact hj' h
theorem gp_pos {N : Mi} (hz : dtf N ≠ 0) {p : Nat → Int32} (hp : ∃ j, j < 3 ∧ (p j).toInt ≠ 0) : 0 < gp N p := by
  obtain ⟨i, hi, h⟩ := acr_nz hz hp
  refine Nat.pos_of_ne_zero (fun e => h ?_)
  have := (gp_dvd N p 0).mp (by rw [e]; exact Nat.dvd_refl 0) i hi
  exact Int.zero_dvd.mp this
theorem isPl_ok {a b c : Int32} (h : isPl a b c = true) {p : Nat → Int32} (h0 : p 0 = a) (h1 : p 1 = b) (h2 : p 2 = c) : (∀ j, j < 3 → (p j).toInt.natAbs ≤ 9) ∧ ∃ j, j < 3 ∧ (p j).toInt ≠ 0 := by
  unfold isPl inI at h
  simp only [Bool.and_eq_true, decide_eq_true_eq, Bool.not_eq_true', Bool.and_eq_false_iff, decide_eq_false_iff_not] at h
  obtain ⟨⟨x1, x2⟩, ⟨y1, y2⟩, ⟨z1, z2⟩, hn⟩ := h
  subst h0 h1 h2
  refine ⟨fun j hj => by rcases c3 hj with rfl | rfl | rfl <;> omega, ?_⟩
  have nz : ∀ v : Int32, ¬ v = 0 → v.toInt ≠ 0 := fun v hv e => hv (Int32.toInt_inj.mp (by rw [e]; rfl))
  rcases hn with h | h | h
  · exact ⟨0, by decide, nz _ h⟩
  · exact ⟨1, by decide, nz _ h⟩
  · exact ⟨2, by decide, nz _ h⟩
theorem acr_le {N : Mi} {B : Nat} (hN : ∀ i j, i < 3 → j < 3 → (N i j).natAbs ≤ B) {p : Nat → Int32} (hp : ∀ j, j < 3 → (p j).toInt.natAbs ≤ 9) {i : Nat} (hi : i < 3) : (acr N p i).natAbs ≤ 27 * B := by
  have := ab3 (hN i 0 hi (by decide)) (hN i 1 hi (by decide)) (hN i 2 hi (by decide)) (hp 0 (by decide)) (hp 1 (by decide)) (hp 2 (by decide))
  unfold acr; omega
theorem gp_le {N : Mi} {B : Nat} (hN : ∀ i j, i < 3 → j < 3 → (N i j).natAbs ≤ B) {p : Nat → Int32} (hp : ∀ j, j < 3 → (p j).toInt.natAbs ≤ 9) : gp N p ≤ 27 * B := by
  have : gp N p < 27 * B + 1 := gr_lt (by omega) 3 (fun i hi => by have := acr_le hN hp hi; omega)
  omega
theorem RB_30 {B : Int} {N : Mi} (h : RB B N) (hB : 9 * B < 2 ^ 63) : ∀ i j, i < 3 → j < 3 → (N i j).natAbs ≤ 2 ^ 30 := fun i j hi hj => by
  have s := h i hi
  unfold sqr at s
  have n0 := sq_nonneg (N i 0)
  have n1 := sq_nonneg (N i 1)
  have n2 := sq_nonneg (N i 2)
  have : N i j * N i j ≤ B := by rcases c3 hj with rfl | rfl | rfl <;> omega
  exact sq_abs this (by omega)
