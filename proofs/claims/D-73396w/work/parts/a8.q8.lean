/-! the order of a point -/
set_option maxRecDepth 100000
def ordN (W : Nat) (c : Nat → Int) : Nat → Nat
  | 0 => 1
  | j + 1 => Nat.lcm (ordN W c j) (W / Nat.gcd W (c j).natAbs)
theorem div_gcd_dvd {W c k : Nat} (hW : 0 < W) : W / Nat.gcd W c ∣ k ↔ W ∣ k * c := by
  have hg : 0 < Nat.gcd W c := Nat.gcd_pos_of_pos_left _ hW
  have e1 : Nat.gcd W c * (W / Nat.gcd W c) = W := Nat.mul_div_cancel' (Nat.gcd_dvd_left W c)
  have e2 : Nat.gcd W c * (c / Nat.gcd W c) = c := Nat.mul_div_cancel' (Nat.gcd_dvd_right W c)
  have co : Nat.Coprime (W / Nat.gcd W c) (c / Nat.gcd W c) := Nat.coprime_div_gcd_div_gcd hg
  generalize hw : W / Nat.gcd W c = w at *
  generalize hc : c / Nat.gcd W c = c' at *
  generalize Nat.gcd W c = g at *
  subst e1 e2
  constructor
  · rintro ⟨t, rfl⟩
    exact ⟨t * c', by rw [Nat.mul_mul_mul_comm, Nat.mul_comm w g, Nat.mul_assoc]⟩
  · intro h
    have h2 : g * w ∣ g * (k * c') := by rw [Nat.mul_left_comm g k c'] ; exact h
    exact co.dvd_of_dvd_mul_right (Nat.dvd_of_mul_dvd_mul_left hg h2)
theorem ord_dvd {W : Nat} (hW : 0 < W) {c : Nat → Int} {k : Nat} : ∀ j, ordN W c j ∣ k ↔ ∀ i, i < j → (W : Int) ∣ (k : Int) * c i
  | 0 => ⟨fun _ i hi => by omega, fun _ => Nat.one_dvd k⟩
  | j + 1 => by
    unfold ordN
    have e : (W : Int) ∣ (k : Int) * c j ↔ W ∣ k * (c j).natAbs := by
      rw [← Int.natAbs_dvd_natAbs, Int.natAbs_mul, Int.natAbs_natCast, Int.natAbs_natCast]
    constructor
    · intro h i hi
      have h1 := Nat.dvd_trans (Nat.dvd_lcm_left _ _) h
      have h2 := Nat.dvd_trans (Nat.dvd_lcm_right _ _) h
      by_cases hij : i = j
      · subst hij; exact e.mpr ((div_gcd_dvd hW).mp h2)
      · exact (ord_dvd hW j).mp h1 i (by omega)
    · intro h
      exact Nat.lcm_dvd ((ord_dvd hW j).mpr (fun i hi => h i (by omega))) ((div_gcd_dvd hW).mpr (e.mp (h j (by omega))))
theorem ord_le {W : Nat} (hW : 0 < W) {c : Nat → Int} (j : Nat) : 1 ≤ ordN W c j ∧ ordN W c j ≤ W := by
  have h : ordN W c j ∣ W := (ord_dvd hW j).mpr (fun i _ => Int.dvd_mul_right _ _)
  exact ⟨Nat.pos_of_dvd_of_pos h hW, Nat.le_of_dvd hW h⟩
/-- where a point lies by the rows -/
theorem crd {M : Mi} {n : Int} {tn : Bool} (LO : LatOk M n tn) {p : Nat → Int} (hp : ∀ j, j < 3 → (p j).natAbs ≤ 999) {d : Int} (hd : 1 ≤ d ∧ d ≤ 36) (h : hasP (m3 M) n (v3 p) d) : ∃ s : Nat → Int, vsm n (v3 p) = vsm d (vm (v3 s) (m3 M)) ∧ (∀ j, j < 3 → hvs M n p j = d * dtf M * s j) ∧ (∀ j, j < 3 → rg (hvs M n p j)) ∧ rg (d * dtf M) ∧ d * dtf M ≠ 0 ∧ ∀ j, j < 3 → (s j).natAbs ≤ 168000000000 := by
  obtain ⟨w, hw, e⟩ := h
  obtain ⟨v, rfl⟩ := in_vm hw
  obtain ⟨Q, pq⟩ := LO.pq
  have hn := LO.n
  have hz := pq.nz
  obtain ⟨_, a1⟩ := pq.ent
  have dl := pq.det_le
  rw [det_m3] at dl
  refine ⟨p3 v.1 v.2.1 v.2.2, e, ?_⟩
  have hv : (hvs M n p 0, hvs M n p 1, hvs M n p 2) = vsm (d * dtf M) v := by
    rw [hvs_vm, ← vm_vsm, e, vm_vsm, vm_mmul, mmul_adj, vm_sm, vm_id, det_m3]
    simp only [vsm, Int.mul_assoc]
  have h3 : ∀ j, j < 3 → hvs M n p j = d * dtf M * p3 v.1 v.2.1 v.2.2 j := by
    simp only [vsm, Prod.mk.injEq] at hv
    intro j hj
    rcases c3 hj with rfl | rfl | rfl
    · exact hv.1
    · exact hv.2.1
    · exact hv.2.2
  have b3 : ∀ j, j < 3 → (hvs M n p j).natAbs ≤ 168000000000 := fun j hj => by
    unfold hvs
    rw [Int.natAbs_mul]
    have := ab3 (hp 0 (by decide)) (hp 1 (by decide)) (hp 2 (by decide)) (bd_mnr a1 hj (show 0 < 3 by decide)) (bd_mnr a1 hj (show 1 < 3 by decide)) (bd_mnr a1 hj (show 2 < 3 by decide))
    have n36 : n.natAbs ≤ 36 := by omega
    exact Nat.le_trans (Nat.mul_le_mul this n36) (by decide)
  have dz : d * dtf M ≠ 0 := Int.mul_ne_zero (by omega) hz
  refine ⟨h3, fun j hj => rg_nat.mpr (by have := b3 j hj; omega), ?_, dz, fun j hj => ?_⟩
  · rw [rg_nat, Int.natAbs_mul]
    have d36 : d.natAbs ≤ 36 := by omega
    exact Nat.lt_of_le_of_lt (Nat.mul_le_mul d36 dl.2) (by decide)
  · have := b3 j hj
    rw [h3 j hj, Int.natAbs_mul] at this
    have k1 : 1 ≤ (d * dtf M).natAbs := by omega
    exact Nat.le_trans (Nat.le_mul_of_pos_left _ k1) this
def its (X : Mi) (s : Nat → Int) (j : Nat) : Int := s 0 * mnr X j 0 + s 1 * mnr X j 1 + s 2 * mnr X j 2
theorem its_vm (X : Mi) (s : Nat → Int) : (its X s 0, its X s 1, its X s 2) = vm (v3 s) (adjM (m3 X)) := by
  have := hvs_vm X 1 s
  have e : ∀ j, hvs X 1 s j = its X s j := fun j => by unfold hvs its; rw [Int.mul_one]
  rw [e, e, e] at this
  rw [this]; simp [vsm]
/-- a point taken so often is of the other one -/
theorem has_k {M1 M2 P Q X : Mi} {n1 n2 b : Int} {t1 t2 : Bool} (LO1 : LatOk M1 n1 t1) (LO2 : LatOk M2 n2 t2) (eP : P = mscl (b.tdiv n1) M1) (eQ : Q = mscl (b.tdiv n2) M2) (eb : b = btw n1 n2) (hb : 1 ≤ b) (hX : dtf X ≠ 0) (hL : ∀ x, inL (m3 X) x ↔ inL (m3 Q) (vm x (m3 P))) {p : V3} {s : Nat → Int} {d : Int} (hd : 1 ≤ d) (hs : vsm n1 p = vsm d (vm (v3 s) (m3 M1))) (k : Int) : hasP (m3 M2) n2 (vsm k p) d ↔ ∀ j, j < 3 → dtf X ∣ k * its X s j := by
  have hn1 := LO1.n
  have hn2 := LO2.n
  obtain ⟨q1, e1⟩ := (eb ▸ btw_dvd.1 : n1 ∣ b)
  obtain ⟨q2, e2⟩ := (eb ▸ btw_dvd.2 : n2 ∣ b)
  have t1' : b.tdiv n1 = q1 := by rw [e1, Int.mul_tdiv_cancel_left _ (by omega)]
  have t2' : b.tdiv n2 = q2 := by rw [e2, Int.mul_tdiv_cancel_left _ (by omega)]
  have z2 : q2 ≠ 0 := fun e => by subst e; omega
  have eS : vsm b (vsm k p) = vsm d (vm (vsm k (v3 s)) (m3 P)) := by
    rw [eP, t1', m3_mscl, vm_sm, vm_vsm]
    have : vsm b (vsm k p) = vsm (q1 * k) (vsm n1 p) := by simp only [vsm, e1, Prod.mk.injEq]; refine ⟨?_, ?_, ?_⟩ <;> grind
    rw [this, hs]
    simp only [vsm, Prod.mk.injEq]; refine ⟨?_, ?_, ?_⟩ <;> grind
  have A : hasP (m3 M2) n2 (vsm k p) d ↔ inL (m3 Q) (vm (vsm k (v3 s)) (m3 P)) := by
    constructor
    · rintro ⟨w, hw, e⟩
      obtain ⟨t, rfl⟩ := in_vm hw
      have : vm (vsm k (v3 s)) (m3 P) = vm t (m3 Q) := by
        refine vsm_inj (k := d) (by omega) ?_
        rw [← eS, eQ, t2', m3_mscl, vm_sm]
        have : vsm b (vsm k p) = vsm q2 (vsm n2 (vsm k p)) := by simp only [vsm, e2, Prod.mk.injEq]; refine ⟨?_, ?_, ?_⟩ <;> grind
        rw [this, e]
        simp only [vsm, Prod.mk.injEq]; refine ⟨?_, ?_, ?_⟩ <;> grind
      rw [this]; exact vm_in _ _
    · intro hq
      obtain ⟨t, et⟩ := in_vm hq
      refine ⟨vm t (m3 M2), vm_in _ _, vsm_inj (k := q2) z2 ?_⟩
      have : vsm b (vsm k p) = vsm q2 (vsm n2 (vsm k p)) := by simp only [vsm, e2, Prod.mk.injEq]; refine ⟨?_, ?_, ?_⟩ <;> grind
      rw [← this, eS, et, eQ, t2', m3_mscl, vm_sm]
      simp only [vsm, Prod.mk.injEq]; refine ⟨?_, ?_, ?_⟩ <;> grind
  rw [A, ← hL]
  have io := in_other (P := idM) (Q := m3 X) (by rw [det_m3]; exact hX) (vsm k (v3 s))
  rw [vm_id, id_mmul, vm_vsm, ← its_vm, det_m3] at io
  rw [io]
  unfold dv3 vsm
  exact ⟨fun h j hj => by rcases c3 hj with rfl | rfl | rfl; exact h.1; exact h.2.1; exact h.2.2, fun h => ⟨h 0 (by decide), h 1 (by decide), h 2 (by decide)⟩⟩

theorem QE.st {h h1 : CH} {x : Nat} {u v : TS} {LS : LSt} (E : QE h x u LS) {k n : Nat} (m : Ext k n h h1) {l : List Nat} (fr : Fr l u v) (hl : 0 ∉ l) : QE h1 x v LS := ⟨m.wf, E.2.1.mod m, E.2.2.1.ext m E.1 E.2.1.kok, E.2.2.2.1.fr fr hl, E.2.2.2.2⟩
theorem tdiv_nat {a g : Nat} : (a : Int).tdiv (g : Int) = ((a / g : Nat) : Int) := by rw [Int.tdiv_eq_ediv_of_nonneg (by omega)]; rfl
theorem li_ni (k : Nat) : Int64.toInt32 (li (k : Int)) = ni k := by
  show Int64.toInt32 (Int64.ofInt (k : Int)) = Int32.ofNat k
  rw [Int64.toInt32_ofInt]; rfl
theorem X0_o139 {f : Nat} (hf : 4 ≤ f) {h : CH} {K : RA} {X : Mi} {V : Nat} {s : Nat → Int} (hK : isN h K (fun i j => mnr X j i)) (hV : cm h V = some (vcl s)) {W : Nat} (hW : 0 < W) (hW2 : W ≤ 2160) (gi : ∀ j, j < 3 → rg (its X s j)) : m_X0_orderOf_139 f f h K.1 (li W) V 1 0 = some (ni (ordN W (its X s) 3), h) := by
  obtain ⟨v2, p2, q2⟩ := loop3v (fun n v y => m_X0_orderOf_139 f n h K.1 (li W) V v y) (fun v => some (Int64.toInt32 v, h)) (fun j v => v = li (ordN W (its X s) j))
    (fun n v _ => by rw [m_X0_orderOf_139, if_pos le33]; rfl)
    (fun n v j hj p => by
      refine ⟨_, ?_, rfl⟩
      have r0 : aR h 4 K.2.1 0 = some (K.2.2 0) := aR_R hK (i := 0) (by decide)
      have r1 : aR h 4 K.2.1 1 = some (K.2.2 1) := aR_R hK (i := 1) (by decide)
      have r2 : aR h 4 K.2.1 2 = some (K.2.2 2) := aR_R hK (i := 2) (by decide)
      have v0 : aL h 1 V 0 = some (li (s 0)) := aL_V hV (j := 0) (by decide)
      have v1 : aL h 1 V 1 = some (li (s 1)) := aL_V hV (j := 1) (by decide)
      have v2 : aL h 1 V 2 = some (li (s 2)) := aL_V hV (j := 2) (by decide)
      rw [m_X0_orderOf_139, if_neg (le3 hj), v0, bd_some, oR_R hK, bd_some, r0, bd_some, aL_R hK (by decide) hj, bd_some, v1, bd_some, bd_some, r1, bd_some, aL_R hK (by decide) hj, bd_some, v2, bd_some, bd_some, r2, bd_some, aL_R hK (by decide) hj, bd_some]
      simp only [nmv_eq]
      rw [li_mul, li_mul, li_mul, li_add, li_add]
      have gW : rg (W : Int) := ⟨by omega, by omega⟩
      have e1 : m_X0_divisor f (li W) (li (s 0 * mnr X j 0 + s 1 * mnr X j 1 + s 2 * mnr X j 2)) = some (li (Int.gcd W (its X s j))) := divisor_rg gW (gi j hj)
      rw [e1, bd_some]
      have hg : Int.gcd W (its X s j) = Nat.gcd W (its X s j).natAbs := by rw [Int.gcd_eq_natAbs_gcd_natAbs, Int.natAbs_natCast]
      have g1 : 0 < Nat.gcd W (its X s j).natAbs := Nat.gcd_pos_of_pos_left _ hW
      have g2 : Nat.gcd W (its X s j).natAbs ≤ W := Nat.gcd_le_left _ hW
      rw [hg]
      have gG : rg ((Nat.gcd W (its X s j).natAbs : Nat) : Int) := ⟨by omega, by omega⟩
      rw [gd_of (nzL_li gG (by omega)), li_div gW gG, tdiv_nat, p]
      have o := ord_le hW (c := its X s) j
      have d1 : 0 < W / Nat.gcd W (its X s j).natAbs := Nat.div_pos g2 g1
      have d2 : W / Nat.gcd W (its X s j).natAbs ≤ W := Nat.div_le_self _ _
      rw [multiple_li ⟨by omega, by omega⟩ (by omega) (fun e => by have := (Int.gcd_eq_zero_iff.mp e).1; omega), bd_some, ni_succ]
      have e2 : (ordN W (its X s) j : Int).tdiv (Int.gcd (ordN W (its X s) j) ((W / Nat.gcd W (its X s j).natAbs : Nat) : Int)) * ((W / Nat.gcd W (its X s j).natAbs : Nat) : Int) = _ := mlt_ok (by omega) d1
      rw [e2]
      rfl)
    hf (v := 1) rfl
  have e4 : m_X0_orderOf_139 f f h K.1 (li W) V 1 0 = _ := q2
  rw [e4, p2]
  rw [li_ni]

theorem vcl_congr {v s : Nat → Int} (h : ∀ i, i < 3 → v i = s i) : vcl v = vcl s := by
  unfold vcl
  have e : (fun j => if j < 3 then li (v j) else 0) = fun j => if j < 3 then li (s j) else 0 := by
    funext j
    split
    · rename_i hj; rw [h j hj]
    · rfl
  rw [e]
theorem vcl_0 : (.inr (1, 3, .inr (.inl (fun _ => 0))) : AC) = vcl (fun _ => 0) := by
  unfold vcl
  have : (fun (_ : Nat) => (0 : Int64)) = fun j => if j < 3 then li 0 else 0 := by funext j; split <;> rfl
  rw [this]
/-- a point's places by the rows, laid in a new array -/
theorem X0_o61 {f : Nat} (hf : 4 ≤ f) {h0 : CH} (w : wfh h0) (kf0 : kf h0) {x : Nat} {LS : LSt} (C : CV h0 x LS) {k : Nat} {M : Mi} {n : Int} {tn : Bool} (hl : LS[k]? = some (M, n, tn)) {K : RA} (hK : isN h0 K (fun i j => mnr M j i)) {a b c : Int32} {D : Int} (gD : rg D) (hD : D ≠ 0) {s : Nat → Int} (gh : ∀ j, j < 3 → rg (hvs M n (p3 a.toInt b.toInt c.toInt) j)) (hs : ∀ j, j < 3 → hvs M n (p3 a.toInt b.toInt c.toInt) j = D * s j) (x12 : Nat) (x13 : Int64) : ∃ h', Ext 16 42 h0 h' ∧ cm h' h0.1 = some (vcl s) ∧ m_X0_orderOf_61 f f (cn h0 3 (.inr (1, 3, .inr (.inl (fun _ => 0))))) x (ni k) a b c K.1 (li D) x12 x13 h0.1 0 = m_X0_orderOf_133 f h' x12 x13 h0.1 := by
  have c0 : cm (cn h0 3 (.inr (1, 3, .inr (.inl (fun _ => 0))))) h0.1 = some (vcl (fun _ => 0)) := by
    rw [cm_cn_s]
    exact congrArg some vcl_0
  obtain ⟨h', ⟨p1, v, p2, pp⟩, q2⟩ := loop3v (fun n h y => m_X0_orderOf_61 f n h x (ni k) a b c K.1 (li D) x12 x13 h0.1 y) (fun h => m_X0_orderOf_133 f h x12 x13 h0.1) (fun j h => Ext (1 + 5 * j) (3 + 13 * j) h0 h ∧ ∃ v, cm h h0.1 = some (vcl v) ∧ ∀ i, i < j → v i = s i)
    (fun n v _ => by rw [m_X0_orderOf_61, if_pos le33])
    (fun m h j hj ⟨p1, v, p2, pp⟩ => by
      have hK' := hK.ext p1 w
      have C' := C.ext p1 w kf0.kok
      obtain ⟨a0, a1, a2⟩ := X0_at (f := f) C' hl
      obtain ⟨h4, c1, c2⟩ := L_over (f := f) (by omega) p1.wf a2
      have r0 : aR h 4 K.2.1 0 = some (K.2.2 0) := aR_R hK' (i := 0) (by decide)
      have r1 : aR h 4 K.2.1 1 = some (K.2.2 1) := aR_R hK' (i := 1) (by decide)
      have r2 : aR h 4 K.2.1 2 = some (K.2.2 2) := aR_R hK' (i := 2) (by decide)
      have p4 := c1.at p1.wf p2 id
      obtain ⟨l1, l2, l3⟩ := toL3 a b c
      refine ⟨cs h4 h0.1 (vcl (vst v j (s j))), ?_, ?_, vst v j (s j), ?_, ?_⟩
      · rw [m_X0_orderOf_61, if_neg (le3 hj), oR_R hK', bd_some, r0, bd_some, aL_R hK' (by decide) hj, bd_some, bd_some, r1, bd_some, aL_R hK' (by decide) hj, bd_some, bd_some, r2, bd_some, aL_R hK' (by decide) hj, bd_some, gd_of C'.isC, a1, bd2_some]
        unfold m_X0_orderOf_119
        rw [c2 (fun r3 h2 => m_X0_orderOf_122 f (m_X0_orderOf_61 f m) h2 x (ni k) a b c K.1 (li D) x12 x13 h0.1 (ni j) h0.1 (ni j) _ r3)]
        unfold m_X0_orderOf_122
        rw [gd_of (nzL_li gD hD), l1, l2, l3, li_mul, li_mul, li_mul, li_add, li_add, li_mul]
        have e : li ((p3 a.toInt b.toInt c.toInt 0 * mnr M j 0 + p3 a.toInt b.toInt c.toInt 1 * mnr M j 1 + p3 a.toInt b.toInt c.toInt 2 * mnr M j 2) * n) / li D = li (s j) := by
          show li (hvs M n (p3 a.toInt b.toInt c.toInt) j) / li D = li (s j)
          rw [li_div (gh j hj) gD, hs j hj, Int.mul_tdiv_cancel_left _ hD]
        rw [e, uL_V c1.wf p4 hj, bd_some, nmv_eq, ni_succ]
      · exact ((Ext.trn (p1.tr c1 (fun _ _ => id)) (Mod.cs (S := fun q => q = h0.1) c1.wf p4 rfl) (fun q hq => by omega)).up (by omega) (by omega))
      · exact cm_cs_s _ _ _
      · intro i hi
        unfold vst
        split
        · rename_i e; rw [e]
        · exact pp i (by omega))
    hf (v := cn h0 3 (.inr (1, 3, .inr (.inl (fun _ => 0))))) ⟨Mod.cn w, fun _ => 0, c0, fun i hi => by omega⟩
  refine ⟨h', p1.up (by omega) (by omega), ?_, q2⟩
  rw [p2, vcl_congr pp]

theorem X0_orderOf {f : Nat} (hf : 2 ^ 63 ≤ f) {h : CH} {x : Nat} {u : TS} {LS : LSt} (E : QE h x u LS) {k1 k2 : Nat} {M1 M2 : Mi} {n1 n2 : Int} {t1 t2 : Bool} (hl1 : LS[k1]? = some (M1, n1, t1)) (hl2 : LS[k2]? = some (M2, n2, t2)) (ht : ¬ (t1 = true ∧ t2 = true)) {a b c d : Int32} (hP : isPI a b c d = true) (hh : hasP (m3 M1) n1 (v3 (p3 a.toInt b.toInt c.toInt)) d.toInt) : ∃ (N : Nat) (h' : CH), m_X0_orderOf f h x (ni k1) (ni k2) a b c d = some (ni N, h') ∧ 1 ≤ N ∧ N ≤ 2160 ∧ (∀ k : Nat, hasP (m3 M2) n2 (vsm k (v3 (p3 a.toInt b.toInt c.toInt))) d.toInt ↔ N ∣ k) ∧ Ext 230 600 h h' := by
  have E' := E
  obtain ⟨w, kf0, C, T, L⟩ := E
  have LO1 := L k1 M1 n1 t1 hl1
  have LO2 := L k2 M2 n2 t2 hl2
  obtain ⟨q1, q2⟩ := isPI_ok hP
  obtain ⟨s, s1, s2, s3, s4, s5, s6⟩ := crd LO1 q1 q2 hh
  obtain ⟨a0, a1, a2⟩ := X0_at (f := f) C hl1
  obtain ⟨R, h3, b1, b2, b3⟩ := L_rows (f := f) (by omega) w a2
  obtain ⟨h4, d1, d2, d3, _⟩ := X2_adjoint (f := f) (by omega) b2.wf b1
  have E4 := E'.st ((b2.tr d3 (fun _ _ => id))) (Fr.rf (u := u) (l := [])) (by decide)
  obtain ⟨P, Q, X, b', eP, eQ, eb, pq, x1, x2, x3, x4, x5, x6, R5, h5, y1, y2, y3⟩ := X0_toldBy (f := f) hf E4 hl1 hl2 ht
  obtain ⟨h6, z1', z2', z3', _⟩ := X2_adjoint (f := f) (by omega) y3.wf y2
  obtain ⟨_, _, _, _, _, _, _, _, mL, _⟩ := pq.mt
  have hX : dtf X ≠ 0 := by omega
  have hk := fun k => has_k LO1 LO2 eP eQ eb pq.n.1 hX (fun v => (x2 v).trans (mL v)) q2.1 s1 k
  have W1 : 0 < (dtf X).natAbs := by omega
  have gi : ∀ j, j < 3 → rg (its X s j) := fun j hj => by
    rw [rg_nat]
    unfold its
    exact Nat.lt_of_le_of_lt (ab3 (s6 0 (by decide)) (s6 1 (by decide)) (s6 2 (by decide)) (bd_mnr x4 hj (show 0 < 3 by decide)) (bd_mnr x4 hj (show 1 < 3 by decide)) (bd_mnr x4 hj (show 2 < 3 by decide))) (by decide)
  have C6 := ((E4.2.2.1.ext y3 E4.1 E4.2.1.kok).ext z3' y3.wf (E4.2.1.mod y3).kok)
  have kf6 := ((E4.2.1.mod y3).mod z3')
  have dK := ((d2.ext y3 d3.wf).ext z3' y3.wf)
  obtain ⟨h7, v1, v2, v3'⟩ := X0_o61 (f := f) (by omega) z3'.wf kf6 C6 hl1 dK s4 s5 s3 s2 h5.1 (li (dtf X).natAbs)
  have z7 := z2'.ext v1 z3'.wf
  have o139 := X0_o139 (f := f) (by omega) z7 v2 W1 x6 gi
  refine ⟨ordN (dtf X).natAbs (its X s) 3, h7, ?_, (ord_le W1 3).1, Nat.le_trans (ord_le W1 3).2 x6, fun k => (hk k).trans ?_, (((((b2.tr d3 (fun _ _ => id)).tr y3 (fun _ _ => id)).tr z3' (fun _ _ => id)).tr v1 (fun _ _ => id)).up (by omega) (by omega))⟩
  · unfold m_X0_orderOf
    rw [gd_of C.isC, a1, bd2_some]
    unfold m_X0_orderOf_5
    rw [b3 (fun a3 h2 => m_X0_orderOf_8 f h2 x (ni k1) (ni k2) a b c d a3)]
    unfold m_X0_orderOf_8
    rw [gd_of (isC_R b1), d1, bd2_some]
    have b1' := b1.ext d3 b2.wf
    unfold m_X0_orderOf_15
    rw [gd_of (isC_R b1'), X2_determinant b1', bd2_some]
    unfold m_X0_orderOf_25
    rw [nmv_eq, toL d, li_mul, gd_of E4.2.2.1.isC, y1, bd2_some]
    unfold m_X0_orderOf_34
    rw [gd_of (isC_R y2), z1', bd2_some]
    have y2' := y2.ext z3' y3.wf
    unfold m_X0_orderOf_41
    rw [gd_of (isC_R y2'), X2_determinant y2', bd2_some]
    unfold m_X0_orderOf_48
    rw [abs_li (rg_nat.mpr (by omega)), bd_some, nmv_eq, nmv_eq]
    unfold m_X0_orderOf_56
    have v3'' : m_X0_orderOf_61 f f (cn h6 3 (.inr (1, 3, .inr (.inl (fun _ => 0))))) x (ni k1) a b c h3.1 (li (d.toInt * dtf M1)) h5.1 (li (dtf X).natAbs) h6.1 0 = _ := v3'
    rw [v3'']
    exact o139
  · rw [ord_dvd W1]
    exact ⟨fun h j hj => Int.natAbs_dvd.mpr (h j hj), fun h j hj => Int.natAbs_dvd.mp (h j hj)⟩
