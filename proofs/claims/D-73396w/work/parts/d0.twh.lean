/-! the twin in the component's heap -/
set_option maxRecDepth 100000
/-- the twin at y, its arrays at ad, its state u -/
def Tw (h : CH) (y : Nat) (ad : Nat → Nat) (u : TS) : Prop := ad 40 = y ∧ (∀ q ∈ twl ad u, cm h q.1 = some q.2 ∧ h.2.2.1 ≤ q.1) ∧ (adl ad).Nodup
theorem Tw.obj {h : CH} {y : Nat} {ad : Nat → Nat} {u : TS} (H : Tw h y ad u) : cm h y = some (.inl (0, twF ad u)) := by
  have := (H.2.1 (ad 40, .inl (0, twF ad u)) (by unfold twl; simp)).1
  rw [H.1] at this
  exact this
theorem Tw.rdF {h : CH} {y : Nat} {ad : Nat → Nat} {u : TS} (H : Tw h y ad u) : rdF h y = twF ad u := by
  unfold Jvm.Pilot.CCoincideBenchLaw_law_r8029_ca2b77.rdF
  rw [H.obj]
theorem Tw.lst {h : CH} {y : Nat} {ad : Nat → Nat} {u : TS} (H : Tw h y ad u) : twl (rdA h y) (rdU h y) = twl ad u := by
  have e40 : rdA h y 40 = ad 40 := by unfold rdA; rw [if_pos rfl, H.1]
  have ef := H.rdF
  have ra : ∀ k, k < 40 → ∀ a, (twF ad u)[k]? = some (.ref a) → rdA h y k = a := fun k hk a ha => by
    unfold rdA; rw [if_neg (by omega), ef, ha]
  have a0 := ra 0 (by decide) (ad 0) rfl
  have a1 := ra 1 (by decide) (ad 1) rfl
  have a2 := ra 2 (by decide) (ad 2) rfl
  have a3 := ra 3 (by decide) (ad 3) rfl
  have a16 := ra 16 (by decide) (ad 16) rfl
  have a17 := ra 17 (by decide) (ad 17) rfl
  have a18 := ra 18 (by decide) (ad 18) rfl
  have a20 := ra 20 (by decide) (ad 20) rfl
  have a21 := ra 21 (by decide) (ad 21) rfl
  have a22 := ra 22 (by decide) (ad 22) rfl
  have a23 := ra 23 (by decide) (ad 23) rfl
  have a24 := ra 24 (by decide) (ad 24) rfl
  have a26 := ra 26 (by decide) (ad 26) rfl
  have a27 := ra 27 (by decide) (ad 27) rfl
  have a29 := ra 29 (by decide) (ad 29) rfl
  have a32 := ra 32 (by decide) (ad 32) rfl
  have a33 := ra 33 (by decide) (ad 33) rfl
  have a34 := ra 34 (by decide) (ad 34) rfl
  have a36 := ra 36 (by decide) (ad 36) rfl
  have a37 := ra 37 (by decide) (ad 37) rfl
  have a38 := ra 38 (by decide) (ad 38) rfl
  have a39 := ra 39 (by decide) (ad 39) rfl
  have ri : ∀ k v, (twF ad u)[k]? = some (.int v) → tI (rdU h y) k = v := fun k v hv => by
    show rdI h y k = v
    unfold rdI; rw [ef, hv]
  have rl : ∀ k v, (twF ad u)[k]? = some (.long v) → tL (rdU h y) k = v := fun k v hv => by
    show rdL h y k = v
    unfold rdL; rw [ef, hv]
  have rp : ∀ k n, (ad k, (.inr (0, n, .inl (tA u k)) : AC)) ∈ twl ad u → rdA h y k = ad k → tA (rdU h y) k = tA u k := fun k n hm ha => by
    show rdP h (rdA h y k) = tA u k
    unfold rdP; rw [ha, (H.2.1 _ hm).1]
  have rq : ∀ k n, (ad k, (.inr (1, n, .inr (.inl (tB u k))) : AC)) ∈ twl ad u → rdA h y k = ad k → tB (rdU h y) k = tB u k := fun k n hm ha => by
    show rdQ h (rdA h y k) = tB u k
    unfold rdQ; rw [ha, (H.2.1 _ hm).1]
  have i4 := ri 4 _ rfl; have i5 := ri 5 _ rfl; have i6 := ri 6 _ rfl; have i7 := ri 7 _ rfl; have i8 := ri 8 _ rfl; have i9 := ri 9 _ rfl; have i10 := ri 10 _ rfl; have i11 := ri 11 _ rfl; have i12 := ri 12 _ rfl; have i13 := ri 13 _ rfl; have i14 := ri 14 _ rfl; have i15 := ri 15 _ rfl; have i25 := ri 25 _ rfl; have i35 := ri 35 _ rfl
  have l19 := rl 19 _ rfl; have l28 := rl 28 _ rfl; have l30 := rl 30 _ rfl; have l31 := rl 31 _ rfl
  have p0 := rp 0 73 (by unfold twl; simp) a0
  have p1 := rp 1 73 (by unfold twl; simp) a1
  have p2 := rp 2 900 (by unfold twl; simp) a2
  have p3' := rp 3 500 (by unfold twl; simp) a3
  have p16 := rp 16 5 (by unfold twl; simp) a16
  have p17 := rp 17 5 (by unfold twl; simp) a17
  have p21 := rp 21 400 (by unfold twl; simp) a21
  have p22 := rp 22 400 (by unfold twl; simp) a22
  have p23 := rp 23 400 (by unfold twl; simp) a23
  have q18 := rq 18 9 (by unfold twl; simp) a18
  have q20 := rq 20 9 (by unfold twl; simp) a20
  have q24 := rq 24 400 (by unfold twl; simp) a24
  have q26 := rq 26 3 (by unfold twl; simp) a26
  have q27 := rq 27 9 (by unfold twl; simp) a27
  have q29 := rq 29 9 (by unfold twl; simp) a29
  have q32 := rq 32 9 (by unfold twl; simp) a32
  have q33 := rq 33 16 (by unfold twl; simp) a33
  have q34 := rq 34 18 (by unfold twl; simp) a34
  have q36 := rq 36 3 (by unfold twl; simp) a36
  have q37 := rq 37 3 (by unfold twl; simp) a37
  have q38 := rq 38 3 (by unfold twl; simp) a38
  have q39 := rq 39 3 (by unfold twl; simp) a39
  unfold twl twF
  rw [e40, a0, a1, a2, a3, a16, a17, a18, a20, a21, a22, a23, a24, a26, a27, a29, a32, a33, a34, a36, a37, a38, a39, i4, i5, i6, i7, i8, i9, i10, i11, i12, i13, i14, i15, i25, i35, l19, l28, l30, l31, p0, p1, p2, p3', p16, p17, p21, p22, p23, q18, q20, q24, q26, q27, q29, q32, q33, q34, q36, q37, q38, q39]
theorem Tw.adr {h : CH} {y : Nat} {ad : Nat → Nat} {u : TS} (H : Tw h y ad u) : adl (rdA h y) = adl ad := by
  rw [← twl_adl (rdA h y) (rdU h y), ← twl_adl ad u, H.lst]
theorem Tw.ok {h : CH} {y : Nat} {ad : Nat → Nat} {u : TS} (H : Tw h y ad u) : TwOk h y := by
  unfold TwOk
  rw [H.lst, H.adr]
  exact H.2
/-- the parts that are read off are the state's -/
def agr (u v : TS) : Prop := twl (fun k => k) u = twl (fun k => k) v
theorem twl_ad {ad : Nat → Nat} {u v : TS} (h : twl ad u = twl ad v) : agr u v := by
  unfold agr
  unfold twl twF at h ⊢
  simp only [List.cons.injEq, Prod.mk.injEq, Sum.inl.injEq, Sum.inr.injEq, Value.int.injEq, Value.long.injEq, true_and, and_true] at h ⊢
  exact h
theorem Tw.wr {h : CH} {y : Nat} {ad : Nat → Nat} {u : TS} (H : Tw h y ad u) (w : wfh h) (u9 : TS) : Tw (wrT h (rdA h y) u9) y (rdA h y) u9 ∧ Mod (· ∈ adl ad) 0 0 h (wrT h (rdA h y) u9) := by
  obtain ⟨z1', z2', z3', z4'⟩ := wrL_sz (twl (rdA h y) u9) h
  have nd : ((twl (rdA h y) u9).map (·.1)).Nodup := by rw [twl_adl, H.adr]; exact H.2.2
  have bs : ∀ q, q ∈ adl ad → h.2.2.1 ≤ q ∧ q < h.1 := fun q hq => by
    rw [← twl_adl ad u] at hq
    obtain ⟨z, hz, rfl⟩ := List.mem_map.mp hq
    exact w.1 _ _ (H.2.1 z hz).1
  have out : ∀ b, b ∉ adl ad → cm (wrT h (rdA h y) u9) b = cm h b := fun b hb => wrL_out _ b h (by rw [twl_adl, H.adr]; exact hb)
  have inn : ∀ q, q ∈ twl (rdA h y) u9 → cm (wrT h (rdA h y) u9) q.1 = some q.2 := fun q hq => wrL_in _ q.1 q.2 h nd hq
  have mem : ∀ q, q ∈ twl (rdA h y) u9 → q.1 ∈ adl ad := fun q hq => by
    rw [← H.adr, ← twl_adl (rdA h y) u9]; exact List.mem_map.mpr ⟨q, hq, rfl⟩
  refine ⟨⟨by unfold rdA; rw [if_pos rfl], fun q hq => ⟨inn q hq, ?_⟩, by rw [H.adr]; exact H.2.2⟩, Nat.le_of_eq z1'.symm, Nat.le_of_eq z1', Nat.le_of_eq z2'.symm, Nat.le_of_eq z2', z3', z4', fun b hb hn => out b hn, fun b e hb => ?_, ?_⟩
  · show (wrL h (twl (rdA h y) u9)).2.2.1 ≤ q.1
    rw [z3']; exact (bs q.1 (mem q hq)).1
  · show (wrL h (twl (rdA h y) u9)).2.2.1 ≤ b ∧ b < (wrL h (twl (rdA h y) u9)).1
    rw [z3', z1']
    by_cases hm : b ∈ adl ad
    · exact bs b hm
    · rw [out b hm] at hb; exact w.1 b e hb
  · show (wrL h (twl (rdA h y) u9)).2.2.1 ≤ (wrL h (twl (rdA h y) u9)).1
    rw [z3', z1']; exact w.2
theorem Tw.tcr {α : Type} {h : CH} {y : Nat} {ad : Nat → Nat} {u : TS} (H : Tw h y ad u) (w : wfh h) {mf : TS → Option (α × TS)} {r : α} {u9 : TS} (e : mf (rdU h y) = some (r, u9)) : ∃ h', tcr h y mf = some (r, h') ∧ Tw h' y (rdA h y) u9 ∧ Mod (· ∈ adl ad) 0 0 h h' := by
  obtain ⟨t1, t2⟩ := H.wr w u9
  refine ⟨_, ?_, t1, t2⟩
  unfold Jvm.Pilot.CCoincideBenchLaw_law_r8029_ca2b77.tcr
  rw [if_pos H.ok, e, bd2_some]
theorem Tw.tcv {h : CH} {y : Nat} {ad : Nat → Nat} {u : TS} (H : Tw h y ad u) (w : wfh h) {mf : TS → Option TS} {u9 : TS} (e : mf (rdU h y) = some u9) : ∃ h', tcv h y mf = some h' ∧ Tw h' y (rdA h y) u9 ∧ Mod (· ∈ adl ad) 0 0 h h' := by
  obtain ⟨t1, t2⟩ := H.wr w u9
  refine ⟨_, ?_, t1, t2⟩
  unfold Jvm.Pilot.CCoincideBenchLaw_law_r8029_ca2b77.tcv
  rw [if_pos H.ok, e, bd_some]
