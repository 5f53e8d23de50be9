/-! cosets: the twin's places laid -/
set_option maxRecDepth 100000
theorem Tw.md {S : Nat → Prop} {k n : Nat} {h h1 : CH} {y : Nat} {ad : Nat → Nat} {u : TS} (H : Tw h y ad u) (m : Mod S k n h h1) (w : wfh h) (hS : ∀ q, q ∈ adl ad → ¬ S q) : Tw h1 y ad u := by
  refine ⟨H.1, fun q hq => ⟨m.at w (H.2.1 q hq).1 (hS q.1 ?_), ?_⟩, H.2.2⟩
  · rw [← twl_adl ad u]; exact List.mem_map.mpr ⟨q, hq, rfl⟩
  · rw [m.2.2.2.2.1]; exact (H.2.1 q hq).2
/-- one place is computed and stored -/
theorem X3_place {f : Nat} (hf : 4 ≤ f) {h : CH} (w : wfh h) {y : Nat} {ad : Nat → Nat} {u : TS} (H : Tw h y ad u) {V : Nat} (hVa : V ∉ adl ad) {v : Nat → Int} (hV : cm h V = some (vcl v)) {M : Mi} {n : Int} (hR : tR 18 u M) (ho : tL u 19 = li n) {p : Nat → Int} {d : Int} {i : Nat} (hi : i < 3) {si : Int} (hs : hvs M n p i = d * dtf M * si) (g1 : rg (hvs M n p i)) (g2 : rg (d * dtf M)) (hz : d * dtf M ≠ 0) {γ : Type} (K : CH → Option γ) : ∃ h' ad' u', bd2 (tcr h y (fun z => m_X3_timesOf f z (ni i) (li (p 0)) (li (p 1)) (li (p 2)) (li d))) (fun r2 h1 => bd (uL h1 1 V (ni i) r2) K) = K h' ∧ wfh h' ∧ Tw h' y ad' u' ∧ agr u' u ∧ adl ad' = adl ad ∧ cm h' V = some (vcl (vst v i si)) ∧ Mod (fun q => q ∈ adl ad ∨ q = V) 0 0 h h' := by
  have A := H.agr
  have e : m_X3_timesOf f (rdU h y) (ni i) (li (p 0)) (li (p 1)) (li (p 2)) (li d) = some (li si, rdU h y) := X3_timesOf hf (A.tR (by decide) hR) (by rw [A.L (by decide)]; exact ho) hi hs g1 g2 hz
  obtain ⟨h1, t1, t2, t3⟩ := H.tcr w (mf := fun z => m_X3_timesOf f z (ni i) (li (p 0)) (li (p 1)) (li (p 2)) (li d)) e
  have V1 := t3.at w hV hVa
  have m1 : Mod (· = V) 0 0 h1 (cs h1 V (vcl (vst v i si))) := Mod.cs t3.wf V1 rfl
  refine ⟨_, rdA h y, rdU h y, ?_, m1.wf, t2.md m1 t3.wf (fun q hq e9 => hVa (by rw [H.adr] at hq; have e' : q = V := e9; rw [← e']; exact hq)), A, H.adr, cm_cs_s _ _ _, (t3.mono (fun _ _ hh => .inl hh) (Nat.le_refl _) (Nat.le_refl _)).tr (m1.mono (fun _ _ hh => .inr hh) (Nat.le_refl _) (Nat.le_refl _)) (fun _ _ => id)⟩
  rw [t1, bd2_some, uL_V t3.wf V1 hi, bd_some]
theorem agr.tr {u v w : TS} (a : agr u v) (b : agr v w) : agr u w := Eq.trans a b
theorem X3_c42 {f : Nat} (hf : 4 ≤ f) {h : CH} (w : wfh h) {y : Nat} {ad : Nat → Nat} {u : TS} (H : Tw h y ad u) {V : Nat} (hVa : V ∉ adl ad) {v : Nat → Int} (hV : cm h V = some (vcl v)) {M F : Mi} {n : Int} (hR : tR 18 u M) (ho : tL u 19 = li n) (hW : tR 32 u F) {a b c d : Int32} {s : Nat → Int} (hs : ∀ j, j < 3 → hvs M n (p3 a.toInt b.toInt c.toInt) j = d.toInt * dtf M * s j) (g1 : ∀ j, j < 3 → rg (hvs M n (p3 a.toInt b.toInt c.toInt) j)) (g2 : rg (d.toInt * dtf M)) (hz : d.toInt * dtf M ≠ 0) (hF : ∀ i j, i < 3 → j < 3 → (F i j).natAbs ≤ 2160) (hp : ∀ c, c < 3 → 0 < F c c) (s6 : ∀ j, j < 3 → (s j).natAbs ≤ 168000000000) : ∃ h' ad' u', m_X3_coset_42 f h y a b c d V = some (li (crn F s 3).2, h') ∧ wfh h' ∧ Tw h' y ad' u' ∧ agr u' u ∧ adl ad' = adl ad ∧ Mod (fun q => q ∈ adl ad ∨ q = V) 0 0 h h' := by
  unfold m_X3_coset_42
  obtain ⟨l1, l2, l3⟩ := toL3 a b c
  rw [l1, l2, l3, toL d]
  obtain ⟨h1, a1, u1, e1, w1, t1, r1, x1, v1, m1⟩ := X3_place hf w H hVa hV hR ho (p := p3 a.toInt b.toInt c.toInt) (d := d.toInt) (i := 0) (by decide) (hs 0 (by decide)) (g1 0 (by decide)) g2 hz (fun h3 => bd2 (tcr h3 y (fun z => m_X3_timesOf f z (1 : Int32) (li (p3 a.toInt b.toInt c.toInt 0)) (li (p3 a.toInt b.toInt c.toInt 1)) (li (p3 a.toInt b.toInt c.toInt 2)) (li d.toInt))) fun r5 h4 => bd (uL h4 1 V (1 : Int32) r5) fun h6 => bd2 (tcr h6 y (fun z => m_X3_timesOf f z (2 : Int32) (li (p3 a.toInt b.toInt c.toInt 0)) (li (p3 a.toInt b.toInt c.toInt 1)) (li (p3 a.toInt b.toInt c.toInt 2)) (li d.toInt))) fun r8 h7 => bd (uL h7 1 V (2 : Int32) r8) fun h9 => m_X3_coset_107 f f h9 y V (0 : Int64) (0 : Int32))
  rw [show (0 : Int32) = ni 0 from rfl] at e1 ⊢
  rw [e1]
  obtain ⟨h2, a2, u2, e2, w2, t2, r2, x2, v2, m2⟩ := X3_place hf w1 t1 (by rw [x1]; exact hVa) v1 (r1.tR (by decide) hR) (by rw [r1.L (by decide)]; exact ho) (p := p3 a.toInt b.toInt c.toInt) (d := d.toInt) (i := 1) (by decide) (hs 1 (by decide)) (g1 1 (by decide)) g2 hz (fun h6 => bd2 (tcr h6 y (fun z => m_X3_timesOf f z (2 : Int32) (li (p3 a.toInt b.toInt c.toInt 0)) (li (p3 a.toInt b.toInt c.toInt 1)) (li (p3 a.toInt b.toInt c.toInt 2)) (li d.toInt))) fun r8 h7 => bd (uL h7 1 V (2 : Int32) r8) fun h9 => m_X3_coset_107 f f h9 y V (0 : Int64) (ni 0))
  have r12 := r2.tr r1
  obtain ⟨h3, a3, u3, e3, w3, t3, r3, x3, v3', m3'⟩ := X3_place hf w2 t2 (by rw [x2, x1]; exact hVa) v2 (r12.tR (by decide) hR) (by rw [r12.L (by decide)]; exact ho) (p := p3 a.toInt b.toInt c.toInt) (d := d.toInt) (i := 2) (by decide) (hs 2 (by decide)) (g1 2 (by decide)) g2 hz (fun h9 => m_X3_coset_107 f f h9 y V (0 : Int64) (ni 0))
  have r13 := r3.tr r12
  have e2' := e2.trans e3
  have xx : adl a3 = adl ad := by rw [x3, x2, x1]
  have W3 : isW h3 y (a3 32) F := by
    refine ⟨⟨twF a3 u3, t3.obj, rfl⟩, tB u3 32, (t3.2.1 (a3 32, .inr (1, 9, .inr (.inl (tB u3 32)))) (by unfold twl; simp)).1, fun i j hi hj => (r13.tR (by decide) hW) i j hi hj⟩
  have V3c : cm h3 V = some (vcl s) := by
    rw [v3']
    refine congrArg some (vcl_congr (fun i hi => ?_))
    rcases c3 hi with rfl | rfl | rfl <;> rfl
  obtain ⟨h4, q1, q2⟩ := X3_c107 (f := f) hf hF hp s6 w3 W3 V3c
  refine ⟨h4, a3, u3, ?_, q2.wf, t3.md q2 w3 (fun q hq e9 => hVa (by have e' : q = V := e9; rw [← e', ← xx]; exact hq)), r13, xx, ?_⟩
  · exact e2'.trans q1
  · rw [x1] at m2
    rw [x2, x1] at m3'
    exact ((m1.tr m2 (fun _ _ => id)).tr m3' (fun _ _ => id)).tr (q2.mono (T := fun q => q ∈ adl ad ∨ q = V) (fun _ _ hh => .inr hh) (Nat.le_refl _) (Nat.le_refl _)) (fun _ _ => id)
