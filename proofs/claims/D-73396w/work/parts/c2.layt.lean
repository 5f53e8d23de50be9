/-! the component: a turn laid -/
set_option maxRecDepth 100000
def isT (h : CH) (TA : Nat) (t : Nat → Nat) (g : Nat → Nat → Int32) : Prop := cm h TA = some (.inr (5, 3, .inr (.inr (fun j => if j < 3 then some (t j) else none)))) ∧ (∀ i, i < 3 → ∃ r, cm h (t i) = some (.inr (0, 3, .inl r)) ∧ ∀ j, j < 3 → r j = g i j) ∧ ∀ i j, i < 3 → j < 3 → t i = t j → i = j
def tRow (t : Nat → Nat) : Nat → Prop := fun q => ∃ i, i < 3 ∧ q = t i
theorem aR_T {h : CH} {TA : Nat} {t : Nat → Nat} {g : Nat → Nat → Int32} (H : isT h TA t g) {i : Nat} (hi : i < 3) : aR h 5 TA (ni i) = some (t i) := by
  unfold aR aQ; rw [H.1]
  simp only [ix_ni hi (by decide), and_self, if_true]
  rw [ni_clamp (by omega), if_pos hi]
theorem T_put {h : CH} (w : wfh h) {x TA : Nat} {fs : List Value} (cx : cm h x = some (.inl (1, fs))) (fx : fs[8]? = some (.ref TA)) {t : Nat → Nat} {g : Nat → Nat → Int32} (H : isT h TA t g) {i j : Nat} (hi : i < 3) (hj : j < 3) (v : Int32) {γ : Type} : ∃ h', (∀ K : CH → Option γ, (bd (oR h 1 8 x) fun a1 => bd (aR h 5 a1 (ni i)) fun a2 => bd (uI h 0 a2 (ni j) v) K) = K h') ∧ isT h' TA t (fun a b => if a = i ∧ b = j then v else g a b) ∧ Mod (tRow t) 0 0 h h' ∧ cm h' x = some (.inl (1, fs)) := by
  obtain ⟨r, r1, r2⟩ := H.2.1 i hi
  have m1 : Mod (tRow t) 0 0 h _ := Mod.cs w r1 (e := .inr (0, 3, .inl (fun k => if k = j then v else r k))) ⟨i, hi, rfl⟩
  refine ⟨_, fun K => ?_, ⟨?_, fun a ha => ?_, H.2.2⟩, m1, ?_⟩
  · rw [oR_c (k := 8) (x := TA) cx fx, bd_some, aR_T H hi, bd_some, uI_a w r1 hj v, bd_some]
  · rw [cm_cs_o _ (fun e => by have h1 := H.1; rw [e, r1] at h1; cases h1)]; exact H.1
  · by_cases e : a = i
    · subst e
      refine ⟨_, cm_cs_s _ _ _, fun b hb => ?_⟩
      by_cases eb : b = j
      · subst eb; simp
      · simp [eb]; exact r2 b hb
    · obtain ⟨r', s1, s2⟩ := H.2.1 a ha
      refine ⟨r', by rw [cm_cs_o _ (fun e9 => e (H.2.2 a i ha hi e9))]; exact s1, fun b hb => ?_⟩
      show r' b = if a = i ∧ b = j then v else g a b
      rw [if_neg (fun h => e h.1)]; exact s2 b hb
  · rw [cm_cs_o _ (fun e => by have h1 := cx; rw [e, r1] at h1; cases h1)]; exact cx
theorem i32_byM {w x y z : Nat} (hw : w < 4) (hx : x < 4) (hy : y < 4) (hz : z < 4) : ∀ e : Int, e.natAbs ≤ 1000 → Int32.toInt64 (Int32.ofInt e) = li e := fun e he => by rw [toL, Int32.toInt_ofInt_of_le (by omega) (by omega)]
/-- the turn's entries -/
def gT (q : Nat → Int) : Nat → Nat → Int32 := fun i j => Int32.ofInt (byM q i j)
theorem ni_of (k : Nat) : ni k = Int32.ofInt (k : Int) := rfl
theorem X0_laysTurn {f : Nat} {h : CH} (w : wfh h) {x TA : Nat} {fs : List Value} (cx : cm h x = some (.inl (1, fs))) (fx : fs[8]? = some (.ref TA)) {t : Nat → Nat} {g : Nat → Nat → Int32} (H : isT h TA t g) {c : Nat} (hc : c < 256) : ∃ h', m_X0_laysTurn f h x (ni (c / 64)) (ni (c / 16 % 4)) (ni (c / 4 % 4)) (ni (c % 4)) = some (Int32.ofInt (ovQ (qc c)), h') ∧ isT h' TA t (gT (qc c)) ∧ Mod (tRow t) 0 0 h h' ∧ cm h' x = some (.inl (1, fs)) := by
  unfold m_X0_laysTurn
  have q0 : ni (c / 64) = Int32.ofInt (qc c 0) := rfl
  have q1 : ni (c / 16 % 4) = Int32.ofInt (qc c 1) := rfl
  have q2 : ni (c / 4 % 4) = Int32.ofInt (qc c 2) := rfl
  have q3 : ni (c % 4) = Int32.ofInt (qc c 3) := rfl
  rw [q0, q1, q2, q3]
  generalize qc c = q
  have e2 : (2 : Int32) = Int32.ofInt 2 := rfl
  rw [e2]
  simp only [← Int32.ofInt_mul, ← Int32.ofInt_add, ← Int32.ofInt_sub]
  obtain ⟨h1, a1, b1, c1, d1⟩ := T_put (γ := Int32 × CH) w cx fx H (i := 0) (j := 0) (by decide) (by decide) (Int32.ofInt (q 0 * q 0 + q 1 * q 1 - q 2 * q 2 - q 3 * q 3))
  rw [show (0 : Int32) = ni 0 from rfl, show (1 : Int32) = ni 1 from rfl, a1]
  obtain ⟨h2, a2, b2, c2, d2⟩ := T_put (γ := Int32 × CH) c1.wf d1 fx b1 (i := 0) (j := 1) (by decide) (by decide) (Int32.ofInt (2 * (q 1 * q 2 - q 0 * q 3)))
  rw [a2]
  obtain ⟨h3, a3, b3, c3', d3⟩ := T_put (γ := Int32 × CH) c2.wf d2 fx b2 (i := 0) (j := 2) (by decide) (by decide) (Int32.ofInt (2 * (q 1 * q 3 + q 0 * q 2)))
  rw [show Int32.ofInt 2 = ni 2 from rfl, a3]
  obtain ⟨h4, a4, b4, c4, d4⟩ := T_put (γ := Int32 × CH) c3'.wf d3 fx b3 (i := 1) (j := 0) (by decide) (by decide) (Int32.ofInt (2 * (q 1 * q 2 + q 0 * q 3)))
  rw [a4]
  obtain ⟨h5, a5, b5, c5, d5⟩ := T_put (γ := Int32 × CH) c4.wf d4 fx b4 (i := 1) (j := 1) (by decide) (by decide) (Int32.ofInt (q 0 * q 0 - q 1 * q 1 + q 2 * q 2 - q 3 * q 3))
  rw [a5]
  obtain ⟨h6, a6, b6, c6, d6⟩ := T_put (γ := Int32 × CH) c5.wf d5 fx b5 (i := 1) (j := 2) (by decide) (by decide) (Int32.ofInt (2 * (q 2 * q 3 - q 0 * q 1)))
  rw [a6]
  obtain ⟨h7, a7, b7, c7, d7⟩ := T_put (γ := Int32 × CH) c6.wf d6 fx b6 (i := 2) (j := 0) (by decide) (by decide) (Int32.ofInt (2 * (q 1 * q 3 - q 0 * q 2)))
  rw [a7]
  obtain ⟨h8, a8, b8, c8, d8⟩ := T_put (γ := Int32 × CH) c7.wf d7 fx b7 (i := 2) (j := 1) (by decide) (by decide) (Int32.ofInt (2 * (q 2 * q 3 + q 0 * q 1)))
  rw [a8]
  obtain ⟨h9, a9, b9, c9, d9⟩ := T_put (γ := Int32 × CH) c8.wf d8 fx b8 (i := 2) (j := 2) (by decide) (by decide) (Int32.ofInt (q 0 * q 0 - q 1 * q 1 - q 2 * q 2 + q 3 * q 3))
  rw [a9]
  have mm := ((((((((c1.tr c2 (fun _ _ => id)).tr c3' (fun _ _ => id)).tr c4 (fun _ _ => id)).tr c5 (fun _ _ => id)).tr c6 (fun _ _ => id)).tr c7 (fun _ _ => id)).tr c8 (fun _ _ => id)).tr c9 (fun _ _ => id))
  refine ⟨h9, rfl, ⟨b9.1, fun i hi => ?_, b9.2.2⟩, mm, d9⟩
  obtain ⟨r, r1, r2⟩ := b9.2.1 i hi
  refine ⟨r, r1, fun j hj => ?_⟩
  rw [r2 j hj]
  rcases c3 hi with rfl | rfl | rfl <;> rcases c3 hj with rfl | rfl | rfl <;> rfl
