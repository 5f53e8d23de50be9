/-! the component's heap, purely: what lies where; Rows -/
set_option maxRecDepth 100000
section PURE
variable {α β γ : Type}
theorem bd_some (a : α) (k : α → Option β) : bd (some a) k = k a := rfl
theorem bd2_some (a : α) (b : β) (k : α → β → Option γ) : bd2 (some (a, b)) k = k a b := rfl
theorem gd_true (x : Option α) : gd true x = x := rfl
theorem gd_of {b : Bool} (h : b = true) (x : Option α) : gd b x = x := by subst h; rfl
theorem nmv_eq (e : α) (k : α → Option β) : nmv e k = k e := rfl
end PURE
/-! whole numbers of the machine, as small naturals -/
abbrev ni (n : Nat) : Int32 := Int32.ofNat n
theorem ni_toInt {n : Nat} (h : n < 2 ^ 31) : (ni n).toInt = n := Int32.toInt_ofNat_of_lt h
theorem ni_clamp {n : Nat} (h : n < 2 ^ 31) : (ni n).toNatClampNeg = n := Int32.toNatClampNeg_ofNat_of_lt h
theorem ni_le {n k : Nat} (hn : n < 2 ^ 31) (hk : k < 2 ^ 31) : ni n ≤ ni k ↔ n ≤ k := Int32.ofNat_le_ofNat hn hk
theorem ni_lt {n k : Nat} (hn : n < 2 ^ 31) (hk : k < 2 ^ 31) : ni n < ni k ↔ n < k := Int32.ofNat_lt_ofNat hn hk
theorem ni_succ (n : Nat) : ni n + 1 = ni (n + 1) := (Int32.ofNat_add n 1).symm
theorem ni_inj {n k : Nat} (hn : n < 2 ^ 31) (hk : k < 2 ^ 31) : ni n = ni k ↔ n = k := ⟨fun h => by have := congrArg Int32.toNatClampNeg h; rwa [ni_clamp hn, ni_clamp hk] at this, fun h => by rw [h]⟩
theorem ix_ni {i n : Nat} (hi : i < n) (hn : n < 2 ^ 31) : ix (ni i) n = true := by
  have h0 : i < 2 ^ 31 := Nat.lt_trans hi hn
  unfold ix
  rw [ni_clamp h0]
  have : ¬ (ni i < 0) := by
    intro h
    have := (ni_lt (k := 0) h0 (by decide)).mp h
    omega
  simp [this, hi]
/-! cells -/
theorem cm_cs (h : CH) (a : Nat) (e : AC) (b : Nat) : cm (cs h a e) b = if b = a then some e else cm h b := rfl
theorem cm_cn (h : CH) (k : Nat) (e : AC) (b : Nat) : cm (cn h k e) b = if b = h.1 then some e else cm h b := rfl
/-- nothing lies above the heap's end; constants lie below the base -/
def wfh (h : CH) : Prop := (∀ a e, cm h a = some e → h.2.2.1 ≤ a ∧ a < h.1) ∧ h.2.2.1 ≤ h.1
/-- since h, nothing of the old cells has changed but those of S; so many cells and slots more, at most -/
def Mod (S : Nat → Prop) (k n : Nat) (h h' : CH) : Prop := h.1 ≤ h'.1 ∧ h'.1 ≤ h.1 + k ∧ h.2.1 ≤ h'.2.1 ∧ h'.2.1 ≤ h.2.1 + n ∧ h'.2.2.1 = h.2.2.1 ∧ h'.2.2.2.2 = h.2.2.2.2 ∧ (∀ a, a < h.1 → ¬ S a → cm h' a = cm h a) ∧ wfh h'
abbrev Ext (k n : Nat) (h h' : CH) : Prop := Mod (fun _ => False) k n h h'
theorem Mod.rf {S : Nat → Prop} {h : CH} (w : wfh h) : Mod S 0 0 h h := ⟨Nat.le_refl _, Nat.le_refl _, Nat.le_refl _, Nat.le_refl _, rfl, rfl, fun _ _ _ => rfl, w⟩
theorem Mod.tr {S T : Nat → Prop} {k n k' n' : Nat} {h h1 h2 : CH} (a : Mod S k n h h1) (b : Mod T k' n' h1 h2) (hT : ∀ q, q < h.1 → T q → S q) : Mod S (k + k') (n + n') h h2 := by
  obtain ⟨a1, a2, a3, a4, a5, a6, a7, a8⟩ := a
  obtain ⟨b1, b2, b3, b4, b5, b6, b7, b8⟩ := b
  refine ⟨by omega, by omega, by omega, by omega, b5.trans a5, b6.trans a6, fun q hq hs => ?_, b8⟩
  rw [b7 q (by omega) (fun ht => hs (hT q hq ht)), a7 q hq hs]
theorem Mod.mono {S T : Nat → Prop} {k n k' n' : Nat} {h h1 : CH} (a : Mod S k n h h1) (hT : ∀ q, q < h.1 → S q → T q) (hk : k ≤ k') (hn : n ≤ n') : Mod T k' n' h h1 := by
  obtain ⟨a1, a2, a3, a4, a5, a6, a7, a8⟩ := a
  exact ⟨a1, by omega, a3, by omega, a5, a6, fun q hq hs => a7 q hq (fun ht => hs (hT q hq ht)), a8⟩
theorem Mod.at {S : Nat → Prop} {k n : Nat} {h h1 : CH} (a : Mod S k n h h1) (w : wfh h) {q : Nat} {e : AC} (hq : cm h q = some e) (hs : ¬ S q) : cm h1 q = some e := by
  rw [a.2.2.2.2.2.2.1 q (w.1 q e hq).2 hs]; exact hq
theorem Mod.cs {S : Nat → Prop} {h : CH} (w : wfh h) {a : Nat} {e e0 : AC} (h0 : cm h a = some e0) (hs : S a) : Mod S 0 0 h (cs h a e) := by
  refine ⟨Nat.le_refl _, Nat.le_refl _, Nat.le_refl _, Nat.le_refl _, rfl, rfl, fun q hq hn => ?_, fun q e1 hq => ?_, w.2⟩
  · rw [cm_cs, if_neg (fun he => hn (by rw [he]; exact hs))]
  · rw [cm_cs] at hq
    by_cases hqa : q = a
    · subst hqa; exact w.1 q e0 h0
    · rw [if_neg hqa] at hq; exact w.1 q e1 hq
theorem Mod.cn {S : Nat → Prop} {h : CH} (w : wfh h) {n : Nat} {e : AC} : Mod S 1 n h (cn h n e) := by
  refine ⟨Nat.le_succ _, Nat.le_refl _, Nat.le_add_right _ _, Nat.le_refl _, rfl, rfl, fun q hq hn => ?_, fun q e1 hq => ?_, Nat.le_trans w.2 (Nat.le_succ _)⟩
  · rw [cm_cn, if_neg (Nat.ne_of_lt hq)]
  · rw [cm_cn] at hq
    by_cases hqa : q = h.1
    · subst hqa; exact ⟨w.2, Nat.lt_succ_self _⟩
    · rw [if_neg hqa] at hq
      have := w.1 q e1 hq
      exact ⟨this.1, Nat.lt_succ_of_lt this.2⟩
/-! Rows: three rows of three longs -/
abbrev Mx : Type := Nat → Nat → Int64
def rowf (m : Mx) (i : Nat) : Nat → Int64 := fun j => if j < 3 then m i j else 0
def mset (m : Mx) (i j : Nat) (x : Int64) : Mx := fun a b => if a = i ∧ b = j then x else m a b
/-- where one lies: the object, the grid, its rows -/
abbrev RA : Type := Nat × Nat × (Nat → Nat)
def isR (h : CH) (R : RA) (m : Mx) : Prop := cm h R.1 = some (.inl (3, [.ref R.2.1])) ∧ cm h R.2.1 = some (.inr (4, 3, .inr (.inr (fun j => if j < 3 then some (R.2.2 j) else none)))) ∧ (∀ i, i < 3 → cm h (R.2.2 i) = some (.inr (1, 3, .inr (.inl (rowf m i))))) ∧ ∀ i j, i < 3 → j < 3 → R.2.2 i = R.2.2 j → i = j
/-- the addresses that it may write -/
def rS (R : RA) : Nat → Prop := fun q => ∃ i, i < 3 ∧ q = R.2.2 i
theorem isR.congr {h : CH} {R : RA} {m m' : Mx} (hR : isR h R m) (he : ∀ i j, i < 3 → j < 3 → m i j = m' i j) : isR h R m' := by
  refine ⟨hR.1, hR.2.1, fun i hi => ?_, hR.2.2.2⟩
  have e : rowf m i = rowf m' i := by
    funext j
    unfold rowf
    split
    · rename_i hj; exact he i j hi hj
    · rfl
  rw [hR.2.2.1 i hi, e]
theorem isR.mod {S : Nat → Prop} {k n : Nat} {h h1 : CH} {R : RA} {m : Mx} (hR : isR h R m) (a : Mod S k n h h1) (w : wfh h) (n1 : ¬ S R.1) (n2 : ¬ S R.2.1) (n3 : ∀ i, i < 3 → ¬ S (R.2.2 i)) : isR h1 R m :=
  ⟨a.at w hR.1 n1, a.at w hR.2.1 n2, fun i hi => a.at w (hR.2.2.1 i hi) (n3 i hi), hR.2.2.2⟩
theorem isR.ext {k n : Nat} {h h1 : CH} {R : RA} {m : Mx} (hR : isR h R m) (a : Ext k n h h1) (w : wfh h) : isR h1 R m := hR.mod a w id id (fun _ _ => id)
theorem oR_R {h : CH} {R : RA} {m : Mx} (hR : isR h R m) : oR h 3 0 R.1 = some R.2.1 := by
  unfold oR oF; rw [hR.1]; rfl
theorem aR_R {h : CH} {R : RA} {m : Mx} (hR : isR h R m) {i : Nat} (hi : i < 3) : aR h 4 R.2.1 (ni i) = some (R.2.2 i) := by
  unfold aR aQ; rw [hR.2.1]
  simp only [ix_ni hi (by decide), and_self, if_true]
  rw [ni_clamp (by omega), if_pos hi]
theorem aL_R {h : CH} {R : RA} {m : Mx} (hR : isR h R m) {i j : Nat} (hi : i < 3) (hj : j < 3) : aL h 1 (R.2.2 i) (ni j) = some (m i j) := by
  unfold aL; rw [hR.2.2.1 i hi]
  simp only [ix_ni hj (by decide), and_self, if_true]
  rw [ni_clamp (by omega)]; unfold rowf; rw [if_pos hj]
def stR (h : CH) (R : RA) (m : Mx) (i j : Nat) (x : Int64) : CH := cs h (R.2.2 i) (.inr (1, 3, .inr (.inl (rowf (mset m i j x) i))))
theorem uL_R {h : CH} {R : RA} {m : Mx} (hR : isR h R m) (w : wfh h) {i j : Nat} (hi : i < 3) (hj : j < 3) (x : Int64) : uL h 1 (R.2.2 i) (ni j) x = some (stR h R m i j x) := by
  unfold uL; rw [hR.2.2.1 i hi]
  have hb := (w.1 _ _ (hR.2.2.1 i hi)).1
  simp only [ix_ni hj (by decide), hb, and_self, if_true]
  rw [ni_clamp (by omega)]
  have e : vp_updL (rowf m i) j x = rowf (mset m i j x) i := by
    funext k
    unfold vp_updL rowf mset
    by_cases hk : k = j
    · subst hk; simp [hj]
    · simp [hk]
  unfold stR
  rw [e]
theorem stR_is {h : CH} {R : RA} {m : Mx} (hR : isR h R m) (w : wfh h) {i j : Nat} (hi : i < 3) (x : Int64) : isR (stR h R m i j x) R (mset m i j x) := by
  have n1 : R.1 ≠ R.2.2 i := fun e => by have h1 := hR.1; rw [e, hR.2.2.1 i hi] at h1; cases h1
  have n2 : R.2.1 ≠ R.2.2 i := fun e => by have h1 := hR.2.1; rw [e, hR.2.2.1 i hi] at h1; cases h1
  refine ⟨?_, ?_, fun k hk => ?_, hR.2.2.2⟩
  · unfold stR; rw [cm_cs, if_neg n1]; exact hR.1
  · unfold stR; rw [cm_cs, if_neg n2]; exact hR.2.1
  · unfold stR; rw [cm_cs]
    by_cases hki : k = i
    · subst hki; rw [if_pos rfl]
    · have e : rowf m k = rowf (mset m i j x) k := by
        funext b
        unfold rowf mset
        simp [hki]
      rw [if_neg (fun e => hki (hR.2.2.2 k i hk hi e)), hR.2.2.1 k hk, e]
theorem stR_mod {h : CH} {R : RA} {m : Mx} (hR : isR h R m) (w : wfh h) {i j : Nat} (hi : i < 3) (x : Int64) : Mod (rS R) 0 0 h (stR h R m i j x) := Mod.cs w (hR.2.2.1 i hi) ⟨i, hi, rfl⟩
/-- a new one -/
def nwR (h : CH) : RA := (h.1, h.1 + 1, fun j => h.1 + 1 + 1 + j)
theorem X2_new {f : Nat} {h : CH} (w : wfh h) : ∃ h', m_X2_init f (cn h 1 (.inl (3, [.null]))) h.1 = some h' ∧ isR h' (nwR h) (fun _ _ => 0) ∧ Ext 5 13 h h' ∧ h'.1 = h.1 + 5 := by
  have z : ∀ i, (rowf (fun _ _ => (0 : Int64)) i) = fun _ => 0 := by intro i; funext j; unfold rowf; split <;> rfl
  unfold m_X2_init m_X2_init_11
  simp only [nmv_eq]
  have h0 : cm (cM (cn h 1 (.inl (3, [.null]))) 4 (.inr (1, 3, .inr (.inl (fun _ => 0))))) h.1 = some (.inl (3, [.null])) := by
    unfold cM
    simp only [cm_cn]
    rw [if_neg (by show h.1 ≠ h.1 + 1 + 1 + 1 + 1; omega), if_neg (by show h.1 ≠ h.1 + 1 + 1 + 1; omega), if_neg (by show h.1 ≠ h.1 + 1 + 1; omega), if_neg (by show h.1 ≠ h.1 + 1; omega)]
    exact if_pos trivial
  have hb : (cM (cn h 1 (.inl (3, [.null]))) 4 (.inr (1, 3, .inr (.inl (fun _ => 0))))).2.2.1 = h.2.2.1 := rfl
  have w1 : Ext 5 13 h (cM (cn h 1 (.inl (3, [.null]))) 4 (.inr (1, 3, .inr (.inl (fun _ => 0))))) := by
    have a1 : Ext 1 1 h (cn h 1 (.inl (3, [.null]))) := Mod.cn w
    unfold cM
    have a2 := Mod.cn (S := fun _ => False) (n := 3) (e := .inr (4, 3, .inr (.inr (fun j => if j < 3 then some ((cn h 1 (.inl (3, [.null]))).1 + 1 + j) else none)))) a1.2.2.2.2.2.2.2
    have a3 := Mod.cn (S := fun _ => False) (n := 3) (e := .inr (1, 3, .inr (.inl (fun _ => 0)))) a2.2.2.2.2.2.2.2
    have a4 := Mod.cn (S := fun _ => False) (n := 3) (e := .inr (1, 3, .inr (.inl (fun _ => 0)))) a3.2.2.2.2.2.2.2
    have a5 := Mod.cn (S := fun _ => False) (n := 3) (e := .inr (1, 3, .inr (.inl (fun _ => 0)))) a4.2.2.2.2.2.2.2
    exact (a1.tr (a2.tr (a3.tr (a4.tr a5 (fun _ _ => id)) (fun _ _ => id)) (fun _ _ => id)) (fun _ _ => id)).mono (fun _ _ => id) (by omega) (by omega)
  have hp : pF (cM (cn h 1 (.inl (3, [.null]))) 4 (.inr (1, 3, .inr (.inl (fun _ => 0))))) 3 0 h.1 (.ref (cn h 1 (.inl (3, [.null]))).1) = some (cs (cM (cn h 1 (.inl (3, [.null]))) 4 (.inr (1, 3, .inr (.inl (fun _ => 0))))) h.1 (.inl (3, [.ref (h.1 + 1)]))) := by
    unfold pF
    rw [h0]
    simp only [hb, w.2, List.length_singleton, true_and, List.set_cons_zero]
    rfl
  rw [hp, bd_some]
  refine ⟨_, rfl, ⟨?_, ?_, fun i hi => ?_, fun i j hi hj e => ?_⟩, ?_, rfl⟩
  · rw [cm_cs]; exact if_pos rfl
  · rw [cm_cs, if_neg (by show h.1 + 1 ≠ h.1; omega)]
    unfold cM
    simp only [cm_cn]
    rw [if_neg (by show h.1 + 1 ≠ h.1 + 1 + 1 + 1 + 1; omega), if_neg (by show h.1 + 1 ≠ h.1 + 1 + 1 + 1; omega), if_neg (by show h.1 + 1 ≠ h.1 + 1 + 1; omega)]
    exact if_pos rfl
  · rw [cm_cs, if_neg (by show h.1 + 1 + 1 + i ≠ h.1; omega), z]
    unfold cM
    simp only [cm_cn]
    rcases (show i = 0 ∨ i = 1 ∨ i = 2 by omega) with rfl | rfl | rfl
    · rw [if_neg (by show h.1 + 1 + 1 + 0 ≠ h.1 + 1 + 1 + 1 + 1; omega), if_neg (by show h.1 + 1 + 1 + 0 ≠ h.1 + 1 + 1 + 1; omega)]
      exact if_pos rfl
    · rw [if_neg (by show h.1 + 1 + 1 + 1 ≠ h.1 + 1 + 1 + 1 + 1; omega)]
      exact if_pos rfl
    · exact if_pos rfl
  · have e' : h.1 + 1 + 1 + i = h.1 + 1 + 1 + j := e
    omega
  · exact (w1.tr (Mod.cs (S := fun q => q = h.1) w1.2.2.2.2.2.2.2 h0 rfl) (fun q hq e => by have e' : q = h.1 := e; omega))
