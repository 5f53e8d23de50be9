/-! a String is built -/
set_option maxRecDepth 100000
def isB (h : CH) (a V c : Nat) (bs : List Nat) : Prop := (∃ k2, cm h a = some (.inl (18, [.ref V, .int 0, k2, .int (ni bs.length)]))) ∧ (∃ g, cm h V = some (.inr (2, c, .inl g)) ∧ (∀ i, i < bs.length → g i = ni (bs.getD i 0)) ∧ ∀ i, i < c → bb (g i) = true) ∧ bs.length ≤ c ∧ c ≤ 1200 ∧ ∀ b, b ∈ bs → b < 128
def bS (a V : Nat) : Nat → Prop := fun q => q = a ∨ q = V
theorem cnt_ok {n : Nat} (h : n ≤ 1000000) : cntok (ni n) = true := by
  unfold cntok
  rw [ni_clamp (by omega), decide_eq_true (show n ≤ 1000000 from h), decide_eq_true (show ¬ ni n < 0 from fun hh => by
    have := (ni_lt (k := 0) (by omega) (by decide)).mp hh; omega)]
  rfl
theorem shl0 (x : Int32) : x <<< ((0 : Int32) &&& 31) = x := by
  rw [show ((0 : Int32) &&& 31) = 0 from rfl]; exact Int32.shiftLeft_zero
theorem shr0 (x : Int32) : x >>> ((0 : Int32) &&& 31) = x := by
  rw [show ((0 : Int32) &&& 31) = 0 from rfl]; exact Int32.shiftRight_zero
theorem J5_new {f : Nat} {h : CH} (w : wfh h) : ∃ h', m_J5_init f (cn h 4 (.inl (18, [.null, .int 0, .int 0, .int 0]))) h.1 8 = some h' ∧ isB h' h.1 (h.1 + 1) 8 [] ∧ Ext 2 12 h h' := by
  have w1 : wfh (cn h 4 (.inl (18, [.null, .int 0, .int 0, .int 0]))) := (Mod.cn (S := fun _ => False) w).wf
  have e1 : Ext 1 4 h (cn h 4 (.inl (18, [.null, .int 0, .int 0, .int 0]))) := Mod.cn w
  have c1 := cm_cn_s h 4 (.inl (18, [.null, .int 0, .int 0, .int 0]))
  have hs : (cn h 4 (.inl (18, [.null, .int 0, .int 0, .int 0]))).1 = h.1 + 1 := rfl
  generalize cn h 4 (.inl (18, [.null, .int 0, .int 0, .int 0])) = h1 at w1 e1 c1 hs ⊢
  unfold m_J5_init m_J4_init_J5 m_J4_init_J5_14
  rw [if_neg (by decide), gd_of (show cntok 8 = true by decide), nmv_eq, nmv_eq]
  have e2 : Ext 1 8 h1 (cn h1 8 (.inr (2, 8, .inl (fun _ => 0)))) := Mod.cn w1
  have c2 := cm_cn_s h1 8 (.inr (2, 8, .inl (fun _ => (0 : Int32))))
  have c2a := e2.at w1 c1 id
  have hsz : Int32.toNatClampNeg (8 : Int32) = 8 := rfl
  rw [hsz]
  generalize cn h1 8 (.inr (2, 8, .inl (fun _ => 0))) = h2 at e2 c2 c2a ⊢
  rw [pF_c c2a e2.wf (by simp), bd_some]
  have m3 : Mod (· = h.1) 0 0 h2 _ := Mod.cs (e := .inl (18, [Value.null, .int 0, .int 0, .int 0].set 0 (.ref h1.1))) e2.wf c2a rfl
  have c3 := cm_cs_s h2 h.1 (.inl (18, [Value.null, .int 0, .int 0, .int 0].set 0 (.ref h1.1)))
  have c3b := m3.at e2.wf c2 (fun e => by have e' : h1.1 = h.1 := e; omega)
  generalize cs h2 h.1 (.inl (18, [Value.null, .int 0, .int 0, .int 0].set 0 (.ref h1.1))) = h3 at m3 c3 c3b ⊢
  rw [pF_c c3 m3.wf (by simp), bd_some, bd_some]
  have m4 : Mod (· = h.1) 0 0 h3 _ := Mod.cs (e := .inl (18, ([Value.null, .int 0, .int 0, .int 0].set 0 (.ref h1.1)).set 1 (.int 0))) m3.wf c3 rfl
  refine ⟨_, rfl, ⟨⟨.int 0, ?_⟩, ⟨fun _ => 0, ?_, fun i hi => (by cases hi), fun i _ => (by show bb 0 = true; decide)⟩, Nat.zero_le _, by decide, fun b hb => by cases hb⟩, ?_⟩
  · rw [cm_cs_s, hs]; rfl
  · rw [← hs]; exact m4.at m3.wf c3b (fun e => by have e' : h1.1 = h.1 := e; omega)
  · exact (Ext.trn (Ext.trn (e1.tr e2 (fun _ _ => id)) m3 (fun q hq => by have e' : q = h.1 := hq; omega)) m4 (fun q hq => by have e' : q = h.1 := hq; omega)).up (by omega) (by omega)
theorem okF_of {g : Nat → Int32} {c n : Nat} (h : ∀ i, i < c → bb (g i) = true) (hn : n ≤ c) : okF g 0 n = true := by
  unfold okF
  rw [List.all_eq_true]
  intro i hi
  rw [Nat.zero_add]
  exact h i (by have := List.mem_range.mp hi; omega)
/-- bytes copied into a new array -/
theorem cpB_n {h : CH} {V c n1 n : Nat} {g : Nat → Int32} (w : wfh h) (hV : cm h V = some (.inr (2, c, .inl g))) (hg : ∀ i, i < c → bb (g i) = true) (hn : n ≤ c) (hn1 : n ≤ n1) (hc : c < 2 ^ 31) : ∃ h', cpB (cn h n1 (.inr (2, n1, .inl (fun _ => 0)))) V 0 h.1 0 (ni n) = some h' ∧ cm h' h.1 = some (.inr (2, n1, .inl (va_cpy g (fun _ => 0) 0 0 n))) ∧ Ext 1 n1 h h' := by
  have e1 : Ext 1 n1 h (cn h n1 (.inr (2, n1, .inl (fun _ => 0)))) := Mod.cn w
  have c1 := cm_cn_s h n1 (.inr (2, n1, .inl (fun _ => (0 : Int32))))
  have cV := e1.at w hV id
  have hb := (e1.wf.1 _ _ c1).1
  generalize cn h n1 (.inr (2, n1, .inl (fun _ => 0))) = h1 at e1 c1 cV hb ⊢
  have m2 : Mod (· = h.1) 0 0 h1 (cs h1 h.1 (.inr (2, n1, .inl (va_cpy g (fun _ => 0) 0 0 n)))) := Mod.cs e1.wf c1 rfl
  refine ⟨_, ?_, cm_cs_s _ _ _, (Ext.trn e1 m2 (fun q hq => by have e' : q = h.1 := hq; omega)).up (by omega) (by omega)⟩
  unfold cpB
  rw [cV, c1]
  show (if h1.2.2.1 ≤ h.1 ∧ ¬ (0 : Int32) < 0 ∧ ¬ (0 : Int32) < 0 ∧ ¬ ni n < 0 ∧ Int32.toNatClampNeg 0 + (ni n).toNatClampNeg ≤ c ∧ Int32.toNatClampNeg 0 + (ni n).toNatClampNeg ≤ n1 ∧ okF g (Int32.toNatClampNeg 0) (ni n).toNatClampNeg = true then _ else _) = _
  rw [ni_clamp (by omega), show Int32.toNatClampNeg (0 : Int32) = 0 from rfl, if_pos ⟨hb, by decide, by decide, fun hh => by have := (ni_lt (k := 0) (by omega) (by decide)).mp hh; omega, by omega, by omega, okF_of hg hn⟩]
theorem min_n {f a b : Nat} (ha : a < 2 ^ 31) (hb : b < 2 ^ 31) : m_J9_min f (ni a) (ni b) = some (ni (min a b)) := by
  unfold m_J9_min m_J9_min_10
  by_cases h : b < a
  · rw [if_pos ((ni_lt hb ha).mpr h), Nat.min_eq_right (by omega)]
  · rw [if_neg (fun hh => h ((ni_lt hb ha).mp hh)), Nat.min_eq_left (by omega)]
/-- there is room for one more -/
theorem J5_room {f : Nat} {h : CH} (w : wfh h) {a V c : Nat} {bs : List Nat} (H : isB h a V c bs) (hl : bs.length < 500) (h8 : 8 ≤ c) : ∃ h' V' c' n, m_J4_ensureCapacityInternal_J5 f h a (ni (bs.length + 1)) = some h' ∧ isB h' a V' c' bs ∧ bs.length < c' ∧ Mod (bS a V) 1 n h h' ∧ n + 2 * c ≤ 2 * c' ∧ (V' = V ∨ V' = h.1) ∧ (c' = c ∨ c' ≤ 2 * (bs.length + 1)) ∧ 8 ≤ c' := by
  obtain ⟨⟨k2, h1⟩, ⟨g, h2, h3, h4⟩, h5, h6, h7⟩ := H
  have aV : aN h 2 V = some c := by unfold aN; rw [h2]; rfl
  have i1 : oI h 18 1 a = some 0 := oI_c h1 rfl
  unfold m_J4_ensureCapacityInternal_J5
  rw [oR_c h1 rfl, bd_some, aV, bd_some, i1, bd_some, nmv_eq, shr0]
  by_cases hc : bs.length < c
  · have hle : ni (bs.length + 1) - Int32.ofNat c ≤ 0 := by
      have e : ni (bs.length + 1) - Int32.ofNat c = Int32.ofInt (((bs.length : Int) + 1) - c) := by
        show Int32.ofNat (bs.length + 1) - Int32.ofNat c = _
        rw [Int32.ofInt_sub]; rfl
      rw [e, Int32.le_iff_toInt_le, Int32.toInt_ofInt_of_le (by omega) (by omega)]
      show _ ≤ (0 : Int)
      omega
    rw [if_pos hle]
    exact ⟨h, V, c, 0, rfl, ⟨⟨k2, h1⟩, ⟨g, h2, h3, h4⟩, h5, h6, h7⟩, hc, (Mod.rf w).up (by omega) (by omega), by omega, .inl rfl, .inl rfl, h8⟩
  · have ec : bs.length = c := by omega
    have d1 : ni (bs.length + 1) - Int32.ofNat c = ni 1 := by
      rw [ec]
      show Int32.ofNat (c + 1) - Int32.ofNat c = _
      rw [← Int32.ofNat_sub _ _ (by omega), show c + 1 - c = 1 by omega]
    rw [d1, if_neg (show ¬ ni 1 ≤ 0 by decide), bd_some, gd_of (show isC h a 18 = true by unfold isC; rw [h1]; rfl)]
    unfold m_J4_newCapacity_J5 m_J8_newLength m_J9_max m_J9_max_10
    have d2 : Int32.ofNat c + ((2 : Int32) <<< ((0 : Int32) &&& 31)) = ni (c + 2) := by
      rw [shl0]; show Int32.ofNat c + Int32.ofNat 2 = _; rw [← Int32.ofNat_add]
    have d3 : ni (bs.length + 1) - Int32.ofNat c = ni 1 := d1
    rw [oR_c h1 rfl, bd_some, aV, bd_some, nmv_eq, i1, bd_some, nmv_eq, shl0, nmv_eq, d3, bd_some, d2, if_pos (show ni 1 < ni (c + 2) from (ni_lt (by decide) (by omega)).mpr (by omega)), bd2_some]
    unfold m_J8_newLength_6
    have d4 : Int32.ofNat c + ni (c + 2) = ni (2 * c + 2) := by
      show Int32.ofNat c + Int32.ofNat (c + 2) = _
      rw [← Int32.ofNat_add, show c + (c + 2) = 2 * c + 2 by omega]
    rw [nmv_eq, d4, if_neg (show ¬ ni (2 * c + 2) ≤ 0 from fun e => by have := (ni_le (k := 0) (by omega) (by decide)).mp e; omega), if_neg (show ¬ (2147483639 : Int32) < ni (2 * c + 2) from fun e => by have := (ni_lt (n := 2147483639) (by decide) (by omega)).mp e; omega), bd2_some]
    unfold m_J4_newCapacity_J5_32
    rw [if_pos (show ¬ ni (2 * c + 2) = (2147483647 : Int32) from fun e => by have := (ni_inj (by omega) (by decide)).mp (show ni (2 * c + 2) = ni 2147483647 from e); omega), i1, bd_some, shr0, bd2_some]
    unfold m_J4_ensureCapacityInternal_J5_27 m_J10_copyOf
    rw [i1, bd_some, shl0, aV, bd_some, if_pos (show ¬ ni (2 * c + 2) = Int32.ofNat c from fun e => by have := (ni_inj (by omega) (by omega)).mp (show ni (2 * c + 2) = ni c from e); omega), gd_of (cnt_ok (by omega)), nmv_eq, nmv_eq, ni_clamp (by omega)]
    unfold m_J10_copyOf_17
    obtain ⟨h', q1, q2, q3⟩ := cpB_n (n1 := 2 * c + 2) (n := c) w h2 h4 (Nat.le_refl _) (by omega) (by omega)
    have e1 : Ext 1 (2 * c + 2) h (cn h (2 * c + 2) (.inr (2, 2 * c + 2, .inl (fun _ => 0)))) := Mod.cn w
    have aV' : aN (cn h (2 * c + 2) (.inr (2, 2 * c + 2, .inl (fun _ => 0)))) 2 V = some c := by unfold aN; rw [e1.at w h2 id]; rfl
    rw [aV', bd_some, show Int32.ofNat c = ni c from rfl, min_n (by omega) (by omega), bd_some, show min c (2 * c + 2) = c by omega, q1, bd_some, bd2_some]
    unfold m_J4_ensureCapacityInternal_J5_35
    have ca := q3.at w h1 id
    rw [pF_c ca q3.wf (by simp), bd_some]
    have m4 : Mod (· = a) 0 0 h' _ := Mod.cs (e := .inl (18, [Value.ref V, .int 0, k2, .int (ni bs.length)].set 0 (.ref h.1))) q3.wf ca rfl
    have na : h.1 ≠ a := fun e => by have := (w.1 _ _ h1).2; omega
    refine ⟨_, h.1, 2 * c + 2, 2 * c + 2, rfl, ⟨⟨k2, by rw [cm_cs_s]; rfl⟩, ⟨va_cpy g (fun _ => 0) 0 0 c, m4.at q3.wf q2 (fun e => na e), fun i hi => ?_, fun i hi => ?_⟩, by omega, by omega, h7⟩, by omega, ?_, by omega, .inr rfl, .inr (by omega), by omega⟩
    · unfold va_cpy
      rw [if_pos ⟨by omega, by omega⟩, show 0 + (i - 0) = i by omega]; exact h3 i hi
    · unfold va_cpy
      by_cases hic : i < c
      · rw [if_pos ⟨by omega, by omega⟩, show 0 + (i - 0) = i by omega]; exact h4 i hic
      · rw [if_neg (fun hh => by omega)]; show bb 0 = true; decide
    · exact ((q3.mono (T := bS a V) (fun _ _ hh => hh.elim) (Nat.le_refl _) (Nat.le_refl _)).tr m4 (fun q _ hq => .inl hq)).up (by omega) (by omega)
theorem nar_b : ∀ c, c < 128 → vp_nar .byte (Int8.toInt32 (Int32.toInt8 (ni c))) = ni c ∧ bb (ni c) = true ∧ ¬ (255 : Int32) < ni c := by decide +kernel
theorem J5_append {f : Nat} {h : CH} (w : wfh h) {a V c : Nat} {bs : List Nat} (H : isB h a V c bs) (hl : bs.length < 500) (h8 : 8 ≤ c) {x : Nat} (hx : x < 128) : ∃ h' V' c' n, m_J5_append f h a (ni x) = some (a, h') ∧ isB h' a V' c' (bs ++ [x]) ∧ Mod (bS a V) 1 n h h' ∧ n + 2 * c ≤ 2 * c' ∧ (V' = V ∨ V' = h.1) ∧ (c' = c ∨ c' ≤ 2 * (bs.length + 1)) ∧ 8 ≤ c' := by
  have isc : ∀ {h : CH} {V c : Nat}, isB h a V c bs → isC h a 18 = true := fun {h V c} H => by
    obtain ⟨⟨k2, h1⟩, _⟩ := H
    unfold isC; rw [h1]; rfl
  have H0 := H
  obtain ⟨h1, V1, c1, n1, r1, r2, r3, r4, r5, r6, r7, r8⟩ := J5_room (f := f) w H hl h8
  unfold m_J5_append m_J4_append_J5
  have i3 : oI h 18 3 a = some (ni bs.length) := by obtain ⟨⟨k2, h1⟩, _⟩ := H; exact oI_c h1 rfl
  rw [gd_of (isc H), i3, bd_some, gd_of (isc H), ni_succ, r1, bd_some]
  have isc1 := isc r2
  have H1 := r2
  obtain ⟨⟨k2, q1⟩, ⟨g, q2, q3, q4⟩, q5, q6, q7⟩ := r2
  obtain ⟨x1, x2, x3⟩ := nar_b x hx
  have i1 : oI h1 18 1 a = some 0 := oI_c q1 rfl
  unfold m_J4_append_J5_10 m_J4_isLatin1_J5 m_J4_isLatin1_J5_18 m_J4_append_J5_14 m_J11_canEncode m_J11_canEncode_12 m_J4_append_J5_21
  rw [gd_of isc1, if_neg (by decide), i1, bd_some, if_neg (by decide), gd_of (by decide), bd2_some, if_neg (by decide), if_neg x3, gd_of (by decide), bd2_some, if_neg (by decide), oR_c q1 rfl, bd_some, oI_c (k := 3) (x := ni bs.length) q1 rfl, bd_some, pF_c q1 r4.wf (by simp), bd_some, x1, ni_succ]
  have m2 : Mod (· = a) 0 0 h1 _ := Mod.cs (e := .inl (18, [Value.ref V1, .int 0, k2, .int (ni bs.length)].set 3 (.int (ni (bs.length + 1))))) r4.wf q1 rfl
  have na : V1 ≠ a := fun e => by rw [e, q1] at q2; cases q2
  have c2 := m2.at r4.wf q2 na
  have c2a := cm_cs_s h1 a (.inl (18, [Value.ref V1, .int 0, k2, .int (ni bs.length)].set 3 (.int (ni (bs.length + 1)))))
  generalize cs h1 a (.inl (18, [Value.ref V1, .int 0, k2, .int (ni bs.length)].set 3 (.int (ni (bs.length + 1))))) = h2 at m2 c2 c2a ⊢
  have hb := (m2.wf.1 _ _ c2).1
  have m3 : Mod (· = V1) 0 0 h2 (cs h2 V1 (.inr (2, c1, .inl (upd g bs.length (ni x))))) := Mod.cs m2.wf c2 rfl
  have eu : uI h2 2 V1 (ni bs.length) (ni x) = some (cs h2 V1 (.inr (2, c1, .inl (upd g bs.length (ni x))))) := by
    unfold uI; rw [c2]
    show (if 2 = 2 ∧ h2.2.2.1 ≤ V1 ∧ ix (ni bs.length) c1 = true then _ else _) = _
    rw [if_pos ⟨rfl, hb, ix_ni r3 (by omega)⟩, ni_clamp (by omega)]
  rw [eu, bd_some, bd2_some]
  have mm : Mod (bS a V) 1 n1 h (cs h2 V1 (.inr (2, c1, .inl (upd g bs.length (ni x))))) := by
    refine ((r4.tr m2 (fun q _ hq => .inl hq)).tr m3 (fun q hq hh => ?_)).up (by omega) (by omega)
    have e' : q = V1 := hh
    rcases r6 with e9 | e9
    · exact .inr (e'.trans e9)
    · omega
  refine ⟨_, V1, c1, n1, rfl, ⟨⟨k2, ?_⟩, ⟨upd g bs.length (ni x), cm_cs_s _ _ _, fun i hi => ?_, fun i hi => ?_⟩, by rw [List.length_append]; show bs.length + 1 ≤ c1; omega, q6, fun b hb => ?_⟩, mm, r5, r6, r7, r8⟩
  · rw [cm_cs_o _ (Ne.symm na), c2a, List.length_append]; rfl
  · rw [List.length_append] at hi
    have hi' : i < bs.length + 1 := hi
    show (if i = bs.length then ni x else g i) = _
    by_cases e : i = bs.length
    · rw [if_pos e, e, List.getD_eq_getElem?_getD, List.getElem?_append_right (Nat.le_refl _), Nat.sub_self]; rfl
    · rw [if_neg e, q3 i (by omega), List.getD_eq_getElem?_getD, List.getD_eq_getElem?_getD, List.getElem?_append_left (by omega)]
  · show bb (if i = bs.length then ni x else g i) = true
    split
    · exact x2
    · exact q4 i hi
  · rcases List.mem_append.mp hb with hb | hb
    · exact q7 b hb
    · rw [List.mem_singleton.mp hb]; exact hx
theorem J5_toString {f : Nat} {h : CH} (w : wfh h) {a V c : Nat} {bs : List Nat} (H : isB h a V c bs) (hl : bs.length ≤ 500) : ∃ h', m_J5_toString f h a = some (h.1, h') ∧ isS h' h.1 bs ∧ Ext 2 (4 + bs.length) h h' := by
  have e1 : Ext 1 4 h (cn h 4 (.inl (19, [.null, .int 0, .int 0, .int 0]))) := Mod.cn w
  have c1 := cm_cn_s h 4 (.inl (19, [.null, .int 0, .int 0, .int 0]))
  have hs : (cn h 4 (.inl (19, [.null, .int 0, .int 0, .int 0]))).1 = h.1 + 1 := rfl
  unfold m_J5_toString m_J5_toString_3
  rw [nmv_eq, nmv_eq]
  obtain ⟨⟨k2, h1⟩, ⟨g, h2, h3, h4⟩, h5, h6, h7⟩ := H
  have h1' := e1.at w h1 id
  have h2' := e1.at w h2 id
  generalize cn h 4 (.inl (19, [.null, .int 0, .int 0, .int 0])) = k at e1 c1 hs h1' h2' ⊢
  unfold m_J6_init m_J6_init_2_N1 m_J4_getValue_J5 m_J6_init_2_N1_8 m_J5_length m_J4_length_J5 m_J5_length_4 m_J6_init_2_N1_13 m_J4_isLatin1_J5 m_J4_isLatin1_J5_18 m_J6_init_2_N1_19
  have isc : isC k a 18 = true := by unfold isC; rw [h1']; rfl
  rw [gd_of isc, oR_c h1' rfl, bd_some, bd2_some, gd_of isc, gd_of isc, oI_c (k := 3) (x := ni bs.length) h1' rfl, bd_some, bd2_some, bd2_some, gd_of isc, if_neg (by decide), oI_c (k := 1) (x := 0) h1' rfl, bd_some, if_neg (by decide), gd_of (by decide), bd2_some, if_neg (by decide), pF_c c1 e1.wf (by simp), bd_some]
  have m2 : Mod (· = h.1) 0 0 k _ := Mod.cs (e := .inl (19, [Value.null, .int 0, .int 0, .int 0].set 1 (.int 0))) e1.wf c1 rfl
  have c2 := cm_cs_s k h.1 (.inl (19, [Value.null, .int 0, .int 0, .int 0].set 1 (.int 0)))
  have c2V := m2.at e1.wf h2' (fun e => by have e' : V = h.1 := e; have := (w.1 _ _ h2).2; omega)
  have hk2 : (cs k h.1 (.inl (19, [Value.null, .int 0, .int 0, .int 0].set 1 (.int 0)))).1 = h.1 + 1 := hs
  generalize cs k h.1 (.inl (19, [Value.null, .int 0, .int 0, .int 0].set 1 (.int 0))) = k2' at m2 c2 c2V hk2 ⊢
  have aV : aN k2' 2 V = some c := by unfold aN; rw [c2V]; rfl
  have fin : ∃ k3 gg, m_J10_copyOfRange f k2' V 0 (ni bs.length) = some (k2'.1, k3) ∧ cm k3 k2'.1 = some (.inr (2, bs.length, .inl gg)) ∧ (∀ i, i < bs.length → gg i = ni (bs.getD i 0)) ∧ Ext 1 bs.length k2' k3 := by
    unfold m_J10_copyOfRange
    rw [if_neg (fun hh => hh rfl), aV, bd_some]
    by_cases hc : bs.length = c
    · rw [if_pos (show ni bs.length = Int32.ofNat c by rw [hc])]
      have e3 : clB k2' V = some (cn k2' c (.inr (2, c, .inl g))) := by
        unfold clB; rw [c2V]
        show (if okF g 0 c = true then _ else _) = _
        rw [if_pos (okF_of h4 (Nat.le_refl _))]
      have c3' := cm_cn_s k2' c (.inr (2, c, .inl g))
      rw [e3, bd_some, nmv_eq]
      unfold m_J10_copyOfRange_21
      rw [gd_of (show isA2 (cn k2' c (.inr (2, c, .inl g))) k2'.1 = true by unfold isA2; rw [c3']; rfl)]
      rw [hc]
      exact ⟨_, g, rfl, c3', fun i hi => h3 i (by omega), Mod.cn m2.wf⟩
    · rw [if_neg (show ¬ ni bs.length = Int32.ofNat c from fun e => hc ((ni_inj (by omega) (by omega)).mp (show ni bs.length = ni c from e)))]
      unfold m_J10_copyOfRange_10 m_J10_copyOfRangeByte m_J10_checkLength m_J10_copyOfRangeByte_5
      have s0 : ∀ x : Int32, x - 0 = x := fun x => Int32.sub_zero x
      rw [if_pos (show (0 : Int32) ≤ ni bs.length from (ni_le (n := 0) (by decide) (by omega)).mpr (Nat.zero_le _)), bd_some, nmv_eq, s0, gd_of (cnt_ok (by omega)), nmv_eq, nmv_eq, ni_clamp (by omega)]
      unfold m_J10_copyOfRangeByte_12
      obtain ⟨k3, q1, q2, q3⟩ := cpB_n (n1 := bs.length) (n := bs.length) m2.wf c2V h4 h5 (Nat.le_refl _) (by omega)
      have e4 : Ext 1 bs.length k2' (cn k2' bs.length (.inr (2, bs.length, .inl (fun _ => 0)))) := Mod.cn m2.wf
      have aV' : aN (cn k2' bs.length (.inr (2, bs.length, .inl (fun _ => 0)))) 2 V = some c := by unfold aN; rw [e4.at m2.wf c2V id]; rfl
      rw [aV', bd_some, s0, show Int32.ofNat c = ni c from rfl, min_n (by omega) (by omega), bd_some, show min c bs.length = bs.length by omega, q1, bd_some, bd2_some]
      refine ⟨k3, _, rfl, q2, fun i hi => ?_, q3⟩
      unfold va_cpy
      rw [if_pos ⟨by omega, by omega⟩, show 0 + (i - 0) = i by omega]; exact h3 i hi
  obtain ⟨k3, gg, q1, q2, q3, q4⟩ := fin
  rw [q1, bd2_some]
  unfold m_J6_init_2_N1_35 m_J6_init_2_N1_97 m_J6_init_6 m_J5_toString_8
  have c3' := q4.at m2.wf c2 id
  rw [pF_c c3' q4.wf (by simp), bd_some, bd_some, bd_some]
  have m5 : Mod (· = h.1) 0 0 k3 _ := Mod.cs (e := .inl (19, ([Value.null, .int 0, .int 0, .int 0].set 1 (.int 0)).set 0 (.ref k2'.1))) q4.wf c3' rfl
  refine ⟨_, rfl, ⟨hl, h7, k2'.1, .inl ⟨⟨.int 0, .int 0, by rw [cm_cs_s]; rfl⟩, gg, ?_, q3⟩⟩, ?_⟩
  · exact m5.at q4.wf q2 (fun e => by have e' : k2'.1 = h.1 := e; omega)
  · exact (Ext.trn ((Ext.trn e1 m2 (fun q hq => by have e' : q = h.1 := hq; omega)).tr q4 (fun _ _ => id)) m5 (fun q hq => by have e' : q = h.1 := hq; omega)).up (by omega) (by omega)
