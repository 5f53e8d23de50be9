/-! walks of the twin's methods with own arrays or Strings (printed by gen/all_ct.py) -/
set_option maxRecDepth 100000
noncomputable section
def m_X3_takes_16 (f : Nat) (h : CH) : Option (Int32 × CH) := some ((-2 : Int32), h)
theorem mo_X3_takes_16 {f : Nat} : ∀ (h : CH) (r : (Int32 × CH)), m_X3_takes_16 f h = some r → le2 h r.2 := by
  intro h r hm
  rw [m_X3_takes_16] at hm
  cases hm
  exact le2.rf
def m_X3_takes_45 (f : Nat) (h : CH) : Option (Int32 × CH) := some ((-1 : Int32), h)
theorem mo_X3_takes_45 {f : Nat} : ∀ (h : CH) (r : (Int32 × CH)), m_X3_takes_45 f h = some r → le2 h r.2 := by
  intro h r hm
  rw [m_X3_takes_45] at hm
  cases hm
  exact le2.rf
def m_X3_takes_37 (f : Nat) (h : CH) (x3 : Int32) : Option (Int32 × CH) := some (x3, h)
theorem mo_X3_takes_37 {f : Nat} : ∀ (h : CH) (x3 : Int32) (r : (Int32 × CH)), m_X3_takes_37 f h x3 = some r → le2 h r.2 := by
  intro h x3 r hm
  rw [m_X3_takes_37] at hm
  cases hm
  exact le2.rf
def m_X3_takes_34 (f : Nat) (k21 : CH → Nat → Int32 → Int32 → Int32 → Option (Int32 × CH)) (h : CH) (x0 : Nat) (x1 : Int32) (x2 : Int32) (x3 : Int32) (y0 : Int32) : Option (Int32 × CH) := if y0 = 0 then
    nmv ((x3 + 1) : Int32) fun v2 =>
    k21 h x0 x1 x2 v2
    else m_X3_takes_37 f h x3
theorem mo_X3_takes_34 {f : Nat} {k21 : CH → Nat → Int32 → Int32 → Int32 → Option (Int32 × CH)} (hk21 : ∀ (h : CH) (x0 : Nat) (x1 : Int32) (x2 : Int32) (x3 : Int32) (r : (Int32 × CH)), k21 h x0 x1 x2 x3 = some r → le2 h r.2) : ∀ (h : CH) (x0 : Nat) (x1 : Int32) (x2 : Int32) (x3 : Int32) (y0 : Int32) (r : (Int32 × CH)), m_X3_takes_34 f k21 h x0 x1 x2 x3 y0 = some r → le2 h r.2 := by
  intro h x0 x1 x2 x3 y0 r hm
  rw [m_X3_takes_34] at hm
  by_cases c1 : y0 = 0
  · have hm := ifT hm c1
    obtain ⟨v2, ev2, hm⟩ := nmE hm
    exact (hk21 h x0 x1 x2 v2 _ hm)
  · have hm := ifF hm c1
    exact (mo_X3_takes_37  h x3 _ hm)
def m_X3_takes_21 (f : Nat) : Nat → CH → Nat → Int32 → Int32 → Int32 → Option (Int32 × CH)
  | 0, _, _, _, _, _ => none
  | n21 + 1, h, x0, x1, x2, x3 => if (48 : Int32) ≤ x3 then
    m_X3_takes_45 f h
    else gd (isC h x0 0) <|
    bd2 (m_X3_goesBy f h x0 x3 x1 x2) fun r4 h3 =>
    m_X3_takes_34 f (m_X3_takes_21 f n21) h3 x0 x1 x2 x3 r4
theorem mo_X3_takes_21 {f : Nat} : ∀ (n21 : Nat) (h : CH) (x0 : Nat) (x1 : Int32) (x2 : Int32) (x3 : Int32) (r : (Int32 × CH)), m_X3_takes_21 f n21 h x0 x1 x2 x3 = some r → le2 h r.2 := by
  intro n21
  induction n21 with
  | zero => intro h x0 x1 x2 x3 r hm; rw [m_X3_takes_21] at hm; exact noE hm
  | succ n21 ihm =>
    intro h x0 x1 x2 x3 r hm
    rw [m_X3_takes_21] at hm
    by_cases c1 : (48 : Int32) ≤ x3
    · have hm := ifT hm c1
      exact (mo_X3_takes_45  h _ hm)
    · have hm := ifF hm c1
      obtain ⟨g2, hm⟩ := gdE hm
      obtain ⟨r4, h3, er4, hm⟩ := bd2E hm
      have lh3 := mo_X3_goesBy er4
      exact (lh3.tr (mo_X3_takes_34 ihm h3 x0 x1 x2 x3 r4 _ hm))
def m_X3_takes (f : Nat) (u : CH) (x0 : Nat) (x1 : Int32) (x2 : Int32) : Option (Int32 × CH) := bd2 (tcr u x0 (fun z => m_X3_isLattice f z x1)) fun r2 h1 =>
    if r2 = 0 then
    m_X3_takes_16 f h1
    else bd2 (tcr h1 x0 (fun z => m_X3_isLattice f z x2)) fun r5 h4 =>
    if ¬ r5 = 0 then
    m_X3_takes_21 f f h4 x0 x1 x2 (0 : Int32)
    else m_X3_takes_16 f h4
theorem mo_X3_takes {f : Nat} {u : CH} {x0 : Nat} {x1 : Int32} {x2 : Int32} {r0 : Int32} {u9 : CH} (hm : m_X3_takes f u x0 x1 x2 = some (r0, u9)) : le2 u u9 := by
  rw [m_X3_takes] at hm
  obtain ⟨r2, h1, er2, hm⟩ := bd2E hm
  have lh1 := tcr_le er2
  by_cases c3 : r2 = 0
  · have hm := ifT hm c3
    exact (lh1.tr (mo_X3_takes_16  h1 _ hm))
  · have hm := ifF hm c3
    obtain ⟨r5, h4, er5, hm⟩ := bd2E hm
    have lh4 := tcr_le er5
    by_cases c6 : ¬ r5 = 0
    · have hm := ifT hm c6
      exact (lh1.tr (lh4.tr (mo_X3_takes_21  f h4 x0 x1 x2 (0 : Int32) _ hm)))
    · have hm := ifF hm c6
      exact (lh1.tr (lh4.tr (mo_X3_takes_16  h4 _ hm)))
abbrev rm_X3_takes (mc ms : Nat) : Room := { frames := 7, cells := mc, slots := ms, locals := 178 }
theorem cw_X3_takes {R : Room} {s : State} {args : Array Value} {own : String} {idx mc ms : Nat} (hts : ∀ w ∈ lw_all, w.before args s = true) (hl : Cond.methodLink own idx yX3_takes ∈ lw_all) (hR : 7 + 1 ≤ R.frames ∧ 8 + (4 + 11) + 178 ≤ R.locals) : CallW R s args own RX3 idx yX3_takes cX3_takes 4 (Option.some Jvm.ClassFile.FieldType.int) (ws_ yX3_takes cX3_takes 4 (Option.some Jvm.ClassFile.FieldType.int)) (rm_X3_takes mc ms) mc ms 2 := cwV 2 hts (lw_V hl q2036 q2037 q125 q2038) rfl rfl rfl (by decide +kernel) hR
set_option maxHeartbeats 4000000 in
set_option maxRecDepth 100000 in
theorem w_X3_takes (l : Launch) {D : va_G} {dA : Nat → ClassId} {A : Nat → Prop} {f : Nat} {u u9 : CH} {r0 : Int32} {x0 : Nat} {x1 : Int32} {x2 : Int32} (hm : m_X3_takes f u x0 x1 x2 = some (r0, u9)) : Met l yX3_takes (ws_ yX3_takes cX3_takes 4 (Option.some Jvm.ClassFile.FieldType.int)) (rm_X3_takes (u9.1 - u.1) (u9.2.1 - u.2.1)) (va_Pc [.ref x0, .int x1, .int x2] (CPre D dA A u)) (va_Qi (fun r u => r = r0 ∧ u = u9) (CPost D dA A) A) (u9.1 - u.1) (u9.2.1 - u.2.1) A := by
  refine Met.ofW (cc := cX3_takes) (maxL := 4) (ret := (Option.some Jvm.ClassFile.FieldType.int)) (by decide) rfl ?_
  intro p e s m args below meth c s₁ B hml hv
  have hx := B.exec
  have hb := B.bytes
  have hr := B.returns
  have hts := atoms_spec (ws := (ws_ yX3_takes cX3_takes 4 (Option.some Jvm.ClassFile.FieldType.int))) B.pre
  have hts : ∀ w ∈ lw_all, w.before args s = true := fun w h => hts w (List.mem_cons_of_mem _ h)
  have hown : s.vm.findClass RX3 = some m.cls := findClass_of_methodNamed B.named
  have hlocks := B.notSynchronized
  obtain ⟨hav, hv⟩ := hv
  have C : CX p s m args c cX3_takes RX3 D dA := ⟨hx, hb, hown, hts, hv.2⟩
  have hw : CW D dA A s u s.heap [] := hv.1
  have hs0 : s.heap.size = u.1 := hv.1.1
  generalize hQ : MQ below (va_Qi (fun r u => r = r0 ∧ u = u9) (CPost D dA A) A) args s (u9.1 - u.1) (u9.2.1 - u.2.1) A = QQ
  have hent := lg_entry_eq m [.ref x0, .int x1, .int x2] 4
  rw [← hav] at hent
  rw [hent]
  have hl := lv_entry ([.ref x0, .int x1, .int x2]) (n := 4) (Nat.le_of_ble_eq_true rfl)
  generalize (lg_sl ([.ref x0, .int x1, .int x2]) ++ List.replicate (4 - (lg_sl ([.ref x0, .int x1, .int x2])).length) Slot.unset).toArray = ls at hl ⊢
  have hl : lv_has ls 4 [(0, .ref x0), (1, .int x1), (2, .int x2)] := hl
  obtain ⟨cc, ecc⟩ : ∃ z : Nat, z = 0 := ⟨0, rfl⟩
  obtain ⟨ss, ess⟩ : ∃ z : Nat, z = 0 := ⟨0, rfl⟩
  have hcc : cc + u.1 = u.1 := by omega
  have hss : ss + u.2.1 = u.2.1 := by omega
  suffices hgo : W p l e (rm_X3_takes (u9.1 - u.1) (u9.2.1 - u.2.1)) s m args below meth c s.heap [] cc ss QQ (F0 m 0 ls []) by rw [ecc, ess] at hgo; exact hgo
  have ⟨pu, qu, _, _⟩ := mo_X3_takes hm
  have hB16 : ∀ (h : CH) (cc ss : Nat) (H : Heap) (locs : List Loc) (ls : Array Slot), m_X3_takes_16 f h = some (r0, u9) → CW D dA A s h H locs → cc + u.1 = h.1 → ss + u.2.1 = h.2.1 → lv_has ls 4 [] → W p l e (rm_X3_takes (u9.1 - u.1) (u9.2.1 - u.2.1)) s m args below meth c H locs cc ss QQ (F0 m 16 ls []) := by
    intro h cc ss H locs ls hm hw hcc hss hl
    have hmo := mo_X3_takes_16  h _ hm
    have sb_ : h.1 ≤ u9.1 := hmo.1
    have tb_ : h.2.1 ≤ u9.2.1 := hmo.2.1
    rw [m_X3_takes_16] at hm
    refine lv_bipush (v := -2) hx hb dX3_takes_16 (by decide) ?_
    obtain ⟨er, eh⟩ := retE hm
    have ec : cc = u9.1 - u.1 := by rw [← eh]; omega
    have es : ss = u9.2.1 - u.2.1 := by rw [← eh]; omega
    rw [ec, es, ← hQ]
    exact W.iret (v := (-2 : Int32)) hx hb hr (fun t ht hW => ⟨⟨(-2 : Int32), h, rfl, ⟨er, eh⟩, ⟨by rw [ht]; exact hw.1, by rw [ht]; exact hw.2.1⟩⟩, hw.2.2.1.F ht⟩) hw.2.2.1.2.2 dX3_takes_18
  have hB45 : ∀ (h : CH) (cc ss : Nat) (H : Heap) (locs : List Loc) (ls : Array Slot), m_X3_takes_45 f h = some (r0, u9) → CW D dA A s h H locs → cc + u.1 = h.1 → ss + u.2.1 = h.2.1 → lv_has ls 4 [] → W p l e (rm_X3_takes (u9.1 - u.1) (u9.2.1 - u.2.1)) s m args below meth c H locs cc ss QQ (F0 m 45 ls []) := by
    intro h cc ss H locs ls hm hw hcc hss hl
    have hmo := mo_X3_takes_45  h _ hm
    have sb_ : h.1 ≤ u9.1 := hmo.1
    have tb_ : h.2.1 ≤ u9.2.1 := hmo.2.1
    rw [m_X3_takes_45] at hm
    refine lv_iconst (v := -1) hx hb dX3_takes_45 (by decide) ?_
    obtain ⟨er, eh⟩ := retE hm
    have ec : cc = u9.1 - u.1 := by rw [← eh]; omega
    have es : ss = u9.2.1 - u.2.1 := by rw [← eh]; omega
    rw [ec, es, ← hQ]
    exact W.iret (v := (-1 : Int32)) hx hb hr (fun t ht hW => ⟨⟨(-1 : Int32), h, rfl, ⟨er, eh⟩, ⟨by rw [ht]; exact hw.1, by rw [ht]; exact hw.2.1⟩⟩, hw.2.2.1.F ht⟩) hw.2.2.1.2.2 dX3_takes_46
  have hB37 : ∀ (h : CH) (x3 : Int32) (cc ss : Nat) (H : Heap) (locs : List Loc) (ls : Array Slot), m_X3_takes_37 f h x3 = some (r0, u9) → CW D dA A s h H locs → cc + u.1 = h.1 → ss + u.2.1 = h.2.1 → lv_has ls 4 [(3, .int x3)] → W p l e (rm_X3_takes (u9.1 - u.1) (u9.2.1 - u.2.1)) s m args below meth c H locs cc ss QQ (F0 m 37 ls []) := by
    intro h x3 cc ss H locs ls hm hw hcc hss hl
    have hmo := mo_X3_takes_37  h x3 _ hm
    have sb_ : h.1 ≤ u9.1 := hmo.1
    have tb_ : h.2.1 ≤ u9.2.1 := hmo.2.1
    rw [m_X3_takes_37] at hm
    refine lv_iload_n hx hb dX3_takes_37 rfl (lv_at hl 0 rfl) ?_
    obtain ⟨er, eh⟩ := retE hm
    have ec : cc = u9.1 - u.1 := by rw [← eh]; omega
    have es : ss = u9.2.1 - u.2.1 := by rw [← eh]; omega
    rw [ec, es, ← hQ]
    exact W.iret (v := x3) hx hb hr (fun t ht hW => ⟨⟨x3, h, rfl, ⟨er, eh⟩, ⟨by rw [ht]; exact hw.1, by rw [ht]; exact hw.2.1⟩⟩, hw.2.2.1.F ht⟩) hw.2.2.1.2.2 dX3_takes_38
  have hB21 : ∀ (n21 : Nat), ∀ (h : CH) (x0 : Nat) (x1 : Int32) (x2 : Int32) (x3 : Int32) (cc ss : Nat) (H : Heap) (locs : List Loc) (ls : Array Slot), m_X3_takes_21 f n21 h x0 x1 x2 x3 = some (r0, u9) → CW D dA A s h H locs → cc + u.1 = h.1 → ss + u.2.1 = h.2.1 → lv_has ls 4 [(0, .ref x0), (1, .int x1), (2, .int x2), (3, .int x3)] → W p l e (rm_X3_takes (u9.1 - u.1) (u9.2.1 - u.2.1)) s m args below meth c H locs cc ss QQ (F0 m 21 ls []) := by
    intro n21
    induction n21 with
    | zero => intro h x0 x1 x2 x3 cc ss H locs ls hm hw hcc hss hl; rw [m_X3_takes_21] at hm; exact noE hm
    | succ n21 ih21 =>
      have hB34 : ∀ (h : CH) (x0 : Nat) (x1 : Int32) (x2 : Int32) (x3 : Int32) (y0 : Int32) (cc ss : Nat) (H : Heap) (locs : List Loc) (ls : Array Slot), m_X3_takes_34 f (m_X3_takes_21 f n21) h x0 x1 x2 x3 y0 = some (r0, u9) → CW D dA A s h H locs → cc + u.1 = h.1 → ss + u.2.1 = h.2.1 → lv_has ls 4 [(0, .ref x0), (1, .int x1), (2, .int x2), (3, .int x3)] → W p l e (rm_X3_takes (u9.1 - u.1) (u9.2.1 - u.2.1)) s m args below meth c H locs cc ss QQ (F0 m 34 ls [.int y0]) := by
        intro h x0 x1 x2 x3 y0 cc ss H locs ls hm hw hcc hss hl
        have hmo := mo_X3_takes_34 (mo_X3_takes_21 n21) h x0 x1 x2 x3 y0 _ hm
        have sb_ : h.1 ≤ u9.1 := hmo.1
        have tb_ : h.2.1 ≤ u9.2.1 := hmo.2.1
        rw [m_X3_takes_34] at hm
        refine lv_if_eq (tgt := 39) hx hb dX3_takes_34 (by decide) (fun c1 => ?_) (fun c1 => ?_)
        · have hm := ifT hm c1
          obtain ⟨v2, ev2, hm⟩ := nmE hm
          refine lv_iinc (v := v2) (lv' := [(3, .int v2), (0, .ref x0), (1, .int x1), (2, .int x2)]) hx hb dX3_takes_39 hl (k := 3) rfl (by rw [ev2]; rfl) (by decide) rfl (fun ls hl => ?_)
          refine lv_goto (tgt := 21) hx hb dX3_takes_42 (by decide) ?_
          exact ih21 h x0 x1 x2 v2 _ _ _ _ _ hm hw (by omega) (by omega) (lv_sub hl [1, 2, 3, 0] rfl)
        · have hm := ifF hm c1
          exact hB37 h x3 _ _ _ _ _ hm hw (by omega) (by omega) (lv_sub hl [3] rfl)
      intro h x0 x1 x2 x3 cc ss H locs ls hm hw hcc hss hl
      have hmo := mo_X3_takes_21  (n21 + 1) h x0 x1 x2 x3 _ hm
      have sb_ : h.1 ≤ u9.1 := hmo.1
      have tb_ : h.2.1 ≤ u9.2.1 := hmo.2.1
      rw [m_X3_takes_21] at hm
      refine lv_iload_n hx hb dX3_takes_21 rfl (lv_at hl 3 rfl) ?_
      refine lv_bipush (v := 48) hx hb dX3_takes_22 (by decide) ?_
      refine lv_icmp_ge (tgt := 45) hx hb dX3_takes_24 (by decide) (fun c1 => ?_) (fun c1 => ?_)
      · have hm := ifT hm c1
        exact hB45 h _ _ _ _ _ hm hw (by omega) (by omega) (lv_sub hl [] rfl)
      · have hm := ifF hm c1
        refine lv_aload_n hx hb dX3_takes_27 rfl (lv_at hl 0 rfl) ?_
        refine lv_iload_n hx hb dX3_takes_28 rfl (lv_at hl 3 rfl) ?_
        refine lv_iload_n hx hb dX3_takes_29 rfl (lv_at hl 1 rfl) ?_
        refine lv_iload_n hx hb dX3_takes_30 rfl (lv_at hl 2 rfl) ?_
        obtain ⟨g2, hm⟩ := gdE hm
        obtain ⟨r4, h3, er4, hm⟩ := bd2E hm
        have lh3 := mo_X3_goesBy er4
        have ph3 : h.1 ≤ h3.1 := lh3.1
        have qh3 : h.2.1 ≤ h3.2.1 := lh3.2.1
        have hmo := mo_X3_takes_34 (mo_X3_takes_21 n21)  h3 x0 x1 x2 x3 r4 _ hm
        have sh3 : h3.1 ≤ u9.1 := hmo.1
        have th3 : h3.2.1 ≤ u9.2.1 := hmo.2.1
        refine cg_calli hw lh3 (va_runV (As := [.int x3, .int x1, .int x2]) (rest := []) ⟨hx, hb, hml, hown, hts⟩ (w_X3_goesBy l er4) (cw_X3_goesBy hts q2030 ⟨Nat.le_of_ble_eq_true rfl, Nat.le_of_ble_eq_true rfl⟩) (cg_preV C hw g2 rfl _) rfl rfl hl.1 rfl (lv_room (Nat.le_of_ble_eq_true rfl)) dX3_takes_31 ⟨show cc + (h3.1 - h.1) ≤ u9.1 - u.1 by omega, show ss + (h3.2.1 - h.2.1) ≤ u9.2.1 - u.2.1 by omega⟩) (fun H locs hw => ?_)
        exact hB34 h3 x0 x1 x2 x3 r4 _ _ _ _ _ hm hw (by omega) (by omega) (lv_sub hl [0, 1, 2, 3] rfl)
  rw [m_X3_takes] at hm
  refine lv_aload_n hx hb dX3_takes_0 rfl (lv_at hl 0 rfl) ?_
  refine lv_iload_n hx hb dX3_takes_1 rfl (lv_at hl 1 rfl) ?_
  obtain ⟨r2, h1, er2, hm⟩ := bd2E hm
  refine cg_tci C hw er2 (show cc + s.heap.size = u.1 by rw [hs0]; omega) (fun _ hk hm9 => va_runV (As := [.int x1]) (rest := []) ⟨hx, hb, hml, hown, hts⟩ (w_X3_isLattice l hm9) (cw_X3_isLattice hts q1796 ⟨Nat.le_of_ble_eq_true rfl, Nat.le_of_ble_eq_true rfl⟩) (tb_pre C hw hk _) rfl rfl hl.1 rfl (lv_room (Nat.le_of_ble_eq_true rfl)) dX3_takes_2 ⟨show cc + 0 ≤ u9.1 - u.1 by omega, show ss + 0 ≤ u9.2.1 - u.2.1 by omega⟩) (fun H locs hw => ?_)
  have zh1 := tcr_sz er2
  refine lv_if_eq (tgt := 16) hx hb dX3_takes_5 (by decide) (fun c3 => ?_) (fun c3 => ?_)
  · have hm := ifT hm c3
    exact hB16 h1 _ _ _ _ _ hm hw (by omega) (by omega) (lv_sub hl [] rfl)
  · have hm := ifF hm c3
    refine lv_aload_n hx hb dX3_takes_8 rfl (lv_at hl 0 rfl) ?_
    refine lv_iload_n hx hb dX3_takes_9 rfl (lv_at hl 2 rfl) ?_
    obtain ⟨r5, h4, er5, hm⟩ := bd2E hm
    refine cg_tci C hw er5 (show cc + s.heap.size = h1.1 by rw [hs0]; omega) (fun _ hk hm9 => va_runV (As := [.int x2]) (rest := []) ⟨hx, hb, hml, hown, hts⟩ (w_X3_isLattice l hm9) (cw_X3_isLattice hts q1796 ⟨Nat.le_of_ble_eq_true rfl, Nat.le_of_ble_eq_true rfl⟩) (tb_pre C hw hk _) rfl rfl hl.1 rfl (lv_room (Nat.le_of_ble_eq_true rfl)) dX3_takes_10 ⟨show cc + 0 ≤ u9.1 - u.1 by omega, show ss + 0 ≤ u9.2.1 - u.2.1 by omega⟩) (fun H locs hw => ?_)
    have zh4 := tcr_sz er5
    refine lv_if_ne (tgt := 19) hx hb dX3_takes_13 (by decide) (fun c6 => ?_) (fun c6 => ?_)
    · have hm := ifT hm c6
      refine lv_iconst (v := 0) hx hb dX3_takes_19 (by decide) ?_
      refine lv_istore_n (lv' := [(3, .int (0 : Int32)), (0, .ref x0), (1, .int x1), (2, .int x2)]) hx hb dX3_takes_20 rfl hl (by decide) rfl (fun ls hl => ?_)
      exact hB21 f h4 x0 x1 x2 (0 : Int32) _ _ _ _ _ hm hw (by omega) (by omega) (lv_sub hl [1, 2, 3, 0] rfl)
    · have hm := ifT' hm c6
      exact hB16 h4 _ _ _ _ _ hm hw (by omega) (by omega) (lv_sub hl [] rfl)
end
