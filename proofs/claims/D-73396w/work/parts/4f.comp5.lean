/-! walks of the component (printed by gen/walkc.py) -/
set_option maxRecDepth 100000
def m_X8_least_70 (f : Nat) (h : CH) (x2 : Int32) : Option (Int32 × CH) := some (x2, h)
theorem mo_X8_least_70 {f : Nat} : ∀ (h : CH) (x2 : Int32) (r : (Int32 × CH)), m_X8_least_70 f h x2 = some r → le2 h r.2 := by
  intro h x2 r hm
  rw [m_X8_least_70] at hm
  cases hm
  exact le2.rf
def m_X8_least_64 (f : Nat) (k4 : CH → Nat → Int32 → Int32 → Int32 → Option (Int32 × CH)) (h : CH) (x0 : Nat) (x1 : Int32) (x2 : Int32) (x3 : Int32) : Option (Int32 × CH) := nmv ((x3 + 1) : Int32) fun v1 =>
    k4 h x0 x1 x2 v1
theorem mo_X8_least_64 {f : Nat} {k4 : CH → Nat → Int32 → Int32 → Int32 → Option (Int32 × CH)} (hk4 : ∀ (h : CH) (x0 : Nat) (x1 : Int32) (x2 : Int32) (x3 : Int32) (r : (Int32 × CH)), k4 h x0 x1 x2 x3 = some r → le2 h r.2) : ∀ (h : CH) (x0 : Nat) (x1 : Int32) (x2 : Int32) (x3 : Int32) (r : (Int32 × CH)), m_X8_least_64 f k4 h x0 x1 x2 x3 = some r → le2 h r.2 := by
  intro h x0 x1 x2 x3 r hm
  rw [m_X8_least_64] at hm
  obtain ⟨v1, ev1, hm⟩ := nmE hm
  exact (hk4 h x0 x1 x2 v1 _ hm)
def m_X8_least_62 (f : Nat) (k4 : CH → Nat → Int32 → Int32 → Int32 → Option (Int32 × CH)) (h : CH) (x0 : Nat) (x1 : Int32) (x3 : Int32) : Option (Int32 × CH) := m_X8_least_64 f k4 h x0 x1 x3 x3
theorem mo_X8_least_62 {f : Nat} {k4 : CH → Nat → Int32 → Int32 → Int32 → Option (Int32 × CH)} (hk4 : ∀ (h : CH) (x0 : Nat) (x1 : Int32) (x2 : Int32) (x3 : Int32) (r : (Int32 × CH)), k4 h x0 x1 x2 x3 = some r → le2 h r.2) : ∀ (h : CH) (x0 : Nat) (x1 : Int32) (x3 : Int32) (r : (Int32 × CH)), m_X8_least_62 f k4 h x0 x1 x3 = some r → le2 h r.2 := by
  intro h x0 x1 x3 r hm
  rw [m_X8_least_62] at hm
  exact (mo_X8_least_64 hk4 h x0 x1 x3 x3 _ hm)
def m_X8_least_4 (f : Nat) : Nat → CH → Nat → Int32 → Int32 → Int32 → Option (Int32 × CH)
  | 0, _, _, _, _, _ => none
  | n4 + 1, h, x0, x1, x2, x3 => if (3 : Int32) ≤ x3 then
    m_X8_least_70 f h x2
    else bd (oR h 8 0 x0) fun a2 =>
    bd (oR h 3 0 a2) fun a3 =>
    bd (aR h 4 a3 x3) fun a4 =>
    bd (aL h 1 a4 x1) fun v5 =>
    if v5 = (0 : Int64) then
    m_X8_least_64 f (m_X8_least_4 f n4) h x0 x1 x2 x3
    else if x2 = (-1 : Int32) then
    m_X8_least_62 f (m_X8_least_4 f n4) h x0 x1 x3
    else bd (oR h 8 0 x0) fun a8 =>
    bd (oR h 3 0 a8) fun a9 =>
    bd (aR h 4 a9 x3) fun a10 =>
    bd (aL h 1 a10 x1) fun v11 =>
    bd (m_J9_abs f v11) fun r12 =>
    bd (oR h 8 0 x0) fun a13 =>
    bd (oR h 3 0 a13) fun a14 =>
    bd (aR h 4 a14 x2) fun a15 =>
    bd (aL h 1 a15 x1) fun v16 =>
    bd (m_J9_abs f v16) fun r17 =>
    if r17 ≤ r12 then
    m_X8_least_64 f (m_X8_least_4 f n4) h x0 x1 x2 x3
    else m_X8_least_62 f (m_X8_least_4 f n4) h x0 x1 x3
theorem mo_X8_least_4 {f : Nat} : ∀ (n4 : Nat) (h : CH) (x0 : Nat) (x1 : Int32) (x2 : Int32) (x3 : Int32) (r : (Int32 × CH)), m_X8_least_4 f n4 h x0 x1 x2 x3 = some r → le2 h r.2 := by
  intro n4
  induction n4 with
  | zero => intro h x0 x1 x2 x3 r hm; rw [m_X8_least_4] at hm; exact noE hm
  | succ n4 ihm =>
    intro h x0 x1 x2 x3 r hm
    rw [m_X8_least_4] at hm
    by_cases c1 : (3 : Int32) ≤ x3
    · have hm := ifT hm c1
      exact (mo_X8_least_70  h x2 _ hm)
    · have hm := ifF hm c1
      obtain ⟨a2, ea2, hm⟩ := bdE hm
      obtain ⟨a3, ea3, hm⟩ := bdE hm
      obtain ⟨a4, ea4, hm⟩ := bdE hm
      obtain ⟨v5, ev5, hm⟩ := bdE hm
      by_cases c6 : v5 = (0 : Int64)
      · have hm := ifT hm c6
        exact (mo_X8_least_64 ihm h x0 x1 x2 x3 _ hm)
      · have hm := ifF hm c6
        by_cases c7 : x2 = (-1 : Int32)
        · have hm := ifT hm c7
          exact (mo_X8_least_62 ihm h x0 x1 x3 _ hm)
        · have hm := ifF hm c7
          obtain ⟨a8, ea8, hm⟩ := bdE hm
          obtain ⟨a9, ea9, hm⟩ := bdE hm
          obtain ⟨a10, ea10, hm⟩ := bdE hm
          obtain ⟨v11, ev11, hm⟩ := bdE hm
          obtain ⟨r12, er12, hm⟩ := bdE hm
          obtain ⟨a13, ea13, hm⟩ := bdE hm
          obtain ⟨a14, ea14, hm⟩ := bdE hm
          obtain ⟨a15, ea15, hm⟩ := bdE hm
          obtain ⟨v16, ev16, hm⟩ := bdE hm
          obtain ⟨r17, er17, hm⟩ := bdE hm
          by_cases c18 : r17 ≤ r12
          · have hm := ifT hm c18
            exact (mo_X8_least_64 ihm h x0 x1 x2 x3 _ hm)
          · have hm := ifF hm c18
            exact (mo_X8_least_62 ihm h x0 x1 x3 _ hm)
def m_X8_least (f : Nat) (u : CH) (x0 : Nat) (x1 : Int32) : Option (Int32 × CH) := m_X8_least_4 f f u x0 x1 (-1 : Int32) x1
theorem mo_X8_least {f : Nat} {u : CH} {x0 : Nat} {x1 : Int32} {r0 : Int32} {u9 : CH} (hm : m_X8_least f u x0 x1 = some (r0, u9)) : le2 u u9 := by
  rw [m_X8_least] at hm
  exact (mo_X8_least_4  f u x0 x1 (-1 : Int32) x1 _ hm)
abbrev rm_X8_least (mc ms : Nat) : Room := { frames := 1, cells := mc, slots := ms, locals := 21 }
theorem cw_X8_least {R : Room} {s : State} {args : Array Value} {own : String} {idx mc ms : Nat} (hts : ∀ w ∈ lw_all, w.before args s = true) (hl : Cond.methodLink own idx yX8_least ∈ lw_all) (hR : 1 + 1 ≤ R.frames ∧ 8 + (4 + 11) + 21 ≤ R.locals) : CallW R s args own RX8 idx yX8_least cX8_least 4 (Option.some Jvm.ClassFile.FieldType.int) (ws_ yX8_least cX8_least 4 (Option.some Jvm.ClassFile.FieldType.int)) (rm_X8_least mc ms) mc ms 1 := cwV 1 hts (lw_V hl q981 qs22 q145 q982) rfl rfl rfl (by decide +kernel) hR
set_option maxHeartbeats 4000000 in
set_option maxRecDepth 100000 in
theorem w_X8_least (l : Launch) {D : va_G} {dA : Nat → ClassId} {A : Nat → Prop} {f : Nat} {u u9 : CH} {r0 : Int32} {x0 : Nat} {x1 : Int32} (hm : m_X8_least f u x0 x1 = some (r0, u9)) : Met l yX8_least (ws_ yX8_least cX8_least 4 (Option.some Jvm.ClassFile.FieldType.int)) (rm_X8_least (u9.1 - u.1) (u9.2.1 - u.2.1)) (va_Pc [.ref x0, .int x1] (CPre D dA A u)) (va_Qi (fun r u => r = r0 ∧ u = u9) (CPost D dA A) A) (u9.1 - u.1) (u9.2.1 - u.2.1) A := by
  refine Met.ofW (cc := cX8_least) (maxL := 4) (ret := (Option.some Jvm.ClassFile.FieldType.int)) (by decide) rfl ?_
  intro p e s m args below meth c s₁ B hml hv
  have hx := B.exec
  have hb := B.bytes
  have hr := B.returns
  have hts := atoms_spec (ws := (ws_ yX8_least cX8_least 4 (Option.some Jvm.ClassFile.FieldType.int))) B.pre
  have hts : ∀ w ∈ lw_all, w.before args s = true := fun w h => hts w (List.mem_cons_of_mem _ h)
  have hown : s.vm.findClass RX8 = some m.cls := findClass_of_methodNamed B.named
  have hlocks := B.notSynchronized
  obtain ⟨hav, hv⟩ := hv
  have C : CX p s m args c cX8_least RX8 D dA := ⟨hx, hb, hown, hts, hv.2⟩
  have hw : CW D dA A s u s.heap [] := hv.1
  generalize hQ : MQ below (va_Qi (fun r u => r = r0 ∧ u = u9) (CPost D dA A) A) args s (u9.1 - u.1) (u9.2.1 - u.2.1) A = QQ
  have hent := lg_entry_eq m [.ref x0, .int x1] 4
  rw [← hav] at hent
  rw [hent]
  have hl := lv_entry ([.ref x0, .int x1]) (n := 4) (Nat.le_of_ble_eq_true rfl)
  generalize (lg_sl ([.ref x0, .int x1]) ++ List.replicate (4 - (lg_sl ([.ref x0, .int x1])).length) Slot.unset).toArray = ls at hl ⊢
  have hl : lv_has ls 4 [(0, .ref x0), (1, .int x1)] := hl
  obtain ⟨cc, ecc⟩ : ∃ z : Nat, z = 0 := ⟨0, rfl⟩
  obtain ⟨ss, ess⟩ : ∃ z : Nat, z = 0 := ⟨0, rfl⟩
  have hcc : cc + u.1 = u.1 := by omega
  have hss : ss + u.2.1 = u.2.1 := by omega
  suffices hgo : W p l e (rm_X8_least (u9.1 - u.1) (u9.2.1 - u.2.1)) s m args below meth c s.heap [] cc ss QQ (F0 m 0 ls []) by rw [ecc, ess] at hgo; exact hgo
  have ⟨pu, qu, _, _⟩ := mo_X8_least hm
  have hB70 : ∀ (h : CH) (x2 : Int32) (cc ss : Nat) (H : Heap) (locs : List Loc) (ls : Array Slot), m_X8_least_70 f h x2 = some (r0, u9) → CW D dA A s h H locs → cc + u.1 = h.1 → ss + u.2.1 = h.2.1 → lv_has ls 4 [(2, .int x2)] → W p l e (rm_X8_least (u9.1 - u.1) (u9.2.1 - u.2.1)) s m args below meth c H locs cc ss QQ (F0 m 70 ls []) := by
    intro h x2 cc ss H locs ls hm hw hcc hss hl
    have hmo := mo_X8_least_70  h x2 _ hm
    have sb_ : h.1 ≤ u9.1 := hmo.1
    have tb_ : h.2.1 ≤ u9.2.1 := hmo.2.1
    rw [m_X8_least_70] at hm
    refine lv_iload_n hx hb dX8_least_70 rfl (lv_at hl 0 rfl) ?_
    obtain ⟨er, eh⟩ := retE hm
    have ec : cc = u9.1 - u.1 := by rw [← eh]; omega
    have es : ss = u9.2.1 - u.2.1 := by rw [← eh]; omega
    rw [ec, es, ← hQ]
    exact W.iret (v := x2) hx hb hr (fun t ht hW => ⟨⟨x2, h, rfl, ⟨er, eh⟩, ⟨by rw [ht]; exact hw.1, by rw [ht]; exact hw.2.1⟩⟩, hw.2.2.1.F ht⟩) hw.2.2.1.2.2 dX8_least_71
  have hB4 : ∀ (n4 : Nat), ∀ (h : CH) (x0 : Nat) (x1 : Int32) (x2 : Int32) (x3 : Int32) (cc ss : Nat) (H : Heap) (locs : List Loc) (ls : Array Slot), m_X8_least_4 f n4 h x0 x1 x2 x3 = some (r0, u9) → CW D dA A s h H locs → cc + u.1 = h.1 → ss + u.2.1 = h.2.1 → lv_has ls 4 [(0, .ref x0), (1, .int x1), (2, .int x2), (3, .int x3)] → W p l e (rm_X8_least (u9.1 - u.1) (u9.2.1 - u.2.1)) s m args below meth c H locs cc ss QQ (F0 m 4 ls []) := by
    intro n4
    induction n4 with
    | zero => intro h x0 x1 x2 x3 cc ss H locs ls hm hw hcc hss hl; rw [m_X8_least_4] at hm; exact noE hm
    | succ n4 ih4 =>
      have hB64 : ∀ (h : CH) (x0 : Nat) (x1 : Int32) (x2 : Int32) (x3 : Int32) (cc ss : Nat) (H : Heap) (locs : List Loc) (ls : Array Slot), m_X8_least_64 f (m_X8_least_4 f n4) h x0 x1 x2 x3 = some (r0, u9) → CW D dA A s h H locs → cc + u.1 = h.1 → ss + u.2.1 = h.2.1 → lv_has ls 4 [(0, .ref x0), (1, .int x1), (2, .int x2), (3, .int x3)] → W p l e (rm_X8_least (u9.1 - u.1) (u9.2.1 - u.2.1)) s m args below meth c H locs cc ss QQ (F0 m 64 ls []) := by
        intro h x0 x1 x2 x3 cc ss H locs ls hm hw hcc hss hl
        have hmo := mo_X8_least_64 (mo_X8_least_4 n4) h x0 x1 x2 x3 _ hm
        have sb_ : h.1 ≤ u9.1 := hmo.1
        have tb_ : h.2.1 ≤ u9.2.1 := hmo.2.1
        rw [m_X8_least_64] at hm
        obtain ⟨v1, ev1, hm⟩ := nmE hm
        refine lv_iinc (v := v1) (lv' := [(3, .int v1), (0, .ref x0), (1, .int x1), (2, .int x2)]) hx hb dX8_least_64 hl (k := 3) rfl (by rw [ev1]; rfl) (by decide) rfl (fun ls hl => ?_)
        refine lv_goto (tgt := 4) hx hb dX8_least_67 (by decide) ?_
        exact ih4 h x0 x1 x2 v1 _ _ _ _ _ hm hw (by omega) (by omega) (lv_sub hl [1, 2, 3, 0] rfl)
      have hB62 : ∀ (h : CH) (x0 : Nat) (x1 : Int32) (x3 : Int32) (cc ss : Nat) (H : Heap) (locs : List Loc) (ls : Array Slot), m_X8_least_62 f (m_X8_least_4 f n4) h x0 x1 x3 = some (r0, u9) → CW D dA A s h H locs → cc + u.1 = h.1 → ss + u.2.1 = h.2.1 → lv_has ls 4 [(0, .ref x0), (1, .int x1), (3, .int x3)] → W p l e (rm_X8_least (u9.1 - u.1) (u9.2.1 - u.2.1)) s m args below meth c H locs cc ss QQ (F0 m 62 ls []) := by
        intro h x0 x1 x3 cc ss H locs ls hm hw hcc hss hl
        have hmo := mo_X8_least_62 (mo_X8_least_4 n4) h x0 x1 x3 _ hm
        have sb_ : h.1 ≤ u9.1 := hmo.1
        have tb_ : h.2.1 ≤ u9.2.1 := hmo.2.1
        rw [m_X8_least_62] at hm
        refine lv_iload_n hx hb dX8_least_62 rfl (lv_at hl 2 rfl) ?_
        refine lv_istore_n (lv' := [(2, .int x3), (0, .ref x0), (1, .int x1), (3, .int x3)]) hx hb dX8_least_63 rfl hl (by decide) rfl (fun ls hl => ?_)
        exact hB64 h x0 x1 x3 x3 _ _ _ _ _ hm hw (by omega) (by omega) (lv_sub hl [1, 2, 0, 3] rfl)
      intro h x0 x1 x2 x3 cc ss H locs ls hm hw hcc hss hl
      have hmo := mo_X8_least_4  (n4 + 1) h x0 x1 x2 x3 _ hm
      have sb_ : h.1 ≤ u9.1 := hmo.1
      have tb_ : h.2.1 ≤ u9.2.1 := hmo.2.1
      rw [m_X8_least_4] at hm
      refine lv_iload_n hx hb dX8_least_4 rfl (lv_at hl 3 rfl) ?_
      refine lv_iconst (v := 3) hx hb dX8_least_5 (by decide) ?_
      refine lv_icmp_ge (tgt := 70) hx hb dX8_least_6 (by decide) (fun c1 => ?_) (fun c1 => ?_)
      · have hm := ifT hm c1
        exact hB70 h x2 _ _ _ _ _ hm hw (by omega) (by omega) (lv_sub hl [2] rfl)
      · have hm := ifF hm c1
        refine lv_aload_n hx hb dX8_least_9 rfl (lv_at hl 0 rfl) ?_
        obtain ⟨a2, ea2, hm⟩ := bdE hm
        refine cg_get C hw (oR_E ea2) rfl in_X8 (by decide) q1031 dX8_least_10 ?_
        obtain ⟨a3, ea3, hm⟩ := bdE hm
        refine cg_getN C hw (by decide) (oR_E ea3) rfl in_X2 (by decide) (hw.2.2.2.2.1 _ (List.mem_of_getElem? (i := 79) rfl)) dX8_least_13 ?_
        refine lv_iload_n hx hb dX8_least_16 rfl (lv_at hl 3 rfl) ?_
        obtain ⟨a4, ea4, hm⟩ := bdE hm
        refine cg_aaldA C hw (ty := .array .long) rfl rfl (aR_E ea4) dX8_least_17 ?_
        refine lv_iload_n hx hb dX8_least_18 rfl (lv_at hl 1 rfl) ?_
        obtain ⟨v5, ev5, hm⟩ := bdE hm
        refine cg_lald C hw ev5 dX8_least_19 ?_
        refine lv_lconst (v := 0) hx hb dX8_least_20 (by decide) ?_
        refine lc_eq (tgt := 64) hx hb dX8_least_21 dX8_least_22 (by decide) (fun c6 => ?_) (fun c6 => ?_)
        · have hm := ifT hm c6
          exact hB64 h x0 x1 x2 x3 _ _ _ _ _ hm hw (by omega) (by omega) (lv_sub hl [0, 1, 2, 3] rfl)
        · have hm := ifF hm c6
          refine lv_iload_n hx hb dX8_least_25 rfl (lv_at hl 2 rfl) ?_
          refine lv_iconst (v := -1) hx hb dX8_least_26 (by decide) ?_
          refine lv_icmp_eq (tgt := 62) hx hb dX8_least_27 (by decide) (fun c7 => ?_) (fun c7 => ?_)
          · have hm := ifT hm c7
            exact hB62 h x0 x1 x3 _ _ _ _ _ hm hw (by omega) (by omega) (lv_sub hl [0, 1, 3] rfl)
          · have hm := ifF hm c7
            refine lv_aload_n hx hb dX8_least_30 rfl (lv_at hl 0 rfl) ?_
            obtain ⟨a8, ea8, hm⟩ := bdE hm
            refine cg_get C hw (oR_E ea8) rfl in_X8 (by decide) q1031 dX8_least_31 ?_
            obtain ⟨a9, ea9, hm⟩ := bdE hm
            refine cg_getN C hw (by decide) (oR_E ea9) rfl in_X2 (by decide) (hw.2.2.2.2.1 _ (List.mem_of_getElem? (i := 79) rfl)) dX8_least_34 ?_
            refine lv_iload_n hx hb dX8_least_37 rfl (lv_at hl 3 rfl) ?_
            obtain ⟨a10, ea10, hm⟩ := bdE hm
            refine cg_aaldA C hw (ty := .array .long) rfl rfl (aR_E ea10) dX8_least_38 ?_
            refine lv_iload_n hx hb dX8_least_39 rfl (lv_at hl 1 rfl) ?_
            obtain ⟨v11, ev11, hm⟩ := bdE hm
            refine cg_lald C hw ev11 dX8_least_40 ?_
            obtain ⟨r12, er12, hm⟩ := bdE hm
            refine scl (va_runS (As := [.long v11]) (rest := []) ⟨hx, hb, hml, hown, hts⟩ (w_J9_abs l er12) (cw_J9_abs hts q983 ⟨Nat.le_of_ble_eq_true rfl, Nat.le_of_ble_eq_true rfl⟩) (pre_s _) rfl rfl hl.1 rfl (lv_room (Nat.le_of_ble_eq_true rfl)) dX8_least_41 ⟨show cc + 0 ≤ u9.1 - u.1 by omega, show ss + 0 ≤ u9.2.1 - u.2.1 by omega⟩) ?_
            refine lv_aload_n hx hb dX8_least_44 rfl (lv_at hl 0 rfl) ?_
            obtain ⟨a13, ea13, hm⟩ := bdE hm
            refine cg_get C hw (oR_E ea13) rfl in_X8 (by decide) q1031 dX8_least_45 ?_
            obtain ⟨a14, ea14, hm⟩ := bdE hm
            refine cg_getN C hw (by decide) (oR_E ea14) rfl in_X2 (by decide) (hw.2.2.2.2.1 _ (List.mem_of_getElem? (i := 79) rfl)) dX8_least_48 ?_
            refine lv_iload_n hx hb dX8_least_51 rfl (lv_at hl 2 rfl) ?_
            obtain ⟨a15, ea15, hm⟩ := bdE hm
            refine cg_aaldA C hw (ty := .array .long) rfl rfl (aR_E ea15) dX8_least_52 ?_
            refine lv_iload_n hx hb dX8_least_53 rfl (lv_at hl 1 rfl) ?_
            obtain ⟨v16, ev16, hm⟩ := bdE hm
            refine cg_lald C hw ev16 dX8_least_54 ?_
            obtain ⟨r17, er17, hm⟩ := bdE hm
            refine scl (va_runS (As := [.long v16]) (rest := [.long r12]) ⟨hx, hb, hml, hown, hts⟩ (w_J9_abs l er17) (cw_J9_abs hts q983 ⟨Nat.le_of_ble_eq_true rfl, Nat.le_of_ble_eq_true rfl⟩) (pre_s _) rfl rfl hl.1 rfl (lv_room (Nat.le_of_ble_eq_true rfl)) dX8_least_55 ⟨show cc + 0 ≤ u9.1 - u.1 by omega, show ss + 0 ≤ u9.2.1 - u.2.1 by omega⟩) ?_
            refine lc_ge (tgt := 64) hx hb dX8_least_58 dX8_least_59 (by decide) (fun c18 => ?_) (fun c18 => ?_)
            · have hm := ifT hm c18
              exact hB64 h x0 x1 x2 x3 _ _ _ _ _ hm hw (by omega) (by omega) (lv_sub hl [0, 1, 2, 3] rfl)
            · have hm := ifF hm c18
              exact hB62 h x0 x1 x3 _ _ _ _ _ hm hw (by omega) (by omega) (lv_sub hl [0, 1, 3] rfl)
  rw [m_X8_least] at hm
  refine lv_iconst (v := -1) hx hb dX8_least_0 (by decide) ?_
  refine lv_istore_n (lv' := [(2, .int (-1 : Int32)), (0, .ref x0), (1, .int x1)]) hx hb dX8_least_1 rfl hl (by decide) rfl (fun ls hl => ?_)
  refine lv_iload_n hx hb dX8_least_2 rfl (lv_at hl 2 rfl) ?_
  refine lv_istore_n (lv' := [(3, .int x1), (2, .int (-1 : Int32)), (0, .ref x0), (1, .int x1)]) hx hb dX8_least_3 rfl hl (by decide) rfl (fun ls hl => ?_)
  exact hB4 f u x0 x1 (-1 : Int32) x1 _ _ _ _ _ hm hw (by omega) (by omega) (lv_sub hl [2, 3, 1, 0] rfl)
def m_X9_init (f : Nat) (u : CH) (x0 : Nat) (x1 : Int32) (x2 : Int32) (x3 : Int32) (x4 : Int64) : Option CH := bd (pF u 9 0 x0 (.int x1)) fun h1 =>
    bd (pF h1 9 1 x0 (.int x2)) fun h2 =>
    bd (pF h2 9 2 x0 (.int x3)) fun h3 =>
    bd (pF h3 9 3 x0 (.long x4)) fun h4 =>
    some h4
theorem mo_X9_init {f : Nat} {u : CH} {x0 : Nat} {x1 : Int32} {x2 : Int32} {x3 : Int32} {x4 : Int64} {u9 : CH} (hm : m_X9_init f u x0 x1 x2 x3 x4 = some u9) : le2 u u9 := by
  rw [m_X9_init] at hm
  obtain ⟨h1, eh1, hm⟩ := bdE hm
  have lh1 := pF_le eh1
  obtain ⟨h2, eh2, hm⟩ := bdE hm
  have lh2 := pF_le eh2
  obtain ⟨h3, eh3, hm⟩ := bdE hm
  have lh3 := pF_le eh3
  obtain ⟨h4, eh4, hm⟩ := bdE hm
  have lh4 := pF_le eh4
  cases hm
  exact (lh1.tr (lh2.tr (lh3.tr (lh4.tr le2.rf))))
abbrev rm_X9_init (mc ms : Nat) : Room := { frames := 1, cells := mc, slots := ms, locals := 20 }
theorem cw_X9_init {R : Room} {s : State} {args : Array Value} {own : String} {idx mc ms : Nat} (hts : ∀ w ∈ lw_all, w.before args s = true) (hl : Cond.methodLink own idx yX9_init ∈ lw_all) (hR : 1 + 1 ≤ R.frames ∧ 8 + (6 + 11) + 20 ≤ R.locals) : CallB R s args own idx yX9_init cX9_init 6 none (ws_ yX9_init cX9_init 6 (Option.none : Option Jvm.ClassFile.FieldType)) (rm_X9_init mc ms) mc ms 4 ∧ yX9_init.name = "<init>" ∧ (Cond.instanceMethod yX9_init).before args s = true := cwI 4 hts (lw_meth q992) rfl rfl rfl (hts _ q146) (hts _ hl) (hts _ q991) rfl (by decide +kernel) hR
set_option maxHeartbeats 4000000 in
set_option maxRecDepth 100000 in
theorem w_X9_init (l : Launch) {D : va_G} {dA : Nat → ClassId} {A : Nat → Prop} {f : Nat} {u u9 : CH} {x0 : Nat} {x1 : Int32} {x2 : Int32} {x3 : Int32} {x4 : Int64} (hm : m_X9_init f u x0 x1 x2 x3 x4 = some u9) : Met l yX9_init (ws_ yX9_init cX9_init 6 (Option.none : Option Jvm.ClassFile.FieldType)) (rm_X9_init (u9.1 - u.1) (u9.2.1 - u.2.1)) (va_Pc [.ref x0, .int x1, .int x2, .int x3, .long x4] (CPre D dA A u)) (va_Qv (fun u => u = u9) (CPost D dA A) A) (u9.1 - u.1) (u9.2.1 - u.2.1) A := by
  refine Met.ofW (cc := cX9_init) (maxL := 6) (ret := (Option.none : Option Jvm.ClassFile.FieldType)) (by decide) rfl ?_
  intro p e s m args below meth c s₁ B hml hv
  have hx := B.exec
  have hb := B.bytes
  have hr := B.returns
  have hts := atoms_spec (ws := (ws_ yX9_init cX9_init 6 (Option.none : Option Jvm.ClassFile.FieldType))) B.pre
  have hts : ∀ w ∈ lw_all, w.before args s = true := fun w h => hts w (List.mem_cons_of_mem _ h)
  have hown : s.vm.findClass RX9 = some m.cls := findClass_of_methodNamed B.named
  have hlocks := B.notSynchronized
  have hin : meth.name = "<init>" := (name_of_methodNamed B.named B.method).1
  obtain ⟨hav, hv⟩ := hv
  have C : CX p s m args c cX9_init RX9 D dA := ⟨hx, hb, hown, hts, hv.2⟩
  have hw : CW D dA A s u s.heap [] := hv.1
  generalize hQ : MQ below (va_Qv (fun u => u = u9) (CPost D dA A) A) args s (u9.1 - u.1) (u9.2.1 - u.2.1) A = QQ
  have hent := lg_entry_eq m [.ref x0, .int x1, .int x2, .int x3, .long x4] 6
  rw [← hav] at hent
  rw [hent]
  have hl := lv_entry ([.ref x0, .int x1, .int x2, .int x3, .long x4]) (n := 6) (Nat.le_of_ble_eq_true rfl)
  generalize (lg_sl ([.ref x0, .int x1, .int x2, .int x3, .long x4]) ++ List.replicate (6 - (lg_sl ([.ref x0, .int x1, .int x2, .int x3, .long x4])).length) Slot.unset).toArray = ls at hl ⊢
  have hl : lv_has ls 6 [(0, .ref x0), (1, .int x1), (2, .int x2), (3, .int x3), (4, .long x4)] := hl
  obtain ⟨cc, ecc⟩ : ∃ z : Nat, z = 0 := ⟨0, rfl⟩
  obtain ⟨ss, ess⟩ : ∃ z : Nat, z = 0 := ⟨0, rfl⟩
  have hcc : cc + u.1 = u.1 := by omega
  have hss : ss + u.2.1 = u.2.1 := by omega
  suffices hgo : W p l e (rm_X9_init (u9.1 - u.1) (u9.2.1 - u.2.1)) s m args below meth c s.heap [] cc ss QQ (F0 m 0 ls []) by rw [ecc, ess] at hgo; exact hgo
  have ⟨pu, qu, _, _⟩ := mo_X9_init hm
  rw [m_X9_init] at hm
  refine lv_aload_n hx hb dX9_init_0 rfl (lv_at hl 0 rfl) ?_
  refine W.objInit hx hb hown (hts _ q993) (hts _ q161) (hts _ q162) rfl (by rw [hml]; exact hl.1) rfl dX9_init_1 (Nat.le_of_ble_eq_true rfl) (Nat.le_of_ble_eq_true rfl) ?_
  refine W.eq (g2 := F0 m 4 ls []) rfl ?_
  refine lv_aload_n hx hb dX9_init_4 rfl (lv_at hl 0 rfl) ?_
  refine lv_iload_n hx hb dX9_init_5 rfl (lv_at hl 1 rfl) ?_
  obtain ⟨h1, eh1, hm⟩ := bdE hm
  refine cg_putF C hw eh1 rfl in_X9 tyX9 tyX9_ok nmX9 (by decide) q994 rfl hin rfl rfl rfl dX9_init_6 (fun H locs hw => ?_)
  have zh1 := pF_sz eh1
  refine lv_aload_n hx hb dX9_init_9 rfl (lv_at hl 0 rfl) ?_
  refine lv_iload_n hx hb dX9_init_10 rfl (lv_at hl 2 rfl) ?_
  obtain ⟨h2, eh2, hm⟩ := bdE hm
  refine cg_putF C hw eh2 rfl in_X9 tyX9 tyX9_ok nmX9 (by decide) q996 rfl hin rfl rfl rfl dX9_init_11 (fun H locs hw => ?_)
  have zh2 := pF_sz eh2
  refine lv_aload_n hx hb dX9_init_14 rfl (lv_at hl 0 rfl) ?_
  refine lv_iload_n hx hb dX9_init_15 rfl (lv_at hl 3 rfl) ?_
  obtain ⟨h3, eh3, hm⟩ := bdE hm
  refine cg_putF C hw eh3 rfl in_X9 tyX9 tyX9_ok nmX9 (by decide) q998 rfl hin rfl rfl rfl dX9_init_16 (fun H locs hw => ?_)
  have zh3 := pF_sz eh3
  refine lv_aload_n hx hb dX9_init_19 rfl (lv_at hl 0 rfl) ?_
  refine lv_lload hx hb dX9_init_20 (lv_at hl 4 rfl) ?_
  obtain ⟨h4, eh4, hm⟩ := bdE hm
  refine cg_putF C hw eh4 rfl in_X9 tyX9 tyX9_ok nmX9 (by decide) q1000 rfl hin rfl rfl rfl dX9_init_22 (fun H locs hw => ?_)
  have zh4 := pF_sz eh4
  have eh := ret1 hm
  have ec : cc = u9.1 - u.1 := by rw [← eh]; omega
  have es : ss = u9.2.1 - u.2.1 := by rw [← eh]; omega
  rw [ec, es, ← hQ]
  exact W.vret hx hb hr (fun t ht hW => ⟨⟨h4, rfl, eh, ⟨by rw [ht]; exact hw.1, by rw [ht]; exact hw.2.1⟩⟩, hw.2.2.1.F ht⟩) hw.2.2.1.2.2 dX9_init_25
def m_X2_adds_38 (f : Nat) (h : CH) : Option CH := some h
theorem mo_X2_adds_38 {f : Nat} : ∀ (h : CH) (r : CH), m_X2_adds_38 f h = some r → le2 h r := by
  intro h r hm
  rw [m_X2_adds_38] at hm
  cases hm
  exact le2.rf
def m_X2_adds_3 (f : Nat) : Nat → CH → Nat → Int32 → Int32 → Int64 → Int32 → Option CH
  | 0, _, _, _, _, _, _ => none
  | n3 + 1, h, x0, x1, x2, x3, x5 => if (3 : Int32) ≤ x5 then
    m_X2_adds_38 f h
    else bd (oR h 3 0 x0) fun a2 =>
    bd (aR h 4 a2 x1) fun a3 =>
    bd (aL h 1 a3 x5) fun v4 =>
    bd (oR h 3 0 x0) fun a5 =>
    bd (aR h 4 a5 x2) fun a6 =>
    bd (aL h 1 a6 x5) fun v7 =>
    bd (uL h 1 a3 x5 (v4 + (x3 * v7))) fun h8 =>
    nmv ((x5 + 1) : Int32) fun v9 =>
    m_X2_adds_3 f n3 h8 x0 x1 x2 x3 v9
theorem mo_X2_adds_3 {f : Nat} : ∀ (n3 : Nat) (h : CH) (x0 : Nat) (x1 : Int32) (x2 : Int32) (x3 : Int64) (x5 : Int32) (r : CH), m_X2_adds_3 f n3 h x0 x1 x2 x3 x5 = some r → le2 h r := by
  intro n3
  induction n3 with
  | zero => intro h x0 x1 x2 x3 x5 r hm; rw [m_X2_adds_3] at hm; exact noE hm
  | succ n3 ihm =>
    intro h x0 x1 x2 x3 x5 r hm
    rw [m_X2_adds_3] at hm
    by_cases c1 : (3 : Int32) ≤ x5
    · have hm := ifT hm c1
      exact (mo_X2_adds_38  h _ hm)
    · have hm := ifF hm c1
      obtain ⟨a2, ea2, hm⟩ := bdE hm
      obtain ⟨a3, ea3, hm⟩ := bdE hm
      obtain ⟨v4, ev4, hm⟩ := bdE hm
      obtain ⟨a5, ea5, hm⟩ := bdE hm
      obtain ⟨a6, ea6, hm⟩ := bdE hm
      obtain ⟨v7, ev7, hm⟩ := bdE hm
      obtain ⟨h8, eh8, hm⟩ := bdE hm
      have lh8 := uL_le eh8
      obtain ⟨v9, ev9, hm⟩ := nmE hm
      exact (lh8.tr (ihm h8 x0 x1 x2 x3 v9 _ hm))
def m_X2_adds (f : Nat) (u : CH) (x0 : Nat) (x1 : Int32) (x2 : Int32) (x3 : Int64) : Option CH := m_X2_adds_3 f f u x0 x1 x2 x3 (0 : Int32)
theorem mo_X2_adds {f : Nat} {u : CH} {x0 : Nat} {x1 : Int32} {x2 : Int32} {x3 : Int64} {u9 : CH} (hm : m_X2_adds f u x0 x1 x2 x3 = some u9) : le2 u u9 := by
  rw [m_X2_adds] at hm
  exact (mo_X2_adds_3  f u x0 x1 x2 x3 (0 : Int32) _ hm)
abbrev rm_X2_adds (mc ms : Nat) : Room := { frames := 0, cells := mc, slots := ms, locals := 0 }
theorem cw_X2_adds {R : Room} {s : State} {args : Array Value} {own : String} {idx mc ms : Nat} (hts : ∀ w ∈ lw_all, w.before args s = true) (hl : Cond.methodLink own idx yX2_adds ∈ lw_all) (hR : 0 + 1 ≤ R.frames ∧ 8 + (6 + 11) + 0 ≤ R.locals) : CallW R s args own RX2 idx yX2_adds cX2_adds 6 (Option.none : Option Jvm.ClassFile.FieldType) (ws_ yX2_adds cX2_adds 6 (Option.none : Option Jvm.ClassFile.FieldType)) (rm_X2_adds mc ms) mc ms 3 := cwV 3 hts (lw_V hl q1016 q1017 q124 q1018) rfl rfl rfl (by decide +kernel) hR
set_option maxHeartbeats 4000000 in
set_option maxRecDepth 100000 in
theorem w_X2_adds (l : Launch) {D : va_G} {dA : Nat → ClassId} {A : Nat → Prop} {f : Nat} {u u9 : CH} {x0 : Nat} {x1 : Int32} {x2 : Int32} {x3 : Int64} (hm : m_X2_adds f u x0 x1 x2 x3 = some u9) : Met l yX2_adds (ws_ yX2_adds cX2_adds 6 (Option.none : Option Jvm.ClassFile.FieldType)) (rm_X2_adds (u9.1 - u.1) (u9.2.1 - u.2.1)) (va_Pc [.ref x0, .int x1, .int x2, .long x3] (CPre D dA A u)) (va_Qv (fun u => u = u9) (CPost D dA A) A) (u9.1 - u.1) (u9.2.1 - u.2.1) A := by
  refine Met.ofW (cc := cX2_adds) (maxL := 6) (ret := (Option.none : Option Jvm.ClassFile.FieldType)) (by decide) rfl ?_
  intro p e s m args below meth c s₁ B hml hv
  have hx := B.exec
  have hb := B.bytes
  have hr := B.returns
  have hts := atoms_spec (ws := (ws_ yX2_adds cX2_adds 6 (Option.none : Option Jvm.ClassFile.FieldType))) B.pre
  have hts : ∀ w ∈ lw_all, w.before args s = true := fun w h => hts w (List.mem_cons_of_mem _ h)
  have hown : s.vm.findClass RX2 = some m.cls := findClass_of_methodNamed B.named
  have hlocks := B.notSynchronized
  obtain ⟨hav, hv⟩ := hv
  have C : CX p s m args c cX2_adds RX2 D dA := ⟨hx, hb, hown, hts, hv.2⟩
  have hw : CW D dA A s u s.heap [] := hv.1
  generalize hQ : MQ below (va_Qv (fun u => u = u9) (CPost D dA A) A) args s (u9.1 - u.1) (u9.2.1 - u.2.1) A = QQ
  have hent := lg_entry_eq m [.ref x0, .int x1, .int x2, .long x3] 6
  rw [← hav] at hent
  rw [hent]
  have hl := lv_entry ([.ref x0, .int x1, .int x2, .long x3]) (n := 6) (Nat.le_of_ble_eq_true rfl)
  generalize (lg_sl ([.ref x0, .int x1, .int x2, .long x3]) ++ List.replicate (6 - (lg_sl ([.ref x0, .int x1, .int x2, .long x3])).length) Slot.unset).toArray = ls at hl ⊢
  have hl : lv_has ls 6 [(0, .ref x0), (1, .int x1), (2, .int x2), (3, .long x3)] := hl
  obtain ⟨cc, ecc⟩ : ∃ z : Nat, z = 0 := ⟨0, rfl⟩
  obtain ⟨ss, ess⟩ : ∃ z : Nat, z = 0 := ⟨0, rfl⟩
  have hcc : cc + u.1 = u.1 := by omega
  have hss : ss + u.2.1 = u.2.1 := by omega
  suffices hgo : W p l e (rm_X2_adds (u9.1 - u.1) (u9.2.1 - u.2.1)) s m args below meth c s.heap [] cc ss QQ (F0 m 0 ls []) by rw [ecc, ess] at hgo; exact hgo
  have ⟨pu, qu, _, _⟩ := mo_X2_adds hm
  have hB38 : ∀ (h : CH) (cc ss : Nat) (H : Heap) (locs : List Loc) (ls : Array Slot), m_X2_adds_38 f h = some u9 → CW D dA A s h H locs → cc + u.1 = h.1 → ss + u.2.1 = h.2.1 → lv_has ls 6 [] → W p l e (rm_X2_adds (u9.1 - u.1) (u9.2.1 - u.2.1)) s m args below meth c H locs cc ss QQ (F0 m 38 ls []) := by
    intro h cc ss H locs ls hm hw hcc hss hl
    have hmo := mo_X2_adds_38  h _ hm
    have sb_ : h.1 ≤ u9.1 := hmo.1
    have tb_ : h.2.1 ≤ u9.2.1 := hmo.2.1
    rw [m_X2_adds_38] at hm
    have eh := ret1 hm
    have ec : cc = u9.1 - u.1 := by rw [← eh]; omega
    have es : ss = u9.2.1 - u.2.1 := by rw [← eh]; omega
    rw [ec, es, ← hQ]
    exact W.vret hx hb hr (fun t ht hW => ⟨⟨h, rfl, eh, ⟨by rw [ht]; exact hw.1, by rw [ht]; exact hw.2.1⟩⟩, hw.2.2.1.F ht⟩) hw.2.2.1.2.2 dX2_adds_38
  have hB3 : ∀ (n3 : Nat), ∀ (h : CH) (x0 : Nat) (x1 : Int32) (x2 : Int32) (x3 : Int64) (x5 : Int32) (cc ss : Nat) (H : Heap) (locs : List Loc) (ls : Array Slot), m_X2_adds_3 f n3 h x0 x1 x2 x3 x5 = some u9 → CW D dA A s h H locs → cc + u.1 = h.1 → ss + u.2.1 = h.2.1 → lv_has ls 6 [(0, .ref x0), (1, .int x1), (2, .int x2), (3, .long x3), (5, .int x5)] → W p l e (rm_X2_adds (u9.1 - u.1) (u9.2.1 - u.2.1)) s m args below meth c H locs cc ss QQ (F0 m 3 ls []) := by
    intro n3
    induction n3 with
    | zero => intro h x0 x1 x2 x3 x5 cc ss H locs ls hm hw hcc hss hl; rw [m_X2_adds_3] at hm; exact noE hm
    | succ n3 ih3 =>
      intro h x0 x1 x2 x3 x5 cc ss H locs ls hm hw hcc hss hl
      have hmo := mo_X2_adds_3  (n3 + 1) h x0 x1 x2 x3 x5 _ hm
      have sb_ : h.1 ≤ u9.1 := hmo.1
      have tb_ : h.2.1 ≤ u9.2.1 := hmo.2.1
      rw [m_X2_adds_3] at hm
      refine lv_iload hx hb dX2_adds_3 (lv_at hl 4 rfl) ?_
      refine lv_iconst (v := 3) hx hb dX2_adds_5 (by decide) ?_
      refine lv_icmp_ge (tgt := 38) hx hb dX2_adds_6 (by decide) (fun c1 => ?_) (fun c1 => ?_)
      · have hm := ifT hm c1
        exact hB38 h _ _ _ _ _ hm hw (by omega) (by omega) (lv_sub hl [] rfl)
      · have hm := ifF hm c1
        refine lv_aload_n hx hb dX2_adds_9 rfl (lv_at hl 0 rfl) ?_
        obtain ⟨a2, ea2, hm⟩ := bdE hm
        refine cg_get C hw (oR_E ea2) rfl in_X2 (by decide) q205 dX2_adds_10 ?_
        refine lv_iload_n hx hb dX2_adds_13 rfl (lv_at hl 1 rfl) ?_
        obtain ⟨a3, ea3, hm⟩ := bdE hm
        refine cg_aaldA C hw (ty := .array .long) rfl rfl (aR_E ea3) dX2_adds_14 ?_
        refine lv_iload hx hb dX2_adds_15 (lv_at hl 4 rfl) ?_
        refine lv_dup2_11 hx hb dX2_adds_17 rfl rfl ?_
        obtain ⟨v4, ev4, hm⟩ := bdE hm
        refine cg_lald C hw ev4 dX2_adds_18 ?_
        refine lv_lload_n hx hb dX2_adds_19 rfl (lv_at hl 3 rfl) ?_
        refine lv_aload_n hx hb dX2_adds_20 rfl (lv_at hl 0 rfl) ?_
        obtain ⟨a5, ea5, hm⟩ := bdE hm
        refine cg_get C hw (oR_E ea5) rfl in_X2 (by decide) q205 dX2_adds_21 ?_
        refine lv_iload_n hx hb dX2_adds_24 rfl (lv_at hl 2 rfl) ?_
        obtain ⟨a6, ea6, hm⟩ := bdE hm
        refine cg_aaldA C hw (ty := .array .long) rfl rfl (aR_E ea6) dX2_adds_25 ?_
        refine lv_iload hx hb dX2_adds_26 (lv_at hl 4 rfl) ?_
        obtain ⟨v7, ev7, hm⟩ := bdE hm
        refine cg_lald C hw ev7 dX2_adds_28 ?_
        refine lv_lmul hx hb dX2_adds_29 ?_
        refine lv_ladd hx hb dX2_adds_30 ?_
        obtain ⟨h8, eh8, hm⟩ := bdE hm
        refine cg_last C hw eh8 dX2_adds_31 (fun H locs hw => ?_)
        have zh8 := uL_sz eh8
        obtain ⟨v9, ev9, hm⟩ := nmE hm
        refine lv_iinc (v := v9) (lv' := [(5, .int v9), (0, .ref x0), (1, .int x1), (2, .int x2), (3, .long x3)]) hx hb dX2_adds_32 hl (k := 4) rfl (by rw [ev9]; rfl) (by decide) rfl (fun ls hl => ?_)
        refine lv_goto (tgt := 3) hx hb dX2_adds_35 (by decide) ?_
        exact ih3 h8 x0 x1 x2 x3 v9 _ _ _ _ _ hm hw (by omega) (by omega) (lv_sub hl [1, 2, 3, 4, 0] rfl)
  rw [m_X2_adds] at hm
  refine lv_iconst (v := 0) hx hb dX2_adds_0 (by decide) ?_
  refine lv_istore (lv' := [(5, .int (0 : Int32)), (0, .ref x0), (1, .int x1), (2, .int x2), (3, .long x3)]) hx hb dX2_adds_1 hl (by decide) rfl (fun ls hl => ?_)
  exact hB3 f u x0 x1 x2 x3 (0 : Int32) _ _ _ _ _ hm hw (by omega) (by omega) (lv_sub hl [1, 2, 3, 4, 0] rfl)
def m_X2_turnsOver_30 (f : Nat) (h : CH) : Option CH := some h
theorem mo_X2_turnsOver_30 {f : Nat} : ∀ (h : CH) (r : CH), m_X2_turnsOver_30 f h = some r → le2 h r := by
  intro h r hm
  rw [m_X2_turnsOver_30] at hm
  cases hm
  exact le2.rf
def m_X2_turnsOver_2 (f : Nat) : Nat → CH → Nat → Int32 → Int32 → Option CH
  | 0, _, _, _, _ => none
  | n2 + 1, h, x0, x1, x2 => if (3 : Int32) ≤ x2 then
    m_X2_turnsOver_30 f h
    else bd (oR h 3 0 x0) fun a2 =>
    bd (aR h 4 a2 x1) fun a3 =>
    bd (oR h 3 0 x0) fun a4 =>
    bd (aR h 4 a4 x1) fun a5 =>
    bd (aL h 1 a5 x2) fun v6 =>
    bd (uL h 1 a3 x2 (-v6)) fun h7 =>
    nmv ((x2 + 1) : Int32) fun v8 =>
    m_X2_turnsOver_2 f n2 h7 x0 x1 v8
theorem mo_X2_turnsOver_2 {f : Nat} : ∀ (n2 : Nat) (h : CH) (x0 : Nat) (x1 : Int32) (x2 : Int32) (r : CH), m_X2_turnsOver_2 f n2 h x0 x1 x2 = some r → le2 h r := by
  intro n2
  induction n2 with
  | zero => intro h x0 x1 x2 r hm; rw [m_X2_turnsOver_2] at hm; exact noE hm
  | succ n2 ihm =>
    intro h x0 x1 x2 r hm
    rw [m_X2_turnsOver_2] at hm
    by_cases c1 : (3 : Int32) ≤ x2
    · have hm := ifT hm c1
      exact (mo_X2_turnsOver_30  h _ hm)
    · have hm := ifF hm c1
      obtain ⟨a2, ea2, hm⟩ := bdE hm
      obtain ⟨a3, ea3, hm⟩ := bdE hm
      obtain ⟨a4, ea4, hm⟩ := bdE hm
      obtain ⟨a5, ea5, hm⟩ := bdE hm
      obtain ⟨v6, ev6, hm⟩ := bdE hm
      obtain ⟨h7, eh7, hm⟩ := bdE hm
      have lh7 := uL_le eh7
      obtain ⟨v8, ev8, hm⟩ := nmE hm
      exact (lh7.tr (ihm h7 x0 x1 v8 _ hm))
def m_X2_turnsOver (f : Nat) (u : CH) (x0 : Nat) (x1 : Int32) : Option CH := m_X2_turnsOver_2 f f u x0 x1 (0 : Int32)
theorem mo_X2_turnsOver {f : Nat} {u : CH} {x0 : Nat} {x1 : Int32} {u9 : CH} (hm : m_X2_turnsOver f u x0 x1 = some u9) : le2 u u9 := by
  rw [m_X2_turnsOver] at hm
  exact (mo_X2_turnsOver_2  f u x0 x1 (0 : Int32) _ hm)
abbrev rm_X2_turnsOver (mc ms : Nat) : Room := { frames := 0, cells := mc, slots := ms, locals := 0 }
theorem cw_X2_turnsOver {R : Room} {s : State} {args : Array Value} {own : String} {idx mc ms : Nat} (hts : ∀ w ∈ lw_all, w.before args s = true) (hl : Cond.methodLink own idx yX2_turnsOver ∈ lw_all) (hR : 0 + 1 ≤ R.frames ∧ 8 + (3 + 11) + 0 ≤ R.locals) : CallW R s args own RX2 idx yX2_turnsOver cX2_turnsOver 3 (Option.none : Option Jvm.ClassFile.FieldType) (ws_ yX2_turnsOver cX2_turnsOver 3 (Option.none : Option Jvm.ClassFile.FieldType)) (rm_X2_turnsOver mc ms) mc ms 1 := cwV 1 hts (lw_V hl q1020 q1021 q124 q1022) rfl rfl rfl (by decide +kernel) hR
set_option maxHeartbeats 4000000 in
set_option maxRecDepth 100000 in
theorem w_X2_turnsOver (l : Launch) {D : va_G} {dA : Nat → ClassId} {A : Nat → Prop} {f : Nat} {u u9 : CH} {x0 : Nat} {x1 : Int32} (hm : m_X2_turnsOver f u x0 x1 = some u9) : Met l yX2_turnsOver (ws_ yX2_turnsOver cX2_turnsOver 3 (Option.none : Option Jvm.ClassFile.FieldType)) (rm_X2_turnsOver (u9.1 - u.1) (u9.2.1 - u.2.1)) (va_Pc [.ref x0, .int x1] (CPre D dA A u)) (va_Qv (fun u => u = u9) (CPost D dA A) A) (u9.1 - u.1) (u9.2.1 - u.2.1) A := by
  refine Met.ofW (cc := cX2_turnsOver) (maxL := 3) (ret := (Option.none : Option Jvm.ClassFile.FieldType)) (by decide) rfl ?_
  intro p e s m args below meth c s₁ B hml hv
  have hx := B.exec
  have hb := B.bytes
  have hr := B.returns
  have hts := atoms_spec (ws := (ws_ yX2_turnsOver cX2_turnsOver 3 (Option.none : Option Jvm.ClassFile.FieldType))) B.pre
  have hts : ∀ w ∈ lw_all, w.before args s = true := fun w h => hts w (List.mem_cons_of_mem _ h)
  have hown : s.vm.findClass RX2 = some m.cls := findClass_of_methodNamed B.named
  have hlocks := B.notSynchronized
  obtain ⟨hav, hv⟩ := hv
  have C : CX p s m args c cX2_turnsOver RX2 D dA := ⟨hx, hb, hown, hts, hv.2⟩
  have hw : CW D dA A s u s.heap [] := hv.1
  generalize hQ : MQ below (va_Qv (fun u => u = u9) (CPost D dA A) A) args s (u9.1 - u.1) (u9.2.1 - u.2.1) A = QQ
  have hent := lg_entry_eq m [.ref x0, .int x1] 3
  rw [← hav] at hent
  rw [hent]
  have hl := lv_entry ([.ref x0, .int x1]) (n := 3) (Nat.le_of_ble_eq_true rfl)
  generalize (lg_sl ([.ref x0, .int x1]) ++ List.replicate (3 - (lg_sl ([.ref x0, .int x1])).length) Slot.unset).toArray = ls at hl ⊢
  have hl : lv_has ls 3 [(0, .ref x0), (1, .int x1)] := hl
  obtain ⟨cc, ecc⟩ : ∃ z : Nat, z = 0 := ⟨0, rfl⟩
  obtain ⟨ss, ess⟩ : ∃ z : Nat, z = 0 := ⟨0, rfl⟩
  have hcc : cc + u.1 = u.1 := by omega
  have hss : ss + u.2.1 = u.2.1 := by omega
  suffices hgo : W p l e (rm_X2_turnsOver (u9.1 - u.1) (u9.2.1 - u.2.1)) s m args below meth c s.heap [] cc ss QQ (F0 m 0 ls []) by rw [ecc, ess] at hgo; exact hgo
  have ⟨pu, qu, _, _⟩ := mo_X2_turnsOver hm
  have hB30 : ∀ (h : CH) (cc ss : Nat) (H : Heap) (locs : List Loc) (ls : Array Slot), m_X2_turnsOver_30 f h = some u9 → CW D dA A s h H locs → cc + u.1 = h.1 → ss + u.2.1 = h.2.1 → lv_has ls 3 [] → W p l e (rm_X2_turnsOver (u9.1 - u.1) (u9.2.1 - u.2.1)) s m args below meth c H locs cc ss QQ (F0 m 30 ls []) := by
    intro h cc ss H locs ls hm hw hcc hss hl
    have hmo := mo_X2_turnsOver_30  h _ hm
    have sb_ : h.1 ≤ u9.1 := hmo.1
    have tb_ : h.2.1 ≤ u9.2.1 := hmo.2.1
    rw [m_X2_turnsOver_30] at hm
    have eh := ret1 hm
    have ec : cc = u9.1 - u.1 := by rw [← eh]; omega
    have es : ss = u9.2.1 - u.2.1 := by rw [← eh]; omega
    rw [ec, es, ← hQ]
    exact W.vret hx hb hr (fun t ht hW => ⟨⟨h, rfl, eh, ⟨by rw [ht]; exact hw.1, by rw [ht]; exact hw.2.1⟩⟩, hw.2.2.1.F ht⟩) hw.2.2.1.2.2 dX2_turnsOver_30
  have hB2 : ∀ (n2 : Nat), ∀ (h : CH) (x0 : Nat) (x1 : Int32) (x2 : Int32) (cc ss : Nat) (H : Heap) (locs : List Loc) (ls : Array Slot), m_X2_turnsOver_2 f n2 h x0 x1 x2 = some u9 → CW D dA A s h H locs → cc + u.1 = h.1 → ss + u.2.1 = h.2.1 → lv_has ls 3 [(0, .ref x0), (1, .int x1), (2, .int x2)] → W p l e (rm_X2_turnsOver (u9.1 - u.1) (u9.2.1 - u.2.1)) s m args below meth c H locs cc ss QQ (F0 m 2 ls []) := by
    intro n2
    induction n2 with
    | zero => intro h x0 x1 x2 cc ss H locs ls hm hw hcc hss hl; rw [m_X2_turnsOver_2] at hm; exact noE hm
    | succ n2 ih2 =>
      intro h x0 x1 x2 cc ss H locs ls hm hw hcc hss hl
      have hmo := mo_X2_turnsOver_2  (n2 + 1) h x0 x1 x2 _ hm
      have sb_ : h.1 ≤ u9.1 := hmo.1
      have tb_ : h.2.1 ≤ u9.2.1 := hmo.2.1
      rw [m_X2_turnsOver_2] at hm
      refine lv_iload_n hx hb dX2_turnsOver_2 rfl (lv_at hl 2 rfl) ?_
      refine lv_iconst (v := 3) hx hb dX2_turnsOver_3 (by decide) ?_
      refine lv_icmp_ge (tgt := 30) hx hb dX2_turnsOver_4 (by decide) (fun c1 => ?_) (fun c1 => ?_)
      · have hm := ifT hm c1
        exact hB30 h _ _ _ _ _ hm hw (by omega) (by omega) (lv_sub hl [] rfl)
      · have hm := ifF hm c1
        refine lv_aload_n hx hb dX2_turnsOver_7 rfl (lv_at hl 0 rfl) ?_
        obtain ⟨a2, ea2, hm⟩ := bdE hm
        refine cg_get C hw (oR_E ea2) rfl in_X2 (by decide) q205 dX2_turnsOver_8 ?_
        refine lv_iload_n hx hb dX2_turnsOver_11 rfl (lv_at hl 1 rfl) ?_
        obtain ⟨a3, ea3, hm⟩ := bdE hm
        refine cg_aaldA C hw (ty := .array .long) rfl rfl (aR_E ea3) dX2_turnsOver_12 ?_
        refine lv_iload_n hx hb dX2_turnsOver_13 rfl (lv_at hl 2 rfl) ?_
        refine lv_aload_n hx hb dX2_turnsOver_14 rfl (lv_at hl 0 rfl) ?_
        obtain ⟨a4, ea4, hm⟩ := bdE hm
        refine cg_get C hw (oR_E ea4) rfl in_X2 (by decide) q205 dX2_turnsOver_15 ?_
        refine lv_iload_n hx hb dX2_turnsOver_18 rfl (lv_at hl 1 rfl) ?_
        obtain ⟨a5, ea5, hm⟩ := bdE hm
        refine cg_aaldA C hw (ty := .array .long) rfl rfl (aR_E ea5) dX2_turnsOver_19 ?_
        refine lv_iload_n hx hb dX2_turnsOver_20 rfl (lv_at hl 2 rfl) ?_
        obtain ⟨v6, ev6, hm⟩ := bdE hm
        refine cg_lald C hw ev6 dX2_turnsOver_21 ?_
        refine lv_lneg hx hb dX2_turnsOver_22 ?_
        obtain ⟨h7, eh7, hm⟩ := bdE hm
        refine cg_last C hw eh7 dX2_turnsOver_23 (fun H locs hw => ?_)
        have zh7 := uL_sz eh7
        obtain ⟨v8, ev8, hm⟩ := nmE hm
        refine lv_iinc (v := v8) (lv' := [(2, .int v8), (0, .ref x0), (1, .int x1)]) hx hb dX2_turnsOver_24 hl (k := 2) rfl (by rw [ev8]; rfl) (by decide) rfl (fun ls hl => ?_)
        refine lv_goto (tgt := 2) hx hb dX2_turnsOver_27 (by decide) ?_
        exact ih2 h7 x0 x1 v8 _ _ _ _ _ hm hw (by omega) (by omega) (lv_sub hl [1, 2, 0] rfl)
  rw [m_X2_turnsOver] at hm
  refine lv_iconst (v := 0) hx hb dX2_turnsOver_0 (by decide) ?_
  refine lv_istore_n (lv' := [(2, .int (0 : Int32)), (0, .ref x0), (1, .int x1)]) hx hb dX2_turnsOver_1 rfl hl (by decide) rfl (fun ls hl => ?_)
  exact hB2 f u x0 x1 (0 : Int32) _ _ _ _ _ hm hw (by omega) (by omega) (lv_sub hl [1, 2, 0] rfl)
def m_X2_exchanges_49 (f : Nat) (h : CH) : Option CH := some h
theorem mo_X2_exchanges_49 {f : Nat} : ∀ (h : CH) (r : CH), m_X2_exchanges_49 f h = some r → le2 h r := by
  intro h r hm
  rw [m_X2_exchanges_49] at hm
  cases hm
  exact le2.rf
def m_X2_exchanges_2 (f : Nat) : Nat → CH → Nat → Int32 → Int32 → Int32 → Option CH
  | 0, _, _, _, _, _ => none
  | n2 + 1, h, x0, x1, x2, x3 => if (3 : Int32) ≤ x3 then
    m_X2_exchanges_49 f h
    else bd (oR h 3 0 x0) fun a2 =>
    bd (aR h 4 a2 x1) fun a3 =>
    bd (aL h 1 a3 x3) fun v4 =>
    bd (oR h 3 0 x0) fun a5 =>
    bd (aR h 4 a5 x1) fun a6 =>
    bd (oR h 3 0 x0) fun a7 =>
    bd (aR h 4 a7 x2) fun a8 =>
    bd (aL h 1 a8 x3) fun v9 =>
    bd (uL h 1 a6 x3 v9) fun h10 =>
    bd (oR h10 3 0 x0) fun a11 =>
    bd (aR h10 4 a11 x2) fun a12 =>
    bd (uL h10 1 a12 x3 v4) fun h13 =>
    nmv ((x3 + 1) : Int32) fun v14 =>
    m_X2_exchanges_2 f n2 h13 x0 x1 x2 v14
theorem mo_X2_exchanges_2 {f : Nat} : ∀ (n2 : Nat) (h : CH) (x0 : Nat) (x1 : Int32) (x2 : Int32) (x3 : Int32) (r : CH), m_X2_exchanges_2 f n2 h x0 x1 x2 x3 = some r → le2 h r := by
  intro n2
  induction n2 with
  | zero => intro h x0 x1 x2 x3 r hm; rw [m_X2_exchanges_2] at hm; exact noE hm
  | succ n2 ihm =>
    intro h x0 x1 x2 x3 r hm
    rw [m_X2_exchanges_2] at hm
    by_cases c1 : (3 : Int32) ≤ x3
    · have hm := ifT hm c1
      exact (mo_X2_exchanges_49  h _ hm)
    · have hm := ifF hm c1
      obtain ⟨a2, ea2, hm⟩ := bdE hm
      obtain ⟨a3, ea3, hm⟩ := bdE hm
      obtain ⟨v4, ev4, hm⟩ := bdE hm
      obtain ⟨a5, ea5, hm⟩ := bdE hm
      obtain ⟨a6, ea6, hm⟩ := bdE hm
      obtain ⟨a7, ea7, hm⟩ := bdE hm
      obtain ⟨a8, ea8, hm⟩ := bdE hm
      obtain ⟨v9, ev9, hm⟩ := bdE hm
      obtain ⟨h10, eh10, hm⟩ := bdE hm
      have lh10 := uL_le eh10
      obtain ⟨a11, ea11, hm⟩ := bdE hm
      obtain ⟨a12, ea12, hm⟩ := bdE hm
      obtain ⟨h13, eh13, hm⟩ := bdE hm
      have lh13 := uL_le eh13
      obtain ⟨v14, ev14, hm⟩ := nmE hm
      exact (lh10.tr (lh13.tr (ihm h13 x0 x1 x2 v14 _ hm)))
def m_X2_exchanges (f : Nat) (u : CH) (x0 : Nat) (x1 : Int32) (x2 : Int32) : Option CH := m_X2_exchanges_2 f f u x0 x1 x2 (0 : Int32)
theorem mo_X2_exchanges {f : Nat} {u : CH} {x0 : Nat} {x1 : Int32} {x2 : Int32} {u9 : CH} (hm : m_X2_exchanges f u x0 x1 x2 = some u9) : le2 u u9 := by
  rw [m_X2_exchanges] at hm
  exact (mo_X2_exchanges_2  f u x0 x1 x2 (0 : Int32) _ hm)
abbrev rm_X2_exchanges (mc ms : Nat) : Room := { frames := 0, cells := mc, slots := ms, locals := 0 }
theorem cw_X2_exchanges {R : Room} {s : State} {args : Array Value} {own : String} {idx mc ms : Nat} (hts : ∀ w ∈ lw_all, w.before args s = true) (hl : Cond.methodLink own idx yX2_exchanges ∈ lw_all) (hR : 0 + 1 ≤ R.frames ∧ 8 + (6 + 11) + 0 ≤ R.locals) : CallW R s args own RX2 idx yX2_exchanges cX2_exchanges 6 (Option.none : Option Jvm.ClassFile.FieldType) (ws_ yX2_exchanges cX2_exchanges 6 (Option.none : Option Jvm.ClassFile.FieldType)) (rm_X2_exchanges mc ms) mc ms 2 := cwV 2 hts (lw_V hl q1024 q1025 q124 q1026) rfl rfl rfl (by decide +kernel) hR
set_option maxHeartbeats 4000000 in
set_option maxRecDepth 100000 in
theorem w_X2_exchanges (l : Launch) {D : va_G} {dA : Nat → ClassId} {A : Nat → Prop} {f : Nat} {u u9 : CH} {x0 : Nat} {x1 : Int32} {x2 : Int32} (hm : m_X2_exchanges f u x0 x1 x2 = some u9) : Met l yX2_exchanges (ws_ yX2_exchanges cX2_exchanges 6 (Option.none : Option Jvm.ClassFile.FieldType)) (rm_X2_exchanges (u9.1 - u.1) (u9.2.1 - u.2.1)) (va_Pc [.ref x0, .int x1, .int x2] (CPre D dA A u)) (va_Qv (fun u => u = u9) (CPost D dA A) A) (u9.1 - u.1) (u9.2.1 - u.2.1) A := by
  refine Met.ofW (cc := cX2_exchanges) (maxL := 6) (ret := (Option.none : Option Jvm.ClassFile.FieldType)) (by decide) rfl ?_
  intro p e s m args below meth c s₁ B hml hv
  have hx := B.exec
  have hb := B.bytes
  have hr := B.returns
  have hts := atoms_spec (ws := (ws_ yX2_exchanges cX2_exchanges 6 (Option.none : Option Jvm.ClassFile.FieldType))) B.pre
  have hts : ∀ w ∈ lw_all, w.before args s = true := fun w h => hts w (List.mem_cons_of_mem _ h)
  have hown : s.vm.findClass RX2 = some m.cls := findClass_of_methodNamed B.named
  have hlocks := B.notSynchronized
  obtain ⟨hav, hv⟩ := hv
  have C : CX p s m args c cX2_exchanges RX2 D dA := ⟨hx, hb, hown, hts, hv.2⟩
  have hw : CW D dA A s u s.heap [] := hv.1
  generalize hQ : MQ below (va_Qv (fun u => u = u9) (CPost D dA A) A) args s (u9.1 - u.1) (u9.2.1 - u.2.1) A = QQ
  have hent := lg_entry_eq m [.ref x0, .int x1, .int x2] 6
  rw [← hav] at hent
  rw [hent]
  have hl := lv_entry ([.ref x0, .int x1, .int x2]) (n := 6) (Nat.le_of_ble_eq_true rfl)
  generalize (lg_sl ([.ref x0, .int x1, .int x2]) ++ List.replicate (6 - (lg_sl ([.ref x0, .int x1, .int x2])).length) Slot.unset).toArray = ls at hl ⊢
  have hl : lv_has ls 6 [(0, .ref x0), (1, .int x1), (2, .int x2)] := hl
  obtain ⟨cc, ecc⟩ : ∃ z : Nat, z = 0 := ⟨0, rfl⟩
  obtain ⟨ss, ess⟩ : ∃ z : Nat, z = 0 := ⟨0, rfl⟩
  have hcc : cc + u.1 = u.1 := by omega
  have hss : ss + u.2.1 = u.2.1 := by omega
  suffices hgo : W p l e (rm_X2_exchanges (u9.1 - u.1) (u9.2.1 - u.2.1)) s m args below meth c s.heap [] cc ss QQ (F0 m 0 ls []) by rw [ecc, ess] at hgo; exact hgo
  have ⟨pu, qu, _, _⟩ := mo_X2_exchanges hm
  have hB49 : ∀ (h : CH) (cc ss : Nat) (H : Heap) (locs : List Loc) (ls : Array Slot), m_X2_exchanges_49 f h = some u9 → CW D dA A s h H locs → cc + u.1 = h.1 → ss + u.2.1 = h.2.1 → lv_has ls 6 [] → W p l e (rm_X2_exchanges (u9.1 - u.1) (u9.2.1 - u.2.1)) s m args below meth c H locs cc ss QQ (F0 m 49 ls []) := by
    intro h cc ss H locs ls hm hw hcc hss hl
    have hmo := mo_X2_exchanges_49  h _ hm
    have sb_ : h.1 ≤ u9.1 := hmo.1
    have tb_ : h.2.1 ≤ u9.2.1 := hmo.2.1
    rw [m_X2_exchanges_49] at hm
    have eh := ret1 hm
    have ec : cc = u9.1 - u.1 := by rw [← eh]; omega
    have es : ss = u9.2.1 - u.2.1 := by rw [← eh]; omega
    rw [ec, es, ← hQ]
    exact W.vret hx hb hr (fun t ht hW => ⟨⟨h, rfl, eh, ⟨by rw [ht]; exact hw.1, by rw [ht]; exact hw.2.1⟩⟩, hw.2.2.1.F ht⟩) hw.2.2.1.2.2 dX2_exchanges_49
  have hB2 : ∀ (n2 : Nat), ∀ (h : CH) (x0 : Nat) (x1 : Int32) (x2 : Int32) (x3 : Int32) (cc ss : Nat) (H : Heap) (locs : List Loc) (ls : Array Slot), m_X2_exchanges_2 f n2 h x0 x1 x2 x3 = some u9 → CW D dA A s h H locs → cc + u.1 = h.1 → ss + u.2.1 = h.2.1 → lv_has ls 6 [(0, .ref x0), (1, .int x1), (2, .int x2), (3, .int x3)] → W p l e (rm_X2_exchanges (u9.1 - u.1) (u9.2.1 - u.2.1)) s m args below meth c H locs cc ss QQ (F0 m 2 ls []) := by
    intro n2
    induction n2 with
    | zero => intro h x0 x1 x2 x3 cc ss H locs ls hm hw hcc hss hl; rw [m_X2_exchanges_2] at hm; exact noE hm
    | succ n2 ih2 =>
      intro h x0 x1 x2 x3 cc ss H locs ls hm hw hcc hss hl
      have hmo := mo_X2_exchanges_2  (n2 + 1) h x0 x1 x2 x3 _ hm
      have sb_ : h.1 ≤ u9.1 := hmo.1
      have tb_ : h.2.1 ≤ u9.2.1 := hmo.2.1
      rw [m_X2_exchanges_2] at hm
      refine lv_iload_n hx hb dX2_exchanges_2 rfl (lv_at hl 3 rfl) ?_
      refine lv_iconst (v := 3) hx hb dX2_exchanges_3 (by decide) ?_
      refine lv_icmp_ge (tgt := 49) hx hb dX2_exchanges_4 (by decide) (fun c1 => ?_) (fun c1 => ?_)
      · have hm := ifT hm c1
        exact hB49 h _ _ _ _ _ hm hw (by omega) (by omega) (lv_sub hl [] rfl)
      · have hm := ifF hm c1
        refine lv_aload_n hx hb dX2_exchanges_7 rfl (lv_at hl 0 rfl) ?_
        obtain ⟨a2, ea2, hm⟩ := bdE hm
        refine cg_get C hw (oR_E ea2) rfl in_X2 (by decide) q205 dX2_exchanges_8 ?_
        refine lv_iload_n hx hb dX2_exchanges_11 rfl (lv_at hl 1 rfl) ?_
        obtain ⟨a3, ea3, hm⟩ := bdE hm
        refine cg_aaldA C hw (ty := .array .long) rfl rfl (aR_E ea3) dX2_exchanges_12 ?_
        refine lv_iload_n hx hb dX2_exchanges_13 rfl (lv_at hl 3 rfl) ?_
        obtain ⟨v4, ev4, hm⟩ := bdE hm
        refine cg_lald C hw ev4 dX2_exchanges_14 ?_
        refine lv_lstore (lv' := [(4, .long v4), (0, .ref x0), (1, .int x1), (2, .int x2), (3, .int x3)]) hx hb dX2_exchanges_15 hl (by decide) rfl (fun ls hl => ?_)
        refine lv_aload_n hx hb dX2_exchanges_17 rfl (lv_at hl 1 rfl) ?_
        obtain ⟨a5, ea5, hm⟩ := bdE hm
        refine cg_get C hw (oR_E ea5) rfl in_X2 (by decide) q205 dX2_exchanges_18 ?_
        refine lv_iload_n hx hb dX2_exchanges_21 rfl (lv_at hl 2 rfl) ?_
        obtain ⟨a6, ea6, hm⟩ := bdE hm
        refine cg_aaldA C hw (ty := .array .long) rfl rfl (aR_E ea6) dX2_exchanges_22 ?_
        refine lv_iload_n hx hb dX2_exchanges_23 rfl (lv_at hl 4 rfl) ?_
        refine lv_aload_n hx hb dX2_exchanges_24 rfl (lv_at hl 1 rfl) ?_
        obtain ⟨a7, ea7, hm⟩ := bdE hm
        refine cg_get C hw (oR_E ea7) rfl in_X2 (by decide) q205 dX2_exchanges_25 ?_
        refine lv_iload_n hx hb dX2_exchanges_28 rfl (lv_at hl 3 rfl) ?_
        obtain ⟨a8, ea8, hm⟩ := bdE hm
        refine cg_aaldA C hw (ty := .array .long) rfl rfl (aR_E ea8) dX2_exchanges_29 ?_
        refine lv_iload_n hx hb dX2_exchanges_30 rfl (lv_at hl 4 rfl) ?_
        obtain ⟨v9, ev9, hm⟩ := bdE hm
        refine cg_lald C hw ev9 dX2_exchanges_31 ?_
        obtain ⟨h10, eh10, hm⟩ := bdE hm
        refine cg_last C hw eh10 dX2_exchanges_32 (fun H locs hw => ?_)
        have zh10 := uL_sz eh10
        refine lv_aload_n hx hb dX2_exchanges_33 rfl (lv_at hl 1 rfl) ?_
        obtain ⟨a11, ea11, hm⟩ := bdE hm
        refine cg_get C hw (oR_E ea11) rfl in_X2 (by decide) q205 dX2_exchanges_34 ?_
        refine lv_iload_n hx hb dX2_exchanges_37 rfl (lv_at hl 3 rfl) ?_
        obtain ⟨a12, ea12, hm⟩ := bdE hm
        refine cg_aaldA C hw (ty := .array .long) rfl rfl (aR_E ea12) dX2_exchanges_38 ?_
        refine lv_iload_n hx hb dX2_exchanges_39 rfl (lv_at hl 4 rfl) ?_
        refine lv_lload hx hb dX2_exchanges_40 (lv_at hl 0 rfl) ?_
        obtain ⟨h13, eh13, hm⟩ := bdE hm
        refine cg_last C hw eh13 dX2_exchanges_42 (fun H locs hw => ?_)
        have zh13 := uL_sz eh13
        obtain ⟨v14, ev14, hm⟩ := nmE hm
        refine lv_iinc (v := v14) (lv' := [(3, .int v14), (4, .long v4), (0, .ref x0), (1, .int x1), (2, .int x2)]) hx hb dX2_exchanges_43 hl (k := 4) rfl (by rw [ev14]; rfl) (by decide) rfl (fun ls hl => ?_)
        refine lv_goto (tgt := 2) hx hb dX2_exchanges_46 (by decide) ?_
        exact ih2 h13 x0 x1 x2 v14 _ _ _ _ _ hm hw (by omega) (by omega) (lv_sub hl [2, 3, 4, 0] rfl)
  rw [m_X2_exchanges] at hm
  refine lv_iconst (v := 0) hx hb dX2_exchanges_0 (by decide) ?_
  refine lv_istore_n (lv' := [(3, .int (0 : Int32)), (0, .ref x0), (1, .int x1), (2, .int x2)]) hx hb dX2_exchanges_1 rfl hl (by decide) rfl (fun ls hl => ?_)
  exact hB2 f u x0 x1 x2 (0 : Int32) _ _ _ _ _ hm hw (by omega) (by omega) (lv_sub hl [1, 2, 3, 0] rfl)
def m_X9_goes_58 (f : Nat) (h : CH) : Option CH := some h
theorem mo_X9_goes_58 {f : Nat} : ∀ (h : CH) (r : CH), m_X9_goes_58 f h = some r → le2 h r := by
  intro h r hm
  rw [m_X9_goes_58] at hm
  cases hm
  exact le2.rf
def m_X9_goes_43 (f : Nat) (h : CH) : Option CH := m_X9_goes_58 f h
theorem mo_X9_goes_43 {f : Nat} : ∀ (h : CH) (r : CH), m_X9_goes_43 f h = some r → le2 h r := by
  intro h r hm
  rw [m_X9_goes_43] at hm
  exact (mo_X9_goes_58  h _ hm)
def m_X9_goes_24 (f : Nat) (h : CH) : Option CH := m_X9_goes_58 f h
theorem mo_X9_goes_24 {f : Nat} : ∀ (h : CH) (r : CH), m_X9_goes_24 f h = some r → le2 h r := by
  intro h r hm
  rw [m_X9_goes_24] at hm
  exact (mo_X9_goes_58  h _ hm)
def m_X9_goes (f : Nat) (u : CH) (x0 : Nat) (x1 : Nat) : Option CH := bd (oI u 9 0 x0) fun v1 =>
    if ¬ v1 = (1 : Int32) then
    bd (oI u 9 0 x0) fun v3 =>
    if ¬ v3 = (2 : Int32) then
    bd (oI u 9 1 x0) fun v5 =>
    bd (oI u 9 2 x0) fun v6 =>
    gd (isC u x1 3) <|
    bd (m_X2_exchanges f u x1 v5 v6) fun h8 =>
    m_X9_goes_58 f h8
    else bd (oI u 9 1 x0) fun v9 =>
    gd (isC u x1 3) <|
    bd (m_X2_turnsOver f u x1 v9) fun h11 =>
    m_X9_goes_43 f h11
    else bd (oI u 9 1 x0) fun v12 =>
    bd (oI u 9 2 x0) fun v13 =>
    bd (oL u 9 3 x0) fun v14 =>
    gd (isC u x1 3) <|
    bd (m_X2_adds f u x1 v12 v13 v14) fun h16 =>
    m_X9_goes_24 f h16
theorem mo_X9_goes {f : Nat} {u : CH} {x0 : Nat} {x1 : Nat} {u9 : CH} (hm : m_X9_goes f u x0 x1 = some u9) : le2 u u9 := by
  rw [m_X9_goes] at hm
  obtain ⟨v1, ev1, hm⟩ := bdE hm
  by_cases c2 : ¬ v1 = (1 : Int32)
  · have hm := ifT hm c2
    obtain ⟨v3, ev3, hm⟩ := bdE hm
    by_cases c4 : ¬ v3 = (2 : Int32)
    · have hm := ifT hm c4
      obtain ⟨v5, ev5, hm⟩ := bdE hm
      obtain ⟨v6, ev6, hm⟩ := bdE hm
      obtain ⟨g7, hm⟩ := gdE hm
      obtain ⟨h8, eh8, hm⟩ := bdE hm
      have lh8 := mo_X2_exchanges eh8
      exact (lh8.tr (mo_X9_goes_58  h8 _ hm))
    · have hm := ifF hm c4
      obtain ⟨v9, ev9, hm⟩ := bdE hm
      obtain ⟨g10, hm⟩ := gdE hm
      obtain ⟨h11, eh11, hm⟩ := bdE hm
      have lh11 := mo_X2_turnsOver eh11
      exact (lh11.tr (mo_X9_goes_43  h11 _ hm))
  · have hm := ifF hm c2
    obtain ⟨v12, ev12, hm⟩ := bdE hm
    obtain ⟨v13, ev13, hm⟩ := bdE hm
    obtain ⟨v14, ev14, hm⟩ := bdE hm
    obtain ⟨g15, hm⟩ := gdE hm
    obtain ⟨h16, eh16, hm⟩ := bdE hm
    have lh16 := mo_X2_adds eh16
    exact (lh16.tr (mo_X9_goes_24  h16 _ hm))
abbrev rm_X9_goes (mc ms : Nat) : Room := { frames := 1, cells := mc, slots := ms, locals := 25 }
theorem cw_X9_goes {R : Room} {s : State} {args : Array Value} {own : String} {idx mc ms : Nat} (hts : ∀ w ∈ lw_all, w.before args s = true) (hl : Cond.methodLink own idx yX9_goes ∈ lw_all) (hR : 1 + 1 ≤ R.frames ∧ 8 + (2 + 11) + 25 ≤ R.locals) : CallW R s args own RX9 idx yX9_goes cX9_goes 2 (Option.none : Option Jvm.ClassFile.FieldType) (ws_ yX9_goes cX9_goes 2 (Option.none : Option Jvm.ClassFile.FieldType)) (rm_X9_goes mc ms) mc ms 1 := cwV 1 hts (lw_V hl q1012 q1013 q146 q1014) rfl rfl rfl (by decide +kernel) hR
set_option maxHeartbeats 4000000 in
set_option maxRecDepth 100000 in
theorem w_X9_goes (l : Launch) {D : va_G} {dA : Nat → ClassId} {A : Nat → Prop} {f : Nat} {u u9 : CH} {x0 : Nat} {x1 : Nat} (hm : m_X9_goes f u x0 x1 = some u9) : Met l yX9_goes (ws_ yX9_goes cX9_goes 2 (Option.none : Option Jvm.ClassFile.FieldType)) (rm_X9_goes (u9.1 - u.1) (u9.2.1 - u.2.1)) (va_Pc [.ref x0, .ref x1] (CPre D dA A u)) (va_Qv (fun u => u = u9) (CPost D dA A) A) (u9.1 - u.1) (u9.2.1 - u.2.1) A := by
  refine Met.ofW (cc := cX9_goes) (maxL := 2) (ret := (Option.none : Option Jvm.ClassFile.FieldType)) (by decide) rfl ?_
  intro p e s m args below meth c s₁ B hml hv
  have hx := B.exec
  have hb := B.bytes
  have hr := B.returns
  have hts := atoms_spec (ws := (ws_ yX9_goes cX9_goes 2 (Option.none : Option Jvm.ClassFile.FieldType))) B.pre
  have hts : ∀ w ∈ lw_all, w.before args s = true := fun w h => hts w (List.mem_cons_of_mem _ h)
  have hown : s.vm.findClass RX9 = some m.cls := findClass_of_methodNamed B.named
  have hlocks := B.notSynchronized
  obtain ⟨hav, hv⟩ := hv
  have C : CX p s m args c cX9_goes RX9 D dA := ⟨hx, hb, hown, hts, hv.2⟩
  have hw : CW D dA A s u s.heap [] := hv.1
  generalize hQ : MQ below (va_Qv (fun u => u = u9) (CPost D dA A) A) args s (u9.1 - u.1) (u9.2.1 - u.2.1) A = QQ
  have hent := lg_entry_eq m [.ref x0, .ref x1] 2
  rw [← hav] at hent
  rw [hent]
  have hl := lv_entry ([.ref x0, .ref x1]) (n := 2) (Nat.le_of_ble_eq_true rfl)
  generalize (lg_sl ([.ref x0, .ref x1]) ++ List.replicate (2 - (lg_sl ([.ref x0, .ref x1])).length) Slot.unset).toArray = ls at hl ⊢
  have hl : lv_has ls 2 [(0, .ref x0), (1, .ref x1)] := hl
  obtain ⟨cc, ecc⟩ : ∃ z : Nat, z = 0 := ⟨0, rfl⟩
  obtain ⟨ss, ess⟩ : ∃ z : Nat, z = 0 := ⟨0, rfl⟩
  have hcc : cc + u.1 = u.1 := by omega
  have hss : ss + u.2.1 = u.2.1 := by omega
  suffices hgo : W p l e (rm_X9_goes (u9.1 - u.1) (u9.2.1 - u.2.1)) s m args below meth c s.heap [] cc ss QQ (F0 m 0 ls []) by rw [ecc, ess] at hgo; exact hgo
  have ⟨pu, qu, _, _⟩ := mo_X9_goes hm
  have hB58 : ∀ (h : CH) (cc ss : Nat) (H : Heap) (locs : List Loc) (ls : Array Slot), m_X9_goes_58 f h = some u9 → CW D dA A s h H locs → cc + u.1 = h.1 → ss + u.2.1 = h.2.1 → lv_has ls 2 [] → W p l e (rm_X9_goes (u9.1 - u.1) (u9.2.1 - u.2.1)) s m args below meth c H locs cc ss QQ (F0 m 58 ls []) := by
    intro h cc ss H locs ls hm hw hcc hss hl
    have hmo := mo_X9_goes_58  h _ hm
    have sb_ : h.1 ≤ u9.1 := hmo.1
    have tb_ : h.2.1 ≤ u9.2.1 := hmo.2.1
    rw [m_X9_goes_58] at hm
    have eh := ret1 hm
    have ec : cc = u9.1 - u.1 := by rw [← eh]; omega
    have es : ss = u9.2.1 - u.2.1 := by rw [← eh]; omega
    rw [ec, es, ← hQ]
    exact W.vret hx hb hr (fun t ht hW => ⟨⟨h, rfl, eh, ⟨by rw [ht]; exact hw.1, by rw [ht]; exact hw.2.1⟩⟩, hw.2.2.1.F ht⟩) hw.2.2.1.2.2 dX9_goes_58
  have hB43 : ∀ (h : CH) (cc ss : Nat) (H : Heap) (locs : List Loc) (ls : Array Slot), m_X9_goes_43 f h = some u9 → CW D dA A s h H locs → cc + u.1 = h.1 → ss + u.2.1 = h.2.1 → lv_has ls 2 [] → W p l e (rm_X9_goes (u9.1 - u.1) (u9.2.1 - u.2.1)) s m args below meth c H locs cc ss QQ (F0 m 43 ls []) := by
    intro h cc ss H locs ls hm hw hcc hss hl
    have hmo := mo_X9_goes_43  h _ hm
    have sb_ : h.1 ≤ u9.1 := hmo.1
    have tb_ : h.2.1 ≤ u9.2.1 := hmo.2.1
    rw [m_X9_goes_43] at hm
    refine lv_goto (tgt := 58) hx hb dX9_goes_43 (by decide) ?_
    exact hB58 h _ _ _ _ _ hm hw (by omega) (by omega) (lv_sub hl [] rfl)
  have hB24 : ∀ (h : CH) (cc ss : Nat) (H : Heap) (locs : List Loc) (ls : Array Slot), m_X9_goes_24 f h = some u9 → CW D dA A s h H locs → cc + u.1 = h.1 → ss + u.2.1 = h.2.1 → lv_has ls 2 [] → W p l e (rm_X9_goes (u9.1 - u.1) (u9.2.1 - u.2.1)) s m args below meth c H locs cc ss QQ (F0 m 24 ls []) := by
    intro h cc ss H locs ls hm hw hcc hss hl
    have hmo := mo_X9_goes_24  h _ hm
    have sb_ : h.1 ≤ u9.1 := hmo.1
    have tb_ : h.2.1 ≤ u9.2.1 := hmo.2.1
    rw [m_X9_goes_24] at hm
    refine lv_goto (tgt := 58) hx hb dX9_goes_24 (by decide) ?_
    exact hB58 h _ _ _ _ _ hm hw (by omega) (by omega) (lv_sub hl [] rfl)
  rw [m_X9_goes] at hm
  refine lv_aload_n hx hb dX9_goes_0 rfl (lv_at hl 0 rfl) ?_
  obtain ⟨v1, ev1, hm⟩ := bdE hm
  refine cg_get C hw (oI_E ev1) rfl in_X9 (by decide) q994 dX9_goes_1 ?_
  refine lv_iconst (v := 1) hx hb dX9_goes_4 (by decide) ?_
  refine lv_icmp_ne (tgt := 27) hx hb dX9_goes_5 (by decide) (fun c2 => ?_) (fun c2 => ?_)
  · have hm := ifT hm c2
    refine lv_aload_n hx hb dX9_goes_27 rfl (lv_at hl 0 rfl) ?_
    obtain ⟨v3, ev3, hm⟩ := bdE hm
    refine cg_get C hw (oI_E ev3) rfl in_X9 (by decide) q994 dX9_goes_28 ?_
    refine lv_iconst (v := 2) hx hb dX9_goes_31 (by decide) ?_
    refine lv_icmp_ne (tgt := 46) hx hb dX9_goes_32 (by decide) (fun c4 => ?_) (fun c4 => ?_)
    · have hm := ifT hm c4
      refine lv_aload_n hx hb dX9_goes_46 rfl (lv_at hl 1 rfl) ?_
      refine lv_aload_n hx hb dX9_goes_47 rfl (lv_at hl 0 rfl) ?_
      obtain ⟨v5, ev5, hm⟩ := bdE hm
      refine cg_get C hw (oI_E ev5) rfl in_X9 (by decide) q996 dX9_goes_48 ?_
      refine lv_aload_n hx hb dX9_goes_51 rfl (lv_at hl 0 rfl) ?_
      obtain ⟨v6, ev6, hm⟩ := bdE hm
      refine cg_get C hw (oI_E ev6) rfl in_X9 (by decide) q998 dX9_goes_52 ?_
      obtain ⟨g7, hm⟩ := gdE hm
      obtain ⟨h8, eh8, hm⟩ := bdE hm
      have lh8 := mo_X2_exchanges eh8
      have ph8 : u.1 ≤ h8.1 := lh8.1
      have qh8 : u.2.1 ≤ h8.2.1 := lh8.2.1
      have hmo := mo_X9_goes_58   h8 _ hm
      have sh8 : h8.1 ≤ u9.1 := hmo.1
      have th8 : h8.2.1 ≤ u9.2.1 := hmo.2.1
      refine cg_callv hw lh8 (va_runV (As := [.int v5, .int v6]) (rest := []) ⟨hx, hb, hml, hown, hts⟩ (w_X2_exchanges l eh8) (cw_X2_exchanges hts q1023 ⟨Nat.le_of_ble_eq_true rfl, Nat.le_of_ble_eq_true rfl⟩) (cg_preV C hw g7 rfl _) rfl rfl hl.1 rfl (lv_room (Nat.le_of_ble_eq_true rfl)) dX9_goes_55 ⟨show cc + (h8.1 - u.1) ≤ u9.1 - u.1 by omega, show ss + (h8.2.1 - u.2.1) ≤ u9.2.1 - u.2.1 by omega⟩) (fun H locs hw => ?_)
      exact hB58 h8 _ _ _ _ _ hm hw (by omega) (by omega) (lv_sub hl [] rfl)
    · have hm := ifT' hm c4
      refine lv_aload_n hx hb dX9_goes_35 rfl (lv_at hl 1 rfl) ?_
      refine lv_aload_n hx hb dX9_goes_36 rfl (lv_at hl 0 rfl) ?_
      obtain ⟨v9, ev9, hm⟩ := bdE hm
      refine cg_get C hw (oI_E ev9) rfl in_X9 (by decide) q996 dX9_goes_37 ?_
      obtain ⟨g10, hm⟩ := gdE hm
      obtain ⟨h11, eh11, hm⟩ := bdE hm
      have lh11 := mo_X2_turnsOver eh11
      have ph11 : u.1 ≤ h11.1 := lh11.1
      have qh11 : u.2.1 ≤ h11.2.1 := lh11.2.1
      have hmo := mo_X9_goes_43   h11 _ hm
      have sh11 : h11.1 ≤ u9.1 := hmo.1
      have th11 : h11.2.1 ≤ u9.2.1 := hmo.2.1
      refine cg_callv hw lh11 (va_runV (As := [.int v9]) (rest := []) ⟨hx, hb, hml, hown, hts⟩ (w_X2_turnsOver l eh11) (cw_X2_turnsOver hts q1019 ⟨Nat.le_of_ble_eq_true rfl, Nat.le_of_ble_eq_true rfl⟩) (cg_preV C hw g10 rfl _) rfl rfl hl.1 rfl (lv_room (Nat.le_of_ble_eq_true rfl)) dX9_goes_40 ⟨show cc + (h11.1 - u.1) ≤ u9.1 - u.1 by omega, show ss + (h11.2.1 - u.2.1) ≤ u9.2.1 - u.2.1 by omega⟩) (fun H locs hw => ?_)
      exact hB43 h11 _ _ _ _ _ hm hw (by omega) (by omega) (lv_sub hl [] rfl)
  · have hm := ifT' hm c2
    refine lv_aload_n hx hb dX9_goes_8 rfl (lv_at hl 1 rfl) ?_
    refine lv_aload_n hx hb dX9_goes_9 rfl (lv_at hl 0 rfl) ?_
    obtain ⟨v12, ev12, hm⟩ := bdE hm
    refine cg_get C hw (oI_E ev12) rfl in_X9 (by decide) q996 dX9_goes_10 ?_
    refine lv_aload_n hx hb dX9_goes_13 rfl (lv_at hl 0 rfl) ?_
    obtain ⟨v13, ev13, hm⟩ := bdE hm
    refine cg_get C hw (oI_E ev13) rfl in_X9 (by decide) q998 dX9_goes_14 ?_
    refine lv_aload_n hx hb dX9_goes_17 rfl (lv_at hl 0 rfl) ?_
    obtain ⟨v14, ev14, hm⟩ := bdE hm
    refine cg_get C hw (oL_E ev14) rfl in_X9 (by decide) q1000 dX9_goes_18 ?_
    obtain ⟨g15, hm⟩ := gdE hm
    obtain ⟨h16, eh16, hm⟩ := bdE hm
    have lh16 := mo_X2_adds eh16
    have ph16 : u.1 ≤ h16.1 := lh16.1
    have qh16 : u.2.1 ≤ h16.2.1 := lh16.2.1
    have hmo := mo_X9_goes_24   h16 _ hm
    have sh16 : h16.1 ≤ u9.1 := hmo.1
    have th16 : h16.2.1 ≤ u9.2.1 := hmo.2.1
    refine cg_callv hw lh16 (va_runV (As := [.int v12, .int v13, .long v14]) (rest := []) ⟨hx, hb, hml, hown, hts⟩ (w_X2_adds l eh16) (cw_X2_adds hts q1015 ⟨Nat.le_of_ble_eq_true rfl, Nat.le_of_ble_eq_true rfl⟩) (cg_preV C hw g15 rfl _) rfl rfl hl.1 rfl (lv_room (Nat.le_of_ble_eq_true rfl)) dX9_goes_21 ⟨show cc + (h16.1 - u.1) ≤ u9.1 - u.1 by omega, show ss + (h16.2.1 - u.2.1) ≤ u9.2.1 - u.2.1 by omega⟩) (fun H locs hw => ?_)
    exact hB24 h16 _ _ _ _ _ hm hw (by omega) (by omega) (lv_sub hl [] rfl)
def m_X8_does_32 (f : Nat) (h : CH) (y0 : Int32) : Option CH := some h
theorem mo_X8_does_32 {f : Nat} : ∀ (h : CH) (y0 : Int32) (r : CH), m_X8_does_32 f h y0 = some r → le2 h r := by
  intro h y0 r hm
  rw [m_X8_does_32] at hm
  cases hm
  exact le2.rf
def m_X8_does_23 (f : Nat) (h : CH) (x0 : Nat) (x6 : Nat) : Option CH := bd (oR h 8 1 x0) fun a1 =>
    gd (isC h a1 17) <|
    bd2 (m_J2_add f h a1 x6) fun r4 h3 =>
    m_X8_does_32 f h3 r4
theorem mo_X8_does_23 {f : Nat} : ∀ (h : CH) (x0 : Nat) (x6 : Nat) (r : CH), m_X8_does_23 f h x0 x6 = some r → le2 h r := by
  intro h x0 x6 r hm
  rw [m_X8_does_23] at hm
  obtain ⟨a1, ea1, hm⟩ := bdE hm
  obtain ⟨g2, hm⟩ := gdE hm
  obtain ⟨r4, h3, er4, hm⟩ := bd2E hm
  have lh3 := mo_J2_add er4
  exact (lh3.tr (mo_X8_does_32  h3 r4 _ hm))
def m_X8_does_12 (f : Nat) (h : CH) (x0 : Nat) (y0 : Nat) : Option CH := bd (oR h 8 0 x0) fun a1 =>
    gd (isC h y0 9) <|
    bd (m_X9_goes f h y0 a1) fun h3 =>
    m_X8_does_23 f h3 x0 y0
theorem mo_X8_does_12 {f : Nat} : ∀ (h : CH) (x0 : Nat) (y0 : Nat) (r : CH), m_X8_does_12 f h x0 y0 = some r → le2 h r := by
  intro h x0 y0 r hm
  rw [m_X8_does_12] at hm
  obtain ⟨a1, ea1, hm⟩ := bdE hm
  obtain ⟨g2, hm⟩ := gdE hm
  obtain ⟨h3, eh3, hm⟩ := bdE hm
  have lh3 := mo_X9_goes eh3
  exact (lh3.tr (mo_X8_does_23  h3 x0 y0 _ hm))
def m_X8_does_3 (f : Nat) (h : CH) (x0 : Nat) (x1 : Int32) (x2 : Int32) (x3 : Int32) (x4 : Int64) (y0 : Nat) : Option CH := bd (m_X9_init f h y0 x1 x2 x3 x4) fun h1 =>
    m_X8_does_12 f h1 x0 y0
theorem mo_X8_does_3 {f : Nat} : ∀ (h : CH) (x0 : Nat) (x1 : Int32) (x2 : Int32) (x3 : Int32) (x4 : Int64) (y0 : Nat) (r : CH), m_X8_does_3 f h x0 x1 x2 x3 x4 y0 = some r → le2 h r := by
  intro h x0 x1 x2 x3 x4 y0 r hm
  rw [m_X8_does_3] at hm
  obtain ⟨h1, eh1, hm⟩ := bdE hm
  have lh1 := mo_X9_init eh1
  exact (lh1.tr (mo_X8_does_12  h1 x0 y0 _ hm))
def m_X8_does (f : Nat) (u : CH) (x0 : Nat) (x1 : Int32) (x2 : Int32) (x3 : Int32) (x4 : Int64) : Option CH := nmv (cn u 4 (.inl (9, [.int 0, .int 0, .int 0, .long 0]))) fun h1 =>
    nmv (u.1 : Nat) fun a2 =>
    m_X8_does_3 f h1 x0 x1 x2 x3 x4 a2
theorem mo_X8_does {f : Nat} {u : CH} {x0 : Nat} {x1 : Int32} {x2 : Int32} {x3 : Int32} {x4 : Int64} {u9 : CH} (hm : m_X8_does f u x0 x1 x2 x3 x4 = some u9) : le2 u u9 := by
  rw [m_X8_does] at hm
  obtain ⟨h1, eh1, hm⟩ := nmE hm
  have lh1 := cn_le eh1
  obtain ⟨a2, ea2, hm⟩ := nmE hm
  exact (lh1.tr (mo_X8_does_3  h1 x0 x1 x2 x3 x4 a2 _ hm))
abbrev rm_X8_does (mc ms : Nat) : Room := { frames := 7, cells := mc, slots := ms, locals := 191 }
theorem cw_X8_does {R : Room} {s : State} {args : Array Value} {own : String} {idx mc ms : Nat} (hts : ∀ w ∈ lw_all, w.before args s = true) (hl : Cond.methodLink own idx yX8_does ∈ lw_all) (hR : 7 + 1 ≤ R.frames ∧ 8 + (7 + 11) + 191 ≤ R.locals) : CallW R s args own RX8 idx yX8_does cX8_does 7 (Option.none : Option Jvm.ClassFile.FieldType) (ws_ yX8_does cX8_does 7 (Option.none : Option Jvm.ClassFile.FieldType)) (rm_X8_does mc ms) mc ms 4 := cwV 4 hts (lw_V hl q986 qs23 q145 q987) rfl rfl rfl (by decide +kernel) hR
set_option maxHeartbeats 4000000 in
set_option maxRecDepth 100000 in
theorem w_X8_does (l : Launch) {D : va_G} {dA : Nat → ClassId} {A : Nat → Prop} {f : Nat} {u u9 : CH} {x0 : Nat} {x1 : Int32} {x2 : Int32} {x3 : Int32} {x4 : Int64} (hm : m_X8_does f u x0 x1 x2 x3 x4 = some u9) : Met l yX8_does (ws_ yX8_does cX8_does 7 (Option.none : Option Jvm.ClassFile.FieldType)) (rm_X8_does (u9.1 - u.1) (u9.2.1 - u.2.1)) (va_Pc [.ref x0, .int x1, .int x2, .int x3, .long x4] (CPre D dA A u)) (va_Qv (fun u => u = u9) (CPost D dA A) A) (u9.1 - u.1) (u9.2.1 - u.2.1) A := by
  refine Met.ofW (cc := cX8_does) (maxL := 7) (ret := (Option.none : Option Jvm.ClassFile.FieldType)) (by decide) rfl ?_
  intro p e s m args below meth c s₁ B hml hv
  have hx := B.exec
  have hb := B.bytes
  have hr := B.returns
  have hts := atoms_spec (ws := (ws_ yX8_does cX8_does 7 (Option.none : Option Jvm.ClassFile.FieldType))) B.pre
  have hts : ∀ w ∈ lw_all, w.before args s = true := fun w h => hts w (List.mem_cons_of_mem _ h)
  have hown : s.vm.findClass RX8 = some m.cls := findClass_of_methodNamed B.named
  have hlocks := B.notSynchronized
  obtain ⟨hav, hv⟩ := hv
  have C : CX p s m args c cX8_does RX8 D dA := ⟨hx, hb, hown, hts, hv.2⟩
  have hw : CW D dA A s u s.heap [] := hv.1
  generalize hQ : MQ below (va_Qv (fun u => u = u9) (CPost D dA A) A) args s (u9.1 - u.1) (u9.2.1 - u.2.1) A = QQ
  have hent := lg_entry_eq m [.ref x0, .int x1, .int x2, .int x3, .long x4] 7
  rw [← hav] at hent
  rw [hent]
  have hl := lv_entry ([.ref x0, .int x1, .int x2, .int x3, .long x4]) (n := 7) (Nat.le_of_ble_eq_true rfl)
  generalize (lg_sl ([.ref x0, .int x1, .int x2, .int x3, .long x4]) ++ List.replicate (7 - (lg_sl ([.ref x0, .int x1, .int x2, .int x3, .long x4])).length) Slot.unset).toArray = ls at hl ⊢
  have hl : lv_has ls 7 [(0, .ref x0), (1, .int x1), (2, .int x2), (3, .int x3), (4, .long x4)] := hl
  obtain ⟨cc, ecc⟩ : ∃ z : Nat, z = 0 := ⟨0, rfl⟩
  obtain ⟨ss, ess⟩ : ∃ z : Nat, z = 0 := ⟨0, rfl⟩
  have hcc : cc + u.1 = u.1 := by omega
  have hss : ss + u.2.1 = u.2.1 := by omega
  suffices hgo : W p l e (rm_X8_does (u9.1 - u.1) (u9.2.1 - u.2.1)) s m args below meth c s.heap [] cc ss QQ (F0 m 0 ls []) by rw [ecc, ess] at hgo; exact hgo
  have ⟨pu, qu, _, _⟩ := mo_X8_does hm
  have hB32 : ∀ (h : CH) (y0 : Int32) (cc ss : Nat) (H : Heap) (locs : List Loc) (ls : Array Slot), m_X8_does_32 f h y0 = some u9 → CW D dA A s h H locs → cc + u.1 = h.1 → ss + u.2.1 = h.2.1 → lv_has ls 7 [] → W p l e (rm_X8_does (u9.1 - u.1) (u9.2.1 - u.2.1)) s m args below meth c H locs cc ss QQ (F0 m 32 ls [.int y0]) := by
    intro h y0 cc ss H locs ls hm hw hcc hss hl
    have hmo := mo_X8_does_32  h y0 _ hm
    have sb_ : h.1 ≤ u9.1 := hmo.1
    have tb_ : h.2.1 ≤ u9.2.1 := hmo.2.1
    rw [m_X8_does_32] at hm
    refine lv_pop hx hb dX8_does_32 rfl ?_
    have eh := ret1 hm
    have ec : cc = u9.1 - u.1 := by rw [← eh]; omega
    have es : ss = u9.2.1 - u.2.1 := by rw [← eh]; omega
    rw [ec, es, ← hQ]
    exact W.vret hx hb hr (fun t ht hW => ⟨⟨h, rfl, eh, ⟨by rw [ht]; exact hw.1, by rw [ht]; exact hw.2.1⟩⟩, hw.2.2.1.F ht⟩) hw.2.2.1.2.2 dX8_does_33
  have hB23 : ∀ (h : CH) (x0 : Nat) (x6 : Nat) (cc ss : Nat) (H : Heap) (locs : List Loc) (ls : Array Slot), m_X8_does_23 f h x0 x6 = some u9 → CW D dA A s h H locs → cc + u.1 = h.1 → ss + u.2.1 = h.2.1 → lv_has ls 7 [(0, .ref x0), (6, .ref x6)] → W p l e (rm_X8_does (u9.1 - u.1) (u9.2.1 - u.2.1)) s m args below meth c H locs cc ss QQ (F0 m 23 ls []) := by
    intro h x0 x6 cc ss H locs ls hm hw hcc hss hl
    have hmo := mo_X8_does_23  h x0 x6 _ hm
    have sb_ : h.1 ≤ u9.1 := hmo.1
    have tb_ : h.2.1 ≤ u9.2.1 := hmo.2.1
    rw [m_X8_does_23] at hm
    refine lv_aload_n hx hb dX8_does_23 rfl (lv_at hl 0 rfl) ?_
    obtain ⟨a1, ea1, hm⟩ := bdE hm
    refine cg_get C hw (oR_E ea1) rfl in_X8 (by decide) q1033 dX8_does_24 ?_
    refine lv_aload hx hb dX8_does_27 (lv_at hl 1 rfl) ?_
    obtain ⟨g2, hm⟩ := gdE hm
    obtain ⟨r4, h3, er4, hm⟩ := bd2E hm
    have lh3 := mo_J2_add er4
    have ph3 : h.1 ≤ h3.1 := lh3.1
    have qh3 : h.2.1 ≤ h3.2.1 := lh3.2.1
    have hmo := mo_X8_does_32   h3 r4 _ hm
    have sh3 : h3.1 ≤ u9.1 := hmo.1
    have th3 : h3.2.1 ≤ u9.2.1 := hmo.2.1
    refine cg_calli hw lh3 (va_runV (As := [.ref x6]) (rest := []) ⟨hx, hb, hml, hown, hts⟩ (w_J2_add l er4) (cw_J2_add hts q1027 ⟨Nat.le_of_ble_eq_true rfl, Nat.le_of_ble_eq_true rfl⟩) (cg_preV C hw g2 rfl _) rfl rfl hl.1 rfl (lv_room (Nat.le_of_ble_eq_true rfl)) dX8_does_29 ⟨show cc + (h3.1 - h.1) ≤ u9.1 - u.1 by omega, show ss + (h3.2.1 - h.2.1) ≤ u9.2.1 - u.2.1 by omega⟩) (fun H locs hw => ?_)
    exact hB32 h3 r4 _ _ _ _ _ hm hw (by omega) (by omega) (lv_sub hl [] rfl)
  have hB12 : ∀ (h : CH) (x0 : Nat) (y0 : Nat) (cc ss : Nat) (H : Heap) (locs : List Loc) (ls : Array Slot), m_X8_does_12 f h x0 y0 = some u9 → CW D dA A s h H locs → cc + u.1 = h.1 → ss + u.2.1 = h.2.1 → lv_has ls 7 [(0, .ref x0)] → W p l e (rm_X8_does (u9.1 - u.1) (u9.2.1 - u.2.1)) s m args below meth c H locs cc ss QQ (F0 m 12 ls [.ref y0]) := by
    intro h x0 y0 cc ss H locs ls hm hw hcc hss hl
    have hmo := mo_X8_does_12  h x0 y0 _ hm
    have sb_ : h.1 ≤ u9.1 := hmo.1
    have tb_ : h.2.1 ≤ u9.2.1 := hmo.2.1
    rw [m_X8_does_12] at hm
    refine lv_astore (lv' := [(6, .ref y0), (0, .ref x0)]) hx hb dX8_does_12 hl (by decide) rfl (fun ls hl => ?_)
    refine lv_aload hx hb dX8_does_14 (lv_at hl 0 rfl) ?_
    refine lv_aload_n hx hb dX8_does_16 rfl (lv_at hl 1 rfl) ?_
    obtain ⟨a1, ea1, hm⟩ := bdE hm
    refine cg_get C hw (oR_E ea1) rfl in_X8 (by decide) q1031 dX8_does_17 ?_
    obtain ⟨g2, hm⟩ := gdE hm
    obtain ⟨h3, eh3, hm⟩ := bdE hm
    have lh3 := mo_X9_goes eh3
    have ph3 : h.1 ≤ h3.1 := lh3.1
    have qh3 : h.2.1 ≤ h3.2.1 := lh3.2.1
    have hmo := mo_X8_does_23   h3 x0 y0 _ hm
    have sh3 : h3.1 ≤ u9.1 := hmo.1
    have th3 : h3.2.1 ≤ u9.2.1 := hmo.2.1
    refine cg_callv hw lh3 (va_runV (As := [.ref a1]) (rest := []) ⟨hx, hb, hml, hown, hts⟩ (w_X9_goes l eh3) (cw_X9_goes hts q1011 ⟨Nat.le_of_ble_eq_true rfl, Nat.le_of_ble_eq_true rfl⟩) (cg_preV C hw g2 rfl _) rfl rfl hl.1 rfl (lv_room (Nat.le_of_ble_eq_true rfl)) dX8_does_20 ⟨show cc + (h3.1 - h.1) ≤ u9.1 - u.1 by omega, show ss + (h3.2.1 - h.2.1) ≤ u9.2.1 - u.2.1 by omega⟩) (fun H locs hw => ?_)
    exact hB23 h3 x0 y0 _ _ _ _ _ hm hw (by omega) (by omega) (lv_sub hl [1, 0] rfl)
  have hB3 : ∀ (h : CH) (x0 : Nat) (x1 : Int32) (x2 : Int32) (x3 : Int32) (x4 : Int64) (y0 : Nat) (cc ss : Nat) (H : Heap) (locs : List Loc) (ls : Array Slot), m_X8_does_3 f h x0 x1 x2 x3 x4 y0 = some u9 → CW D dA A s h H locs → cc + u.1 = h.1 → ss + u.2.1 = h.2.1 → lv_has ls 7 [(0, .ref x0), (1, .int x1), (2, .int x2), (3, .int x3), (4, .long x4)] → W p l e (rm_X8_does (u9.1 - u.1) (u9.2.1 - u.2.1)) s m args below meth c H locs cc ss QQ (F0 m 3 ls [.ref y0]) := by
    intro h x0 x1 x2 x3 x4 y0 cc ss H locs ls hm hw hcc hss hl
    have hmo := mo_X8_does_3  h x0 x1 x2 x3 x4 y0 _ hm
    have sb_ : h.1 ≤ u9.1 := hmo.1
    have tb_ : h.2.1 ≤ u9.2.1 := hmo.2.1
    rw [m_X8_does_3] at hm
    refine lv_dup hx hb dX8_does_3 rfl ?_
    refine lv_iload_n hx hb dX8_does_4 rfl (lv_at hl 1 rfl) ?_
    refine lv_iload_n hx hb dX8_does_5 rfl (lv_at hl 2 rfl) ?_
    refine lv_iload_n hx hb dX8_does_6 rfl (lv_at hl 3 rfl) ?_
    refine lv_lload hx hb dX8_does_7 (lv_at hl 4 rfl) ?_
    obtain ⟨h1, eh1, hm⟩ := bdE hm
    have lh1 := mo_X9_init eh1
    have ph1 : h.1 ≤ h1.1 := lh1.1
    have qh1 : h.2.1 ≤ h1.2.1 := lh1.2.1
    have hmo := mo_X8_does_12   h1 x0 y0 _ hm
    have sh1 : h1.1 ≤ u9.1 := hmo.1
    have th1 : h1.2.1 ≤ u9.2.1 := hmo.2.1
    refine cg_callv hw lh1 (va_runI (As := [.int x1, .int x2, .int x3, .long x4]) (rest := [.ref y0]) ⟨hx, hb, hml, hown, hts⟩ (w_X9_init l eh1) (cw_X9_init hts q990 ⟨Nat.le_of_ble_eq_true rfl, Nat.le_of_ble_eq_true rfl⟩) (cg_preS C hw _) rfl rfl hl.1 rfl (lv_room (Nat.le_of_ble_eq_true rfl)) dX8_does_9 ⟨show cc + (h1.1 - h.1) ≤ u9.1 - u.1 by omega, show ss + (h1.2.1 - h.2.1) ≤ u9.2.1 - u.2.1 by omega⟩) (fun H locs hw => ?_)
    exact hB12 h1 x0 y0 _ _ _ _ _ hm hw (by omega) (by omega) (lv_sub hl [0] rfl)
  rw [m_X8_does] at hm
  obtain ⟨h1, eh1, hm⟩ := nmE hm
  obtain ⟨_, _, hmq⟩ := nmE hm
  have hmo := mo_X8_does_3   h1 x0 x1 x2 x3 x4 _ _ hmq
  have sh1 : h1.1 ≤ u9.1 := hmo.1
  have th1 : h1.2.1 ≤ u9.2.1 := hmo.2.1
  have zh1 := cn_sz eh1
  refine cg_new (C0 := C) hw (ci := 9) (fs := [.int 0, .int 0, .int 0, .long 0]) rfl in_X9 tyX9 tyX9_ok q988 q989 q146 (fun j hj => by rcases (show j = 0 ∨ j = 1 ∨ j = 2 ∨ j = 3 by omega) with rfl | rfl | rfl | rfl <;> rfl) (show cc + 1 ≤ u9.1 - u.1 by omega) (show ss + 4 ≤ u9.2.1 - u.2.1 by omega) dX8_does_0 (fun H hw => ?_)
  rw [← eh1] at hw
  refine lv_topr (fun a2 ea2 => ?_)
  have hm := nmK hm ea2
  exact hB3 h1 x0 x1 x2 x3 x4 a2 _ _ _ _ _ hm hw (by omega) (by omega) (lv_sub hl [0, 1, 2, 3, 4] rfl)
def m_X8_clears_170 (f : Nat) (h : CH) : Option CH := some h
theorem mo_X8_clears_170 {f : Nat} : ∀ (h : CH) (r : CH), m_X8_clears_170 f h = some r → le2 h r := by
  intro h r hm
  rw [m_X8_clears_170] at hm
  cases hm
  exact le2.rf
def m_X8_clears_164 (f : Nat) (k118 : CH → Nat → Int32 → Int32 → Option CH) (h : CH) (x0 : Nat) (x1 : Int32) (x2 : Int32) : Option CH := nmv ((x2 + 1) : Int32) fun v1 =>
    k118 h x0 x1 v1
theorem mo_X8_clears_164 {f : Nat} {k118 : CH → Nat → Int32 → Int32 → Option CH} (hk118 : ∀ (h : CH) (x0 : Nat) (x1 : Int32) (x2 : Int32) (r : CH), k118 h x0 x1 x2 = some r → le2 h r) : ∀ (h : CH) (x0 : Nat) (x1 : Int32) (x2 : Int32) (r : CH), m_X8_clears_164 f k118 h x0 x1 x2 = some r → le2 h r := by
  intro h x0 x1 x2 r hm
  rw [m_X8_clears_164] at hm
  obtain ⟨v1, ev1, hm⟩ := nmE hm
  exact (hk118 h x0 x1 v1 _ hm)
def m_X8_clears_118 (f : Nat) : Nat → CH → Nat → Int32 → Int32 → Option CH
  | 0, _, _, _, _ => none
  | n118 + 1, h, x0, x1, x2 => if x1 ≤ x2 then
    m_X8_clears_170 f h
    else bd (oR h 8 0 x0) fun a2 =>
    bd (oR h 3 0 a2) fun a3 =>
    bd (aR h 4 a3 x2) fun a4 =>
    bd (aL h 1 a4 x1) fun v5 =>
    bd (oR h 8 0 x0) fun a6 =>
    bd (oR h 3 0 a6) fun a7 =>
    bd (aR h 4 a7 x1) fun a8 =>
    bd (aL h 1 a8 x1) fun v9 =>
    bd (m_J9_floorDiv f v5 v9) fun r10 =>
    nmv ((-r10) : Int64) fun v11 =>
    if v11 = (0 : Int64) then
    m_X8_clears_164 f (m_X8_clears_118 f n118) h x0 x1 x2
    else gd (isC h x0 8) <|
    bd (m_X8_does f h x0 (1 : Int32) x2 x1 v11) fun h14 =>
    m_X8_clears_164 f (m_X8_clears_118 f n118) h14 x0 x1 x2
theorem mo_X8_clears_118 {f : Nat} : ∀ (n118 : Nat) (h : CH) (x0 : Nat) (x1 : Int32) (x2 : Int32) (r : CH), m_X8_clears_118 f n118 h x0 x1 x2 = some r → le2 h r := by
  intro n118
  induction n118 with
  | zero => intro h x0 x1 x2 r hm; rw [m_X8_clears_118] at hm; exact noE hm
  | succ n118 ihm =>
    intro h x0 x1 x2 r hm
    rw [m_X8_clears_118] at hm
    by_cases c1 : x1 ≤ x2
    · have hm := ifT hm c1
      exact (mo_X8_clears_170  h _ hm)
    · have hm := ifF hm c1
      obtain ⟨a2, ea2, hm⟩ := bdE hm
      obtain ⟨a3, ea3, hm⟩ := bdE hm
      obtain ⟨a4, ea4, hm⟩ := bdE hm
      obtain ⟨v5, ev5, hm⟩ := bdE hm
      obtain ⟨a6, ea6, hm⟩ := bdE hm
      obtain ⟨a7, ea7, hm⟩ := bdE hm
      obtain ⟨a8, ea8, hm⟩ := bdE hm
      obtain ⟨v9, ev9, hm⟩ := bdE hm
      obtain ⟨r10, er10, hm⟩ := bdE hm
      obtain ⟨v11, ev11, hm⟩ := nmE hm
      by_cases c12 : v11 = (0 : Int64)
      · have hm := ifT hm c12
        exact (mo_X8_clears_164 ihm h x0 x1 x2 _ hm)
      · have hm := ifF hm c12
        obtain ⟨g13, hm⟩ := gdE hm
        obtain ⟨h14, eh14, hm⟩ := bdE hm
        have lh14 := mo_X8_does eh14
        exact (lh14.tr (mo_X8_clears_164 ihm h14 x0 x1 x2 _ hm))
def m_X8_clears_116 (f : Nat) (h : CH) (x0 : Nat) (x1 : Int32) : Option CH := m_X8_clears_118 f f h x0 x1 (0 : Int32)
theorem mo_X8_clears_116 {f : Nat} : ∀ (h : CH) (x0 : Nat) (x1 : Int32) (r : CH), m_X8_clears_116 f h x0 x1 = some r → le2 h r := by
  intro h x0 x1 r hm
  rw [m_X8_clears_116] at hm
  exact (mo_X8_clears_118  f h x0 x1 (0 : Int32) _ hm)
def m_X8_clears_92 (f : Nat) (h : CH) (x0 : Nat) (x1 : Int32) : Option CH := bd (oR h 8 0 x0) fun a1 =>
    bd (oR h 3 0 a1) fun a2 =>
    bd (aR h 4 a2 x1) fun a3 =>
    bd (aL h 1 a3 x1) fun v4 =>
    if (0 : Int64) ≤ v4 then
    m_X8_clears_116 f h x0 x1
    else gd (isC h x0 8) <|
    bd (m_X8_does f h x0 (2 : Int32) x1 (-1 : Int32) (0 : Int64)) fun h7 =>
    m_X8_clears_116 f h7 x0 x1
theorem mo_X8_clears_92 {f : Nat} : ∀ (h : CH) (x0 : Nat) (x1 : Int32) (r : CH), m_X8_clears_92 f h x0 x1 = some r → le2 h r := by
  intro h x0 x1 r hm
  rw [m_X8_clears_92] at hm
  obtain ⟨a1, ea1, hm⟩ := bdE hm
  obtain ⟨a2, ea2, hm⟩ := bdE hm
  obtain ⟨a3, ea3, hm⟩ := bdE hm
  obtain ⟨v4, ev4, hm⟩ := bdE hm
  by_cases c5 : (0 : Int64) ≤ v4
  · have hm := ifT hm c5
    exact (mo_X8_clears_116  h x0 x1 _ hm)
  · have hm := ifF hm c5
    obtain ⟨g6, hm⟩ := gdE hm
    obtain ⟨h7, eh7, hm⟩ := bdE hm
    have lh7 := mo_X8_does eh7
    exact (lh7.tr (mo_X8_clears_116  h7 x0 x1 _ hm))
def m_X8_clears_89 (f : Nat) (k0 : CH → Nat → Int32 → Option CH) (h : CH) (x0 : Nat) (x1 : Int32) : Option CH := k0 h x0 x1
theorem mo_X8_clears_89 {f : Nat} {k0 : CH → Nat → Int32 → Option CH} (hk0 : ∀ (h : CH) (x0 : Nat) (x1 : Int32) (r : CH), k0 h x0 x1 = some r → le2 h r) : ∀ (h : CH) (x0 : Nat) (x1 : Int32) (r : CH), m_X8_clears_89 f k0 h x0 x1 = some r → le2 h r := by
  intro h x0 x1 r hm
  rw [m_X8_clears_89] at hm
  exact (hk0 h x0 x1 _ hm)
def m_X8_clears_83 (f : Nat) (k0 : CH → Nat → Int32 → Option CH) (k31 : CH → Nat → Int32 → Int32 → Option CH) (h : CH) (x0 : Nat) (x1 : Int32) (x3 : Int32) : Option CH := nmv ((x3 + 1) : Int32) fun v1 =>
    k31 h x0 x1 v1
theorem mo_X8_clears_83 {f : Nat} {k0 : CH → Nat → Int32 → Option CH} (hk0 : ∀ (h : CH) (x0 : Nat) (x1 : Int32) (r : CH), k0 h x0 x1 = some r → le2 h r) {k31 : CH → Nat → Int32 → Int32 → Option CH} (hk31 : ∀ (h : CH) (x0 : Nat) (x1 : Int32) (x3 : Int32) (r : CH), k31 h x0 x1 x3 = some r → le2 h r) : ∀ (h : CH) (x0 : Nat) (x1 : Int32) (x3 : Int32) (r : CH), m_X8_clears_83 f k0 k31 h x0 x1 x3 = some r → le2 h r := by
  intro h x0 x1 x3 r hm
  rw [m_X8_clears_83] at hm
  obtain ⟨v1, ev1, hm⟩ := nmE hm
  exact (hk31 h x0 x1 v1 _ hm)
def m_X8_clears_31 (f : Nat) (k0 : CH → Nat → Int32 → Option CH) : Nat → CH → Nat → Int32 → Int32 → Option CH
  | 0, _, _, _, _ => none
  | n31 + 1, h, x0, x1, x3 => if (3 : Int32) ≤ x3 then
    m_X8_clears_89 f k0 h x0 x1
    else bd (oR h 8 0 x0) fun a2 =>
    bd (oR h 3 0 a2) fun a3 =>
    bd (aR h 4 a3 x3) fun a4 =>
    bd (aL h 1 a4 x1) fun v5 =>
    if v5 = (0 : Int64) then
    m_X8_clears_83 f k0 (m_X8_clears_31 f k0 n31) h x0 x1 x3
    else bd (oR h 8 0 x0) fun a7 =>
    bd (oR h 3 0 a7) fun a8 =>
    bd (aR h 4 a8 x3) fun a9 =>
    bd (aL h 1 a9 x1) fun v10 =>
    bd (oR h 8 0 x0) fun a11 =>
    bd (oR h 3 0 a11) fun a12 =>
    bd (aR h 4 a12 x1) fun a13 =>
    bd (aL h 1 a13 x1) fun v14 =>
    gd (nzL v14) <|
    gd (isC h x0 8) <|
    bd (m_X8_does f h x0 (1 : Int32) x3 x1 (-(v10 / v14))) fun h17 =>
    m_X8_clears_83 f k0 (m_X8_clears_31 f k0 n31) h17 x0 x1 x3
theorem mo_X8_clears_31 {f : Nat} {k0 : CH → Nat → Int32 → Option CH} (hk0 : ∀ (h : CH) (x0 : Nat) (x1 : Int32) (r : CH), k0 h x0 x1 = some r → le2 h r) : ∀ (n31 : Nat) (h : CH) (x0 : Nat) (x1 : Int32) (x3 : Int32) (r : CH), m_X8_clears_31 f k0 n31 h x0 x1 x3 = some r → le2 h r := by
  intro n31
  induction n31 with
  | zero => intro h x0 x1 x3 r hm; rw [m_X8_clears_31] at hm; exact noE hm
  | succ n31 ihm =>
    intro h x0 x1 x3 r hm
    rw [m_X8_clears_31] at hm
    by_cases c1 : (3 : Int32) ≤ x3
    · have hm := ifT hm c1
      exact (mo_X8_clears_89 hk0 h x0 x1 _ hm)
    · have hm := ifF hm c1
      obtain ⟨a2, ea2, hm⟩ := bdE hm
      obtain ⟨a3, ea3, hm⟩ := bdE hm
      obtain ⟨a4, ea4, hm⟩ := bdE hm
      obtain ⟨v5, ev5, hm⟩ := bdE hm
      by_cases c6 : v5 = (0 : Int64)
      · have hm := ifT hm c6
        exact (mo_X8_clears_83 hk0 ihm h x0 x1 x3 _ hm)
      · have hm := ifF hm c6
        obtain ⟨a7, ea7, hm⟩ := bdE hm
        obtain ⟨a8, ea8, hm⟩ := bdE hm
        obtain ⟨a9, ea9, hm⟩ := bdE hm
        obtain ⟨v10, ev10, hm⟩ := bdE hm
        obtain ⟨a11, ea11, hm⟩ := bdE hm
        obtain ⟨a12, ea12, hm⟩ := bdE hm
        obtain ⟨a13, ea13, hm⟩ := bdE hm
        obtain ⟨v14, ev14, hm⟩ := bdE hm
        obtain ⟨g15, hm⟩ := gdE hm
        obtain ⟨g16, hm⟩ := gdE hm
        obtain ⟨h17, eh17, hm⟩ := bdE hm
        have lh17 := mo_X8_does eh17
        exact (lh17.tr (mo_X8_clears_83 hk0 ihm h17 x0 x1 x3 _ hm))
def m_X8_clears_27 (f : Nat) (k0 : CH → Nat → Int32 → Option CH) (h : CH) (x0 : Nat) (x1 : Int32) : Option CH := nmv ((x1 + (1 : Int32)) : Int32) fun v1 =>
    m_X8_clears_31 f k0 f h x0 x1 v1
theorem mo_X8_clears_27 {f : Nat} {k0 : CH → Nat → Int32 → Option CH} (hk0 : ∀ (h : CH) (x0 : Nat) (x1 : Int32) (r : CH), k0 h x0 x1 = some r → le2 h r) : ∀ (h : CH) (x0 : Nat) (x1 : Int32) (r : CH), m_X8_clears_27 f k0 h x0 x1 = some r → le2 h r := by
  intro h x0 x1 r hm
  rw [m_X8_clears_27] at hm
  obtain ⟨v1, ev1, hm⟩ := nmE hm
  exact (mo_X8_clears_31 hk0 f h x0 x1 v1 _ hm)
def m_X8_clears_13 (f : Nat) (k0 : CH → Nat → Int32 → Option CH) (h : CH) (x0 : Nat) (x1 : Int32) (y0 : Int32) : Option CH := if y0 = x1 then
    m_X8_clears_27 f k0 h x0 x1
    else gd (isC h x0 8) <|
    bd (m_X8_does f h x0 (0 : Int32) x1 y0 (0 : Int64)) fun h3 =>
    m_X8_clears_27 f k0 h3 x0 x1
theorem mo_X8_clears_13 {f : Nat} {k0 : CH → Nat → Int32 → Option CH} (hk0 : ∀ (h : CH) (x0 : Nat) (x1 : Int32) (r : CH), k0 h x0 x1 = some r → le2 h r) : ∀ (h : CH) (x0 : Nat) (x1 : Int32) (y0 : Int32) (r : CH), m_X8_clears_13 f k0 h x0 x1 y0 = some r → le2 h r := by
  intro h x0 x1 y0 r hm
  rw [m_X8_clears_13] at hm
  by_cases c1 : y0 = x1
  · have hm := ifT hm c1
    exact (mo_X8_clears_27 hk0 h x0 x1 _ hm)
  · have hm := ifF hm c1
    obtain ⟨g2, hm⟩ := gdE hm
    obtain ⟨h3, eh3, hm⟩ := bdE hm
    have lh3 := mo_X8_does eh3
    exact (lh3.tr (mo_X8_clears_27 hk0 h3 x0 x1 _ hm))
def m_X8_clears_5 (f : Nat) (k0 : CH → Nat → Int32 → Option CH) (h : CH) (x0 : Nat) (x1 : Int32) (y0 : Int32) : Option CH := if y0 = 0 then
    m_X8_clears_92 f h x0 x1
    else gd (isC h x0 8) <|
    bd2 (m_X8_least f h x0 x1) fun r4 h3 =>
    m_X8_clears_13 f k0 h3 x0 x1 r4
theorem mo_X8_clears_5 {f : Nat} {k0 : CH → Nat → Int32 → Option CH} (hk0 : ∀ (h : CH) (x0 : Nat) (x1 : Int32) (r : CH), k0 h x0 x1 = some r → le2 h r) : ∀ (h : CH) (x0 : Nat) (x1 : Int32) (y0 : Int32) (r : CH), m_X8_clears_5 f k0 h x0 x1 y0 = some r → le2 h r := by
  intro h x0 x1 y0 r hm
  rw [m_X8_clears_5] at hm
  by_cases c1 : y0 = 0
  · have hm := ifT hm c1
    exact (mo_X8_clears_92  h x0 x1 _ hm)
  · have hm := ifF hm c1
    obtain ⟨g2, hm⟩ := gdE hm
    obtain ⟨r4, h3, er4, hm⟩ := bd2E hm
    have lh3 := mo_X8_least er4
    exact (lh3.tr (mo_X8_clears_13 hk0 h3 x0 x1 r4 _ hm))
def m_X8_clears_0 (f : Nat) : Nat → CH → Nat → Int32 → Option CH
  | 0, _, _, _ => none
  | n0 + 1, h, x0, x1 => gd (isC h x0 8) <|
    bd2 (m_X8_isMoreBelow f h x0 x1) fun r3 h2 =>
    m_X8_clears_5 f (m_X8_clears_0 f n0) h2 x0 x1 r3
theorem mo_X8_clears_0 {f : Nat} : ∀ (n0 : Nat) (h : CH) (x0 : Nat) (x1 : Int32) (r : CH), m_X8_clears_0 f n0 h x0 x1 = some r → le2 h r := by
  intro n0
  induction n0 with
  | zero => intro h x0 x1 r hm; rw [m_X8_clears_0] at hm; exact noE hm
  | succ n0 ihm =>
    intro h x0 x1 r hm
    rw [m_X8_clears_0] at hm
    obtain ⟨g1, hm⟩ := gdE hm
    obtain ⟨r3, h2, er3, hm⟩ := bd2E hm
    have lh2 := mo_X8_isMoreBelow er3
    exact (lh2.tr (mo_X8_clears_5 ihm h2 x0 x1 r3 _ hm))
def m_X8_clears (f : Nat) (u : CH) (x0 : Nat) (x1 : Int32) : Option CH := m_X8_clears_0 f f u x0 x1
theorem mo_X8_clears {f : Nat} {u : CH} {x0 : Nat} {x1 : Int32} {u9 : CH} (hm : m_X8_clears f u x0 x1 = some u9) : le2 u u9 := by
  rw [m_X8_clears] at hm
  exact (mo_X8_clears_0  f u x0 x1 _ hm)
abbrev rm_X8_clears (mc ms : Nat) : Room := { frames := 8, cells := mc, slots := ms, locals := 217 }
theorem cw_X8_clears {R : Room} {s : State} {args : Array Value} {own : String} {idx mc ms : Nat} (hts : ∀ w ∈ lw_all, w.before args s = true) (hl : Cond.methodLink own idx yX8_clears ∈ lw_all) (hR : 8 + 1 ≤ R.frames ∧ 8 + (5 + 11) + 217 ≤ R.locals) : CallW R s args own RX8 idx yX8_clears cX8_clears 5 (Option.none : Option Jvm.ClassFile.FieldType) (ws_ yX8_clears cX8_clears 5 (Option.none : Option Jvm.ClassFile.FieldType)) (rm_X8_clears mc ms) mc ms 1 := cwV 1 hts (lw_V hl q973 qs20 q145 q974) rfl rfl rfl (by decide +kernel) hR
set_option maxHeartbeats 4000000 in
set_option maxRecDepth 100000 in
theorem w_X8_clears (l : Launch) {D : va_G} {dA : Nat → ClassId} {A : Nat → Prop} {f : Nat} {u u9 : CH} {x0 : Nat} {x1 : Int32} (hm : m_X8_clears f u x0 x1 = some u9) : Met l yX8_clears (ws_ yX8_clears cX8_clears 5 (Option.none : Option Jvm.ClassFile.FieldType)) (rm_X8_clears (u9.1 - u.1) (u9.2.1 - u.2.1)) (va_Pc [.ref x0, .int x1] (CPre D dA A u)) (va_Qv (fun u => u = u9) (CPost D dA A) A) (u9.1 - u.1) (u9.2.1 - u.2.1) A := by
  refine Met.ofW (cc := cX8_clears) (maxL := 5) (ret := (Option.none : Option Jvm.ClassFile.FieldType)) (by decide) rfl ?_
  intro p e s m args below meth c s₁ B hml hv
  have hx := B.exec
  have hb := B.bytes
  have hr := B.returns
  have hts := atoms_spec (ws := (ws_ yX8_clears cX8_clears 5 (Option.none : Option Jvm.ClassFile.FieldType))) B.pre
  have hts : ∀ w ∈ lw_all, w.before args s = true := fun w h => hts w (List.mem_cons_of_mem _ h)
  have hown : s.vm.findClass RX8 = some m.cls := findClass_of_methodNamed B.named
  have hlocks := B.notSynchronized
  obtain ⟨hav, hv⟩ := hv
  have C : CX p s m args c cX8_clears RX8 D dA := ⟨hx, hb, hown, hts, hv.2⟩
  have hw : CW D dA A s u s.heap [] := hv.1
  generalize hQ : MQ below (va_Qv (fun u => u = u9) (CPost D dA A) A) args s (u9.1 - u.1) (u9.2.1 - u.2.1) A = QQ
  have hent := lg_entry_eq m [.ref x0, .int x1] 5
  rw [← hav] at hent
  rw [hent]
  have hl := lv_entry ([.ref x0, .int x1]) (n := 5) (Nat.le_of_ble_eq_true rfl)
  generalize (lg_sl ([.ref x0, .int x1]) ++ List.replicate (5 - (lg_sl ([.ref x0, .int x1])).length) Slot.unset).toArray = ls at hl ⊢
  have hl : lv_has ls 5 [(0, .ref x0), (1, .int x1)] := hl
  obtain ⟨cc, ecc⟩ : ∃ z : Nat, z = 0 := ⟨0, rfl⟩
  obtain ⟨ss, ess⟩ : ∃ z : Nat, z = 0 := ⟨0, rfl⟩
  have hcc : cc + u.1 = u.1 := by omega
  have hss : ss + u.2.1 = u.2.1 := by omega
  suffices hgo : W p l e (rm_X8_clears (u9.1 - u.1) (u9.2.1 - u.2.1)) s m args below meth c s.heap [] cc ss QQ (F0 m 0 ls []) by rw [ecc, ess] at hgo; exact hgo
  have ⟨pu, qu, _, _⟩ := mo_X8_clears hm
  have hB170 : ∀ (h : CH) (cc ss : Nat) (H : Heap) (locs : List Loc) (ls : Array Slot), m_X8_clears_170 f h = some u9 → CW D dA A s h H locs → cc + u.1 = h.1 → ss + u.2.1 = h.2.1 → lv_has ls 5 [] → W p l e (rm_X8_clears (u9.1 - u.1) (u9.2.1 - u.2.1)) s m args below meth c H locs cc ss QQ (F0 m 170 ls []) := by
    intro h cc ss H locs ls hm hw hcc hss hl
    have hmo := mo_X8_clears_170  h _ hm
    have sb_ : h.1 ≤ u9.1 := hmo.1
    have tb_ : h.2.1 ≤ u9.2.1 := hmo.2.1
    rw [m_X8_clears_170] at hm
    have eh := ret1 hm
    have ec : cc = u9.1 - u.1 := by rw [← eh]; omega
    have es : ss = u9.2.1 - u.2.1 := by rw [← eh]; omega
    rw [ec, es, ← hQ]
    exact W.vret hx hb hr (fun t ht hW => ⟨⟨h, rfl, eh, ⟨by rw [ht]; exact hw.1, by rw [ht]; exact hw.2.1⟩⟩, hw.2.2.1.F ht⟩) hw.2.2.1.2.2 dX8_clears_170
  have hB118 : ∀ (n118 : Nat), ∀ (h : CH) (x0 : Nat) (x1 : Int32) (x2 : Int32) (cc ss : Nat) (H : Heap) (locs : List Loc) (ls : Array Slot), m_X8_clears_118 f n118 h x0 x1 x2 = some u9 → CW D dA A s h H locs → cc + u.1 = h.1 → ss + u.2.1 = h.2.1 → lv_has ls 5 [(0, .ref x0), (1, .int x1), (2, .int x2)] → W p l e (rm_X8_clears (u9.1 - u.1) (u9.2.1 - u.2.1)) s m args below meth c H locs cc ss QQ (F0 m 118 ls []) := by
    intro n118
    induction n118 with
    | zero => intro h x0 x1 x2 cc ss H locs ls hm hw hcc hss hl; rw [m_X8_clears_118] at hm; exact noE hm
    | succ n118 ih118 =>
      have hB164 : ∀ (h : CH) (x0 : Nat) (x1 : Int32) (x2 : Int32) (cc ss : Nat) (H : Heap) (locs : List Loc) (ls : Array Slot), m_X8_clears_164 f (m_X8_clears_118 f n118) h x0 x1 x2 = some u9 → CW D dA A s h H locs → cc + u.1 = h.1 → ss + u.2.1 = h.2.1 → lv_has ls 5 [(0, .ref x0), (1, .int x1), (2, .int x2)] → W p l e (rm_X8_clears (u9.1 - u.1) (u9.2.1 - u.2.1)) s m args below meth c H locs cc ss QQ (F0 m 164 ls []) := by
        intro h x0 x1 x2 cc ss H locs ls hm hw hcc hss hl
        have hmo := mo_X8_clears_164 (mo_X8_clears_118 n118) h x0 x1 x2 _ hm
        have sb_ : h.1 ≤ u9.1 := hmo.1
        have tb_ : h.2.1 ≤ u9.2.1 := hmo.2.1
        rw [m_X8_clears_164] at hm
        obtain ⟨v1, ev1, hm⟩ := nmE hm
        refine lv_iinc (v := v1) (lv' := [(2, .int v1), (0, .ref x0), (1, .int x1)]) hx hb dX8_clears_164 hl (k := 2) rfl (by rw [ev1]; rfl) (by decide) rfl (fun ls hl => ?_)
        refine lv_goto (tgt := 118) hx hb dX8_clears_167 (by decide) ?_
        exact ih118 h x0 x1 v1 _ _ _ _ _ hm hw (by omega) (by omega) (lv_sub hl [1, 2, 0] rfl)
      intro h x0 x1 x2 cc ss H locs ls hm hw hcc hss hl
      have hmo := mo_X8_clears_118  (n118 + 1) h x0 x1 x2 _ hm
      have sb_ : h.1 ≤ u9.1 := hmo.1
      have tb_ : h.2.1 ≤ u9.2.1 := hmo.2.1
      rw [m_X8_clears_118] at hm
      refine lv_iload_n hx hb dX8_clears_118 rfl (lv_at hl 2 rfl) ?_
      refine lv_iload_n hx hb dX8_clears_119 rfl (lv_at hl 1 rfl) ?_
      refine lv_icmp_ge (tgt := 170) hx hb dX8_clears_120 (by decide) (fun c1 => ?_) (fun c1 => ?_)
      · have hm := ifT hm c1
        exact hB170 h _ _ _ _ _ hm hw (by omega) (by omega) (lv_sub hl [] rfl)
      · have hm := ifF hm c1
        refine lv_aload_n hx hb dX8_clears_123 rfl (lv_at hl 0 rfl) ?_
        obtain ⟨a2, ea2, hm⟩ := bdE hm
        refine cg_get C hw (oR_E ea2) rfl in_X8 (by decide) q1031 dX8_clears_124 ?_
        obtain ⟨a3, ea3, hm⟩ := bdE hm
        refine cg_getN C hw (by decide) (oR_E ea3) rfl in_X2 (by decide) (hw.2.2.2.2.1 _ (List.mem_of_getElem? (i := 79) rfl)) dX8_clears_127 ?_
        refine lv_iload_n hx hb dX8_clears_130 rfl (lv_at hl 2 rfl) ?_
        obtain ⟨a4, ea4, hm⟩ := bdE hm
        refine cg_aaldA C hw (ty := .array .long) rfl rfl (aR_E ea4) dX8_clears_131 ?_
        refine lv_iload_n hx hb dX8_clears_132 rfl (lv_at hl 1 rfl) ?_
        obtain ⟨v5, ev5, hm⟩ := bdE hm
        refine cg_lald C hw ev5 dX8_clears_133 ?_
        refine lv_aload_n hx hb dX8_clears_134 rfl (lv_at hl 0 rfl) ?_
        obtain ⟨a6, ea6, hm⟩ := bdE hm
        refine cg_get C hw (oR_E ea6) rfl in_X8 (by decide) q1031 dX8_clears_135 ?_
        obtain ⟨a7, ea7, hm⟩ := bdE hm
        refine cg_getN C hw (by decide) (oR_E ea7) rfl in_X2 (by decide) (hw.2.2.2.2.1 _ (List.mem_of_getElem? (i := 79) rfl)) dX8_clears_138 ?_
        refine lv_iload_n hx hb dX8_clears_141 rfl (lv_at hl 1 rfl) ?_
        obtain ⟨a8, ea8, hm⟩ := bdE hm
        refine cg_aaldA C hw (ty := .array .long) rfl rfl (aR_E ea8) dX8_clears_142 ?_
        refine lv_iload_n hx hb dX8_clears_143 rfl (lv_at hl 1 rfl) ?_
        obtain ⟨v9, ev9, hm⟩ := bdE hm
        refine cg_lald C hw ev9 dX8_clears_144 ?_
        obtain ⟨r10, er10, hm⟩ := bdE hm
        refine scl (va_runS (As := [.long v5, .long v9]) (rest := []) ⟨hx, hb, hml, hown, hts⟩ (w_J9_floorDiv l er10) (cw_J9_floorDiv hts q1028 ⟨Nat.le_of_ble_eq_true rfl, Nat.le_of_ble_eq_true rfl⟩) (pre_s _) rfl rfl hl.1 rfl (lv_room (Nat.le_of_ble_eq_true rfl)) dX8_clears_145 ⟨show cc + 0 ≤ u9.1 - u.1 by omega, show ss + 0 ≤ u9.2.1 - u.2.1 by omega⟩) ?_
        refine lv_lneg hx hb dX8_clears_148 ?_
        refine lv_topl (fun v11 ev11 => ?_)
        have hm := nmK hm ev11
        refine lv_lstore_n (lv' := [(3, .long v11), (0, .ref x0), (1, .int x1), (2, .int x2)]) hx hb dX8_clears_149 rfl hl (by decide) rfl (fun ls hl => ?_)
        refine lv_lload_n hx hb dX8_clears_150 rfl (lv_at hl 0 rfl) ?_
        refine lv_lconst (v := 0) hx hb dX8_clears_151 (by decide) ?_
        refine lc_eq (tgt := 164) hx hb dX8_clears_152 dX8_clears_153 (by decide) (fun c12 => ?_) (fun c12 => ?_)
        · have hm := ifT hm c12
          exact hB164 h x0 x1 x2 _ _ _ _ _ hm hw (by omega) (by omega) (lv_sub hl [1, 2, 3] rfl)
        · have hm := ifF hm c12
          refine lv_aload_n hx hb dX8_clears_156 rfl (lv_at hl 1 rfl) ?_
          refine lv_iconst (v := 1) hx hb dX8_clears_157 (by decide) ?_
          refine lv_iload_n hx hb dX8_clears_158 rfl (lv_at hl 3 rfl) ?_
          refine lv_iload_n hx hb dX8_clears_159 rfl (lv_at hl 2 rfl) ?_
          refine lv_lload_n hx hb dX8_clears_160 rfl (lv_at hl 0 rfl) ?_
          obtain ⟨g13, hm⟩ := gdE hm
          obtain ⟨h14, eh14, hm⟩ := bdE hm
          have lh14 := mo_X8_does eh14
          have ph14 : h.1 ≤ h14.1 := lh14.1
          have qh14 : h.2.1 ≤ h14.2.1 := lh14.2.1
          have hmo := mo_X8_clears_164 (mo_X8_clears_118 n118)  h14 x0 x1 x2 _ hm
          have sh14 : h14.1 ≤ u9.1 := hmo.1
          have th14 : h14.2.1 ≤ u9.2.1 := hmo.2.1
          refine cg_callv hw lh14 (va_runV (As := [.int (1 : Int32), .int x2, .int x1, .long v11]) (rest := []) ⟨hx, hb, hml, hown, hts⟩ (w_X8_does l eh14) (cw_X8_does hts q984 ⟨Nat.le_of_ble_eq_true rfl, Nat.le_of_ble_eq_true rfl⟩) (cg_preV C hw g13 rfl _) rfl rfl hl.1 rfl (lv_room (Nat.le_of_ble_eq_true rfl)) dX8_clears_161 ⟨show cc + (h14.1 - h.1) ≤ u9.1 - u.1 by omega, show ss + (h14.2.1 - h.2.1) ≤ u9.2.1 - u.2.1 by omega⟩) (fun H locs hw => ?_)
          exact hB164 h14 x0 x1 x2 _ _ _ _ _ hm hw (by omega) (by omega) (lv_sub hl [1, 2, 3] rfl)
  have hB116 : ∀ (h : CH) (x0 : Nat) (x1 : Int32) (cc ss : Nat) (H : Heap) (locs : List Loc) (ls : Array Slot), m_X8_clears_116 f h x0 x1 = some u9 → CW D dA A s h H locs → cc + u.1 = h.1 → ss + u.2.1 = h.2.1 → lv_has ls 5 [(0, .ref x0), (1, .int x1)] → W p l e (rm_X8_clears (u9.1 - u.1) (u9.2.1 - u.2.1)) s m args below meth c H locs cc ss QQ (F0 m 116 ls []) := by
    intro h x0 x1 cc ss H locs ls hm hw hcc hss hl
    have hmo := mo_X8_clears_116  h x0 x1 _ hm
    have sb_ : h.1 ≤ u9.1 := hmo.1
    have tb_ : h.2.1 ≤ u9.2.1 := hmo.2.1
    rw [m_X8_clears_116] at hm
    refine lv_iconst (v := 0) hx hb dX8_clears_116 (by decide) ?_
    refine lv_istore_n (lv' := [(2, .int (0 : Int32)), (0, .ref x0), (1, .int x1)]) hx hb dX8_clears_117 rfl hl (by decide) rfl (fun ls hl => ?_)
    exact hB118 f h x0 x1 (0 : Int32) _ _ _ _ _ hm hw (by omega) (by omega) (lv_sub hl [1, 2, 0] rfl)
  have hB92 : ∀ (h : CH) (x0 : Nat) (x1 : Int32) (cc ss : Nat) (H : Heap) (locs : List Loc) (ls : Array Slot), m_X8_clears_92 f h x0 x1 = some u9 → CW D dA A s h H locs → cc + u.1 = h.1 → ss + u.2.1 = h.2.1 → lv_has ls 5 [(0, .ref x0), (1, .int x1)] → W p l e (rm_X8_clears (u9.1 - u.1) (u9.2.1 - u.2.1)) s m args below meth c H locs cc ss QQ (F0 m 92 ls []) := by
    intro h x0 x1 cc ss H locs ls hm hw hcc hss hl
    have hmo := mo_X8_clears_92  h x0 x1 _ hm
    have sb_ : h.1 ≤ u9.1 := hmo.1
    have tb_ : h.2.1 ≤ u9.2.1 := hmo.2.1
    rw [m_X8_clears_92] at hm
    refine lv_aload_n hx hb dX8_clears_92 rfl (lv_at hl 0 rfl) ?_
    obtain ⟨a1, ea1, hm⟩ := bdE hm
    refine cg_get C hw (oR_E ea1) rfl in_X8 (by decide) q1031 dX8_clears_93 ?_
    obtain ⟨a2, ea2, hm⟩ := bdE hm
    refine cg_getN C hw (by decide) (oR_E ea2) rfl in_X2 (by decide) (hw.2.2.2.2.1 _ (List.mem_of_getElem? (i := 79) rfl)) dX8_clears_96 ?_
    refine lv_iload_n hx hb dX8_clears_99 rfl (lv_at hl 1 rfl) ?_
    obtain ⟨a3, ea3, hm⟩ := bdE hm
    refine cg_aaldA C hw (ty := .array .long) rfl rfl (aR_E ea3) dX8_clears_100 ?_
    refine lv_iload_n hx hb dX8_clears_101 rfl (lv_at hl 1 rfl) ?_
    obtain ⟨v4, ev4, hm⟩ := bdE hm
    refine cg_lald C hw ev4 dX8_clears_102 ?_
    refine lv_lconst (v := 0) hx hb dX8_clears_103 (by decide) ?_
    refine lc_ge (tgt := 116) hx hb dX8_clears_104 dX8_clears_105 (by decide) (fun c5 => ?_) (fun c5 => ?_)
    · have hm := ifT hm c5
      exact hB116 h x0 x1 _ _ _ _ _ hm hw (by omega) (by omega) (lv_sub hl [0, 1] rfl)
    · have hm := ifF hm c5
      refine lv_aload_n hx hb dX8_clears_108 rfl (lv_at hl 0 rfl) ?_
      refine lv_iconst (v := 2) hx hb dX8_clears_109 (by decide) ?_
      refine lv_iload_n hx hb dX8_clears_110 rfl (lv_at hl 1 rfl) ?_
      refine lv_iconst (v := -1) hx hb dX8_clears_111 (by decide) ?_
      refine lv_lconst (v := 0) hx hb dX8_clears_112 (by decide) ?_
      obtain ⟨g6, hm⟩ := gdE hm
      obtain ⟨h7, eh7, hm⟩ := bdE hm
      have lh7 := mo_X8_does eh7
      have ph7 : h.1 ≤ h7.1 := lh7.1
      have qh7 : h.2.1 ≤ h7.2.1 := lh7.2.1
      have hmo := mo_X8_clears_116   h7 x0 x1 _ hm
      have sh7 : h7.1 ≤ u9.1 := hmo.1
      have th7 : h7.2.1 ≤ u9.2.1 := hmo.2.1
      refine cg_callv hw lh7 (va_runV (As := [.int (2 : Int32), .int x1, .int (-1 : Int32), .long (0 : Int64)]) (rest := []) ⟨hx, hb, hml, hown, hts⟩ (w_X8_does l eh7) (cw_X8_does hts q984 ⟨Nat.le_of_ble_eq_true rfl, Nat.le_of_ble_eq_true rfl⟩) (cg_preV C hw g6 rfl _) rfl rfl hl.1 rfl (lv_room (Nat.le_of_ble_eq_true rfl)) dX8_clears_113 ⟨show cc + (h7.1 - h.1) ≤ u9.1 - u.1 by omega, show ss + (h7.2.1 - h.2.1) ≤ u9.2.1 - u.2.1 by omega⟩) (fun H locs hw => ?_)
      exact hB116 h7 x0 x1 _ _ _ _ _ hm hw (by omega) (by omega) (lv_sub hl [0, 1] rfl)
  have hB0 : ∀ (n0 : Nat), ∀ (h : CH) (x0 : Nat) (x1 : Int32) (cc ss : Nat) (H : Heap) (locs : List Loc) (ls : Array Slot), m_X8_clears_0 f n0 h x0 x1 = some u9 → CW D dA A s h H locs → cc + u.1 = h.1 → ss + u.2.1 = h.2.1 → lv_has ls 5 [(0, .ref x0), (1, .int x1)] → W p l e (rm_X8_clears (u9.1 - u.1) (u9.2.1 - u.2.1)) s m args below meth c H locs cc ss QQ (F0 m 0 ls []) := by
    intro n0
    induction n0 with
    | zero => intro h x0 x1 cc ss H locs ls hm hw hcc hss hl; rw [m_X8_clears_0] at hm; exact noE hm
    | succ n0 ih0 =>
      have hB89 : ∀ (h : CH) (x0 : Nat) (x1 : Int32) (cc ss : Nat) (H : Heap) (locs : List Loc) (ls : Array Slot), m_X8_clears_89 f (m_X8_clears_0 f n0) h x0 x1 = some u9 → CW D dA A s h H locs → cc + u.1 = h.1 → ss + u.2.1 = h.2.1 → lv_has ls 5 [(0, .ref x0), (1, .int x1)] → W p l e (rm_X8_clears (u9.1 - u.1) (u9.2.1 - u.2.1)) s m args below meth c H locs cc ss QQ (F0 m 89 ls []) := by
        intro h x0 x1 cc ss H locs ls hm hw hcc hss hl
        have hmo := mo_X8_clears_89 (mo_X8_clears_0 n0) h x0 x1 _ hm
        have sb_ : h.1 ≤ u9.1 := hmo.1
        have tb_ : h.2.1 ≤ u9.2.1 := hmo.2.1
        rw [m_X8_clears_89] at hm
        refine lv_goto (tgt := 0) hx hb dX8_clears_89 (by decide) ?_
        exact ih0 h x0 x1 _ _ _ _ _ hm hw (by omega) (by omega) (lv_sub hl [0, 1] rfl)
      have hB31 : ∀ (n31 : Nat), ∀ (h : CH) (x0 : Nat) (x1 : Int32) (x3 : Int32) (cc ss : Nat) (H : Heap) (locs : List Loc) (ls : Array Slot), m_X8_clears_31 f (m_X8_clears_0 f n0) n31 h x0 x1 x3 = some u9 → CW D dA A s h H locs → cc + u.1 = h.1 → ss + u.2.1 = h.2.1 → lv_has ls 5 [(0, .ref x0), (1, .int x1), (3, .int x3)] → W p l e (rm_X8_clears (u9.1 - u.1) (u9.2.1 - u.2.1)) s m args below meth c H locs cc ss QQ (F0 m 31 ls []) := by
        intro n31
        induction n31 with
        | zero => intro h x0 x1 x3 cc ss H locs ls hm hw hcc hss hl; rw [m_X8_clears_31] at hm; exact noE hm
        | succ n31 ih31 =>
          have hB83 : ∀ (h : CH) (x0 : Nat) (x1 : Int32) (x3 : Int32) (cc ss : Nat) (H : Heap) (locs : List Loc) (ls : Array Slot), m_X8_clears_83 f (m_X8_clears_0 f n0) (m_X8_clears_31 f (m_X8_clears_0 f n0) n31) h x0 x1 x3 = some u9 → CW D dA A s h H locs → cc + u.1 = h.1 → ss + u.2.1 = h.2.1 → lv_has ls 5 [(0, .ref x0), (1, .int x1), (3, .int x3)] → W p l e (rm_X8_clears (u9.1 - u.1) (u9.2.1 - u.2.1)) s m args below meth c H locs cc ss QQ (F0 m 83 ls []) := by
            intro h x0 x1 x3 cc ss H locs ls hm hw hcc hss hl
            have hmo := mo_X8_clears_83 (mo_X8_clears_0 n0) (mo_X8_clears_31 (mo_X8_clears_0 n0) n31) h x0 x1 x3 _ hm
            have sb_ : h.1 ≤ u9.1 := hmo.1
            have tb_ : h.2.1 ≤ u9.2.1 := hmo.2.1
            rw [m_X8_clears_83] at hm
            obtain ⟨v1, ev1, hm⟩ := nmE hm
            refine lv_iinc (v := v1) (lv' := [(3, .int v1), (0, .ref x0), (1, .int x1)]) hx hb dX8_clears_83 hl (k := 2) rfl (by rw [ev1]; rfl) (by decide) rfl (fun ls hl => ?_)
            refine lv_goto (tgt := 31) hx hb dX8_clears_86 (by decide) ?_
            exact ih31 h x0 x1 v1 _ _ _ _ _ hm hw (by omega) (by omega) (lv_sub hl [1, 2, 0] rfl)
          intro h x0 x1 x3 cc ss H locs ls hm hw hcc hss hl
          have hmo := mo_X8_clears_31 (mo_X8_clears_0 n0) (n31 + 1) h x0 x1 x3 _ hm
          have sb_ : h.1 ≤ u9.1 := hmo.1
          have tb_ : h.2.1 ≤ u9.2.1 := hmo.2.1
          rw [m_X8_clears_31] at hm
          refine lv_iload_n hx hb dX8_clears_31 rfl (lv_at hl 2 rfl) ?_
          refine lv_iconst (v := 3) hx hb dX8_clears_32 (by decide) ?_
          refine lv_icmp_ge (tgt := 89) hx hb dX8_clears_33 (by decide) (fun c1 => ?_) (fun c1 => ?_)
          · have hm := ifT hm c1
            exact hB89 h x0 x1 _ _ _ _ _ hm hw (by omega) (by omega) (lv_sub hl [0, 1] rfl)
          · have hm := ifF hm c1
            refine lv_aload_n hx hb dX8_clears_36 rfl (lv_at hl 0 rfl) ?_
            obtain ⟨a2, ea2, hm⟩ := bdE hm
            refine cg_get C hw (oR_E ea2) rfl in_X8 (by decide) q1031 dX8_clears_37 ?_
            obtain ⟨a3, ea3, hm⟩ := bdE hm
            refine cg_getN C hw (by decide) (oR_E ea3) rfl in_X2 (by decide) (hw.2.2.2.2.1 _ (List.mem_of_getElem? (i := 79) rfl)) dX8_clears_40 ?_
            refine lv_iload_n hx hb dX8_clears_43 rfl (lv_at hl 2 rfl) ?_
            obtain ⟨a4, ea4, hm⟩ := bdE hm
            refine cg_aaldA C hw (ty := .array .long) rfl rfl (aR_E ea4) dX8_clears_44 ?_
            refine lv_iload_n hx hb dX8_clears_45 rfl (lv_at hl 1 rfl) ?_
            obtain ⟨v5, ev5, hm⟩ := bdE hm
            refine cg_lald C hw ev5 dX8_clears_46 ?_
            refine lv_lconst (v := 0) hx hb dX8_clears_47 (by decide) ?_
            refine lc_eq (tgt := 83) hx hb dX8_clears_48 dX8_clears_49 (by decide) (fun c6 => ?_) (fun c6 => ?_)
            · have hm := ifT hm c6
              exact hB83 h x0 x1 x3 _ _ _ _ _ hm hw (by omega) (by omega) (lv_sub hl [0, 1, 2] rfl)
            · have hm := ifF hm c6
              refine lv_aload_n hx hb dX8_clears_52 rfl (lv_at hl 0 rfl) ?_
              refine lv_iconst (v := 1) hx hb dX8_clears_53 (by decide) ?_
              refine lv_iload_n hx hb dX8_clears_54 rfl (lv_at hl 2 rfl) ?_
              refine lv_iload_n hx hb dX8_clears_55 rfl (lv_at hl 1 rfl) ?_
              refine lv_aload_n hx hb dX8_clears_56 rfl (lv_at hl 0 rfl) ?_
              obtain ⟨a7, ea7, hm⟩ := bdE hm
              refine cg_get C hw (oR_E ea7) rfl in_X8 (by decide) q1031 dX8_clears_57 ?_
              obtain ⟨a8, ea8, hm⟩ := bdE hm
              refine cg_getN C hw (by decide) (oR_E ea8) rfl in_X2 (by decide) (hw.2.2.2.2.1 _ (List.mem_of_getElem? (i := 79) rfl)) dX8_clears_60 ?_
              refine lv_iload_n hx hb dX8_clears_63 rfl (lv_at hl 2 rfl) ?_
              obtain ⟨a9, ea9, hm⟩ := bdE hm
              refine cg_aaldA C hw (ty := .array .long) rfl rfl (aR_E ea9) dX8_clears_64 ?_
              refine lv_iload_n hx hb dX8_clears_65 rfl (lv_at hl 1 rfl) ?_
              obtain ⟨v10, ev10, hm⟩ := bdE hm
              refine cg_lald C hw ev10 dX8_clears_66 ?_
              refine lv_aload_n hx hb dX8_clears_67 rfl (lv_at hl 0 rfl) ?_
              obtain ⟨a11, ea11, hm⟩ := bdE hm
              refine cg_get C hw (oR_E ea11) rfl in_X8 (by decide) q1031 dX8_clears_68 ?_
              obtain ⟨a12, ea12, hm⟩ := bdE hm
              refine cg_getN C hw (by decide) (oR_E ea12) rfl in_X2 (by decide) (hw.2.2.2.2.1 _ (List.mem_of_getElem? (i := 79) rfl)) dX8_clears_71 ?_
              refine lv_iload_n hx hb dX8_clears_74 rfl (lv_at hl 1 rfl) ?_
              obtain ⟨a13, ea13, hm⟩ := bdE hm
              refine cg_aaldA C hw (ty := .array .long) rfl rfl (aR_E ea13) dX8_clears_75 ?_
              refine lv_iload_n hx hb dX8_clears_76 rfl (lv_at hl 1 rfl) ?_
              obtain ⟨v14, ev14, hm⟩ := bdE hm
              refine cg_lald C hw ev14 dX8_clears_77 ?_
              obtain ⟨g15, hm⟩ := gdE hm
              refine lv_ldiv hx hb dX8_clears_78 (nzL_ne g15) ?_
              refine lv_lneg hx hb dX8_clears_79 ?_
              obtain ⟨g16, hm⟩ := gdE hm
              obtain ⟨h17, eh17, hm⟩ := bdE hm
              have lh17 := mo_X8_does eh17
              have ph17 : h.1 ≤ h17.1 := lh17.1
              have qh17 : h.2.1 ≤ h17.2.1 := lh17.2.1
              have hmo := mo_X8_clears_83 (mo_X8_clears_0 n0) (mo_X8_clears_31 (mo_X8_clears_0 n0) n31)  h17 x0 x1 x3 _ hm
              have sh17 : h17.1 ≤ u9.1 := hmo.1
              have th17 : h17.2.1 ≤ u9.2.1 := hmo.2.1
              refine cg_callv hw lh17 (va_runV (As := [.int (1 : Int32), .int x3, .int x1, .long (-(v10 / v14))]) (rest := []) ⟨hx, hb, hml, hown, hts⟩ (w_X8_does l eh17) (cw_X8_does hts q984 ⟨Nat.le_of_ble_eq_true rfl, Nat.le_of_ble_eq_true rfl⟩) (cg_preV C hw g16 rfl _) rfl rfl hl.1 rfl (lv_room (Nat.le_of_ble_eq_true rfl)) dX8_clears_80 ⟨show cc + (h17.1 - h.1) ≤ u9.1 - u.1 by omega, show ss + (h17.2.1 - h.2.1) ≤ u9.2.1 - u.2.1 by omega⟩) (fun H locs hw => ?_)
              exact hB83 h17 x0 x1 x3 _ _ _ _ _ hm hw (by omega) (by omega) (lv_sub hl [0, 1, 2] rfl)
      have hB27 : ∀ (h : CH) (x0 : Nat) (x1 : Int32) (cc ss : Nat) (H : Heap) (locs : List Loc) (ls : Array Slot), m_X8_clears_27 f (m_X8_clears_0 f n0) h x0 x1 = some u9 → CW D dA A s h H locs → cc + u.1 = h.1 → ss + u.2.1 = h.2.1 → lv_has ls 5 [(0, .ref x0), (1, .int x1)] → W p l e (rm_X8_clears (u9.1 - u.1) (u9.2.1 - u.2.1)) s m args below meth c H locs cc ss QQ (F0 m 27 ls []) := by
        intro h x0 x1 cc ss H locs ls hm hw hcc hss hl
        have hmo := mo_X8_clears_27 (mo_X8_clears_0 n0) h x0 x1 _ hm
        have sb_ : h.1 ≤ u9.1 := hmo.1
        have tb_ : h.2.1 ≤ u9.2.1 := hmo.2.1
        rw [m_X8_clears_27] at hm
        refine lv_iload_n hx hb dX8_clears_27 rfl (lv_at hl 1 rfl) ?_
        refine lv_iconst (v := 1) hx hb dX8_clears_28 (by decide) ?_
        refine lv_iadd hx hb dX8_clears_29 ?_
        refine lv_topi (fun v1 ev1 => ?_)
        have hm := nmK hm ev1
        refine lv_istore_n (lv' := [(3, .int v1), (0, .ref x0), (1, .int x1)]) hx hb dX8_clears_30 rfl hl (by decide) rfl (fun ls hl => ?_)
        exact hB31 f h x0 x1 v1 _ _ _ _ _ hm hw (by omega) (by omega) (lv_sub hl [1, 2, 0] rfl)
      have hB13 : ∀ (h : CH) (x0 : Nat) (x1 : Int32) (y0 : Int32) (cc ss : Nat) (H : Heap) (locs : List Loc) (ls : Array Slot), m_X8_clears_13 f (m_X8_clears_0 f n0) h x0 x1 y0 = some u9 → CW D dA A s h H locs → cc + u.1 = h.1 → ss + u.2.1 = h.2.1 → lv_has ls 5 [(0, .ref x0), (1, .int x1)] → W p l e (rm_X8_clears (u9.1 - u.1) (u9.2.1 - u.2.1)) s m args below meth c H locs cc ss QQ (F0 m 13 ls [.int y0]) := by
        intro h x0 x1 y0 cc ss H locs ls hm hw hcc hss hl
        have hmo := mo_X8_clears_13 (mo_X8_clears_0 n0) h x0 x1 y0 _ hm
        have sb_ : h.1 ≤ u9.1 := hmo.1
        have tb_ : h.2.1 ≤ u9.2.1 := hmo.2.1
        rw [m_X8_clears_13] at hm
        refine lv_istore_n (lv' := [(2, .int y0), (0, .ref x0), (1, .int x1)]) hx hb dX8_clears_13 rfl hl (by decide) rfl (fun ls hl => ?_)
        refine lv_iload_n hx hb dX8_clears_14 rfl (lv_at hl 0 rfl) ?_
        refine lv_iload_n hx hb dX8_clears_15 rfl (lv_at hl 2 rfl) ?_
        refine lv_icmp_eq (tgt := 27) hx hb dX8_clears_16 (by decide) (fun c1 => ?_) (fun c1 => ?_)
        · have hm := ifT hm c1
          exact hB27 h x0 x1 _ _ _ _ _ hm hw (by omega) (by omega) (lv_sub hl [1, 2] rfl)
        · have hm := ifF hm c1
          refine lv_aload_n hx hb dX8_clears_19 rfl (lv_at hl 1 rfl) ?_
          refine lv_iconst (v := 0) hx hb dX8_clears_20 (by decide) ?_
          refine lv_iload_n hx hb dX8_clears_21 rfl (lv_at hl 2 rfl) ?_
          refine lv_iload_n hx hb dX8_clears_22 rfl (lv_at hl 0 rfl) ?_
          refine lv_lconst (v := 0) hx hb dX8_clears_23 (by decide) ?_
          obtain ⟨g2, hm⟩ := gdE hm
          obtain ⟨h3, eh3, hm⟩ := bdE hm
          have lh3 := mo_X8_does eh3
          have ph3 : h.1 ≤ h3.1 := lh3.1
          have qh3 : h.2.1 ≤ h3.2.1 := lh3.2.1
          have hmo := mo_X8_clears_27 (mo_X8_clears_0 n0)  h3 x0 x1 _ hm
          have sh3 : h3.1 ≤ u9.1 := hmo.1
          have th3 : h3.2.1 ≤ u9.2.1 := hmo.2.1
          refine cg_callv hw lh3 (va_runV (As := [.int (0 : Int32), .int x1, .int y0, .long (0 : Int64)]) (rest := []) ⟨hx, hb, hml, hown, hts⟩ (w_X8_does l eh3) (cw_X8_does hts q984 ⟨Nat.le_of_ble_eq_true rfl, Nat.le_of_ble_eq_true rfl⟩) (cg_preV C hw g2 rfl _) rfl rfl hl.1 rfl (lv_room (Nat.le_of_ble_eq_true rfl)) dX8_clears_24 ⟨show cc + (h3.1 - h.1) ≤ u9.1 - u.1 by omega, show ss + (h3.2.1 - h.2.1) ≤ u9.2.1 - u.2.1 by omega⟩) (fun H locs hw => ?_)
          exact hB27 h3 x0 x1 _ _ _ _ _ hm hw (by omega) (by omega) (lv_sub hl [1, 2] rfl)
      have hB5 : ∀ (h : CH) (x0 : Nat) (x1 : Int32) (y0 : Int32) (cc ss : Nat) (H : Heap) (locs : List Loc) (ls : Array Slot), m_X8_clears_5 f (m_X8_clears_0 f n0) h x0 x1 y0 = some u9 → CW D dA A s h H locs → cc + u.1 = h.1 → ss + u.2.1 = h.2.1 → lv_has ls 5 [(0, .ref x0), (1, .int x1)] → W p l e (rm_X8_clears (u9.1 - u.1) (u9.2.1 - u.2.1)) s m args below meth c H locs cc ss QQ (F0 m 5 ls [.int y0]) := by
        intro h x0 x1 y0 cc ss H locs ls hm hw hcc hss hl
        have hmo := mo_X8_clears_5 (mo_X8_clears_0 n0) h x0 x1 y0 _ hm
        have sb_ : h.1 ≤ u9.1 := hmo.1
        have tb_ : h.2.1 ≤ u9.2.1 := hmo.2.1
        rw [m_X8_clears_5] at hm
        refine lv_if_eq (tgt := 92) hx hb dX8_clears_5 (by decide) (fun c1 => ?_) (fun c1 => ?_)
        · have hm := ifT hm c1
          exact hB92 h x0 x1 _ _ _ _ _ hm hw (by omega) (by omega) (lv_sub hl [0, 1] rfl)
        · have hm := ifF hm c1
          refine lv_aload_n hx hb dX8_clears_8 rfl (lv_at hl 0 rfl) ?_
          refine lv_iload_n hx hb dX8_clears_9 rfl (lv_at hl 1 rfl) ?_
          obtain ⟨g2, hm⟩ := gdE hm
          obtain ⟨r4, h3, er4, hm⟩ := bd2E hm
          have lh3 := mo_X8_least er4
          have ph3 : h.1 ≤ h3.1 := lh3.1
          have qh3 : h.2.1 ≤ h3.2.1 := lh3.2.1
          have hmo := mo_X8_clears_13 (mo_X8_clears_0 n0)  h3 x0 x1 r4 _ hm
          have sh3 : h3.1 ≤ u9.1 := hmo.1
          have th3 : h3.2.1 ≤ u9.2.1 := hmo.2.1
          refine cg_calli hw lh3 (va_runV (As := [.int x1]) (rest := []) ⟨hx, hb, hml, hown, hts⟩ (w_X8_least l er4) (cw_X8_least hts q979 ⟨Nat.le_of_ble_eq_true rfl, Nat.le_of_ble_eq_true rfl⟩) (cg_preV C hw g2 rfl _) rfl rfl hl.1 rfl (lv_room (Nat.le_of_ble_eq_true rfl)) dX8_clears_10 ⟨show cc + (h3.1 - h.1) ≤ u9.1 - u.1 by omega, show ss + (h3.2.1 - h.2.1) ≤ u9.2.1 - u.2.1 by omega⟩) (fun H locs hw => ?_)
          exact hB13 h3 x0 x1 r4 _ _ _ _ _ hm hw (by omega) (by omega) (lv_sub hl [0, 1] rfl)
      intro h x0 x1 cc ss H locs ls hm hw hcc hss hl
      have hmo := mo_X8_clears_0  (n0 + 1) h x0 x1 _ hm
      have sb_ : h.1 ≤ u9.1 := hmo.1
      have tb_ : h.2.1 ≤ u9.2.1 := hmo.2.1
      rw [m_X8_clears_0] at hm
      refine lv_aload_n hx hb dX8_clears_0 rfl (lv_at hl 0 rfl) ?_
      refine lv_iload_n hx hb dX8_clears_1 rfl (lv_at hl 1 rfl) ?_
      obtain ⟨g1, hm⟩ := gdE hm
      obtain ⟨r3, h2, er3, hm⟩ := bd2E hm
      have lh2 := mo_X8_isMoreBelow er3
      have ph2 : h.1 ≤ h2.1 := lh2.1
      have qh2 : h.2.1 ≤ h2.2.1 := lh2.2.1
      have hmo := mo_X8_clears_5 (mo_X8_clears_0 n0)  h2 x0 x1 r3 _ hm
      have sh2 : h2.1 ≤ u9.1 := hmo.1
      have th2 : h2.2.1 ≤ u9.2.1 := hmo.2.1
      refine cg_calli hw lh2 (va_runV (As := [.int x1]) (rest := []) ⟨hx, hb, hml, hown, hts⟩ (w_X8_isMoreBelow l er3) (cw_X8_isMoreBelow hts q975 ⟨Nat.le_of_ble_eq_true rfl, Nat.le_of_ble_eq_true rfl⟩) (cg_preV C hw g1 rfl _) rfl rfl hl.1 rfl (lv_room (Nat.le_of_ble_eq_true rfl)) dX8_clears_2 ⟨show cc + (h2.1 - h.1) ≤ u9.1 - u.1 by omega, show ss + (h2.2.1 - h.2.1) ≤ u9.2.1 - u.2.1 by omega⟩) (fun H locs hw => ?_)
      exact hB5 h2 x0 x1 r3 _ _ _ _ _ hm hw (by omega) (by omega) (lv_sub hl [0, 1] rfl)
  rw [m_X8_clears] at hm
  exact hB0 f u x0 x1 _ _ _ _ _ hm hw (by omega) (by omega) (lv_sub hl [0, 1] rfl)
def m_J2_init_2_4 (f : Nat) (h : CH) (x0 : Nat) : Option CH := bd (sR h 0) fun a1 =>
    bd (pF h 17 1 x0 (.ref a1)) fun h2 =>
    some h2
theorem mo_J2_init_2_4 {f : Nat} : ∀ (h : CH) (x0 : Nat) (r : CH), m_J2_init_2_4 f h x0 = some r → le2 h r := by
  intro h x0 r hm
  rw [m_J2_init_2_4] at hm
  obtain ⟨a1, ea1, hm⟩ := bdE hm
  obtain ⟨h2, eh2, hm⟩ := bdE hm
  have lh2 := pF_le eh2
  cases hm
  exact (lh2.tr le2.rf)
def m_J2_init_2 (f : Nat) (u : CH) (x0 : Nat) : Option CH := bd (m_J1_init_J2 f u x0) fun h1 =>
    m_J2_init_2_4 f h1 x0
theorem mo_J2_init_2 {f : Nat} {u : CH} {x0 : Nat} {u9 : CH} (hm : m_J2_init_2 f u x0 = some u9) : le2 u u9 := by
  rw [m_J2_init_2] at hm
  obtain ⟨h1, eh1, hm⟩ := bdE hm
  have lh1 := mo_J1_init_J2 eh1
  exact (lh1.tr (mo_J2_init_2_4  h1 x0 _ hm))
abbrev rm_J2_init_2 (mc ms : Nat) : Room := { frames := 3, cells := mc, slots := ms, locals := 60 }
theorem cw_J2_init_2 {R : Room} {s : State} {args : Array Value} {own : String} {idx mc ms : Nat} (hts : ∀ w ∈ lw_all, w.before args s = true) (hl : Cond.methodLink own idx yJ2_init_2 ∈ lw_all) (hR : 3 + 1 ≤ R.frames ∧ 8 + (1 + 11) + 60 ≤ R.locals) : CallB R s args own idx yJ2_init_2 cJ2_init_2 1 none (ws_ yJ2_init_2 cJ2_init_2 1 (Option.none : Option Jvm.ClassFile.FieldType)) (rm_J2_init_2 mc ms) mc ms 0 ∧ yJ2_init_2.name = "<init>" ∧ (Cond.instanceMethod yJ2_init_2).before args s = true := cwI 0 hts (lw_meth q966) rfl rfl rfl (hts _ q122) (hts _ hl) (hts _ q965) rfl (by decide +kernel) hR
set_option maxHeartbeats 4000000 in
set_option maxRecDepth 100000 in
theorem w_J2_init_2 (l : Launch) {D : va_G} {dA : Nat → ClassId} {A : Nat → Prop} {f : Nat} {u u9 : CH} {x0 : Nat} (hm : m_J2_init_2 f u x0 = some u9) : Met l yJ2_init_2 (ws_ yJ2_init_2 cJ2_init_2 1 (Option.none : Option Jvm.ClassFile.FieldType)) (rm_J2_init_2 (u9.1 - u.1) (u9.2.1 - u.2.1)) (va_Pc [.ref x0] (CPre D dA A u)) (va_Qv (fun u => u = u9) (CPost D dA A) A) (u9.1 - u.1) (u9.2.1 - u.2.1) A := by
  refine metOfWF (cc := cJ2_init_2) (maxL := 1) (ret := (Option.none : Option Jvm.ClassFile.FieldType)) (by decide +kernel) rfl ?_
  intro p e s m args below meth c s₁ B hml hv
  have hx := B.exec
  have hb := B.bytes
  have hr := B.returns
  have hts := atoms_spec (ws := (ws_ yJ2_init_2 cJ2_init_2 1 (Option.none : Option Jvm.ClassFile.FieldType))) B.pre
  have hts : ∀ w ∈ lw_all, w.before args s = true := fun w h => hts w (List.mem_cons_of_mem _ h)
  have hown : s.vm.findClass RJ2 = some m.cls := findClass_of_methodNamed B.named
  have hlocks := B.notSynchronized
  have hin : meth.name = "<init>" := (name_of_methodNamed B.named B.method).1
  obtain ⟨hav, hv⟩ := hv
  have C : CX p s m args c cJ2_init_2 RJ2 D dA := ⟨hx, hb, hown, hts, hv.2⟩
  have hw : CW D dA A s u s.heap [] := hv.1
  generalize hQ : MQ below (va_Qv (fun u => u = u9) (CPost D dA A) A) args s (u9.1 - u.1) (u9.2.1 - u.2.1) A = QQ
  have hent := lg_entry_eq m [.ref x0] 1
  rw [← hav] at hent
  rw [hent]
  have hl := lv_entry ([.ref x0]) (n := 1) (Nat.le_of_ble_eq_true rfl)
  generalize (lg_sl ([.ref x0]) ++ List.replicate (1 - (lg_sl ([.ref x0])).length) Slot.unset).toArray = ls at hl ⊢
  have hl : lv_has ls 1 [(0, .ref x0)] := hl
  obtain ⟨cc, ecc⟩ : ∃ z : Nat, z = 0 := ⟨0, rfl⟩
  obtain ⟨ss, ess⟩ : ∃ z : Nat, z = 0 := ⟨0, rfl⟩
  have hcc : cc + u.1 = u.1 := by omega
  have hss : ss + u.2.1 = u.2.1 := by omega
  suffices hgo : W p l e (rm_J2_init_2 (u9.1 - u.1) (u9.2.1 - u.2.1)) s m args below meth c s.heap [] cc ss QQ (F0 m 0 ls []) by rw [ecc, ess] at hgo; exact hgo
  have ⟨pu, qu, _, _⟩ := mo_J2_init_2 hm
  have hB4 : ∀ (h : CH) (x0 : Nat) (cc ss : Nat) (H : Heap) (locs : List Loc) (ls : Array Slot), m_J2_init_2_4 f h x0 = some u9 → CW D dA A s h H locs → cc + u.1 = h.1 → ss + u.2.1 = h.2.1 → lv_has ls 1 [(0, .ref x0)] → W p l e (rm_J2_init_2 (u9.1 - u.1) (u9.2.1 - u.2.1)) s m args below meth c H locs cc ss QQ (F0 m 4 ls []) := by
    intro h x0 cc ss H locs ls hm hw hcc hss hl
    have hmo := mo_J2_init_2_4  h x0 _ hm
    have sb_ : h.1 ≤ u9.1 := hmo.1
    have tb_ : h.2.1 ≤ u9.2.1 := hmo.2.1
    rw [m_J2_init_2_4] at hm
    refine lv_aload_n hx hb dJ2_init_2_4 rfl (lv_at hl 0 rfl) ?_
    obtain ⟨a1, ea1, hm⟩ := bdE hm
    refine cg_gets C hw (i := 0) ea1 rfl q816 dJ2_init_2_5 ?_
    obtain ⟨h2, eh2, hm⟩ := bdE hm
    refine cg_put C hw eh2 rfl in_J2 tyJ2 tyJ2_ok nmJ2 (by decide) q179 rfl rfl rfl dJ2_init_2_8 (fun H locs hw => ?_)
    have zh2 := pF_sz eh2
    have eh := ret1 hm
    have ec : cc = u9.1 - u.1 := by rw [← eh]; omega
    have es : ss = u9.2.1 - u.2.1 := by rw [← eh]; omega
    rw [ec, es, ← hQ]
    exact W.vret hx hb hr (fun t ht hW => ⟨⟨h2, rfl, eh, ⟨by rw [ht]; exact hw.1, by rw [ht]; exact hw.2.1⟩⟩, hw.2.2.1.F ht⟩) hw.2.2.1.2.2 dJ2_init_2_11
  rw [m_J2_init_2] at hm
  refine lv_aload_n hx hb dJ2_init_2_0 rfl (lv_at hl 0 rfl) ?_
  obtain ⟨h1, eh1, hm⟩ := bdE hm
  have lh1 := mo_J1_init_J2 eh1
  have ph1 : u.1 ≤ h1.1 := lh1.1
  have qh1 : u.2.1 ≤ h1.2.1 := lh1.2.1
  have hmo := mo_J2_init_2_4   h1 x0 _ hm
  have sh1 : h1.1 ≤ u9.1 := hmo.1
  have th1 : h1.2.1 ≤ u9.2.1 := hmo.2.1
  refine cg_callv hw lh1 (va_runI (As := []) (rest := []) ⟨hx, hb, hml, hown, hts⟩ (w_J1_init_J2 l eh1) (cw_J1_init_J2 hts q168 ⟨Nat.le_of_ble_eq_true rfl, Nat.le_of_ble_eq_true rfl⟩) (cg_preS C hw _) rfl rfl hl.1 rfl (lv_room (Nat.le_of_ble_eq_true rfl)) dJ2_init_2_1 ⟨show cc + (h1.1 - u.1) ≤ u9.1 - u.1 by omega, show ss + (h1.2.1 - u.2.1) ≤ u9.2.1 - u.2.1 by omega⟩) (fun H locs hw => ?_)
  exact hB4 h1 x0 _ _ _ _ _ hm hw (by omega) (by omega) (lv_sub hl [0] rfl)
def m_X8_init_41 (f : Nat) (h : CH) : Option CH := some h
theorem mo_X8_init_41 {f : Nat} : ∀ (h : CH) (r : CH), m_X8_init_41 f h = some r → le2 h r := by
  intro h r hm
  rw [m_X8_init_41] at hm
  cases hm
  exact le2.rf
def m_X8_init_35 (f : Nat) (k25 : CH → Nat → Int32 → Option CH) (h : CH) (x0 : Nat) (x2 : Int32) : Option CH := nmv ((x2 + 1) : Int32) fun v1 =>
    k25 h x0 v1
theorem mo_X8_init_35 {f : Nat} {k25 : CH → Nat → Int32 → Option CH} (hk25 : ∀ (h : CH) (x0 : Nat) (x2 : Int32) (r : CH), k25 h x0 x2 = some r → le2 h r) : ∀ (h : CH) (x0 : Nat) (x2 : Int32) (r : CH), m_X8_init_35 f k25 h x0 x2 = some r → le2 h r := by
  intro h x0 x2 r hm
  rw [m_X8_init_35] at hm
  obtain ⟨v1, ev1, hm⟩ := nmE hm
  exact (hk25 h x0 v1 _ hm)
def m_X8_init_25 (f : Nat) : Nat → CH → Nat → Int32 → Option CH
  | 0, _, _, _ => none
  | n25 + 1, h, x0, x2 => if (3 : Int32) ≤ x2 then
    m_X8_init_41 f h
    else gd (isC h x0 8) <|
    bd (m_X8_clears f h x0 x2) fun h3 =>
    m_X8_init_35 f (m_X8_init_25 f n25) h3 x0 x2
theorem mo_X8_init_25 {f : Nat} : ∀ (n25 : Nat) (h : CH) (x0 : Nat) (x2 : Int32) (r : CH), m_X8_init_25 f n25 h x0 x2 = some r → le2 h r := by
  intro n25
  induction n25 with
  | zero => intro h x0 x2 r hm; rw [m_X8_init_25] at hm; exact noE hm
  | succ n25 ihm =>
    intro h x0 x2 r hm
    rw [m_X8_init_25] at hm
    by_cases c1 : (3 : Int32) ≤ x2
    · have hm := ifT hm c1
      exact (mo_X8_init_41  h _ hm)
    · have hm := ifF hm c1
      obtain ⟨g2, hm⟩ := gdE hm
      obtain ⟨h3, eh3, hm⟩ := bdE hm
      have lh3 := mo_X8_clears eh3
      exact (lh3.tr (mo_X8_init_35 ihm h3 x0 x2 _ hm))
def m_X8_init_20 (f : Nat) (h : CH) (x0 : Nat) (y0 : Nat) (y1 : Nat) : Option CH := bd (pF h 8 0 y0 (.ref y1)) fun h1 =>
    m_X8_init_25 f f h1 x0 (0 : Int32)
theorem mo_X8_init_20 {f : Nat} : ∀ (h : CH) (x0 : Nat) (y0 : Nat) (y1 : Nat) (r : CH), m_X8_init_20 f h x0 y0 y1 = some r → le2 h r := by
  intro h x0 y0 y1 r hm
  rw [m_X8_init_20] at hm
  obtain ⟨h1, eh1, hm⟩ := bdE hm
  have lh1 := pF_le eh1
  exact (lh1.tr (mo_X8_init_25  f h1 x0 (0 : Int32) _ hm))
def m_X8_init_12 (f : Nat) (h : CH) (x0 : Nat) (x1 : Nat) (y0 : Nat) (y1 : Nat) : Option CH := bd (pF h 8 1 y0 (.ref y1)) fun h1 =>
    gd (isC h1 x1 3) <|
    bd2 (m_X2_copy f h1 x1) fun a4 h3 =>
    m_X8_init_20 f h3 x0 x0 a4
theorem mo_X8_init_12 {f : Nat} : ∀ (h : CH) (x0 : Nat) (x1 : Nat) (y0 : Nat) (y1 : Nat) (r : CH), m_X8_init_12 f h x0 x1 y0 y1 = some r → le2 h r := by
  intro h x0 x1 y0 y1 r hm
  rw [m_X8_init_12] at hm
  obtain ⟨h1, eh1, hm⟩ := bdE hm
  have lh1 := pF_le eh1
  obtain ⟨g2, hm⟩ := gdE hm
  obtain ⟨a4, h3, ea4, hm⟩ := bd2E hm
  have lh3 := mo_X2_copy ea4
  exact (lh1.tr (lh3.tr (mo_X8_init_20  h3 x0 x0 a4 _ hm)))
def m_X8_init_8 (f : Nat) (h : CH) (x0 : Nat) (x1 : Nat) (y0 : Nat) (y1 : Nat) : Option CH := bd (m_J2_init_2 f h y1) fun h1 =>
    m_X8_init_12 f h1 x0 x1 y0 y1
theorem mo_X8_init_8 {f : Nat} : ∀ (h : CH) (x0 : Nat) (x1 : Nat) (y0 : Nat) (y1 : Nat) (r : CH), m_X8_init_8 f h x0 x1 y0 y1 = some r → le2 h r := by
  intro h x0 x1 y0 y1 r hm
  rw [m_X8_init_8] at hm
  obtain ⟨h1, eh1, hm⟩ := bdE hm
  have lh1 := mo_J2_init_2 eh1
  exact (lh1.tr (mo_X8_init_12  h1 x0 x1 y0 y1 _ hm))
def m_X8_init (f : Nat) (u : CH) (x0 : Nat) (x1 : Nat) : Option CH := nmv (cn u 3 (.inl (17, [.int 0, .null, .int 0]))) fun h1 =>
    nmv (u.1 : Nat) fun a2 =>
    m_X8_init_8 f h1 x0 x1 x0 a2
theorem mo_X8_init {f : Nat} {u : CH} {x0 : Nat} {x1 : Nat} {u9 : CH} (hm : m_X8_init f u x0 x1 = some u9) : le2 u u9 := by
  rw [m_X8_init] at hm
  obtain ⟨h1, eh1, hm⟩ := nmE hm
  have lh1 := cn_le eh1
  obtain ⟨a2, ea2, hm⟩ := nmE hm
  exact (lh1.tr (mo_X8_init_8  h1 x0 x1 x0 a2 _ hm))
abbrev rm_X8_init (mc ms : Nat) : Room := { frames := 9, cells := mc, slots := ms, locals := 241 }
theorem cw_X8_init {R : Room} {s : State} {args : Array Value} {own : String} {idx mc ms : Nat} (hts : ∀ w ∈ lw_all, w.before args s = true) (hl : Cond.methodLink own idx yX8_init ∈ lw_all) (hR : 9 + 1 ≤ R.frames ∧ 8 + (3 + 11) + 241 ≤ R.locals) : CallB R s args own idx yX8_init cX8_init 3 none (ws_ yX8_init cX8_init 3 (Option.none : Option Jvm.ClassFile.FieldType)) (rm_X8_init mc ms) mc ms 1 ∧ yX8_init.name = "<init>" ∧ (Cond.instanceMethod yX8_init).before args s = true := cwI 1 hts (lw_meth q961) rfl rfl rfl (hts _ q145) (hts _ hl) (hts _ q960) rfl (by decide +kernel) hR
set_option maxHeartbeats 4000000 in
set_option maxRecDepth 100000 in
theorem w_X8_init (l : Launch) {D : va_G} {dA : Nat → ClassId} {A : Nat → Prop} {f : Nat} {u u9 : CH} {x0 : Nat} {x1 : Nat} (hm : m_X8_init f u x0 x1 = some u9) : Met l yX8_init (ws_ yX8_init cX8_init 3 (Option.none : Option Jvm.ClassFile.FieldType)) (rm_X8_init (u9.1 - u.1) (u9.2.1 - u.2.1)) (va_Pc [.ref x0, .ref x1] (CPre D dA A u)) (va_Qv (fun u => u = u9) (CPost D dA A) A) (u9.1 - u.1) (u9.2.1 - u.2.1) A := by
  refine Met.ofW (cc := cX8_init) (maxL := 3) (ret := (Option.none : Option Jvm.ClassFile.FieldType)) (by decide) rfl ?_
  intro p e s m args below meth c s₁ B hml hv
  have hx := B.exec
  have hb := B.bytes
  have hr := B.returns
  have hts := atoms_spec (ws := (ws_ yX8_init cX8_init 3 (Option.none : Option Jvm.ClassFile.FieldType))) B.pre
  have hts : ∀ w ∈ lw_all, w.before args s = true := fun w h => hts w (List.mem_cons_of_mem _ h)
  have hown : s.vm.findClass RX8 = some m.cls := findClass_of_methodNamed B.named
  have hlocks := B.notSynchronized
  have hin : meth.name = "<init>" := (name_of_methodNamed B.named B.method).1
  obtain ⟨hav, hv⟩ := hv
  have C : CX p s m args c cX8_init RX8 D dA := ⟨hx, hb, hown, hts, hv.2⟩
  have hw : CW D dA A s u s.heap [] := hv.1
  generalize hQ : MQ below (va_Qv (fun u => u = u9) (CPost D dA A) A) args s (u9.1 - u.1) (u9.2.1 - u.2.1) A = QQ
  have hent := lg_entry_eq m [.ref x0, .ref x1] 3
  rw [← hav] at hent
  rw [hent]
  have hl := lv_entry ([.ref x0, .ref x1]) (n := 3) (Nat.le_of_ble_eq_true rfl)
  generalize (lg_sl ([.ref x0, .ref x1]) ++ List.replicate (3 - (lg_sl ([.ref x0, .ref x1])).length) Slot.unset).toArray = ls at hl ⊢
  have hl : lv_has ls 3 [(0, .ref x0), (1, .ref x1)] := hl
  obtain ⟨cc, ecc⟩ : ∃ z : Nat, z = 0 := ⟨0, rfl⟩
  obtain ⟨ss, ess⟩ : ∃ z : Nat, z = 0 := ⟨0, rfl⟩
  have hcc : cc + u.1 = u.1 := by omega
  have hss : ss + u.2.1 = u.2.1 := by omega
  suffices hgo : W p l e (rm_X8_init (u9.1 - u.1) (u9.2.1 - u.2.1)) s m args below meth c s.heap [] cc ss QQ (F0 m 0 ls []) by rw [ecc, ess] at hgo; exact hgo
  have ⟨pu, qu, _, _⟩ := mo_X8_init hm
  have hB41 : ∀ (h : CH) (cc ss : Nat) (H : Heap) (locs : List Loc) (ls : Array Slot), m_X8_init_41 f h = some u9 → CW D dA A s h H locs → cc + u.1 = h.1 → ss + u.2.1 = h.2.1 → lv_has ls 3 [] → W p l e (rm_X8_init (u9.1 - u.1) (u9.2.1 - u.2.1)) s m args below meth c H locs cc ss QQ (F0 m 41 ls []) := by
    intro h cc ss H locs ls hm hw hcc hss hl
    have hmo := mo_X8_init_41  h _ hm
    have sb_ : h.1 ≤ u9.1 := hmo.1
    have tb_ : h.2.1 ≤ u9.2.1 := hmo.2.1
    rw [m_X8_init_41] at hm
    have eh := ret1 hm
    have ec : cc = u9.1 - u.1 := by rw [← eh]; omega
    have es : ss = u9.2.1 - u.2.1 := by rw [← eh]; omega
    rw [ec, es, ← hQ]
    exact W.vret hx hb hr (fun t ht hW => ⟨⟨h, rfl, eh, ⟨by rw [ht]; exact hw.1, by rw [ht]; exact hw.2.1⟩⟩, hw.2.2.1.F ht⟩) hw.2.2.1.2.2 dX8_init_41
  have hB25 : ∀ (n25 : Nat), ∀ (h : CH) (x0 : Nat) (x2 : Int32) (cc ss : Nat) (H : Heap) (locs : List Loc) (ls : Array Slot), m_X8_init_25 f n25 h x0 x2 = some u9 → CW D dA A s h H locs → cc + u.1 = h.1 → ss + u.2.1 = h.2.1 → lv_has ls 3 [(0, .ref x0), (2, .int x2)] → W p l e (rm_X8_init (u9.1 - u.1) (u9.2.1 - u.2.1)) s m args below meth c H locs cc ss QQ (F0 m 25 ls []) := by
    intro n25
    induction n25 with
    | zero => intro h x0 x2 cc ss H locs ls hm hw hcc hss hl; rw [m_X8_init_25] at hm; exact noE hm
    | succ n25 ih25 =>
      have hB35 : ∀ (h : CH) (x0 : Nat) (x2 : Int32) (cc ss : Nat) (H : Heap) (locs : List Loc) (ls : Array Slot), m_X8_init_35 f (m_X8_init_25 f n25) h x0 x2 = some u9 → CW D dA A s h H locs → cc + u.1 = h.1 → ss + u.2.1 = h.2.1 → lv_has ls 3 [(0, .ref x0), (2, .int x2)] → W p l e (rm_X8_init (u9.1 - u.1) (u9.2.1 - u.2.1)) s m args below meth c H locs cc ss QQ (F0 m 35 ls []) := by
        intro h x0 x2 cc ss H locs ls hm hw hcc hss hl
        have hmo := mo_X8_init_35 (mo_X8_init_25 n25) h x0 x2 _ hm
        have sb_ : h.1 ≤ u9.1 := hmo.1
        have tb_ : h.2.1 ≤ u9.2.1 := hmo.2.1
        rw [m_X8_init_35] at hm
        obtain ⟨v1, ev1, hm⟩ := nmE hm
        refine lv_iinc (v := v1) (lv' := [(2, .int v1), (0, .ref x0)]) hx hb dX8_init_35 hl (k := 1) rfl (by rw [ev1]; rfl) (by decide) rfl (fun ls hl => ?_)
        refine lv_goto (tgt := 25) hx hb dX8_init_38 (by decide) ?_
        exact ih25 h x0 v1 _ _ _ _ _ hm hw (by omega) (by omega) (lv_sub hl [1, 0] rfl)
      intro h x0 x2 cc ss H locs ls hm hw hcc hss hl
      have hmo := mo_X8_init_25  (n25 + 1) h x0 x2 _ hm
      have sb_ : h.1 ≤ u9.1 := hmo.1
      have tb_ : h.2.1 ≤ u9.2.1 := hmo.2.1
      rw [m_X8_init_25] at hm
      refine lv_iload_n hx hb dX8_init_25 rfl (lv_at hl 1 rfl) ?_
      refine lv_iconst (v := 3) hx hb dX8_init_26 (by decide) ?_
      refine lv_icmp_ge (tgt := 41) hx hb dX8_init_27 (by decide) (fun c1 => ?_) (fun c1 => ?_)
      · have hm := ifT hm c1
        exact hB41 h _ _ _ _ _ hm hw (by omega) (by omega) (lv_sub hl [] rfl)
      · have hm := ifF hm c1
        refine lv_aload_n hx hb dX8_init_30 rfl (lv_at hl 0 rfl) ?_
        refine lv_iload_n hx hb dX8_init_31 rfl (lv_at hl 1 rfl) ?_
        obtain ⟨g2, hm⟩ := gdE hm
        obtain ⟨h3, eh3, hm⟩ := bdE hm
        have lh3 := mo_X8_clears eh3
        have ph3 : h.1 ≤ h3.1 := lh3.1
        have qh3 : h.2.1 ≤ h3.2.1 := lh3.2.1
        have hmo := mo_X8_init_35 (mo_X8_init_25 n25)  h3 x0 x2 _ hm
        have sh3 : h3.1 ≤ u9.1 := hmo.1
        have th3 : h3.2.1 ≤ u9.2.1 := hmo.2.1
        refine cg_callv hw lh3 (va_runV (As := [.int x2]) (rest := []) ⟨hx, hb, hml, hown, hts⟩ (w_X8_clears l eh3) (cw_X8_clears hts q971 ⟨Nat.le_of_ble_eq_true rfl, Nat.le_of_ble_eq_true rfl⟩) (cg_preV C hw g2 rfl _) rfl rfl hl.1 rfl (lv_room (Nat.le_of_ble_eq_true rfl)) dX8_init_32 ⟨show cc + (h3.1 - h.1) ≤ u9.1 - u.1 by omega, show ss + (h3.2.1 - h.2.1) ≤ u9.2.1 - u.2.1 by omega⟩) (fun H locs hw => ?_)
        exact hB35 h3 x0 x2 _ _ _ _ _ hm hw (by omega) (by omega) (lv_sub hl [0, 1] rfl)
  have hB20 : ∀ (h : CH) (x0 : Nat) (y0 : Nat) (y1 : Nat) (cc ss : Nat) (H : Heap) (locs : List Loc) (ls : Array Slot), m_X8_init_20 f h x0 y0 y1 = some u9 → CW D dA A s h H locs → cc + u.1 = h.1 → ss + u.2.1 = h.2.1 → lv_has ls 3 [(0, .ref x0)] → W p l e (rm_X8_init (u9.1 - u.1) (u9.2.1 - u.2.1)) s m args below meth c H locs cc ss QQ (F0 m 20 ls [.ref y1, .ref y0]) := by
    intro h x0 y0 y1 cc ss H locs ls hm hw hcc hss hl
    have hmo := mo_X8_init_20  h x0 y0 y1 _ hm
    have sb_ : h.1 ≤ u9.1 := hmo.1
    have tb_ : h.2.1 ≤ u9.2.1 := hmo.2.1
    rw [m_X8_init_20] at hm
    obtain ⟨h1, eh1, hm⟩ := bdE hm
    refine cg_putF C hw eh1 rfl in_X8 tyX8 tyX8_ok nmX8 (by decide) q1031 rfl hin rfl rfl rfl dX8_init_20 (fun H locs hw => ?_)
    have zh1 := pF_sz eh1
    refine lv_iconst (v := 0) hx hb dX8_init_23 (by decide) ?_
    refine lv_istore_n (lv' := [(2, .int (0 : Int32)), (0, .ref x0)]) hx hb dX8_init_24 rfl hl (by decide) rfl (fun ls hl => ?_)
    exact hB25 f h1 x0 (0 : Int32) _ _ _ _ _ hm hw (by omega) (by omega) (lv_sub hl [1, 0] rfl)
  have hB12 : ∀ (h : CH) (x0 : Nat) (x1 : Nat) (y0 : Nat) (y1 : Nat) (cc ss : Nat) (H : Heap) (locs : List Loc) (ls : Array Slot), m_X8_init_12 f h x0 x1 y0 y1 = some u9 → CW D dA A s h H locs → cc + u.1 = h.1 → ss + u.2.1 = h.2.1 → lv_has ls 3 [(0, .ref x0), (1, .ref x1)] → W p l e (rm_X8_init (u9.1 - u.1) (u9.2.1 - u.2.1)) s m args below meth c H locs cc ss QQ (F0 m 12 ls [.ref y1, .ref y0]) := by
    intro h x0 x1 y0 y1 cc ss H locs ls hm hw hcc hss hl
    have hmo := mo_X8_init_12  h x0 x1 y0 y1 _ hm
    have sb_ : h.1 ≤ u9.1 := hmo.1
    have tb_ : h.2.1 ≤ u9.2.1 := hmo.2.1
    rw [m_X8_init_12] at hm
    obtain ⟨h1, eh1, hm⟩ := bdE hm
    refine cg_putF C hw eh1 rfl in_X8 tyX8 tyX8_ok nmX8 (by decide) q1033 rfl hin rfl rfl rfl dX8_init_12 (fun H locs hw => ?_)
    have zh1 := pF_sz eh1
    refine lv_aload_n hx hb dX8_init_15 rfl (lv_at hl 0 rfl) ?_
    refine lv_aload_n hx hb dX8_init_16 rfl (lv_at hl 1 rfl) ?_
    obtain ⟨g2, hm⟩ := gdE hm
    obtain ⟨a4, h3, ea4, hm⟩ := bd2E hm
    have lh3 := mo_X2_copy ea4
    have ph3 : h1.1 ≤ h3.1 := lh3.1
    have qh3 : h1.2.1 ≤ h3.2.1 := lh3.2.1
    have hmo := mo_X8_init_20   h3 x0 x0 a4 _ hm
    have sh3 : h3.1 ≤ u9.1 := hmo.1
    have th3 : h3.2.1 ≤ u9.2.1 := hmo.2.1
    refine cg_callr hw lh3 (va_runV (As := []) (rest := [.ref x0]) ⟨hx, hb, hml, hown, hts⟩ (w_X2_copy l ea4) (cw_X2_copy hts q967 ⟨Nat.le_of_ble_eq_true rfl, Nat.le_of_ble_eq_true rfl⟩) (cg_preV C hw g2 rfl _) rfl rfl hl.1 rfl (lv_room (Nat.le_of_ble_eq_true rfl)) dX8_init_17 ⟨show cc + (h3.1 - h1.1) ≤ u9.1 - u.1 by omega, show ss + (h3.2.1 - h1.2.1) ≤ u9.2.1 - u.2.1 by omega⟩) (fun H locs hw => ?_)
    exact hB20 h3 x0 x0 a4 _ _ _ _ _ hm hw (by omega) (by omega) (lv_sub hl [0] rfl)
  have hB8 : ∀ (h : CH) (x0 : Nat) (x1 : Nat) (y0 : Nat) (y1 : Nat) (cc ss : Nat) (H : Heap) (locs : List Loc) (ls : Array Slot), m_X8_init_8 f h x0 x1 y0 y1 = some u9 → CW D dA A s h H locs → cc + u.1 = h.1 → ss + u.2.1 = h.2.1 → lv_has ls 3 [(0, .ref x0), (1, .ref x1)] → W p l e (rm_X8_init (u9.1 - u.1) (u9.2.1 - u.2.1)) s m args below meth c H locs cc ss QQ (F0 m 8 ls [.ref y1, .ref y0]) := by
    intro h x0 x1 y0 y1 cc ss H locs ls hm hw hcc hss hl
    have hmo := mo_X8_init_8  h x0 x1 y0 y1 _ hm
    have sb_ : h.1 ≤ u9.1 := hmo.1
    have tb_ : h.2.1 ≤ u9.2.1 := hmo.2.1
    rw [m_X8_init_8] at hm
    refine lv_dup hx hb dX8_init_8 rfl ?_
    obtain ⟨h1, eh1, hm⟩ := bdE hm
    have lh1 := mo_J2_init_2 eh1
    have ph1 : h.1 ≤ h1.1 := lh1.1
    have qh1 : h.2.1 ≤ h1.2.1 := lh1.2.1
    have hmo := mo_X8_init_12   h1 x0 x1 y0 y1 _ hm
    have sh1 : h1.1 ≤ u9.1 := hmo.1
    have th1 : h1.2.1 ≤ u9.2.1 := hmo.2.1
    refine cg_callv hw lh1 (va_runI (As := []) (rest := [.ref y1, .ref y0]) ⟨hx, hb, hml, hown, hts⟩ (w_J2_init_2 l eh1) (cw_J2_init_2 hts q964 ⟨Nat.le_of_ble_eq_true rfl, Nat.le_of_ble_eq_true rfl⟩) (cg_preS C hw _) rfl rfl hl.1 rfl (lv_room (Nat.le_of_ble_eq_true rfl)) dX8_init_9 ⟨show cc + (h1.1 - h.1) ≤ u9.1 - u.1 by omega, show ss + (h1.2.1 - h.2.1) ≤ u9.2.1 - u.2.1 by omega⟩) (fun H locs hw => ?_)
    exact hB12 h1 x0 x1 y0 y1 _ _ _ _ _ hm hw (by omega) (by omega) (lv_sub hl [0, 1] rfl)
  rw [m_X8_init] at hm
  refine lv_aload_n hx hb dX8_init_0 rfl (lv_at hl 0 rfl) ?_
  refine W.objInit hx hb hown (hts _ q962) (hts _ q161) (hts _ q162) rfl (by rw [hml]; exact hl.1) rfl dX8_init_1 (Nat.le_of_ble_eq_true rfl) (Nat.le_of_ble_eq_true rfl) ?_
  refine W.eq (g2 := F0 m 4 ls []) rfl ?_
  refine lv_aload_n hx hb dX8_init_4 rfl (lv_at hl 0 rfl) ?_
  obtain ⟨h1, eh1, hm⟩ := nmE hm
  obtain ⟨_, _, hmq⟩ := nmE hm
  have hmo := mo_X8_init_8   h1 x0 x1 x0 _ _ hmq
  have sh1 : h1.1 ≤ u9.1 := hmo.1
  have th1 : h1.2.1 ≤ u9.2.1 := hmo.2.1
  have zh1 := cn_sz eh1
  refine cg_new (C0 := C) hw (ci := 17) (fs := [.int 0, .null, .int 0]) rfl in_J2 tyJ2 tyJ2_ok q963 q164 q122 (fun j hj => by rcases (show j = 0 ∨ j = 1 ∨ j = 2 by omega) with rfl | rfl | rfl <;> rfl) (show cc + 1 ≤ u9.1 - u.1 by omega) (show ss + 3 ≤ u9.2.1 - u.2.1 by omega) dX8_init_5 (fun H hw => ?_)
  rw [← eh1] at hw
  refine lv_topr (fun a2 ea2 => ?_)
  have hm := nmK hm ea2
  exact hB8 h1 x0 x1 x0 a2 _ _ _ _ _ hm hw (by omega) (by omega) (lv_sub hl [0, 1] rfl)
def m_X0_hermite_41 (f : Nat) (h : CH) (y0 : Int64) : Option (Int64 × CH) := some (y0, h)
theorem mo_X0_hermite_41 {f : Nat} : ∀ (h : CH) (y0 : Int64) (r : (Int64 × CH)), m_X0_hermite_41 f h y0 = some r → le2 h r.2 := by
  intro h y0 r hm
  rw [m_X0_hermite_41] at hm
  cases hm
  exact le2.rf
def m_X0_hermite_25 (f : Nat) (h : CH) (x2 : Int32) (x3 : Int32) (y0 : Nat) : Option (Int64 × CH) := bd (oR h 8 0 y0) fun a1 =>
    bd (oR h 3 0 a1) fun a2 =>
    bd (aR h 4 a2 x2) fun a3 =>
    bd (aL h 1 a3 x3) fun v4 =>
    m_X0_hermite_41 f h v4
theorem mo_X0_hermite_25 {f : Nat} : ∀ (h : CH) (x2 : Int32) (x3 : Int32) (y0 : Nat) (r : (Int64 × CH)), m_X0_hermite_25 f h x2 x3 y0 = some r → le2 h r.2 := by
  intro h x2 x3 y0 r hm
  rw [m_X0_hermite_25] at hm
  obtain ⟨a1, ea1, hm⟩ := bdE hm
  obtain ⟨a2, ea2, hm⟩ := bdE hm
  obtain ⟨a3, ea3, hm⟩ := bdE hm
  obtain ⟨v4, ev4, hm⟩ := bdE hm
  exact (mo_X0_hermite_41  h v4 _ hm)
def m_X0_hermite_22 (f : Nat) (h : CH) (x2 : Int32) (x3 : Int32) (y0 : Nat) (y1 : Nat) (y2 : Nat) : Option (Int64 × CH) := bd (m_X8_init f h y1 y2) fun h1 =>
    m_X0_hermite_25 f h1 x2 x3 y0
theorem mo_X0_hermite_22 {f : Nat} : ∀ (h : CH) (x2 : Int32) (x3 : Int32) (y0 : Nat) (y1 : Nat) (y2 : Nat) (r : (Int64 × CH)), m_X0_hermite_22 f h x2 x3 y0 y1 y2 = some r → le2 h r.2 := by
  intro h x2 x3 y0 y1 y2 r hm
  rw [m_X0_hermite_22] at hm
  obtain ⟨h1, eh1, hm⟩ := bdE hm
  have lh1 := mo_X8_init eh1
  exact (lh1.tr (mo_X0_hermite_25  h1 x2 x3 y0 _ hm))
def m_X0_hermite_19 (f : Nat) (h : CH) (x2 : Int32) (x3 : Int32) (y0 : Nat) (y1 : Nat) (y2 : Nat) : Option (Int64 × CH) := if isC h y2 6 = true then
    bd2 (m_X6_rows f h y2) fun a3 h2 =>
    m_X0_hermite_22 f h2 x2 x3 y0 y1 a3
    else gd (isC h y2 7) <|
    bd2 (m_X7_rows f h y2) fun a6 h5 =>
    m_X0_hermite_22 f h5 x2 x3 y0 y1 a6
theorem mo_X0_hermite_19 {f : Nat} : ∀ (h : CH) (x2 : Int32) (x3 : Int32) (y0 : Nat) (y1 : Nat) (y2 : Nat) (r : (Int64 × CH)), m_X0_hermite_19 f h x2 x3 y0 y1 y2 = some r → le2 h r.2 := by
  intro h x2 x3 y0 y1 y2 r hm
  rw [m_X0_hermite_19] at hm
  by_cases c1 : isC h y2 6 = true
  · have hm := ifT hm c1
    obtain ⟨a3, h2, ea3, hm⟩ := bd2E hm
    have lh2 := mo_X6_rows ea3
    exact (lh2.tr (mo_X0_hermite_22  h2 x2 x3 y0 y1 a3 _ hm))
  · have hm := ifF hm c1
    obtain ⟨g4, hm⟩ := gdE hm
    obtain ⟨a6, h5, ea6, hm⟩ := bd2E hm
    have lh5 := mo_X7_rows ea6
    exact (lh5.tr (mo_X0_hermite_22  h5 x2 x3 y0 y1 a6 _ hm))
def m_X0_hermite_13 (f : Nat) (h : CH) (x0 : Nat) (x1 : Int32) (x2 : Int32) (x3 : Int32) (y0 : Nat) : Option (Int64 × CH) := gd (isC h x0 1) <|
    bd2 (m_X0_at f h x0 x1) fun a3 h2 =>
    m_X0_hermite_19 f h2 x2 x3 y0 y0 a3
theorem mo_X0_hermite_13 {f : Nat} : ∀ (h : CH) (x0 : Nat) (x1 : Int32) (x2 : Int32) (x3 : Int32) (y0 : Nat) (r : (Int64 × CH)), m_X0_hermite_13 f h x0 x1 x2 x3 y0 = some r → le2 h r.2 := by
  intro h x0 x1 x2 x3 y0 r hm
  rw [m_X0_hermite_13] at hm
  obtain ⟨g1, hm⟩ := gdE hm
  obtain ⟨a3, h2, ea3, hm⟩ := bd2E hm
  have lh2 := mo_X0_at ea3
  exact (lh2.tr (mo_X0_hermite_19  h2 x2 x3 y0 y0 a3 _ hm))
def m_X0_hermite_7 (f : Nat) (h : CH) (x0 : Nat) (x1 : Int32) (x2 : Int32) (x3 : Int32) (y0 : Int32) : Option (Int64 × CH) := if y0 = 0 then
    m_X0_hermite_41 f h (-1 : Int64)
    else nmv (cn h 2 (.inl (8, [.null, .null]))) fun h2 =>
    nmv (h.1 : Nat) fun a3 =>
    m_X0_hermite_13 f h2 x0 x1 x2 x3 a3
theorem mo_X0_hermite_7 {f : Nat} : ∀ (h : CH) (x0 : Nat) (x1 : Int32) (x2 : Int32) (x3 : Int32) (y0 : Int32) (r : (Int64 × CH)), m_X0_hermite_7 f h x0 x1 x2 x3 y0 = some r → le2 h r.2 := by
  intro h x0 x1 x2 x3 y0 r hm
  rw [m_X0_hermite_7] at hm
  by_cases c1 : y0 = 0
  · have hm := ifT hm c1
    exact (mo_X0_hermite_41  h (-1 : Int64) _ hm)
  · have hm := ifF hm c1
    obtain ⟨h2, eh2, hm⟩ := nmE hm
    have lh2 := cn_le eh2
    obtain ⟨a3, ea3, hm⟩ := nmE hm
    exact (lh2.tr (mo_X0_hermite_13  h2 x0 x1 x2 x3 a3 _ hm))
def m_X0_hermite (f : Nat) (u : CH) (x0 : Nat) (x1 : Int32) (x2 : Int32) (x3 : Int32) : Option (Int64 × CH) := gd (isC u x0 1) <|
    bd2 (m_X0_isAt f u x0 x1 x2 x3) fun r3 h2 =>
    m_X0_hermite_7 f h2 x0 x1 x2 x3 r3
theorem mo_X0_hermite {f : Nat} {u : CH} {x0 : Nat} {x1 : Int32} {x2 : Int32} {x3 : Int32} {r0 : Int64} {u9 : CH} (hm : m_X0_hermite f u x0 x1 x2 x3 = some (r0, u9)) : le2 u u9 := by
  rw [m_X0_hermite] at hm
  obtain ⟨g1, hm⟩ := gdE hm
  obtain ⟨r3, h2, er3, hm⟩ := bd2E hm
  have lh2 := mo_X0_isAt er3
  exact (lh2.tr (mo_X0_hermite_7  h2 x0 x1 x2 x3 r3 _ hm))
abbrev rm_X0_hermite (mc ms : Nat) : Room := { frames := 105, cells := mc, slots := ms, locals := 4127 }
theorem cw_X0_hermite {R : Room} {s : State} {args : Array Value} {own : String} {idx mc ms : Nat} (hts : ∀ w ∈ lw_all, w.before args s = true) (hl : Cond.methodLink own idx yX0_hermite ∈ lw_all) (hR : 105 + 1 ≤ R.frames ∧ 8 + (4 + 11) + 4127 ≤ R.locals) : CallW R s args own RX0 idx yX0_hermite cX0_hermite 4 (Option.some Jvm.ClassFile.FieldType.long) (ws_ yX0_hermite cX0_hermite 4 (Option.some Jvm.ClassFile.FieldType.long)) (rm_X0_hermite mc ms) mc ms 3 := cwV 3 hts (lw_V hl q954 q955 q119 q956) rfl rfl rfl (by decide +kernel) hR
set_option maxHeartbeats 4000000 in
set_option maxRecDepth 100000 in
theorem w_X0_hermite (l : Launch) {D : va_G} {dA : Nat → ClassId} {A : Nat → Prop} {f : Nat} {u u9 : CH} {r0 : Int64} {x0 : Nat} {x1 : Int32} {x2 : Int32} {x3 : Int32} (hm : m_X0_hermite f u x0 x1 x2 x3 = some (r0, u9)) : Met l yX0_hermite (ws_ yX0_hermite cX0_hermite 4 (Option.some Jvm.ClassFile.FieldType.long)) (rm_X0_hermite (u9.1 - u.1) (u9.2.1 - u.2.1)) (va_Pc [.ref x0, .int x1, .int x2, .int x3] (CPre D dA A u)) (va_Ql (fun r u => r = r0 ∧ u = u9) (CPost D dA A) A) (u9.1 - u.1) (u9.2.1 - u.2.1) A := by
  refine Met.ofW (cc := cX0_hermite) (maxL := 4) (ret := (Option.some Jvm.ClassFile.FieldType.long)) (by decide) rfl ?_
  intro p e s m args below meth c s₁ B hml hv
  have hx := B.exec
  have hb := B.bytes
  have hr := B.returns
  have hts := atoms_spec (ws := (ws_ yX0_hermite cX0_hermite 4 (Option.some Jvm.ClassFile.FieldType.long))) B.pre
  have hts : ∀ w ∈ lw_all, w.before args s = true := fun w h => hts w (List.mem_cons_of_mem _ h)
  have hown : s.vm.findClass RX0 = some m.cls := findClass_of_methodNamed B.named
  have hlocks := B.notSynchronized
  obtain ⟨hav, hv⟩ := hv
  have C : CX p s m args c cX0_hermite RX0 D dA := ⟨hx, hb, hown, hts, hv.2⟩
  have hw : CW D dA A s u s.heap [] := hv.1
  generalize hQ : MQ below (va_Ql (fun r u => r = r0 ∧ u = u9) (CPost D dA A) A) args s (u9.1 - u.1) (u9.2.1 - u.2.1) A = QQ
  have hent := lg_entry_eq m [.ref x0, .int x1, .int x2, .int x3] 4
  rw [← hav] at hent
  rw [hent]
  have hl := lv_entry ([.ref x0, .int x1, .int x2, .int x3]) (n := 4) (Nat.le_of_ble_eq_true rfl)
  generalize (lg_sl ([.ref x0, .int x1, .int x2, .int x3]) ++ List.replicate (4 - (lg_sl ([.ref x0, .int x1, .int x2, .int x3])).length) Slot.unset).toArray = ls at hl ⊢
  have hl : lv_has ls 4 [(0, .ref x0), (1, .int x1), (2, .int x2), (3, .int x3)] := hl
  obtain ⟨cc, ecc⟩ : ∃ z : Nat, z = 0 := ⟨0, rfl⟩
  obtain ⟨ss, ess⟩ : ∃ z : Nat, z = 0 := ⟨0, rfl⟩
  have hcc : cc + u.1 = u.1 := by omega
  have hss : ss + u.2.1 = u.2.1 := by omega
  suffices hgo : W p l e (rm_X0_hermite (u9.1 - u.1) (u9.2.1 - u.2.1)) s m args below meth c s.heap [] cc ss QQ (F0 m 0 ls []) by rw [ecc, ess] at hgo; exact hgo
  have ⟨pu, qu, _, _⟩ := mo_X0_hermite hm
  have hB41 : ∀ (h : CH) (y0 : Int64) (cc ss : Nat) (H : Heap) (locs : List Loc) (ls : Array Slot), m_X0_hermite_41 f h y0 = some (r0, u9) → CW D dA A s h H locs → cc + u.1 = h.1 → ss + u.2.1 = h.2.1 → lv_has ls 4 [] → W p l e (rm_X0_hermite (u9.1 - u.1) (u9.2.1 - u.2.1)) s m args below meth c H locs cc ss QQ (F0 m 41 ls [.long y0]) := by
    intro h y0 cc ss H locs ls hm hw hcc hss hl
    have hmo := mo_X0_hermite_41  h y0 _ hm
    have sb_ : h.1 ≤ u9.1 := hmo.1
    have tb_ : h.2.1 ≤ u9.2.1 := hmo.2.1
    rw [m_X0_hermite_41] at hm
    obtain ⟨er, eh⟩ := retE hm
    have ec : cc = u9.1 - u.1 := by rw [← eh]; omega
    have es : ss = u9.2.1 - u.2.1 := by rw [← eh]; omega
    rw [ec, es, ← hQ]
    exact W.lret (v := y0) hx hb hr (fun t ht hW => ⟨⟨y0, h, rfl, ⟨er, eh⟩, ⟨by rw [ht]; exact hw.1, by rw [ht]; exact hw.2.1⟩⟩, hw.2.2.1.F ht⟩) hw.2.2.1.2.2 dX0_hermite_41
  have hB25 : ∀ (h : CH) (x2 : Int32) (x3 : Int32) (y0 : Nat) (cc ss : Nat) (H : Heap) (locs : List Loc) (ls : Array Slot), m_X0_hermite_25 f h x2 x3 y0 = some (r0, u9) → CW D dA A s h H locs → cc + u.1 = h.1 → ss + u.2.1 = h.2.1 → lv_has ls 4 [(2, .int x2), (3, .int x3)] → W p l e (rm_X0_hermite (u9.1 - u.1) (u9.2.1 - u.2.1)) s m args below meth c H locs cc ss QQ (F0 m 25 ls [.ref y0]) := by
    intro h x2 x3 y0 cc ss H locs ls hm hw hcc hss hl
    have hmo := mo_X0_hermite_25  h x2 x3 y0 _ hm
    have sb_ : h.1 ≤ u9.1 := hmo.1
    have tb_ : h.2.1 ≤ u9.2.1 := hmo.2.1
    rw [m_X0_hermite_25] at hm
    obtain ⟨a1, ea1, hm⟩ := bdE hm
    refine cg_getN C hw (by decide) (oR_E ea1) rfl in_X8 (by decide) (hw.2.2.2.2.1 _ (List.mem_of_getElem? (i := 26) rfl)) dX0_hermite_25 ?_
    obtain ⟨a2, ea2, hm⟩ := bdE hm
    refine cg_getN C hw (by decide) (oR_E ea2) rfl in_X2 (by decide) (hw.2.2.2.2.1 _ (List.mem_of_getElem? (i := 12) rfl)) dX0_hermite_28 ?_
    refine lv_iload_n hx hb dX0_hermite_31 rfl (lv_at hl 0 rfl) ?_
    obtain ⟨a3, ea3, hm⟩ := bdE hm
    refine cg_aaldA C hw (ty := .array .long) rfl rfl (aR_E ea3) dX0_hermite_32 ?_
    refine lv_iload_n hx hb dX0_hermite_33 rfl (lv_at hl 1 rfl) ?_
    obtain ⟨v4, ev4, hm⟩ := bdE hm
    refine cg_lald C hw ev4 dX0_hermite_34 ?_
    refine lv_goto (tgt := 41) hx hb dX0_hermite_35 (by decide) ?_
    exact hB41 h v4 _ _ _ _ _ hm hw (by omega) (by omega) (lv_sub hl [] rfl)
  have hB22 : ∀ (h : CH) (x2 : Int32) (x3 : Int32) (y0 : Nat) (y1 : Nat) (y2 : Nat) (cc ss : Nat) (H : Heap) (locs : List Loc) (ls : Array Slot), m_X0_hermite_22 f h x2 x3 y0 y1 y2 = some (r0, u9) → CW D dA A s h H locs → cc + u.1 = h.1 → ss + u.2.1 = h.2.1 → lv_has ls 4 [(2, .int x2), (3, .int x3)] → W p l e (rm_X0_hermite (u9.1 - u.1) (u9.2.1 - u.2.1)) s m args below meth c H locs cc ss QQ (F0 m 22 ls [.ref y2, .ref y1, .ref y0]) := by
    intro h x2 x3 y0 y1 y2 cc ss H locs ls hm hw hcc hss hl
    have hmo := mo_X0_hermite_22  h x2 x3 y0 y1 y2 _ hm
    have sb_ : h.1 ≤ u9.1 := hmo.1
    have tb_ : h.2.1 ≤ u9.2.1 := hmo.2.1
    rw [m_X0_hermite_22] at hm
    obtain ⟨h1, eh1, hm⟩ := bdE hm
    have lh1 := mo_X8_init eh1
    have ph1 : h.1 ≤ h1.1 := lh1.1
    have qh1 : h.2.1 ≤ h1.2.1 := lh1.2.1
    have hmo := mo_X0_hermite_25   h1 x2 x3 y0 _ hm
    have sh1 : h1.1 ≤ u9.1 := hmo.1
    have th1 : h1.2.1 ≤ u9.2.1 := hmo.2.1
    refine cg_callv hw lh1 (va_runI (As := [.ref y2]) (rest := [.ref y0]) ⟨hx, hb, hml, hown, hts⟩ (w_X8_init l eh1) (cw_X8_init hts q959 ⟨Nat.le_of_ble_eq_true rfl, Nat.le_of_ble_eq_true rfl⟩) (cg_preS C hw _) rfl rfl hl.1 rfl (lv_room (Nat.le_of_ble_eq_true rfl)) dX0_hermite_22 ⟨show cc + (h1.1 - h.1) ≤ u9.1 - u.1 by omega, show ss + (h1.2.1 - h.2.1) ≤ u9.2.1 - u.2.1 by omega⟩) (fun H locs hw => ?_)
    exact hB25 h1 x2 x3 y0 _ _ _ _ _ hm hw (by omega) (by omega) (lv_sub hl [0, 1] rfl)
  have hB19 : ∀ (h : CH) (x2 : Int32) (x3 : Int32) (y0 : Nat) (y1 : Nat) (y2 : Nat) (cc ss : Nat) (H : Heap) (locs : List Loc) (ls : Array Slot), m_X0_hermite_19 f h x2 x3 y0 y1 y2 = some (r0, u9) → CW D dA A s h H locs → cc + u.1 = h.1 → ss + u.2.1 = h.2.1 → lv_has ls 4 [(2, .int x2), (3, .int x3)] → W p l e (rm_X0_hermite (u9.1 - u.1) (u9.2.1 - u.2.1)) s m args below meth c H locs cc ss QQ (F0 m 19 ls [.ref y2, .ref y1, .ref y0]) := by
    intro h x2 x3 y0 y1 y2 cc ss H locs ls hm hw hcc hss hl
    have hmo := mo_X0_hermite_19  h x2 x3 y0 y1 y2 _ hm
    have sb_ : h.1 ≤ u9.1 := hmo.1
    have tb_ : h.2.1 ≤ u9.2.1 := hmo.2.1
    rw [m_X0_hermite_19] at hm
    by_cases c1 : isC h y2 6 = true
    · have hm := ifT hm c1
      obtain ⟨a3, h2, ea3, hm⟩ := bd2E hm
      have lh2 := mo_X6_rows ea3
      have ph2 : h.1 ≤ h2.1 := lh2.1
      have qh2 : h.2.1 ≤ h2.2.1 := lh2.2.1
      have hmo := mo_X0_hermite_22   h2 x2 x3 y0 y1 a3 _ hm
      have sh2 : h2.1 ≤ u9.1 := hmo.1
      have th2 : h2.2.1 ≤ u9.2.1 := hmo.2.1
      refine cg_callr hw lh2 (va_runV (As := []) (rest := [.ref y1, .ref y0]) ⟨hx, hb, hml, hown, hts⟩ (w_X6_rows l ea3) (cw_X6_rows hts q904 ⟨Nat.le_of_ble_eq_true rfl, Nat.le_of_ble_eq_true rfl⟩) (cg_preV C hw c1 rfl _) rfl rfl hl.1 rfl (lv_room (Nat.le_of_ble_eq_true rfl)) dX0_hermite_19 ⟨show cc + (h2.1 - h.1) ≤ u9.1 - u.1 by omega, show ss + (h2.2.1 - h.2.1) ≤ u9.2.1 - u.2.1 by omega⟩) (fun H locs hw => ?_)
      exact hB22 h2 x2 x3 y0 y1 a3 _ _ _ _ _ hm hw (by omega) (by omega) (lv_sub hl [0, 1] rfl)
    · have hm := ifF hm c1
      obtain ⟨g4, hm⟩ := gdE hm
      obtain ⟨a6, h5, ea6, hm⟩ := bd2E hm
      have lh5 := mo_X7_rows ea6
      have ph5 : h.1 ≤ h5.1 := lh5.1
      have qh5 : h.2.1 ≤ h5.2.1 := lh5.2.1
      have hmo := mo_X0_hermite_22   h5 x2 x3 y0 y1 a6 _ hm
      have sh5 : h5.1 ≤ u9.1 := hmo.1
      have th5 : h5.2.1 ≤ u9.2.1 := hmo.2.1
      refine cg_callr hw lh5 (va_runU (As := []) (rest := [.ref y1, .ref y0]) ⟨hx, hb, hml, hown, hts⟩ (w_X7_rows l ea6) (va_cwO 0 hts (lwO q904 q907 q905 q908 q909 q144 q910) rfl rfl rfl q940 (by decide +kernel) ⟨Nat.le_of_ble_eq_true rfl, Nat.le_of_ble_eq_true rfl⟩) (cg_preV C hw g4 rfl _) rfl rfl hl.1 rfl (lv_room (Nat.le_of_ble_eq_true rfl)) dX0_hermite_19 ⟨show cc + (h5.1 - h.1) ≤ u9.1 - u.1 by omega, show ss + (h5.2.1 - h.2.1) ≤ u9.2.1 - u.2.1 by omega⟩) (fun H locs hw => ?_)
      exact hB22 h5 x2 x3 y0 y1 a6 _ _ _ _ _ hm hw (by omega) (by omega) (lv_sub hl [0, 1] rfl)
  have hB13 : ∀ (h : CH) (x0 : Nat) (x1 : Int32) (x2 : Int32) (x3 : Int32) (y0 : Nat) (cc ss : Nat) (H : Heap) (locs : List Loc) (ls : Array Slot), m_X0_hermite_13 f h x0 x1 x2 x3 y0 = some (r0, u9) → CW D dA A s h H locs → cc + u.1 = h.1 → ss + u.2.1 = h.2.1 → lv_has ls 4 [(0, .ref x0), (1, .int x1), (2, .int x2), (3, .int x3)] → W p l e (rm_X0_hermite (u9.1 - u.1) (u9.2.1 - u.2.1)) s m args below meth c H locs cc ss QQ (F0 m 13 ls [.ref y0]) := by
    intro h x0 x1 x2 x3 y0 cc ss H locs ls hm hw hcc hss hl
    have hmo := mo_X0_hermite_13  h x0 x1 x2 x3 y0 _ hm
    have sb_ : h.1 ≤ u9.1 := hmo.1
    have tb_ : h.2.1 ≤ u9.2.1 := hmo.2.1
    rw [m_X0_hermite_13] at hm
    refine lv_dup hx hb dX0_hermite_13 rfl ?_
    refine lv_aload_n hx hb dX0_hermite_14 rfl (lv_at hl 0 rfl) ?_
    refine lv_iload_n hx hb dX0_hermite_15 rfl (lv_at hl 1 rfl) ?_
    obtain ⟨g1, hm⟩ := gdE hm
    obtain ⟨a3, h2, ea3, hm⟩ := bd2E hm
    have lh2 := mo_X0_at ea3
    have ph2 : h.1 ≤ h2.1 := lh2.1
    have qh2 : h.2.1 ≤ h2.2.1 := lh2.2.1
    have hmo := mo_X0_hermite_19   h2 x2 x3 y0 y0 a3 _ hm
    have sh2 : h2.1 ≤ u9.1 := hmo.1
    have th2 : h2.2.1 ≤ u9.2.1 := hmo.2.1
    refine cg_callr hw lh2 (va_runV (As := [.int x1]) (rest := [.ref y0, .ref y0]) ⟨hx, hb, hml, hown, hts⟩ (w_X0_at l ea3) (cw_X0_at hts q900 ⟨Nat.le_of_ble_eq_true rfl, Nat.le_of_ble_eq_true rfl⟩) (cg_preV C hw g1 rfl _) rfl rfl hl.1 rfl (lv_room (Nat.le_of_ble_eq_true rfl)) dX0_hermite_16 ⟨show cc + (h2.1 - h.1) ≤ u9.1 - u.1 by omega, show ss + (h2.2.1 - h.2.1) ≤ u9.2.1 - u.2.1 by omega⟩) (fun H locs hw => ?_)
    exact hB19 h2 x2 x3 y0 y0 a3 _ _ _ _ _ hm hw (by omega) (by omega) (lv_sub hl [2, 3] rfl)
  have hB7 : ∀ (h : CH) (x0 : Nat) (x1 : Int32) (x2 : Int32) (x3 : Int32) (y0 : Int32) (cc ss : Nat) (H : Heap) (locs : List Loc) (ls : Array Slot), m_X0_hermite_7 f h x0 x1 x2 x3 y0 = some (r0, u9) → CW D dA A s h H locs → cc + u.1 = h.1 → ss + u.2.1 = h.2.1 → lv_has ls 4 [(0, .ref x0), (1, .int x1), (2, .int x2), (3, .int x3)] → W p l e (rm_X0_hermite (u9.1 - u.1) (u9.2.1 - u.2.1)) s m args below meth c H locs cc ss QQ (F0 m 7 ls [.int y0]) := by
    intro h x0 x1 x2 x3 y0 cc ss H locs ls hm hw hcc hss hl
    have hmo := mo_X0_hermite_7  h x0 x1 x2 x3 y0 _ hm
    have sb_ : h.1 ≤ u9.1 := hmo.1
    have tb_ : h.2.1 ≤ u9.2.1 := hmo.2.1
    rw [m_X0_hermite_7] at hm
    refine lv_if_eq (tgt := 38) hx hb dX0_hermite_7 (by decide) (fun c1 => ?_) (fun c1 => ?_)
    · have hm := ifT hm c1
      refine lv_ldc2 hx hb hown (hts _ q1040) dX0_hermite_38 ?_
      exact hB41 h (-1 : Int64) _ _ _ _ _ hm hw (by omega) (by omega) (lv_sub hl [] rfl)
    · have hm := ifF hm c1
      obtain ⟨h2, eh2, hm⟩ := nmE hm
      obtain ⟨_, _, hmq⟩ := nmE hm
      have hmo := mo_X0_hermite_13   h2 x0 x1 x2 x3 _ _ hmq
      have sh2 : h2.1 ≤ u9.1 := hmo.1
      have th2 : h2.2.1 ≤ u9.2.1 := hmo.2.1
      have zh2 := cn_sz eh2
      refine cg_new (C0 := C) hw (ci := 8) (fs := [.null, .null]) rfl in_X8 tyX8 tyX8_ok q957 q958 q145 (fun j hj => by rcases (show j = 0 ∨ j = 1 by omega) with rfl | rfl <;> rfl) (show cc + 1 ≤ u9.1 - u.1 by omega) (show ss + 2 ≤ u9.2.1 - u.2.1 by omega) dX0_hermite_10 (fun H hw => ?_)
      rw [← eh2] at hw
      refine lv_topr (fun a3 ea3 => ?_)
      have hm := nmK hm ea3
      exact hB13 h2 x0 x1 x2 x3 a3 _ _ _ _ _ hm hw (by omega) (by omega) (lv_sub hl [0, 1, 2, 3] rfl)
  rw [m_X0_hermite] at hm
  refine lv_aload_n hx hb dX0_hermite_0 rfl (lv_at hl 0 rfl) ?_
  refine lv_iload_n hx hb dX0_hermite_1 rfl (lv_at hl 1 rfl) ?_
  refine lv_iload_n hx hb dX0_hermite_2 rfl (lv_at hl 2 rfl) ?_
  refine lv_iload_n hx hb dX0_hermite_3 rfl (lv_at hl 3 rfl) ?_
  obtain ⟨g1, hm⟩ := gdE hm
  obtain ⟨r3, h2, er3, hm⟩ := bd2E hm
  have lh2 := mo_X0_isAt er3
  have ph2 : u.1 ≤ h2.1 := lh2.1
  have qh2 : u.2.1 ≤ h2.2.1 := lh2.2.1
  have hmo := mo_X0_hermite_7   h2 x0 x1 x2 x3 r3 _ hm
  have sh2 : h2.1 ≤ u9.1 := hmo.1
  have th2 : h2.2.1 ≤ u9.2.1 := hmo.2.1
  refine cg_calli hw lh2 (va_runV (As := [.int x1, .int x2, .int x3]) (rest := []) ⟨hx, hb, hml, hown, hts⟩ (w_X0_isAt l er3) (cw_X0_isAt hts q888 ⟨Nat.le_of_ble_eq_true rfl, Nat.le_of_ble_eq_true rfl⟩) (cg_preV C hw g1 rfl _) rfl rfl hl.1 rfl (lv_room (Nat.le_of_ble_eq_true rfl)) dX0_hermite_4 ⟨show cc + (h2.1 - u.1) ≤ u9.1 - u.1 by omega, show ss + (h2.2.1 - u.2.1) ≤ u9.2.1 - u.2.1 by omega⟩) (fun H locs hw => ?_)
  exact hB7 h2 x0 x1 x2 x3 r3 _ _ _ _ _ hm hw (by omega) (by omega) (lv_sub hl [0, 1, 2, 3] rfl)
def m_X0_steps_34 (f : Nat) (h : CH) (y0 : Int32) : Option (Int32 × CH) := some (y0, h)
theorem mo_X0_steps_34 {f : Nat} : ∀ (h : CH) (y0 : Int32) (r : (Int32 × CH)), m_X0_steps_34 f h y0 = some r → le2 h r.2 := by
  intro h y0 r hm
  rw [m_X0_steps_34] at hm
  cases hm
  exact le2.rf
def m_X0_steps_29 (f : Nat) (h : CH) (y0 : Int32) : Option (Int32 × CH) := m_X0_steps_34 f h y0
theorem mo_X0_steps_29 {f : Nat} : ∀ (h : CH) (y0 : Int32) (r : (Int32 × CH)), m_X0_steps_29 f h y0 = some r → le2 h r.2 := by
  intro h y0 r hm
  rw [m_X0_steps_29] at hm
  exact (mo_X0_steps_34  h y0 _ hm)
def m_X0_steps_23 (f : Nat) (h : CH) (y0 : Nat) : Option (Int32 × CH) := bd (oR h 8 1 y0) fun a1 =>
    gd (isC h a1 17) <|
    bd2 (m_J2_size f h a1) fun r4 h3 =>
    m_X0_steps_29 f h3 r4
theorem mo_X0_steps_23 {f : Nat} : ∀ (h : CH) (y0 : Nat) (r : (Int32 × CH)), m_X0_steps_23 f h y0 = some r → le2 h r.2 := by
  intro h y0 r hm
  rw [m_X0_steps_23] at hm
  obtain ⟨a1, ea1, hm⟩ := bdE hm
  obtain ⟨g2, hm⟩ := gdE hm
  obtain ⟨r4, h3, er4, hm⟩ := bd2E hm
  have lh3 := mo_J2_size er4
  exact (lh3.tr (mo_X0_steps_29  h3 r4 _ hm))
def m_X0_steps_20 (f : Nat) (h : CH) (y0 : Nat) (y1 : Nat) (y2 : Nat) : Option (Int32 × CH) := bd (m_X8_init f h y1 y2) fun h1 =>
    m_X0_steps_23 f h1 y0
theorem mo_X0_steps_20 {f : Nat} : ∀ (h : CH) (y0 : Nat) (y1 : Nat) (y2 : Nat) (r : (Int32 × CH)), m_X0_steps_20 f h y0 y1 y2 = some r → le2 h r.2 := by
  intro h y0 y1 y2 r hm
  rw [m_X0_steps_20] at hm
  obtain ⟨h1, eh1, hm⟩ := bdE hm
  have lh1 := mo_X8_init eh1
  exact (lh1.tr (mo_X0_steps_23  h1 y0 _ hm))
def m_X0_steps_17 (f : Nat) (h : CH) (y0 : Nat) (y1 : Nat) (y2 : Nat) : Option (Int32 × CH) := if isC h y2 6 = true then
    bd2 (m_X6_rows f h y2) fun a3 h2 =>
    m_X0_steps_20 f h2 y0 y1 a3
    else gd (isC h y2 7) <|
    bd2 (m_X7_rows f h y2) fun a6 h5 =>
    m_X0_steps_20 f h5 y0 y1 a6
theorem mo_X0_steps_17 {f : Nat} : ∀ (h : CH) (y0 : Nat) (y1 : Nat) (y2 : Nat) (r : (Int32 × CH)), m_X0_steps_17 f h y0 y1 y2 = some r → le2 h r.2 := by
  intro h y0 y1 y2 r hm
  rw [m_X0_steps_17] at hm
  by_cases c1 : isC h y2 6 = true
  · have hm := ifT hm c1
    obtain ⟨a3, h2, ea3, hm⟩ := bd2E hm
    have lh2 := mo_X6_rows ea3
    exact (lh2.tr (mo_X0_steps_20  h2 y0 y1 a3 _ hm))
  · have hm := ifF hm c1
    obtain ⟨g4, hm⟩ := gdE hm
    obtain ⟨a6, h5, ea6, hm⟩ := bd2E hm
    have lh5 := mo_X7_rows ea6
    exact (lh5.tr (mo_X0_steps_20  h5 y0 y1 a6 _ hm))
def m_X0_steps_11 (f : Nat) (h : CH) (x0 : Nat) (x1 : Int32) (y0 : Nat) : Option (Int32 × CH) := gd (isC h x0 1) <|
    bd2 (m_X0_at f h x0 x1) fun a3 h2 =>
    m_X0_steps_17 f h2 y0 y0 a3
theorem mo_X0_steps_11 {f : Nat} : ∀ (h : CH) (x0 : Nat) (x1 : Int32) (y0 : Nat) (r : (Int32 × CH)), m_X0_steps_11 f h x0 x1 y0 = some r → le2 h r.2 := by
  intro h x0 x1 y0 r hm
  rw [m_X0_steps_11] at hm
  obtain ⟨g1, hm⟩ := gdE hm
  obtain ⟨a3, h2, ea3, hm⟩ := bd2E hm
  have lh2 := mo_X0_at ea3
  exact (lh2.tr (mo_X0_steps_17  h2 y0 y0 a3 _ hm))
def m_X0_steps_5 (f : Nat) (h : CH) (x0 : Nat) (x1 : Int32) (y0 : Int32) : Option (Int32 × CH) := if y0 = 0 then
    m_X0_steps_34 f h (-2 : Int32)
    else nmv (cn h 2 (.inl (8, [.null, .null]))) fun h2 =>
    nmv (h.1 : Nat) fun a3 =>
    m_X0_steps_11 f h2 x0 x1 a3
theorem mo_X0_steps_5 {f : Nat} : ∀ (h : CH) (x0 : Nat) (x1 : Int32) (y0 : Int32) (r : (Int32 × CH)), m_X0_steps_5 f h x0 x1 y0 = some r → le2 h r.2 := by
  intro h x0 x1 y0 r hm
  rw [m_X0_steps_5] at hm
  by_cases c1 : y0 = 0
  · have hm := ifT hm c1
    exact (mo_X0_steps_34  h (-2 : Int32) _ hm)
  · have hm := ifF hm c1
    obtain ⟨h2, eh2, hm⟩ := nmE hm
    have lh2 := cn_le eh2
    obtain ⟨a3, ea3, hm⟩ := nmE hm
    exact (lh2.tr (mo_X0_steps_11  h2 x0 x1 a3 _ hm))
def m_X0_steps (f : Nat) (u : CH) (x0 : Nat) (x1 : Int32) : Option (Int32 × CH) := gd (isC u x0 1) <|
    bd2 (m_X0_isLattice f u x0 x1) fun r3 h2 =>
    m_X0_steps_5 f h2 x0 x1 r3
theorem mo_X0_steps {f : Nat} {u : CH} {x0 : Nat} {x1 : Int32} {r0 : Int32} {u9 : CH} (hm : m_X0_steps f u x0 x1 = some (r0, u9)) : le2 u u9 := by
  rw [m_X0_steps] at hm
  obtain ⟨g1, hm⟩ := gdE hm
  obtain ⟨r3, h2, er3, hm⟩ := bd2E hm
  have lh2 := mo_X0_isLattice er3
  exact (lh2.tr (mo_X0_steps_5  h2 x0 x1 r3 _ hm))
abbrev rm_X0_steps (mc ms : Nat) : Room := { frames := 105, cells := mc, slots := ms, locals := 4127 }
theorem cw_X0_steps {R : Room} {s : State} {args : Array Value} {own : String} {idx mc ms : Nat} (hts : ∀ w ∈ lw_all, w.before args s = true) (hl : Cond.methodLink own idx yX0_steps ∈ lw_all) (hR : 105 + 1 ≤ R.frames ∧ 8 + (2 + 11) + 4127 ≤ R.locals) : CallW R s args own RX0 idx yX0_steps cX0_steps 2 (Option.some Jvm.ClassFile.FieldType.int) (ws_ yX0_steps cX0_steps 2 (Option.some Jvm.ClassFile.FieldType.int)) (rm_X0_steps mc ms) mc ms 1 := cwV 1 hts (lw_V hl q1042 q1043 q119 q1044) rfl rfl rfl (by decide +kernel) hR
set_option maxHeartbeats 4000000 in
set_option maxRecDepth 100000 in
theorem w_X0_steps (l : Launch) {D : va_G} {dA : Nat → ClassId} {A : Nat → Prop} {f : Nat} {u u9 : CH} {r0 : Int32} {x0 : Nat} {x1 : Int32} (hm : m_X0_steps f u x0 x1 = some (r0, u9)) : Met l yX0_steps (ws_ yX0_steps cX0_steps 2 (Option.some Jvm.ClassFile.FieldType.int)) (rm_X0_steps (u9.1 - u.1) (u9.2.1 - u.2.1)) (va_Pc [.ref x0, .int x1] (CPre D dA A u)) (va_Qi (fun r u => r = r0 ∧ u = u9) (CPost D dA A) A) (u9.1 - u.1) (u9.2.1 - u.2.1) A := by
  refine Met.ofW (cc := cX0_steps) (maxL := 2) (ret := (Option.some Jvm.ClassFile.FieldType.int)) (by decide) rfl ?_
  intro p e s m args below meth c s₁ B hml hv
  have hx := B.exec
  have hb := B.bytes
  have hr := B.returns
  have hts := atoms_spec (ws := (ws_ yX0_steps cX0_steps 2 (Option.some Jvm.ClassFile.FieldType.int))) B.pre
  have hts : ∀ w ∈ lw_all, w.before args s = true := fun w h => hts w (List.mem_cons_of_mem _ h)
  have hown : s.vm.findClass RX0 = some m.cls := findClass_of_methodNamed B.named
  have hlocks := B.notSynchronized
  obtain ⟨hav, hv⟩ := hv
  have C : CX p s m args c cX0_steps RX0 D dA := ⟨hx, hb, hown, hts, hv.2⟩
  have hw : CW D dA A s u s.heap [] := hv.1
  generalize hQ : MQ below (va_Qi (fun r u => r = r0 ∧ u = u9) (CPost D dA A) A) args s (u9.1 - u.1) (u9.2.1 - u.2.1) A = QQ
  have hent := lg_entry_eq m [.ref x0, .int x1] 2
  rw [← hav] at hent
  rw [hent]
  have hl := lv_entry ([.ref x0, .int x1]) (n := 2) (Nat.le_of_ble_eq_true rfl)
  generalize (lg_sl ([.ref x0, .int x1]) ++ List.replicate (2 - (lg_sl ([.ref x0, .int x1])).length) Slot.unset).toArray = ls at hl ⊢
  have hl : lv_has ls 2 [(0, .ref x0), (1, .int x1)] := hl
  obtain ⟨cc, ecc⟩ : ∃ z : Nat, z = 0 := ⟨0, rfl⟩
  obtain ⟨ss, ess⟩ : ∃ z : Nat, z = 0 := ⟨0, rfl⟩
  have hcc : cc + u.1 = u.1 := by omega
  have hss : ss + u.2.1 = u.2.1 := by omega
  suffices hgo : W p l e (rm_X0_steps (u9.1 - u.1) (u9.2.1 - u.2.1)) s m args below meth c s.heap [] cc ss QQ (F0 m 0 ls []) by rw [ecc, ess] at hgo; exact hgo
  have ⟨pu, qu, _, _⟩ := mo_X0_steps hm
  have hB34 : ∀ (h : CH) (y0 : Int32) (cc ss : Nat) (H : Heap) (locs : List Loc) (ls : Array Slot), m_X0_steps_34 f h y0 = some (r0, u9) → CW D dA A s h H locs → cc + u.1 = h.1 → ss + u.2.1 = h.2.1 → lv_has ls 2 [] → W p l e (rm_X0_steps (u9.1 - u.1) (u9.2.1 - u.2.1)) s m args below meth c H locs cc ss QQ (F0 m 34 ls [.int y0]) := by
    intro h y0 cc ss H locs ls hm hw hcc hss hl
    have hmo := mo_X0_steps_34  h y0 _ hm
    have sb_ : h.1 ≤ u9.1 := hmo.1
    have tb_ : h.2.1 ≤ u9.2.1 := hmo.2.1
    rw [m_X0_steps_34] at hm
    obtain ⟨er, eh⟩ := retE hm
    have ec : cc = u9.1 - u.1 := by rw [← eh]; omega
    have es : ss = u9.2.1 - u.2.1 := by rw [← eh]; omega
    rw [ec, es, ← hQ]
    exact W.iret (v := y0) hx hb hr (fun t ht hW => ⟨⟨y0, h, rfl, ⟨er, eh⟩, ⟨by rw [ht]; exact hw.1, by rw [ht]; exact hw.2.1⟩⟩, hw.2.2.1.F ht⟩) hw.2.2.1.2.2 dX0_steps_34
  have hB29 : ∀ (h : CH) (y0 : Int32) (cc ss : Nat) (H : Heap) (locs : List Loc) (ls : Array Slot), m_X0_steps_29 f h y0 = some (r0, u9) → CW D dA A s h H locs → cc + u.1 = h.1 → ss + u.2.1 = h.2.1 → lv_has ls 2 [] → W p l e (rm_X0_steps (u9.1 - u.1) (u9.2.1 - u.2.1)) s m args below meth c H locs cc ss QQ (F0 m 29 ls [.int y0]) := by
    intro h y0 cc ss H locs ls hm hw hcc hss hl
    have hmo := mo_X0_steps_29  h y0 _ hm
    have sb_ : h.1 ≤ u9.1 := hmo.1
    have tb_ : h.2.1 ≤ u9.2.1 := hmo.2.1
    rw [m_X0_steps_29] at hm
    refine lv_goto (tgt := 34) hx hb dX0_steps_29 (by decide) ?_
    exact hB34 h y0 _ _ _ _ _ hm hw (by omega) (by omega) (lv_sub hl [] rfl)
  have hB23 : ∀ (h : CH) (y0 : Nat) (cc ss : Nat) (H : Heap) (locs : List Loc) (ls : Array Slot), m_X0_steps_23 f h y0 = some (r0, u9) → CW D dA A s h H locs → cc + u.1 = h.1 → ss + u.2.1 = h.2.1 → lv_has ls 2 [] → W p l e (rm_X0_steps (u9.1 - u.1) (u9.2.1 - u.2.1)) s m args below meth c H locs cc ss QQ (F0 m 23 ls [.ref y0]) := by
    intro h y0 cc ss H locs ls hm hw hcc hss hl
    have hmo := mo_X0_steps_23  h y0 _ hm
    have sb_ : h.1 ≤ u9.1 := hmo.1
    have tb_ : h.2.1 ≤ u9.2.1 := hmo.2.1
    rw [m_X0_steps_23] at hm
    obtain ⟨a1, ea1, hm⟩ := bdE hm
    refine cg_getN C hw (by decide) (oR_E ea1) rfl in_X8 (by decide) (hw.2.2.2.2.1 _ (List.mem_of_getElem? (i := 27) rfl)) dX0_steps_23 ?_
    obtain ⟨g2, hm⟩ := gdE hm
    obtain ⟨r4, h3, er4, hm⟩ := bd2E hm
    have lh3 := mo_J2_size er4
    have ph3 : h.1 ≤ h3.1 := lh3.1
    have qh3 : h.2.1 ≤ h3.2.1 := lh3.2.1
    have hmo := mo_X0_steps_29   h3 r4 _ hm
    have sh3 : h3.1 ≤ u9.1 := hmo.1
    have th3 : h3.2.1 ≤ u9.2.1 := hmo.2.1
    refine cg_calli hw lh3 (va_runV (As := []) (rest := []) ⟨hx, hb, hml, hown, hts⟩ (w_J2_size l er4) (cw_J2_size hts q880 ⟨Nat.le_of_ble_eq_true rfl, Nat.le_of_ble_eq_true rfl⟩) (cg_preV C hw g2 rfl _) rfl rfl hl.1 rfl (lv_room (Nat.le_of_ble_eq_true rfl)) dX0_steps_26 ⟨show cc + (h3.1 - h.1) ≤ u9.1 - u.1 by omega, show ss + (h3.2.1 - h.2.1) ≤ u9.2.1 - u.2.1 by omega⟩) (fun H locs hw => ?_)
    exact hB29 h3 r4 _ _ _ _ _ hm hw (by omega) (by omega) (lv_sub hl [] rfl)
  have hB20 : ∀ (h : CH) (y0 : Nat) (y1 : Nat) (y2 : Nat) (cc ss : Nat) (H : Heap) (locs : List Loc) (ls : Array Slot), m_X0_steps_20 f h y0 y1 y2 = some (r0, u9) → CW D dA A s h H locs → cc + u.1 = h.1 → ss + u.2.1 = h.2.1 → lv_has ls 2 [] → W p l e (rm_X0_steps (u9.1 - u.1) (u9.2.1 - u.2.1)) s m args below meth c H locs cc ss QQ (F0 m 20 ls [.ref y2, .ref y1, .ref y0]) := by
    intro h y0 y1 y2 cc ss H locs ls hm hw hcc hss hl
    have hmo := mo_X0_steps_20  h y0 y1 y2 _ hm
    have sb_ : h.1 ≤ u9.1 := hmo.1
    have tb_ : h.2.1 ≤ u9.2.1 := hmo.2.1
    rw [m_X0_steps_20] at hm
    obtain ⟨h1, eh1, hm⟩ := bdE hm
    have lh1 := mo_X8_init eh1
    have ph1 : h.1 ≤ h1.1 := lh1.1
    have qh1 : h.2.1 ≤ h1.2.1 := lh1.2.1
    have hmo := mo_X0_steps_23   h1 y0 _ hm
    have sh1 : h1.1 ≤ u9.1 := hmo.1
    have th1 : h1.2.1 ≤ u9.2.1 := hmo.2.1
    refine cg_callv hw lh1 (va_runI (As := [.ref y2]) (rest := [.ref y0]) ⟨hx, hb, hml, hown, hts⟩ (w_X8_init l eh1) (cw_X8_init hts q959 ⟨Nat.le_of_ble_eq_true rfl, Nat.le_of_ble_eq_true rfl⟩) (cg_preS C hw _) rfl rfl hl.1 rfl (lv_room (Nat.le_of_ble_eq_true rfl)) dX0_steps_20 ⟨show cc + (h1.1 - h.1) ≤ u9.1 - u.1 by omega, show ss + (h1.2.1 - h.2.1) ≤ u9.2.1 - u.2.1 by omega⟩) (fun H locs hw => ?_)
    exact hB23 h1 y0 _ _ _ _ _ hm hw (by omega) (by omega) (lv_sub hl [] rfl)
  have hB17 : ∀ (h : CH) (y0 : Nat) (y1 : Nat) (y2 : Nat) (cc ss : Nat) (H : Heap) (locs : List Loc) (ls : Array Slot), m_X0_steps_17 f h y0 y1 y2 = some (r0, u9) → CW D dA A s h H locs → cc + u.1 = h.1 → ss + u.2.1 = h.2.1 → lv_has ls 2 [] → W p l e (rm_X0_steps (u9.1 - u.1) (u9.2.1 - u.2.1)) s m args below meth c H locs cc ss QQ (F0 m 17 ls [.ref y2, .ref y1, .ref y0]) := by
    intro h y0 y1 y2 cc ss H locs ls hm hw hcc hss hl
    have hmo := mo_X0_steps_17  h y0 y1 y2 _ hm
    have sb_ : h.1 ≤ u9.1 := hmo.1
    have tb_ : h.2.1 ≤ u9.2.1 := hmo.2.1
    rw [m_X0_steps_17] at hm
    by_cases c1 : isC h y2 6 = true
    · have hm := ifT hm c1
      obtain ⟨a3, h2, ea3, hm⟩ := bd2E hm
      have lh2 := mo_X6_rows ea3
      have ph2 : h.1 ≤ h2.1 := lh2.1
      have qh2 : h.2.1 ≤ h2.2.1 := lh2.2.1
      have hmo := mo_X0_steps_20   h2 y0 y1 a3 _ hm
      have sh2 : h2.1 ≤ u9.1 := hmo.1
      have th2 : h2.2.1 ≤ u9.2.1 := hmo.2.1
      refine cg_callr hw lh2 (va_runV (As := []) (rest := [.ref y1, .ref y0]) ⟨hx, hb, hml, hown, hts⟩ (w_X6_rows l ea3) (cw_X6_rows hts q904 ⟨Nat.le_of_ble_eq_true rfl, Nat.le_of_ble_eq_true rfl⟩) (cg_preV C hw c1 rfl _) rfl rfl hl.1 rfl (lv_room (Nat.le_of_ble_eq_true rfl)) dX0_steps_17 ⟨show cc + (h2.1 - h.1) ≤ u9.1 - u.1 by omega, show ss + (h2.2.1 - h.2.1) ≤ u9.2.1 - u.2.1 by omega⟩) (fun H locs hw => ?_)
      exact hB20 h2 y0 y1 a3 _ _ _ _ _ hm hw (by omega) (by omega) (lv_sub hl [] rfl)
    · have hm := ifF hm c1
      obtain ⟨g4, hm⟩ := gdE hm
      obtain ⟨a6, h5, ea6, hm⟩ := bd2E hm
      have lh5 := mo_X7_rows ea6
      have ph5 : h.1 ≤ h5.1 := lh5.1
      have qh5 : h.2.1 ≤ h5.2.1 := lh5.2.1
      have hmo := mo_X0_steps_20   h5 y0 y1 a6 _ hm
      have sh5 : h5.1 ≤ u9.1 := hmo.1
      have th5 : h5.2.1 ≤ u9.2.1 := hmo.2.1
      refine cg_callr hw lh5 (va_runU (As := []) (rest := [.ref y1, .ref y0]) ⟨hx, hb, hml, hown, hts⟩ (w_X7_rows l ea6) (va_cwO 0 hts (lwO q904 q907 q905 q908 q909 q144 q910) rfl rfl rfl q940 (by decide +kernel) ⟨Nat.le_of_ble_eq_true rfl, Nat.le_of_ble_eq_true rfl⟩) (cg_preV C hw g4 rfl _) rfl rfl hl.1 rfl (lv_room (Nat.le_of_ble_eq_true rfl)) dX0_steps_17 ⟨show cc + (h5.1 - h.1) ≤ u9.1 - u.1 by omega, show ss + (h5.2.1 - h.2.1) ≤ u9.2.1 - u.2.1 by omega⟩) (fun H locs hw => ?_)
      exact hB20 h5 y0 y1 a6 _ _ _ _ _ hm hw (by omega) (by omega) (lv_sub hl [] rfl)
  have hB11 : ∀ (h : CH) (x0 : Nat) (x1 : Int32) (y0 : Nat) (cc ss : Nat) (H : Heap) (locs : List Loc) (ls : Array Slot), m_X0_steps_11 f h x0 x1 y0 = some (r0, u9) → CW D dA A s h H locs → cc + u.1 = h.1 → ss + u.2.1 = h.2.1 → lv_has ls 2 [(0, .ref x0), (1, .int x1)] → W p l e (rm_X0_steps (u9.1 - u.1) (u9.2.1 - u.2.1)) s m args below meth c H locs cc ss QQ (F0 m 11 ls [.ref y0]) := by
    intro h x0 x1 y0 cc ss H locs ls hm hw hcc hss hl
    have hmo := mo_X0_steps_11  h x0 x1 y0 _ hm
    have sb_ : h.1 ≤ u9.1 := hmo.1
    have tb_ : h.2.1 ≤ u9.2.1 := hmo.2.1
    rw [m_X0_steps_11] at hm
    refine lv_dup hx hb dX0_steps_11 rfl ?_
    refine lv_aload_n hx hb dX0_steps_12 rfl (lv_at hl 0 rfl) ?_
    refine lv_iload_n hx hb dX0_steps_13 rfl (lv_at hl 1 rfl) ?_
    obtain ⟨g1, hm⟩ := gdE hm
    obtain ⟨a3, h2, ea3, hm⟩ := bd2E hm
    have lh2 := mo_X0_at ea3
    have ph2 : h.1 ≤ h2.1 := lh2.1
    have qh2 : h.2.1 ≤ h2.2.1 := lh2.2.1
    have hmo := mo_X0_steps_17   h2 y0 y0 a3 _ hm
    have sh2 : h2.1 ≤ u9.1 := hmo.1
    have th2 : h2.2.1 ≤ u9.2.1 := hmo.2.1
    refine cg_callr hw lh2 (va_runV (As := [.int x1]) (rest := [.ref y0, .ref y0]) ⟨hx, hb, hml, hown, hts⟩ (w_X0_at l ea3) (cw_X0_at hts q900 ⟨Nat.le_of_ble_eq_true rfl, Nat.le_of_ble_eq_true rfl⟩) (cg_preV C hw g1 rfl _) rfl rfl hl.1 rfl (lv_room (Nat.le_of_ble_eq_true rfl)) dX0_steps_14 ⟨show cc + (h2.1 - h.1) ≤ u9.1 - u.1 by omega, show ss + (h2.2.1 - h.2.1) ≤ u9.2.1 - u.2.1 by omega⟩) (fun H locs hw => ?_)
    exact hB17 h2 y0 y0 a3 _ _ _ _ _ hm hw (by omega) (by omega) (lv_sub hl [] rfl)
  have hB5 : ∀ (h : CH) (x0 : Nat) (x1 : Int32) (y0 : Int32) (cc ss : Nat) (H : Heap) (locs : List Loc) (ls : Array Slot), m_X0_steps_5 f h x0 x1 y0 = some (r0, u9) → CW D dA A s h H locs → cc + u.1 = h.1 → ss + u.2.1 = h.2.1 → lv_has ls 2 [(0, .ref x0), (1, .int x1)] → W p l e (rm_X0_steps (u9.1 - u.1) (u9.2.1 - u.2.1)) s m args below meth c H locs cc ss QQ (F0 m 5 ls [.int y0]) := by
    intro h x0 x1 y0 cc ss H locs ls hm hw hcc hss hl
    have hmo := mo_X0_steps_5  h x0 x1 y0 _ hm
    have sb_ : h.1 ≤ u9.1 := hmo.1
    have tb_ : h.2.1 ≤ u9.2.1 := hmo.2.1
    rw [m_X0_steps_5] at hm
    refine lv_if_eq (tgt := 32) hx hb dX0_steps_5 (by decide) (fun c1 => ?_) (fun c1 => ?_)
    · have hm := ifT hm c1
      refine lv_bipush (v := -2) hx hb dX0_steps_32 (by decide) ?_
      exact hB34 h (-2 : Int32) _ _ _ _ _ hm hw (by omega) (by omega) (lv_sub hl [] rfl)
    · have hm := ifF hm c1
      obtain ⟨h2, eh2, hm⟩ := nmE hm
      obtain ⟨_, _, hmq⟩ := nmE hm
      have hmo := mo_X0_steps_11   h2 x0 x1 _ _ hmq
      have sh2 : h2.1 ≤ u9.1 := hmo.1
      have th2 : h2.2.1 ≤ u9.2.1 := hmo.2.1
      have zh2 := cn_sz eh2
      refine cg_new (C0 := C) hw (ci := 8) (fs := [.null, .null]) rfl in_X8 tyX8 tyX8_ok q957 q958 q145 (fun j hj => by rcases (show j = 0 ∨ j = 1 by omega) with rfl | rfl <;> rfl) (show cc + 1 ≤ u9.1 - u.1 by omega) (show ss + 2 ≤ u9.2.1 - u.2.1 by omega) dX0_steps_8 (fun H hw => ?_)
      rw [← eh2] at hw
      refine lv_topr (fun a3 ea3 => ?_)
      have hm := nmK hm ea3
      exact hB11 h2 x0 x1 a3 _ _ _ _ _ hm hw (by omega) (by omega) (lv_sub hl [0, 1] rfl)
  rw [m_X0_steps] at hm
  refine lv_aload_n hx hb dX0_steps_0 rfl (lv_at hl 0 rfl) ?_
  refine lv_iload_n hx hb dX0_steps_1 rfl (lv_at hl 1 rfl) ?_
  obtain ⟨g1, hm⟩ := gdE hm
  obtain ⟨r3, h2, er3, hm⟩ := bd2E hm
  have lh2 := mo_X0_isLattice er3
  have ph2 : u.1 ≤ h2.1 := lh2.1
  have qh2 : u.2.1 ≤ h2.2.1 := lh2.2.1
  have hmo := mo_X0_steps_5   h2 x0 x1 r3 _ hm
  have sh2 : h2.1 ≤ u9.1 := hmo.1
  have th2 : h2.2.1 ≤ u9.2.1 := hmo.2.1
  refine cg_calli hw lh2 (va_runV (As := [.int x1]) (rest := []) ⟨hx, hb, hml, hown, hts⟩ (w_X0_isLattice l er3) (cw_X0_isLattice hts q892 ⟨Nat.le_of_ble_eq_true rfl, Nat.le_of_ble_eq_true rfl⟩) (cg_preV C hw g1 rfl _) rfl rfl hl.1 rfl (lv_room (Nat.le_of_ble_eq_true rfl)) dX0_steps_2 ⟨show cc + (h2.1 - u.1) ≤ u9.1 - u.1 by omega, show ss + (h2.2.1 - u.2.1) ≤ u9.2.1 - u.2.1 by omega⟩) (fun H locs hw => ?_)
  exact hB5 h2 x0 x1 r3 _ _ _ _ _ hm hw (by omega) (by omega) (lv_sub hl [0, 1] rfl)
def m_X0_step_20 (f : Nat) (h : CH) : Option (Int32 × CH) := some ((-1000000 : Int32), h)
theorem mo_X0_step_20 {f : Nat} : ∀ (h : CH) (r : (Int32 × CH)), m_X0_step_20 f h = some r → le2 h r.2 := by
  intro h r hm
  rw [m_X0_step_20] at hm
  cases hm
  exact le2.rf
def m_X0_step_69 (f : Nat) (h : CH) (x3 : Int32) (y0 : Nat) : Option (Int32 × CH) := gd (isC h y0 9) <|
    if x3 = (0 : Int32) then
    bd (oI h 9 0 y0) fun v3 =>
    some (v3, h)
    else if x3 = (1 : Int32) then
    bd (oI h 9 1 y0) fun v5 =>
    some (v5, h)
    else if x3 = (2 : Int32) then
    bd (oI h 9 2 y0) fun v7 =>
    some (v7, h)
    else bd (oL h 9 3 y0) fun v9 =>
    some ((Int64.toInt32 v9), h)
theorem mo_X0_step_69 {f : Nat} : ∀ (h : CH) (x3 : Int32) (y0 : Nat) (r : (Int32 × CH)), m_X0_step_69 f h x3 y0 = some r → le2 h r.2 := by
  intro h x3 y0 r hm
  rw [m_X0_step_69] at hm
  obtain ⟨g1, hm⟩ := gdE hm
  by_cases c2 : x3 = (0 : Int32)
  · have hm := ifT hm c2
    obtain ⟨v3, ev3, hm⟩ := bdE hm
    cases hm
    exact le2.rf
  · have hm := ifF hm c2
    by_cases c4 : x3 = (1 : Int32)
    · have hm := ifT hm c4
      obtain ⟨v5, ev5, hm⟩ := bdE hm
      cases hm
      exact le2.rf
    · have hm := ifF hm c4
      by_cases c6 : x3 = (2 : Int32)
      · have hm := ifT hm c6
        obtain ⟨v7, ev7, hm⟩ := bdE hm
        cases hm
        exact le2.rf
      · have hm := ifF hm c6
        obtain ⟨v9, ev9, hm⟩ := bdE hm
        cases hm
        exact le2.rf
def m_X0_step_51 (f : Nat) (h : CH) (x2 : Int32) (x3 : Int32) (x4 : Nat) (y0 : Int64) (y1 : Int64) (y2 : Int32) : Option (Int32 × CH) := bd (m_X0_isIn f y0 y1 (Int32.toInt64 (y2 - (1 : Int32)))) fun r1 =>
    if ¬ r1 = 0 then
    gd (isC h x4 17) <|
    bd2 (m_J2_get f h x4 x2) fun a5 h4 =>
    m_X0_step_69 f h4 x3 a5
    else some ((-1000000 : Int32), h)
theorem mo_X0_step_51 {f : Nat} : ∀ (h : CH) (x2 : Int32) (x3 : Int32) (x4 : Nat) (y0 : Int64) (y1 : Int64) (y2 : Int32) (r : (Int32 × CH)), m_X0_step_51 f h x2 x3 x4 y0 y1 y2 = some r → le2 h r.2 := by
  intro h x2 x3 x4 y0 y1 y2 r hm
  rw [m_X0_step_51] at hm
  obtain ⟨r1, er1, hm⟩ := bdE hm
  by_cases c2 : ¬ r1 = 0
  · have hm := ifT hm c2
    obtain ⟨g3, hm⟩ := gdE hm
    obtain ⟨a5, h4, ea5, hm⟩ := bd2E hm
    have lh4 := mo_J2_get ea5
    exact (lh4.tr (mo_X0_step_69  h4 x3 a5 _ hm))
  · have hm := ifF hm c2
    cases hm
    exact le2.rf
def m_X0_step_38 (f : Nat) (h : CH) (x2 : Int32) (x3 : Int32) (y0 : Nat) : Option (Int32 × CH) := bd (oR h 8 1 y0) fun a1 =>
    gd (isC h a1 17) <|
    bd2 (m_J2_size f h a1) fun r4 h3 =>
    m_X0_step_51 f h3 x2 x3 a1 (Int32.toInt64 x2) (0 : Int64) r4
theorem mo_X0_step_38 {f : Nat} : ∀ (h : CH) (x2 : Int32) (x3 : Int32) (y0 : Nat) (r : (Int32 × CH)), m_X0_step_38 f h x2 x3 y0 = some r → le2 h r.2 := by
  intro h x2 x3 y0 r hm
  rw [m_X0_step_38] at hm
  obtain ⟨a1, ea1, hm⟩ := bdE hm
  obtain ⟨g2, hm⟩ := gdE hm
  obtain ⟨r4, h3, er4, hm⟩ := bd2E hm
  have lh3 := mo_J2_size er4
  exact (lh3.tr (mo_X0_step_51  h3 x2 x3 a1 (Int32.toInt64 x2) (0 : Int64) r4 _ hm))
def m_X0_step_35 (f : Nat) (h : CH) (x2 : Int32) (x3 : Int32) (y0 : Nat) (y1 : Nat) (y2 : Nat) : Option (Int32 × CH) := bd (m_X8_init f h y1 y2) fun h1 =>
    m_X0_step_38 f h1 x2 x3 y0
theorem mo_X0_step_35 {f : Nat} : ∀ (h : CH) (x2 : Int32) (x3 : Int32) (y0 : Nat) (y1 : Nat) (y2 : Nat) (r : (Int32 × CH)), m_X0_step_35 f h x2 x3 y0 y1 y2 = some r → le2 h r.2 := by
  intro h x2 x3 y0 y1 y2 r hm
  rw [m_X0_step_35] at hm
  obtain ⟨h1, eh1, hm⟩ := bdE hm
  have lh1 := mo_X8_init eh1
  exact (lh1.tr (mo_X0_step_38  h1 x2 x3 y0 _ hm))
def m_X0_step_32 (f : Nat) (h : CH) (x2 : Int32) (x3 : Int32) (y0 : Nat) (y1 : Nat) (y2 : Nat) : Option (Int32 × CH) := if isC h y2 6 = true then
    bd2 (m_X6_rows f h y2) fun a3 h2 =>
    m_X0_step_35 f h2 x2 x3 y0 y1 a3
    else gd (isC h y2 7) <|
    bd2 (m_X7_rows f h y2) fun a6 h5 =>
    m_X0_step_35 f h5 x2 x3 y0 y1 a6
theorem mo_X0_step_32 {f : Nat} : ∀ (h : CH) (x2 : Int32) (x3 : Int32) (y0 : Nat) (y1 : Nat) (y2 : Nat) (r : (Int32 × CH)), m_X0_step_32 f h x2 x3 y0 y1 y2 = some r → le2 h r.2 := by
  intro h x2 x3 y0 y1 y2 r hm
  rw [m_X0_step_32] at hm
  by_cases c1 : isC h y2 6 = true
  · have hm := ifT hm c1
    obtain ⟨a3, h2, ea3, hm⟩ := bd2E hm
    have lh2 := mo_X6_rows ea3
    exact (lh2.tr (mo_X0_step_35  h2 x2 x3 y0 y1 a3 _ hm))
  · have hm := ifF hm c1
    obtain ⟨g4, hm⟩ := gdE hm
    obtain ⟨a6, h5, ea6, hm⟩ := bd2E hm
    have lh5 := mo_X7_rows ea6
    exact (lh5.tr (mo_X0_step_35  h5 x2 x3 y0 y1 a6 _ hm))
def m_X0_step_26 (f : Nat) (h : CH) (x0 : Nat) (x1 : Int32) (x2 : Int32) (x3 : Int32) (y0 : Nat) : Option (Int32 × CH) := gd (isC h x0 1) <|
    bd2 (m_X0_at f h x0 x1) fun a3 h2 =>
    m_X0_step_32 f h2 x2 x3 y0 y0 a3
theorem mo_X0_step_26 {f : Nat} : ∀ (h : CH) (x0 : Nat) (x1 : Int32) (x2 : Int32) (x3 : Int32) (y0 : Nat) (r : (Int32 × CH)), m_X0_step_26 f h x0 x1 x2 x3 y0 = some r → le2 h r.2 := by
  intro h x0 x1 x2 x3 y0 r hm
  rw [m_X0_step_26] at hm
  obtain ⟨g1, hm⟩ := gdE hm
  obtain ⟨a3, h2, ea3, hm⟩ := bd2E hm
  have lh2 := mo_X0_at ea3
  exact (lh2.tr (mo_X0_step_32  h2 x2 x3 y0 y0 a3 _ hm))
def m_X0_step_5 (f : Nat) (h : CH) (x0 : Nat) (x1 : Int32) (x2 : Int32) (x3 : Int32) (y0 : Int32) : Option (Int32 × CH) := if y0 = 0 then
    m_X0_step_20 f h
    else bd (m_X0_isIn f (Int32.toInt64 x3) (0 : Int64) (3 : Int64)) fun r2 =>
    if ¬ r2 = 0 then
    nmv (cn h 2 (.inl (8, [.null, .null]))) fun h4 =>
    nmv (h.1 : Nat) fun a5 =>
    m_X0_step_26 f h4 x0 x1 x2 x3 a5
    else m_X0_step_20 f h
theorem mo_X0_step_5 {f : Nat} : ∀ (h : CH) (x0 : Nat) (x1 : Int32) (x2 : Int32) (x3 : Int32) (y0 : Int32) (r : (Int32 × CH)), m_X0_step_5 f h x0 x1 x2 x3 y0 = some r → le2 h r.2 := by
  intro h x0 x1 x2 x3 y0 r hm
  rw [m_X0_step_5] at hm
  by_cases c1 : y0 = 0
  · have hm := ifT hm c1
    exact (mo_X0_step_20  h _ hm)
  · have hm := ifF hm c1
    obtain ⟨r2, er2, hm⟩ := bdE hm
    by_cases c3 : ¬ r2 = 0
    · have hm := ifT hm c3
      obtain ⟨h4, eh4, hm⟩ := nmE hm
      have lh4 := cn_le eh4
      obtain ⟨a5, ea5, hm⟩ := nmE hm
      exact (lh4.tr (mo_X0_step_26  h4 x0 x1 x2 x3 a5 _ hm))
    · have hm := ifF hm c3
      exact (mo_X0_step_20  h _ hm)
def m_X0_step (f : Nat) (u : CH) (x0 : Nat) (x1 : Int32) (x2 : Int32) (x3 : Int32) : Option (Int32 × CH) := gd (isC u x0 1) <|
    bd2 (m_X0_isLattice f u x0 x1) fun r3 h2 =>
    m_X0_step_5 f h2 x0 x1 x2 x3 r3
theorem mo_X0_step {f : Nat} {u : CH} {x0 : Nat} {x1 : Int32} {x2 : Int32} {x3 : Int32} {r0 : Int32} {u9 : CH} (hm : m_X0_step f u x0 x1 x2 x3 = some (r0, u9)) : le2 u u9 := by
  rw [m_X0_step] at hm
  obtain ⟨g1, hm⟩ := gdE hm
  obtain ⟨r3, h2, er3, hm⟩ := bd2E hm
  have lh2 := mo_X0_isLattice er3
  exact (lh2.tr (mo_X0_step_5  h2 x0 x1 x2 x3 r3 _ hm))
abbrev rm_X0_step (mc ms : Nat) : Room := { frames := 105, cells := mc, slots := ms, locals := 4127 }
theorem cw_X0_step {R : Room} {s : State} {args : Array Value} {own : String} {idx mc ms : Nat} (hts : ∀ w ∈ lw_all, w.before args s = true) (hl : Cond.methodLink own idx yX0_step ∈ lw_all) (hR : 105 + 1 ≤ R.frames ∧ 8 + (6 + 11) + 4127 ≤ R.locals) : CallW R s args own RX0 idx yX0_step cX0_step 6 (Option.some Jvm.ClassFile.FieldType.int) (ws_ yX0_step cX0_step 6 (Option.some Jvm.ClassFile.FieldType.int)) (rm_X0_step mc ms) mc ms 3 := cwV 3 hts (lw_V hl q1046 q1047 q119 q1048) rfl rfl rfl (by decide +kernel) hR
set_option maxHeartbeats 4000000 in
set_option maxRecDepth 100000 in
theorem w_X0_step (l : Launch) {D : va_G} {dA : Nat → ClassId} {A : Nat → Prop} {f : Nat} {u u9 : CH} {r0 : Int32} {x0 : Nat} {x1 : Int32} {x2 : Int32} {x3 : Int32} (hm : m_X0_step f u x0 x1 x2 x3 = some (r0, u9)) : Met l yX0_step (ws_ yX0_step cX0_step 6 (Option.some Jvm.ClassFile.FieldType.int)) (rm_X0_step (u9.1 - u.1) (u9.2.1 - u.2.1)) (va_Pc [.ref x0, .int x1, .int x2, .int x3] (CPre D dA A u)) (va_Qi (fun r u => r = r0 ∧ u = u9) (CPost D dA A) A) (u9.1 - u.1) (u9.2.1 - u.2.1) A := by
  refine Met.ofW (cc := cX0_step) (maxL := 6) (ret := (Option.some Jvm.ClassFile.FieldType.int)) (by decide) rfl ?_
  intro p e s m args below meth c s₁ B hml hv
  have hx := B.exec
  have hb := B.bytes
  have hr := B.returns
  have hts := atoms_spec (ws := (ws_ yX0_step cX0_step 6 (Option.some Jvm.ClassFile.FieldType.int))) B.pre
  have hts : ∀ w ∈ lw_all, w.before args s = true := fun w h => hts w (List.mem_cons_of_mem _ h)
  have hown : s.vm.findClass RX0 = some m.cls := findClass_of_methodNamed B.named
  have hlocks := B.notSynchronized
  obtain ⟨hav, hv⟩ := hv
  have C : CX p s m args c cX0_step RX0 D dA := ⟨hx, hb, hown, hts, hv.2⟩
  have hw : CW D dA A s u s.heap [] := hv.1
  generalize hQ : MQ below (va_Qi (fun r u => r = r0 ∧ u = u9) (CPost D dA A) A) args s (u9.1 - u.1) (u9.2.1 - u.2.1) A = QQ
  have hent := lg_entry_eq m [.ref x0, .int x1, .int x2, .int x3] 6
  rw [← hav] at hent
  rw [hent]
  have hl := lv_entry ([.ref x0, .int x1, .int x2, .int x3]) (n := 6) (Nat.le_of_ble_eq_true rfl)
  generalize (lg_sl ([.ref x0, .int x1, .int x2, .int x3]) ++ List.replicate (6 - (lg_sl ([.ref x0, .int x1, .int x2, .int x3])).length) Slot.unset).toArray = ls at hl ⊢
  have hl : lv_has ls 6 [(0, .ref x0), (1, .int x1), (2, .int x2), (3, .int x3)] := hl
  obtain ⟨cc, ecc⟩ : ∃ z : Nat, z = 0 := ⟨0, rfl⟩
  obtain ⟨ss, ess⟩ : ∃ z : Nat, z = 0 := ⟨0, rfl⟩
  have hcc : cc + u.1 = u.1 := by omega
  have hss : ss + u.2.1 = u.2.1 := by omega
  suffices hgo : W p l e (rm_X0_step (u9.1 - u.1) (u9.2.1 - u.2.1)) s m args below meth c s.heap [] cc ss QQ (F0 m 0 ls []) by rw [ecc, ess] at hgo; exact hgo
  have ⟨pu, qu, _, _⟩ := mo_X0_step hm
  have hB20 : ∀ (h : CH) (cc ss : Nat) (H : Heap) (locs : List Loc) (ls : Array Slot), m_X0_step_20 f h = some (r0, u9) → CW D dA A s h H locs → cc + u.1 = h.1 → ss + u.2.1 = h.2.1 → lv_has ls 6 [] → W p l e (rm_X0_step (u9.1 - u.1) (u9.2.1 - u.2.1)) s m args below meth c H locs cc ss QQ (F0 m 20 ls []) := by
    intro h cc ss H locs ls hm hw hcc hss hl
    have hmo := mo_X0_step_20  h _ hm
    have sb_ : h.1 ≤ u9.1 := hmo.1
    have tb_ : h.2.1 ≤ u9.2.1 := hmo.2.1
    rw [m_X0_step_20] at hm
    refine lv_ldc hx hb hown (hts _ q1050) dX0_step_20 ?_
    obtain ⟨er, eh⟩ := retE hm
    have ec : cc = u9.1 - u.1 := by rw [← eh]; omega
    have es : ss = u9.2.1 - u.2.1 := by rw [← eh]; omega
    rw [ec, es, ← hQ]
    exact W.iret (v := (-1000000 : Int32)) hx hb hr (fun t ht hW => ⟨⟨(-1000000 : Int32), h, rfl, ⟨er, eh⟩, ⟨by rw [ht]; exact hw.1, by rw [ht]; exact hw.2.1⟩⟩, hw.2.2.1.F ht⟩) hw.2.2.1.2.2 dX0_step_22
  have hB69 : ∀ (h : CH) (x3 : Int32) (y0 : Nat) (cc ss : Nat) (H : Heap) (locs : List Loc) (ls : Array Slot), m_X0_step_69 f h x3 y0 = some (r0, u9) → CW D dA A s h H locs → cc + u.1 = h.1 → ss + u.2.1 = h.2.1 → lv_has ls 6 [(3, .int x3)] → W p l e (rm_X0_step (u9.1 - u.1) (u9.2.1 - u.2.1)) s m args below meth c H locs cc ss QQ (F0 m 69 ls [.ref y0]) := by
    intro h x3 y0 cc ss H locs ls hm hw hcc hss hl
    have hmo := mo_X0_step_69  h x3 y0 _ hm
    have sb_ : h.1 ≤ u9.1 := hmo.1
    have tb_ : h.2.1 ≤ u9.2.1 := hmo.2.1
    rw [m_X0_step_69] at hm
    obtain ⟨g1, hm⟩ := gdE hm
    refine cg_castS C hw g1 rfl q1051 dX0_step_69 ?_
    refine lv_astore (lv' := [(5, .ref y0), (3, .int x3)]) hx hb dX0_step_72 hl (by decide) rfl (fun ls hl => ?_)
    refine lv_iload_n hx hb dX0_step_74 rfl (lv_at hl 1 rfl) ?_
    by_cases c2 : x3 = (0 : Int32)
    · have hm := ifT hm c2
      rw [c2]
      refine lv_tableIn (tgt := 100) (off := 25) hx hb dX0_step_75 (by decide) (by decide) (by decide) (by decide) ?_
      refine lv_aload hx hb dX0_step_100 (lv_at hl 0 rfl) ?_
      obtain ⟨v3, ev3, hm⟩ := bdE hm
      refine cg_getN C hw (by decide) (oI_E ev3) rfl in_X9 (by decide) (hw.2.2.2.2.1 _ (List.mem_of_getElem? (i := 22) rfl)) dX0_step_102 ?_
      obtain ⟨er, eh⟩ := retE hm
      have ec : cc = u9.1 - u.1 := by rw [← eh]; omega
      have es : ss = u9.2.1 - u.2.1 := by rw [← eh]; omega
      rw [ec, es, ← hQ]
      exact W.iret (v := v3) hx hb hr (fun t ht hW => ⟨⟨v3, h, rfl, ⟨er, eh⟩, ⟨by rw [ht]; exact hw.1, by rw [ht]; exact hw.2.1⟩⟩, hw.2.2.1.F ht⟩) hw.2.2.1.2.2 dX0_step_105
    · have hm := ifF hm c2
      by_cases c4 : x3 = (1 : Int32)
      · have hm := ifT hm c4
        rw [c4]
        refine lv_tableIn (tgt := 106) (off := 31) hx hb dX0_step_75 (by decide) (by decide) (by decide) (by decide) ?_
        refine lv_aload hx hb dX0_step_106 (lv_at hl 0 rfl) ?_
        obtain ⟨v5, ev5, hm⟩ := bdE hm
        refine cg_getN C hw (by decide) (oI_E ev5) rfl in_X9 (by decide) (hw.2.2.2.2.1 _ (List.mem_of_getElem? (i := 23) rfl)) dX0_step_108 ?_
        obtain ⟨er, eh⟩ := retE hm
        have ec : cc = u9.1 - u.1 := by rw [← eh]; omega
        have es : ss = u9.2.1 - u.2.1 := by rw [← eh]; omega
        rw [ec, es, ← hQ]
        exact W.iret (v := v5) hx hb hr (fun t ht hW => ⟨⟨v5, h, rfl, ⟨er, eh⟩, ⟨by rw [ht]; exact hw.1, by rw [ht]; exact hw.2.1⟩⟩, hw.2.2.1.F ht⟩) hw.2.2.1.2.2 dX0_step_111
      · have hm := ifF hm c4
        by_cases c6 : x3 = (2 : Int32)
        · have hm := ifT hm c6
          rw [c6]
          refine lv_tableIn (tgt := 112) (off := 37) hx hb dX0_step_75 (by decide) (by decide) (by decide) (by decide) ?_
          refine lv_aload hx hb dX0_step_112 (lv_at hl 0 rfl) ?_
          obtain ⟨v7, ev7, hm⟩ := bdE hm
          refine cg_getN C hw (by decide) (oI_E ev7) rfl in_X9 (by decide) (hw.2.2.2.2.1 _ (List.mem_of_getElem? (i := 24) rfl)) dX0_step_114 ?_
          obtain ⟨er, eh⟩ := retE hm
          have ec : cc = u9.1 - u.1 := by rw [← eh]; omega
          have es : ss = u9.2.1 - u.2.1 := by rw [← eh]; omega
          rw [ec, es, ← hQ]
          exact W.iret (v := v7) hx hb hr (fun t ht hW => ⟨⟨v7, h, rfl, ⟨er, eh⟩, ⟨by rw [ht]; exact hw.1, by rw [ht]; exact hw.2.1⟩⟩, hw.2.2.1.F ht⟩) hw.2.2.1.2.2 dX0_step_117
        · have hm := ifF hm c6
          have c8 : Int32.toInt x3 < 0 ∨ 2 < Int32.toInt x3 := by
            rcases Int.lt_or_le (Int32.toInt x3) 0 with h | h
            · exact Or.inl h
            · rcases Int.lt_or_le 2 (Int32.toInt x3) with h2 | h2
              · exact Or.inr h2
              · rcases (show Int32.toInt x3 = 0 ∨ Int32.toInt x3 = 1 ∨ Int32.toInt x3 = 2 by omega) with h3 | h3 | h3
                · exact absurd (i32_of_toInt _ h3) c2
                · exact absurd (i32_of_toInt _ h3) c4
                · exact absurd (i32_of_toInt _ h3) c6
          refine lv_tableOut (tgt := 118) hx hb dX0_step_75 c8 (by decide) ?_
          refine lv_aload hx hb dX0_step_118 (lv_at hl 0 rfl) ?_
          obtain ⟨v9, ev9, hm⟩ := bdE hm
          refine cg_getN C hw (by decide) (oL_E ev9) rfl in_X9 (by decide) (hw.2.2.2.2.1 _ (List.mem_of_getElem? (i := 25) rfl)) dX0_step_120 ?_
          refine lv_l2i hx hb dX0_step_123 rfl ?_
          obtain ⟨er, eh⟩ := retE hm
          have ec : cc = u9.1 - u.1 := by rw [← eh]; omega
          have es : ss = u9.2.1 - u.2.1 := by rw [← eh]; omega
          rw [ec, es, ← hQ]
          exact W.iret (v := (Int64.toInt32 v9)) hx hb hr (fun t ht hW => ⟨⟨(Int64.toInt32 v9), h, rfl, ⟨er, eh⟩, ⟨by rw [ht]; exact hw.1, by rw [ht]; exact hw.2.1⟩⟩, hw.2.2.1.F ht⟩) hw.2.2.1.2.2 dX0_step_124
  have hB51 : ∀ (h : CH) (x2 : Int32) (x3 : Int32) (x4 : Nat) (y0 : Int64) (y1 : Int64) (y2 : Int32) (cc ss : Nat) (H : Heap) (locs : List Loc) (ls : Array Slot), m_X0_step_51 f h x2 x3 x4 y0 y1 y2 = some (r0, u9) → CW D dA A s h H locs → cc + u.1 = h.1 → ss + u.2.1 = h.2.1 → lv_has ls 6 [(2, .int x2), (3, .int x3), (4, .ref x4)] → W p l e (rm_X0_step (u9.1 - u.1) (u9.2.1 - u.2.1)) s m args below meth c H locs cc ss QQ (F0 m 51 ls [.int y2, .long y1, .long y0]) := by
    intro h x2 x3 x4 y0 y1 y2 cc ss H locs ls hm hw hcc hss hl
    have hmo := mo_X0_step_51  h x2 x3 x4 y0 y1 y2 _ hm
    have sb_ : h.1 ≤ u9.1 := hmo.1
    have tb_ : h.2.1 ≤ u9.2.1 := hmo.2.1
    rw [m_X0_step_51] at hm
    refine lv_iconst (v := 1) hx hb dX0_step_51 (by decide) ?_
    refine lv_isub hx hb dX0_step_52 ?_
    refine lv_i2l hx hb dX0_step_53 rfl ?_
    obtain ⟨r1, er1, hm⟩ := bdE hm
    refine sci (va_runS (As := [.long y0, .long y1, .long (Int32.toInt64 (y2 - (1 : Int32)))]) (rest := []) ⟨hx, hb, hml, hown, hts⟩ (w_X0_isIn l er1) (cw_X0_isIn hts q297 ⟨Nat.le_of_ble_eq_true rfl, Nat.le_of_ble_eq_true rfl⟩) (pre_s _) rfl rfl hl.1 rfl (lv_room (Nat.le_of_ble_eq_true rfl)) dX0_step_54 ⟨show cc + 0 ≤ u9.1 - u.1 by omega, show ss + 0 ≤ u9.2.1 - u.2.1 by omega⟩) ?_
    refine lv_if_ne (tgt := 63) hx hb dX0_step_57 (by decide) (fun c2 => ?_) (fun c2 => ?_)
    · have hm := ifT hm c2
      refine lv_aload hx hb dX0_step_63 (lv_at hl 2 rfl) ?_
      refine lv_iload_n hx hb dX0_step_65 rfl (lv_at hl 0 rfl) ?_
      obtain ⟨g3, hm⟩ := gdE hm
      obtain ⟨a5, h4, ea5, hm⟩ := bd2E hm
      have lh4 := mo_J2_get ea5
      have ph4 : h.1 ≤ h4.1 := lh4.1
      have qh4 : h.2.1 ≤ h4.2.1 := lh4.2.1
      have hmo := mo_X0_step_69   h4 x3 a5 _ hm
      have sh4 : h4.1 ≤ u9.1 := hmo.1
      have th4 : h4.2.1 ≤ u9.2.1 := hmo.2.1
      refine cg_callr hw lh4 (va_runV (As := [.int x2]) (rest := []) ⟨hx, hb, hml, hown, hts⟩ (w_J2_get l ea5) (cw_J2_get hts q881 ⟨Nat.le_of_ble_eq_true rfl, Nat.le_of_ble_eq_true rfl⟩) (cg_preV C hw g3 rfl _) rfl rfl hl.1 rfl (lv_room (Nat.le_of_ble_eq_true rfl)) dX0_step_66 ⟨show cc + (h4.1 - h.1) ≤ u9.1 - u.1 by omega, show ss + (h4.2.1 - h.2.1) ≤ u9.2.1 - u.2.1 by omega⟩) (fun H locs hw => ?_)
      exact hB69 h4 x3 a5 _ _ _ _ _ hm hw (by omega) (by omega) (lv_sub hl [1] rfl)
    · have hm := ifT' hm c2
      refine lv_ldc hx hb hown (hts _ q1050) dX0_step_60 ?_
      obtain ⟨er, eh⟩ := retE hm
      have ec : cc = u9.1 - u.1 := by rw [← eh]; omega
      have es : ss = u9.2.1 - u.2.1 := by rw [← eh]; omega
      rw [ec, es, ← hQ]
      exact W.iret (v := (-1000000 : Int32)) hx hb hr (fun t ht hW => ⟨⟨(-1000000 : Int32), h, rfl, ⟨er, eh⟩, ⟨by rw [ht]; exact hw.1, by rw [ht]; exact hw.2.1⟩⟩, hw.2.2.1.F ht⟩) hw.2.2.1.2.2 dX0_step_62
  have hB38 : ∀ (h : CH) (x2 : Int32) (x3 : Int32) (y0 : Nat) (cc ss : Nat) (H : Heap) (locs : List Loc) (ls : Array Slot), m_X0_step_38 f h x2 x3 y0 = some (r0, u9) → CW D dA A s h H locs → cc + u.1 = h.1 → ss + u.2.1 = h.2.1 → lv_has ls 6 [(2, .int x2), (3, .int x3)] → W p l e (rm_X0_step (u9.1 - u.1) (u9.2.1 - u.2.1)) s m args below meth c H locs cc ss QQ (F0 m 38 ls [.ref y0]) := by
    intro h x2 x3 y0 cc ss H locs ls hm hw hcc hss hl
    have hmo := mo_X0_step_38  h x2 x3 y0 _ hm
    have sb_ : h.1 ≤ u9.1 := hmo.1
    have tb_ : h.2.1 ≤ u9.2.1 := hmo.2.1
    rw [m_X0_step_38] at hm
    obtain ⟨a1, ea1, hm⟩ := bdE hm
    refine cg_getN C hw (by decide) (oR_E ea1) rfl in_X8 (by decide) (hw.2.2.2.2.1 _ (List.mem_of_getElem? (i := 27) rfl)) dX0_step_38 ?_
    refine lv_astore (lv' := [(4, .ref a1), (2, .int x2), (3, .int x3)]) hx hb dX0_step_41 hl (by decide) rfl (fun ls hl => ?_)
    refine lv_iload_n hx hb dX0_step_43 rfl (lv_at hl 1 rfl) ?_
    refine lv_i2l hx hb dX0_step_44 rfl ?_
    refine lv_lconst (v := 0) hx hb dX0_step_45 (by decide) ?_
    refine lv_aload hx hb dX0_step_46 (lv_at hl 0 rfl) ?_
    obtain ⟨g2, hm⟩ := gdE hm
    obtain ⟨r4, h3, er4, hm⟩ := bd2E hm
    have lh3 := mo_J2_size er4
    have ph3 : h.1 ≤ h3.1 := lh3.1
    have qh3 : h.2.1 ≤ h3.2.1 := lh3.2.1
    have hmo := mo_X0_step_51   h3 x2 x3 a1 (Int32.toInt64 x2) (0 : Int64) r4 _ hm
    have sh3 : h3.1 ≤ u9.1 := hmo.1
    have th3 : h3.2.1 ≤ u9.2.1 := hmo.2.1
    refine cg_calli hw lh3 (va_runV (As := []) (rest := [.long (0 : Int64), .long (Int32.toInt64 x2)]) ⟨hx, hb, hml, hown, hts⟩ (w_J2_size l er4) (cw_J2_size hts q880 ⟨Nat.le_of_ble_eq_true rfl, Nat.le_of_ble_eq_true rfl⟩) (cg_preV C hw g2 rfl _) rfl rfl hl.1 rfl (lv_room (Nat.le_of_ble_eq_true rfl)) dX0_step_48 ⟨show cc + (h3.1 - h.1) ≤ u9.1 - u.1 by omega, show ss + (h3.2.1 - h.2.1) ≤ u9.2.1 - u.2.1 by omega⟩) (fun H locs hw => ?_)
    exact hB51 h3 x2 x3 a1 (Int32.toInt64 x2) (0 : Int64) r4 _ _ _ _ _ hm hw (by omega) (by omega) (lv_sub hl [1, 2, 0] rfl)
  have hB35 : ∀ (h : CH) (x2 : Int32) (x3 : Int32) (y0 : Nat) (y1 : Nat) (y2 : Nat) (cc ss : Nat) (H : Heap) (locs : List Loc) (ls : Array Slot), m_X0_step_35 f h x2 x3 y0 y1 y2 = some (r0, u9) → CW D dA A s h H locs → cc + u.1 = h.1 → ss + u.2.1 = h.2.1 → lv_has ls 6 [(2, .int x2), (3, .int x3)] → W p l e (rm_X0_step (u9.1 - u.1) (u9.2.1 - u.2.1)) s m args below meth c H locs cc ss QQ (F0 m 35 ls [.ref y2, .ref y1, .ref y0]) := by
    intro h x2 x3 y0 y1 y2 cc ss H locs ls hm hw hcc hss hl
    have hmo := mo_X0_step_35  h x2 x3 y0 y1 y2 _ hm
    have sb_ : h.1 ≤ u9.1 := hmo.1
    have tb_ : h.2.1 ≤ u9.2.1 := hmo.2.1
    rw [m_X0_step_35] at hm
    obtain ⟨h1, eh1, hm⟩ := bdE hm
    have lh1 := mo_X8_init eh1
    have ph1 : h.1 ≤ h1.1 := lh1.1
    have qh1 : h.2.1 ≤ h1.2.1 := lh1.2.1
    have hmo := mo_X0_step_38   h1 x2 x3 y0 _ hm
    have sh1 : h1.1 ≤ u9.1 := hmo.1
    have th1 : h1.2.1 ≤ u9.2.1 := hmo.2.1
    refine cg_callv hw lh1 (va_runI (As := [.ref y2]) (rest := [.ref y0]) ⟨hx, hb, hml, hown, hts⟩ (w_X8_init l eh1) (cw_X8_init hts q959 ⟨Nat.le_of_ble_eq_true rfl, Nat.le_of_ble_eq_true rfl⟩) (cg_preS C hw _) rfl rfl hl.1 rfl (lv_room (Nat.le_of_ble_eq_true rfl)) dX0_step_35 ⟨show cc + (h1.1 - h.1) ≤ u9.1 - u.1 by omega, show ss + (h1.2.1 - h.2.1) ≤ u9.2.1 - u.2.1 by omega⟩) (fun H locs hw => ?_)
    exact hB38 h1 x2 x3 y0 _ _ _ _ _ hm hw (by omega) (by omega) (lv_sub hl [0, 1] rfl)
  have hB32 : ∀ (h : CH) (x2 : Int32) (x3 : Int32) (y0 : Nat) (y1 : Nat) (y2 : Nat) (cc ss : Nat) (H : Heap) (locs : List Loc) (ls : Array Slot), m_X0_step_32 f h x2 x3 y0 y1 y2 = some (r0, u9) → CW D dA A s h H locs → cc + u.1 = h.1 → ss + u.2.1 = h.2.1 → lv_has ls 6 [(2, .int x2), (3, .int x3)] → W p l e (rm_X0_step (u9.1 - u.1) (u9.2.1 - u.2.1)) s m args below meth c H locs cc ss QQ (F0 m 32 ls [.ref y2, .ref y1, .ref y0]) := by
    intro h x2 x3 y0 y1 y2 cc ss H locs ls hm hw hcc hss hl
    have hmo := mo_X0_step_32  h x2 x3 y0 y1 y2 _ hm
    have sb_ : h.1 ≤ u9.1 := hmo.1
    have tb_ : h.2.1 ≤ u9.2.1 := hmo.2.1
    rw [m_X0_step_32] at hm
    by_cases c1 : isC h y2 6 = true
    · have hm := ifT hm c1
      obtain ⟨a3, h2, ea3, hm⟩ := bd2E hm
      have lh2 := mo_X6_rows ea3
      have ph2 : h.1 ≤ h2.1 := lh2.1
      have qh2 : h.2.1 ≤ h2.2.1 := lh2.2.1
      have hmo := mo_X0_step_35   h2 x2 x3 y0 y1 a3 _ hm
      have sh2 : h2.1 ≤ u9.1 := hmo.1
      have th2 : h2.2.1 ≤ u9.2.1 := hmo.2.1
      refine cg_callr hw lh2 (va_runV (As := []) (rest := [.ref y1, .ref y0]) ⟨hx, hb, hml, hown, hts⟩ (w_X6_rows l ea3) (cw_X6_rows hts q904 ⟨Nat.le_of_ble_eq_true rfl, Nat.le_of_ble_eq_true rfl⟩) (cg_preV C hw c1 rfl _) rfl rfl hl.1 rfl (lv_room (Nat.le_of_ble_eq_true rfl)) dX0_step_32 ⟨show cc + (h2.1 - h.1) ≤ u9.1 - u.1 by omega, show ss + (h2.2.1 - h.2.1) ≤ u9.2.1 - u.2.1 by omega⟩) (fun H locs hw => ?_)
      exact hB35 h2 x2 x3 y0 y1 a3 _ _ _ _ _ hm hw (by omega) (by omega) (lv_sub hl [0, 1] rfl)
    · have hm := ifF hm c1
      obtain ⟨g4, hm⟩ := gdE hm
      obtain ⟨a6, h5, ea6, hm⟩ := bd2E hm
      have lh5 := mo_X7_rows ea6
      have ph5 : h.1 ≤ h5.1 := lh5.1
      have qh5 : h.2.1 ≤ h5.2.1 := lh5.2.1
      have hmo := mo_X0_step_35   h5 x2 x3 y0 y1 a6 _ hm
      have sh5 : h5.1 ≤ u9.1 := hmo.1
      have th5 : h5.2.1 ≤ u9.2.1 := hmo.2.1
      refine cg_callr hw lh5 (va_runU (As := []) (rest := [.ref y1, .ref y0]) ⟨hx, hb, hml, hown, hts⟩ (w_X7_rows l ea6) (va_cwO 0 hts (lwO q904 q907 q905 q908 q909 q144 q910) rfl rfl rfl q940 (by decide +kernel) ⟨Nat.le_of_ble_eq_true rfl, Nat.le_of_ble_eq_true rfl⟩) (cg_preV C hw g4 rfl _) rfl rfl hl.1 rfl (lv_room (Nat.le_of_ble_eq_true rfl)) dX0_step_32 ⟨show cc + (h5.1 - h.1) ≤ u9.1 - u.1 by omega, show ss + (h5.2.1 - h.2.1) ≤ u9.2.1 - u.2.1 by omega⟩) (fun H locs hw => ?_)
      exact hB35 h5 x2 x3 y0 y1 a6 _ _ _ _ _ hm hw (by omega) (by omega) (lv_sub hl [0, 1] rfl)
  have hB26 : ∀ (h : CH) (x0 : Nat) (x1 : Int32) (x2 : Int32) (x3 : Int32) (y0 : Nat) (cc ss : Nat) (H : Heap) (locs : List Loc) (ls : Array Slot), m_X0_step_26 f h x0 x1 x2 x3 y0 = some (r0, u9) → CW D dA A s h H locs → cc + u.1 = h.1 → ss + u.2.1 = h.2.1 → lv_has ls 6 [(0, .ref x0), (1, .int x1), (2, .int x2), (3, .int x3)] → W p l e (rm_X0_step (u9.1 - u.1) (u9.2.1 - u.2.1)) s m args below meth c H locs cc ss QQ (F0 m 26 ls [.ref y0]) := by
    intro h x0 x1 x2 x3 y0 cc ss H locs ls hm hw hcc hss hl
    have hmo := mo_X0_step_26  h x0 x1 x2 x3 y0 _ hm
    have sb_ : h.1 ≤ u9.1 := hmo.1
    have tb_ : h.2.1 ≤ u9.2.1 := hmo.2.1
    rw [m_X0_step_26] at hm
    refine lv_dup hx hb dX0_step_26 rfl ?_
    refine lv_aload_n hx hb dX0_step_27 rfl (lv_at hl 0 rfl) ?_
    refine lv_iload_n hx hb dX0_step_28 rfl (lv_at hl 1 rfl) ?_
    obtain ⟨g1, hm⟩ := gdE hm
    obtain ⟨a3, h2, ea3, hm⟩ := bd2E hm
    have lh2 := mo_X0_at ea3
    have ph2 : h.1 ≤ h2.1 := lh2.1
    have qh2 : h.2.1 ≤ h2.2.1 := lh2.2.1
    have hmo := mo_X0_step_32   h2 x2 x3 y0 y0 a3 _ hm
    have sh2 : h2.1 ≤ u9.1 := hmo.1
    have th2 : h2.2.1 ≤ u9.2.1 := hmo.2.1
    refine cg_callr hw lh2 (va_runV (As := [.int x1]) (rest := [.ref y0, .ref y0]) ⟨hx, hb, hml, hown, hts⟩ (w_X0_at l ea3) (cw_X0_at hts q900 ⟨Nat.le_of_ble_eq_true rfl, Nat.le_of_ble_eq_true rfl⟩) (cg_preV C hw g1 rfl _) rfl rfl hl.1 rfl (lv_room (Nat.le_of_ble_eq_true rfl)) dX0_step_29 ⟨show cc + (h2.1 - h.1) ≤ u9.1 - u.1 by omega, show ss + (h2.2.1 - h.2.1) ≤ u9.2.1 - u.2.1 by omega⟩) (fun H locs hw => ?_)
    exact hB32 h2 x2 x3 y0 y0 a3 _ _ _ _ _ hm hw (by omega) (by omega) (lv_sub hl [2, 3] rfl)
  have hB5 : ∀ (h : CH) (x0 : Nat) (x1 : Int32) (x2 : Int32) (x3 : Int32) (y0 : Int32) (cc ss : Nat) (H : Heap) (locs : List Loc) (ls : Array Slot), m_X0_step_5 f h x0 x1 x2 x3 y0 = some (r0, u9) → CW D dA A s h H locs → cc + u.1 = h.1 → ss + u.2.1 = h.2.1 → lv_has ls 6 [(0, .ref x0), (1, .int x1), (2, .int x2), (3, .int x3)] → W p l e (rm_X0_step (u9.1 - u.1) (u9.2.1 - u.2.1)) s m args below meth c H locs cc ss QQ (F0 m 5 ls [.int y0]) := by
    intro h x0 x1 x2 x3 y0 cc ss H locs ls hm hw hcc hss hl
    have hmo := mo_X0_step_5  h x0 x1 x2 x3 y0 _ hm
    have sb_ : h.1 ≤ u9.1 := hmo.1
    have tb_ : h.2.1 ≤ u9.2.1 := hmo.2.1
    rw [m_X0_step_5] at hm
    refine lv_if_eq (tgt := 20) hx hb dX0_step_5 (by decide) (fun c1 => ?_) (fun c1 => ?_)
    · have hm := ifT hm c1
      exact hB20 h _ _ _ _ _ hm hw (by omega) (by omega) (lv_sub hl [] rfl)
    · have hm := ifF hm c1
      refine lv_iload_n hx hb dX0_step_8 rfl (lv_at hl 3 rfl) ?_
      refine lv_i2l hx hb dX0_step_9 rfl ?_
      refine lv_lconst (v := 0) hx hb dX0_step_10 (by decide) ?_
      refine lv_ldc2 hx hb hown (hts _ q1049) dX0_step_11 ?_
      obtain ⟨r2, er2, hm⟩ := bdE hm
      refine sci (va_runS (As := [.long (Int32.toInt64 x3), .long (0 : Int64), .long (3 : Int64)]) (rest := []) ⟨hx, hb, hml, hown, hts⟩ (w_X0_isIn l er2) (cw_X0_isIn hts q297 ⟨Nat.le_of_ble_eq_true rfl, Nat.le_of_ble_eq_true rfl⟩) (pre_s _) rfl rfl hl.1 rfl (lv_room (Nat.le_of_ble_eq_true rfl)) dX0_step_14 ⟨show cc + 0 ≤ u9.1 - u.1 by omega, show ss + 0 ≤ u9.2.1 - u.2.1 by omega⟩) ?_
      refine lv_if_ne (tgt := 23) hx hb dX0_step_17 (by decide) (fun c3 => ?_) (fun c3 => ?_)
      · have hm := ifT hm c3
        obtain ⟨h4, eh4, hm⟩ := nmE hm
        obtain ⟨_, _, hmq⟩ := nmE hm
        have hmo := mo_X0_step_26   h4 x0 x1 x2 x3 _ _ hmq
        have sh4 : h4.1 ≤ u9.1 := hmo.1
        have th4 : h4.2.1 ≤ u9.2.1 := hmo.2.1
        have zh4 := cn_sz eh4
        refine cg_new (C0 := C) hw (ci := 8) (fs := [.null, .null]) rfl in_X8 tyX8 tyX8_ok q957 q958 q145 (fun j hj => by rcases (show j = 0 ∨ j = 1 by omega) with rfl | rfl <;> rfl) (show cc + 1 ≤ u9.1 - u.1 by omega) (show ss + 2 ≤ u9.2.1 - u.2.1 by omega) dX0_step_23 (fun H hw => ?_)
        rw [← eh4] at hw
        refine lv_topr (fun a5 ea5 => ?_)
        have hm := nmK hm ea5
        exact hB26 h4 x0 x1 x2 x3 a5 _ _ _ _ _ hm hw (by omega) (by omega) (lv_sub hl [0, 1, 2, 3] rfl)
      · have hm := ifT' hm c3
        exact hB20 h _ _ _ _ _ hm hw (by omega) (by omega) (lv_sub hl [] rfl)
  rw [m_X0_step] at hm
  refine lv_aload_n hx hb dX0_step_0 rfl (lv_at hl 0 rfl) ?_
  refine lv_iload_n hx hb dX0_step_1 rfl (lv_at hl 1 rfl) ?_
  obtain ⟨g1, hm⟩ := gdE hm
  obtain ⟨r3, h2, er3, hm⟩ := bd2E hm
  have lh2 := mo_X0_isLattice er3
  have ph2 : u.1 ≤ h2.1 := lh2.1
  have qh2 : u.2.1 ≤ h2.2.1 := lh2.2.1
  have hmo := mo_X0_step_5   h2 x0 x1 x2 x3 r3 _ hm
  have sh2 : h2.1 ≤ u9.1 := hmo.1
  have th2 : h2.2.1 ≤ u9.2.1 := hmo.2.1
  refine cg_calli hw lh2 (va_runV (As := [.int x1]) (rest := []) ⟨hx, hb, hml, hown, hts⟩ (w_X0_isLattice l er3) (cw_X0_isLattice hts q892 ⟨Nat.le_of_ble_eq_true rfl, Nat.le_of_ble_eq_true rfl⟩) (cg_preV C hw g1 rfl _) rfl rfl hl.1 rfl (lv_room (Nat.le_of_ble_eq_true rfl)) dX0_step_2 ⟨show cc + (h2.1 - u.1) ≤ u9.1 - u.1 by omega, show ss + (h2.2.1 - u.2.1) ≤ u9.2.1 - u.2.1 by omega⟩) (fun H locs hw => ?_)
  exact hB5 h2 x0 x1 x2 x3 r3 _ _ _ _ _ hm hw (by omega) (by omega) (lv_sub hl [0, 1, 2, 3] rfl)
def m_X0_volume_15 (f : Nat) (h : CH) : Option (Int64 × CH) := some ((-2 : Int64), h)
theorem mo_X0_volume_15 {f : Nat} : ∀ (h : CH) (r : (Int64 × CH)), m_X0_volume_15 f h = some r → le2 h r.2 := by
  intro h r hm
  rw [m_X0_volume_15] at hm
  cases hm
  exact le2.rf
def m_X0_volume_39 (f : Nat) (h : CH) (x2 : Int32) (x3 : Int64) (y0 : Int64) : Option (Int64 × CH) := bd (m_J9_abs f y0) fun r1 =>
    bd (m_X0_part f r1 ((x3 * x3) * x3) x2) fun r2 =>
    some (r2, h)
theorem mo_X0_volume_39 {f : Nat} : ∀ (h : CH) (x2 : Int32) (x3 : Int64) (y0 : Int64) (r : (Int64 × CH)), m_X0_volume_39 f h x2 x3 y0 = some r → le2 h r.2 := by
  intro h x2 x3 y0 r hm
  rw [m_X0_volume_39] at hm
  obtain ⟨r1, er1, hm⟩ := bdE hm
  obtain ⟨r2, er2, hm⟩ := bdE hm
  cases hm
  exact le2.rf
def m_X0_volume_36 (f : Nat) (h : CH) (x2 : Int32) (x3 : Int64) (y0 : Nat) : Option (Int64 × CH) := gd (isC h y0 3) <|
    bd2 (m_X2_determinant f h y0) fun r3 h2 =>
    m_X0_volume_39 f h2 x2 x3 r3
theorem mo_X0_volume_36 {f : Nat} : ∀ (h : CH) (x2 : Int32) (x3 : Int64) (y0 : Nat) (r : (Int64 × CH)), m_X0_volume_36 f h x2 x3 y0 = some r → le2 h r.2 := by
  intro h x2 x3 y0 r hm
  rw [m_X0_volume_36] at hm
  obtain ⟨g1, hm⟩ := gdE hm
  obtain ⟨r3, h2, er3, hm⟩ := bd2E hm
  have lh2 := mo_X2_determinant er3
  exact (lh2.tr (mo_X0_volume_39  h2 x2 x3 r3 _ hm))
def m_X0_volume_33 (f : Nat) (h : CH) (x2 : Int32) (x3 : Int64) (y0 : Nat) : Option (Int64 × CH) := if isC h y0 6 = true then
    bd2 (m_X6_rows f h y0) fun a3 h2 =>
    m_X0_volume_36 f h2 x2 x3 a3
    else gd (isC h y0 7) <|
    bd2 (m_X7_rows f h y0) fun a6 h5 =>
    m_X0_volume_36 f h5 x2 x3 a6
theorem mo_X0_volume_33 {f : Nat} : ∀ (h : CH) (x2 : Int32) (x3 : Int64) (y0 : Nat) (r : (Int64 × CH)), m_X0_volume_33 f h x2 x3 y0 = some r → le2 h r.2 := by
  intro h x2 x3 y0 r hm
  rw [m_X0_volume_33] at hm
  by_cases c1 : isC h y0 6 = true
  · have hm := ifT hm c1
    obtain ⟨a3, h2, ea3, hm⟩ := bd2E hm
    have lh2 := mo_X6_rows ea3
    exact (lh2.tr (mo_X0_volume_36  h2 x2 x3 a3 _ hm))
  · have hm := ifF hm c1
    obtain ⟨g4, hm⟩ := gdE hm
    obtain ⟨a6, h5, ea6, hm⟩ := bd2E hm
    have lh5 := mo_X7_rows ea6
    exact (lh5.tr (mo_X0_volume_36  h5 x2 x3 a6 _ hm))
def m_X0_volume_27 (f : Nat) (h : CH) (x0 : Nat) (x1 : Int32) (x2 : Int32) (y0 : Int64) : Option (Int64 × CH) := gd (isC h x0 1) <|
    bd2 (m_X0_at f h x0 x1) fun a3 h2 =>
    m_X0_volume_33 f h2 x2 y0 a3
theorem mo_X0_volume_27 {f : Nat} : ∀ (h : CH) (x0 : Nat) (x1 : Int32) (x2 : Int32) (y0 : Int64) (r : (Int64 × CH)), m_X0_volume_27 f h x0 x1 x2 y0 = some r → le2 h r.2 := by
  intro h x0 x1 x2 y0 r hm
  rw [m_X0_volume_27] at hm
  obtain ⟨g1, hm⟩ := gdE hm
  obtain ⟨a3, h2, ea3, hm⟩ := bd2E hm
  have lh2 := mo_X0_at ea3
  exact (lh2.tr (mo_X0_volume_33  h2 x2 y0 a3 _ hm))
def m_X0_volume_24 (f : Nat) (h : CH) (x0 : Nat) (x1 : Int32) (x2 : Int32) (y0 : Nat) : Option (Int64 × CH) := if isC h y0 6 = true then
    bd2 (m_X6_over f h y0) fun r3 h2 =>
    m_X0_volume_27 f h2 x0 x1 x2 r3
    else gd (isC h y0 7) <|
    bd2 (m_X7_over f h y0) fun r6 h5 =>
    m_X0_volume_27 f h5 x0 x1 x2 r6
theorem mo_X0_volume_24 {f : Nat} : ∀ (h : CH) (x0 : Nat) (x1 : Int32) (x2 : Int32) (y0 : Nat) (r : (Int64 × CH)), m_X0_volume_24 f h x0 x1 x2 y0 = some r → le2 h r.2 := by
  intro h x0 x1 x2 y0 r hm
  rw [m_X0_volume_24] at hm
  by_cases c1 : isC h y0 6 = true
  · have hm := ifT hm c1
    obtain ⟨r3, h2, er3, hm⟩ := bd2E hm
    have lh2 := mo_X6_over er3
    exact (lh2.tr (mo_X0_volume_27  h2 x0 x1 x2 r3 _ hm))
  · have hm := ifF hm c1
    obtain ⟨g4, hm⟩ := gdE hm
    obtain ⟨r6, h5, er6, hm⟩ := bd2E hm
    have lh5 := mo_X7_over er6
    exact (lh5.tr (mo_X0_volume_27  h5 x0 x1 x2 r6 _ hm))
def m_X0_volume_5 (f : Nat) (h : CH) (x0 : Nat) (x1 : Int32) (x2 : Int32) (y0 : Int32) : Option (Int64 × CH) := if y0 = 0 then
    m_X0_volume_15 f h
    else bd (m_X0_isPart f x2) fun r2 =>
    if ¬ r2 = 0 then
    gd (isC h x0 1) <|
    bd2 (m_X0_at f h x0 x1) fun a6 h5 =>
    m_X0_volume_24 f h5 x0 x1 x2 a6
    else m_X0_volume_15 f h
theorem mo_X0_volume_5 {f : Nat} : ∀ (h : CH) (x0 : Nat) (x1 : Int32) (x2 : Int32) (y0 : Int32) (r : (Int64 × CH)), m_X0_volume_5 f h x0 x1 x2 y0 = some r → le2 h r.2 := by
  intro h x0 x1 x2 y0 r hm
  rw [m_X0_volume_5] at hm
  by_cases c1 : y0 = 0
  · have hm := ifT hm c1
    exact (mo_X0_volume_15  h _ hm)
  · have hm := ifF hm c1
    obtain ⟨r2, er2, hm⟩ := bdE hm
    by_cases c3 : ¬ r2 = 0
    · have hm := ifT hm c3
      obtain ⟨g4, hm⟩ := gdE hm
      obtain ⟨a6, h5, ea6, hm⟩ := bd2E hm
      have lh5 := mo_X0_at ea6
      exact (lh5.tr (mo_X0_volume_24  h5 x0 x1 x2 a6 _ hm))
    · have hm := ifF hm c3
      exact (mo_X0_volume_15  h _ hm)
def m_X0_volume (f : Nat) (u : CH) (x0 : Nat) (x1 : Int32) (x2 : Int32) : Option (Int64 × CH) := gd (isC u x0 1) <|
    bd2 (m_X0_isLattice f u x0 x1) fun r3 h2 =>
    m_X0_volume_5 f h2 x0 x1 x2 r3
theorem mo_X0_volume {f : Nat} {u : CH} {x0 : Nat} {x1 : Int32} {x2 : Int32} {r0 : Int64} {u9 : CH} (hm : m_X0_volume f u x0 x1 x2 = some (r0, u9)) : le2 u u9 := by
  rw [m_X0_volume] at hm
  obtain ⟨g1, hm⟩ := gdE hm
  obtain ⟨r3, h2, er3, hm⟩ := bd2E hm
  have lh2 := mo_X0_isLattice er3
  exact (lh2.tr (mo_X0_volume_5  h2 x0 x1 x2 r3 _ hm))
abbrev rm_X0_volume (mc ms : Nat) : Room := { frames := 105, cells := mc, slots := ms, locals := 4127 }
theorem cw_X0_volume {R : Room} {s : State} {args : Array Value} {own : String} {idx mc ms : Nat} (hts : ∀ w ∈ lw_all, w.before args s = true) (hl : Cond.methodLink own idx yX0_volume ∈ lw_all) (hR : 105 + 1 ≤ R.frames ∧ 8 + (5 + 11) + 4127 ≤ R.locals) : CallW R s args own RX0 idx yX0_volume cX0_volume 5 (Option.some Jvm.ClassFile.FieldType.long) (ws_ yX0_volume cX0_volume 5 (Option.some Jvm.ClassFile.FieldType.long)) (rm_X0_volume mc ms) mc ms 2 := cwV 2 hts (lw_V hl q1053 q1054 q119 q1055) rfl rfl rfl (by decide +kernel) hR
set_option maxHeartbeats 4000000 in
set_option maxRecDepth 100000 in
theorem w_X0_volume (l : Launch) {D : va_G} {dA : Nat → ClassId} {A : Nat → Prop} {f : Nat} {u u9 : CH} {r0 : Int64} {x0 : Nat} {x1 : Int32} {x2 : Int32} (hm : m_X0_volume f u x0 x1 x2 = some (r0, u9)) : Met l yX0_volume (ws_ yX0_volume cX0_volume 5 (Option.some Jvm.ClassFile.FieldType.long)) (rm_X0_volume (u9.1 - u.1) (u9.2.1 - u.2.1)) (va_Pc [.ref x0, .int x1, .int x2] (CPre D dA A u)) (va_Ql (fun r u => r = r0 ∧ u = u9) (CPost D dA A) A) (u9.1 - u.1) (u9.2.1 - u.2.1) A := by
  refine Met.ofW (cc := cX0_volume) (maxL := 5) (ret := (Option.some Jvm.ClassFile.FieldType.long)) (by decide) rfl ?_
  intro p e s m args below meth c s₁ B hml hv
  have hx := B.exec
  have hb := B.bytes
  have hr := B.returns
  have hts := atoms_spec (ws := (ws_ yX0_volume cX0_volume 5 (Option.some Jvm.ClassFile.FieldType.long))) B.pre
  have hts : ∀ w ∈ lw_all, w.before args s = true := fun w h => hts w (List.mem_cons_of_mem _ h)
  have hown : s.vm.findClass RX0 = some m.cls := findClass_of_methodNamed B.named
  have hlocks := B.notSynchronized
  obtain ⟨hav, hv⟩ := hv
  have C : CX p s m args c cX0_volume RX0 D dA := ⟨hx, hb, hown, hts, hv.2⟩
  have hw : CW D dA A s u s.heap [] := hv.1
  generalize hQ : MQ below (va_Ql (fun r u => r = r0 ∧ u = u9) (CPost D dA A) A) args s (u9.1 - u.1) (u9.2.1 - u.2.1) A = QQ
  have hent := lg_entry_eq m [.ref x0, .int x1, .int x2] 5
  rw [← hav] at hent
  rw [hent]
  have hl := lv_entry ([.ref x0, .int x1, .int x2]) (n := 5) (Nat.le_of_ble_eq_true rfl)
  generalize (lg_sl ([.ref x0, .int x1, .int x2]) ++ List.replicate (5 - (lg_sl ([.ref x0, .int x1, .int x2])).length) Slot.unset).toArray = ls at hl ⊢
  have hl : lv_has ls 5 [(0, .ref x0), (1, .int x1), (2, .int x2)] := hl
  obtain ⟨cc, ecc⟩ : ∃ z : Nat, z = 0 := ⟨0, rfl⟩
  obtain ⟨ss, ess⟩ : ∃ z : Nat, z = 0 := ⟨0, rfl⟩
  have hcc : cc + u.1 = u.1 := by omega
  have hss : ss + u.2.1 = u.2.1 := by omega
  suffices hgo : W p l e (rm_X0_volume (u9.1 - u.1) (u9.2.1 - u.2.1)) s m args below meth c s.heap [] cc ss QQ (F0 m 0 ls []) by rw [ecc, ess] at hgo; exact hgo
  have ⟨pu, qu, _, _⟩ := mo_X0_volume hm
  have hB15 : ∀ (h : CH) (cc ss : Nat) (H : Heap) (locs : List Loc) (ls : Array Slot), m_X0_volume_15 f h = some (r0, u9) → CW D dA A s h H locs → cc + u.1 = h.1 → ss + u.2.1 = h.2.1 → lv_has ls 5 [] → W p l e (rm_X0_volume (u9.1 - u.1) (u9.2.1 - u.2.1)) s m args below meth c H locs cc ss QQ (F0 m 15 ls []) := by
    intro h cc ss H locs ls hm hw hcc hss hl
    have hmo := mo_X0_volume_15  h _ hm
    have sb_ : h.1 ≤ u9.1 := hmo.1
    have tb_ : h.2.1 ≤ u9.2.1 := hmo.2.1
    rw [m_X0_volume_15] at hm
    refine lv_ldc2 hx hb hown (hts _ q1059) dX0_volume_15 ?_
    obtain ⟨er, eh⟩ := retE hm
    have ec : cc = u9.1 - u.1 := by rw [← eh]; omega
    have es : ss = u9.2.1 - u.2.1 := by rw [← eh]; omega
    rw [ec, es, ← hQ]
    exact W.lret (v := (-2 : Int64)) hx hb hr (fun t ht hW => ⟨⟨(-2 : Int64), h, rfl, ⟨er, eh⟩, ⟨by rw [ht]; exact hw.1, by rw [ht]; exact hw.2.1⟩⟩, hw.2.2.1.F ht⟩) hw.2.2.1.2.2 dX0_volume_18
  have hB39 : ∀ (h : CH) (x2 : Int32) (x3 : Int64) (y0 : Int64) (cc ss : Nat) (H : Heap) (locs : List Loc) (ls : Array Slot), m_X0_volume_39 f h x2 x3 y0 = some (r0, u9) → CW D dA A s h H locs → cc + u.1 = h.1 → ss + u.2.1 = h.2.1 → lv_has ls 5 [(2, .int x2), (3, .long x3)] → W p l e (rm_X0_volume (u9.1 - u.1) (u9.2.1 - u.2.1)) s m args below meth c H locs cc ss QQ (F0 m 39 ls [.long y0]) := by
    intro h x2 x3 y0 cc ss H locs ls hm hw hcc hss hl
    have hmo := mo_X0_volume_39  h x2 x3 y0 _ hm
    have sb_ : h.1 ≤ u9.1 := hmo.1
    have tb_ : h.2.1 ≤ u9.2.1 := hmo.2.1
    rw [m_X0_volume_39] at hm
    obtain ⟨r1, er1, hm⟩ := bdE hm
    refine scl (va_runS (As := [.long y0]) (rest := []) ⟨hx, hb, hml, hown, hts⟩ (w_J9_abs l er1) (cw_J9_abs hts q933 ⟨Nat.le_of_ble_eq_true rfl, Nat.le_of_ble_eq_true rfl⟩) (pre_s _) rfl rfl hl.1 rfl (lv_room (Nat.le_of_ble_eq_true rfl)) dX0_volume_39 ⟨show cc + 0 ≤ u9.1 - u.1 by omega, show ss + 0 ≤ u9.2.1 - u.2.1 by omega⟩) ?_
    refine lv_lload_n hx hb dX0_volume_42 rfl (lv_at hl 1 rfl) ?_
    refine lv_lload_n hx hb dX0_volume_43 rfl (lv_at hl 1 rfl) ?_
    refine lv_lmul hx hb dX0_volume_44 ?_
    refine lv_lload_n hx hb dX0_volume_45 rfl (lv_at hl 1 rfl) ?_
    refine lv_lmul hx hb dX0_volume_46 ?_
    refine lv_iload_n hx hb dX0_volume_47 rfl (lv_at hl 0 rfl) ?_
    obtain ⟨r2, er2, hm⟩ := bdE hm
    refine scl (va_runS (As := [.long r1, .long ((x3 * x3) * x3), .int x2]) (rest := []) ⟨hx, hb, hml, hown, hts⟩ (w_X0_part l er2) (cw_X0_part hts q1061 ⟨Nat.le_of_ble_eq_true rfl, Nat.le_of_ble_eq_true rfl⟩) (pre_s _) rfl rfl hl.1 rfl (lv_room (Nat.le_of_ble_eq_true rfl)) dX0_volume_48 ⟨show cc + 0 ≤ u9.1 - u.1 by omega, show ss + 0 ≤ u9.2.1 - u.2.1 by omega⟩) ?_
    obtain ⟨er, eh⟩ := retE hm
    have ec : cc = u9.1 - u.1 := by rw [← eh]; omega
    have es : ss = u9.2.1 - u.2.1 := by rw [← eh]; omega
    rw [ec, es, ← hQ]
    exact W.lret (v := r2) hx hb hr (fun t ht hW => ⟨⟨r2, h, rfl, ⟨er, eh⟩, ⟨by rw [ht]; exact hw.1, by rw [ht]; exact hw.2.1⟩⟩, hw.2.2.1.F ht⟩) hw.2.2.1.2.2 dX0_volume_51
  have hB36 : ∀ (h : CH) (x2 : Int32) (x3 : Int64) (y0 : Nat) (cc ss : Nat) (H : Heap) (locs : List Loc) (ls : Array Slot), m_X0_volume_36 f h x2 x3 y0 = some (r0, u9) → CW D dA A s h H locs → cc + u.1 = h.1 → ss + u.2.1 = h.2.1 → lv_has ls 5 [(2, .int x2), (3, .long x3)] → W p l e (rm_X0_volume (u9.1 - u.1) (u9.2.1 - u.2.1)) s m args below meth c H locs cc ss QQ (F0 m 36 ls [.ref y0]) := by
    intro h x2 x3 y0 cc ss H locs ls hm hw hcc hss hl
    have hmo := mo_X0_volume_36  h x2 x3 y0 _ hm
    have sb_ : h.1 ≤ u9.1 := hmo.1
    have tb_ : h.2.1 ≤ u9.2.1 := hmo.2.1
    rw [m_X0_volume_36] at hm
    obtain ⟨g1, hm⟩ := gdE hm
    obtain ⟨r3, h2, er3, hm⟩ := bd2E hm
    have lh2 := mo_X2_determinant er3
    have ph2 : h.1 ≤ h2.1 := lh2.1
    have qh2 : h.2.1 ≤ h2.2.1 := lh2.2.1
    have hmo := mo_X0_volume_39   h2 x2 x3 r3 _ hm
    have sh2 : h2.1 ≤ u9.1 := hmo.1
    have th2 : h2.2.1 ≤ u9.2.1 := hmo.2.1
    refine cg_calll hw lh2 (va_runV (As := []) (rest := []) ⟨hx, hb, hml, hown, hts⟩ (w_X2_determinant l er3) (cw_X2_determinant hts q1060 ⟨Nat.le_of_ble_eq_true rfl, Nat.le_of_ble_eq_true rfl⟩) (cg_preV C hw g1 rfl _) rfl rfl hl.1 rfl (lv_room (Nat.le_of_ble_eq_true rfl)) dX0_volume_36 ⟨show cc + (h2.1 - h.1) ≤ u9.1 - u.1 by omega, show ss + (h2.2.1 - h.2.1) ≤ u9.2.1 - u.2.1 by omega⟩) (fun H locs hw => ?_)
    exact hB39 h2 x2 x3 r3 _ _ _ _ _ hm hw (by omega) (by omega) (lv_sub hl [0, 1] rfl)
  have hB33 : ∀ (h : CH) (x2 : Int32) (x3 : Int64) (y0 : Nat) (cc ss : Nat) (H : Heap) (locs : List Loc) (ls : Array Slot), m_X0_volume_33 f h x2 x3 y0 = some (r0, u9) → CW D dA A s h H locs → cc + u.1 = h.1 → ss + u.2.1 = h.2.1 → lv_has ls 5 [(2, .int x2), (3, .long x3)] → W p l e (rm_X0_volume (u9.1 - u.1) (u9.2.1 - u.2.1)) s m args below meth c H locs cc ss QQ (F0 m 33 ls [.ref y0]) := by
    intro h x2 x3 y0 cc ss H locs ls hm hw hcc hss hl
    have hmo := mo_X0_volume_33  h x2 x3 y0 _ hm
    have sb_ : h.1 ≤ u9.1 := hmo.1
    have tb_ : h.2.1 ≤ u9.2.1 := hmo.2.1
    rw [m_X0_volume_33] at hm
    by_cases c1 : isC h y0 6 = true
    · have hm := ifT hm c1
      obtain ⟨a3, h2, ea3, hm⟩ := bd2E hm
      have lh2 := mo_X6_rows ea3
      have ph2 : h.1 ≤ h2.1 := lh2.1
      have qh2 : h.2.1 ≤ h2.2.1 := lh2.2.1
      have hmo := mo_X0_volume_36   h2 x2 x3 a3 _ hm
      have sh2 : h2.1 ≤ u9.1 := hmo.1
      have th2 : h2.2.1 ≤ u9.2.1 := hmo.2.1
      refine cg_callr hw lh2 (va_runV (As := []) (rest := []) ⟨hx, hb, hml, hown, hts⟩ (w_X6_rows l ea3) (cw_X6_rows hts q904 ⟨Nat.le_of_ble_eq_true rfl, Nat.le_of_ble_eq_true rfl⟩) (cg_preV C hw c1 rfl _) rfl rfl hl.1 rfl (lv_room (Nat.le_of_ble_eq_true rfl)) dX0_volume_33 ⟨show cc + (h2.1 - h.1) ≤ u9.1 - u.1 by omega, show ss + (h2.2.1 - h.2.1) ≤ u9.2.1 - u.2.1 by omega⟩) (fun H locs hw => ?_)
      exact hB36 h2 x2 x3 a3 _ _ _ _ _ hm hw (by omega) (by omega) (lv_sub hl [0, 1] rfl)
    · have hm := ifF hm c1
      obtain ⟨g4, hm⟩ := gdE hm
      obtain ⟨a6, h5, ea6, hm⟩ := bd2E hm
      have lh5 := mo_X7_rows ea6
      have ph5 : h.1 ≤ h5.1 := lh5.1
      have qh5 : h.2.1 ≤ h5.2.1 := lh5.2.1
      have hmo := mo_X0_volume_36   h5 x2 x3 a6 _ hm
      have sh5 : h5.1 ≤ u9.1 := hmo.1
      have th5 : h5.2.1 ≤ u9.2.1 := hmo.2.1
      refine cg_callr hw lh5 (va_runU (As := []) (rest := []) ⟨hx, hb, hml, hown, hts⟩ (w_X7_rows l ea6) (va_cwO 0 hts (lwO q904 q907 q905 q908 q909 q144 q910) rfl rfl rfl q940 (by decide +kernel) ⟨Nat.le_of_ble_eq_true rfl, Nat.le_of_ble_eq_true rfl⟩) (cg_preV C hw g4 rfl _) rfl rfl hl.1 rfl (lv_room (Nat.le_of_ble_eq_true rfl)) dX0_volume_33 ⟨show cc + (h5.1 - h.1) ≤ u9.1 - u.1 by omega, show ss + (h5.2.1 - h.2.1) ≤ u9.2.1 - u.2.1 by omega⟩) (fun H locs hw => ?_)
      exact hB36 h5 x2 x3 a6 _ _ _ _ _ hm hw (by omega) (by omega) (lv_sub hl [0, 1] rfl)
  have hB27 : ∀ (h : CH) (x0 : Nat) (x1 : Int32) (x2 : Int32) (y0 : Int64) (cc ss : Nat) (H : Heap) (locs : List Loc) (ls : Array Slot), m_X0_volume_27 f h x0 x1 x2 y0 = some (r0, u9) → CW D dA A s h H locs → cc + u.1 = h.1 → ss + u.2.1 = h.2.1 → lv_has ls 5 [(0, .ref x0), (1, .int x1), (2, .int x2)] → W p l e (rm_X0_volume (u9.1 - u.1) (u9.2.1 - u.2.1)) s m args below meth c H locs cc ss QQ (F0 m 27 ls [.long y0]) := by
    intro h x0 x1 x2 y0 cc ss H locs ls hm hw hcc hss hl
    have hmo := mo_X0_volume_27  h x0 x1 x2 y0 _ hm
    have sb_ : h.1 ≤ u9.1 := hmo.1
    have tb_ : h.2.1 ≤ u9.2.1 := hmo.2.1
    rw [m_X0_volume_27] at hm
    refine lv_lstore_n (lv' := [(3, .long y0), (0, .ref x0), (1, .int x1), (2, .int x2)]) hx hb dX0_volume_27 rfl hl (by decide) rfl (fun ls hl => ?_)
    refine lv_aload_n hx hb dX0_volume_28 rfl (lv_at hl 1 rfl) ?_
    refine lv_iload_n hx hb dX0_volume_29 rfl (lv_at hl 2 rfl) ?_
    obtain ⟨g1, hm⟩ := gdE hm
    obtain ⟨a3, h2, ea3, hm⟩ := bd2E hm
    have lh2 := mo_X0_at ea3
    have ph2 : h.1 ≤ h2.1 := lh2.1
    have qh2 : h.2.1 ≤ h2.2.1 := lh2.2.1
    have hmo := mo_X0_volume_33   h2 x2 y0 a3 _ hm
    have sh2 : h2.1 ≤ u9.1 := hmo.1
    have th2 : h2.2.1 ≤ u9.2.1 := hmo.2.1
    refine cg_callr hw lh2 (va_runV (As := [.int x1]) (rest := []) ⟨hx, hb, hml, hown, hts⟩ (w_X0_at l ea3) (cw_X0_at hts q900 ⟨Nat.le_of_ble_eq_true rfl, Nat.le_of_ble_eq_true rfl⟩) (cg_preV C hw g1 rfl _) rfl rfl hl.1 rfl (lv_room (Nat.le_of_ble_eq_true rfl)) dX0_volume_30 ⟨show cc + (h2.1 - h.1) ≤ u9.1 - u.1 by omega, show ss + (h2.2.1 - h.2.1) ≤ u9.2.1 - u.2.1 by omega⟩) (fun H locs hw => ?_)
    exact hB33 h2 x2 y0 a3 _ _ _ _ _ hm hw (by omega) (by omega) (lv_sub hl [3, 0] rfl)
  have hB24 : ∀ (h : CH) (x0 : Nat) (x1 : Int32) (x2 : Int32) (y0 : Nat) (cc ss : Nat) (H : Heap) (locs : List Loc) (ls : Array Slot), m_X0_volume_24 f h x0 x1 x2 y0 = some (r0, u9) → CW D dA A s h H locs → cc + u.1 = h.1 → ss + u.2.1 = h.2.1 → lv_has ls 5 [(0, .ref x0), (1, .int x1), (2, .int x2)] → W p l e (rm_X0_volume (u9.1 - u.1) (u9.2.1 - u.2.1)) s m args below meth c H locs cc ss QQ (F0 m 24 ls [.ref y0]) := by
    intro h x0 x1 x2 y0 cc ss H locs ls hm hw hcc hss hl
    have hmo := mo_X0_volume_24  h x0 x1 x2 y0 _ hm
    have sb_ : h.1 ≤ u9.1 := hmo.1
    have tb_ : h.2.1 ≤ u9.2.1 := hmo.2.1
    rw [m_X0_volume_24] at hm
    by_cases c1 : isC h y0 6 = true
    · have hm := ifT hm c1
      obtain ⟨r3, h2, er3, hm⟩ := bd2E hm
      have lh2 := mo_X6_over er3
      have ph2 : h.1 ≤ h2.1 := lh2.1
      have qh2 : h.2.1 ≤ h2.2.1 := lh2.2.1
      have hmo := mo_X0_volume_27   h2 x0 x1 x2 r3 _ hm
      have sh2 : h2.1 ≤ u9.1 := hmo.1
      have th2 : h2.2.1 ≤ u9.2.1 := hmo.2.1
      refine cg_calll hw lh2 (va_runV (As := []) (rest := []) ⟨hx, hb, hml, hown, hts⟩ (w_X6_over l er3) (cw_X6_over hts q945 ⟨Nat.le_of_ble_eq_true rfl, Nat.le_of_ble_eq_true rfl⟩) (cg_preV C hw c1 rfl _) rfl rfl hl.1 rfl (lv_room (Nat.le_of_ble_eq_true rfl)) dX0_volume_24 ⟨show cc + (h2.1 - h.1) ≤ u9.1 - u.1 by omega, show ss + (h2.2.1 - h.2.1) ≤ u9.2.1 - u.2.1 by omega⟩) (fun H locs hw => ?_)
      exact hB27 h2 x0 x1 x2 r3 _ _ _ _ _ hm hw (by omega) (by omega) (lv_sub hl [0, 1, 2] rfl)
    · have hm := ifF hm c1
      obtain ⟨g4, hm⟩ := gdE hm
      obtain ⟨r6, h5, er6, hm⟩ := bd2E hm
      have lh5 := mo_X7_over er6
      have ph5 : h.1 ≤ h5.1 := lh5.1
      have qh5 : h.2.1 ≤ h5.2.1 := lh5.2.1
      have hmo := mo_X0_volume_27   h5 x0 x1 x2 r6 _ hm
      have sh5 : h5.1 ≤ u9.1 := hmo.1
      have th5 : h5.2.1 ≤ u9.2.1 := hmo.2.1
      refine cg_calll hw lh5 (va_runU (As := []) (rest := []) ⟨hx, hb, hml, hown, hts⟩ (w_X7_over l er6) (va_cwO 0 hts (lwO q945 q948 q946 q949 q950 q144 q951) rfl rfl rfl q952 (by decide +kernel) ⟨Nat.le_of_ble_eq_true rfl, Nat.le_of_ble_eq_true rfl⟩) (cg_preV C hw g4 rfl _) rfl rfl hl.1 rfl (lv_room (Nat.le_of_ble_eq_true rfl)) dX0_volume_24 ⟨show cc + (h5.1 - h.1) ≤ u9.1 - u.1 by omega, show ss + (h5.2.1 - h.2.1) ≤ u9.2.1 - u.2.1 by omega⟩) (fun H locs hw => ?_)
      exact hB27 h5 x0 x1 x2 r6 _ _ _ _ _ hm hw (by omega) (by omega) (lv_sub hl [0, 1, 2] rfl)
  have hB5 : ∀ (h : CH) (x0 : Nat) (x1 : Int32) (x2 : Int32) (y0 : Int32) (cc ss : Nat) (H : Heap) (locs : List Loc) (ls : Array Slot), m_X0_volume_5 f h x0 x1 x2 y0 = some (r0, u9) → CW D dA A s h H locs → cc + u.1 = h.1 → ss + u.2.1 = h.2.1 → lv_has ls 5 [(0, .ref x0), (1, .int x1), (2, .int x2)] → W p l e (rm_X0_volume (u9.1 - u.1) (u9.2.1 - u.2.1)) s m args below meth c H locs cc ss QQ (F0 m 5 ls [.int y0]) := by
    intro h x0 x1 x2 y0 cc ss H locs ls hm hw hcc hss hl
    have hmo := mo_X0_volume_5  h x0 x1 x2 y0 _ hm
    have sb_ : h.1 ≤ u9.1 := hmo.1
    have tb_ : h.2.1 ≤ u9.2.1 := hmo.2.1
    rw [m_X0_volume_5] at hm
    refine lv_if_eq (tgt := 15) hx hb dX0_volume_5 (by decide) (fun c1 => ?_) (fun c1 => ?_)
    · have hm := ifT hm c1
      exact hB15 h _ _ _ _ _ hm hw (by omega) (by omega) (lv_sub hl [] rfl)
    · have hm := ifF hm c1
      refine lv_iload_n hx hb dX0_volume_8 rfl (lv_at hl 2 rfl) ?_
      obtain ⟨r2, er2, hm⟩ := bdE hm
      refine sci (va_runS (As := [.int x2]) (rest := []) ⟨hx, hb, hml, hown, hts⟩ (w_X0_isPart l er2) (cw_X0_isPart hts q1056 ⟨Nat.le_of_ble_eq_true rfl, Nat.le_of_ble_eq_true rfl⟩) (pre_s _) rfl rfl hl.1 rfl (lv_room (Nat.le_of_ble_eq_true rfl)) dX0_volume_9 ⟨show cc + 0 ≤ u9.1 - u.1 by omega, show ss + 0 ≤ u9.2.1 - u.2.1 by omega⟩) ?_
      refine lv_if_ne (tgt := 19) hx hb dX0_volume_12 (by decide) (fun c3 => ?_) (fun c3 => ?_)
      · have hm := ifT hm c3
        refine lv_aload_n hx hb dX0_volume_19 rfl (lv_at hl 0 rfl) ?_
        refine lv_iload_n hx hb dX0_volume_20 rfl (lv_at hl 1 rfl) ?_
        obtain ⟨g4, hm⟩ := gdE hm
        obtain ⟨a6, h5, ea6, hm⟩ := bd2E hm
        have lh5 := mo_X0_at ea6
        have ph5 : h.1 ≤ h5.1 := lh5.1
        have qh5 : h.2.1 ≤ h5.2.1 := lh5.2.1
        have hmo := mo_X0_volume_24   h5 x0 x1 x2 a6 _ hm
        have sh5 : h5.1 ≤ u9.1 := hmo.1
        have th5 : h5.2.1 ≤ u9.2.1 := hmo.2.1
        refine cg_callr hw lh5 (va_runV (As := [.int x1]) (rest := []) ⟨hx, hb, hml, hown, hts⟩ (w_X0_at l ea6) (cw_X0_at hts q900 ⟨Nat.le_of_ble_eq_true rfl, Nat.le_of_ble_eq_true rfl⟩) (cg_preV C hw g4 rfl _) rfl rfl hl.1 rfl (lv_room (Nat.le_of_ble_eq_true rfl)) dX0_volume_21 ⟨show cc + (h5.1 - h.1) ≤ u9.1 - u.1 by omega, show ss + (h5.2.1 - h.2.1) ≤ u9.2.1 - u.2.1 by omega⟩) (fun H locs hw => ?_)
        exact hB24 h5 x0 x1 x2 a6 _ _ _ _ _ hm hw (by omega) (by omega) (lv_sub hl [0, 1, 2] rfl)
      · have hm := ifT' hm c3
        exact hB15 h _ _ _ _ _ hm hw (by omega) (by omega) (lv_sub hl [] rfl)
  rw [m_X0_volume] at hm
  refine lv_aload_n hx hb dX0_volume_0 rfl (lv_at hl 0 rfl) ?_
  refine lv_iload_n hx hb dX0_volume_1 rfl (lv_at hl 1 rfl) ?_
  obtain ⟨g1, hm⟩ := gdE hm
  obtain ⟨r3, h2, er3, hm⟩ := bd2E hm
  have lh2 := mo_X0_isLattice er3
  have ph2 : u.1 ≤ h2.1 := lh2.1
  have qh2 : u.2.1 ≤ h2.2.1 := lh2.2.1
  have hmo := mo_X0_volume_5   h2 x0 x1 x2 r3 _ hm
  have sh2 : h2.1 ≤ u9.1 := hmo.1
  have th2 : h2.2.1 ≤ u9.2.1 := hmo.2.1
  refine cg_calli hw lh2 (va_runV (As := [.int x1]) (rest := []) ⟨hx, hb, hml, hown, hts⟩ (w_X0_isLattice l er3) (cw_X0_isLattice hts q892 ⟨Nat.le_of_ble_eq_true rfl, Nat.le_of_ble_eq_true rfl⟩) (cg_preV C hw g1 rfl _) rfl rfl hl.1 rfl (lv_room (Nat.le_of_ble_eq_true rfl)) dX0_volume_2 ⟨show cc + (h2.1 - u.1) ≤ u9.1 - u.1 by omega, show ss + (h2.2.1 - u.2.1) ≤ u9.2.1 - u.2.1 by omega⟩) (fun H locs hw => ?_)
  exact hB5 h2 x0 x1 x2 r3 _ _ _ _ _ hm hw (by omega) (by omega) (lv_sub hl [0, 1, 2] rfl)
def m_X2_smith_81 (f : Nat) (h : CH) (y0 : Int64) : Option (Int64 × CH) := some (y0, h)
theorem mo_X2_smith_81 {f : Nat} : ∀ (h : CH) (y0 : Int64) (r : (Int64 × CH)), m_X2_smith_81 f h y0 = some r → le2 h r.2 := by
  intro h y0 r hm
  rw [m_X2_smith_81] at hm
  cases hm
  exact le2.rf
def m_X2_smith_75 (f : Nat) (h : CH) (x4 : Int64) (y0 : Int64) : Option (Int64 × CH) := bd (m_J9_abs f y0) fun r1 =>
    gd (nzL x4) <|
    m_X2_smith_81 f h (r1 / x4)
theorem mo_X2_smith_75 {f : Nat} : ∀ (h : CH) (x4 : Int64) (y0 : Int64) (r : (Int64 × CH)), m_X2_smith_75 f h x4 y0 = some r → le2 h r.2 := by
  intro h x4 y0 r hm
  rw [m_X2_smith_75] at hm
  obtain ⟨r1, er1, hm⟩ := bdE hm
  obtain ⟨g2, hm⟩ := gdE hm
  exact (mo_X2_smith_81  h (r1 / x4) _ hm)
def m_X2_smith_59 (f : Nat) (h : CH) (x0 : Nat) (x1 : Int32) (x2 : Int64) (x4 : Int64) : Option (Int64 × CH) := if ¬ x1 = (1 : Int32) then
    gd (isC h x0 3) <|
    bd2 (m_X2_determinant f h x0) fun r4 h3 =>
    m_X2_smith_75 f h3 x4 r4
    else gd (nzL x2) <|
    m_X2_smith_81 f h (x4 / x2)
theorem mo_X2_smith_59 {f : Nat} : ∀ (h : CH) (x0 : Nat) (x1 : Int32) (x2 : Int64) (x4 : Int64) (r : (Int64 × CH)), m_X2_smith_59 f h x0 x1 x2 x4 = some r → le2 h r.2 := by
  intro h x0 x1 x2 x4 r hm
  rw [m_X2_smith_59] at hm
  by_cases c1 : ¬ x1 = (1 : Int32)
  · have hm := ifT hm c1
    obtain ⟨g2, hm⟩ := gdE hm
    obtain ⟨r4, h3, er4, hm⟩ := bd2E hm
    have lh3 := mo_X2_determinant er4
    exact (lh3.tr (mo_X2_smith_75  h3 x4 r4 _ hm))
  · have hm := ifF hm c1
    obtain ⟨g5, hm⟩ := gdE hm
    exact (mo_X2_smith_81  h (x4 / x2) _ hm)
def m_X2_smith_53 (f : Nat) (k17 : CH → Nat → Int32 → Int64 → Int64 → Int32 → Option (Int64 × CH)) (h : CH) (x0 : Nat) (x1 : Int32) (x2 : Int64) (x4 : Int64) (x6 : Int32) : Option (Int64 × CH) := nmv ((x6 + 1) : Int32) fun v1 =>
    k17 h x0 x1 x2 x4 v1
theorem mo_X2_smith_53 {f : Nat} {k17 : CH → Nat → Int32 → Int64 → Int64 → Int32 → Option (Int64 × CH)} (hk17 : ∀ (h : CH) (x0 : Nat) (x1 : Int32) (x2 : Int64) (x4 : Int64) (x6 : Int32) (r : (Int64 × CH)), k17 h x0 x1 x2 x4 x6 = some r → le2 h r.2) : ∀ (h : CH) (x0 : Nat) (x1 : Int32) (x2 : Int64) (x4 : Int64) (x6 : Int32) (r : (Int64 × CH)), m_X2_smith_53 f k17 h x0 x1 x2 x4 x6 = some r → le2 h r.2 := by
  intro h x0 x1 x2 x4 x6 r hm
  rw [m_X2_smith_53] at hm
  obtain ⟨v1, ev1, hm⟩ := nmE hm
  exact (hk17 h x0 x1 x2 x4 v1 _ hm)
def m_X2_smith_42 (f : Nat) (k17 : CH → Nat → Int32 → Int64 → Int64 → Int32 → Option (Int64 × CH)) (k26 : CH → Nat → Int32 → Int64 → Int64 → Int32 → Int32 → Option (Int64 × CH)) (h : CH) (x0 : Nat) (x1 : Int32) (x2 : Int64) (x6 : Int32) (x7 : Int32) (y0 : Int64) (y1 : Int64) : Option (Int64 × CH) := bd (m_X0_divisor f y0 y1) fun r1 =>
    nmv ((x7 + 1) : Int32) fun v2 =>
    k26 h x0 x1 x2 r1 x6 v2
theorem mo_X2_smith_42 {f : Nat} {k17 : CH → Nat → Int32 → Int64 → Int64 → Int32 → Option (Int64 × CH)} (hk17 : ∀ (h : CH) (x0 : Nat) (x1 : Int32) (x2 : Int64) (x4 : Int64) (x6 : Int32) (r : (Int64 × CH)), k17 h x0 x1 x2 x4 x6 = some r → le2 h r.2) {k26 : CH → Nat → Int32 → Int64 → Int64 → Int32 → Int32 → Option (Int64 × CH)} (hk26 : ∀ (h : CH) (x0 : Nat) (x1 : Int32) (x2 : Int64) (x4 : Int64) (x6 : Int32) (x7 : Int32) (r : (Int64 × CH)), k26 h x0 x1 x2 x4 x6 x7 = some r → le2 h r.2) : ∀ (h : CH) (x0 : Nat) (x1 : Int32) (x2 : Int64) (x6 : Int32) (x7 : Int32) (y0 : Int64) (y1 : Int64) (r : (Int64 × CH)), m_X2_smith_42 f k17 k26 h x0 x1 x2 x6 x7 y0 y1 = some r → le2 h r.2 := by
  intro h x0 x1 x2 x6 x7 y0 y1 r hm
  rw [m_X2_smith_42] at hm
  obtain ⟨r1, er1, hm⟩ := bdE hm
  obtain ⟨v2, ev2, hm⟩ := nmE hm
  exact (hk26 h x0 x1 x2 r1 x6 v2 _ hm)
def m_X2_smith_26 (f : Nat) (k17 : CH → Nat → Int32 → Int64 → Int64 → Int32 → Option (Int64 × CH)) : Nat → CH → Nat → Int32 → Int64 → Int64 → Int32 → Int32 → Option (Int64 × CH)
  | 0, _, _, _, _, _, _, _ => none
  | n26 + 1, h, x0, x1, x2, x4, x6, x7 => if (3 : Int32) ≤ x7 then
    m_X2_smith_53 f k17 h x0 x1 x2 x4 x6
    else gd (isC h x0 3) <|
    bd2 (m_X2_minor f h x0 x6 x7) fun r4 h3 =>
    m_X2_smith_42 f k17 (m_X2_smith_26 f k17 n26) h3 x0 x1 x2 x6 x7 x4 r4
theorem mo_X2_smith_26 {f : Nat} {k17 : CH → Nat → Int32 → Int64 → Int64 → Int32 → Option (Int64 × CH)} (hk17 : ∀ (h : CH) (x0 : Nat) (x1 : Int32) (x2 : Int64) (x4 : Int64) (x6 : Int32) (r : (Int64 × CH)), k17 h x0 x1 x2 x4 x6 = some r → le2 h r.2) : ∀ (n26 : Nat) (h : CH) (x0 : Nat) (x1 : Int32) (x2 : Int64) (x4 : Int64) (x6 : Int32) (x7 : Int32) (r : (Int64 × CH)), m_X2_smith_26 f k17 n26 h x0 x1 x2 x4 x6 x7 = some r → le2 h r.2 := by
  intro n26
  induction n26 with
  | zero => intro h x0 x1 x2 x4 x6 x7 r hm; rw [m_X2_smith_26] at hm; exact noE hm
  | succ n26 ihm =>
    intro h x0 x1 x2 x4 x6 x7 r hm
    rw [m_X2_smith_26] at hm
    by_cases c1 : (3 : Int32) ≤ x7
    · have hm := ifT hm c1
      exact (mo_X2_smith_53 hk17 h x0 x1 x2 x4 x6 _ hm)
    · have hm := ifF hm c1
      obtain ⟨g2, hm⟩ := gdE hm
      obtain ⟨r4, h3, er4, hm⟩ := bd2E hm
      have lh3 := mo_X2_minor er4
      exact (lh3.tr (mo_X2_smith_42 hk17 ihm h3 x0 x1 x2 x6 x7 x4 r4 _ hm))
def m_X2_smith_17 (f : Nat) : Nat → CH → Nat → Int32 → Int64 → Int64 → Int32 → Option (Int64 × CH)
  | 0, _, _, _, _, _, _ => none
  | n17 + 1, h, x0, x1, x2, x4, x6 => if (3 : Int32) ≤ x6 then
    m_X2_smith_59 f h x0 x1 x2 x4
    else m_X2_smith_26 f (m_X2_smith_17 f n17) f h x0 x1 x2 x4 x6 (0 : Int32)
theorem mo_X2_smith_17 {f : Nat} : ∀ (n17 : Nat) (h : CH) (x0 : Nat) (x1 : Int32) (x2 : Int64) (x4 : Int64) (x6 : Int32) (r : (Int64 × CH)), m_X2_smith_17 f n17 h x0 x1 x2 x4 x6 = some r → le2 h r.2 := by
  intro n17
  induction n17 with
  | zero => intro h x0 x1 x2 x4 x6 r hm; rw [m_X2_smith_17] at hm; exact noE hm
  | succ n17 ihm =>
    intro h x0 x1 x2 x4 x6 r hm
    rw [m_X2_smith_17] at hm
    by_cases c1 : (3 : Int32) ≤ x6
    · have hm := ifT hm c1
      exact (mo_X2_smith_59  h x0 x1 x2 x4 _ hm)
    · have hm := ifF hm c1
      exact (mo_X2_smith_26 ihm f h x0 x1 x2 x4 x6 (0 : Int32) _ hm)
def m_X2_smith_4 (f : Nat) (h : CH) (x0 : Nat) (x1 : Int32) (y0 : Int64) : Option (Int64 × CH) := if ¬ x1 = 0 then
    m_X2_smith_17 f f h x0 x1 y0 (0 : Int64) (0 : Int32)
    else some (y0, h)
theorem mo_X2_smith_4 {f : Nat} : ∀ (h : CH) (x0 : Nat) (x1 : Int32) (y0 : Int64) (r : (Int64 × CH)), m_X2_smith_4 f h x0 x1 y0 = some r → le2 h r.2 := by
  intro h x0 x1 y0 r hm
  rw [m_X2_smith_4] at hm
  by_cases c1 : ¬ x1 = 0
  · have hm := ifT hm c1
    exact (mo_X2_smith_17  f h x0 x1 y0 (0 : Int64) (0 : Int32) _ hm)
  · have hm := ifF hm c1
    cases hm
    exact le2.rf
def m_X2_smith (f : Nat) (u : CH) (x0 : Nat) (x1 : Int32) : Option (Int64 × CH) := gd (isC u x0 3) <|
    bd2 (m_X2_common f u x0) fun r3 h2 =>
    m_X2_smith_4 f h2 x0 x1 r3
theorem mo_X2_smith {f : Nat} {u : CH} {x0 : Nat} {x1 : Int32} {r0 : Int64} {u9 : CH} (hm : m_X2_smith f u x0 x1 = some (r0, u9)) : le2 u u9 := by
  rw [m_X2_smith] at hm
  obtain ⟨g1, hm⟩ := gdE hm
  obtain ⟨r3, h2, er3, hm⟩ := bd2E hm
  have lh2 := mo_X2_common er3
  exact (lh2.tr (mo_X2_smith_4  h2 x0 x1 r3 _ hm))
abbrev rm_X2_smith (mc ms : Nat) : Room := { frames := 103, cells := mc, slots := ms, locals := 4087 }
theorem cw_X2_smith {R : Room} {s : State} {args : Array Value} {own : String} {idx mc ms : Nat} (hts : ∀ w ∈ lw_all, w.before args s = true) (hl : Cond.methodLink own idx yX2_smith ∈ lw_all) (hR : 103 + 1 ≤ R.frames ∧ 8 + (8 + 11) + 4087 ≤ R.locals) : CallW R s args own RX2 idx yX2_smith cX2_smith 8 (Option.some Jvm.ClassFile.FieldType.long) (ws_ yX2_smith cX2_smith 8 (Option.some Jvm.ClassFile.FieldType.long)) (rm_X2_smith mc ms) mc ms 1 := cwV 1 hts (lw_V hl q1069 q1070 q124 q1071) rfl rfl rfl (by decide +kernel) hR
set_option maxHeartbeats 4000000 in
set_option maxRecDepth 100000 in
theorem w_X2_smith (l : Launch) {D : va_G} {dA : Nat → ClassId} {A : Nat → Prop} {f : Nat} {u u9 : CH} {r0 : Int64} {x0 : Nat} {x1 : Int32} (hm : m_X2_smith f u x0 x1 = some (r0, u9)) : Met l yX2_smith (ws_ yX2_smith cX2_smith 8 (Option.some Jvm.ClassFile.FieldType.long)) (rm_X2_smith (u9.1 - u.1) (u9.2.1 - u.2.1)) (va_Pc [.ref x0, .int x1] (CPre D dA A u)) (va_Ql (fun r u => r = r0 ∧ u = u9) (CPost D dA A) A) (u9.1 - u.1) (u9.2.1 - u.2.1) A := by
  refine Met.ofW (cc := cX2_smith) (maxL := 8) (ret := (Option.some Jvm.ClassFile.FieldType.long)) (by decide) rfl ?_
  intro p e s m args below meth c s₁ B hml hv
  have hx := B.exec
  have hb := B.bytes
  have hr := B.returns
  have hts := atoms_spec (ws := (ws_ yX2_smith cX2_smith 8 (Option.some Jvm.ClassFile.FieldType.long))) B.pre
  have hts : ∀ w ∈ lw_all, w.before args s = true := fun w h => hts w (List.mem_cons_of_mem _ h)
  have hown : s.vm.findClass RX2 = some m.cls := findClass_of_methodNamed B.named
  have hlocks := B.notSynchronized
  obtain ⟨hav, hv⟩ := hv
  have C : CX p s m args c cX2_smith RX2 D dA := ⟨hx, hb, hown, hts, hv.2⟩
  have hw : CW D dA A s u s.heap [] := hv.1
  generalize hQ : MQ below (va_Ql (fun r u => r = r0 ∧ u = u9) (CPost D dA A) A) args s (u9.1 - u.1) (u9.2.1 - u.2.1) A = QQ
  have hent := lg_entry_eq m [.ref x0, .int x1] 8
  rw [← hav] at hent
  rw [hent]
  have hl := lv_entry ([.ref x0, .int x1]) (n := 8) (Nat.le_of_ble_eq_true rfl)
  generalize (lg_sl ([.ref x0, .int x1]) ++ List.replicate (8 - (lg_sl ([.ref x0, .int x1])).length) Slot.unset).toArray = ls at hl ⊢
  have hl : lv_has ls 8 [(0, .ref x0), (1, .int x1)] := hl
  obtain ⟨cc, ecc⟩ : ∃ z : Nat, z = 0 := ⟨0, rfl⟩
  obtain ⟨ss, ess⟩ : ∃ z : Nat, z = 0 := ⟨0, rfl⟩
  have hcc : cc + u.1 = u.1 := by omega
  have hss : ss + u.2.1 = u.2.1 := by omega
  suffices hgo : W p l e (rm_X2_smith (u9.1 - u.1) (u9.2.1 - u.2.1)) s m args below meth c s.heap [] cc ss QQ (F0 m 0 ls []) by rw [ecc, ess] at hgo; exact hgo
  have ⟨pu, qu, _, _⟩ := mo_X2_smith hm
  have hB81 : ∀ (h : CH) (y0 : Int64) (cc ss : Nat) (H : Heap) (locs : List Loc) (ls : Array Slot), m_X2_smith_81 f h y0 = some (r0, u9) → CW D dA A s h H locs → cc + u.1 = h.1 → ss + u.2.1 = h.2.1 → lv_has ls 8 [] → W p l e (rm_X2_smith (u9.1 - u.1) (u9.2.1 - u.2.1)) s m args below meth c H locs cc ss QQ (F0 m 81 ls [.long y0]) := by
    intro h y0 cc ss H locs ls hm hw hcc hss hl
    have hmo := mo_X2_smith_81  h y0 _ hm
    have sb_ : h.1 ≤ u9.1 := hmo.1
    have tb_ : h.2.1 ≤ u9.2.1 := hmo.2.1
    rw [m_X2_smith_81] at hm
    obtain ⟨er, eh⟩ := retE hm
    have ec : cc = u9.1 - u.1 := by rw [← eh]; omega
    have es : ss = u9.2.1 - u.2.1 := by rw [← eh]; omega
    rw [ec, es, ← hQ]
    exact W.lret (v := y0) hx hb hr (fun t ht hW => ⟨⟨y0, h, rfl, ⟨er, eh⟩, ⟨by rw [ht]; exact hw.1, by rw [ht]; exact hw.2.1⟩⟩, hw.2.2.1.F ht⟩) hw.2.2.1.2.2 dX2_smith_81
  have hB75 : ∀ (h : CH) (x4 : Int64) (y0 : Int64) (cc ss : Nat) (H : Heap) (locs : List Loc) (ls : Array Slot), m_X2_smith_75 f h x4 y0 = some (r0, u9) → CW D dA A s h H locs → cc + u.1 = h.1 → ss + u.2.1 = h.2.1 → lv_has ls 8 [(4, .long x4)] → W p l e (rm_X2_smith (u9.1 - u.1) (u9.2.1 - u.2.1)) s m args below meth c H locs cc ss QQ (F0 m 75 ls [.long y0]) := by
    intro h x4 y0 cc ss H locs ls hm hw hcc hss hl
    have hmo := mo_X2_smith_75  h x4 y0 _ hm
    have sb_ : h.1 ≤ u9.1 := hmo.1
    have tb_ : h.2.1 ≤ u9.2.1 := hmo.2.1
    rw [m_X2_smith_75] at hm
    obtain ⟨r1, er1, hm⟩ := bdE hm
    refine scl (va_runS (As := [.long y0]) (rest := []) ⟨hx, hb, hml, hown, hts⟩ (w_J9_abs l er1) (cw_J9_abs hts q1074 ⟨Nat.le_of_ble_eq_true rfl, Nat.le_of_ble_eq_true rfl⟩) (pre_s _) rfl rfl hl.1 rfl (lv_room (Nat.le_of_ble_eq_true rfl)) dX2_smith_75 ⟨show cc + 0 ≤ u9.1 - u.1 by omega, show ss + 0 ≤ u9.2.1 - u.2.1 by omega⟩) ?_
    refine lv_lload hx hb dX2_smith_78 (lv_at hl 0 rfl) ?_
    obtain ⟨g2, hm⟩ := gdE hm
    refine lv_ldiv hx hb dX2_smith_80 (nzL_ne g2) ?_
    exact hB81 h (r1 / x4) _ _ _ _ _ hm hw (by omega) (by omega) (lv_sub hl [] rfl)
  have hB59 : ∀ (h : CH) (x0 : Nat) (x1 : Int32) (x2 : Int64) (x4 : Int64) (cc ss : Nat) (H : Heap) (locs : List Loc) (ls : Array Slot), m_X2_smith_59 f h x0 x1 x2 x4 = some (r0, u9) → CW D dA A s h H locs → cc + u.1 = h.1 → ss + u.2.1 = h.2.1 → lv_has ls 8 [(0, .ref x0), (1, .int x1), (2, .long x2), (4, .long x4)] → W p l e (rm_X2_smith (u9.1 - u.1) (u9.2.1 - u.2.1)) s m args below meth c H locs cc ss QQ (F0 m 59 ls []) := by
    intro h x0 x1 x2 x4 cc ss H locs ls hm hw hcc hss hl
    have hmo := mo_X2_smith_59  h x0 x1 x2 x4 _ hm
    have sb_ : h.1 ≤ u9.1 := hmo.1
    have tb_ : h.2.1 ≤ u9.2.1 := hmo.2.1
    rw [m_X2_smith_59] at hm
    refine lv_iload_n hx hb dX2_smith_59 rfl (lv_at hl 1 rfl) ?_
    refine lv_iconst (v := 1) hx hb dX2_smith_60 (by decide) ?_
    refine lv_icmp_ne (tgt := 71) hx hb dX2_smith_61 (by decide) (fun c1 => ?_) (fun c1 => ?_)
    · have hm := ifT hm c1
      refine lv_aload_n hx hb dX2_smith_71 rfl (lv_at hl 0 rfl) ?_
      obtain ⟨g2, hm⟩ := gdE hm
      obtain ⟨r4, h3, er4, hm⟩ := bd2E hm
      have lh3 := mo_X2_determinant er4
      have ph3 : h.1 ≤ h3.1 := lh3.1
      have qh3 : h.2.1 ≤ h3.2.1 := lh3.2.1
      have hmo := mo_X2_smith_75   h3 x4 r4 _ hm
      have sh3 : h3.1 ≤ u9.1 := hmo.1
      have th3 : h3.2.1 ≤ u9.2.1 := hmo.2.1
      refine cg_calll hw lh3 (va_runV (As := []) (rest := []) ⟨hx, hb, hml, hown, hts⟩ (w_X2_determinant l er4) (cw_X2_determinant hts q1073 ⟨Nat.le_of_ble_eq_true rfl, Nat.le_of_ble_eq_true rfl⟩) (cg_preV C hw g2 rfl _) rfl rfl hl.1 rfl (lv_room (Nat.le_of_ble_eq_true rfl)) dX2_smith_72 ⟨show cc + (h3.1 - h.1) ≤ u9.1 - u.1 by omega, show ss + (h3.2.1 - h.2.1) ≤ u9.2.1 - u.2.1 by omega⟩) (fun H locs hw => ?_)
      exact hB75 h3 x4 r4 _ _ _ _ _ hm hw (by omega) (by omega) (lv_sub hl [3] rfl)
    · have hm := ifT' hm c1
      refine lv_lload hx hb dX2_smith_64 (lv_at hl 3 rfl) ?_
      refine lv_lload_n hx hb dX2_smith_66 rfl (lv_at hl 2 rfl) ?_
      obtain ⟨g5, hm⟩ := gdE hm
      refine lv_ldiv hx hb dX2_smith_67 (nzL_ne g5) ?_
      refine lv_goto (tgt := 81) hx hb dX2_smith_68 (by decide) ?_
      exact hB81 h (x4 / x2) _ _ _ _ _ hm hw (by omega) (by omega) (lv_sub hl [] rfl)
  have hB17 : ∀ (n17 : Nat), ∀ (h : CH) (x0 : Nat) (x1 : Int32) (x2 : Int64) (x4 : Int64) (x6 : Int32) (cc ss : Nat) (H : Heap) (locs : List Loc) (ls : Array Slot), m_X2_smith_17 f n17 h x0 x1 x2 x4 x6 = some (r0, u9) → CW D dA A s h H locs → cc + u.1 = h.1 → ss + u.2.1 = h.2.1 → lv_has ls 8 [(0, .ref x0), (1, .int x1), (2, .long x2), (4, .long x4), (6, .int x6)] → W p l e (rm_X2_smith (u9.1 - u.1) (u9.2.1 - u.2.1)) s m args below meth c H locs cc ss QQ (F0 m 17 ls []) := by
    intro n17
    induction n17 with
    | zero => intro h x0 x1 x2 x4 x6 cc ss H locs ls hm hw hcc hss hl; rw [m_X2_smith_17] at hm; exact noE hm
    | succ n17 ih17 =>
      have hB53 : ∀ (h : CH) (x0 : Nat) (x1 : Int32) (x2 : Int64) (x4 : Int64) (x6 : Int32) (cc ss : Nat) (H : Heap) (locs : List Loc) (ls : Array Slot), m_X2_smith_53 f (m_X2_smith_17 f n17) h x0 x1 x2 x4 x6 = some (r0, u9) → CW D dA A s h H locs → cc + u.1 = h.1 → ss + u.2.1 = h.2.1 → lv_has ls 8 [(0, .ref x0), (1, .int x1), (2, .long x2), (4, .long x4), (6, .int x6)] → W p l e (rm_X2_smith (u9.1 - u.1) (u9.2.1 - u.2.1)) s m args below meth c H locs cc ss QQ (F0 m 53 ls []) := by
        intro h x0 x1 x2 x4 x6 cc ss H locs ls hm hw hcc hss hl
        have hmo := mo_X2_smith_53 (mo_X2_smith_17 n17) h x0 x1 x2 x4 x6 _ hm
        have sb_ : h.1 ≤ u9.1 := hmo.1
        have tb_ : h.2.1 ≤ u9.2.1 := hmo.2.1
        rw [m_X2_smith_53] at hm
        obtain ⟨v1, ev1, hm⟩ := nmE hm
        refine lv_iinc (v := v1) (lv' := [(6, .int v1), (0, .ref x0), (1, .int x1), (2, .long x2), (4, .long x4)]) hx hb dX2_smith_53 hl (k := 4) rfl (by rw [ev1]; rfl) (by decide) rfl (fun ls hl => ?_)
        refine lv_goto (tgt := 17) hx hb dX2_smith_56 (by decide) ?_
        exact ih17 h x0 x1 x2 x4 v1 _ _ _ _ _ hm hw (by omega) (by omega) (lv_sub hl [1, 2, 3, 4, 0] rfl)
      have hB26 : ∀ (n26 : Nat), ∀ (h : CH) (x0 : Nat) (x1 : Int32) (x2 : Int64) (x4 : Int64) (x6 : Int32) (x7 : Int32) (cc ss : Nat) (H : Heap) (locs : List Loc) (ls : Array Slot), m_X2_smith_26 f (m_X2_smith_17 f n17) n26 h x0 x1 x2 x4 x6 x7 = some (r0, u9) → CW D dA A s h H locs → cc + u.1 = h.1 → ss + u.2.1 = h.2.1 → lv_has ls 8 [(0, .ref x0), (1, .int x1), (2, .long x2), (4, .long x4), (6, .int x6), (7, .int x7)] → W p l e (rm_X2_smith (u9.1 - u.1) (u9.2.1 - u.2.1)) s m args below meth c H locs cc ss QQ (F0 m 26 ls []) := by
        intro n26
        induction n26 with
        | zero => intro h x0 x1 x2 x4 x6 x7 cc ss H locs ls hm hw hcc hss hl; rw [m_X2_smith_26] at hm; exact noE hm
        | succ n26 ih26 =>
          have hB42 : ∀ (h : CH) (x0 : Nat) (x1 : Int32) (x2 : Int64) (x6 : Int32) (x7 : Int32) (y0 : Int64) (y1 : Int64) (cc ss : Nat) (H : Heap) (locs : List Loc) (ls : Array Slot), m_X2_smith_42 f (m_X2_smith_17 f n17) (m_X2_smith_26 f (m_X2_smith_17 f n17) n26) h x0 x1 x2 x6 x7 y0 y1 = some (r0, u9) → CW D dA A s h H locs → cc + u.1 = h.1 → ss + u.2.1 = h.2.1 → lv_has ls 8 [(0, .ref x0), (1, .int x1), (2, .long x2), (6, .int x6), (7, .int x7)] → W p l e (rm_X2_smith (u9.1 - u.1) (u9.2.1 - u.2.1)) s m args below meth c H locs cc ss QQ (F0 m 42 ls [.long y1, .long y0]) := by
            intro h x0 x1 x2 x6 x7 y0 y1 cc ss H locs ls hm hw hcc hss hl
            have hmo := mo_X2_smith_42 (mo_X2_smith_17 n17) (mo_X2_smith_26 (mo_X2_smith_17 n17) n26) h x0 x1 x2 x6 x7 y0 y1 _ hm
            have sb_ : h.1 ≤ u9.1 := hmo.1
            have tb_ : h.2.1 ≤ u9.2.1 := hmo.2.1
            rw [m_X2_smith_42] at hm
            obtain ⟨r1, er1, hm⟩ := bdE hm
            refine scl (va_runSN (As := [.long y0, .long y1]) (rest := []) ⟨hx, hb, hml, hown, hts⟩ (w_X0_divisor l er1) ⟨va_cnB 2 hts (lw_meth q932) rfl rfl rfl (hw.2.2.2.2.1 _ (List.mem_of_getElem? (i := 59) rfl)) (hts _ q119) (by decide +kernel) ⟨Nat.le_of_ble_eq_true rfl, Nat.le_of_ble_eq_true rfl⟩, hts _ q931, trivial⟩ (pre_s _) rfl rfl hl.1 rfl (lv_room (Nat.le_of_ble_eq_true rfl)) dX2_smith_42 ⟨show cc + 0 ≤ u9.1 - u.1 by omega, show ss + 0 ≤ u9.2.1 - u.2.1 by omega⟩) ?_
            refine lv_lstore (lv' := [(4, .long r1), (0, .ref x0), (1, .int x1), (2, .long x2), (6, .int x6), (7, .int x7)]) hx hb dX2_smith_45 hl (by decide) rfl (fun ls hl => ?_)
            obtain ⟨v2, ev2, hm⟩ := nmE hm
            refine lv_iinc (v := v2) (lv' := [(7, .int v2), (4, .long r1), (0, .ref x0), (1, .int x1), (2, .long x2), (6, .int x6)]) hx hb dX2_smith_47 hl (k := 5) rfl (by rw [ev2]; rfl) (by decide) rfl (fun ls hl => ?_)
            refine lv_goto (tgt := 26) hx hb dX2_smith_50 (by decide) ?_
            exact ih26 h x0 x1 x2 r1 x6 v2 _ _ _ _ _ hm hw (by omega) (by omega) (lv_sub hl [2, 3, 4, 1, 5, 0] rfl)
          intro h x0 x1 x2 x4 x6 x7 cc ss H locs ls hm hw hcc hss hl
          have hmo := mo_X2_smith_26 (mo_X2_smith_17 n17) (n26 + 1) h x0 x1 x2 x4 x6 x7 _ hm
          have sb_ : h.1 ≤ u9.1 := hmo.1
          have tb_ : h.2.1 ≤ u9.2.1 := hmo.2.1
          rw [m_X2_smith_26] at hm
          refine lv_iload hx hb dX2_smith_26 (lv_at hl 5 rfl) ?_
          refine lv_iconst (v := 3) hx hb dX2_smith_28 (by decide) ?_
          refine lv_icmp_ge (tgt := 53) hx hb dX2_smith_29 (by decide) (fun c1 => ?_) (fun c1 => ?_)
          · have hm := ifT hm c1
            exact hB53 h x0 x1 x2 x4 x6 _ _ _ _ _ hm hw (by omega) (by omega) (lv_sub hl [0, 1, 2, 3, 4] rfl)
          · have hm := ifF hm c1
            refine lv_lload hx hb dX2_smith_32 (lv_at hl 3 rfl) ?_
            refine lv_aload_n hx hb dX2_smith_34 rfl (lv_at hl 0 rfl) ?_
            refine lv_iload hx hb dX2_smith_35 (lv_at hl 4 rfl) ?_
            refine lv_iload hx hb dX2_smith_37 (lv_at hl 5 rfl) ?_
            obtain ⟨g2, hm⟩ := gdE hm
            obtain ⟨r4, h3, er4, hm⟩ := bd2E hm
            have lh3 := mo_X2_minor er4
            have ph3 : h.1 ≤ h3.1 := lh3.1
            have qh3 : h.2.1 ≤ h3.2.1 := lh3.2.1
            have hmo := mo_X2_smith_42 (mo_X2_smith_17 n17) (mo_X2_smith_26 (mo_X2_smith_17 n17) n26)  h3 x0 x1 x2 x6 x7 x4 r4 _ hm
            have sh3 : h3.1 ≤ u9.1 := hmo.1
            have th3 : h3.2.1 ≤ u9.2.1 := hmo.2.1
            refine cg_calll hw lh3 (va_runV (As := [.int x6, .int x7]) (rest := [.long x4]) ⟨hx, hb, hml, hown, hts⟩ (w_X2_minor l er4) (cw_X2_minor hts q792 ⟨Nat.le_of_ble_eq_true rfl, Nat.le_of_ble_eq_true rfl⟩) (cg_preV C hw g2 rfl _) rfl rfl hl.1 rfl (lv_room (Nat.le_of_ble_eq_true rfl)) dX2_smith_39 ⟨show cc + (h3.1 - h.1) ≤ u9.1 - u.1 by omega, show ss + (h3.2.1 - h.2.1) ≤ u9.2.1 - u.2.1 by omega⟩) (fun H locs hw => ?_)
            exact hB42 h3 x0 x1 x2 x6 x7 x4 r4 _ _ _ _ _ hm hw (by omega) (by omega) (lv_sub hl [0, 1, 2, 4, 5] rfl)
      intro h x0 x1 x2 x4 x6 cc ss H locs ls hm hw hcc hss hl
      have hmo := mo_X2_smith_17  (n17 + 1) h x0 x1 x2 x4 x6 _ hm
      have sb_ : h.1 ≤ u9.1 := hmo.1
      have tb_ : h.2.1 ≤ u9.2.1 := hmo.2.1
      rw [m_X2_smith_17] at hm
      refine lv_iload hx hb dX2_smith_17 (lv_at hl 4 rfl) ?_
      refine lv_iconst (v := 3) hx hb dX2_smith_19 (by decide) ?_
      refine lv_icmp_ge (tgt := 59) hx hb dX2_smith_20 (by decide) (fun c1 => ?_) (fun c1 => ?_)
      · have hm := ifT hm c1
        exact hB59 h x0 x1 x2 x4 _ _ _ _ _ hm hw (by omega) (by omega) (lv_sub hl [0, 1, 2, 3] rfl)
      · have hm := ifF hm c1
        refine lv_iconst (v := 0) hx hb dX2_smith_23 (by decide) ?_
        refine lv_istore (lv' := [(7, .int (0 : Int32)), (0, .ref x0), (1, .int x1), (2, .long x2), (4, .long x4), (6, .int x6)]) hx hb dX2_smith_24 hl (by decide) rfl (fun ls hl => ?_)
        exact hB26 f h x0 x1 x2 x4 x6 (0 : Int32) _ _ _ _ _ hm hw (by omega) (by omega) (lv_sub hl [1, 2, 3, 4, 5, 0] rfl)
  have hB4 : ∀ (h : CH) (x0 : Nat) (x1 : Int32) (y0 : Int64) (cc ss : Nat) (H : Heap) (locs : List Loc) (ls : Array Slot), m_X2_smith_4 f h x0 x1 y0 = some (r0, u9) → CW D dA A s h H locs → cc + u.1 = h.1 → ss + u.2.1 = h.2.1 → lv_has ls 8 [(0, .ref x0), (1, .int x1)] → W p l e (rm_X2_smith (u9.1 - u.1) (u9.2.1 - u.2.1)) s m args below meth c H locs cc ss QQ (F0 m 4 ls [.long y0]) := by
    intro h x0 x1 y0 cc ss H locs ls hm hw hcc hss hl
    have hmo := mo_X2_smith_4  h x0 x1 y0 _ hm
    have sb_ : h.1 ≤ u9.1 := hmo.1
    have tb_ : h.2.1 ≤ u9.2.1 := hmo.2.1
    rw [m_X2_smith_4] at hm
    refine lv_lstore_n (lv' := [(2, .long y0), (0, .ref x0), (1, .int x1)]) hx hb dX2_smith_4 rfl hl (by decide) rfl (fun ls hl => ?_)
    refine lv_iload_n hx hb dX2_smith_5 rfl (lv_at hl 2 rfl) ?_
    refine lv_if_ne (tgt := 11) hx hb dX2_smith_6 (by decide) (fun c1 => ?_) (fun c1 => ?_)
    · have hm := ifT hm c1
      refine lv_lconst (v := 0) hx hb dX2_smith_11 (by decide) ?_
      refine lv_lstore (lv' := [(4, .long (0 : Int64)), (2, .long y0), (0, .ref x0), (1, .int x1)]) hx hb dX2_smith_12 hl (by decide) rfl (fun ls hl => ?_)
      refine lv_iconst (v := 0) hx hb dX2_smith_14 (by decide) ?_
      refine lv_istore (lv' := [(6, .int (0 : Int32)), (4, .long (0 : Int64)), (2, .long y0), (0, .ref x0), (1, .int x1)]) hx hb dX2_smith_15 hl (by decide) rfl (fun ls hl => ?_)
      exact hB17 f h x0 x1 y0 (0 : Int64) (0 : Int32) _ _ _ _ _ hm hw (by omega) (by omega) (lv_sub hl [3, 4, 2, 1, 0] rfl)
    · have hm := ifT' hm c1
      refine lv_lload_n hx hb dX2_smith_9 rfl (lv_at hl 0 rfl) ?_
      obtain ⟨er, eh⟩ := retE hm
      have ec : cc = u9.1 - u.1 := by rw [← eh]; omega
      have es : ss = u9.2.1 - u.2.1 := by rw [← eh]; omega
      rw [ec, es, ← hQ]
      exact W.lret (v := y0) hx hb hr (fun t ht hW => ⟨⟨y0, h, rfl, ⟨er, eh⟩, ⟨by rw [ht]; exact hw.1, by rw [ht]; exact hw.2.1⟩⟩, hw.2.2.1.F ht⟩) hw.2.2.1.2.2 dX2_smith_10
  rw [m_X2_smith] at hm
  refine lv_aload_n hx hb dX2_smith_0 rfl (lv_at hl 0 rfl) ?_
  obtain ⟨g1, hm⟩ := gdE hm
  obtain ⟨r3, h2, er3, hm⟩ := bd2E hm
  have lh2 := mo_X2_common er3
  have ph2 : u.1 ≤ h2.1 := lh2.1
  have qh2 : u.2.1 ≤ h2.2.1 := lh2.2.1
  have hmo := mo_X2_smith_4   h2 x0 x1 r3 _ hm
  have sh2 : h2.1 ≤ u9.1 := hmo.1
  have th2 : h2.2.1 ≤ u9.2.1 := hmo.2.1
  refine cg_calll hw lh2 (va_runV (As := []) (rest := []) ⟨hx, hb, hml, hown, hts⟩ (w_X2_common l er3) (cw_X2_common hts q1072 ⟨Nat.le_of_ble_eq_true rfl, Nat.le_of_ble_eq_true rfl⟩) (cg_preV C hw g1 rfl _) rfl rfl hl.1 rfl (lv_room (Nat.le_of_ble_eq_true rfl)) dX2_smith_1 ⟨show cc + (h2.1 - u.1) ≤ u9.1 - u.1 by omega, show ss + (h2.2.1 - u.2.1) ≤ u9.2.1 - u.2.1 by omega⟩) (fun H locs hw => ?_)
  exact hB4 h2 x0 x1 r3 _ _ _ _ _ hm hw (by omega) (by omega) (lv_sub hl [0, 1] rfl)
