/-! walks of the component (printed by gen/walkc.py) -/
set_option maxRecDepth 100000
def m_J10_copyOfRangeByte_12 (f : Nat) (h : CH) (x0 : Nat) (x1 : Int32) (x3 : Int32) (y0 : Nat) : Option (Nat × CH) := bd (aN h 2 x0) fun n1 =>
    bd (m_J9_min f ((Int32.ofNat n1) - x1) x3) fun r2 =>
    bd (cpB h x0 x1 y0 (0 : Int32) r2) fun h3 =>
    some (y0, h3)
theorem mo_J10_copyOfRangeByte_12 {f : Nat} : ∀ (h : CH) (x0 : Nat) (x1 : Int32) (x3 : Int32) (y0 : Nat) (r : (Nat × CH)), m_J10_copyOfRangeByte_12 f h x0 x1 x3 y0 = some r → le2 h r.2 := by
  intro h x0 x1 x3 y0 r hm
  rw [m_J10_copyOfRangeByte_12] at hm
  obtain ⟨n1, en1, hm⟩ := bdE hm
  obtain ⟨r2, er2, hm⟩ := bdE hm
  obtain ⟨h3, eh3, hm⟩ := bdE hm
  have lh3 := cpB_le eh3
  cases hm
  exact (lh3.tr le2.rf)
def m_J10_copyOfRangeByte_5 (f : Nat) (h : CH) (x0 : Nat) (x1 : Int32) (x2 : Int32) : Option (Nat × CH) := nmv ((x2 - x1) : Int32) fun v1 =>
    gd (cntok v1) <|
    nmv (cn h (Int32.toNatClampNeg v1) (.inr (2, (Int32.toNatClampNeg v1), .inl (fun _ => 0)))) fun h2 =>
    nmv (h.1 : Nat) fun a4 =>
    m_J10_copyOfRangeByte_12 f h2 x0 x1 v1 a4
theorem mo_J10_copyOfRangeByte_5 {f : Nat} : ∀ (h : CH) (x0 : Nat) (x1 : Int32) (x2 : Int32) (r : (Nat × CH)), m_J10_copyOfRangeByte_5 f h x0 x1 x2 = some r → le2 h r.2 := by
  intro h x0 x1 x2 r hm
  rw [m_J10_copyOfRangeByte_5] at hm
  obtain ⟨v1, ev1, hm⟩ := nmE hm
  obtain ⟨g3, hm⟩ := gdE hm
  obtain ⟨h2, eh2, hm⟩ := nmE hm
  have lh2 := cn_le eh2
  obtain ⟨a4, ea4, hm⟩ := nmE hm
  exact (lh2.tr (mo_J10_copyOfRangeByte_12  h2 x0 x1 v1 a4 _ hm))
def m_J10_copyOfRangeByte (f : Nat) (u : CH) (x0 : Nat) (x1 : Int32) (x2 : Int32) : Option (Nat × CH) := bd (m_J10_checkLength f u x1 x2) fun h1 =>
    m_J10_copyOfRangeByte_5 f h1 x0 x1 x2
theorem mo_J10_copyOfRangeByte {f : Nat} {u : CH} {x0 : Nat} {x1 : Int32} {x2 : Int32} {r0 : Nat} {u9 : CH} (hm : m_J10_copyOfRangeByte f u x0 x1 x2 = some (r0, u9)) : le2 u u9 := by
  rw [m_J10_copyOfRangeByte] at hm
  obtain ⟨h1, eh1, hm⟩ := bdE hm
  have lh1 := mo_J10_checkLength eh1
  exact (lh1.tr (mo_J10_copyOfRangeByte_5  h1 x0 x1 x2 _ hm))
abbrev rm_J10_copyOfRangeByte (mc ms : Nat) : Room := { frames := 1, cells := mc, slots := ms, locals := 60 }
theorem cw_J10_copyOfRangeByte {R : Room} {s : State} {args : Array Value} {own : String} {idx mc ms : Nat} (hts : ∀ w ∈ lw_all, w.before args s = true) (hl : Cond.methodLink own idx yJ10_copyOfRangeByte ∈ lw_all) (hR : 1 + 1 ≤ R.frames ∧ 8 + (5 + 11) + 60 ≤ R.locals) : CallB R s args own idx yJ10_copyOfRangeByte cJ10_copyOfRangeByte 5 (Option.some (Jvm.ClassFile.FieldType.array Jvm.ClassFile.FieldType.byte)) (ws_ yJ10_copyOfRangeByte cJ10_copyOfRangeByte 5 (Option.some (Jvm.ClassFile.FieldType.array Jvm.ClassFile.FieldType.byte))) (rm_J10_copyOfRangeByte mc ms) mc ms 3 ∧ (Cond.static yJ10_copyOfRangeByte).before args s = true := va_cwS 3 hts (lw_S hl q521 q135 q522) rfl rfl rfl (by decide +kernel) hR
set_option maxHeartbeats 4000000 in
set_option maxRecDepth 100000 in
theorem w_J10_copyOfRangeByte (l : Launch) {D : va_G} {dA : Nat → ClassId} {A : Nat → Prop} {f : Nat} {u u9 : CH} {r0 : Nat} {x0 : Nat} {x1 : Int32} {x2 : Int32} (hm : m_J10_copyOfRangeByte f u x0 x1 x2 = some (r0, u9)) : Met l yJ10_copyOfRangeByte (ws_ yJ10_copyOfRangeByte cJ10_copyOfRangeByte 5 (Option.some (Jvm.ClassFile.FieldType.array Jvm.ClassFile.FieldType.byte))) (rm_J10_copyOfRangeByte (u9.1 - u.1) (u9.2.1 - u.2.1)) (va_Pc [.ref x0, .int x1, .int x2] (CPre D dA A u)) (va_Qr (fun u => u = u9) (fun u r t => r = r0 ∧ CPost D dA A u t) A) (u9.1 - u.1) (u9.2.1 - u.2.1) A := by
  refine metOfWF (cc := cJ10_copyOfRangeByte) (maxL := 5) (ret := (Option.some (Jvm.ClassFile.FieldType.array Jvm.ClassFile.FieldType.byte))) (by decide +kernel) rfl ?_
  intro p e s m args below meth c s₁ B hml hv
  have hx := B.exec
  have hb := B.bytes
  have hr := B.returns
  have hts := atoms_spec (ws := (ws_ yJ10_copyOfRangeByte cJ10_copyOfRangeByte 5 (Option.some (Jvm.ClassFile.FieldType.array Jvm.ClassFile.FieldType.byte)))) B.pre
  have hts : ∀ w ∈ lw_all, w.before args s = true := fun w h => hts w (List.mem_cons_of_mem _ h)
  have hown : s.vm.findClass RJ10 = some m.cls := findClass_of_methodNamed B.named
  have hlocks := B.notSynchronized
  obtain ⟨hav, hv⟩ := hv
  have C : CX p s m args c cJ10_copyOfRangeByte RJ10 D dA := ⟨hx, hb, hown, hts, hv.2⟩
  have hw : CW D dA A s u s.heap [] := hv.1
  generalize hQ : MQ below (va_Qr (fun u => u = u9) (fun u r t => r = r0 ∧ CPost D dA A u t) A) args s (u9.1 - u.1) (u9.2.1 - u.2.1) A = QQ
  have hent := lg_entry_eq m [.ref x0, .int x1, .int x2] 5
  rw [← hav] at hent
  rw [hent]
  have hl := lv_entry ([.ref x0, .int x1, .int x2]) (n := 5) (Nat.le_of_ble_eq_true rfl)
  generalize (lg_sl ([.ref x0, .int x1, .int x2]) ++ List.replicate (5 - (lg_sl ([.ref x0, .int x1, .int x2])).length) Slot.unset).toArray = ls at hl ⊢
  have hl : lv_has ls 5 [(0, .ref x0), (1, .int x1), (2, .int x2)] := hl
  obtain ⟨cc, ecc⟩ : ∃ z : Nat, z = 0 := ⟨0, rfl⟩
  obtain ⟨ss, ess⟩ : ∃ z : Nat, z = 0 := ⟨0, rfl⟩
  have hcc : cc + u.1 = u.1 := by omega
  have hss : ss + u.2.1 = u.2.1 := by omega
  suffices hgo : W p l e (rm_J10_copyOfRangeByte (u9.1 - u.1) (u9.2.1 - u.2.1)) s m args below meth c s.heap [] cc ss QQ (F0 m 0 ls []) by rw [ecc, ess] at hgo; exact hgo
  have ⟨pu, qu, _, _⟩ := mo_J10_copyOfRangeByte hm
  have hB12 : ∀ (h : CH) (x0 : Nat) (x1 : Int32) (x3 : Int32) (y0 : Nat) (cc ss : Nat) (H : Heap) (locs : List Loc) (ls : Array Slot), m_J10_copyOfRangeByte_12 f h x0 x1 x3 y0 = some (r0, u9) → CW D dA A s h H locs → cc + u.1 = h.1 → ss + u.2.1 = h.2.1 → lv_has ls 5 [(0, .ref x0), (1, .int x1), (3, .int x3)] → W p l e (rm_J10_copyOfRangeByte (u9.1 - u.1) (u9.2.1 - u.2.1)) s m args below meth c H locs cc ss QQ (F0 m 12 ls [.ref y0]) := by
    intro h x0 x1 x3 y0 cc ss H locs ls hm hw hcc hss hl
    have hmo := mo_J10_copyOfRangeByte_12  h x0 x1 x3 y0 _ hm
    have sb_ : h.1 ≤ u9.1 := hmo.1
    have tb_ : h.2.1 ≤ u9.2.1 := hmo.2.1
    rw [m_J10_copyOfRangeByte_12] at hm
    refine lv_astore (lv' := [(4, .ref y0), (0, .ref x0), (1, .int x1), (3, .int x3)]) hx hb dJ10_copyOfRangeByte_12 hl (by decide) rfl (fun ls hl => ?_)
    refine lv_aload_n hx hb dJ10_copyOfRangeByte_14 rfl (lv_at hl 1 rfl) ?_
    refine lv_iload_n hx hb dJ10_copyOfRangeByte_15 rfl (lv_at hl 2 rfl) ?_
    refine lv_aload hx hb dJ10_copyOfRangeByte_16 (lv_at hl 0 rfl) ?_
    refine lv_iconst (v := 0) hx hb dJ10_copyOfRangeByte_18 (by decide) ?_
    refine lv_aload_n hx hb dJ10_copyOfRangeByte_19 rfl (lv_at hl 1 rfl) ?_
    obtain ⟨n1, en1, hm⟩ := bdE hm
    refine cg_alen C hw (ty := .byte) rfl en1 dJ10_copyOfRangeByte_20 ?_
    refine lv_iload_n hx hb dJ10_copyOfRangeByte_21 rfl (lv_at hl 2 rfl) ?_
    refine lv_isub hx hb dJ10_copyOfRangeByte_22 ?_
    refine lv_iload_n hx hb dJ10_copyOfRangeByte_23 rfl (lv_at hl 3 rfl) ?_
    obtain ⟨r2, er2, hm⟩ := bdE hm
    refine sci (va_runS (As := [.int ((Int32.ofNat n1) - x1), .int x3]) (rest := [.int (0 : Int32), .ref y0, .int x1, .ref x0]) ⟨hx, hb, hml, hown, hts⟩ (w_J9_min l er2) (cw_J9_min hts q431 ⟨Nat.le_of_ble_eq_true rfl, Nat.le_of_ble_eq_true rfl⟩) (pre_s _) rfl rfl hl.1 rfl (lv_room (Nat.le_of_ble_eq_true rfl)) dJ10_copyOfRangeByte_24 ⟨show cc + 0 ≤ u9.1 - u.1 by omega, show ss + 0 ≤ u9.2.1 - u.2.1 by omega⟩) ?_
    obtain ⟨h3, eh3, hm⟩ := bdE hm
    refine cg_copyB C hw (hml.trans hl.1.symm) q434 q436 q435 q136 eh3 (Nat.le_of_ble_eq_true rfl) (Nat.le_of_ble_eq_true rfl) dJ10_copyOfRangeByte_27 (fun H locs hw => ?_)
    have zh3 := cpB_sz eh3
    refine lv_aload hx hb dJ10_copyOfRangeByte_30 (lv_at hl 0 rfl) ?_
    obtain ⟨er, eh⟩ := retE hm
    have ec : cc = u9.1 - u.1 := by rw [← eh]; omega
    have es : ss = u9.2.1 - u.2.1 := by rw [← eh]; omega
    rw [ec, es, ← hQ]
    exact W.aret (v := .ref y0) hx hb hr (Or.inr ⟨_, rfl⟩) (Or.inr ⟨_, rfl⟩) (fun t ht hW => ⟨⟨h3, y0, rfl, eh, er, ⟨by rw [ht]; exact hw.1, by rw [ht]; exact hw.2.1⟩⟩, hw.2.2.1.F ht⟩) hw.2.2.1.2.2 dJ10_copyOfRangeByte_32
  have hB5 : ∀ (h : CH) (x0 : Nat) (x1 : Int32) (x2 : Int32) (cc ss : Nat) (H : Heap) (locs : List Loc) (ls : Array Slot), m_J10_copyOfRangeByte_5 f h x0 x1 x2 = some (r0, u9) → CW D dA A s h H locs → cc + u.1 = h.1 → ss + u.2.1 = h.2.1 → lv_has ls 5 [(0, .ref x0), (1, .int x1), (2, .int x2)] → W p l e (rm_J10_copyOfRangeByte (u9.1 - u.1) (u9.2.1 - u.2.1)) s m args below meth c H locs cc ss QQ (F0 m 5 ls []) := by
    intro h x0 x1 x2 cc ss H locs ls hm hw hcc hss hl
    have hmo := mo_J10_copyOfRangeByte_5  h x0 x1 x2 _ hm
    have sb_ : h.1 ≤ u9.1 := hmo.1
    have tb_ : h.2.1 ≤ u9.2.1 := hmo.2.1
    rw [m_J10_copyOfRangeByte_5] at hm
    refine lv_iload_n hx hb dJ10_copyOfRangeByte_5 rfl (lv_at hl 2 rfl) ?_
    refine lv_iload_n hx hb dJ10_copyOfRangeByte_6 rfl (lv_at hl 1 rfl) ?_
    refine lv_isub hx hb dJ10_copyOfRangeByte_7 ?_
    refine lv_topi (fun v1 ev1 => ?_)
    have hm := nmK hm ev1
    refine lv_istore_n (lv' := [(3, .int v1), (0, .ref x0), (1, .int x1), (2, .int x2)]) hx hb dJ10_copyOfRangeByte_8 rfl hl (by decide) rfl (fun ls hl => ?_)
    refine lv_iload_n hx hb dJ10_copyOfRangeByte_9 rfl (lv_at hl 0 rfl) ?_
    obtain ⟨g3, hm⟩ := gdE hm
    obtain ⟨h2, eh2, hm⟩ := nmE hm
    obtain ⟨_, _, hmq⟩ := nmE hm
    have hmo := mo_J10_copyOfRangeByte_12   h2 x0 x1 v1 _ _ hmq
    have sh2 : h2.1 ≤ u9.1 := hmo.1
    have th2 : h2.2.1 ≤ u9.2.1 := hmo.2.1
    have zh2 := cn_sz eh2
    refine cg_newB (C0 := C) hw (N := (Int32.toNatClampNeg v1)) (cntok_nn g3) rfl (cntok_le g3) (show cc + 1 ≤ u9.1 - u.1 by omega) (show ss + (Int32.toNatClampNeg v1) ≤ u9.2.1 - u.2.1 by omega) dJ10_copyOfRangeByte_10 (fun H hw => ?_)
    rw [← eh2] at hw
    refine lv_topr (fun a4 ea4 => ?_)
    have hm := nmK hm ea4
    exact hB12 h2 x0 x1 v1 a4 _ _ _ _ _ hm hw (by omega) (by omega) (lv_sub hl [1, 2, 0] rfl)
  rw [m_J10_copyOfRangeByte] at hm
  refine lv_iload_n hx hb dJ10_copyOfRangeByte_0 rfl (lv_at hl 1 rfl) ?_
  refine lv_iload_n hx hb dJ10_copyOfRangeByte_1 rfl (lv_at hl 2 rfl) ?_
  obtain ⟨h1, eh1, hm⟩ := bdE hm
  have lh1 := mo_J10_checkLength eh1
  have ph1 : u.1 ≤ h1.1 := lh1.1
  have qh1 : u.2.1 ≤ h1.2.1 := lh1.2.1
  have hmo := mo_J10_copyOfRangeByte_5   h1 x0 x1 x2 _ hm
  have sh1 : h1.1 ≤ u9.1 := hmo.1
  have th1 : h1.2.1 ≤ u9.2.1 := hmo.2.1
  refine cg_callv hw lh1 (va_runS (As := [.int x1, .int x2]) (rest := []) ⟨hx, hb, hml, hown, hts⟩ (w_J10_checkLength l eh1) (cw_J10_checkLength hts q523 ⟨Nat.le_of_ble_eq_true rfl, Nat.le_of_ble_eq_true rfl⟩) (cg_preS C hw _) rfl rfl hl.1 rfl (lv_room (Nat.le_of_ble_eq_true rfl)) dJ10_copyOfRangeByte_2 ⟨show cc + (h1.1 - u.1) ≤ u9.1 - u.1 by omega, show ss + (h1.2.1 - u.2.1) ≤ u9.2.1 - u.2.1 by omega⟩) (fun H locs hw => ?_)
  exact hB5 h1 x0 x1 x2 _ _ _ _ _ hm hw (by omega) (by omega) (lv_sub hl [0, 1, 2] rfl)
def m_J10_copyOfRange_16 (f : Nat) (h : CH) (y0 : Nat) : Option (Nat × CH) := some (y0, h)
theorem mo_J10_copyOfRange_16 {f : Nat} : ∀ (h : CH) (y0 : Nat) (r : (Nat × CH)), m_J10_copyOfRange_16 f h y0 = some r → le2 h r.2 := by
  intro h y0 r hm
  rw [m_J10_copyOfRange_16] at hm
  cases hm
  exact le2.rf
def m_J10_copyOfRange_10 (f : Nat) (h : CH) (x0 : Nat) (x1 : Int32) (x2 : Int32) : Option (Nat × CH) := bd2 (m_J10_copyOfRangeByte f h x0 x1 x2) fun a2 h1 =>
    m_J10_copyOfRange_16 f h1 a2
theorem mo_J10_copyOfRange_10 {f : Nat} : ∀ (h : CH) (x0 : Nat) (x1 : Int32) (x2 : Int32) (r : (Nat × CH)), m_J10_copyOfRange_10 f h x0 x1 x2 = some r → le2 h r.2 := by
  intro h x0 x1 x2 r hm
  rw [m_J10_copyOfRange_10] at hm
  obtain ⟨a2, h1, ea2, hm⟩ := bd2E hm
  have lh1 := mo_J10_copyOfRangeByte ea2
  exact (lh1.tr (mo_J10_copyOfRange_16  h1 a2 _ hm))
def m_J10_copyOfRange_21 (f : Nat) (h : CH) (y0 : Nat) : Option (Nat × CH) := gd (isA2 h y0) <|
    some (y0, h)
theorem mo_J10_copyOfRange_21 {f : Nat} : ∀ (h : CH) (y0 : Nat) (r : (Nat × CH)), m_J10_copyOfRange_21 f h y0 = some r → le2 h r.2 := by
  intro h y0 r hm
  rw [m_J10_copyOfRange_21] at hm
  obtain ⟨g1, hm⟩ := gdE hm
  cases hm
  exact le2.rf
def m_J10_copyOfRange (f : Nat) (u : CH) (x0 : Nat) (x1 : Int32) (x2 : Int32) : Option (Nat × CH) := if ¬ x1 = 0 then
    m_J10_copyOfRange_10 f u x0 x1 x2
    else bd (aN u 2 x0) fun n2 =>
    if x2 = (Int32.ofNat n2) then
    bd (clB u x0) fun h4 =>
    nmv (u.1 : Nat) fun a5 =>
    m_J10_copyOfRange_21 f h4 a5
    else m_J10_copyOfRange_10 f u x0 x1 x2
theorem mo_J10_copyOfRange {f : Nat} {u : CH} {x0 : Nat} {x1 : Int32} {x2 : Int32} {r0 : Nat} {u9 : CH} (hm : m_J10_copyOfRange f u x0 x1 x2 = some (r0, u9)) : le2 u u9 := by
  rw [m_J10_copyOfRange] at hm
  by_cases c1 : ¬ x1 = 0
  · have hm := ifT hm c1
    exact (mo_J10_copyOfRange_10  u x0 x1 x2 _ hm)
  · have hm := ifF hm c1
    obtain ⟨n2, en2, hm⟩ := bdE hm
    by_cases c3 : x2 = (Int32.ofNat n2)
    · have hm := ifT hm c3
      obtain ⟨h4, eh4, hm⟩ := bdE hm
      have lh4 := clB_le eh4
      obtain ⟨a5, ea5, hm⟩ := nmE hm
      exact (lh4.tr (mo_J10_copyOfRange_21  h4 a5 _ hm))
    · have hm := ifF hm c3
      exact (mo_J10_copyOfRange_10  u x0 x1 x2 _ hm)
abbrev rm_J10_copyOfRange (mc ms : Nat) : Room := { frames := 2, cells := mc, slots := ms, locals := 84 }
theorem cw_J10_copyOfRange {R : Room} {s : State} {args : Array Value} {own : String} {idx mc ms : Nat} (hts : ∀ w ∈ lw_all, w.before args s = true) (hl : Cond.methodLink own idx yJ10_copyOfRange ∈ lw_all) (hR : 2 + 1 ≤ R.frames ∧ 8 + (3 + 11) + 84 ≤ R.locals) : CallB R s args own idx yJ10_copyOfRange cJ10_copyOfRange 3 (Option.some (Jvm.ClassFile.FieldType.array Jvm.ClassFile.FieldType.byte)) (ws_ yJ10_copyOfRange cJ10_copyOfRange 3 (Option.some (Jvm.ClassFile.FieldType.array Jvm.ClassFile.FieldType.byte))) (rm_J10_copyOfRange mc ms) mc ms 3 ∧ (Cond.static yJ10_copyOfRange).before args s = true := va_cwS 3 hts (lw_S hl q518 q135 q519) rfl rfl rfl (by decide +kernel) hR
set_option maxHeartbeats 4000000 in
set_option maxRecDepth 100000 in
theorem w_J10_copyOfRange (l : Launch) {D : va_G} {dA : Nat → ClassId} {A : Nat → Prop} {f : Nat} {u u9 : CH} {r0 : Nat} {x0 : Nat} {x1 : Int32} {x2 : Int32} (hm : m_J10_copyOfRange f u x0 x1 x2 = some (r0, u9)) : Met l yJ10_copyOfRange (ws_ yJ10_copyOfRange cJ10_copyOfRange 3 (Option.some (Jvm.ClassFile.FieldType.array Jvm.ClassFile.FieldType.byte))) (rm_J10_copyOfRange (u9.1 - u.1) (u9.2.1 - u.2.1)) (va_Pc [.ref x0, .int x1, .int x2] (CPre D dA A u)) (va_Qr (fun u => u = u9) (fun u r t => r = r0 ∧ CPost D dA A u t) A) (u9.1 - u.1) (u9.2.1 - u.2.1) A := by
  refine metOfWF (cc := cJ10_copyOfRange) (maxL := 3) (ret := (Option.some (Jvm.ClassFile.FieldType.array Jvm.ClassFile.FieldType.byte))) (by decide +kernel) rfl ?_
  intro p e s m args below meth c s₁ B hml hv
  have hx := B.exec
  have hb := B.bytes
  have hr := B.returns
  have hts := atoms_spec (ws := (ws_ yJ10_copyOfRange cJ10_copyOfRange 3 (Option.some (Jvm.ClassFile.FieldType.array Jvm.ClassFile.FieldType.byte)))) B.pre
  have hts : ∀ w ∈ lw_all, w.before args s = true := fun w h => hts w (List.mem_cons_of_mem _ h)
  have hown : s.vm.findClass RJ10 = some m.cls := findClass_of_methodNamed B.named
  have hlocks := B.notSynchronized
  obtain ⟨hav, hv⟩ := hv
  have C : CX p s m args c cJ10_copyOfRange RJ10 D dA := ⟨hx, hb, hown, hts, hv.2⟩
  have hw : CW D dA A s u s.heap [] := hv.1
  generalize hQ : MQ below (va_Qr (fun u => u = u9) (fun u r t => r = r0 ∧ CPost D dA A u t) A) args s (u9.1 - u.1) (u9.2.1 - u.2.1) A = QQ
  have hent := lg_entry_eq m [.ref x0, .int x1, .int x2] 3
  rw [← hav] at hent
  rw [hent]
  have hl := lv_entry ([.ref x0, .int x1, .int x2]) (n := 3) (Nat.le_of_ble_eq_true rfl)
  generalize (lg_sl ([.ref x0, .int x1, .int x2]) ++ List.replicate (3 - (lg_sl ([.ref x0, .int x1, .int x2])).length) Slot.unset).toArray = ls at hl ⊢
  have hl : lv_has ls 3 [(0, .ref x0), (1, .int x1), (2, .int x2)] := hl
  obtain ⟨cc, ecc⟩ : ∃ z : Nat, z = 0 := ⟨0, rfl⟩
  obtain ⟨ss, ess⟩ : ∃ z : Nat, z = 0 := ⟨0, rfl⟩
  have hcc : cc + u.1 = u.1 := by omega
  have hss : ss + u.2.1 = u.2.1 := by omega
  suffices hgo : W p l e (rm_J10_copyOfRange (u9.1 - u.1) (u9.2.1 - u.2.1)) s m args below meth c s.heap [] cc ss QQ (F0 m 0 ls []) by rw [ecc, ess] at hgo; exact hgo
  have ⟨pu, qu, _, _⟩ := mo_J10_copyOfRange hm
  have hB16 : ∀ (h : CH) (y0 : Nat) (cc ss : Nat) (H : Heap) (locs : List Loc) (ls : Array Slot), m_J10_copyOfRange_16 f h y0 = some (r0, u9) → CW D dA A s h H locs → cc + u.1 = h.1 → ss + u.2.1 = h.2.1 → lv_has ls 3 [] → W p l e (rm_J10_copyOfRange (u9.1 - u.1) (u9.2.1 - u.2.1)) s m args below meth c H locs cc ss QQ (F0 m 16 ls [.ref y0]) := by
    intro h y0 cc ss H locs ls hm hw hcc hss hl
    have hmo := mo_J10_copyOfRange_16  h y0 _ hm
    have sb_ : h.1 ≤ u9.1 := hmo.1
    have tb_ : h.2.1 ≤ u9.2.1 := hmo.2.1
    rw [m_J10_copyOfRange_16] at hm
    obtain ⟨er, eh⟩ := retE hm
    have ec : cc = u9.1 - u.1 := by rw [← eh]; omega
    have es : ss = u9.2.1 - u.2.1 := by rw [← eh]; omega
    rw [ec, es, ← hQ]
    exact W.aret (v := .ref y0) hx hb hr (Or.inr ⟨_, rfl⟩) (Or.inr ⟨_, rfl⟩) (fun t ht hW => ⟨⟨h, y0, rfl, eh, er, ⟨by rw [ht]; exact hw.1, by rw [ht]; exact hw.2.1⟩⟩, hw.2.2.1.F ht⟩) hw.2.2.1.2.2 dJ10_copyOfRange_16
  have hB10 : ∀ (h : CH) (x0 : Nat) (x1 : Int32) (x2 : Int32) (cc ss : Nat) (H : Heap) (locs : List Loc) (ls : Array Slot), m_J10_copyOfRange_10 f h x0 x1 x2 = some (r0, u9) → CW D dA A s h H locs → cc + u.1 = h.1 → ss + u.2.1 = h.2.1 → lv_has ls 3 [(0, .ref x0), (1, .int x1), (2, .int x2)] → W p l e (rm_J10_copyOfRange (u9.1 - u.1) (u9.2.1 - u.2.1)) s m args below meth c H locs cc ss QQ (F0 m 10 ls []) := by
    intro h x0 x1 x2 cc ss H locs ls hm hw hcc hss hl
    have hmo := mo_J10_copyOfRange_10  h x0 x1 x2 _ hm
    have sb_ : h.1 ≤ u9.1 := hmo.1
    have tb_ : h.2.1 ≤ u9.2.1 := hmo.2.1
    rw [m_J10_copyOfRange_10] at hm
    refine lv_aload_n hx hb dJ10_copyOfRange_10 rfl (lv_at hl 0 rfl) ?_
    refine lv_iload_n hx hb dJ10_copyOfRange_11 rfl (lv_at hl 1 rfl) ?_
    refine lv_iload_n hx hb dJ10_copyOfRange_12 rfl (lv_at hl 2 rfl) ?_
    obtain ⟨a2, h1, ea2, hm⟩ := bd2E hm
    have lh1 := mo_J10_copyOfRangeByte ea2
    have ph1 : h.1 ≤ h1.1 := lh1.1
    have qh1 : h.2.1 ≤ h1.2.1 := lh1.2.1
    have hmo := mo_J10_copyOfRange_16   h1 a2 _ hm
    have sh1 : h1.1 ≤ u9.1 := hmo.1
    have th1 : h1.2.1 ≤ u9.2.1 := hmo.2.1
    refine cg_callr hw lh1 (va_runS (As := [.ref x0, .int x1, .int x2]) (rest := []) ⟨hx, hb, hml, hown, hts⟩ (w_J10_copyOfRangeByte l ea2) (cw_J10_copyOfRangeByte hts q520 ⟨Nat.le_of_ble_eq_true rfl, Nat.le_of_ble_eq_true rfl⟩) (cg_preS C hw _) rfl rfl hl.1 rfl (lv_room (Nat.le_of_ble_eq_true rfl)) dJ10_copyOfRange_13 ⟨show cc + (h1.1 - h.1) ≤ u9.1 - u.1 by omega, show ss + (h1.2.1 - h.2.1) ≤ u9.2.1 - u.2.1 by omega⟩) (fun H locs hw => ?_)
    exact hB16 h1 a2 _ _ _ _ _ hm hw (by omega) (by omega) (lv_sub hl [] rfl)
  have hB21 : ∀ (h : CH) (y0 : Nat) (cc ss : Nat) (H : Heap) (locs : List Loc) (ls : Array Slot), m_J10_copyOfRange_21 f h y0 = some (r0, u9) → CW D dA A s h H locs → cc + u.1 = h.1 → ss + u.2.1 = h.2.1 → lv_has ls 3 [] → W p l e (rm_J10_copyOfRange (u9.1 - u.1) (u9.2.1 - u.2.1)) s m args below meth c H locs cc ss QQ (F0 m 21 ls [.ref y0]) := by
    intro h y0 cc ss H locs ls hm hw hcc hss hl
    have hmo := mo_J10_copyOfRange_21  h y0 _ hm
    have sb_ : h.1 ≤ u9.1 := hmo.1
    have tb_ : h.2.1 ≤ u9.2.1 := hmo.2.1
    rw [m_J10_copyOfRange_21] at hm
    obtain ⟨g1, hm⟩ := gdE hm
    refine cg_cast2 C hw g1 q430 dJ10_copyOfRange_21 ?_
    obtain ⟨er, eh⟩ := retE hm
    have ec : cc = u9.1 - u.1 := by rw [← eh]; omega
    have es : ss = u9.2.1 - u.2.1 := by rw [← eh]; omega
    rw [ec, es, ← hQ]
    exact W.aret (v := .ref y0) hx hb hr (Or.inr ⟨_, rfl⟩) (Or.inr ⟨_, rfl⟩) (fun t ht hW => ⟨⟨h, y0, rfl, eh, er, ⟨by rw [ht]; exact hw.1, by rw [ht]; exact hw.2.1⟩⟩, hw.2.2.1.F ht⟩) hw.2.2.1.2.2 dJ10_copyOfRange_24
  rw [m_J10_copyOfRange] at hm
  refine lv_iload_n hx hb dJ10_copyOfRange_0 rfl (lv_at hl 1 rfl) ?_
  refine lv_if_ne (tgt := 10) hx hb dJ10_copyOfRange_1 (by decide) (fun c1 => ?_) (fun c1 => ?_)
  · have hm := ifT hm c1
    exact hB10 u x0 x1 x2 _ _ _ _ _ hm hw (by omega) (by omega) (lv_sub hl [0, 1, 2] rfl)
  · have hm := ifT' hm c1
    refine lv_iload_n hx hb dJ10_copyOfRange_4 rfl (lv_at hl 2 rfl) ?_
    refine lv_aload_n hx hb dJ10_copyOfRange_5 rfl (lv_at hl 0 rfl) ?_
    obtain ⟨n2, en2, hm⟩ := bdE hm
    refine cg_alen C hw (ty := .byte) rfl en2 dJ10_copyOfRange_6 ?_
    refine lv_icmp_eq (tgt := 17) hx hb dJ10_copyOfRange_7 (by decide) (fun c3 => ?_) (fun c3 => ?_)
    · have hm := ifT hm c3
      refine lv_aload_n hx hb dJ10_copyOfRange_17 rfl (lv_at hl 0 rfl) ?_
      obtain ⟨h4, eh4, hm⟩ := bdE hm
      obtain ⟨_, _, hmq⟩ := nmE hm
      have hmo := mo_J10_copyOfRange_21   h4 _ _ hmq
      have sh4 : h4.1 ≤ u9.1 := hmo.1
      have th4 : h4.2.1 ≤ u9.2.1 := hmo.2.1
      have zh4 := clB_sz eh4
      refine cg_cloneB C hw (hml.trans hl.1.symm) eh4 q424 q425 q426 q427 q428 (hw.2.2.2.2.1 _ (List.mem_of_getElem? (i := 83) rfl)) (Nat.le_of_ble_eq_true rfl) (Nat.le_of_ble_eq_true rfl) (show cc + 1 ≤ u9.1 - u.1 by omega) (show ss + (h4.2.1 - u.2.1) ≤ u9.2.1 - u.2.1 by omega) dJ10_copyOfRange_18 (fun H hw => ?_)
      refine lv_topr (fun a5 ea5 => ?_)
      have hm := nmK hm ea5
      exact hB21 h4 a5 _ _ _ _ _ hm hw (by omega) (by omega) (lv_sub hl [] rfl)
    · have hm := ifF hm c3
      exact hB10 u x0 x1 x2 _ _ _ _ _ hm hw (by omega) (by omega) (lv_sub hl [0, 1, 2] rfl)
def m_J4_isLatin1_J5_18 (f : Nat) (h : CH) (y0 : Int32) : Option (Int32 × CH) := gd (zb y0) <|
    some (y0, h)
theorem mo_J4_isLatin1_J5_18 {f : Nat} : ∀ (h : CH) (y0 : Int32) (r : (Int32 × CH)), m_J4_isLatin1_J5_18 f h y0 = some r → le2 h r.2 := by
  intro h y0 r hm
  rw [m_J4_isLatin1_J5_18] at hm
  obtain ⟨g1, hm⟩ := gdE hm
  cases hm
  exact le2.rf
def m_J4_isLatin1_J5_17 (f : Nat) (h : CH) : Option (Int32 × CH) := m_J4_isLatin1_J5_18 f h (0 : Int32)
theorem mo_J4_isLatin1_J5_17 {f : Nat} : ∀ (h : CH) (r : (Int32 × CH)), m_J4_isLatin1_J5_17 f h = some r → le2 h r.2 := by
  intro h r hm
  rw [m_J4_isLatin1_J5_17] at hm
  exact (mo_J4_isLatin1_J5_18  h (0 : Int32) _ hm)
def m_J4_isLatin1_J5 (f : Nat) (u : CH) (x0 : Nat) : Option (Int32 × CH) := if (1 : Int32) = 0 then
    m_J4_isLatin1_J5_17 f u
    else bd (oI u 18 1 x0) fun v2 =>
    if ¬ v2 = 0 then
    m_J4_isLatin1_J5_17 f u
    else m_J4_isLatin1_J5_18 f u (1 : Int32)
theorem mo_J4_isLatin1_J5 {f : Nat} {u : CH} {x0 : Nat} {r0 : Int32} {u9 : CH} (hm : m_J4_isLatin1_J5 f u x0 = some (r0, u9)) : le2 u u9 := by
  rw [m_J4_isLatin1_J5] at hm
  by_cases c1 : (1 : Int32) = 0
  · have hm := ifT hm c1
    exact (mo_J4_isLatin1_J5_17  u _ hm)
  · have hm := ifF hm c1
    obtain ⟨v2, ev2, hm⟩ := bdE hm
    by_cases c3 : ¬ v2 = 0
    · have hm := ifT hm c3
      exact (mo_J4_isLatin1_J5_17  u _ hm)
    · have hm := ifF hm c3
      exact (mo_J4_isLatin1_J5_18  u (1 : Int32) _ hm)
abbrev rm_J4_isLatin1_J5 (mc ms : Nat) : Room := { frames := 0, cells := mc, slots := ms, locals := 0 }
set_option maxHeartbeats 4000000 in
set_option maxRecDepth 100000 in
theorem w_J4_isLatin1_J5 (l : Launch) {D : va_G} {dA : Nat → ClassId} {A : Nat → Prop} {f : Nat} {u u9 : CH} {r0 : Int32} {x0 : Nat} (hm : m_J4_isLatin1_J5 f u x0 = some (r0, u9)) : Met l yJ4_isLatin1 (ws_ yJ4_isLatin1 cJ4_isLatin1 1 (Option.some Jvm.ClassFile.FieldType.boolean)) (rm_J4_isLatin1_J5 (u9.1 - u.1) (u9.2.1 - u.2.1)) (va_Pc [.ref x0] (CPre D dA A u)) (va_Qi (fun r u => r = r0 ∧ u = u9) (CPost D dA A) A) (u9.1 - u.1) (u9.2.1 - u.2.1) A := by
  refine metOfWF (cc := cJ4_isLatin1) (maxL := 1) (ret := (Option.some Jvm.ClassFile.FieldType.boolean)) (by decide +kernel) rfl ?_
  intro p e s m args below meth c s₁ B hml hv
  have hx := B.exec
  have hb := B.bytes
  have hr := B.returns
  have hts := atoms_spec (ws := (ws_ yJ4_isLatin1 cJ4_isLatin1 1 (Option.some Jvm.ClassFile.FieldType.boolean))) B.pre
  have hts : ∀ w ∈ lw_all, w.before args s = true := fun w h => hts w (List.mem_cons_of_mem _ h)
  have hown : s.vm.findClass RJ4 = some m.cls := findClass_of_methodNamed B.named
  have hlocks := B.notSynchronized
  obtain ⟨hav, hv⟩ := hv
  have C : CX p s m args c cJ4_isLatin1 RJ4 D dA := ⟨hx, hb, hown, hts, hv.2⟩
  have hw : CW D dA A s u s.heap [] := hv.1
  generalize hQ : MQ below (va_Qi (fun r u => r = r0 ∧ u = u9) (CPost D dA A) A) args s (u9.1 - u.1) (u9.2.1 - u.2.1) A = QQ
  have hent := lg_entry_eq m [.ref x0] 1
  rw [← hav] at hent
  rw [hent]
  have hl := lv_entry ([.ref x0]) (n := 1) (Nat.le_of_ble_eq_true rfl)
  generalize (lg_sl ([.ref x0]) ++ List.replicate (1 - (lg_sl ([.ref x0])).length) Slot.unset).toArray = ls at hl ⊢
  have hl : lv_has ls 1 [(0, .ref x0)] := hl
  obtain ⟨cc, ecc⟩ : ∃ z : Nat, z = 0 := ⟨0, rfl⟩
  obtain ⟨ss, ess⟩ : ∃ z : Nat, z = 0 := ⟨0, rfl⟩
  have hcc : cc + u.1 = u.1 := by omega
  have hss : ss + u.2.1 = u.2.1 := by omega
  suffices hgo : W p l e (rm_J4_isLatin1_J5 (u9.1 - u.1) (u9.2.1 - u.2.1)) s m args below meth c s.heap [] cc ss QQ (F0 m 0 ls []) by rw [ecc, ess] at hgo; exact hgo
  have ⟨pu, qu, _, _⟩ := mo_J4_isLatin1_J5 hm
  have hB18 : ∀ (h : CH) (y0 : Int32) (cc ss : Nat) (H : Heap) (locs : List Loc) (ls : Array Slot), m_J4_isLatin1_J5_18 f h y0 = some (r0, u9) → CW D dA A s h H locs → cc + u.1 = h.1 → ss + u.2.1 = h.2.1 → lv_has ls 1 [] → W p l e (rm_J4_isLatin1_J5 (u9.1 - u.1) (u9.2.1 - u.2.1)) s m args below meth c H locs cc ss QQ (F0 m 18 ls [.int y0]) := by
    intro h y0 cc ss H locs ls hm hw hcc hss hl
    have hmo := mo_J4_isLatin1_J5_18  h y0 _ hm
    have sb_ : h.1 ≤ u9.1 := hmo.1
    have tb_ : h.2.1 ≤ u9.2.1 := hmo.2.1
    rw [m_J4_isLatin1_J5_18] at hm
    obtain ⟨g1, hm⟩ := gdE hm
    obtain ⟨er, eh⟩ := retE hm
    have ec : cc = u9.1 - u.1 := by rw [← eh]; omega
    have es : ss = u9.2.1 - u.2.1 := by rw [← eh]; omega
    rw [ec, es, ← hQ]
    exact W.zret (v := y0) hx hb hr (zb_nar g1) (fun t ht hW => ⟨⟨y0, h, rfl, ⟨er, eh⟩, ⟨by rw [ht]; exact hw.1, by rw [ht]; exact hw.2.1⟩⟩, hw.2.2.1.F ht⟩) hw.2.2.1.2.2 dJ4_isLatin1_18
  have hB17 : ∀ (h : CH) (cc ss : Nat) (H : Heap) (locs : List Loc) (ls : Array Slot), m_J4_isLatin1_J5_17 f h = some (r0, u9) → CW D dA A s h H locs → cc + u.1 = h.1 → ss + u.2.1 = h.2.1 → lv_has ls 1 [] → W p l e (rm_J4_isLatin1_J5 (u9.1 - u.1) (u9.2.1 - u.2.1)) s m args below meth c H locs cc ss QQ (F0 m 17 ls []) := by
    intro h cc ss H locs ls hm hw hcc hss hl
    have hmo := mo_J4_isLatin1_J5_17  h _ hm
    have sb_ : h.1 ≤ u9.1 := hmo.1
    have tb_ : h.2.1 ≤ u9.2.1 := hmo.2.1
    rw [m_J4_isLatin1_J5_17] at hm
    refine lv_iconst (v := 0) hx hb dJ4_isLatin1_17 (by decide) ?_
    exact hB18 h (0 : Int32) _ _ _ _ _ hm hw (by omega) (by omega) (lv_sub hl [] rfl)
  rw [m_J4_isLatin1_J5] at hm
  refine cg_getsI C hw (i := 0) rfl q373 dJ4_isLatin1_0 ?_
  refine lv_if_eq (tgt := 17) hx hb dJ4_isLatin1_3 (by decide) (fun c1 => ?_) (fun c1 => ?_)
  · have hm := ifT hm c1
    exact hB17 u _ _ _ _ _ hm hw (by omega) (by omega) (lv_sub hl [] rfl)
  · have hm := ifF hm c1
    refine lv_aload_n hx hb dJ4_isLatin1_6 rfl (lv_at hl 0 rfl) ?_
    obtain ⟨v2, ev2, hm⟩ := bdE hm
    refine cg_get C hw (oI_E ev2) rfl in_J5 (by decide) q383 dJ4_isLatin1_7 ?_
    refine lv_if_ne (tgt := 17) hx hb dJ4_isLatin1_10 (by decide) (fun c3 => ?_) (fun c3 => ?_)
    · have hm := ifT hm c3
      exact hB17 u _ _ _ _ _ hm hw (by omega) (by omega) (lv_sub hl [] rfl)
    · have hm := ifT' hm c3
      refine lv_iconst (v := 1) hx hb dJ4_isLatin1_13 (by decide) ?_
      refine lv_goto (tgt := 18) hx hb dJ4_isLatin1_14 (by decide) ?_
      exact hB18 u (1 : Int32) _ _ _ _ _ hm hw (by omega) (by omega) (lv_sub hl [] rfl)
def m_J4_length_J5 (f : Nat) (u : CH) (x0 : Nat) : Option (Int32 × CH) := bd (oI u 18 3 x0) fun v1 =>
    some (v1, u)
theorem mo_J4_length_J5 {f : Nat} {u : CH} {x0 : Nat} {r0 : Int32} {u9 : CH} (hm : m_J4_length_J5 f u x0 = some (r0, u9)) : le2 u u9 := by
  rw [m_J4_length_J5] at hm
  obtain ⟨v1, ev1, hm⟩ := bdE hm
  cases hm
  exact le2.rf
abbrev rm_J4_length_J5 (mc ms : Nat) : Room := { frames := 0, cells := mc, slots := ms, locals := 0 }
set_option maxHeartbeats 4000000 in
set_option maxRecDepth 100000 in
theorem w_J4_length_J5 (l : Launch) {D : va_G} {dA : Nat → ClassId} {A : Nat → Prop} {f : Nat} {u u9 : CH} {r0 : Int32} {x0 : Nat} (hm : m_J4_length_J5 f u x0 = some (r0, u9)) : Met l yJ4_length (ws_ yJ4_length cJ4_length 1 (Option.some Jvm.ClassFile.FieldType.int)) (rm_J4_length_J5 (u9.1 - u.1) (u9.2.1 - u.2.1)) (va_Pc [.ref x0] (CPre D dA A u)) (va_Qi (fun r u => r = r0 ∧ u = u9) (CPost D dA A) A) (u9.1 - u.1) (u9.2.1 - u.2.1) A := by
  refine metOfWF (cc := cJ4_length) (maxL := 1) (ret := (Option.some Jvm.ClassFile.FieldType.int)) (by decide +kernel) rfl ?_
  intro p e s m args below meth c s₁ B hml hv
  have hx := B.exec
  have hb := B.bytes
  have hr := B.returns
  have hts := atoms_spec (ws := (ws_ yJ4_length cJ4_length 1 (Option.some Jvm.ClassFile.FieldType.int))) B.pre
  have hts : ∀ w ∈ lw_all, w.before args s = true := fun w h => hts w (List.mem_cons_of_mem _ h)
  have hown : s.vm.findClass RJ4 = some m.cls := findClass_of_methodNamed B.named
  have hlocks := B.notSynchronized
  obtain ⟨hav, hv⟩ := hv
  have C : CX p s m args c cJ4_length RJ4 D dA := ⟨hx, hb, hown, hts, hv.2⟩
  have hw : CW D dA A s u s.heap [] := hv.1
  generalize hQ : MQ below (va_Qi (fun r u => r = r0 ∧ u = u9) (CPost D dA A) A) args s (u9.1 - u.1) (u9.2.1 - u.2.1) A = QQ
  have hent := lg_entry_eq m [.ref x0] 1
  rw [← hav] at hent
  rw [hent]
  have hl := lv_entry ([.ref x0]) (n := 1) (Nat.le_of_ble_eq_true rfl)
  generalize (lg_sl ([.ref x0]) ++ List.replicate (1 - (lg_sl ([.ref x0])).length) Slot.unset).toArray = ls at hl ⊢
  have hl : lv_has ls 1 [(0, .ref x0)] := hl
  obtain ⟨cc, ecc⟩ : ∃ z : Nat, z = 0 := ⟨0, rfl⟩
  obtain ⟨ss, ess⟩ : ∃ z : Nat, z = 0 := ⟨0, rfl⟩
  have hcc : cc + u.1 = u.1 := by omega
  have hss : ss + u.2.1 = u.2.1 := by omega
  suffices hgo : W p l e (rm_J4_length_J5 (u9.1 - u.1) (u9.2.1 - u.2.1)) s m args below meth c s.heap [] cc ss QQ (F0 m 0 ls []) by rw [ecc, ess] at hgo; exact hgo
  have ⟨pu, qu, _, _⟩ := mo_J4_length_J5 hm
  rw [m_J4_length_J5] at hm
  refine lv_aload_n hx hb dJ4_length_0 rfl (lv_at hl 0 rfl) ?_
  obtain ⟨v1, ev1, hm⟩ := bdE hm
  refine cg_get C hw (oI_E ev1) rfl in_J5 (by decide) q385 dJ4_length_1 ?_
  obtain ⟨er, eh⟩ := retE hm
  have ec : cc = u9.1 - u.1 := by rw [← eh]; omega
  have es : ss = u9.2.1 - u.2.1 := by rw [← eh]; omega
  rw [ec, es, ← hQ]
  exact W.iret (v := v1) hx hb hr (fun t ht hW => ⟨⟨v1, u, rfl, ⟨er, eh⟩, ⟨by rw [ht]; exact hw.1, by rw [ht]; exact hw.2.1⟩⟩, hw.2.2.1.F ht⟩) hw.2.2.1.2.2 dJ4_length_4
def m_J5_length_4 (f : Nat) (h : CH) (y0 : Int32) : Option (Int32 × CH) := some (y0, h)
theorem mo_J5_length_4 {f : Nat} : ∀ (h : CH) (y0 : Int32) (r : (Int32 × CH)), m_J5_length_4 f h y0 = some r → le2 h r.2 := by
  intro h y0 r hm
  rw [m_J5_length_4] at hm
  cases hm
  exact le2.rf
def m_J5_length (f : Nat) (u : CH) (x0 : Nat) : Option (Int32 × CH) := gd (isC u x0 18) <|
    bd2 (m_J4_length_J5 f u x0) fun r2 h1 =>
    m_J5_length_4 f h1 r2
theorem mo_J5_length {f : Nat} {u : CH} {x0 : Nat} {r0 : Int32} {u9 : CH} (hm : m_J5_length f u x0 = some (r0, u9)) : le2 u u9 := by
  rw [m_J5_length] at hm
  obtain ⟨g3, hm⟩ := gdE hm
  obtain ⟨r2, h1, er2, hm⟩ := bd2E hm
  have lh1 := mo_J4_length_J5 er2
  exact (lh1.tr (mo_J5_length_4  h1 r2 _ hm))
abbrev rm_J5_length (mc ms : Nat) : Room := { frames := 1, cells := mc, slots := ms, locals := 20 }
set_option maxHeartbeats 4000000 in
set_option maxRecDepth 100000 in
theorem w_J5_length (l : Launch) {D : va_G} {dA : Nat → ClassId} {A : Nat → Prop} {f : Nat} {u u9 : CH} {r0 : Int32} {x0 : Nat} (hm : m_J5_length f u x0 = some (r0, u9)) : Met l yJ5_length (ws_ yJ5_length cJ5_length 1 (Option.some Jvm.ClassFile.FieldType.int)) (rm_J5_length (u9.1 - u.1) (u9.2.1 - u.2.1)) (va_Pc [.ref x0] (CPre D dA A u)) (va_Qi (fun r u => r = r0 ∧ u = u9) (CPost D dA A) A) (u9.1 - u.1) (u9.2.1 - u.2.1) A := by
  refine metOfWF (cc := cJ5_length) (maxL := 1) (ret := (Option.some Jvm.ClassFile.FieldType.int)) (by decide +kernel) rfl ?_
  intro p e s m args below meth c s₁ B hml hv
  have hx := B.exec
  have hb := B.bytes
  have hr := B.returns
  have hts := atoms_spec (ws := (ws_ yJ5_length cJ5_length 1 (Option.some Jvm.ClassFile.FieldType.int))) B.pre
  have hts : ∀ w ∈ lw_all, w.before args s = true := fun w h => hts w (List.mem_cons_of_mem _ h)
  have hown : s.vm.findClass RJ5 = some m.cls := findClass_of_methodNamed B.named
  have hlocks := B.notSynchronized
  obtain ⟨hav, hv⟩ := hv
  have C : CX p s m args c cJ5_length RJ5 D dA := ⟨hx, hb, hown, hts, hv.2⟩
  have hw : CW D dA A s u s.heap [] := hv.1
  generalize hQ : MQ below (va_Qi (fun r u => r = r0 ∧ u = u9) (CPost D dA A) A) args s (u9.1 - u.1) (u9.2.1 - u.2.1) A = QQ
  have hent := lg_entry_eq m [.ref x0] 1
  rw [← hav] at hent
  rw [hent]
  have hl := lv_entry ([.ref x0]) (n := 1) (Nat.le_of_ble_eq_true rfl)
  generalize (lg_sl ([.ref x0]) ++ List.replicate (1 - (lg_sl ([.ref x0])).length) Slot.unset).toArray = ls at hl ⊢
  have hl : lv_has ls 1 [(0, .ref x0)] := hl
  obtain ⟨cc, ecc⟩ : ∃ z : Nat, z = 0 := ⟨0, rfl⟩
  obtain ⟨ss, ess⟩ : ∃ z : Nat, z = 0 := ⟨0, rfl⟩
  have hcc : cc + u.1 = u.1 := by omega
  have hss : ss + u.2.1 = u.2.1 := by omega
  suffices hgo : W p l e (rm_J5_length (u9.1 - u.1) (u9.2.1 - u.2.1)) s m args below meth c s.heap [] cc ss QQ (F0 m 0 ls []) by rw [ecc, ess] at hgo; exact hgo
  have ⟨pu, qu, _, _⟩ := mo_J5_length hm
  have hB4 : ∀ (h : CH) (y0 : Int32) (cc ss : Nat) (H : Heap) (locs : List Loc) (ls : Array Slot), m_J5_length_4 f h y0 = some (r0, u9) → CW D dA A s h H locs → cc + u.1 = h.1 → ss + u.2.1 = h.2.1 → lv_has ls 1 [] → W p l e (rm_J5_length (u9.1 - u.1) (u9.2.1 - u.2.1)) s m args below meth c H locs cc ss QQ (F0 m 4 ls [.int y0]) := by
    intro h y0 cc ss H locs ls hm hw hcc hss hl
    have hmo := mo_J5_length_4  h y0 _ hm
    have sb_ : h.1 ≤ u9.1 := hmo.1
    have tb_ : h.2.1 ≤ u9.2.1 := hmo.2.1
    rw [m_J5_length_4] at hm
    obtain ⟨er, eh⟩ := retE hm
    have ec : cc = u9.1 - u.1 := by rw [← eh]; omega
    have es : ss = u9.2.1 - u.2.1 := by rw [← eh]; omega
    rw [ec, es, ← hQ]
    exact W.iret (v := y0) hx hb hr (fun t ht hW => ⟨⟨y0, h, rfl, ⟨er, eh⟩, ⟨by rw [ht]; exact hw.1, by rw [ht]; exact hw.2.1⟩⟩, hw.2.2.1.F ht⟩) hw.2.2.1.2.2 dJ5_length_4
  rw [m_J5_length] at hm
  refine lv_aload_n hx hb dJ5_length_0 rfl (lv_at hl 0 rfl) ?_
  obtain ⟨g3, hm⟩ := gdE hm
  obtain ⟨r2, h1, er2, hm⟩ := bd2E hm
  have lh1 := mo_J4_length_J5 er2
  have ph1 : u.1 ≤ h1.1 := lh1.1
  have qh1 : u.2.1 ≤ h1.2.1 := lh1.2.1
  have hmo := mo_J5_length_4   h1 r2 _ hm
  have sh1 : h1.1 ≤ u9.1 := hmo.1
  have th1 : h1.2.1 ≤ u9.2.1 := hmo.2.1
  refine cg_calli hw lh1 (va_runSU (C.2.2.2.2.1 18 _ rfl).2 (As := []) (rest := []) ⟨hx, hb, hml, hown, hts⟩ (w_J4_length_J5 l er2) (va_cwSU 0 hts (lwSU q514 q510 q394 q509 q129 q515) rfl rfl rfl (by decide +kernel) ⟨Nat.le_of_ble_eq_true rfl, Nat.le_of_ble_eq_true rfl⟩) (cg_preV C hw g3 rfl _) rfl rfl hl.1 rfl (lv_room (Nat.le_of_ble_eq_true rfl)) dJ5_length_1 ⟨show cc + (h1.1 - u.1) ≤ u9.1 - u.1 by omega, show ss + (h1.2.1 - u.2.1) ≤ u9.2.1 - u.2.1 by omega⟩) (fun H locs hw => ?_)
  exact hB4 h1 r2 _ _ _ _ _ hm hw (by omega) (by omega) (lv_sub hl [] rfl)
def m_J4_getValue_J5 (f : Nat) (u : CH) (x0 : Nat) : Option (Nat × CH) := bd (oR u 18 0 x0) fun a1 =>
    some (a1, u)
theorem mo_J4_getValue_J5 {f : Nat} {u : CH} {x0 : Nat} {r0 : Nat} {u9 : CH} (hm : m_J4_getValue_J5 f u x0 = some (r0, u9)) : le2 u u9 := by
  rw [m_J4_getValue_J5] at hm
  obtain ⟨a1, ea1, hm⟩ := bdE hm
  cases hm
  exact le2.rf
abbrev rm_J4_getValue_J5 (mc ms : Nat) : Room := { frames := 0, cells := mc, slots := ms, locals := 0 }
set_option maxHeartbeats 4000000 in
set_option maxRecDepth 100000 in
theorem w_J4_getValue_J5 (l : Launch) {D : va_G} {dA : Nat → ClassId} {A : Nat → Prop} {f : Nat} {u u9 : CH} {r0 : Nat} {x0 : Nat} (hm : m_J4_getValue_J5 f u x0 = some (r0, u9)) : Met l yJ4_getValue (ws_ yJ4_getValue cJ4_getValue 1 (Option.some (Jvm.ClassFile.FieldType.array Jvm.ClassFile.FieldType.byte))) (rm_J4_getValue_J5 (u9.1 - u.1) (u9.2.1 - u.2.1)) (va_Pc [.ref x0] (CPre D dA A u)) (va_Qr (fun u => u = u9) (fun u r t => r = r0 ∧ CPost D dA A u t) A) (u9.1 - u.1) (u9.2.1 - u.2.1) A := by
  refine metOfWF (cc := cJ4_getValue) (maxL := 1) (ret := (Option.some (Jvm.ClassFile.FieldType.array Jvm.ClassFile.FieldType.byte))) (by decide +kernel) rfl ?_
  intro p e s m args below meth c s₁ B hml hv
  have hx := B.exec
  have hb := B.bytes
  have hr := B.returns
  have hts := atoms_spec (ws := (ws_ yJ4_getValue cJ4_getValue 1 (Option.some (Jvm.ClassFile.FieldType.array Jvm.ClassFile.FieldType.byte)))) B.pre
  have hts : ∀ w ∈ lw_all, w.before args s = true := fun w h => hts w (List.mem_cons_of_mem _ h)
  have hown : s.vm.findClass RJ4 = some m.cls := findClass_of_methodNamed B.named
  have hlocks := B.notSynchronized
  obtain ⟨hav, hv⟩ := hv
  have C : CX p s m args c cJ4_getValue RJ4 D dA := ⟨hx, hb, hown, hts, hv.2⟩
  have hw : CW D dA A s u s.heap [] := hv.1
  generalize hQ : MQ below (va_Qr (fun u => u = u9) (fun u r t => r = r0 ∧ CPost D dA A u t) A) args s (u9.1 - u.1) (u9.2.1 - u.2.1) A = QQ
  have hent := lg_entry_eq m [.ref x0] 1
  rw [← hav] at hent
  rw [hent]
  have hl := lv_entry ([.ref x0]) (n := 1) (Nat.le_of_ble_eq_true rfl)
  generalize (lg_sl ([.ref x0]) ++ List.replicate (1 - (lg_sl ([.ref x0])).length) Slot.unset).toArray = ls at hl ⊢
  have hl : lv_has ls 1 [(0, .ref x0)] := hl
  obtain ⟨cc, ecc⟩ : ∃ z : Nat, z = 0 := ⟨0, rfl⟩
  obtain ⟨ss, ess⟩ : ∃ z : Nat, z = 0 := ⟨0, rfl⟩
  have hcc : cc + u.1 = u.1 := by omega
  have hss : ss + u.2.1 = u.2.1 := by omega
  suffices hgo : W p l e (rm_J4_getValue_J5 (u9.1 - u.1) (u9.2.1 - u.2.1)) s m args below meth c s.heap [] cc ss QQ (F0 m 0 ls []) by rw [ecc, ess] at hgo; exact hgo
  have ⟨pu, qu, _, _⟩ := mo_J4_getValue_J5 hm
  rw [m_J4_getValue_J5] at hm
  refine lv_aload_n hx hb dJ4_getValue_0 rfl (lv_at hl 0 rfl) ?_
  obtain ⟨a1, ea1, hm⟩ := bdE hm
  refine cg_get C hw (oR_E ea1) rfl in_J5 (by decide) q382 dJ4_getValue_1 ?_
  obtain ⟨er, eh⟩ := retE hm
  have ec : cc = u9.1 - u.1 := by rw [← eh]; omega
  have es : ss = u9.2.1 - u.2.1 := by rw [← eh]; omega
  rw [ec, es, ← hQ]
  exact W.aret (v := .ref a1) hx hb hr (Or.inr ⟨_, rfl⟩) (Or.inr ⟨_, rfl⟩) (fun t ht hW => ⟨⟨u, a1, rfl, eh, er, ⟨by rw [ht]; exact hw.1, by rw [ht]; exact hw.2.1⟩⟩, hw.2.2.1.F ht⟩) hw.2.2.1.2.2 dJ4_getValue_4
def m_J6_init_2_97 (f : Nat) (h : CH) : Option CH := some h
theorem mo_J6_init_2_97 {f : Nat} : ∀ (h : CH) (r : CH), m_J6_init_2_97 f h = some r → le2 h r := by
  intro h r hm
  rw [m_J6_init_2_97] at hm
  cases hm
  exact le2.rf
def m_J6_init_2_94 (f : Nat) (h : CH) (y0 : Nat) (y1 : Nat) : Option CH := bd (pF h 19 0 y0 (.ref y1)) fun h1 =>
    m_J6_init_2_97 f h1
theorem mo_J6_init_2_94 {f : Nat} : ∀ (h : CH) (y0 : Nat) (y1 : Nat) (r : CH), m_J6_init_2_94 f h y0 y1 = some r → le2 h r := by
  intro h y0 y1 r hm
  rw [m_J6_init_2_94] at hm
  obtain ⟨h1, eh1, hm⟩ := bdE hm
  have lh1 := pF_le eh1
  exact (lh1.tr (mo_J6_init_2_97  h1 _ hm))
def m_J6_init_2_79 (f : Nat) (h : CH) (x0 : Nat) (x3 : Nat) (x4 : Int32) : Option CH := bd (pF h 19 1 x0 (.int (1 : Int32))) fun h1 =>
    bd2 (m_J10_copyOfRange f h1 x3 (0 : Int32) (x4 <<< ((1 : Int32) &&& 31))) fun a3 h2 =>
    m_J6_init_2_94 f h2 x0 a3
theorem mo_J6_init_2_79 {f : Nat} : ∀ (h : CH) (x0 : Nat) (x3 : Nat) (x4 : Int32) (r : CH), m_J6_init_2_79 f h x0 x3 x4 = some r → le2 h r := by
  intro h x0 x3 x4 r hm
  rw [m_J6_init_2_79] at hm
  obtain ⟨h1, eh1, hm⟩ := bdE hm
  have lh1 := pF_le eh1
  obtain ⟨a3, h2, ea3, hm⟩ := bd2E hm
  have lh2 := mo_J10_copyOfRange ea3
  exact (lh1.tr (lh2.tr (mo_J6_init_2_94  h2 x0 a3 _ hm)))
def m_J6_init_2_35 (f : Nat) (h : CH) (y0 : Nat) (y1 : Nat) : Option CH := bd (pF h 19 0 y0 (.ref y1)) fun h1 =>
    m_J6_init_2_97 f h1
theorem mo_J6_init_2_35 {f : Nat} : ∀ (h : CH) (y0 : Nat) (y1 : Nat) (r : CH), m_J6_init_2_35 f h y0 y1 = some r → le2 h r := by
  intro h y0 y1 r hm
  rw [m_J6_init_2_35] at hm
  obtain ⟨h1, eh1, hm⟩ := bdE hm
  have lh1 := pF_le eh1
  exact (lh1.tr (mo_J6_init_2_97  h1 _ hm))
def m_J6_init_2_19 (f : Nat) (h : CH) (x0 : Nat) (x1 : Nat) (x3 : Nat) (x4 : Int32) (y0 : Int32) : Option CH := if y0 = 0 then
    if (1 : Int32) = 0 then
    m_J6_init_2_79 f h x0 x3 x4
    else bd (oI h 18 2 x1) fun v3 =>
    if v3 = 0 then
    m_J6_init_2_79 f h x0 x3 x4
    else none
    else bd (pF h 19 1 x0 (.int (0 : Int32))) fun h5 =>
    bd2 (m_J10_copyOfRange f h5 x3 (0 : Int32) x4) fun a7 h6 =>
    m_J6_init_2_35 f h6 x0 a7
theorem mo_J6_init_2_19 {f : Nat} : ∀ (h : CH) (x0 : Nat) (x1 : Nat) (x3 : Nat) (x4 : Int32) (y0 : Int32) (r : CH), m_J6_init_2_19 f h x0 x1 x3 x4 y0 = some r → le2 h r := by
  intro h x0 x1 x3 x4 y0 r hm
  rw [m_J6_init_2_19] at hm
  by_cases c1 : y0 = 0
  · have hm := ifT hm c1
    by_cases c2 : (1 : Int32) = 0
    · have hm := ifT hm c2
      exact (mo_J6_init_2_79  h x0 x3 x4 _ hm)
    · have hm := ifF hm c2
      obtain ⟨v3, ev3, hm⟩ := bdE hm
      by_cases c4 : v3 = 0
      · have hm := ifT hm c4
        exact (mo_J6_init_2_79  h x0 x3 x4 _ hm)
      · have hm := ifF hm c4
        exact noE hm
  · have hm := ifF hm c1
    obtain ⟨h5, eh5, hm⟩ := bdE hm
    have lh5 := pF_le eh5
    obtain ⟨a7, h6, ea7, hm⟩ := bd2E hm
    have lh6 := mo_J10_copyOfRange ea7
    exact (lh5.tr (lh6.tr (mo_J6_init_2_35  h6 x0 a7 _ hm)))
def m_J6_init_2_13 (f : Nat) (h : CH) (x0 : Nat) (x1 : Nat) (x3 : Nat) (y0 : Int32) : Option CH := gd (isC h x1 18) <|
    bd2 (m_J4_isLatin1_J5 f h x1) fun r3 h2 =>
    m_J6_init_2_19 f h2 x0 x1 x3 y0 r3
theorem mo_J6_init_2_13 {f : Nat} : ∀ (h : CH) (x0 : Nat) (x1 : Nat) (x3 : Nat) (y0 : Int32) (r : CH), m_J6_init_2_13 f h x0 x1 x3 y0 = some r → le2 h r := by
  intro h x0 x1 x3 y0 r hm
  rw [m_J6_init_2_13] at hm
  obtain ⟨g1, hm⟩ := gdE hm
  obtain ⟨r3, h2, er3, hm⟩ := bd2E hm
  have lh2 := mo_J4_isLatin1_J5 er3
  exact (lh2.tr (mo_J6_init_2_19  h2 x0 x1 x3 y0 r3 _ hm))
def m_J6_init_2_8 (f : Nat) (h : CH) (x0 : Nat) (x1 : Nat) (y0 : Nat) : Option CH := gd (isC h x1 18) <|
    bd2 (m_J5_length f h x1) fun r3 h2 =>
    m_J6_init_2_13 f h2 x0 x1 y0 r3
theorem mo_J6_init_2_8 {f : Nat} : ∀ (h : CH) (x0 : Nat) (x1 : Nat) (y0 : Nat) (r : CH), m_J6_init_2_8 f h x0 x1 y0 = some r → le2 h r := by
  intro h x0 x1 y0 r hm
  rw [m_J6_init_2_8] at hm
  obtain ⟨g1, hm⟩ := gdE hm
  obtain ⟨r3, h2, er3, hm⟩ := bd2E hm
  have lh2 := mo_J5_length er3
  exact (lh2.tr (mo_J6_init_2_13  h2 x0 x1 y0 r3 _ hm))
def m_J6_init_2 (f : Nat) (u : CH) (x0 : Nat) (x1 : Nat) (x2 : Nat) : Option CH := gd (isC u x1 18) <|
    bd2 (m_J4_getValue_J5 f u x1) fun a3 h2 =>
    m_J6_init_2_8 f h2 x0 x1 a3
theorem mo_J6_init_2 {f : Nat} {u : CH} {x0 : Nat} {x1 : Nat} {x2 : Nat} {u9 : CH} (hm : m_J6_init_2 f u x0 x1 x2 = some u9) : le2 u u9 := by
  rw [m_J6_init_2] at hm
  obtain ⟨g1, hm⟩ := gdE hm
  obtain ⟨a3, h2, ea3, hm⟩ := bd2E hm
  have lh2 := mo_J4_getValue_J5 ea3
  exact (lh2.tr (mo_J6_init_2_8  h2 x0 x1 a3 _ hm))
abbrev rm_J6_init_2 (mc ms : Nat) : Room := { frames := 3, cells := mc, slots := ms, locals := 106 }
theorem cw_J6_init_2 {R : Room} {s : State} {args : Array Value} {own : String} {idx mc ms : Nat} (hts : ∀ w ∈ lw_all, w.before args s = true) (hl : Cond.methodLink own idx yJ6_init_2 ∈ lw_all) (hR : 3 + 1 ≤ R.frames ∧ 8 + (5 + 11) + 106 ≤ R.locals) : CallB R s args own idx yJ6_init_2 cJ6_init_2 5 none (ws_ yJ6_init_2 cJ6_init_2 5 (Option.none : Option Jvm.ClassFile.FieldType)) (rm_J6_init_2 mc ms) mc ms 2 ∧ yJ6_init_2.name = "<init>" ∧ (Cond.instanceMethod yJ6_init_2).before args s = true := cwI 2 hts (lw_meth q501) rfl rfl rfl (hts _ q131) (hts _ hl) (hts _ q500) rfl (by decide +kernel) hR
set_option maxHeartbeats 4000000 in
set_option maxRecDepth 100000 in
theorem w_J6_init_2 (l : Launch) {D : va_G} {dA : Nat → ClassId} {A : Nat → Prop} {f : Nat} {u u9 : CH} {x0 : Nat} {x1 : Nat} {x2 : Nat} (hm : m_J6_init_2 f u x0 x1 x2 = some u9) : Met l yJ6_init_2 (ws_ yJ6_init_2 cJ6_init_2 5 (Option.none : Option Jvm.ClassFile.FieldType)) (rm_J6_init_2 (u9.1 - u.1) (u9.2.1 - u.2.1)) (va_Pc [.ref x0, .ref x1, .ref x2] (CPre D dA A u)) (va_Qv (fun u => u = u9) (CPost D dA A) A) (u9.1 - u.1) (u9.2.1 - u.2.1) A := by
  refine metOfWF (cc := cJ6_init_2) (maxL := 5) (ret := (Option.none : Option Jvm.ClassFile.FieldType)) (by decide +kernel) rfl ?_
  intro p e s m args below meth c s₁ B hml hv
  have hx := B.exec
  have hb := B.bytes
  have hr := B.returns
  have hts := atoms_spec (ws := (ws_ yJ6_init_2 cJ6_init_2 5 (Option.none : Option Jvm.ClassFile.FieldType))) B.pre
  have hts : ∀ w ∈ lw_all, w.before args s = true := fun w h => hts w (List.mem_cons_of_mem _ h)
  have hown : s.vm.findClass RJ6 = some m.cls := findClass_of_methodNamed B.named
  have hlocks := B.notSynchronized
  have hin : meth.name = "<init>" := (name_of_methodNamed B.named B.method).1
  obtain ⟨hav, hv⟩ := hv
  have C : CX p s m args c cJ6_init_2 RJ6 D dA := ⟨hx, hb, hown, hts, hv.2⟩
  have hw : CW D dA A s u s.heap [] := hv.1
  generalize hQ : MQ below (va_Qv (fun u => u = u9) (CPost D dA A) A) args s (u9.1 - u.1) (u9.2.1 - u.2.1) A = QQ
  have hent := lg_entry_eq m [.ref x0, .ref x1, .ref x2] 5
  rw [← hav] at hent
  rw [hent]
  have hl := lv_entry ([.ref x0, .ref x1, .ref x2]) (n := 5) (Nat.le_of_ble_eq_true rfl)
  generalize (lg_sl ([.ref x0, .ref x1, .ref x2]) ++ List.replicate (5 - (lg_sl ([.ref x0, .ref x1, .ref x2])).length) Slot.unset).toArray = ls at hl ⊢
  have hl : lv_has ls 5 [(0, .ref x0), (1, .ref x1), (2, .ref x2)] := hl
  obtain ⟨cc, ecc⟩ : ∃ z : Nat, z = 0 := ⟨0, rfl⟩
  obtain ⟨ss, ess⟩ : ∃ z : Nat, z = 0 := ⟨0, rfl⟩
  have hcc : cc + u.1 = u.1 := by omega
  have hss : ss + u.2.1 = u.2.1 := by omega
  suffices hgo : W p l e (rm_J6_init_2 (u9.1 - u.1) (u9.2.1 - u.2.1)) s m args below meth c s.heap [] cc ss QQ (F0 m 0 ls []) by rw [ecc, ess] at hgo; exact hgo
  have ⟨pu, qu, _, _⟩ := mo_J6_init_2 hm
  have hB97 : ∀ (h : CH) (cc ss : Nat) (H : Heap) (locs : List Loc) (ls : Array Slot), m_J6_init_2_97 f h = some u9 → CW D dA A s h H locs → cc + u.1 = h.1 → ss + u.2.1 = h.2.1 → lv_has ls 5 [] → W p l e (rm_J6_init_2 (u9.1 - u.1) (u9.2.1 - u.2.1)) s m args below meth c H locs cc ss QQ (F0 m 97 ls []) := by
    intro h cc ss H locs ls hm hw hcc hss hl
    have hmo := mo_J6_init_2_97  h _ hm
    have sb_ : h.1 ≤ u9.1 := hmo.1
    have tb_ : h.2.1 ≤ u9.2.1 := hmo.2.1
    rw [m_J6_init_2_97] at hm
    have eh := ret1 hm
    have ec : cc = u9.1 - u.1 := by rw [← eh]; omega
    have es : ss = u9.2.1 - u.2.1 := by rw [← eh]; omega
    rw [ec, es, ← hQ]
    exact W.vret hx hb hr (fun t ht hW => ⟨⟨h, rfl, eh, ⟨by rw [ht]; exact hw.1, by rw [ht]; exact hw.2.1⟩⟩, hw.2.2.1.F ht⟩) hw.2.2.1.2.2 dJ6_init_2_97
  have hB94 : ∀ (h : CH) (y0 : Nat) (y1 : Nat) (cc ss : Nat) (H : Heap) (locs : List Loc) (ls : Array Slot), m_J6_init_2_94 f h y0 y1 = some u9 → CW D dA A s h H locs → cc + u.1 = h.1 → ss + u.2.1 = h.2.1 → lv_has ls 5 [] → W p l e (rm_J6_init_2 (u9.1 - u.1) (u9.2.1 - u.2.1)) s m args below meth c H locs cc ss QQ (F0 m 94 ls [.ref y1, .ref y0]) := by
    intro h y0 y1 cc ss H locs ls hm hw hcc hss hl
    have hmo := mo_J6_init_2_94  h y0 y1 _ hm
    have sb_ : h.1 ≤ u9.1 := hmo.1
    have tb_ : h.2.1 ≤ u9.2.1 := hmo.2.1
    rw [m_J6_init_2_94] at hm
    obtain ⟨h1, eh1, hm⟩ := bdE hm
    refine cg_putF C hw eh1 rfl in_J6 tyJ6 tyJ6_ok nmJ6 (by decide) q540 rfl hin rfl rfl rfl dJ6_init_2_94 (fun H locs hw => ?_)
    have zh1 := pF_sz eh1
    exact hB97 h1 _ _ _ _ _ hm hw (by omega) (by omega) (lv_sub hl [] rfl)
  have hB79 : ∀ (h : CH) (x0 : Nat) (x3 : Nat) (x4 : Int32) (cc ss : Nat) (H : Heap) (locs : List Loc) (ls : Array Slot), m_J6_init_2_79 f h x0 x3 x4 = some u9 → CW D dA A s h H locs → cc + u.1 = h.1 → ss + u.2.1 = h.2.1 → lv_has ls 5 [(0, .ref x0), (3, .ref x3), (4, .int x4)] → W p l e (rm_J6_init_2 (u9.1 - u.1) (u9.2.1 - u.2.1)) s m args below meth c H locs cc ss QQ (F0 m 79 ls []) := by
    intro h x0 x3 x4 cc ss H locs ls hm hw hcc hss hl
    have hmo := mo_J6_init_2_79  h x0 x3 x4 _ hm
    have sb_ : h.1 ≤ u9.1 := hmo.1
    have tb_ : h.2.1 ≤ u9.2.1 := hmo.2.1
    rw [m_J6_init_2_79] at hm
    refine lv_aload_n hx hb dJ6_init_2_79 rfl (lv_at hl 0 rfl) ?_
    refine lv_iconst (v := 1) hx hb dJ6_init_2_80 (by decide) ?_
    obtain ⟨h1, eh1, hm⟩ := bdE hm
    refine cg_putF C hw eh1 rfl in_J6 tyJ6 tyJ6_ok nmJ6 (by decide) q541 rfl hin rfl rfl rfl dJ6_init_2_81 (fun H locs hw => ?_)
    have zh1 := pF_sz eh1
    refine lv_aload_n hx hb dJ6_init_2_84 rfl (lv_at hl 0 rfl) ?_
    refine lv_aload_n hx hb dJ6_init_2_85 rfl (lv_at hl 1 rfl) ?_
    refine lv_iconst (v := 0) hx hb dJ6_init_2_86 (by decide) ?_
    refine lv_iload hx hb dJ6_init_2_87 (lv_at hl 2 rfl) ?_
    refine lv_iconst (v := 1) hx hb dJ6_init_2_89 (by decide) ?_
    refine lv_ishl hx hb dJ6_init_2_90 ?_
    obtain ⟨a3, h2, ea3, hm⟩ := bd2E hm
    have lh2 := mo_J10_copyOfRange ea3
    have ph2 : h1.1 ≤ h2.1 := lh2.1
    have qh2 : h1.2.1 ≤ h2.2.1 := lh2.2.1
    have hmo := mo_J6_init_2_94   h2 x0 a3 _ hm
    have sh2 : h2.1 ≤ u9.1 := hmo.1
    have th2 : h2.2.1 ≤ u9.2.1 := hmo.2.1
    refine cg_callr hw lh2 (va_runS (As := [.ref x3, .int (0 : Int32), .int (x4 <<< ((1 : Int32) &&& 31))]) (rest := [.ref x0]) ⟨hx, hb, hml, hown, hts⟩ (w_J10_copyOfRange l ea3) (cw_J10_copyOfRange hts q517 ⟨Nat.le_of_ble_eq_true rfl, Nat.le_of_ble_eq_true rfl⟩) (cg_preS C hw _) rfl rfl hl.1 rfl (lv_room (Nat.le_of_ble_eq_true rfl)) dJ6_init_2_91 ⟨show cc + (h2.1 - h1.1) ≤ u9.1 - u.1 by omega, show ss + (h2.2.1 - h1.2.1) ≤ u9.2.1 - u.2.1 by omega⟩) (fun H locs hw => ?_)
    exact hB94 h2 x0 a3 _ _ _ _ _ hm hw (by omega) (by omega) (lv_sub hl [] rfl)
  have hB35 : ∀ (h : CH) (y0 : Nat) (y1 : Nat) (cc ss : Nat) (H : Heap) (locs : List Loc) (ls : Array Slot), m_J6_init_2_35 f h y0 y1 = some u9 → CW D dA A s h H locs → cc + u.1 = h.1 → ss + u.2.1 = h.2.1 → lv_has ls 5 [] → W p l e (rm_J6_init_2 (u9.1 - u.1) (u9.2.1 - u.2.1)) s m args below meth c H locs cc ss QQ (F0 m 35 ls [.ref y1, .ref y0]) := by
    intro h y0 y1 cc ss H locs ls hm hw hcc hss hl
    have hmo := mo_J6_init_2_35  h y0 y1 _ hm
    have sb_ : h.1 ≤ u9.1 := hmo.1
    have tb_ : h.2.1 ≤ u9.2.1 := hmo.2.1
    rw [m_J6_init_2_35] at hm
    obtain ⟨h1, eh1, hm⟩ := bdE hm
    refine cg_putF C hw eh1 rfl in_J6 tyJ6 tyJ6_ok nmJ6 (by decide) q540 rfl hin rfl rfl rfl dJ6_init_2_35 (fun H locs hw => ?_)
    have zh1 := pF_sz eh1
    refine lv_goto (tgt := 97) hx hb dJ6_init_2_38 (by decide) ?_
    exact hB97 h1 _ _ _ _ _ hm hw (by omega) (by omega) (lv_sub hl [] rfl)
  have hB19 : ∀ (h : CH) (x0 : Nat) (x1 : Nat) (x3 : Nat) (x4 : Int32) (y0 : Int32) (cc ss : Nat) (H : Heap) (locs : List Loc) (ls : Array Slot), m_J6_init_2_19 f h x0 x1 x3 x4 y0 = some u9 → CW D dA A s h H locs → cc + u.1 = h.1 → ss + u.2.1 = h.2.1 → lv_has ls 5 [(0, .ref x0), (1, .ref x1), (3, .ref x3), (4, .int x4)] → W p l e (rm_J6_init_2 (u9.1 - u.1) (u9.2.1 - u.2.1)) s m args below meth c H locs cc ss QQ (F0 m 19 ls [.int y0]) := by
    intro h x0 x1 x3 x4 y0 cc ss H locs ls hm hw hcc hss hl
    have hmo := mo_J6_init_2_19  h x0 x1 x3 x4 y0 _ hm
    have sb_ : h.1 ≤ u9.1 := hmo.1
    have tb_ : h.2.1 ≤ u9.2.1 := hmo.2.1
    rw [m_J6_init_2_19] at hm
    refine lv_if_eq (tgt := 41) hx hb dJ6_init_2_19 (by decide) (fun c1 => ?_) (fun c1 => ?_)
    · have hm := ifT hm c1
      refine cg_getsI C hw (i := 0) rfl q526 dJ6_init_2_41 ?_
      refine lv_if_eq (tgt := 79) hx hb dJ6_init_2_44 (by decide) (fun c2 => ?_) (fun c2 => ?_)
      · have hm := ifT hm c2
        exact hB79 h x0 x3 x4 _ _ _ _ _ hm hw (by omega) (by omega) (lv_sub hl [0, 2, 3] rfl)
      · have hm := ifF hm c2
        refine lv_aload_n hx hb dJ6_init_2_47 rfl (lv_at hl 1 rfl) ?_
        obtain ⟨v3, ev3, hm⟩ := bdE hm
        refine cg_get C hw (oI_E ev3) rfl in_J5 (by decide) q384 dJ6_init_2_48 ?_
        refine lv_if_eq (tgt := 79) hx hb dJ6_init_2_51 (by decide) (fun c4 => ?_) (fun c4 => ?_)
        · have hm := ifT hm c4
          exact hB79 h x0 x3 x4 _ _ _ _ _ hm hw (by omega) (by omega) (lv_sub hl [0, 2, 3] rfl)
        · have hm := ifF hm c4
          refine lv_aload_n hx hb dJ6_init_2_54 rfl (lv_at hl 0 rfl) ?_
          refine lv_aload_n hx hb dJ6_init_2_55 rfl (lv_at hl 2 rfl) ?_
          refine lv_iconst (v := 0) hx hb dJ6_init_2_56 (by decide) ?_
          refine lv_iload hx hb dJ6_init_2_57 (lv_at hl 3 rfl) ?_
          exact noE hm
    · have hm := ifF hm c1
      refine lv_aload_n hx hb dJ6_init_2_22 rfl (lv_at hl 0 rfl) ?_
      refine lv_iconst (v := 0) hx hb dJ6_init_2_23 (by decide) ?_
      obtain ⟨h5, eh5, hm⟩ := bdE hm
      refine cg_putF C hw eh5 rfl in_J6 tyJ6 tyJ6_ok nmJ6 (by decide) q541 rfl hin rfl rfl rfl dJ6_init_2_24 (fun H locs hw => ?_)
      have zh5 := pF_sz eh5
      refine lv_aload_n hx hb dJ6_init_2_27 rfl (lv_at hl 0 rfl) ?_
      refine lv_aload_n hx hb dJ6_init_2_28 rfl (lv_at hl 2 rfl) ?_
      refine lv_iconst (v := 0) hx hb dJ6_init_2_29 (by decide) ?_
      refine lv_iload hx hb dJ6_init_2_30 (lv_at hl 3 rfl) ?_
      obtain ⟨a7, h6, ea7, hm⟩ := bd2E hm
      have lh6 := mo_J10_copyOfRange ea7
      have ph6 : h5.1 ≤ h6.1 := lh6.1
      have qh6 : h5.2.1 ≤ h6.2.1 := lh6.2.1
      have hmo := mo_J6_init_2_35   h6 x0 a7 _ hm
      have sh6 : h6.1 ≤ u9.1 := hmo.1
      have th6 : h6.2.1 ≤ u9.2.1 := hmo.2.1
      refine cg_callr hw lh6 (va_runS (As := [.ref x3, .int (0 : Int32), .int x4]) (rest := [.ref x0]) ⟨hx, hb, hml, hown, hts⟩ (w_J10_copyOfRange l ea7) (cw_J10_copyOfRange hts q517 ⟨Nat.le_of_ble_eq_true rfl, Nat.le_of_ble_eq_true rfl⟩) (cg_preS C hw _) rfl rfl hl.1 rfl (lv_room (Nat.le_of_ble_eq_true rfl)) dJ6_init_2_32 ⟨show cc + (h6.1 - h5.1) ≤ u9.1 - u.1 by omega, show ss + (h6.2.1 - h5.2.1) ≤ u9.2.1 - u.2.1 by omega⟩) (fun H locs hw => ?_)
      exact hB35 h6 x0 a7 _ _ _ _ _ hm hw (by omega) (by omega) (lv_sub hl [] rfl)
  have hB13 : ∀ (h : CH) (x0 : Nat) (x1 : Nat) (x3 : Nat) (y0 : Int32) (cc ss : Nat) (H : Heap) (locs : List Loc) (ls : Array Slot), m_J6_init_2_13 f h x0 x1 x3 y0 = some u9 → CW D dA A s h H locs → cc + u.1 = h.1 → ss + u.2.1 = h.2.1 → lv_has ls 5 [(0, .ref x0), (1, .ref x1), (3, .ref x3)] → W p l e (rm_J6_init_2 (u9.1 - u.1) (u9.2.1 - u.2.1)) s m args below meth c H locs cc ss QQ (F0 m 13 ls [.int y0]) := by
    intro h x0 x1 x3 y0 cc ss H locs ls hm hw hcc hss hl
    have hmo := mo_J6_init_2_13  h x0 x1 x3 y0 _ hm
    have sb_ : h.1 ≤ u9.1 := hmo.1
    have tb_ : h.2.1 ≤ u9.2.1 := hmo.2.1
    rw [m_J6_init_2_13] at hm
    refine lv_istore (lv' := [(4, .int y0), (0, .ref x0), (1, .ref x1), (3, .ref x3)]) hx hb dJ6_init_2_13 hl (by decide) rfl (fun ls hl => ?_)
    refine lv_aload_n hx hb dJ6_init_2_15 rfl (lv_at hl 2 rfl) ?_
    obtain ⟨g1, hm⟩ := gdE hm
    obtain ⟨r3, h2, er3, hm⟩ := bd2E hm
    have lh2 := mo_J4_isLatin1_J5 er3
    have ph2 : h.1 ≤ h2.1 := lh2.1
    have qh2 : h.2.1 ≤ h2.2.1 := lh2.2.1
    have hmo := mo_J6_init_2_19   h2 x0 x1 x3 y0 r3 _ hm
    have sh2 : h2.1 ≤ u9.1 := hmo.1
    have th2 : h2.2.1 ≤ u9.2.1 := hmo.2.1
    refine cg_calli hw lh2 (va_runU (As := []) (rest := []) ⟨hx, hb, hml, hown, hts⟩ (w_J4_isLatin1_J5 l er3) (va_cwU 0 hts (lwU q516 q439 q440 q438 q129 q441) rfl rfl rfl rfl (by decide +kernel) ⟨Nat.le_of_ble_eq_true rfl, Nat.le_of_ble_eq_true rfl⟩) (cg_preV C hw g1 rfl _) rfl rfl hl.1 rfl (lv_room (Nat.le_of_ble_eq_true rfl)) dJ6_init_2_16 ⟨show cc + (h2.1 - h.1) ≤ u9.1 - u.1 by omega, show ss + (h2.2.1 - h.2.1) ≤ u9.2.1 - u.2.1 by omega⟩) (fun H locs hw => ?_)
    exact hB19 h2 x0 x1 x3 y0 r3 _ _ _ _ _ hm hw (by omega) (by omega) (lv_sub hl [1, 2, 3, 0] rfl)
  have hB8 : ∀ (h : CH) (x0 : Nat) (x1 : Nat) (y0 : Nat) (cc ss : Nat) (H : Heap) (locs : List Loc) (ls : Array Slot), m_J6_init_2_8 f h x0 x1 y0 = some u9 → CW D dA A s h H locs → cc + u.1 = h.1 → ss + u.2.1 = h.2.1 → lv_has ls 5 [(0, .ref x0), (1, .ref x1)] → W p l e (rm_J6_init_2 (u9.1 - u.1) (u9.2.1 - u.2.1)) s m args below meth c H locs cc ss QQ (F0 m 8 ls [.ref y0]) := by
    intro h x0 x1 y0 cc ss H locs ls hm hw hcc hss hl
    have hmo := mo_J6_init_2_8  h x0 x1 y0 _ hm
    have sb_ : h.1 ≤ u9.1 := hmo.1
    have tb_ : h.2.1 ≤ u9.2.1 := hmo.2.1
    rw [m_J6_init_2_8] at hm
    refine lv_astore_n (lv' := [(3, .ref y0), (0, .ref x0), (1, .ref x1)]) hx hb dJ6_init_2_8 rfl hl (by decide) rfl (fun ls hl => ?_)
    refine lv_aload_n hx hb dJ6_init_2_9 rfl (lv_at hl 2 rfl) ?_
    obtain ⟨g1, hm⟩ := gdE hm
    obtain ⟨r3, h2, er3, hm⟩ := bd2E hm
    have lh2 := mo_J5_length er3
    have ph2 : h.1 ≤ h2.1 := lh2.1
    have qh2 : h.2.1 ≤ h2.2.1 := lh2.2.1
    have hmo := mo_J6_init_2_13   h2 x0 x1 y0 r3 _ hm
    have sh2 : h2.1 ≤ u9.1 := hmo.1
    have th2 : h2.2.1 ≤ u9.2.1 := hmo.2.1
    refine cg_calli hw lh2 (va_runU (As := []) (rest := []) ⟨hx, hb, hml, hown, hts⟩ (w_J5_length l er3) (va_cwO 0 hts (lwO q508 q510 q509 q511 q512 q130 q513) rfl rfl rfl q515 (by decide +kernel) ⟨Nat.le_of_ble_eq_true rfl, Nat.le_of_ble_eq_true rfl⟩) (cg_preV C hw g1 rfl _) rfl rfl hl.1 rfl (lv_room (Nat.le_of_ble_eq_true rfl)) dJ6_init_2_10 ⟨show cc + (h2.1 - h.1) ≤ u9.1 - u.1 by omega, show ss + (h2.2.1 - h.2.1) ≤ u9.2.1 - u.2.1 by omega⟩) (fun H locs hw => ?_)
    exact hB13 h2 x0 x1 y0 r3 _ _ _ _ _ hm hw (by omega) (by omega) (lv_sub hl [1, 2, 0] rfl)
  rw [m_J6_init_2] at hm
  refine lv_aload_n hx hb dJ6_init_2_0 rfl (lv_at hl 0 rfl) ?_
  refine W.objInit hx hb hown (hts _ q502) (hts _ q161) (hts _ q162) rfl (by rw [hml]; exact hl.1) rfl dJ6_init_2_1 (Nat.le_of_ble_eq_true rfl) (Nat.le_of_ble_eq_true rfl) ?_
  refine W.eq (g2 := F0 m 4 ls []) rfl ?_
  refine lv_aload_n hx hb dJ6_init_2_4 rfl (lv_at hl 1 rfl) ?_
  obtain ⟨g1, hm⟩ := gdE hm
  obtain ⟨a3, h2, ea3, hm⟩ := bd2E hm
  have lh2 := mo_J4_getValue_J5 ea3
  have ph2 : u.1 ≤ h2.1 := lh2.1
  have qh2 : u.2.1 ≤ h2.2.1 := lh2.2.1
  have hmo := mo_J6_init_2_8   h2 x0 x1 a3 _ hm
  have sh2 : h2.1 ≤ u9.1 := hmo.1
  have th2 : h2.2.1 ≤ u9.2.1 := hmo.2.1
  refine cg_callr hw lh2 (va_runU (As := []) (rest := []) ⟨hx, hb, hml, hown, hts⟩ (w_J4_getValue_J5 l ea3) (va_cwU 0 hts (lwU q503 q505 q506 q504 q129 q507) rfl rfl rfl rfl (by decide +kernel) ⟨Nat.le_of_ble_eq_true rfl, Nat.le_of_ble_eq_true rfl⟩) (cg_preV C hw g1 rfl _) rfl rfl hl.1 rfl (lv_room (Nat.le_of_ble_eq_true rfl)) dJ6_init_2_5 ⟨show cc + (h2.1 - u.1) ≤ u9.1 - u.1 by omega, show ss + (h2.2.1 - u.2.1) ≤ u9.2.1 - u.2.1 by omega⟩) (fun H locs hw => ?_)
  exact hB8 h2 x0 x1 a3 _ _ _ _ _ hm hw (by omega) (by omega) (lv_sub hl [0, 1] rfl)
def m_J6_init_2_N1_97 (f : Nat) (h : CH) : Option CH := some h
theorem mo_J6_init_2_N1_97 {f : Nat} : ∀ (h : CH) (r : CH), m_J6_init_2_N1_97 f h = some r → le2 h r := by
  intro h r hm
  rw [m_J6_init_2_N1_97] at hm
  cases hm
  exact le2.rf
def m_J6_init_2_N1_94 (f : Nat) (h : CH) (y0 : Nat) (y1 : Nat) : Option CH := bd (pF h 19 0 y0 (.ref y1)) fun h1 =>
    m_J6_init_2_N1_97 f h1
theorem mo_J6_init_2_N1_94 {f : Nat} : ∀ (h : CH) (y0 : Nat) (y1 : Nat) (r : CH), m_J6_init_2_N1_94 f h y0 y1 = some r → le2 h r := by
  intro h y0 y1 r hm
  rw [m_J6_init_2_N1_94] at hm
  obtain ⟨h1, eh1, hm⟩ := bdE hm
  have lh1 := pF_le eh1
  exact (lh1.tr (mo_J6_init_2_N1_97  h1 _ hm))
def m_J6_init_2_N1_79 (f : Nat) (h : CH) (x0 : Nat) (x3 : Nat) (x4 : Int32) : Option CH := bd (pF h 19 1 x0 (.int (1 : Int32))) fun h1 =>
    bd2 (m_J10_copyOfRange f h1 x3 (0 : Int32) (x4 <<< ((1 : Int32) &&& 31))) fun a3 h2 =>
    m_J6_init_2_N1_94 f h2 x0 a3
theorem mo_J6_init_2_N1_79 {f : Nat} : ∀ (h : CH) (x0 : Nat) (x3 : Nat) (x4 : Int32) (r : CH), m_J6_init_2_N1_79 f h x0 x3 x4 = some r → le2 h r := by
  intro h x0 x3 x4 r hm
  rw [m_J6_init_2_N1_79] at hm
  obtain ⟨h1, eh1, hm⟩ := bdE hm
  have lh1 := pF_le eh1
  obtain ⟨a3, h2, ea3, hm⟩ := bd2E hm
  have lh2 := mo_J10_copyOfRange ea3
  exact (lh1.tr (lh2.tr (mo_J6_init_2_N1_94  h2 x0 a3 _ hm)))
def m_J6_init_2_N1_35 (f : Nat) (h : CH) (y0 : Nat) (y1 : Nat) : Option CH := bd (pF h 19 0 y0 (.ref y1)) fun h1 =>
    m_J6_init_2_N1_97 f h1
theorem mo_J6_init_2_N1_35 {f : Nat} : ∀ (h : CH) (y0 : Nat) (y1 : Nat) (r : CH), m_J6_init_2_N1_35 f h y0 y1 = some r → le2 h r := by
  intro h y0 y1 r hm
  rw [m_J6_init_2_N1_35] at hm
  obtain ⟨h1, eh1, hm⟩ := bdE hm
  have lh1 := pF_le eh1
  exact (lh1.tr (mo_J6_init_2_N1_97  h1 _ hm))
def m_J6_init_2_N1_19 (f : Nat) (h : CH) (x0 : Nat) (x1 : Nat) (x3 : Nat) (x4 : Int32) (y0 : Int32) : Option CH := if y0 = 0 then
    if (1 : Int32) = 0 then
    m_J6_init_2_N1_79 f h x0 x3 x4
    else bd (oI h 18 2 x1) fun v3 =>
    if v3 = 0 then
    m_J6_init_2_N1_79 f h x0 x3 x4
    else none
    else bd (pF h 19 1 x0 (.int (0 : Int32))) fun h5 =>
    bd2 (m_J10_copyOfRange f h5 x3 (0 : Int32) x4) fun a7 h6 =>
    m_J6_init_2_N1_35 f h6 x0 a7
theorem mo_J6_init_2_N1_19 {f : Nat} : ∀ (h : CH) (x0 : Nat) (x1 : Nat) (x3 : Nat) (x4 : Int32) (y0 : Int32) (r : CH), m_J6_init_2_N1_19 f h x0 x1 x3 x4 y0 = some r → le2 h r := by
  intro h x0 x1 x3 x4 y0 r hm
  rw [m_J6_init_2_N1_19] at hm
  by_cases c1 : y0 = 0
  · have hm := ifT hm c1
    by_cases c2 : (1 : Int32) = 0
    · have hm := ifT hm c2
      exact (mo_J6_init_2_N1_79  h x0 x3 x4 _ hm)
    · have hm := ifF hm c2
      obtain ⟨v3, ev3, hm⟩ := bdE hm
      by_cases c4 : v3 = 0
      · have hm := ifT hm c4
        exact (mo_J6_init_2_N1_79  h x0 x3 x4 _ hm)
      · have hm := ifF hm c4
        exact noE hm
  · have hm := ifF hm c1
    obtain ⟨h5, eh5, hm⟩ := bdE hm
    have lh5 := pF_le eh5
    obtain ⟨a7, h6, ea7, hm⟩ := bd2E hm
    have lh6 := mo_J10_copyOfRange ea7
    exact (lh5.tr (lh6.tr (mo_J6_init_2_N1_35  h6 x0 a7 _ hm)))
def m_J6_init_2_N1_13 (f : Nat) (h : CH) (x0 : Nat) (x1 : Nat) (x3 : Nat) (y0 : Int32) : Option CH := gd (isC h x1 18) <|
    bd2 (m_J4_isLatin1_J5 f h x1) fun r3 h2 =>
    m_J6_init_2_N1_19 f h2 x0 x1 x3 y0 r3
theorem mo_J6_init_2_N1_13 {f : Nat} : ∀ (h : CH) (x0 : Nat) (x1 : Nat) (x3 : Nat) (y0 : Int32) (r : CH), m_J6_init_2_N1_13 f h x0 x1 x3 y0 = some r → le2 h r := by
  intro h x0 x1 x3 y0 r hm
  rw [m_J6_init_2_N1_13] at hm
  obtain ⟨g1, hm⟩ := gdE hm
  obtain ⟨r3, h2, er3, hm⟩ := bd2E hm
  have lh2 := mo_J4_isLatin1_J5 er3
  exact (lh2.tr (mo_J6_init_2_N1_19  h2 x0 x1 x3 y0 r3 _ hm))
def m_J6_init_2_N1_8 (f : Nat) (h : CH) (x0 : Nat) (x1 : Nat) (y0 : Nat) : Option CH := gd (isC h x1 18) <|
    bd2 (m_J5_length f h x1) fun r3 h2 =>
    m_J6_init_2_N1_13 f h2 x0 x1 y0 r3
theorem mo_J6_init_2_N1_8 {f : Nat} : ∀ (h : CH) (x0 : Nat) (x1 : Nat) (y0 : Nat) (r : CH), m_J6_init_2_N1_8 f h x0 x1 y0 = some r → le2 h r := by
  intro h x0 x1 y0 r hm
  rw [m_J6_init_2_N1_8] at hm
  obtain ⟨g1, hm⟩ := gdE hm
  obtain ⟨r3, h2, er3, hm⟩ := bd2E hm
  have lh2 := mo_J5_length er3
  exact (lh2.tr (mo_J6_init_2_N1_13  h2 x0 x1 y0 r3 _ hm))
def m_J6_init_2_N1 (f : Nat) (u : CH) (x0 : Nat) (x1 : Nat) : Option CH := gd (isC u x1 18) <|
    bd2 (m_J4_getValue_J5 f u x1) fun a3 h2 =>
    m_J6_init_2_N1_8 f h2 x0 x1 a3
theorem mo_J6_init_2_N1 {f : Nat} {u : CH} {x0 : Nat} {x1 : Nat} {u9 : CH} (hm : m_J6_init_2_N1 f u x0 x1 = some u9) : le2 u u9 := by
  rw [m_J6_init_2_N1] at hm
  obtain ⟨g1, hm⟩ := gdE hm
  obtain ⟨a3, h2, ea3, hm⟩ := bd2E hm
  have lh2 := mo_J4_getValue_J5 ea3
  exact (lh2.tr (mo_J6_init_2_N1_8  h2 x0 x1 a3 _ hm))
abbrev rm_J6_init_2_N1 (mc ms : Nat) : Room := { frames := 3, cells := mc, slots := ms, locals := 106 }
theorem cw_J6_init_2_N1 {R : Room} {s : State} {args : Array Value} {own : String} {idx mc ms : Nat} (hts : ∀ w ∈ lw_all, w.before args s = true) (hl : Cond.methodLink own idx yJ6_init_2 ∈ lw_all) (hR : 3 + 1 ≤ R.frames ∧ 8 + (5 + 11) + 106 ≤ R.locals) : CallB R s args own idx yJ6_init_2 cJ6_init_2 5 none (ws_ yJ6_init_2 cJ6_init_2 5 (Option.none : Option Jvm.ClassFile.FieldType)) (rm_J6_init_2_N1 mc ms) mc ms 2 ∧ yJ6_init_2.name = "<init>" ∧ (Cond.instanceMethod yJ6_init_2).before args s = true := cwI 2 hts (lw_meth q501) rfl rfl rfl (hts _ q131) (hts _ hl) (hts _ q500) rfl (by decide +kernel) hR
set_option maxHeartbeats 4000000 in
set_option maxRecDepth 100000 in
theorem w_J6_init_2_N1 (l : Launch) {D : va_G} {dA : Nat → ClassId} {A : Nat → Prop} {f : Nat} {u u9 : CH} {x0 : Nat} {x1 : Nat} (hm : m_J6_init_2_N1 f u x0 x1 = some u9) : Met l yJ6_init_2 (ws_ yJ6_init_2 cJ6_init_2 5 (Option.none : Option Jvm.ClassFile.FieldType)) (rm_J6_init_2_N1 (u9.1 - u.1) (u9.2.1 - u.2.1)) (va_Pc [.ref x0, .ref x1, .null] (CPre D dA A u)) (va_Qv (fun u => u = u9) (CPost D dA A) A) (u9.1 - u.1) (u9.2.1 - u.2.1) A := by
  refine metOfWF (cc := cJ6_init_2) (maxL := 5) (ret := (Option.none : Option Jvm.ClassFile.FieldType)) (by decide +kernel) rfl ?_
  intro p e s m args below meth c s₁ B hml hv
  have hx := B.exec
  have hb := B.bytes
  have hr := B.returns
  have hts := atoms_spec (ws := (ws_ yJ6_init_2 cJ6_init_2 5 (Option.none : Option Jvm.ClassFile.FieldType))) B.pre
  have hts : ∀ w ∈ lw_all, w.before args s = true := fun w h => hts w (List.mem_cons_of_mem _ h)
  have hown : s.vm.findClass RJ6 = some m.cls := findClass_of_methodNamed B.named
  have hlocks := B.notSynchronized
  have hin : meth.name = "<init>" := (name_of_methodNamed B.named B.method).1
  obtain ⟨hav, hv⟩ := hv
  have C : CX p s m args c cJ6_init_2 RJ6 D dA := ⟨hx, hb, hown, hts, hv.2⟩
  have hw : CW D dA A s u s.heap [] := hv.1
  generalize hQ : MQ below (va_Qv (fun u => u = u9) (CPost D dA A) A) args s (u9.1 - u.1) (u9.2.1 - u.2.1) A = QQ
  have hent := lg_entry_eq m [.ref x0, .ref x1, .null] 5
  rw [← hav] at hent
  rw [hent]
  have hl := lv_entry ([.ref x0, .ref x1, .null]) (n := 5) (Nat.le_of_ble_eq_true rfl)
  generalize (lg_sl ([.ref x0, .ref x1, .null]) ++ List.replicate (5 - (lg_sl ([.ref x0, .ref x1, .null])).length) Slot.unset).toArray = ls at hl ⊢
  have hl : lv_has ls 5 [(0, .ref x0), (1, .ref x1), (2, .null)] := hl
  obtain ⟨cc, ecc⟩ : ∃ z : Nat, z = 0 := ⟨0, rfl⟩
  obtain ⟨ss, ess⟩ : ∃ z : Nat, z = 0 := ⟨0, rfl⟩
  have hcc : cc + u.1 = u.1 := by omega
  have hss : ss + u.2.1 = u.2.1 := by omega
  suffices hgo : W p l e (rm_J6_init_2_N1 (u9.1 - u.1) (u9.2.1 - u.2.1)) s m args below meth c s.heap [] cc ss QQ (F0 m 0 ls []) by rw [ecc, ess] at hgo; exact hgo
  have ⟨pu, qu, _, _⟩ := mo_J6_init_2_N1 hm
  have hB97 : ∀ (h : CH) (cc ss : Nat) (H : Heap) (locs : List Loc) (ls : Array Slot), m_J6_init_2_N1_97 f h = some u9 → CW D dA A s h H locs → cc + u.1 = h.1 → ss + u.2.1 = h.2.1 → lv_has ls 5 [] → W p l e (rm_J6_init_2_N1 (u9.1 - u.1) (u9.2.1 - u.2.1)) s m args below meth c H locs cc ss QQ (F0 m 97 ls []) := by
    intro h cc ss H locs ls hm hw hcc hss hl
    have hmo := mo_J6_init_2_N1_97  h _ hm
    have sb_ : h.1 ≤ u9.1 := hmo.1
    have tb_ : h.2.1 ≤ u9.2.1 := hmo.2.1
    rw [m_J6_init_2_N1_97] at hm
    have eh := ret1 hm
    have ec : cc = u9.1 - u.1 := by rw [← eh]; omega
    have es : ss = u9.2.1 - u.2.1 := by rw [← eh]; omega
    rw [ec, es, ← hQ]
    exact W.vret hx hb hr (fun t ht hW => ⟨⟨h, rfl, eh, ⟨by rw [ht]; exact hw.1, by rw [ht]; exact hw.2.1⟩⟩, hw.2.2.1.F ht⟩) hw.2.2.1.2.2 dJ6_init_2_97
  have hB94 : ∀ (h : CH) (y0 : Nat) (y1 : Nat) (cc ss : Nat) (H : Heap) (locs : List Loc) (ls : Array Slot), m_J6_init_2_N1_94 f h y0 y1 = some u9 → CW D dA A s h H locs → cc + u.1 = h.1 → ss + u.2.1 = h.2.1 → lv_has ls 5 [] → W p l e (rm_J6_init_2_N1 (u9.1 - u.1) (u9.2.1 - u.2.1)) s m args below meth c H locs cc ss QQ (F0 m 94 ls [.ref y1, .ref y0]) := by
    intro h y0 y1 cc ss H locs ls hm hw hcc hss hl
    have hmo := mo_J6_init_2_N1_94  h y0 y1 _ hm
    have sb_ : h.1 ≤ u9.1 := hmo.1
    have tb_ : h.2.1 ≤ u9.2.1 := hmo.2.1
    rw [m_J6_init_2_N1_94] at hm
    obtain ⟨h1, eh1, hm⟩ := bdE hm
    refine cg_putF C hw eh1 rfl in_J6 tyJ6 tyJ6_ok nmJ6 (by decide) q540 rfl hin rfl rfl rfl dJ6_init_2_94 (fun H locs hw => ?_)
    have zh1 := pF_sz eh1
    exact hB97 h1 _ _ _ _ _ hm hw (by omega) (by omega) (lv_sub hl [] rfl)
  have hB79 : ∀ (h : CH) (x0 : Nat) (x3 : Nat) (x4 : Int32) (cc ss : Nat) (H : Heap) (locs : List Loc) (ls : Array Slot), m_J6_init_2_N1_79 f h x0 x3 x4 = some u9 → CW D dA A s h H locs → cc + u.1 = h.1 → ss + u.2.1 = h.2.1 → lv_has ls 5 [(0, .ref x0), (3, .ref x3), (4, .int x4)] → W p l e (rm_J6_init_2_N1 (u9.1 - u.1) (u9.2.1 - u.2.1)) s m args below meth c H locs cc ss QQ (F0 m 79 ls []) := by
    intro h x0 x3 x4 cc ss H locs ls hm hw hcc hss hl
    have hmo := mo_J6_init_2_N1_79  h x0 x3 x4 _ hm
    have sb_ : h.1 ≤ u9.1 := hmo.1
    have tb_ : h.2.1 ≤ u9.2.1 := hmo.2.1
    rw [m_J6_init_2_N1_79] at hm
    refine lv_aload_n hx hb dJ6_init_2_79 rfl (lv_at hl 0 rfl) ?_
    refine lv_iconst (v := 1) hx hb dJ6_init_2_80 (by decide) ?_
    obtain ⟨h1, eh1, hm⟩ := bdE hm
    refine cg_putF C hw eh1 rfl in_J6 tyJ6 tyJ6_ok nmJ6 (by decide) q541 rfl hin rfl rfl rfl dJ6_init_2_81 (fun H locs hw => ?_)
    have zh1 := pF_sz eh1
    refine lv_aload_n hx hb dJ6_init_2_84 rfl (lv_at hl 0 rfl) ?_
    refine lv_aload_n hx hb dJ6_init_2_85 rfl (lv_at hl 1 rfl) ?_
    refine lv_iconst (v := 0) hx hb dJ6_init_2_86 (by decide) ?_
    refine lv_iload hx hb dJ6_init_2_87 (lv_at hl 2 rfl) ?_
    refine lv_iconst (v := 1) hx hb dJ6_init_2_89 (by decide) ?_
    refine lv_ishl hx hb dJ6_init_2_90 ?_
    obtain ⟨a3, h2, ea3, hm⟩ := bd2E hm
    have lh2 := mo_J10_copyOfRange ea3
    have ph2 : h1.1 ≤ h2.1 := lh2.1
    have qh2 : h1.2.1 ≤ h2.2.1 := lh2.2.1
    have hmo := mo_J6_init_2_N1_94   h2 x0 a3 _ hm
    have sh2 : h2.1 ≤ u9.1 := hmo.1
    have th2 : h2.2.1 ≤ u9.2.1 := hmo.2.1
    refine cg_callr hw lh2 (va_runS (As := [.ref x3, .int (0 : Int32), .int (x4 <<< ((1 : Int32) &&& 31))]) (rest := [.ref x0]) ⟨hx, hb, hml, hown, hts⟩ (w_J10_copyOfRange l ea3) (cw_J10_copyOfRange hts q517 ⟨Nat.le_of_ble_eq_true rfl, Nat.le_of_ble_eq_true rfl⟩) (cg_preS C hw _) rfl rfl hl.1 rfl (lv_room (Nat.le_of_ble_eq_true rfl)) dJ6_init_2_91 ⟨show cc + (h2.1 - h1.1) ≤ u9.1 - u.1 by omega, show ss + (h2.2.1 - h1.2.1) ≤ u9.2.1 - u.2.1 by omega⟩) (fun H locs hw => ?_)
    exact hB94 h2 x0 a3 _ _ _ _ _ hm hw (by omega) (by omega) (lv_sub hl [] rfl)
  have hB35 : ∀ (h : CH) (y0 : Nat) (y1 : Nat) (cc ss : Nat) (H : Heap) (locs : List Loc) (ls : Array Slot), m_J6_init_2_N1_35 f h y0 y1 = some u9 → CW D dA A s h H locs → cc + u.1 = h.1 → ss + u.2.1 = h.2.1 → lv_has ls 5 [] → W p l e (rm_J6_init_2_N1 (u9.1 - u.1) (u9.2.1 - u.2.1)) s m args below meth c H locs cc ss QQ (F0 m 35 ls [.ref y1, .ref y0]) := by
    intro h y0 y1 cc ss H locs ls hm hw hcc hss hl
    have hmo := mo_J6_init_2_N1_35  h y0 y1 _ hm
    have sb_ : h.1 ≤ u9.1 := hmo.1
    have tb_ : h.2.1 ≤ u9.2.1 := hmo.2.1
    rw [m_J6_init_2_N1_35] at hm
    obtain ⟨h1, eh1, hm⟩ := bdE hm
    refine cg_putF C hw eh1 rfl in_J6 tyJ6 tyJ6_ok nmJ6 (by decide) q540 rfl hin rfl rfl rfl dJ6_init_2_35 (fun H locs hw => ?_)
    have zh1 := pF_sz eh1
    refine lv_goto (tgt := 97) hx hb dJ6_init_2_38 (by decide) ?_
    exact hB97 h1 _ _ _ _ _ hm hw (by omega) (by omega) (lv_sub hl [] rfl)
  have hB19 : ∀ (h : CH) (x0 : Nat) (x1 : Nat) (x3 : Nat) (x4 : Int32) (y0 : Int32) (cc ss : Nat) (H : Heap) (locs : List Loc) (ls : Array Slot), m_J6_init_2_N1_19 f h x0 x1 x3 x4 y0 = some u9 → CW D dA A s h H locs → cc + u.1 = h.1 → ss + u.2.1 = h.2.1 → lv_has ls 5 [(0, .ref x0), (1, .ref x1), (3, .ref x3), (4, .int x4)] → W p l e (rm_J6_init_2_N1 (u9.1 - u.1) (u9.2.1 - u.2.1)) s m args below meth c H locs cc ss QQ (F0 m 19 ls [.int y0]) := by
    intro h x0 x1 x3 x4 y0 cc ss H locs ls hm hw hcc hss hl
    have hmo := mo_J6_init_2_N1_19  h x0 x1 x3 x4 y0 _ hm
    have sb_ : h.1 ≤ u9.1 := hmo.1
    have tb_ : h.2.1 ≤ u9.2.1 := hmo.2.1
    rw [m_J6_init_2_N1_19] at hm
    refine lv_if_eq (tgt := 41) hx hb dJ6_init_2_19 (by decide) (fun c1 => ?_) (fun c1 => ?_)
    · have hm := ifT hm c1
      refine cg_getsI C hw (i := 0) rfl q526 dJ6_init_2_41 ?_
      refine lv_if_eq (tgt := 79) hx hb dJ6_init_2_44 (by decide) (fun c2 => ?_) (fun c2 => ?_)
      · have hm := ifT hm c2
        exact hB79 h x0 x3 x4 _ _ _ _ _ hm hw (by omega) (by omega) (lv_sub hl [0, 2, 3] rfl)
      · have hm := ifF hm c2
        refine lv_aload_n hx hb dJ6_init_2_47 rfl (lv_at hl 1 rfl) ?_
        obtain ⟨v3, ev3, hm⟩ := bdE hm
        refine cg_get C hw (oI_E ev3) rfl in_J5 (by decide) q384 dJ6_init_2_48 ?_
        refine lv_if_eq (tgt := 79) hx hb dJ6_init_2_51 (by decide) (fun c4 => ?_) (fun c4 => ?_)
        · have hm := ifT hm c4
          exact hB79 h x0 x3 x4 _ _ _ _ _ hm hw (by omega) (by omega) (lv_sub hl [0, 2, 3] rfl)
        · have hm := ifF hm c4
          refine lv_aload_n hx hb dJ6_init_2_54 rfl (lv_at hl 0 rfl) ?_
          refine lv_aload_n hx hb dJ6_init_2_55 rfl (lv_at hl 2 rfl) ?_
          refine lv_iconst (v := 0) hx hb dJ6_init_2_56 (by decide) ?_
          refine lv_iload hx hb dJ6_init_2_57 (lv_at hl 3 rfl) ?_
          exact noE hm
    · have hm := ifF hm c1
      refine lv_aload_n hx hb dJ6_init_2_22 rfl (lv_at hl 0 rfl) ?_
      refine lv_iconst (v := 0) hx hb dJ6_init_2_23 (by decide) ?_
      obtain ⟨h5, eh5, hm⟩ := bdE hm
      refine cg_putF C hw eh5 rfl in_J6 tyJ6 tyJ6_ok nmJ6 (by decide) q541 rfl hin rfl rfl rfl dJ6_init_2_24 (fun H locs hw => ?_)
      have zh5 := pF_sz eh5
      refine lv_aload_n hx hb dJ6_init_2_27 rfl (lv_at hl 0 rfl) ?_
      refine lv_aload_n hx hb dJ6_init_2_28 rfl (lv_at hl 2 rfl) ?_
      refine lv_iconst (v := 0) hx hb dJ6_init_2_29 (by decide) ?_
      refine lv_iload hx hb dJ6_init_2_30 (lv_at hl 3 rfl) ?_
      obtain ⟨a7, h6, ea7, hm⟩ := bd2E hm
      have lh6 := mo_J10_copyOfRange ea7
      have ph6 : h5.1 ≤ h6.1 := lh6.1
      have qh6 : h5.2.1 ≤ h6.2.1 := lh6.2.1
      have hmo := mo_J6_init_2_N1_35   h6 x0 a7 _ hm
      have sh6 : h6.1 ≤ u9.1 := hmo.1
      have th6 : h6.2.1 ≤ u9.2.1 := hmo.2.1
      refine cg_callr hw lh6 (va_runS (As := [.ref x3, .int (0 : Int32), .int x4]) (rest := [.ref x0]) ⟨hx, hb, hml, hown, hts⟩ (w_J10_copyOfRange l ea7) (cw_J10_copyOfRange hts q517 ⟨Nat.le_of_ble_eq_true rfl, Nat.le_of_ble_eq_true rfl⟩) (cg_preS C hw _) rfl rfl hl.1 rfl (lv_room (Nat.le_of_ble_eq_true rfl)) dJ6_init_2_32 ⟨show cc + (h6.1 - h5.1) ≤ u9.1 - u.1 by omega, show ss + (h6.2.1 - h5.2.1) ≤ u9.2.1 - u.2.1 by omega⟩) (fun H locs hw => ?_)
      exact hB35 h6 x0 a7 _ _ _ _ _ hm hw (by omega) (by omega) (lv_sub hl [] rfl)
  have hB13 : ∀ (h : CH) (x0 : Nat) (x1 : Nat) (x3 : Nat) (y0 : Int32) (cc ss : Nat) (H : Heap) (locs : List Loc) (ls : Array Slot), m_J6_init_2_N1_13 f h x0 x1 x3 y0 = some u9 → CW D dA A s h H locs → cc + u.1 = h.1 → ss + u.2.1 = h.2.1 → lv_has ls 5 [(0, .ref x0), (1, .ref x1), (3, .ref x3)] → W p l e (rm_J6_init_2_N1 (u9.1 - u.1) (u9.2.1 - u.2.1)) s m args below meth c H locs cc ss QQ (F0 m 13 ls [.int y0]) := by
    intro h x0 x1 x3 y0 cc ss H locs ls hm hw hcc hss hl
    have hmo := mo_J6_init_2_N1_13  h x0 x1 x3 y0 _ hm
    have sb_ : h.1 ≤ u9.1 := hmo.1
    have tb_ : h.2.1 ≤ u9.2.1 := hmo.2.1
    rw [m_J6_init_2_N1_13] at hm
    refine lv_istore (lv' := [(4, .int y0), (0, .ref x0), (1, .ref x1), (3, .ref x3)]) hx hb dJ6_init_2_13 hl (by decide) rfl (fun ls hl => ?_)
    refine lv_aload_n hx hb dJ6_init_2_15 rfl (lv_at hl 2 rfl) ?_
    obtain ⟨g1, hm⟩ := gdE hm
    obtain ⟨r3, h2, er3, hm⟩ := bd2E hm
    have lh2 := mo_J4_isLatin1_J5 er3
    have ph2 : h.1 ≤ h2.1 := lh2.1
    have qh2 : h.2.1 ≤ h2.2.1 := lh2.2.1
    have hmo := mo_J6_init_2_N1_19   h2 x0 x1 x3 y0 r3 _ hm
    have sh2 : h2.1 ≤ u9.1 := hmo.1
    have th2 : h2.2.1 ≤ u9.2.1 := hmo.2.1
    refine cg_calli hw lh2 (va_runU (As := []) (rest := []) ⟨hx, hb, hml, hown, hts⟩ (w_J4_isLatin1_J5 l er3) (va_cwU 0 hts (lwU q516 q439 q440 q438 q129 q441) rfl rfl rfl rfl (by decide +kernel) ⟨Nat.le_of_ble_eq_true rfl, Nat.le_of_ble_eq_true rfl⟩) (cg_preV C hw g1 rfl _) rfl rfl hl.1 rfl (lv_room (Nat.le_of_ble_eq_true rfl)) dJ6_init_2_16 ⟨show cc + (h2.1 - h.1) ≤ u9.1 - u.1 by omega, show ss + (h2.2.1 - h.2.1) ≤ u9.2.1 - u.2.1 by omega⟩) (fun H locs hw => ?_)
    exact hB19 h2 x0 x1 x3 y0 r3 _ _ _ _ _ hm hw (by omega) (by omega) (lv_sub hl [1, 2, 3, 0] rfl)
  have hB8 : ∀ (h : CH) (x0 : Nat) (x1 : Nat) (y0 : Nat) (cc ss : Nat) (H : Heap) (locs : List Loc) (ls : Array Slot), m_J6_init_2_N1_8 f h x0 x1 y0 = some u9 → CW D dA A s h H locs → cc + u.1 = h.1 → ss + u.2.1 = h.2.1 → lv_has ls 5 [(0, .ref x0), (1, .ref x1)] → W p l e (rm_J6_init_2_N1 (u9.1 - u.1) (u9.2.1 - u.2.1)) s m args below meth c H locs cc ss QQ (F0 m 8 ls [.ref y0]) := by
    intro h x0 x1 y0 cc ss H locs ls hm hw hcc hss hl
    have hmo := mo_J6_init_2_N1_8  h x0 x1 y0 _ hm
    have sb_ : h.1 ≤ u9.1 := hmo.1
    have tb_ : h.2.1 ≤ u9.2.1 := hmo.2.1
    rw [m_J6_init_2_N1_8] at hm
    refine lv_astore_n (lv' := [(3, .ref y0), (0, .ref x0), (1, .ref x1)]) hx hb dJ6_init_2_8 rfl hl (by decide) rfl (fun ls hl => ?_)
    refine lv_aload_n hx hb dJ6_init_2_9 rfl (lv_at hl 2 rfl) ?_
    obtain ⟨g1, hm⟩ := gdE hm
    obtain ⟨r3, h2, er3, hm⟩ := bd2E hm
    have lh2 := mo_J5_length er3
    have ph2 : h.1 ≤ h2.1 := lh2.1
    have qh2 : h.2.1 ≤ h2.2.1 := lh2.2.1
    have hmo := mo_J6_init_2_N1_13   h2 x0 x1 y0 r3 _ hm
    have sh2 : h2.1 ≤ u9.1 := hmo.1
    have th2 : h2.2.1 ≤ u9.2.1 := hmo.2.1
    refine cg_calli hw lh2 (va_runU (As := []) (rest := []) ⟨hx, hb, hml, hown, hts⟩ (w_J5_length l er3) (va_cwO 0 hts (lwO q508 q510 q509 q511 q512 q130 q513) rfl rfl rfl q515 (by decide +kernel) ⟨Nat.le_of_ble_eq_true rfl, Nat.le_of_ble_eq_true rfl⟩) (cg_preV C hw g1 rfl _) rfl rfl hl.1 rfl (lv_room (Nat.le_of_ble_eq_true rfl)) dJ6_init_2_10 ⟨show cc + (h2.1 - h.1) ≤ u9.1 - u.1 by omega, show ss + (h2.2.1 - h.2.1) ≤ u9.2.1 - u.2.1 by omega⟩) (fun H locs hw => ?_)
    exact hB13 h2 x0 x1 y0 r3 _ _ _ _ _ hm hw (by omega) (by omega) (lv_sub hl [1, 2, 0] rfl)
  rw [m_J6_init_2_N1] at hm
  refine lv_aload_n hx hb dJ6_init_2_0 rfl (lv_at hl 0 rfl) ?_
  refine W.objInit hx hb hown (hts _ q502) (hts _ q161) (hts _ q162) rfl (by rw [hml]; exact hl.1) rfl dJ6_init_2_1 (Nat.le_of_ble_eq_true rfl) (Nat.le_of_ble_eq_true rfl) ?_
  refine W.eq (g2 := F0 m 4 ls []) rfl ?_
  refine lv_aload_n hx hb dJ6_init_2_4 rfl (lv_at hl 1 rfl) ?_
  obtain ⟨g1, hm⟩ := gdE hm
  obtain ⟨a3, h2, ea3, hm⟩ := bd2E hm
  have lh2 := mo_J4_getValue_J5 ea3
  have ph2 : u.1 ≤ h2.1 := lh2.1
  have qh2 : u.2.1 ≤ h2.2.1 := lh2.2.1
  have hmo := mo_J6_init_2_N1_8   h2 x0 x1 a3 _ hm
  have sh2 : h2.1 ≤ u9.1 := hmo.1
  have th2 : h2.2.1 ≤ u9.2.1 := hmo.2.1
  refine cg_callr hw lh2 (va_runU (As := []) (rest := []) ⟨hx, hb, hml, hown, hts⟩ (w_J4_getValue_J5 l ea3) (va_cwU 0 hts (lwU q503 q505 q506 q504 q129 q507) rfl rfl rfl rfl (by decide +kernel) ⟨Nat.le_of_ble_eq_true rfl, Nat.le_of_ble_eq_true rfl⟩) (cg_preV C hw g1 rfl _) rfl rfl hl.1 rfl (lv_room (Nat.le_of_ble_eq_true rfl)) dJ6_init_2_5 ⟨show cc + (h2.1 - u.1) ≤ u9.1 - u.1 by omega, show ss + (h2.2.1 - u.2.1) ≤ u9.2.1 - u.2.1 by omega⟩) (fun H locs hw => ?_)
  exact hB8 h2 x0 x1 a3 _ _ _ _ _ hm hw (by omega) (by omega) (lv_sub hl [0, 1] rfl)
def m_J6_init_6 (f : Nat) (h : CH) : Option CH := some h
theorem mo_J6_init_6 {f : Nat} : ∀ (h : CH) (r : CH), m_J6_init_6 f h = some r → le2 h r := by
  intro h r hm
  rw [m_J6_init_6] at hm
  cases hm
  exact le2.rf
def m_J6_init (f : Nat) (u : CH) (x0 : Nat) (x1 : Nat) : Option CH := bd (m_J6_init_2_N1 f u x0 x1) fun h1 =>
    m_J6_init_6 f h1
theorem mo_J6_init {f : Nat} {u : CH} {x0 : Nat} {x1 : Nat} {u9 : CH} (hm : m_J6_init f u x0 x1 = some u9) : le2 u u9 := by
  rw [m_J6_init] at hm
  obtain ⟨h1, eh1, hm⟩ := bdE hm
  have lh1 := mo_J6_init_2_N1 eh1
  exact (lh1.tr (mo_J6_init_6  h1 _ hm))
abbrev rm_J6_init (mc ms : Nat) : Room := { frames := 4, cells := mc, slots := ms, locals := 130 }
theorem cw_J6_init {R : Room} {s : State} {args : Array Value} {own : String} {idx mc ms : Nat} (hts : ∀ w ∈ lw_all, w.before args s = true) (hl : Cond.methodLink own idx yJ6_init ∈ lw_all) (hR : 4 + 1 ≤ R.frames ∧ 8 + (2 + 11) + 130 ≤ R.locals) : CallB R s args own idx yJ6_init cJ6_init 2 none (ws_ yJ6_init cJ6_init 2 (Option.none : Option Jvm.ClassFile.FieldType)) (rm_J6_init mc ms) mc ms 1 ∧ yJ6_init.name = "<init>" ∧ (Cond.instanceMethod yJ6_init).before args s = true := cwI 1 hts (lw_meth q498) rfl rfl rfl (hts _ q131) (hts _ hl) (hts _ q497) rfl (by decide +kernel) hR
set_option maxHeartbeats 4000000 in
set_option maxRecDepth 100000 in
theorem w_J6_init (l : Launch) {D : va_G} {dA : Nat → ClassId} {A : Nat → Prop} {f : Nat} {u u9 : CH} {x0 : Nat} {x1 : Nat} (hm : m_J6_init f u x0 x1 = some u9) : Met l yJ6_init (ws_ yJ6_init cJ6_init 2 (Option.none : Option Jvm.ClassFile.FieldType)) (rm_J6_init (u9.1 - u.1) (u9.2.1 - u.2.1)) (va_Pc [.ref x0, .ref x1] (CPre D dA A u)) (va_Qv (fun u => u = u9) (CPost D dA A) A) (u9.1 - u.1) (u9.2.1 - u.2.1) A := by
  refine metOfWF (cc := cJ6_init) (maxL := 2) (ret := (Option.none : Option Jvm.ClassFile.FieldType)) (by decide +kernel) rfl ?_
  intro p e s m args below meth c s₁ B hml hv
  have hx := B.exec
  have hb := B.bytes
  have hr := B.returns
  have hts := atoms_spec (ws := (ws_ yJ6_init cJ6_init 2 (Option.none : Option Jvm.ClassFile.FieldType))) B.pre
  have hts : ∀ w ∈ lw_all, w.before args s = true := fun w h => hts w (List.mem_cons_of_mem _ h)
  have hown : s.vm.findClass RJ6 = some m.cls := findClass_of_methodNamed B.named
  have hlocks := B.notSynchronized
  have hin : meth.name = "<init>" := (name_of_methodNamed B.named B.method).1
  obtain ⟨hav, hv⟩ := hv
  have C : CX p s m args c cJ6_init RJ6 D dA := ⟨hx, hb, hown, hts, hv.2⟩
  have hw : CW D dA A s u s.heap [] := hv.1
  generalize hQ : MQ below (va_Qv (fun u => u = u9) (CPost D dA A) A) args s (u9.1 - u.1) (u9.2.1 - u.2.1) A = QQ
  have hent := lg_entry_eq m [.ref x0, .ref x1] 2
  rw [← hav] at hent
  rw [hent]
  have hl := lv_entry ([.ref x0, .ref x1]) (n := 2) (Nat.le_of_ble_eq_true rfl)
  generalize (lg_sl ([.ref x0, .ref x1]) ++ List.replicate (2 - (lg_sl ([.ref x0, .ref x1])).length) Slot.unset).toArray = ls at hl ⊢
  have hl : lv_has ls 2 [(0, .ref x0), (1, .ref x1)] := hl
  obtain ⟨cc, ecc⟩ : ∃ z : Nat, z = 0 := ⟨0, rfl⟩
  obtain ⟨ss, ess⟩ : ∃ z : Nat, z = 0 := ⟨0, rfl⟩
  have hcc : cc + u.1 = u.1 := by omega
  have hss : ss + u.2.1 = u.2.1 := by omega
  suffices hgo : W p l e (rm_J6_init (u9.1 - u.1) (u9.2.1 - u.2.1)) s m args below meth c s.heap [] cc ss QQ (F0 m 0 ls []) by rw [ecc, ess] at hgo; exact hgo
  have ⟨pu, qu, _, _⟩ := mo_J6_init hm
  have hB6 : ∀ (h : CH) (cc ss : Nat) (H : Heap) (locs : List Loc) (ls : Array Slot), m_J6_init_6 f h = some u9 → CW D dA A s h H locs → cc + u.1 = h.1 → ss + u.2.1 = h.2.1 → lv_has ls 2 [] → W p l e (rm_J6_init (u9.1 - u.1) (u9.2.1 - u.2.1)) s m args below meth c H locs cc ss QQ (F0 m 6 ls []) := by
    intro h cc ss H locs ls hm hw hcc hss hl
    have hmo := mo_J6_init_6  h _ hm
    have sb_ : h.1 ≤ u9.1 := hmo.1
    have tb_ : h.2.1 ≤ u9.2.1 := hmo.2.1
    rw [m_J6_init_6] at hm
    have eh := ret1 hm
    have ec : cc = u9.1 - u.1 := by rw [← eh]; omega
    have es : ss = u9.2.1 - u.2.1 := by rw [← eh]; omega
    rw [ec, es, ← hQ]
    exact W.vret hx hb hr (fun t ht hW => ⟨⟨h, rfl, eh, ⟨by rw [ht]; exact hw.1, by rw [ht]; exact hw.2.1⟩⟩, hw.2.2.1.F ht⟩) hw.2.2.1.2.2 dJ6_init_6
  rw [m_J6_init] at hm
  refine lv_aload_n hx hb dJ6_init_0 rfl (lv_at hl 0 rfl) ?_
  refine lv_aload_n hx hb dJ6_init_1 rfl (lv_at hl 1 rfl) ?_
  refine lv_null hx hb dJ6_init_2 ?_
  obtain ⟨h1, eh1, hm⟩ := bdE hm
  have lh1 := mo_J6_init_2_N1 eh1
  have ph1 : u.1 ≤ h1.1 := lh1.1
  have qh1 : u.2.1 ≤ h1.2.1 := lh1.2.1
  have hmo := mo_J6_init_6   h1 _ hm
  have sh1 : h1.1 ≤ u9.1 := hmo.1
  have th1 : h1.2.1 ≤ u9.2.1 := hmo.2.1
  refine cg_callv hw lh1 (va_runI (As := [.ref x1, .null]) (rest := []) ⟨hx, hb, hml, hown, hts⟩ (w_J6_init_2_N1 l eh1) (cw_J6_init_2_N1 hts q499 ⟨Nat.le_of_ble_eq_true rfl, Nat.le_of_ble_eq_true rfl⟩) (cg_preS C hw _) rfl rfl hl.1 rfl (lv_room (Nat.le_of_ble_eq_true rfl)) dJ6_init_3 ⟨show cc + (h1.1 - u.1) ≤ u9.1 - u.1 by omega, show ss + (h1.2.1 - u.2.1) ≤ u9.2.1 - u.2.1 by omega⟩) (fun H locs hw => ?_)
  exact hB6 h1 _ _ _ _ _ hm hw (by omega) (by omega) (lv_sub hl [] rfl)
def m_J5_toString_8 (f : Nat) (h : CH) (y0 : Nat) : Option (Nat × CH) := some (y0, h)
theorem mo_J5_toString_8 {f : Nat} : ∀ (h : CH) (y0 : Nat) (r : (Nat × CH)), m_J5_toString_8 f h y0 = some r → le2 h r.2 := by
  intro h y0 r hm
  rw [m_J5_toString_8] at hm
  cases hm
  exact le2.rf
def m_J5_toString_3 (f : Nat) (h : CH) (x0 : Nat) (y0 : Nat) : Option (Nat × CH) := bd (m_J6_init f h y0 x0) fun h1 =>
    m_J5_toString_8 f h1 y0
theorem mo_J5_toString_3 {f : Nat} : ∀ (h : CH) (x0 : Nat) (y0 : Nat) (r : (Nat × CH)), m_J5_toString_3 f h x0 y0 = some r → le2 h r.2 := by
  intro h x0 y0 r hm
  rw [m_J5_toString_3] at hm
  obtain ⟨h1, eh1, hm⟩ := bdE hm
  have lh1 := mo_J6_init eh1
  exact (lh1.tr (mo_J5_toString_8  h1 y0 _ hm))
def m_J5_toString (f : Nat) (u : CH) (x0 : Nat) : Option (Nat × CH) := nmv (cn u 4 (.inl (19, [.null, .int 0, .int 0, .int 0]))) fun h1 =>
    nmv (u.1 : Nat) fun a2 =>
    m_J5_toString_3 f h1 x0 a2
theorem mo_J5_toString {f : Nat} {u : CH} {x0 : Nat} {r0 : Nat} {u9 : CH} (hm : m_J5_toString f u x0 = some (r0, u9)) : le2 u u9 := by
  rw [m_J5_toString] at hm
  obtain ⟨h1, eh1, hm⟩ := nmE hm
  have lh1 := cn_le eh1
  obtain ⟨a2, ea2, hm⟩ := nmE hm
  exact (lh1.tr (mo_J5_toString_3  h1 x0 a2 _ hm))
abbrev rm_J5_toString (mc ms : Nat) : Room := { frames := 5, cells := mc, slots := ms, locals := 151 }
theorem cw_J5_toString {R : Room} {s : State} {args : Array Value} {own : String} {idx mc ms : Nat} (hts : ∀ w ∈ lw_all, w.before args s = true) (hl : Cond.methodLink own idx yJ5_toString ∈ lw_all) (hR : 5 + 1 ≤ R.frames ∧ 8 + (1 + 11) + 151 ≤ R.locals) : CallW R s args own RJ5 idx yJ5_toString cJ5_toString 1 (Option.some (Jvm.ClassFile.FieldType.object "java/lang/String")) (ws_ yJ5_toString cJ5_toString 1 (Option.some (Jvm.ClassFile.FieldType.object "java/lang/String"))) (rm_J5_toString mc ms) mc ms 0 := cwV 0 hts (lw_V hl q491 q492 q130 q493) rfl rfl rfl (by decide +kernel) hR
set_option maxHeartbeats 4000000 in
set_option maxRecDepth 100000 in
theorem w_J5_toString (l : Launch) {D : va_G} {dA : Nat → ClassId} {A : Nat → Prop} {f : Nat} {u u9 : CH} {r0 : Nat} {x0 : Nat} (hm : m_J5_toString f u x0 = some (r0, u9)) : Met l yJ5_toString (ws_ yJ5_toString cJ5_toString 1 (Option.some (Jvm.ClassFile.FieldType.object "java/lang/String"))) (rm_J5_toString (u9.1 - u.1) (u9.2.1 - u.2.1)) (va_Pc [.ref x0] (CPre D dA A u)) (va_Qr (fun u => u = u9) (fun u r t => r = r0 ∧ CPost D dA A u t) A) (u9.1 - u.1) (u9.2.1 - u.2.1) A := by
  refine metOfWF (cc := cJ5_toString) (maxL := 1) (ret := (Option.some (Jvm.ClassFile.FieldType.object "java/lang/String"))) (by decide +kernel) rfl ?_
  intro p e s m args below meth c s₁ B hml hv
  have hx := B.exec
  have hb := B.bytes
  have hr := B.returns
  have hts := atoms_spec (ws := (ws_ yJ5_toString cJ5_toString 1 (Option.some (Jvm.ClassFile.FieldType.object "java/lang/String")))) B.pre
  have hts : ∀ w ∈ lw_all, w.before args s = true := fun w h => hts w (List.mem_cons_of_mem _ h)
  have hown : s.vm.findClass RJ5 = some m.cls := findClass_of_methodNamed B.named
  have hlocks := B.notSynchronized
  obtain ⟨hav, hv⟩ := hv
  have C : CX p s m args c cJ5_toString RJ5 D dA := ⟨hx, hb, hown, hts, hv.2⟩
  have hw : CW D dA A s u s.heap [] := hv.1
  generalize hQ : MQ below (va_Qr (fun u => u = u9) (fun u r t => r = r0 ∧ CPost D dA A u t) A) args s (u9.1 - u.1) (u9.2.1 - u.2.1) A = QQ
  have hent := lg_entry_eq m [.ref x0] 1
  rw [← hav] at hent
  rw [hent]
  have hl := lv_entry ([.ref x0]) (n := 1) (Nat.le_of_ble_eq_true rfl)
  generalize (lg_sl ([.ref x0]) ++ List.replicate (1 - (lg_sl ([.ref x0])).length) Slot.unset).toArray = ls at hl ⊢
  have hl : lv_has ls 1 [(0, .ref x0)] := hl
  obtain ⟨cc, ecc⟩ : ∃ z : Nat, z = 0 := ⟨0, rfl⟩
  obtain ⟨ss, ess⟩ : ∃ z : Nat, z = 0 := ⟨0, rfl⟩
  have hcc : cc + u.1 = u.1 := by omega
  have hss : ss + u.2.1 = u.2.1 := by omega
  suffices hgo : W p l e (rm_J5_toString (u9.1 - u.1) (u9.2.1 - u.2.1)) s m args below meth c s.heap [] cc ss QQ (F0 m 0 ls []) by rw [ecc, ess] at hgo; exact hgo
  have ⟨pu, qu, _, _⟩ := mo_J5_toString hm
  have hB8 : ∀ (h : CH) (y0 : Nat) (cc ss : Nat) (H : Heap) (locs : List Loc) (ls : Array Slot), m_J5_toString_8 f h y0 = some (r0, u9) → CW D dA A s h H locs → cc + u.1 = h.1 → ss + u.2.1 = h.2.1 → lv_has ls 1 [] → W p l e (rm_J5_toString (u9.1 - u.1) (u9.2.1 - u.2.1)) s m args below meth c H locs cc ss QQ (F0 m 8 ls [.ref y0]) := by
    intro h y0 cc ss H locs ls hm hw hcc hss hl
    have hmo := mo_J5_toString_8  h y0 _ hm
    have sb_ : h.1 ≤ u9.1 := hmo.1
    have tb_ : h.2.1 ≤ u9.2.1 := hmo.2.1
    rw [m_J5_toString_8] at hm
    obtain ⟨er, eh⟩ := retE hm
    have ec : cc = u9.1 - u.1 := by rw [← eh]; omega
    have es : ss = u9.2.1 - u.2.1 := by rw [← eh]; omega
    rw [ec, es, ← hQ]
    exact W.aret (v := .ref y0) hx hb hr (Or.inl ⟨_, rfl⟩) (Or.inr ⟨_, rfl⟩) (fun t ht hW => ⟨⟨h, y0, rfl, eh, er, ⟨by rw [ht]; exact hw.1, by rw [ht]; exact hw.2.1⟩⟩, hw.2.2.1.F ht⟩) hw.2.2.1.2.2 dJ5_toString_8
  have hB3 : ∀ (h : CH) (x0 : Nat) (y0 : Nat) (cc ss : Nat) (H : Heap) (locs : List Loc) (ls : Array Slot), m_J5_toString_3 f h x0 y0 = some (r0, u9) → CW D dA A s h H locs → cc + u.1 = h.1 → ss + u.2.1 = h.2.1 → lv_has ls 1 [(0, .ref x0)] → W p l e (rm_J5_toString (u9.1 - u.1) (u9.2.1 - u.2.1)) s m args below meth c H locs cc ss QQ (F0 m 3 ls [.ref y0]) := by
    intro h x0 y0 cc ss H locs ls hm hw hcc hss hl
    have hmo := mo_J5_toString_3  h x0 y0 _ hm
    have sb_ : h.1 ≤ u9.1 := hmo.1
    have tb_ : h.2.1 ≤ u9.2.1 := hmo.2.1
    rw [m_J5_toString_3] at hm
    refine lv_dup hx hb dJ5_toString_3 rfl ?_
    refine lv_aload_n hx hb dJ5_toString_4 rfl (lv_at hl 0 rfl) ?_
    obtain ⟨h1, eh1, hm⟩ := bdE hm
    have lh1 := mo_J6_init eh1
    have ph1 : h.1 ≤ h1.1 := lh1.1
    have qh1 : h.2.1 ≤ h1.2.1 := lh1.2.1
    have hmo := mo_J5_toString_8   h1 y0 _ hm
    have sh1 : h1.1 ≤ u9.1 := hmo.1
    have th1 : h1.2.1 ≤ u9.2.1 := hmo.2.1
    refine cg_callv hw lh1 (va_runI (As := [.ref x0]) (rest := [.ref y0]) ⟨hx, hb, hml, hown, hts⟩ (w_J6_init l eh1) (cw_J6_init hts q496 ⟨Nat.le_of_ble_eq_true rfl, Nat.le_of_ble_eq_true rfl⟩) (cg_preS C hw _) rfl rfl hl.1 rfl (lv_room (Nat.le_of_ble_eq_true rfl)) dJ5_toString_5 ⟨show cc + (h1.1 - h.1) ≤ u9.1 - u.1 by omega, show ss + (h1.2.1 - h.2.1) ≤ u9.2.1 - u.2.1 by omega⟩) (fun H locs hw => ?_)
    exact hB8 h1 y0 _ _ _ _ _ hm hw (by omega) (by omega) (lv_sub hl [] rfl)
  rw [m_J5_toString] at hm
  obtain ⟨h1, eh1, hm⟩ := nmE hm
  obtain ⟨_, _, hmq⟩ := nmE hm
  have hmo := mo_J5_toString_3   h1 x0 _ _ hmq
  have sh1 : h1.1 ≤ u9.1 := hmo.1
  have th1 : h1.2.1 ≤ u9.2.1 := hmo.2.1
  have zh1 := cn_sz eh1
  refine cg_new (C0 := C) hw (ci := 19) (fs := [.null, .int 0, .int 0, .int 0]) rfl in_J6 tyJ6 tyJ6_ok q494 q495 q131 (fun j hj => by rcases (show j = 0 ∨ j = 1 ∨ j = 2 ∨ j = 3 by omega) with rfl | rfl | rfl | rfl <;> rfl) (show cc + 1 ≤ u9.1 - u.1 by omega) (show ss + 4 ≤ u9.2.1 - u.2.1 by omega) dJ5_toString_0 (fun H hw => ?_)
  rw [← eh1] at hw
  refine lv_topr (fun a2 ea2 => ?_)
  have hm := nmK hm ea2
  exact hB3 h1 x0 a2 _ _ _ _ _ hm hw (by omega) (by omega) (lv_sub hl [0] rfl)
def m_J11_canEncode_12 (f : Nat) (h : CH) (y0 : Int32) : Option (Int32 × CH) := gd (zb y0) <|
    some (y0, h)
theorem mo_J11_canEncode_12 {f : Nat} : ∀ (h : CH) (y0 : Int32) (r : (Int32 × CH)), m_J11_canEncode_12 f h y0 = some r → le2 h r.2 := by
  intro h y0 r hm
  rw [m_J11_canEncode_12] at hm
  obtain ⟨g1, hm⟩ := gdE hm
  cases hm
  exact le2.rf
def m_J11_canEncode (f : Nat) (u : CH) (x0 : Int32) : Option (Int32 × CH) := if (255 : Int32) < x0 then
    m_J11_canEncode_12 f u (0 : Int32)
    else m_J11_canEncode_12 f u (1 : Int32)
theorem mo_J11_canEncode {f : Nat} {u : CH} {x0 : Int32} {r0 : Int32} {u9 : CH} (hm : m_J11_canEncode f u x0 = some (r0, u9)) : le2 u u9 := by
  rw [m_J11_canEncode] at hm
  by_cases c1 : (255 : Int32) < x0
  · have hm := ifT hm c1
    exact (mo_J11_canEncode_12  u (0 : Int32) _ hm)
  · have hm := ifF hm c1
    exact (mo_J11_canEncode_12  u (1 : Int32) _ hm)
abbrev rm_J11_canEncode (mc ms : Nat) : Room := { frames := 0, cells := mc, slots := ms, locals := 0 }
theorem cw_J11_canEncode {R : Room} {s : State} {args : Array Value} {own : String} {idx mc ms : Nat} (hts : ∀ w ∈ lw_all, w.before args s = true) (hl : Cond.methodLink own idx yJ11_canEncode ∈ lw_all) (hR : 0 + 1 ≤ R.frames ∧ 8 + (1 + 11) + 0 ≤ R.locals) : CallB R s args own idx yJ11_canEncode cJ11_canEncode 1 (Option.some Jvm.ClassFile.FieldType.boolean) (ws_ yJ11_canEncode cJ11_canEncode 1 (Option.some Jvm.ClassFile.FieldType.boolean)) (rm_J11_canEncode mc ms) mc ms 1 ∧ (Cond.static yJ11_canEncode).before args s = true := va_cwS 1 hts (lw_S hl q443 q137 q444) rfl rfl rfl (by decide +kernel) hR
set_option maxHeartbeats 4000000 in
set_option maxRecDepth 100000 in
theorem w_J11_canEncode (l : Launch) {D : va_G} {dA : Nat → ClassId} {A : Nat → Prop} {f : Nat} {u u9 : CH} {r0 : Int32} {x0 : Int32} (hm : m_J11_canEncode f u x0 = some (r0, u9)) : Met l yJ11_canEncode (ws_ yJ11_canEncode cJ11_canEncode 1 (Option.some Jvm.ClassFile.FieldType.boolean)) (rm_J11_canEncode (u9.1 - u.1) (u9.2.1 - u.2.1)) (va_Pc [.int x0] (CPre D dA A u)) (va_Qi (fun r u => r = r0 ∧ u = u9) (CPost D dA A) A) (u9.1 - u.1) (u9.2.1 - u.2.1) A := by
  refine metOfWF (cc := cJ11_canEncode) (maxL := 1) (ret := (Option.some Jvm.ClassFile.FieldType.boolean)) (by decide +kernel) rfl ?_
  intro p e s m args below meth c s₁ B hml hv
  have hx := B.exec
  have hb := B.bytes
  have hr := B.returns
  have hts := atoms_spec (ws := (ws_ yJ11_canEncode cJ11_canEncode 1 (Option.some Jvm.ClassFile.FieldType.boolean))) B.pre
  have hts : ∀ w ∈ lw_all, w.before args s = true := fun w h => hts w (List.mem_cons_of_mem _ h)
  have hown : s.vm.findClass RJ11 = some m.cls := findClass_of_methodNamed B.named
  have hlocks := B.notSynchronized
  obtain ⟨hav, hv⟩ := hv
  have C : CX p s m args c cJ11_canEncode RJ11 D dA := ⟨hx, hb, hown, hts, hv.2⟩
  have hw : CW D dA A s u s.heap [] := hv.1
  generalize hQ : MQ below (va_Qi (fun r u => r = r0 ∧ u = u9) (CPost D dA A) A) args s (u9.1 - u.1) (u9.2.1 - u.2.1) A = QQ
  have hent := lg_entry_eq m [.int x0] 1
  rw [← hav] at hent
  rw [hent]
  have hl := lv_entry ([.int x0]) (n := 1) (Nat.le_of_ble_eq_true rfl)
  generalize (lg_sl ([.int x0]) ++ List.replicate (1 - (lg_sl ([.int x0])).length) Slot.unset).toArray = ls at hl ⊢
  have hl : lv_has ls 1 [(0, .int x0)] := hl
  obtain ⟨cc, ecc⟩ : ∃ z : Nat, z = 0 := ⟨0, rfl⟩
  obtain ⟨ss, ess⟩ : ∃ z : Nat, z = 0 := ⟨0, rfl⟩
  have hcc : cc + u.1 = u.1 := by omega
  have hss : ss + u.2.1 = u.2.1 := by omega
  suffices hgo : W p l e (rm_J11_canEncode (u9.1 - u.1) (u9.2.1 - u.2.1)) s m args below meth c s.heap [] cc ss QQ (F0 m 0 ls []) by rw [ecc, ess] at hgo; exact hgo
  have ⟨pu, qu, _, _⟩ := mo_J11_canEncode hm
  have hB12 : ∀ (h : CH) (y0 : Int32) (cc ss : Nat) (H : Heap) (locs : List Loc) (ls : Array Slot), m_J11_canEncode_12 f h y0 = some (r0, u9) → CW D dA A s h H locs → cc + u.1 = h.1 → ss + u.2.1 = h.2.1 → lv_has ls 1 [] → W p l e (rm_J11_canEncode (u9.1 - u.1) (u9.2.1 - u.2.1)) s m args below meth c H locs cc ss QQ (F0 m 12 ls [.int y0]) := by
    intro h y0 cc ss H locs ls hm hw hcc hss hl
    have hmo := mo_J11_canEncode_12  h y0 _ hm
    have sb_ : h.1 ≤ u9.1 := hmo.1
    have tb_ : h.2.1 ≤ u9.2.1 := hmo.2.1
    rw [m_J11_canEncode_12] at hm
    obtain ⟨g1, hm⟩ := gdE hm
    obtain ⟨er, eh⟩ := retE hm
    have ec : cc = u9.1 - u.1 := by rw [← eh]; omega
    have es : ss = u9.2.1 - u.2.1 := by rw [← eh]; omega
    rw [ec, es, ← hQ]
    exact W.zret (v := y0) hx hb hr (zb_nar g1) (fun t ht hW => ⟨⟨y0, h, rfl, ⟨er, eh⟩, ⟨by rw [ht]; exact hw.1, by rw [ht]; exact hw.2.1⟩⟩, hw.2.2.1.F ht⟩) hw.2.2.1.2.2 dJ11_canEncode_12
  rw [m_J11_canEncode] at hm
  refine lv_iload_n hx hb dJ11_canEncode_0 rfl (lv_at hl 0 rfl) ?_
  refine lv_sipush (v := 255) hx hb dJ11_canEncode_1 (by decide) ?_
  refine lv_icmp_gt (tgt := 11) hx hb dJ11_canEncode_4 (by decide) (fun c1 => ?_) (fun c1 => ?_)
  · have hm := ifT hm c1
    refine lv_iconst (v := 0) hx hb dJ11_canEncode_11 (by decide) ?_
    exact hB12 u (0 : Int32) _ _ _ _ _ hm hw (by omega) (by omega) (lv_sub hl [] rfl)
  · have hm := ifF hm c1
    refine lv_iconst (v := 1) hx hb dJ11_canEncode_7 (by decide) ?_
    refine lv_goto (tgt := 12) hx hb dJ11_canEncode_8 (by decide) ?_
    exact hB12 u (1 : Int32) _ _ _ _ _ hm hw (by omega) (by omega) (lv_sub hl [] rfl)
def m_J10_copyOf_17 (f : Nat) (h : CH) (x0 : Nat) (x1 : Int32) (y0 : Nat) : Option (Nat × CH) := bd (aN h 2 x0) fun n1 =>
    bd (m_J9_min f (Int32.ofNat n1) x1) fun r2 =>
    bd (cpB h x0 (0 : Int32) y0 (0 : Int32) r2) fun h3 =>
    some (y0, h3)
theorem mo_J10_copyOf_17 {f : Nat} : ∀ (h : CH) (x0 : Nat) (x1 : Int32) (y0 : Nat) (r : (Nat × CH)), m_J10_copyOf_17 f h x0 x1 y0 = some r → le2 h r.2 := by
  intro h x0 x1 y0 r hm
  rw [m_J10_copyOf_17] at hm
  obtain ⟨n1, en1, hm⟩ := bdE hm
  obtain ⟨r2, er2, hm⟩ := bdE hm
  obtain ⟨h3, eh3, hm⟩ := bdE hm
  have lh3 := cpB_le eh3
  cases hm
  exact (lh3.tr le2.rf)
def m_J10_copyOf_10 (f : Nat) (h : CH) (y0 : Nat) : Option (Nat × CH) := gd (isA2 h y0) <|
    some (y0, h)
theorem mo_J10_copyOf_10 {f : Nat} : ∀ (h : CH) (y0 : Nat) (r : (Nat × CH)), m_J10_copyOf_10 f h y0 = some r → le2 h r.2 := by
  intro h y0 r hm
  rw [m_J10_copyOf_10] at hm
  obtain ⟨g1, hm⟩ := gdE hm
  cases hm
  exact le2.rf
def m_J10_copyOf (f : Nat) (u : CH) (x0 : Nat) (x1 : Int32) : Option (Nat × CH) := bd (aN u 2 x0) fun n1 =>
    if ¬ x1 = (Int32.ofNat n1) then
    gd (cntok x1) <|
    nmv (cn u (Int32.toNatClampNeg x1) (.inr (2, (Int32.toNatClampNeg x1), .inl (fun _ => 0)))) fun h3 =>
    nmv (u.1 : Nat) fun a5 =>
    m_J10_copyOf_17 f h3 x0 x1 a5
    else bd (clB u x0) fun h6 =>
    nmv (u.1 : Nat) fun a7 =>
    m_J10_copyOf_10 f h6 a7
theorem mo_J10_copyOf {f : Nat} {u : CH} {x0 : Nat} {x1 : Int32} {r0 : Nat} {u9 : CH} (hm : m_J10_copyOf f u x0 x1 = some (r0, u9)) : le2 u u9 := by
  rw [m_J10_copyOf] at hm
  obtain ⟨n1, en1, hm⟩ := bdE hm
  by_cases c2 : ¬ x1 = (Int32.ofNat n1)
  · have hm := ifT hm c2
    obtain ⟨g4, hm⟩ := gdE hm
    obtain ⟨h3, eh3, hm⟩ := nmE hm
    have lh3 := cn_le eh3
    obtain ⟨a5, ea5, hm⟩ := nmE hm
    exact (lh3.tr (mo_J10_copyOf_17  h3 x0 x1 a5 _ hm))
  · have hm := ifF hm c2
    obtain ⟨h6, eh6, hm⟩ := bdE hm
    have lh6 := clB_le eh6
    obtain ⟨a7, ea7, hm⟩ := nmE hm
    exact (lh6.tr (mo_J10_copyOf_10  h6 a7 _ hm))
abbrev rm_J10_copyOf (mc ms : Nat) : Room := { frames := 1, cells := mc, slots := ms, locals := 60 }
theorem cw_J10_copyOf {R : Room} {s : State} {args : Array Value} {own : String} {idx mc ms : Nat} (hts : ∀ w ∈ lw_all, w.before args s = true) (hl : Cond.methodLink own idx yJ10_copyOf ∈ lw_all) (hR : 1 + 1 ≤ R.frames ∧ 8 + (3 + 11) + 60 ≤ R.locals) : CallB R s args own idx yJ10_copyOf cJ10_copyOf 3 (Option.some (Jvm.ClassFile.FieldType.array Jvm.ClassFile.FieldType.byte)) (ws_ yJ10_copyOf cJ10_copyOf 3 (Option.some (Jvm.ClassFile.FieldType.array Jvm.ClassFile.FieldType.byte))) (rm_J10_copyOf mc ms) mc ms 2 ∧ (Cond.static yJ10_copyOf).before args s = true := va_cwS 2 hts (lw_S hl q422 q135 q423) rfl rfl rfl (by decide +kernel) hR
set_option maxHeartbeats 4000000 in
set_option maxRecDepth 100000 in
theorem w_J10_copyOf (l : Launch) {D : va_G} {dA : Nat → ClassId} {A : Nat → Prop} {f : Nat} {u u9 : CH} {r0 : Nat} {x0 : Nat} {x1 : Int32} (hm : m_J10_copyOf f u x0 x1 = some (r0, u9)) : Met l yJ10_copyOf (ws_ yJ10_copyOf cJ10_copyOf 3 (Option.some (Jvm.ClassFile.FieldType.array Jvm.ClassFile.FieldType.byte))) (rm_J10_copyOf (u9.1 - u.1) (u9.2.1 - u.2.1)) (va_Pc [.ref x0, .int x1] (CPre D dA A u)) (va_Qr (fun u => u = u9) (fun u r t => r = r0 ∧ CPost D dA A u t) A) (u9.1 - u.1) (u9.2.1 - u.2.1) A := by
  refine metOfWF (cc := cJ10_copyOf) (maxL := 3) (ret := (Option.some (Jvm.ClassFile.FieldType.array Jvm.ClassFile.FieldType.byte))) (by decide +kernel) rfl ?_
  intro p e s m args below meth c s₁ B hml hv
  have hx := B.exec
  have hb := B.bytes
  have hr := B.returns
  have hts := atoms_spec (ws := (ws_ yJ10_copyOf cJ10_copyOf 3 (Option.some (Jvm.ClassFile.FieldType.array Jvm.ClassFile.FieldType.byte)))) B.pre
  have hts : ∀ w ∈ lw_all, w.before args s = true := fun w h => hts w (List.mem_cons_of_mem _ h)
  have hown : s.vm.findClass RJ10 = some m.cls := findClass_of_methodNamed B.named
  have hlocks := B.notSynchronized
  obtain ⟨hav, hv⟩ := hv
  have C : CX p s m args c cJ10_copyOf RJ10 D dA := ⟨hx, hb, hown, hts, hv.2⟩
  have hw : CW D dA A s u s.heap [] := hv.1
  generalize hQ : MQ below (va_Qr (fun u => u = u9) (fun u r t => r = r0 ∧ CPost D dA A u t) A) args s (u9.1 - u.1) (u9.2.1 - u.2.1) A = QQ
  have hent := lg_entry_eq m [.ref x0, .int x1] 3
  rw [← hav] at hent
  rw [hent]
  have hl := lv_entry ([.ref x0, .int x1]) (n := 3) (Nat.le_of_ble_eq_true rfl)
  generalize (lg_sl ([.ref x0, .int x1]) ++ List.replicate (3 - (lg_sl ([.ref x0, .int x1])).length) Slot.unset).toArray = ls at hl ⊢
  have hl : lv_has ls 3 [(0, .ref x0), (1, .int x1)] := hl
  obtain ⟨cc, ecc⟩ : ∃ z : Nat, z = 0 := ⟨0, rfl⟩
  obtain ⟨ss, ess⟩ : ∃ z : Nat, z = 0 := ⟨0, rfl⟩
  have hcc : cc + u.1 = u.1 := by omega
  have hss : ss + u.2.1 = u.2.1 := by omega
  suffices hgo : W p l e (rm_J10_copyOf (u9.1 - u.1) (u9.2.1 - u.2.1)) s m args below meth c s.heap [] cc ss QQ (F0 m 0 ls []) by rw [ecc, ess] at hgo; exact hgo
  have ⟨pu, qu, _, _⟩ := mo_J10_copyOf hm
  have hB17 : ∀ (h : CH) (x0 : Nat) (x1 : Int32) (y0 : Nat) (cc ss : Nat) (H : Heap) (locs : List Loc) (ls : Array Slot), m_J10_copyOf_17 f h x0 x1 y0 = some (r0, u9) → CW D dA A s h H locs → cc + u.1 = h.1 → ss + u.2.1 = h.2.1 → lv_has ls 3 [(0, .ref x0), (1, .int x1)] → W p l e (rm_J10_copyOf (u9.1 - u.1) (u9.2.1 - u.2.1)) s m args below meth c H locs cc ss QQ (F0 m 17 ls [.ref y0]) := by
    intro h x0 x1 y0 cc ss H locs ls hm hw hcc hss hl
    have hmo := mo_J10_copyOf_17  h x0 x1 y0 _ hm
    have sb_ : h.1 ≤ u9.1 := hmo.1
    have tb_ : h.2.1 ≤ u9.2.1 := hmo.2.1
    rw [m_J10_copyOf_17] at hm
    refine lv_astore_n (lv' := [(2, .ref y0), (0, .ref x0), (1, .int x1)]) hx hb dJ10_copyOf_17 rfl hl (by decide) rfl (fun ls hl => ?_)
    refine lv_aload_n hx hb dJ10_copyOf_18 rfl (lv_at hl 1 rfl) ?_
    refine lv_iconst (v := 0) hx hb dJ10_copyOf_19 (by decide) ?_
    refine lv_aload_n hx hb dJ10_copyOf_20 rfl (lv_at hl 0 rfl) ?_
    refine lv_iconst (v := 0) hx hb dJ10_copyOf_21 (by decide) ?_
    refine lv_aload_n hx hb dJ10_copyOf_22 rfl (lv_at hl 1 rfl) ?_
    obtain ⟨n1, en1, hm⟩ := bdE hm
    refine cg_alen C hw (ty := .byte) rfl en1 dJ10_copyOf_23 ?_
    refine lv_iload_n hx hb dJ10_copyOf_24 rfl (lv_at hl 2 rfl) ?_
    obtain ⟨r2, er2, hm⟩ := bdE hm
    refine sci (va_runS (As := [.int (Int32.ofNat n1), .int x1]) (rest := [.int (0 : Int32), .ref y0, .int (0 : Int32), .ref x0]) ⟨hx, hb, hml, hown, hts⟩ (w_J9_min l er2) (cw_J9_min hts q431 ⟨Nat.le_of_ble_eq_true rfl, Nat.le_of_ble_eq_true rfl⟩) (pre_s _) rfl rfl hl.1 rfl (lv_room (Nat.le_of_ble_eq_true rfl)) dJ10_copyOf_25 ⟨show cc + 0 ≤ u9.1 - u.1 by omega, show ss + 0 ≤ u9.2.1 - u.2.1 by omega⟩) ?_
    obtain ⟨h3, eh3, hm⟩ := bdE hm
    refine cg_copyB C hw (hml.trans hl.1.symm) q434 q436 q435 q136 eh3 (Nat.le_of_ble_eq_true rfl) (Nat.le_of_ble_eq_true rfl) dJ10_copyOf_28 (fun H locs hw => ?_)
    have zh3 := cpB_sz eh3
    refine lv_aload_n hx hb dJ10_copyOf_31 rfl (lv_at hl 0 rfl) ?_
    obtain ⟨er, eh⟩ := retE hm
    have ec : cc = u9.1 - u.1 := by rw [← eh]; omega
    have es : ss = u9.2.1 - u.2.1 := by rw [← eh]; omega
    rw [ec, es, ← hQ]
    exact W.aret (v := .ref y0) hx hb hr (Or.inr ⟨_, rfl⟩) (Or.inr ⟨_, rfl⟩) (fun t ht hW => ⟨⟨h3, y0, rfl, eh, er, ⟨by rw [ht]; exact hw.1, by rw [ht]; exact hw.2.1⟩⟩, hw.2.2.1.F ht⟩) hw.2.2.1.2.2 dJ10_copyOf_32
  have hB10 : ∀ (h : CH) (y0 : Nat) (cc ss : Nat) (H : Heap) (locs : List Loc) (ls : Array Slot), m_J10_copyOf_10 f h y0 = some (r0, u9) → CW D dA A s h H locs → cc + u.1 = h.1 → ss + u.2.1 = h.2.1 → lv_has ls 3 [] → W p l e (rm_J10_copyOf (u9.1 - u.1) (u9.2.1 - u.2.1)) s m args below meth c H locs cc ss QQ (F0 m 10 ls [.ref y0]) := by
    intro h y0 cc ss H locs ls hm hw hcc hss hl
    have hmo := mo_J10_copyOf_10  h y0 _ hm
    have sb_ : h.1 ≤ u9.1 := hmo.1
    have tb_ : h.2.1 ≤ u9.2.1 := hmo.2.1
    rw [m_J10_copyOf_10] at hm
    obtain ⟨g1, hm⟩ := gdE hm
    refine cg_cast2 C hw g1 q430 dJ10_copyOf_10 ?_
    obtain ⟨er, eh⟩ := retE hm
    have ec : cc = u9.1 - u.1 := by rw [← eh]; omega
    have es : ss = u9.2.1 - u.2.1 := by rw [← eh]; omega
    rw [ec, es, ← hQ]
    exact W.aret (v := .ref y0) hx hb hr (Or.inr ⟨_, rfl⟩) (Or.inr ⟨_, rfl⟩) (fun t ht hW => ⟨⟨h, y0, rfl, eh, er, ⟨by rw [ht]; exact hw.1, by rw [ht]; exact hw.2.1⟩⟩, hw.2.2.1.F ht⟩) hw.2.2.1.2.2 dJ10_copyOf_13
  rw [m_J10_copyOf] at hm
  refine lv_iload_n hx hb dJ10_copyOf_0 rfl (lv_at hl 1 rfl) ?_
  refine lv_aload_n hx hb dJ10_copyOf_1 rfl (lv_at hl 0 rfl) ?_
  obtain ⟨n1, en1, hm⟩ := bdE hm
  refine cg_alen C hw (ty := .byte) rfl en1 dJ10_copyOf_2 ?_
  refine lv_icmp_ne (tgt := 14) hx hb dJ10_copyOf_3 (by decide) (fun c2 => ?_) (fun c2 => ?_)
  · have hm := ifT hm c2
    refine lv_iload_n hx hb dJ10_copyOf_14 rfl (lv_at hl 1 rfl) ?_
    obtain ⟨g4, hm⟩ := gdE hm
    obtain ⟨h3, eh3, hm⟩ := nmE hm
    obtain ⟨_, _, hmq⟩ := nmE hm
    have hmo := mo_J10_copyOf_17   h3 x0 x1 _ _ hmq
    have sh3 : h3.1 ≤ u9.1 := hmo.1
    have th3 : h3.2.1 ≤ u9.2.1 := hmo.2.1
    have zh3 := cn_sz eh3
    refine cg_newB (C0 := C) hw (N := (Int32.toNatClampNeg x1)) (cntok_nn g4) rfl (cntok_le g4) (show cc + 1 ≤ u9.1 - u.1 by omega) (show ss + (Int32.toNatClampNeg x1) ≤ u9.2.1 - u.2.1 by omega) dJ10_copyOf_15 (fun H hw => ?_)
    rw [← eh3] at hw
    refine lv_topr (fun a5 ea5 => ?_)
    have hm := nmK hm ea5
    exact hB17 h3 x0 x1 a5 _ _ _ _ _ hm hw (by omega) (by omega) (lv_sub hl [0, 1] rfl)
  · have hm := ifT' hm c2
    refine lv_aload_n hx hb dJ10_copyOf_6 rfl (lv_at hl 0 rfl) ?_
    obtain ⟨h6, eh6, hm⟩ := bdE hm
    obtain ⟨_, _, hmq⟩ := nmE hm
    have hmo := mo_J10_copyOf_10   h6 _ _ hmq
    have sh6 : h6.1 ≤ u9.1 := hmo.1
    have th6 : h6.2.1 ≤ u9.2.1 := hmo.2.1
    have zh6 := clB_sz eh6
    refine cg_cloneB C hw (hml.trans hl.1.symm) eh6 q424 q425 q426 q427 q428 (hw.2.2.2.2.1 _ (List.mem_of_getElem? (i := 83) rfl)) (Nat.le_of_ble_eq_true rfl) (Nat.le_of_ble_eq_true rfl) (show cc + 1 ≤ u9.1 - u.1 by omega) (show ss + (h6.2.1 - u.2.1) ≤ u9.2.1 - u.2.1 by omega) dJ10_copyOf_7 (fun H hw => ?_)
    refine lv_topr (fun a7 ea7 => ?_)
    have hm := nmK hm ea7
    exact hB10 h6 a7 _ _ _ _ _ hm hw (by omega) (by omega) (lv_sub hl [] rfl)
def m_J9_max_10 (f : Nat) (h : CH) (y0 : Int32) : Option (Int32 × CH) := some (y0, h)
theorem mo_J9_max_10 {f : Nat} : ∀ (h : CH) (y0 : Int32) (r : (Int32 × CH)), m_J9_max_10 f h y0 = some r → le2 h r.2 := by
  intro h y0 r hm
  rw [m_J9_max_10] at hm
  cases hm
  exact le2.rf
def m_J9_max (f : Nat) (u : CH) (x0 : Int32) (x1 : Int32) : Option (Int32 × CH) := if x0 < x1 then
    m_J9_max_10 f u x1
    else m_J9_max_10 f u x0
theorem mo_J9_max {f : Nat} {u : CH} {x0 : Int32} {x1 : Int32} {r0 : Int32} {u9 : CH} (hm : m_J9_max f u x0 x1 = some (r0, u9)) : le2 u u9 := by
  rw [m_J9_max] at hm
  by_cases c1 : x0 < x1
  · have hm := ifT hm c1
    exact (mo_J9_max_10  u x1 _ hm)
  · have hm := ifF hm c1
    exact (mo_J9_max_10  u x0 _ hm)
abbrev rm_J9_max (mc ms : Nat) : Room := { frames := 0, cells := mc, slots := ms, locals := 0 }
theorem cw_J9_max {R : Room} {s : State} {args : Array Value} {own : String} {idx mc ms : Nat} (hts : ∀ w ∈ lw_all, w.before args s = true) (hl : Cond.methodLink own idx yJ9_max ∈ lw_all) (hR : 0 + 1 ≤ R.frames ∧ 8 + (2 + 11) + 0 ≤ R.locals) : CallB R s args own idx yJ9_max cJ9_max 2 (Option.some Jvm.ClassFile.FieldType.int) (ws_ yJ9_max cJ9_max 2 (Option.some Jvm.ClassFile.FieldType.int)) (rm_J9_max mc ms) mc ms 2 ∧ (Cond.static yJ9_max).before args s = true := va_cwS 2 hts (lw_S hl q414 q134 q415) rfl rfl rfl (by decide +kernel) hR
set_option maxHeartbeats 4000000 in
set_option maxRecDepth 100000 in
theorem w_J9_max (l : Launch) {D : va_G} {dA : Nat → ClassId} {A : Nat → Prop} {f : Nat} {u u9 : CH} {r0 : Int32} {x0 : Int32} {x1 : Int32} (hm : m_J9_max f u x0 x1 = some (r0, u9)) : Met l yJ9_max (ws_ yJ9_max cJ9_max 2 (Option.some Jvm.ClassFile.FieldType.int)) (rm_J9_max (u9.1 - u.1) (u9.2.1 - u.2.1)) (va_Pc [.int x0, .int x1] (CPre D dA A u)) (va_Qi (fun r u => r = r0 ∧ u = u9) (CPost D dA A) A) (u9.1 - u.1) (u9.2.1 - u.2.1) A := by
  refine metOfWF (cc := cJ9_max) (maxL := 2) (ret := (Option.some Jvm.ClassFile.FieldType.int)) (by decide +kernel) rfl ?_
  intro p e s m args below meth c s₁ B hml hv
  have hx := B.exec
  have hb := B.bytes
  have hr := B.returns
  have hts := atoms_spec (ws := (ws_ yJ9_max cJ9_max 2 (Option.some Jvm.ClassFile.FieldType.int))) B.pre
  have hts : ∀ w ∈ lw_all, w.before args s = true := fun w h => hts w (List.mem_cons_of_mem _ h)
  have hown : s.vm.findClass RJ9 = some m.cls := findClass_of_methodNamed B.named
  have hlocks := B.notSynchronized
  obtain ⟨hav, hv⟩ := hv
  have C : CX p s m args c cJ9_max RJ9 D dA := ⟨hx, hb, hown, hts, hv.2⟩
  have hw : CW D dA A s u s.heap [] := hv.1
  generalize hQ : MQ below (va_Qi (fun r u => r = r0 ∧ u = u9) (CPost D dA A) A) args s (u9.1 - u.1) (u9.2.1 - u.2.1) A = QQ
  have hent := lg_entry_eq m [.int x0, .int x1] 2
  rw [← hav] at hent
  rw [hent]
  have hl := lv_entry ([.int x0, .int x1]) (n := 2) (Nat.le_of_ble_eq_true rfl)
  generalize (lg_sl ([.int x0, .int x1]) ++ List.replicate (2 - (lg_sl ([.int x0, .int x1])).length) Slot.unset).toArray = ls at hl ⊢
  have hl : lv_has ls 2 [(0, .int x0), (1, .int x1)] := hl
  obtain ⟨cc, ecc⟩ : ∃ z : Nat, z = 0 := ⟨0, rfl⟩
  obtain ⟨ss, ess⟩ : ∃ z : Nat, z = 0 := ⟨0, rfl⟩
  have hcc : cc + u.1 = u.1 := by omega
  have hss : ss + u.2.1 = u.2.1 := by omega
  suffices hgo : W p l e (rm_J9_max (u9.1 - u.1) (u9.2.1 - u.2.1)) s m args below meth c s.heap [] cc ss QQ (F0 m 0 ls []) by rw [ecc, ess] at hgo; exact hgo
  have ⟨pu, qu, _, _⟩ := mo_J9_max hm
  have hB10 : ∀ (h : CH) (y0 : Int32) (cc ss : Nat) (H : Heap) (locs : List Loc) (ls : Array Slot), m_J9_max_10 f h y0 = some (r0, u9) → CW D dA A s h H locs → cc + u.1 = h.1 → ss + u.2.1 = h.2.1 → lv_has ls 2 [] → W p l e (rm_J9_max (u9.1 - u.1) (u9.2.1 - u.2.1)) s m args below meth c H locs cc ss QQ (F0 m 10 ls [.int y0]) := by
    intro h y0 cc ss H locs ls hm hw hcc hss hl
    have hmo := mo_J9_max_10  h y0 _ hm
    have sb_ : h.1 ≤ u9.1 := hmo.1
    have tb_ : h.2.1 ≤ u9.2.1 := hmo.2.1
    rw [m_J9_max_10] at hm
    obtain ⟨er, eh⟩ := retE hm
    have ec : cc = u9.1 - u.1 := by rw [← eh]; omega
    have es : ss = u9.2.1 - u.2.1 := by rw [← eh]; omega
    rw [ec, es, ← hQ]
    exact W.iret (v := y0) hx hb hr (fun t ht hW => ⟨⟨y0, h, rfl, ⟨er, eh⟩, ⟨by rw [ht]; exact hw.1, by rw [ht]; exact hw.2.1⟩⟩, hw.2.2.1.F ht⟩) hw.2.2.1.2.2 dJ9_max_10
  rw [m_J9_max] at hm
  refine lv_iload_n hx hb dJ9_max_0 rfl (lv_at hl 0 rfl) ?_
  refine lv_iload_n hx hb dJ9_max_1 rfl (lv_at hl 1 rfl) ?_
  refine lv_icmp_lt (tgt := 9) hx hb dJ9_max_2 (by decide) (fun c1 => ?_) (fun c1 => ?_)
  · have hm := ifT hm c1
    refine lv_iload_n hx hb dJ9_max_9 rfl (lv_at hl 1 rfl) ?_
    exact hB10 u x1 _ _ _ _ _ hm hw (by omega) (by omega) (lv_sub hl [] rfl)
  · have hm := ifF hm c1
    refine lv_iload_n hx hb dJ9_max_5 rfl (lv_at hl 0 rfl) ?_
    refine lv_goto (tgt := 10) hx hb dJ9_max_6 (by decide) ?_
    exact hB10 u x0 _ _ _ _ _ hm hw (by omega) (by omega) (lv_sub hl [] rfl)
def m_J8_newLength_21 (f : Nat) (h : CH) (x0 : Int32) (x1 : Int32) : Option (Int32 × CH) := none
theorem mo_J8_newLength_21 {f : Nat} : ∀ (h : CH) (x0 : Int32) (x1 : Int32) (r : (Int32 × CH)), m_J8_newLength_21 f h x0 x1 = some r → le2 h r.2 := by
  intro h x0 x1 r hm
  rw [m_J8_newLength_21] at hm
  exact noE hm
def m_J8_newLength_6 (f : Nat) (h : CH) (x0 : Int32) (x1 : Int32) (y0 : Int32) (y1 : Int32) : Option (Int32 × CH) := nmv ((y0 + y1) : Int32) fun v1 =>
    if v1 ≤ (0 : Int32) then
    m_J8_newLength_21 f h x0 x1
    else if (2147483639 : Int32) < v1 then
    m_J8_newLength_21 f h x0 x1
    else some (v1, h)
theorem mo_J8_newLength_6 {f : Nat} : ∀ (h : CH) (x0 : Int32) (x1 : Int32) (y0 : Int32) (y1 : Int32) (r : (Int32 × CH)), m_J8_newLength_6 f h x0 x1 y0 y1 = some r → le2 h r.2 := by
  intro h x0 x1 y0 y1 r hm
  rw [m_J8_newLength_6] at hm
  obtain ⟨v1, ev1, hm⟩ := nmE hm
  by_cases c2 : v1 ≤ (0 : Int32)
  · have hm := ifT hm c2
    exact (mo_J8_newLength_21  h x0 x1 _ hm)
  · have hm := ifF hm c2
    by_cases c3 : (2147483639 : Int32) < v1
    · have hm := ifT hm c3
      exact (mo_J8_newLength_21  h x0 x1 _ hm)
    · have hm := ifF hm c3
      cases hm
      exact le2.rf
def m_J8_newLength (f : Nat) (u : CH) (x0 : Int32) (x1 : Int32) (x2 : Int32) : Option (Int32 × CH) := bd2 (m_J9_max f u x1 x2) fun r2 h1 =>
    m_J8_newLength_6 f h1 x0 x1 x0 r2
theorem mo_J8_newLength {f : Nat} {u : CH} {x0 : Int32} {x1 : Int32} {x2 : Int32} {r0 : Int32} {u9 : CH} (hm : m_J8_newLength f u x0 x1 x2 = some (r0, u9)) : le2 u u9 := by
  rw [m_J8_newLength] at hm
  obtain ⟨r2, h1, er2, hm⟩ := bd2E hm
  have lh1 := mo_J9_max er2
  exact (lh1.tr (mo_J8_newLength_6  h1 x0 x1 x0 r2 _ hm))
abbrev rm_J8_newLength (mc ms : Nat) : Room := { frames := 1, cells := mc, slots := ms, locals := 21 }
theorem cw_J8_newLength {R : Room} {s : State} {args : Array Value} {own : String} {idx mc ms : Nat} (hts : ∀ w ∈ lw_all, w.before args s = true) (hl : Cond.methodLink own idx yJ8_newLength ∈ lw_all) (hR : 1 + 1 ≤ R.frames ∧ 8 + (4 + 11) + 21 ≤ R.locals) : CallB R s args own idx yJ8_newLength cJ8_newLength 4 (Option.some Jvm.ClassFile.FieldType.int) (ws_ yJ8_newLength cJ8_newLength 4 (Option.some Jvm.ClassFile.FieldType.int)) (rm_J8_newLength mc ms) mc ms 3 ∧ (Cond.static yJ8_newLength).before args s = true := va_cwS 3 hts (lw_S hl q411 q133 q412) rfl rfl rfl (by decide +kernel) hR
set_option maxHeartbeats 4000000 in
set_option maxRecDepth 100000 in
theorem w_J8_newLength (l : Launch) {D : va_G} {dA : Nat → ClassId} {A : Nat → Prop} {f : Nat} {u u9 : CH} {r0 : Int32} {x0 : Int32} {x1 : Int32} {x2 : Int32} (hm : m_J8_newLength f u x0 x1 x2 = some (r0, u9)) : Met l yJ8_newLength (ws_ yJ8_newLength cJ8_newLength 4 (Option.some Jvm.ClassFile.FieldType.int)) (rm_J8_newLength (u9.1 - u.1) (u9.2.1 - u.2.1)) (va_Pc [.int x0, .int x1, .int x2] (CPre D dA A u)) (va_Qi (fun r u => r = r0 ∧ u = u9) (CPost D dA A) A) (u9.1 - u.1) (u9.2.1 - u.2.1) A := by
  refine metOfWF (cc := cJ8_newLength) (maxL := 4) (ret := (Option.some Jvm.ClassFile.FieldType.int)) (by decide +kernel) rfl ?_
  intro p e s m args below meth c s₁ B hml hv
  have hx := B.exec
  have hb := B.bytes
  have hr := B.returns
  have hts := atoms_spec (ws := (ws_ yJ8_newLength cJ8_newLength 4 (Option.some Jvm.ClassFile.FieldType.int))) B.pre
  have hts : ∀ w ∈ lw_all, w.before args s = true := fun w h => hts w (List.mem_cons_of_mem _ h)
  have hown : s.vm.findClass RJ8 = some m.cls := findClass_of_methodNamed B.named
  have hlocks := B.notSynchronized
  obtain ⟨hav, hv⟩ := hv
  have C : CX p s m args c cJ8_newLength RJ8 D dA := ⟨hx, hb, hown, hts, hv.2⟩
  have hw : CW D dA A s u s.heap [] := hv.1
  generalize hQ : MQ below (va_Qi (fun r u => r = r0 ∧ u = u9) (CPost D dA A) A) args s (u9.1 - u.1) (u9.2.1 - u.2.1) A = QQ
  have hent := lg_entry_eq m [.int x0, .int x1, .int x2] 4
  rw [← hav] at hent
  rw [hent]
  have hl := lv_entry ([.int x0, .int x1, .int x2]) (n := 4) (Nat.le_of_ble_eq_true rfl)
  generalize (lg_sl ([.int x0, .int x1, .int x2]) ++ List.replicate (4 - (lg_sl ([.int x0, .int x1, .int x2])).length) Slot.unset).toArray = ls at hl ⊢
  have hl : lv_has ls 4 [(0, .int x0), (1, .int x1), (2, .int x2)] := hl
  obtain ⟨cc, ecc⟩ : ∃ z : Nat, z = 0 := ⟨0, rfl⟩
  obtain ⟨ss, ess⟩ : ∃ z : Nat, z = 0 := ⟨0, rfl⟩
  have hcc : cc + u.1 = u.1 := by omega
  have hss : ss + u.2.1 = u.2.1 := by omega
  suffices hgo : W p l e (rm_J8_newLength (u9.1 - u.1) (u9.2.1 - u.2.1)) s m args below meth c s.heap [] cc ss QQ (F0 m 0 ls []) by rw [ecc, ess] at hgo; exact hgo
  have ⟨pu, qu, _, _⟩ := mo_J8_newLength hm
  have hB21 : ∀ (h : CH) (x0 : Int32) (x1 : Int32) (cc ss : Nat) (H : Heap) (locs : List Loc) (ls : Array Slot), m_J8_newLength_21 f h x0 x1 = some (r0, u9) → CW D dA A s h H locs → cc + u.1 = h.1 → ss + u.2.1 = h.2.1 → lv_has ls 4 [(0, .int x0), (1, .int x1)] → W p l e (rm_J8_newLength (u9.1 - u.1) (u9.2.1 - u.2.1)) s m args below meth c H locs cc ss QQ (F0 m 21 ls []) := by
    intro h x0 x1 cc ss H locs ls hm hw hcc hss hl
    have hmo := mo_J8_newLength_21  h x0 x1 _ hm
    have sb_ : h.1 ≤ u9.1 := hmo.1
    have tb_ : h.2.1 ≤ u9.2.1 := hmo.2.1
    rw [m_J8_newLength_21] at hm
    refine lv_iload_n hx hb dJ8_newLength_21 rfl (lv_at hl 0 rfl) ?_
    refine lv_iload_n hx hb dJ8_newLength_22 rfl (lv_at hl 1 rfl) ?_
    exact noE hm
  have hB6 : ∀ (h : CH) (x0 : Int32) (x1 : Int32) (y0 : Int32) (y1 : Int32) (cc ss : Nat) (H : Heap) (locs : List Loc) (ls : Array Slot), m_J8_newLength_6 f h x0 x1 y0 y1 = some (r0, u9) → CW D dA A s h H locs → cc + u.1 = h.1 → ss + u.2.1 = h.2.1 → lv_has ls 4 [(0, .int x0), (1, .int x1)] → W p l e (rm_J8_newLength (u9.1 - u.1) (u9.2.1 - u.2.1)) s m args below meth c H locs cc ss QQ (F0 m 6 ls [.int y1, .int y0]) := by
    intro h x0 x1 y0 y1 cc ss H locs ls hm hw hcc hss hl
    have hmo := mo_J8_newLength_6  h x0 x1 y0 y1 _ hm
    have sb_ : h.1 ≤ u9.1 := hmo.1
    have tb_ : h.2.1 ≤ u9.2.1 := hmo.2.1
    rw [m_J8_newLength_6] at hm
    refine lv_iadd hx hb dJ8_newLength_6 ?_
    refine lv_topi (fun v1 ev1 => ?_)
    have hm := nmK hm ev1
    refine lv_istore_n (lv' := [(3, .int v1), (0, .int x0), (1, .int x1)]) hx hb dJ8_newLength_7 rfl hl (by decide) rfl (fun ls hl => ?_)
    refine lv_iconst (v := 0) hx hb dJ8_newLength_8 (by decide) ?_
    refine lv_iload_n hx hb dJ8_newLength_9 rfl (lv_at hl 0 rfl) ?_
    refine lv_icmp_ge (tgt := 21) hx hb dJ8_newLength_10 (by decide) (fun c2 => ?_) (fun c2 => ?_)
    · have hm := ifT hm c2
      exact hB21 h x0 x1 _ _ _ _ _ hm hw (by omega) (by omega) (lv_sub hl [1, 2] rfl)
    · have hm := ifF hm c2
      refine lv_iload_n hx hb dJ8_newLength_13 rfl (lv_at hl 0 rfl) ?_
      refine lv_ldc hx hb hown (hts _ q416) dJ8_newLength_14 ?_
      refine lv_icmp_gt (tgt := 21) hx hb dJ8_newLength_16 (by decide) (fun c3 => ?_) (fun c3 => ?_)
      · have hm := ifT hm c3
        exact hB21 h x0 x1 _ _ _ _ _ hm hw (by omega) (by omega) (lv_sub hl [1, 2] rfl)
      · have hm := ifF hm c3
        refine lv_iload_n hx hb dJ8_newLength_19 rfl (lv_at hl 0 rfl) ?_
        obtain ⟨er, eh⟩ := retE hm
        have ec : cc = u9.1 - u.1 := by rw [← eh]; omega
        have es : ss = u9.2.1 - u.2.1 := by rw [← eh]; omega
        rw [ec, es, ← hQ]
        exact W.iret (v := v1) hx hb hr (fun t ht hW => ⟨⟨v1, h, rfl, ⟨er, eh⟩, ⟨by rw [ht]; exact hw.1, by rw [ht]; exact hw.2.1⟩⟩, hw.2.2.1.F ht⟩) hw.2.2.1.2.2 dJ8_newLength_20
  rw [m_J8_newLength] at hm
  refine lv_iload_n hx hb dJ8_newLength_0 rfl (lv_at hl 0 rfl) ?_
  refine lv_iload_n hx hb dJ8_newLength_1 rfl (lv_at hl 1 rfl) ?_
  refine lv_iload_n hx hb dJ8_newLength_2 rfl (lv_at hl 2 rfl) ?_
  obtain ⟨r2, h1, er2, hm⟩ := bd2E hm
  have lh1 := mo_J9_max er2
  have ph1 : u.1 ≤ h1.1 := lh1.1
  have qh1 : u.2.1 ≤ h1.2.1 := lh1.2.1
  have hmo := mo_J8_newLength_6   h1 x0 x1 x0 r2 _ hm
  have sh1 : h1.1 ≤ u9.1 := hmo.1
  have th1 : h1.2.1 ≤ u9.2.1 := hmo.2.1
  refine cg_calli hw lh1 (va_runS (As := [.int x1, .int x2]) (rest := [.int x0]) ⟨hx, hb, hml, hown, hts⟩ (w_J9_max l er2) (cw_J9_max hts q413 ⟨Nat.le_of_ble_eq_true rfl, Nat.le_of_ble_eq_true rfl⟩) (cg_preS C hw _) rfl rfl hl.1 rfl (lv_room (Nat.le_of_ble_eq_true rfl)) dJ8_newLength_3 ⟨show cc + (h1.1 - u.1) ≤ u9.1 - u.1 by omega, show ss + (h1.2.1 - u.2.1) ≤ u9.2.1 - u.2.1 by omega⟩) (fun H locs hw => ?_)
  exact hB6 h1 x0 x1 x0 r2 _ _ _ _ _ hm hw (by omega) (by omega) (lv_sub hl [0, 1] rfl)
def m_J4_newCapacity_J5_32 (f : Nat) (h : CH) (x0 : Nat) (y0 : Int32) : Option (Int32 × CH) := if ¬ y0 = (2147483647 : Int32) then
    bd (oI h 18 1 x0) fun v2 =>
    some ((y0 >>> (v2 &&& 31)), h)
    else none
theorem mo_J4_newCapacity_J5_32 {f : Nat} : ∀ (h : CH) (x0 : Nat) (y0 : Int32) (r : (Int32 × CH)), m_J4_newCapacity_J5_32 f h x0 y0 = some r → le2 h r.2 := by
  intro h x0 y0 r hm
  rw [m_J4_newCapacity_J5_32] at hm
  by_cases c1 : ¬ y0 = (2147483647 : Int32)
  · have hm := ifT hm c1
    obtain ⟨v2, ev2, hm⟩ := bdE hm
    cases hm
    exact le2.rf
  · have hm := ifF hm c1
    exact noE hm
def m_J4_newCapacity_J5 (f : Nat) (u : CH) (x0 : Nat) (x1 : Int32) : Option (Int32 × CH) := bd (oR u 18 0 x0) fun a1 =>
    bd (aN u 2 a1) fun n2 =>
    nmv ((Int32.ofNat n2) : Int32) fun v3 =>
    bd (oI u 18 1 x0) fun v4 =>
    nmv ((x1 <<< (v4 &&& 31)) : Int32) fun v5 =>
    nmv ((v5 - v3) : Int32) fun v6 =>
    bd (oI u 18 1 x0) fun v7 =>
    bd2 (m_J8_newLength f u v3 v6 (v3 + ((2 : Int32) <<< (v7 &&& 31)))) fun r9 h8 =>
    m_J4_newCapacity_J5_32 f h8 x0 r9
theorem mo_J4_newCapacity_J5 {f : Nat} {u : CH} {x0 : Nat} {x1 : Int32} {r0 : Int32} {u9 : CH} (hm : m_J4_newCapacity_J5 f u x0 x1 = some (r0, u9)) : le2 u u9 := by
  rw [m_J4_newCapacity_J5] at hm
  obtain ⟨a1, ea1, hm⟩ := bdE hm
  obtain ⟨n2, en2, hm⟩ := bdE hm
  obtain ⟨v3, ev3, hm⟩ := nmE hm
  obtain ⟨v4, ev4, hm⟩ := bdE hm
  obtain ⟨v5, ev5, hm⟩ := nmE hm
  obtain ⟨v6, ev6, hm⟩ := nmE hm
  obtain ⟨v7, ev7, hm⟩ := bdE hm
  obtain ⟨r9, h8, er9, hm⟩ := bd2E hm
  have lh8 := mo_J8_newLength er9
  exact (lh8.tr (mo_J4_newCapacity_J5_32  h8 x0 r9 _ hm))
abbrev rm_J4_newCapacity_J5 (mc ms : Nat) : Room := { frames := 2, cells := mc, slots := ms, locals := 44 }
set_option maxHeartbeats 4000000 in
set_option maxRecDepth 100000 in
theorem w_J4_newCapacity_J5 (l : Launch) {D : va_G} {dA : Nat → ClassId} {A : Nat → Prop} {f : Nat} {u u9 : CH} {r0 : Int32} {x0 : Nat} {x1 : Int32} (hm : m_J4_newCapacity_J5 f u x0 x1 = some (r0, u9)) : Met l yJ4_newCapacity (ws_ yJ4_newCapacity cJ4_newCapacity 6 (Option.some Jvm.ClassFile.FieldType.int)) (rm_J4_newCapacity_J5 (u9.1 - u.1) (u9.2.1 - u.2.1)) (va_Pc [.ref x0, .int x1] (CPre D dA A u)) (va_Qi (fun r u => r = r0 ∧ u = u9) (CPost D dA A) A) (u9.1 - u.1) (u9.2.1 - u.2.1) A := by
  refine metOfWF (cc := cJ4_newCapacity) (maxL := 6) (ret := (Option.some Jvm.ClassFile.FieldType.int)) (by decide +kernel) rfl ?_
  intro p e s m args below meth c s₁ B hml hv
  have hx := B.exec
  have hb := B.bytes
  have hr := B.returns
  have hts := atoms_spec (ws := (ws_ yJ4_newCapacity cJ4_newCapacity 6 (Option.some Jvm.ClassFile.FieldType.int))) B.pre
  have hts : ∀ w ∈ lw_all, w.before args s = true := fun w h => hts w (List.mem_cons_of_mem _ h)
  have hown : s.vm.findClass RJ4 = some m.cls := findClass_of_methodNamed B.named
  have hlocks := B.notSynchronized
  obtain ⟨hav, hv⟩ := hv
  have C : CX p s m args c cJ4_newCapacity RJ4 D dA := ⟨hx, hb, hown, hts, hv.2⟩
  have hw : CW D dA A s u s.heap [] := hv.1
  generalize hQ : MQ below (va_Qi (fun r u => r = r0 ∧ u = u9) (CPost D dA A) A) args s (u9.1 - u.1) (u9.2.1 - u.2.1) A = QQ
  have hent := lg_entry_eq m [.ref x0, .int x1] 6
  rw [← hav] at hent
  rw [hent]
  have hl := lv_entry ([.ref x0, .int x1]) (n := 6) (Nat.le_of_ble_eq_true rfl)
  generalize (lg_sl ([.ref x0, .int x1]) ++ List.replicate (6 - (lg_sl ([.ref x0, .int x1])).length) Slot.unset).toArray = ls at hl ⊢
  have hl : lv_has ls 6 [(0, .ref x0), (1, .int x1)] := hl
  obtain ⟨cc, ecc⟩ : ∃ z : Nat, z = 0 := ⟨0, rfl⟩
  obtain ⟨ss, ess⟩ : ∃ z : Nat, z = 0 := ⟨0, rfl⟩
  have hcc : cc + u.1 = u.1 := by omega
  have hss : ss + u.2.1 = u.2.1 := by omega
  suffices hgo : W p l e (rm_J4_newCapacity_J5 (u9.1 - u.1) (u9.2.1 - u.2.1)) s m args below meth c s.heap [] cc ss QQ (F0 m 0 ls []) by rw [ecc, ess] at hgo; exact hgo
  have ⟨pu, qu, _, _⟩ := mo_J4_newCapacity_J5 hm
  have hB32 : ∀ (h : CH) (x0 : Nat) (y0 : Int32) (cc ss : Nat) (H : Heap) (locs : List Loc) (ls : Array Slot), m_J4_newCapacity_J5_32 f h x0 y0 = some (r0, u9) → CW D dA A s h H locs → cc + u.1 = h.1 → ss + u.2.1 = h.2.1 → lv_has ls 6 [(0, .ref x0)] → W p l e (rm_J4_newCapacity_J5 (u9.1 - u.1) (u9.2.1 - u.2.1)) s m args below meth c H locs cc ss QQ (F0 m 32 ls [.int y0]) := by
    intro h x0 y0 cc ss H locs ls hm hw hcc hss hl
    have hmo := mo_J4_newCapacity_J5_32  h x0 y0 _ hm
    have sb_ : h.1 ≤ u9.1 := hmo.1
    have tb_ : h.2.1 ≤ u9.2.1 := hmo.2.1
    rw [m_J4_newCapacity_J5_32] at hm
    refine lv_istore (lv' := [(5, .int y0), (0, .ref x0)]) hx hb dJ4_newCapacity_32 hl (by decide) rfl (fun ls hl => ?_)
    refine lv_iload hx hb dJ4_newCapacity_34 (lv_at hl 0 rfl) ?_
    refine lv_ldc hx hb hown (hts _ q420) dJ4_newCapacity_36 ?_
    refine lv_icmp_ne (tgt := 51) hx hb dJ4_newCapacity_38 (by decide) (fun c1 => ?_) (fun c1 => ?_)
    · have hm := ifT hm c1
      refine lv_iload hx hb dJ4_newCapacity_51 (lv_at hl 0 rfl) ?_
      refine lv_aload_n hx hb dJ4_newCapacity_53 rfl (lv_at hl 1 rfl) ?_
      obtain ⟨v2, ev2, hm⟩ := bdE hm
      refine cg_get C hw (oI_E ev2) rfl in_J5 (by decide) q383 dJ4_newCapacity_54 ?_
      refine lv_ishr hx hb dJ4_newCapacity_57 ?_
      obtain ⟨er, eh⟩ := retE hm
      have ec : cc = u9.1 - u.1 := by rw [← eh]; omega
      have es : ss = u9.2.1 - u.2.1 := by rw [← eh]; omega
      rw [ec, es, ← hQ]
      exact W.iret (v := (y0 >>> (v2 &&& 31))) hx hb hr (fun t ht hW => ⟨⟨(y0 >>> (v2 &&& 31)), h, rfl, ⟨er, eh⟩, ⟨by rw [ht]; exact hw.1, by rw [ht]; exact hw.2.1⟩⟩, hw.2.2.1.F ht⟩) hw.2.2.1.2.2 dJ4_newCapacity_58
    · have hm := ifT' hm c1
      exact noE hm
  rw [m_J4_newCapacity_J5] at hm
  refine lv_aload_n hx hb dJ4_newCapacity_0 rfl (lv_at hl 0 rfl) ?_
  obtain ⟨a1, ea1, hm⟩ := bdE hm
  refine cg_get C hw (oR_E ea1) rfl in_J5 (by decide) q382 dJ4_newCapacity_1 ?_
  obtain ⟨n2, en2, hm⟩ := bdE hm
  refine cg_alen C hw (ty := .byte) rfl en2 dJ4_newCapacity_4 ?_
  refine lv_topi (fun v3 ev3 => ?_)
  have hm := nmK hm ev3
  refine lv_istore_n (lv' := [(2, .int v3), (0, .ref x0), (1, .int x1)]) hx hb dJ4_newCapacity_5 rfl hl (by decide) rfl (fun ls hl => ?_)
  refine lv_iload_n hx hb dJ4_newCapacity_6 rfl (lv_at hl 2 rfl) ?_
  refine lv_aload_n hx hb dJ4_newCapacity_7 rfl (lv_at hl 1 rfl) ?_
  obtain ⟨v4, ev4, hm⟩ := bdE hm
  refine cg_get C hw (oI_E ev4) rfl in_J5 (by decide) q383 dJ4_newCapacity_8 ?_
  refine lv_ishl hx hb dJ4_newCapacity_11 ?_
  refine lv_topi (fun v5 ev5 => ?_)
  have hm := nmK hm ev5
  refine lv_istore_n (lv' := [(3, .int v5), (2, .int v3), (0, .ref x0), (1, .int x1)]) hx hb dJ4_newCapacity_12 rfl hl (by decide) rfl (fun ls hl => ?_)
  refine lv_iload_n hx hb dJ4_newCapacity_13 rfl (lv_at hl 0 rfl) ?_
  refine lv_iload_n hx hb dJ4_newCapacity_14 rfl (lv_at hl 1 rfl) ?_
  refine lv_isub hx hb dJ4_newCapacity_15 ?_
  refine lv_topi (fun v6 ev6 => ?_)
  have hm := nmK hm ev6
  refine lv_istore (lv' := [(4, .int v6), (3, .int v5), (2, .int v3), (0, .ref x0), (1, .int x1)]) hx hb dJ4_newCapacity_16 hl (by decide) rfl (fun ls hl => ?_)
  refine lv_iload_n hx hb dJ4_newCapacity_18 rfl (lv_at hl 2 rfl) ?_
  refine lv_iload hx hb dJ4_newCapacity_19 (lv_at hl 0 rfl) ?_
  refine lv_iload_n hx hb dJ4_newCapacity_21 rfl (lv_at hl 2 rfl) ?_
  refine lv_iconst (v := 2) hx hb dJ4_newCapacity_22 (by decide) ?_
  refine lv_aload_n hx hb dJ4_newCapacity_23 rfl (lv_at hl 3 rfl) ?_
  obtain ⟨v7, ev7, hm⟩ := bdE hm
  refine cg_get C hw (oI_E ev7) rfl in_J5 (by decide) q383 dJ4_newCapacity_24 ?_
  refine lv_ishl hx hb dJ4_newCapacity_27 ?_
  refine lv_iadd hx hb dJ4_newCapacity_28 ?_
  obtain ⟨r9, h8, er9, hm⟩ := bd2E hm
  have lh8 := mo_J8_newLength er9
  have ph8 : u.1 ≤ h8.1 := lh8.1
  have qh8 : u.2.1 ≤ h8.2.1 := lh8.2.1
  have hmo := mo_J4_newCapacity_J5_32   h8 x0 r9 _ hm
  have sh8 : h8.1 ≤ u9.1 := hmo.1
  have th8 : h8.2.1 ≤ u9.2.1 := hmo.2.1
  refine cg_calli hw lh8 (va_runS (As := [.int v3, .int v6, .int (v3 + ((2 : Int32) <<< (v7 &&& 31)))]) (rest := []) ⟨hx, hb, hml, hown, hts⟩ (w_J8_newLength l er9) (cw_J8_newLength hts q410 ⟨Nat.le_of_ble_eq_true rfl, Nat.le_of_ble_eq_true rfl⟩) (cg_preS C hw _) rfl rfl hl.1 rfl (lv_room (Nat.le_of_ble_eq_true rfl)) dJ4_newCapacity_29 ⟨show cc + (h8.1 - u.1) ≤ u9.1 - u.1 by omega, show ss + (h8.2.1 - u.2.1) ≤ u9.2.1 - u.2.1 by omega⟩) (fun H locs hw => ?_)
  exact hB32 h8 x0 r9 _ _ _ _ _ hm hw (by omega) (by omega) (lv_sub hl [3] rfl)
def m_J4_ensureCapacityInternal_J5_38 (f : Nat) (h : CH) : Option CH := some h
theorem mo_J4_ensureCapacityInternal_J5_38 {f : Nat} : ∀ (h : CH) (r : CH), m_J4_ensureCapacityInternal_J5_38 f h = some r → le2 h r := by
  intro h r hm
  rw [m_J4_ensureCapacityInternal_J5_38] at hm
  cases hm
  exact le2.rf
def m_J4_ensureCapacityInternal_J5_35 (f : Nat) (h : CH) (y0 : Nat) (y1 : Nat) : Option CH := bd (pF h 18 0 y0 (.ref y1)) fun h1 =>
    m_J4_ensureCapacityInternal_J5_38 f h1
theorem mo_J4_ensureCapacityInternal_J5_35 {f : Nat} : ∀ (h : CH) (y0 : Nat) (y1 : Nat) (r : CH), m_J4_ensureCapacityInternal_J5_35 f h y0 y1 = some r → le2 h r := by
  intro h y0 y1 r hm
  rw [m_J4_ensureCapacityInternal_J5_35] at hm
  obtain ⟨h1, eh1, hm⟩ := bdE hm
  have lh1 := pF_le eh1
  exact (lh1.tr (mo_J4_ensureCapacityInternal_J5_38  h1 _ hm))
def m_J4_ensureCapacityInternal_J5_27 (f : Nat) (h : CH) (x0 : Nat) (y0 : Nat) (y1 : Nat) (y2 : Int32) : Option CH := bd (oI h 18 1 x0) fun v1 =>
    bd2 (m_J10_copyOf f h y1 (y2 <<< (v1 &&& 31))) fun a3 h2 =>
    m_J4_ensureCapacityInternal_J5_35 f h2 y0 a3
theorem mo_J4_ensureCapacityInternal_J5_27 {f : Nat} : ∀ (h : CH) (x0 : Nat) (y0 : Nat) (y1 : Nat) (y2 : Int32) (r : CH), m_J4_ensureCapacityInternal_J5_27 f h x0 y0 y1 y2 = some r → le2 h r := by
  intro h x0 y0 y1 y2 r hm
  rw [m_J4_ensureCapacityInternal_J5_27] at hm
  obtain ⟨v1, ev1, hm⟩ := bdE hm
  obtain ⟨a3, h2, ea3, hm⟩ := bd2E hm
  have lh2 := mo_J10_copyOf ea3
  exact (lh2.tr (mo_J4_ensureCapacityInternal_J5_35  h2 y0 a3 _ hm))
def m_J4_ensureCapacityInternal_J5 (f : Nat) (u : CH) (x0 : Nat) (x1 : Int32) : Option CH := bd (oR u 18 0 x0) fun a1 =>
    bd (aN u 2 a1) fun n2 =>
    bd (oI u 18 1 x0) fun v3 =>
    nmv (((Int32.ofNat n2) >>> (v3 &&& 31)) : Int32) fun v4 =>
    if (x1 - v4) ≤ 0 then
    m_J4_ensureCapacityInternal_J5_38 f u
    else bd (oR u 18 0 x0) fun a6 =>
    gd (isC u x0 18) <|
    bd2 (m_J4_newCapacity_J5 f u x0 x1) fun r9 h8 =>
    m_J4_ensureCapacityInternal_J5_27 f h8 x0 x0 a6 r9
theorem mo_J4_ensureCapacityInternal_J5 {f : Nat} {u : CH} {x0 : Nat} {x1 : Int32} {u9 : CH} (hm : m_J4_ensureCapacityInternal_J5 f u x0 x1 = some u9) : le2 u u9 := by
  rw [m_J4_ensureCapacityInternal_J5] at hm
  obtain ⟨a1, ea1, hm⟩ := bdE hm
  obtain ⟨n2, en2, hm⟩ := bdE hm
  obtain ⟨v3, ev3, hm⟩ := bdE hm
  obtain ⟨v4, ev4, hm⟩ := nmE hm
  by_cases c5 : (x1 - v4) ≤ 0
  · have hm := ifT hm c5
    exact (mo_J4_ensureCapacityInternal_J5_38  u _ hm)
  · have hm := ifF hm c5
    obtain ⟨a6, ea6, hm⟩ := bdE hm
    obtain ⟨g7, hm⟩ := gdE hm
    obtain ⟨r9, h8, er9, hm⟩ := bd2E hm
    have lh8 := mo_J4_newCapacity_J5 er9
    exact (lh8.tr (mo_J4_ensureCapacityInternal_J5_27  h8 x0 x0 a6 r9 _ hm))
abbrev rm_J4_ensureCapacityInternal_J5 (mc ms : Nat) : Room := { frames := 3, cells := mc, slots := ms, locals := 82 }
set_option maxHeartbeats 4000000 in
set_option maxRecDepth 100000 in
theorem w_J4_ensureCapacityInternal_J5 (l : Launch) {D : va_G} {dA : Nat → ClassId} {A : Nat → Prop} {f : Nat} {u u9 : CH} {x0 : Nat} {x1 : Int32} (hm : m_J4_ensureCapacityInternal_J5 f u x0 x1 = some u9) : Met l yJ4_ensureCapacityInternal (ws_ yJ4_ensureCapacityInternal cJ4_ensureCapacityInternal 3 (Option.none : Option Jvm.ClassFile.FieldType)) (rm_J4_ensureCapacityInternal_J5 (u9.1 - u.1) (u9.2.1 - u.2.1)) (va_Pc [.ref x0, .int x1] (CPre D dA A u)) (va_Qv (fun u => u = u9) (CPost D dA A) A) (u9.1 - u.1) (u9.2.1 - u.2.1) A := by
  refine metOfWF (cc := cJ4_ensureCapacityInternal) (maxL := 3) (ret := (Option.none : Option Jvm.ClassFile.FieldType)) (by decide +kernel) rfl ?_
  intro p e s m args below meth c s₁ B hml hv
  have hx := B.exec
  have hb := B.bytes
  have hr := B.returns
  have hts := atoms_spec (ws := (ws_ yJ4_ensureCapacityInternal cJ4_ensureCapacityInternal 3 (Option.none : Option Jvm.ClassFile.FieldType))) B.pre
  have hts : ∀ w ∈ lw_all, w.before args s = true := fun w h => hts w (List.mem_cons_of_mem _ h)
  have hown : s.vm.findClass RJ4 = some m.cls := findClass_of_methodNamed B.named
  have hlocks := B.notSynchronized
  obtain ⟨hav, hv⟩ := hv
  have C : CX p s m args c cJ4_ensureCapacityInternal RJ4 D dA := ⟨hx, hb, hown, hts, hv.2⟩
  have hw : CW D dA A s u s.heap [] := hv.1
  generalize hQ : MQ below (va_Qv (fun u => u = u9) (CPost D dA A) A) args s (u9.1 - u.1) (u9.2.1 - u.2.1) A = QQ
  have hent := lg_entry_eq m [.ref x0, .int x1] 3
  rw [← hav] at hent
  rw [hent]
  have hl := lv_entry ([.ref x0, .int x1]) (n := 3) (Nat.le_of_ble_eq_true rfl)
  generalize (lg_sl ([.ref x0, .int x1]) ++ List.replicate (3 - (lg_sl ([.ref x0, .int x1])).length) Slot.unset).toArray = ls at hl ⊢
  have hl : lv_has ls 3 [(0, .ref x0), (1, .int x1)] := hl
  obtain ⟨cc, ecc⟩ : ∃ z : Nat, z = 0 := ⟨0, rfl⟩
  obtain ⟨ss, ess⟩ : ∃ z : Nat, z = 0 := ⟨0, rfl⟩
  have hcc : cc + u.1 = u.1 := by omega
  have hss : ss + u.2.1 = u.2.1 := by omega
  suffices hgo : W p l e (rm_J4_ensureCapacityInternal_J5 (u9.1 - u.1) (u9.2.1 - u.2.1)) s m args below meth c s.heap [] cc ss QQ (F0 m 0 ls []) by rw [ecc, ess] at hgo; exact hgo
  have ⟨pu, qu, _, _⟩ := mo_J4_ensureCapacityInternal_J5 hm
  have hB38 : ∀ (h : CH) (cc ss : Nat) (H : Heap) (locs : List Loc) (ls : Array Slot), m_J4_ensureCapacityInternal_J5_38 f h = some u9 → CW D dA A s h H locs → cc + u.1 = h.1 → ss + u.2.1 = h.2.1 → lv_has ls 3 [] → W p l e (rm_J4_ensureCapacityInternal_J5 (u9.1 - u.1) (u9.2.1 - u.2.1)) s m args below meth c H locs cc ss QQ (F0 m 38 ls []) := by
    intro h cc ss H locs ls hm hw hcc hss hl
    have hmo := mo_J4_ensureCapacityInternal_J5_38  h _ hm
    have sb_ : h.1 ≤ u9.1 := hmo.1
    have tb_ : h.2.1 ≤ u9.2.1 := hmo.2.1
    rw [m_J4_ensureCapacityInternal_J5_38] at hm
    have eh := ret1 hm
    have ec : cc = u9.1 - u.1 := by rw [← eh]; omega
    have es : ss = u9.2.1 - u.2.1 := by rw [← eh]; omega
    rw [ec, es, ← hQ]
    exact W.vret hx hb hr (fun t ht hW => ⟨⟨h, rfl, eh, ⟨by rw [ht]; exact hw.1, by rw [ht]; exact hw.2.1⟩⟩, hw.2.2.1.F ht⟩) hw.2.2.1.2.2 dJ4_ensureCapacityInternal_38
  have hB35 : ∀ (h : CH) (y0 : Nat) (y1 : Nat) (cc ss : Nat) (H : Heap) (locs : List Loc) (ls : Array Slot), m_J4_ensureCapacityInternal_J5_35 f h y0 y1 = some u9 → CW D dA A s h H locs → cc + u.1 = h.1 → ss + u.2.1 = h.2.1 → lv_has ls 3 [] → W p l e (rm_J4_ensureCapacityInternal_J5 (u9.1 - u.1) (u9.2.1 - u.2.1)) s m args below meth c H locs cc ss QQ (F0 m 35 ls [.ref y1, .ref y0]) := by
    intro h y0 y1 cc ss H locs ls hm hw hcc hss hl
    have hmo := mo_J4_ensureCapacityInternal_J5_35  h y0 y1 _ hm
    have sb_ : h.1 ≤ u9.1 := hmo.1
    have tb_ : h.2.1 ≤ u9.2.1 := hmo.2.1
    rw [m_J4_ensureCapacityInternal_J5_35] at hm
    obtain ⟨h1, eh1, hm⟩ := bdE hm
    refine cg_put C hw eh1 rfl in_J5 tyJ5 tyJ5_ok nmJ5 (by decide) q382 rfl rfl rfl dJ4_ensureCapacityInternal_35 (fun H locs hw => ?_)
    have zh1 := pF_sz eh1
    exact hB38 h1 _ _ _ _ _ hm hw (by omega) (by omega) (lv_sub hl [] rfl)
  have hB27 : ∀ (h : CH) (x0 : Nat) (y0 : Nat) (y1 : Nat) (y2 : Int32) (cc ss : Nat) (H : Heap) (locs : List Loc) (ls : Array Slot), m_J4_ensureCapacityInternal_J5_27 f h x0 y0 y1 y2 = some u9 → CW D dA A s h H locs → cc + u.1 = h.1 → ss + u.2.1 = h.2.1 → lv_has ls 3 [(0, .ref x0)] → W p l e (rm_J4_ensureCapacityInternal_J5 (u9.1 - u.1) (u9.2.1 - u.2.1)) s m args below meth c H locs cc ss QQ (F0 m 27 ls [.int y2, .ref y1, .ref y0]) := by
    intro h x0 y0 y1 y2 cc ss H locs ls hm hw hcc hss hl
    have hmo := mo_J4_ensureCapacityInternal_J5_27  h x0 y0 y1 y2 _ hm
    have sb_ : h.1 ≤ u9.1 := hmo.1
    have tb_ : h.2.1 ≤ u9.2.1 := hmo.2.1
    rw [m_J4_ensureCapacityInternal_J5_27] at hm
    refine lv_aload_n hx hb dJ4_ensureCapacityInternal_27 rfl (lv_at hl 0 rfl) ?_
    obtain ⟨v1, ev1, hm⟩ := bdE hm
    refine cg_get C hw (oI_E ev1) rfl in_J5 (by decide) q383 dJ4_ensureCapacityInternal_28 ?_
    refine lv_ishl hx hb dJ4_ensureCapacityInternal_31 ?_
    obtain ⟨a3, h2, ea3, hm⟩ := bd2E hm
    have lh2 := mo_J10_copyOf ea3
    have ph2 : h.1 ≤ h2.1 := lh2.1
    have qh2 : h.2.1 ≤ h2.2.1 := lh2.2.1
    have hmo := mo_J4_ensureCapacityInternal_J5_35   h2 y0 a3 _ hm
    have sh2 : h2.1 ≤ u9.1 := hmo.1
    have th2 : h2.2.1 ≤ u9.2.1 := hmo.2.1
    refine cg_callr hw lh2 (va_runS (As := [.ref y1, .int (y2 <<< (v1 &&& 31))]) (rest := [.ref y0]) ⟨hx, hb, hml, hown, hts⟩ (w_J10_copyOf l ea3) (cw_J10_copyOf hts q421 ⟨Nat.le_of_ble_eq_true rfl, Nat.le_of_ble_eq_true rfl⟩) (cg_preS C hw _) rfl rfl hl.1 rfl (lv_room (Nat.le_of_ble_eq_true rfl)) dJ4_ensureCapacityInternal_32 ⟨show cc + (h2.1 - h.1) ≤ u9.1 - u.1 by omega, show ss + (h2.2.1 - h.2.1) ≤ u9.2.1 - u.2.1 by omega⟩) (fun H locs hw => ?_)
    exact hB35 h2 y0 a3 _ _ _ _ _ hm hw (by omega) (by omega) (lv_sub hl [] rfl)
  rw [m_J4_ensureCapacityInternal_J5] at hm
  refine lv_aload_n hx hb dJ4_ensureCapacityInternal_0 rfl (lv_at hl 0 rfl) ?_
  obtain ⟨a1, ea1, hm⟩ := bdE hm
  refine cg_get C hw (oR_E ea1) rfl in_J5 (by decide) q382 dJ4_ensureCapacityInternal_1 ?_
  obtain ⟨n2, en2, hm⟩ := bdE hm
  refine cg_alen C hw (ty := .byte) rfl en2 dJ4_ensureCapacityInternal_4 ?_
  refine lv_aload_n hx hb dJ4_ensureCapacityInternal_5 rfl (lv_at hl 0 rfl) ?_
  obtain ⟨v3, ev3, hm⟩ := bdE hm
  refine cg_get C hw (oI_E ev3) rfl in_J5 (by decide) q383 dJ4_ensureCapacityInternal_6 ?_
  refine lv_ishr hx hb dJ4_ensureCapacityInternal_9 ?_
  refine lv_topi (fun v4 ev4 => ?_)
  have hm := nmK hm ev4
  refine lv_istore_n (lv' := [(2, .int v4), (0, .ref x0), (1, .int x1)]) hx hb dJ4_ensureCapacityInternal_10 rfl hl (by decide) rfl (fun ls hl => ?_)
  refine lv_iload_n hx hb dJ4_ensureCapacityInternal_11 rfl (lv_at hl 2 rfl) ?_
  refine lv_iload_n hx hb dJ4_ensureCapacityInternal_12 rfl (lv_at hl 0 rfl) ?_
  refine lv_isub hx hb dJ4_ensureCapacityInternal_13 ?_
  refine lv_if_le (tgt := 38) hx hb dJ4_ensureCapacityInternal_14 (by decide) (fun c5 => ?_) (fun c5 => ?_)
  · have hm := ifT hm c5
    exact hB38 u _ _ _ _ _ hm hw (by omega) (by omega) (lv_sub hl [] rfl)
  · have hm := ifF hm c5
    refine lv_aload_n hx hb dJ4_ensureCapacityInternal_17 rfl (lv_at hl 1 rfl) ?_
    refine lv_aload_n hx hb dJ4_ensureCapacityInternal_18 rfl (lv_at hl 1 rfl) ?_
    obtain ⟨a6, ea6, hm⟩ := bdE hm
    refine cg_get C hw (oR_E ea6) rfl in_J5 (by decide) q382 dJ4_ensureCapacityInternal_19 ?_
    refine lv_aload_n hx hb dJ4_ensureCapacityInternal_22 rfl (lv_at hl 1 rfl) ?_
    refine lv_iload_n hx hb dJ4_ensureCapacityInternal_23 rfl (lv_at hl 2 rfl) ?_
    obtain ⟨g7, hm⟩ := gdE hm
    obtain ⟨r9, h8, er9, hm⟩ := bd2E hm
    have lh8 := mo_J4_newCapacity_J5 er9
    have ph8 : u.1 ≤ h8.1 := lh8.1
    have qh8 : u.2.1 ≤ h8.2.1 := lh8.2.1
    have hmo := mo_J4_ensureCapacityInternal_J5_27   h8 x0 x0 a6 r9 _ hm
    have sh8 : h8.1 ≤ u9.1 := hmo.1
    have th8 : h8.2.1 ≤ u9.2.1 := hmo.2.1
    refine cg_calli hw lh8 (va_runU (As := [.int x1]) (rest := [.ref a6, .ref x0]) ⟨hx, hb, hml, hown, hts⟩ (w_J4_newCapacity_J5 l er9) (cwP 1 hts q406 q2188 (va_Nw.use rfl (hw.2.2.2.2.1 _ (List.mem_of_getElem? (i := 95) rfl))) q408 q129 q409 rfl rfl (by decide +kernel) ⟨Nat.le_of_ble_eq_true rfl, Nat.le_of_ble_eq_true rfl⟩) (cg_preV C hw g7 rfl _) rfl rfl hl.1 rfl (lv_room (Nat.le_of_ble_eq_true rfl)) dJ4_ensureCapacityInternal_24 ⟨show cc + (h8.1 - u.1) ≤ u9.1 - u.1 by omega, show ss + (h8.2.1 - u.2.1) ≤ u9.2.1 - u.2.1 by omega⟩) (fun H locs hw => ?_)
    exact hB27 h8 x0 x0 a6 r9 _ _ _ _ _ hm hw (by omega) (by omega) (lv_sub hl [1] rfl)
def m_J4_append_J5_49 (f : Nat) (h : CH) (x0 : Nat) (x1 : Int32) (y0 : Int32) : Option (Nat × CH) := if y0 = 0 then
    bd (oR h 18 0 x0) fun a2 =>
    bd (oI h 18 3 x0) fun v3 =>
    bd (pF h 18 3 x0 (.int (v3 + (1 : Int32)))) fun h4 =>
    none
    else none
theorem mo_J4_append_J5_49 {f : Nat} : ∀ (h : CH) (x0 : Nat) (x1 : Int32) (y0 : Int32) (r : (Nat × CH)), m_J4_append_J5_49 f h x0 x1 y0 = some r → le2 h r.2 := by
  intro h x0 x1 y0 r hm
  rw [m_J4_append_J5_49] at hm
  by_cases c1 : y0 = 0
  · have hm := ifT hm c1
    obtain ⟨a2, ea2, hm⟩ := bdE hm
    obtain ⟨v3, ev3, hm⟩ := bdE hm
    obtain ⟨h4, eh4, hm⟩ := bdE hm
    have lh4 := pF_le eh4
    exact noE hm
  · have hm := ifF hm c1
    exact noE hm
def m_J4_append_J5_45 (f : Nat) (h : CH) (x0 : Nat) (x1 : Int32) : Option (Nat × CH) := gd (isC h x0 18) <|
    bd2 (m_J4_isLatin1_J5 f h x0) fun r3 h2 =>
    m_J4_append_J5_49 f h2 x0 x1 r3
theorem mo_J4_append_J5_45 {f : Nat} : ∀ (h : CH) (x0 : Nat) (x1 : Int32) (r : (Nat × CH)), m_J4_append_J5_45 f h x0 x1 = some r → le2 h r.2 := by
  intro h x0 x1 r hm
  rw [m_J4_append_J5_45] at hm
  obtain ⟨g1, hm⟩ := gdE hm
  obtain ⟨r3, h2, er3, hm⟩ := bd2E hm
  have lh2 := mo_J4_isLatin1_J5 er3
  exact (lh2.tr (mo_J4_append_J5_49  h2 x0 x1 r3 _ hm))
def m_J4_append_J5_21 (f : Nat) (h : CH) (x0 : Nat) (x1 : Int32) (y0 : Int32) : Option (Nat × CH) := if y0 = 0 then
    m_J4_append_J5_45 f h x0 x1
    else bd (oR h 18 0 x0) fun a2 =>
    bd (oI h 18 3 x0) fun v3 =>
    bd (pF h 18 3 x0 (.int (v3 + (1 : Int32)))) fun h4 =>
    bd (uI h4 2 a2 v3 (vp_nar .byte (Int8.toInt32 (Int32.toInt8 x1)))) fun h5 =>
    some (x0, h5)
theorem mo_J4_append_J5_21 {f : Nat} : ∀ (h : CH) (x0 : Nat) (x1 : Int32) (y0 : Int32) (r : (Nat × CH)), m_J4_append_J5_21 f h x0 x1 y0 = some r → le2 h r.2 := by
  intro h x0 x1 y0 r hm
  rw [m_J4_append_J5_21] at hm
  by_cases c1 : y0 = 0
  · have hm := ifT hm c1
    exact (mo_J4_append_J5_45  h x0 x1 _ hm)
  · have hm := ifF hm c1
    obtain ⟨a2, ea2, hm⟩ := bdE hm
    obtain ⟨v3, ev3, hm⟩ := bdE hm
    obtain ⟨h4, eh4, hm⟩ := bdE hm
    have lh4 := pF_le eh4
    obtain ⟨h5, eh5, hm⟩ := bdE hm
    have lh5 := uI_le eh5
    cases hm
    exact (lh4.tr (lh5.tr le2.rf))
def m_J4_append_J5_14 (f : Nat) (h : CH) (x0 : Nat) (x1 : Int32) (y0 : Int32) : Option (Nat × CH) := if y0 = 0 then
    m_J4_append_J5_45 f h x0 x1
    else bd2 (m_J11_canEncode f h x1) fun r3 h2 =>
    m_J4_append_J5_21 f h2 x0 x1 r3
theorem mo_J4_append_J5_14 {f : Nat} : ∀ (h : CH) (x0 : Nat) (x1 : Int32) (y0 : Int32) (r : (Nat × CH)), m_J4_append_J5_14 f h x0 x1 y0 = some r → le2 h r.2 := by
  intro h x0 x1 y0 r hm
  rw [m_J4_append_J5_14] at hm
  by_cases c1 : y0 = 0
  · have hm := ifT hm c1
    exact (mo_J4_append_J5_45  h x0 x1 _ hm)
  · have hm := ifF hm c1
    obtain ⟨r3, h2, er3, hm⟩ := bd2E hm
    have lh2 := mo_J11_canEncode er3
    exact (lh2.tr (mo_J4_append_J5_21  h2 x0 x1 r3 _ hm))
def m_J4_append_J5_10 (f : Nat) (h : CH) (x0 : Nat) (x1 : Int32) : Option (Nat × CH) := gd (isC h x0 18) <|
    bd2 (m_J4_isLatin1_J5 f h x0) fun r3 h2 =>
    m_J4_append_J5_14 f h2 x0 x1 r3
theorem mo_J4_append_J5_10 {f : Nat} : ∀ (h : CH) (x0 : Nat) (x1 : Int32) (r : (Nat × CH)), m_J4_append_J5_10 f h x0 x1 = some r → le2 h r.2 := by
  intro h x0 x1 r hm
  rw [m_J4_append_J5_10] at hm
  obtain ⟨g1, hm⟩ := gdE hm
  obtain ⟨r3, h2, er3, hm⟩ := bd2E hm
  have lh2 := mo_J4_isLatin1_J5 er3
  exact (lh2.tr (mo_J4_append_J5_14  h2 x0 x1 r3 _ hm))
def m_J4_append_J5 (f : Nat) (u : CH) (x0 : Nat) (x1 : Int32) : Option (Nat × CH) := bd (oI u 18 3 x0) fun v1 =>
    gd (isC u x0 18) <|
    bd (m_J4_ensureCapacityInternal_J5 f u x0 (v1 + (1 : Int32))) fun h3 =>
    m_J4_append_J5_10 f h3 x0 x1
theorem mo_J4_append_J5 {f : Nat} {u : CH} {x0 : Nat} {x1 : Int32} {r0 : Nat} {u9 : CH} (hm : m_J4_append_J5 f u x0 x1 = some (r0, u9)) : le2 u u9 := by
  rw [m_J4_append_J5] at hm
  obtain ⟨v1, ev1, hm⟩ := bdE hm
  obtain ⟨g2, hm⟩ := gdE hm
  obtain ⟨h3, eh3, hm⟩ := bdE hm
  have lh3 := mo_J4_ensureCapacityInternal_J5 eh3
  exact (lh3.tr (mo_J4_append_J5_10  h3 x0 x1 _ hm))
abbrev rm_J4_append_J5 (mc ms : Nat) : Room := { frames := 4, cells := mc, slots := ms, locals := 104 }
set_option maxHeartbeats 4000000 in
set_option maxRecDepth 100000 in
theorem w_J4_append_J5 (l : Launch) {D : va_G} {dA : Nat → ClassId} {A : Nat → Prop} {f : Nat} {u u9 : CH} {r0 : Nat} {x0 : Nat} {x1 : Int32} (hm : m_J4_append_J5 f u x0 x1 = some (r0, u9)) : Met l yJ4_append (ws_ yJ4_append cJ4_append 2 (Option.some (Jvm.ClassFile.FieldType.object "java/lang/AbstractStringBuilder"))) (rm_J4_append_J5 (u9.1 - u.1) (u9.2.1 - u.2.1)) (va_Pc [.ref x0, .int x1] (CPre D dA A u)) (va_Qr (fun u => u = u9) (fun u r t => r = r0 ∧ CPost D dA A u t) A) (u9.1 - u.1) (u9.2.1 - u.2.1) A := by
  refine metOfWF (cc := cJ4_append) (maxL := 2) (ret := (Option.some (Jvm.ClassFile.FieldType.object "java/lang/AbstractStringBuilder"))) (by decide +kernel) rfl ?_
  intro p e s m args below meth c s₁ B hml hv
  have hx := B.exec
  have hb := B.bytes
  have hr := B.returns
  have hts := atoms_spec (ws := (ws_ yJ4_append cJ4_append 2 (Option.some (Jvm.ClassFile.FieldType.object "java/lang/AbstractStringBuilder")))) B.pre
  have hts : ∀ w ∈ lw_all, w.before args s = true := fun w h => hts w (List.mem_cons_of_mem _ h)
  have hown : s.vm.findClass RJ4 = some m.cls := findClass_of_methodNamed B.named
  have hlocks := B.notSynchronized
  obtain ⟨hav, hv⟩ := hv
  have C : CX p s m args c cJ4_append RJ4 D dA := ⟨hx, hb, hown, hts, hv.2⟩
  have hw : CW D dA A s u s.heap [] := hv.1
  generalize hQ : MQ below (va_Qr (fun u => u = u9) (fun u r t => r = r0 ∧ CPost D dA A u t) A) args s (u9.1 - u.1) (u9.2.1 - u.2.1) A = QQ
  have hent := lg_entry_eq m [.ref x0, .int x1] 2
  rw [← hav] at hent
  rw [hent]
  have hl := lv_entry ([.ref x0, .int x1]) (n := 2) (Nat.le_of_ble_eq_true rfl)
  generalize (lg_sl ([.ref x0, .int x1]) ++ List.replicate (2 - (lg_sl ([.ref x0, .int x1])).length) Slot.unset).toArray = ls at hl ⊢
  have hl : lv_has ls 2 [(0, .ref x0), (1, .int x1)] := hl
  obtain ⟨cc, ecc⟩ : ∃ z : Nat, z = 0 := ⟨0, rfl⟩
  obtain ⟨ss, ess⟩ : ∃ z : Nat, z = 0 := ⟨0, rfl⟩
  have hcc : cc + u.1 = u.1 := by omega
  have hss : ss + u.2.1 = u.2.1 := by omega
  suffices hgo : W p l e (rm_J4_append_J5 (u9.1 - u.1) (u9.2.1 - u.2.1)) s m args below meth c s.heap [] cc ss QQ (F0 m 0 ls []) by rw [ecc, ess] at hgo; exact hgo
  have ⟨pu, qu, _, _⟩ := mo_J4_append_J5 hm
  have hB49 : ∀ (h : CH) (x0 : Nat) (x1 : Int32) (y0 : Int32) (cc ss : Nat) (H : Heap) (locs : List Loc) (ls : Array Slot), m_J4_append_J5_49 f h x0 x1 y0 = some (r0, u9) → CW D dA A s h H locs → cc + u.1 = h.1 → ss + u.2.1 = h.2.1 → lv_has ls 2 [(0, .ref x0), (1, .int x1)] → W p l e (rm_J4_append_J5 (u9.1 - u.1) (u9.2.1 - u.2.1)) s m args below meth c H locs cc ss QQ (F0 m 49 ls [.int y0]) := by
    intro h x0 x1 y0 cc ss H locs ls hm hw hcc hss hl
    have hmo := mo_J4_append_J5_49  h x0 x1 y0 _ hm
    have sb_ : h.1 ≤ u9.1 := hmo.1
    have tb_ : h.2.1 ≤ u9.2.1 := hmo.2.1
    rw [m_J4_append_J5_49] at hm
    refine lv_if_eq (tgt := 56) hx hb dJ4_append_49 (by decide) (fun c1 => ?_) (fun c1 => ?_)
    · have hm := ifT hm c1
      refine lv_aload_n hx hb dJ4_append_56 rfl (lv_at hl 0 rfl) ?_
      obtain ⟨a2, ea2, hm⟩ := bdE hm
      refine cg_get C hw (oR_E ea2) rfl in_J5 (by decide) q382 dJ4_append_57 ?_
      refine lv_aload_n hx hb dJ4_append_60 rfl (lv_at hl 0 rfl) ?_
      refine lv_dup hx hb dJ4_append_61 rfl ?_
      obtain ⟨v3, ev3, hm⟩ := bdE hm
      refine cg_get C hw (oI_E ev3) rfl in_J5 (by decide) q385 dJ4_append_62 ?_
      refine lv_dup_x1 hx hb dJ4_append_65 rfl rfl ?_
      refine lv_iconst (v := 1) hx hb dJ4_append_66 (by decide) ?_
      refine lv_iadd hx hb dJ4_append_67 ?_
      obtain ⟨h4, eh4, hm⟩ := bdE hm
      refine cg_put C hw eh4 rfl in_J5 tyJ5 tyJ5_ok nmJ5 (by decide) q385 rfl rfl rfl dJ4_append_68 (fun H locs hw => ?_)
      have zh4 := pF_sz eh4
      refine lv_iload_n hx hb dJ4_append_71 rfl (lv_at hl 1 rfl) ?_
      exact noE hm
    · have hm := ifF hm c1
      refine lv_aload_n hx hb dJ4_append_52 rfl (lv_at hl 0 rfl) ?_
      exact noE hm
  have hB45 : ∀ (h : CH) (x0 : Nat) (x1 : Int32) (cc ss : Nat) (H : Heap) (locs : List Loc) (ls : Array Slot), m_J4_append_J5_45 f h x0 x1 = some (r0, u9) → CW D dA A s h H locs → cc + u.1 = h.1 → ss + u.2.1 = h.2.1 → lv_has ls 2 [(0, .ref x0), (1, .int x1)] → W p l e (rm_J4_append_J5 (u9.1 - u.1) (u9.2.1 - u.2.1)) s m args below meth c H locs cc ss QQ (F0 m 45 ls []) := by
    intro h x0 x1 cc ss H locs ls hm hw hcc hss hl
    have hmo := mo_J4_append_J5_45  h x0 x1 _ hm
    have sb_ : h.1 ≤ u9.1 := hmo.1
    have tb_ : h.2.1 ≤ u9.2.1 := hmo.2.1
    rw [m_J4_append_J5_45] at hm
    refine lv_aload_n hx hb dJ4_append_45 rfl (lv_at hl 0 rfl) ?_
    obtain ⟨g1, hm⟩ := gdE hm
    obtain ⟨r3, h2, er3, hm⟩ := bd2E hm
    have lh2 := mo_J4_isLatin1_J5 er3
    have ph2 : h.1 ≤ h2.1 := lh2.1
    have qh2 : h.2.1 ≤ h2.2.1 := lh2.2.1
    have hmo := mo_J4_append_J5_49   h2 x0 x1 r3 _ hm
    have sh2 : h2.1 ≤ u9.1 := hmo.1
    have th2 : h2.2.1 ≤ u9.2.1 := hmo.2.1
    refine cg_calli hw lh2 (va_runU (As := []) (rest := []) ⟨hx, hb, hml, hown, hts⟩ (w_J4_isLatin1_J5 l er3) (va_cwU 0 hts (lwU q437 q439 q440 q438 q129 q441) rfl rfl rfl rfl (by decide +kernel) ⟨Nat.le_of_ble_eq_true rfl, Nat.le_of_ble_eq_true rfl⟩) (cg_preV C hw g1 rfl _) rfl rfl hl.1 rfl (lv_room (Nat.le_of_ble_eq_true rfl)) dJ4_append_46 ⟨show cc + (h2.1 - h.1) ≤ u9.1 - u.1 by omega, show ss + (h2.2.1 - h.2.1) ≤ u9.2.1 - u.2.1 by omega⟩) (fun H locs hw => ?_)
    exact hB49 h2 x0 x1 r3 _ _ _ _ _ hm hw (by omega) (by omega) (lv_sub hl [0, 1] rfl)
  have hB21 : ∀ (h : CH) (x0 : Nat) (x1 : Int32) (y0 : Int32) (cc ss : Nat) (H : Heap) (locs : List Loc) (ls : Array Slot), m_J4_append_J5_21 f h x0 x1 y0 = some (r0, u9) → CW D dA A s h H locs → cc + u.1 = h.1 → ss + u.2.1 = h.2.1 → lv_has ls 2 [(0, .ref x0), (1, .int x1)] → W p l e (rm_J4_append_J5 (u9.1 - u.1) (u9.2.1 - u.2.1)) s m args below meth c H locs cc ss QQ (F0 m 21 ls [.int y0]) := by
    intro h x0 x1 y0 cc ss H locs ls hm hw hcc hss hl
    have hmo := mo_J4_append_J5_21  h x0 x1 y0 _ hm
    have sb_ : h.1 ≤ u9.1 := hmo.1
    have tb_ : h.2.1 ≤ u9.2.1 := hmo.2.1
    rw [m_J4_append_J5_21] at hm
    refine lv_if_eq (tgt := 45) hx hb dJ4_append_21 (by decide) (fun c1 => ?_) (fun c1 => ?_)
    · have hm := ifT hm c1
      exact hB45 h x0 x1 _ _ _ _ _ hm hw (by omega) (by omega) (lv_sub hl [0, 1] rfl)
    · have hm := ifF hm c1
      refine lv_aload_n hx hb dJ4_append_24 rfl (lv_at hl 0 rfl) ?_
      obtain ⟨a2, ea2, hm⟩ := bdE hm
      refine cg_get C hw (oR_E ea2) rfl in_J5 (by decide) q382 dJ4_append_25 ?_
      refine lv_aload_n hx hb dJ4_append_28 rfl (lv_at hl 0 rfl) ?_
      refine lv_dup hx hb dJ4_append_29 rfl ?_
      obtain ⟨v3, ev3, hm⟩ := bdE hm
      refine cg_get C hw (oI_E ev3) rfl in_J5 (by decide) q385 dJ4_append_30 ?_
      refine lv_dup_x1 hx hb dJ4_append_33 rfl rfl ?_
      refine lv_iconst (v := 1) hx hb dJ4_append_34 (by decide) ?_
      refine lv_iadd hx hb dJ4_append_35 ?_
      obtain ⟨h4, eh4, hm⟩ := bdE hm
      refine cg_put C hw eh4 rfl in_J5 tyJ5 tyJ5_ok nmJ5 (by decide) q385 rfl rfl rfl dJ4_append_36 (fun H locs hw => ?_)
      have zh4 := pF_sz eh4
      refine lv_iload_n hx hb dJ4_append_39 rfl (lv_at hl 1 rfl) ?_
      refine lv_i2b hx hb dJ4_append_40 rfl ?_
      obtain ⟨h5, eh5, hm⟩ := bdE hm
      refine cg_bast C hw eh5 dJ4_append_41 (fun H locs hw => ?_)
      have zh5 := uI_sz eh5
      refine lv_goto (tgt := 75) hx hb dJ4_append_42 (by decide) ?_
      refine lv_aload_n hx hb dJ4_append_75 rfl (lv_at hl 0 rfl) ?_
      obtain ⟨er, eh⟩ := retE hm
      have ec : cc = u9.1 - u.1 := by rw [← eh]; omega
      have es : ss = u9.2.1 - u.2.1 := by rw [← eh]; omega
      rw [ec, es, ← hQ]
      exact W.aret (v := .ref x0) hx hb hr (Or.inl ⟨_, rfl⟩) (Or.inr ⟨_, rfl⟩) (fun t ht hW => ⟨⟨h5, x0, rfl, eh, er, ⟨by rw [ht]; exact hw.1, by rw [ht]; exact hw.2.1⟩⟩, hw.2.2.1.F ht⟩) hw.2.2.1.2.2 dJ4_append_76
  have hB14 : ∀ (h : CH) (x0 : Nat) (x1 : Int32) (y0 : Int32) (cc ss : Nat) (H : Heap) (locs : List Loc) (ls : Array Slot), m_J4_append_J5_14 f h x0 x1 y0 = some (r0, u9) → CW D dA A s h H locs → cc + u.1 = h.1 → ss + u.2.1 = h.2.1 → lv_has ls 2 [(0, .ref x0), (1, .int x1)] → W p l e (rm_J4_append_J5 (u9.1 - u.1) (u9.2.1 - u.2.1)) s m args below meth c H locs cc ss QQ (F0 m 14 ls [.int y0]) := by
    intro h x0 x1 y0 cc ss H locs ls hm hw hcc hss hl
    have hmo := mo_J4_append_J5_14  h x0 x1 y0 _ hm
    have sb_ : h.1 ≤ u9.1 := hmo.1
    have tb_ : h.2.1 ≤ u9.2.1 := hmo.2.1
    rw [m_J4_append_J5_14] at hm
    refine lv_if_eq (tgt := 45) hx hb dJ4_append_14 (by decide) (fun c1 => ?_) (fun c1 => ?_)
    · have hm := ifT hm c1
      exact hB45 h x0 x1 _ _ _ _ _ hm hw (by omega) (by omega) (lv_sub hl [0, 1] rfl)
    · have hm := ifF hm c1
      refine lv_iload_n hx hb dJ4_append_17 rfl (lv_at hl 1 rfl) ?_
      obtain ⟨r3, h2, er3, hm⟩ := bd2E hm
      have lh2 := mo_J11_canEncode er3
      have ph2 : h.1 ≤ h2.1 := lh2.1
      have qh2 : h.2.1 ≤ h2.2.1 := lh2.2.1
      have hmo := mo_J4_append_J5_21   h2 x0 x1 r3 _ hm
      have sh2 : h2.1 ≤ u9.1 := hmo.1
      have th2 : h2.2.1 ≤ u9.2.1 := hmo.2.1
      refine cg_calli hw lh2 (va_runS (As := [.int x1]) (rest := []) ⟨hx, hb, hml, hown, hts⟩ (w_J11_canEncode l er3) (cw_J11_canEncode hts q442 ⟨Nat.le_of_ble_eq_true rfl, Nat.le_of_ble_eq_true rfl⟩) (cg_preS C hw _) rfl rfl hl.1 rfl (lv_room (Nat.le_of_ble_eq_true rfl)) dJ4_append_18 ⟨show cc + (h2.1 - h.1) ≤ u9.1 - u.1 by omega, show ss + (h2.2.1 - h.2.1) ≤ u9.2.1 - u.2.1 by omega⟩) (fun H locs hw => ?_)
      exact hB21 h2 x0 x1 r3 _ _ _ _ _ hm hw (by omega) (by omega) (lv_sub hl [0, 1] rfl)
  have hB10 : ∀ (h : CH) (x0 : Nat) (x1 : Int32) (cc ss : Nat) (H : Heap) (locs : List Loc) (ls : Array Slot), m_J4_append_J5_10 f h x0 x1 = some (r0, u9) → CW D dA A s h H locs → cc + u.1 = h.1 → ss + u.2.1 = h.2.1 → lv_has ls 2 [(0, .ref x0), (1, .int x1)] → W p l e (rm_J4_append_J5 (u9.1 - u.1) (u9.2.1 - u.2.1)) s m args below meth c H locs cc ss QQ (F0 m 10 ls []) := by
    intro h x0 x1 cc ss H locs ls hm hw hcc hss hl
    have hmo := mo_J4_append_J5_10  h x0 x1 _ hm
    have sb_ : h.1 ≤ u9.1 := hmo.1
    have tb_ : h.2.1 ≤ u9.2.1 := hmo.2.1
    rw [m_J4_append_J5_10] at hm
    refine lv_aload_n hx hb dJ4_append_10 rfl (lv_at hl 0 rfl) ?_
    obtain ⟨g1, hm⟩ := gdE hm
    obtain ⟨r3, h2, er3, hm⟩ := bd2E hm
    have lh2 := mo_J4_isLatin1_J5 er3
    have ph2 : h.1 ≤ h2.1 := lh2.1
    have qh2 : h.2.1 ≤ h2.2.1 := lh2.2.1
    have hmo := mo_J4_append_J5_14   h2 x0 x1 r3 _ hm
    have sh2 : h2.1 ≤ u9.1 := hmo.1
    have th2 : h2.2.1 ≤ u9.2.1 := hmo.2.1
    refine cg_calli hw lh2 (va_runU (As := []) (rest := []) ⟨hx, hb, hml, hown, hts⟩ (w_J4_isLatin1_J5 l er3) (va_cwU 0 hts (lwU q437 q439 q440 q438 q129 q441) rfl rfl rfl rfl (by decide +kernel) ⟨Nat.le_of_ble_eq_true rfl, Nat.le_of_ble_eq_true rfl⟩) (cg_preV C hw g1 rfl _) rfl rfl hl.1 rfl (lv_room (Nat.le_of_ble_eq_true rfl)) dJ4_append_11 ⟨show cc + (h2.1 - h.1) ≤ u9.1 - u.1 by omega, show ss + (h2.2.1 - h.2.1) ≤ u9.2.1 - u.2.1 by omega⟩) (fun H locs hw => ?_)
    exact hB14 h2 x0 x1 r3 _ _ _ _ _ hm hw (by omega) (by omega) (lv_sub hl [0, 1] rfl)
  rw [m_J4_append_J5] at hm
  refine lv_aload_n hx hb dJ4_append_0 rfl (lv_at hl 0 rfl) ?_
  refine lv_aload_n hx hb dJ4_append_1 rfl (lv_at hl 0 rfl) ?_
  obtain ⟨v1, ev1, hm⟩ := bdE hm
  refine cg_get C hw (oI_E ev1) rfl in_J5 (by decide) q385 dJ4_append_2 ?_
  refine lv_iconst (v := 1) hx hb dJ4_append_5 (by decide) ?_
  refine lv_iadd hx hb dJ4_append_6 ?_
  obtain ⟨g2, hm⟩ := gdE hm
  obtain ⟨h3, eh3, hm⟩ := bdE hm
  have lh3 := mo_J4_ensureCapacityInternal_J5 eh3
  have ph3 : u.1 ≤ h3.1 := lh3.1
  have qh3 : u.2.1 ≤ h3.2.1 := lh3.2.1
  have hmo := mo_J4_append_J5_10   h3 x0 x1 _ hm
  have sh3 : h3.1 ≤ u9.1 := hmo.1
  have th3 : h3.2.1 ≤ u9.2.1 := hmo.2.1
  refine cg_callv hw lh3 (va_runU (As := [.int (v1 + (1 : Int32))]) (rest := []) ⟨hx, hb, hml, hown, hts⟩ (w_J4_ensureCapacityInternal_J5 l eh3) (cwP 1 hts q402 q2187 (va_Nw.use rfl (hw.2.2.2.2.1 _ (List.mem_of_getElem? (i := 94) rfl))) q404 q129 q405 rfl rfl (by decide +kernel) ⟨Nat.le_of_ble_eq_true rfl, Nat.le_of_ble_eq_true rfl⟩) (cg_preV C hw g2 rfl _) rfl rfl hl.1 rfl (lv_room (Nat.le_of_ble_eq_true rfl)) dJ4_append_7 ⟨show cc + (h3.1 - u.1) ≤ u9.1 - u.1 by omega, show ss + (h3.2.1 - u.2.1) ≤ u9.2.1 - u.2.1 by omega⟩) (fun H locs hw => ?_)
  exact hB10 h3 x0 x1 _ _ _ _ _ hm hw (by omega) (by omega) (lv_sub hl [0, 1] rfl)
def m_J5_append_5 (f : Nat) (h : CH) (x0 : Nat) (y0 : Nat) : Option (Nat × CH) := some (x0, h)
theorem mo_J5_append_5 {f : Nat} : ∀ (h : CH) (x0 : Nat) (y0 : Nat) (r : (Nat × CH)), m_J5_append_5 f h x0 y0 = some r → le2 h r.2 := by
  intro h x0 y0 r hm
  rw [m_J5_append_5] at hm
  cases hm
  exact le2.rf
def m_J5_append (f : Nat) (u : CH) (x0 : Nat) (x1 : Int32) : Option (Nat × CH) := gd (isC u x0 18) <|
    bd2 (m_J4_append_J5 f u x0 x1) fun a2 h1 =>
    m_J5_append_5 f h1 x0 a2
theorem mo_J5_append {f : Nat} {u : CH} {x0 : Nat} {x1 : Int32} {r0 : Nat} {u9 : CH} (hm : m_J5_append f u x0 x1 = some (r0, u9)) : le2 u u9 := by
  rw [m_J5_append] at hm
  obtain ⟨g3, hm⟩ := gdE hm
  obtain ⟨a2, h1, ea2, hm⟩ := bd2E hm
  have lh1 := mo_J4_append_J5 ea2
  exact (lh1.tr (mo_J5_append_5  h1 x0 a2 _ hm))
abbrev rm_J5_append (mc ms : Nat) : Room := { frames := 5, cells := mc, slots := ms, locals := 125 }
theorem cw_J5_append {R : Room} {s : State} {args : Array Value} {own : String} {idx mc ms : Nat} (hts : ∀ w ∈ lw_all, w.before args s = true) (hl : Cond.methodLink own idx yJ5_append ∈ lw_all) (hR : 5 + 1 ≤ R.frames ∧ 8 + (2 + 11) + 125 ≤ R.locals) : CallW R s args own RJ5 idx yJ5_append cJ5_append 2 (Option.some (Jvm.ClassFile.FieldType.object "java/lang/StringBuilder")) (ws_ yJ5_append cJ5_append 2 (Option.some (Jvm.ClassFile.FieldType.object "java/lang/StringBuilder"))) (rm_J5_append mc ms) mc ms 1 := cwV 1 hts (lw_V hl q396 q397 q130 q398) rfl rfl rfl (by decide +kernel) hR
set_option maxHeartbeats 4000000 in
set_option maxRecDepth 100000 in
theorem w_J5_append (l : Launch) {D : va_G} {dA : Nat → ClassId} {A : Nat → Prop} {f : Nat} {u u9 : CH} {r0 : Nat} {x0 : Nat} {x1 : Int32} (hm : m_J5_append f u x0 x1 = some (r0, u9)) : Met l yJ5_append (ws_ yJ5_append cJ5_append 2 (Option.some (Jvm.ClassFile.FieldType.object "java/lang/StringBuilder"))) (rm_J5_append (u9.1 - u.1) (u9.2.1 - u.2.1)) (va_Pc [.ref x0, .int x1] (CPre D dA A u)) (va_Qr (fun u => u = u9) (fun u r t => r = r0 ∧ CPost D dA A u t) A) (u9.1 - u.1) (u9.2.1 - u.2.1) A := by
  refine metOfWF (cc := cJ5_append) (maxL := 2) (ret := (Option.some (Jvm.ClassFile.FieldType.object "java/lang/StringBuilder"))) (by decide +kernel) rfl ?_
  intro p e s m args below meth c s₁ B hml hv
  have hx := B.exec
  have hb := B.bytes
  have hr := B.returns
  have hts := atoms_spec (ws := (ws_ yJ5_append cJ5_append 2 (Option.some (Jvm.ClassFile.FieldType.object "java/lang/StringBuilder")))) B.pre
  have hts : ∀ w ∈ lw_all, w.before args s = true := fun w h => hts w (List.mem_cons_of_mem _ h)
  have hown : s.vm.findClass RJ5 = some m.cls := findClass_of_methodNamed B.named
  have hlocks := B.notSynchronized
  obtain ⟨hav, hv⟩ := hv
  have C : CX p s m args c cJ5_append RJ5 D dA := ⟨hx, hb, hown, hts, hv.2⟩
  have hw : CW D dA A s u s.heap [] := hv.1
  generalize hQ : MQ below (va_Qr (fun u => u = u9) (fun u r t => r = r0 ∧ CPost D dA A u t) A) args s (u9.1 - u.1) (u9.2.1 - u.2.1) A = QQ
  have hent := lg_entry_eq m [.ref x0, .int x1] 2
  rw [← hav] at hent
  rw [hent]
  have hl := lv_entry ([.ref x0, .int x1]) (n := 2) (Nat.le_of_ble_eq_true rfl)
  generalize (lg_sl ([.ref x0, .int x1]) ++ List.replicate (2 - (lg_sl ([.ref x0, .int x1])).length) Slot.unset).toArray = ls at hl ⊢
  have hl : lv_has ls 2 [(0, .ref x0), (1, .int x1)] := hl
  obtain ⟨cc, ecc⟩ : ∃ z : Nat, z = 0 := ⟨0, rfl⟩
  obtain ⟨ss, ess⟩ : ∃ z : Nat, z = 0 := ⟨0, rfl⟩
  have hcc : cc + u.1 = u.1 := by omega
  have hss : ss + u.2.1 = u.2.1 := by omega
  suffices hgo : W p l e (rm_J5_append (u9.1 - u.1) (u9.2.1 - u.2.1)) s m args below meth c s.heap [] cc ss QQ (F0 m 0 ls []) by rw [ecc, ess] at hgo; exact hgo
  have ⟨pu, qu, _, _⟩ := mo_J5_append hm
  have hB5 : ∀ (h : CH) (x0 : Nat) (y0 : Nat) (cc ss : Nat) (H : Heap) (locs : List Loc) (ls : Array Slot), m_J5_append_5 f h x0 y0 = some (r0, u9) → CW D dA A s h H locs → cc + u.1 = h.1 → ss + u.2.1 = h.2.1 → lv_has ls 2 [(0, .ref x0)] → W p l e (rm_J5_append (u9.1 - u.1) (u9.2.1 - u.2.1)) s m args below meth c H locs cc ss QQ (F0 m 5 ls [.ref y0]) := by
    intro h x0 y0 cc ss H locs ls hm hw hcc hss hl
    have hmo := mo_J5_append_5  h x0 y0 _ hm
    have sb_ : h.1 ≤ u9.1 := hmo.1
    have tb_ : h.2.1 ≤ u9.2.1 := hmo.2.1
    rw [m_J5_append_5] at hm
    refine lv_pop hx hb dJ5_append_5 rfl ?_
    refine lv_aload_n hx hb dJ5_append_6 rfl (lv_at hl 0 rfl) ?_
    obtain ⟨er, eh⟩ := retE hm
    have ec : cc = u9.1 - u.1 := by rw [← eh]; omega
    have es : ss = u9.2.1 - u.2.1 := by rw [← eh]; omega
    rw [ec, es, ← hQ]
    exact W.aret (v := .ref x0) hx hb hr (Or.inl ⟨_, rfl⟩) (Or.inr ⟨_, rfl⟩) (fun t ht hW => ⟨⟨h, x0, rfl, eh, er, ⟨by rw [ht]; exact hw.1, by rw [ht]; exact hw.2.1⟩⟩, hw.2.2.1.F ht⟩) hw.2.2.1.2.2 dJ5_append_7
  rw [m_J5_append] at hm
  refine lv_aload_n hx hb dJ5_append_0 rfl (lv_at hl 0 rfl) ?_
  refine lv_iload_n hx hb dJ5_append_1 rfl (lv_at hl 1 rfl) ?_
  obtain ⟨g3, hm⟩ := gdE hm
  obtain ⟨a2, h1, ea2, hm⟩ := bd2E hm
  have lh1 := mo_J4_append_J5 ea2
  have ph1 : u.1 ≤ h1.1 := lh1.1
  have qh1 : u.2.1 ≤ h1.2.1 := lh1.2.1
  have hmo := mo_J5_append_5   h1 x0 a2 _ hm
  have sh1 : h1.1 ≤ u9.1 := hmo.1
  have th1 : h1.2.1 ≤ u9.2.1 := hmo.2.1
  refine cg_callr hw lh1 (va_runSU (C.2.2.2.2.1 18 _ rfl).2 (As := [.int x1]) (rest := []) ⟨hx, hb, hml, hown, hts⟩ (w_J4_append_J5 l ea2) (va_cwSU 1 hts (lwSU q399 q2186 q394 q400 q129 q401) rfl rfl rfl (by decide +kernel) ⟨Nat.le_of_ble_eq_true rfl, Nat.le_of_ble_eq_true rfl⟩) (cg_preV C hw g3 rfl _) rfl rfl hl.1 rfl (lv_room (Nat.le_of_ble_eq_true rfl)) dJ5_append_2 ⟨show cc + (h1.1 - u.1) ≤ u9.1 - u.1 by omega, show ss + (h1.2.1 - u.2.1) ≤ u9.2.1 - u.2.1 by omega⟩) (fun H locs hw => ?_)
  exact hB5 h1 x0 a2 _ _ _ _ _ hm hw (by omega) (by omega) (lv_sub hl [0] rfl)
def m_J4_init_J5_14 (f : Nat) (h : CH) (x0 : Nat) (y0 : Nat) (y1 : Nat) : Option CH := bd (pF h 18 0 y0 (.ref y1)) fun h1 =>
    bd (pF h1 18 1 x0 (.int (0 : Int32))) fun h2 =>
    some h2
theorem mo_J4_init_J5_14 {f : Nat} : ∀ (h : CH) (x0 : Nat) (y0 : Nat) (y1 : Nat) (r : CH), m_J4_init_J5_14 f h x0 y0 y1 = some r → le2 h r := by
  intro h x0 y0 y1 r hm
  rw [m_J4_init_J5_14] at hm
  obtain ⟨h1, eh1, hm⟩ := bdE hm
  have lh1 := pF_le eh1
  obtain ⟨h2, eh2, hm⟩ := bdE hm
  have lh2 := pF_le eh2
  cases hm
  exact (lh1.tr (lh2.tr le2.rf))
def m_J4_init_J5 (f : Nat) (u : CH) (x0 : Nat) (x1 : Int32) : Option CH := if (1 : Int32) = 0 then
    none
    else gd (cntok x1) <|
    nmv (cn u (Int32.toNatClampNeg x1) (.inr (2, (Int32.toNatClampNeg x1), .inl (fun _ => 0)))) fun h2 =>
    nmv (u.1 : Nat) fun a4 =>
    m_J4_init_J5_14 f h2 x0 x0 a4
theorem mo_J4_init_J5 {f : Nat} {u : CH} {x0 : Nat} {x1 : Int32} {u9 : CH} (hm : m_J4_init_J5 f u x0 x1 = some u9) : le2 u u9 := by
  rw [m_J4_init_J5] at hm
  by_cases c1 : (1 : Int32) = 0
  · have hm := ifT hm c1
    exact noE hm
  · have hm := ifF hm c1
    obtain ⟨g3, hm⟩ := gdE hm
    obtain ⟨h2, eh2, hm⟩ := nmE hm
    have lh2 := cn_le eh2
    obtain ⟨a4, ea4, hm⟩ := nmE hm
    exact (lh2.tr (mo_J4_init_J5_14  h2 x0 x0 a4 _ hm))
abbrev rm_J4_init_J5 (mc ms : Nat) : Room := { frames := 1, cells := mc, slots := ms, locals := 20 }
theorem cw_J4_init_J5 {R : Room} {s : State} {args : Array Value} {own : String} {idx mc ms : Nat} (hts : ∀ w ∈ lw_all, w.before args s = true) (hl : Cond.methodLink own idx yJ4_init ∈ lw_all) (hR : 1 + 1 ≤ R.frames ∧ 8 + (2 + 11) + 20 ≤ R.locals) : CallB R s args own idx yJ4_init cJ4_init 2 none (ws_ yJ4_init cJ4_init 2 (Option.none : Option Jvm.ClassFile.FieldType)) (rm_J4_init_J5 mc ms) mc ms 1 ∧ yJ4_init.name = "<init>" ∧ (Cond.instanceMethod yJ4_init).before args s = true := cwI 1 hts (lw_meth q371) rfl rfl rfl (hts _ q129) (hts _ hl) (hts _ q370) rfl (by decide +kernel) hR
set_option maxHeartbeats 4000000 in
set_option maxRecDepth 100000 in
theorem w_J4_init_J5 (l : Launch) {D : va_G} {dA : Nat → ClassId} {A : Nat → Prop} {f : Nat} {u u9 : CH} {x0 : Nat} {x1 : Int32} (hm : m_J4_init_J5 f u x0 x1 = some u9) : Met l yJ4_init (ws_ yJ4_init cJ4_init 2 (Option.none : Option Jvm.ClassFile.FieldType)) (rm_J4_init_J5 (u9.1 - u.1) (u9.2.1 - u.2.1)) (va_Pc [.ref x0, .int x1] (CPre D dA A u)) (va_Qv (fun u => u = u9) (CPost D dA A) A) (u9.1 - u.1) (u9.2.1 - u.2.1) A := by
  refine metOfWF (cc := cJ4_init) (maxL := 2) (ret := (Option.none : Option Jvm.ClassFile.FieldType)) (by decide +kernel) rfl ?_
  intro p e s m args below meth c s₁ B hml hv
  have hx := B.exec
  have hb := B.bytes
  have hr := B.returns
  have hts := atoms_spec (ws := (ws_ yJ4_init cJ4_init 2 (Option.none : Option Jvm.ClassFile.FieldType))) B.pre
  have hts : ∀ w ∈ lw_all, w.before args s = true := fun w h => hts w (List.mem_cons_of_mem _ h)
  have hown : s.vm.findClass RJ4 = some m.cls := findClass_of_methodNamed B.named
  have hlocks := B.notSynchronized
  have hin : meth.name = "<init>" := (name_of_methodNamed B.named B.method).1
  obtain ⟨hav, hv⟩ := hv
  have C : CX p s m args c cJ4_init RJ4 D dA := ⟨hx, hb, hown, hts, hv.2⟩
  have hw : CW D dA A s u s.heap [] := hv.1
  generalize hQ : MQ below (va_Qv (fun u => u = u9) (CPost D dA A) A) args s (u9.1 - u.1) (u9.2.1 - u.2.1) A = QQ
  have hent := lg_entry_eq m [.ref x0, .int x1] 2
  rw [← hav] at hent
  rw [hent]
  have hl := lv_entry ([.ref x0, .int x1]) (n := 2) (Nat.le_of_ble_eq_true rfl)
  generalize (lg_sl ([.ref x0, .int x1]) ++ List.replicate (2 - (lg_sl ([.ref x0, .int x1])).length) Slot.unset).toArray = ls at hl ⊢
  have hl : lv_has ls 2 [(0, .ref x0), (1, .int x1)] := hl
  obtain ⟨cc, ecc⟩ : ∃ z : Nat, z = 0 := ⟨0, rfl⟩
  obtain ⟨ss, ess⟩ : ∃ z : Nat, z = 0 := ⟨0, rfl⟩
  have hcc : cc + u.1 = u.1 := by omega
  have hss : ss + u.2.1 = u.2.1 := by omega
  suffices hgo : W p l e (rm_J4_init_J5 (u9.1 - u.1) (u9.2.1 - u.2.1)) s m args below meth c s.heap [] cc ss QQ (F0 m 0 ls []) by rw [ecc, ess] at hgo; exact hgo
  have ⟨pu, qu, _, _⟩ := mo_J4_init_J5 hm
  have hB14 : ∀ (h : CH) (x0 : Nat) (y0 : Nat) (y1 : Nat) (cc ss : Nat) (H : Heap) (locs : List Loc) (ls : Array Slot), m_J4_init_J5_14 f h x0 y0 y1 = some u9 → CW D dA A s h H locs → cc + u.1 = h.1 → ss + u.2.1 = h.2.1 → lv_has ls 2 [(0, .ref x0)] → W p l e (rm_J4_init_J5 (u9.1 - u.1) (u9.2.1 - u.2.1)) s m args below meth c H locs cc ss QQ (F0 m 14 ls [.ref y1, .ref y0]) := by
    intro h x0 y0 y1 cc ss H locs ls hm hw hcc hss hl
    have hmo := mo_J4_init_J5_14  h x0 y0 y1 _ hm
    have sb_ : h.1 ≤ u9.1 := hmo.1
    have tb_ : h.2.1 ≤ u9.2.1 := hmo.2.1
    rw [m_J4_init_J5_14] at hm
    obtain ⟨h1, eh1, hm⟩ := bdE hm
    refine cg_put C hw eh1 rfl in_J5 tyJ5 tyJ5_ok nmJ5 (by decide) q382 rfl rfl rfl dJ4_init_14 (fun H locs hw => ?_)
    have zh1 := pF_sz eh1
    refine lv_aload_n hx hb dJ4_init_17 rfl (lv_at hl 0 rfl) ?_
    refine lv_iconst (v := 0) hx hb dJ4_init_18 (by decide) ?_
    obtain ⟨h2, eh2, hm⟩ := bdE hm
    refine cg_put C hw eh2 rfl in_J5 tyJ5 tyJ5_ok nmJ5 (by decide) q383 rfl rfl rfl dJ4_init_19 (fun H locs hw => ?_)
    have zh2 := pF_sz eh2
    refine lv_goto (tgt := 38) hx hb dJ4_init_22 (by decide) ?_
    have eh := ret1 hm
    have ec : cc = u9.1 - u.1 := by rw [← eh]; omega
    have es : ss = u9.2.1 - u.2.1 := by rw [← eh]; omega
    rw [ec, es, ← hQ]
    exact W.vret hx hb hr (fun t ht hW => ⟨⟨h2, rfl, eh, ⟨by rw [ht]; exact hw.1, by rw [ht]; exact hw.2.1⟩⟩, hw.2.2.1.F ht⟩) hw.2.2.1.2.2 dJ4_init_38
  rw [m_J4_init_J5] at hm
  refine lv_aload_n hx hb dJ4_init_0 rfl (lv_at hl 0 rfl) ?_
  refine W.objInit hx hb hown (hts _ q372) (hts _ q161) (hts _ q162) rfl (by rw [hml]; exact hl.1) rfl dJ4_init_1 (Nat.le_of_ble_eq_true rfl) (Nat.le_of_ble_eq_true rfl) ?_
  refine W.eq (g2 := F0 m 4 ls []) rfl ?_
  refine cg_getsI C hw (i := 0) rfl q373 dJ4_init_4 ?_
  refine lv_if_eq (tgt := 25) hx hb dJ4_init_7 (by decide) (fun c1 => ?_) (fun c1 => ?_)
  · have hm := ifT hm c1
    refine lv_aload_n hx hb dJ4_init_25 rfl (lv_at hl 0 rfl) ?_
    refine lv_iload_n hx hb dJ4_init_26 rfl (lv_at hl 1 rfl) ?_
    exact noE hm
  · have hm := ifF hm c1
    refine lv_aload_n hx hb dJ4_init_10 rfl (lv_at hl 0 rfl) ?_
    refine lv_iload_n hx hb dJ4_init_11 rfl (lv_at hl 1 rfl) ?_
    obtain ⟨g3, hm⟩ := gdE hm
    obtain ⟨h2, eh2, hm⟩ := nmE hm
    obtain ⟨_, _, hmq⟩ := nmE hm
    have hmo := mo_J4_init_J5_14   h2 x0 x0 _ _ hmq
    have sh2 : h2.1 ≤ u9.1 := hmo.1
    have th2 : h2.2.1 ≤ u9.2.1 := hmo.2.1
    have zh2 := cn_sz eh2
    refine cg_newB (C0 := C) hw (N := (Int32.toNatClampNeg x1)) (cntok_nn g3) rfl (cntok_le g3) (show cc + 1 ≤ u9.1 - u.1 by omega) (show ss + (Int32.toNatClampNeg x1) ≤ u9.2.1 - u.2.1 by omega) dJ4_init_12 (fun H hw => ?_)
    rw [← eh2] at hw
    refine lv_topr (fun a4 ea4 => ?_)
    have hm := nmK hm ea4
    exact hB14 h2 x0 x0 a4 _ _ _ _ _ hm hw (by omega) (by omega) (lv_sub hl [0] rfl)
def m_J5_init_5 (f : Nat) (h : CH) : Option CH := some h
theorem mo_J5_init_5 {f : Nat} : ∀ (h : CH) (r : CH), m_J5_init_5 f h = some r → le2 h r := by
  intro h r hm
  rw [m_J5_init_5] at hm
  cases hm
  exact le2.rf
def m_J5_init (f : Nat) (u : CH) (x0 : Nat) (x1 : Int32) : Option CH := bd (m_J4_init_J5 f u x0 x1) fun h1 =>
    m_J5_init_5 f h1
theorem mo_J5_init {f : Nat} {u : CH} {x0 : Nat} {x1 : Int32} {u9 : CH} (hm : m_J5_init f u x0 x1 = some u9) : le2 u u9 := by
  rw [m_J5_init] at hm
  obtain ⟨h1, eh1, hm⟩ := bdE hm
  have lh1 := mo_J4_init_J5 eh1
  exact (lh1.tr (mo_J5_init_5  h1 _ hm))
abbrev rm_J5_init (mc ms : Nat) : Room := { frames := 2, cells := mc, slots := ms, locals := 41 }
theorem cw_J5_init {R : Room} {s : State} {args : Array Value} {own : String} {idx mc ms : Nat} (hts : ∀ w ∈ lw_all, w.before args s = true) (hl : Cond.methodLink own idx yJ5_init ∈ lw_all) (hR : 2 + 1 ≤ R.frames ∧ 8 + (2 + 11) + 41 ≤ R.locals) : CallB R s args own idx yJ5_init cJ5_init 2 none (ws_ yJ5_init cJ5_init 2 (Option.none : Option Jvm.ClassFile.FieldType)) (rm_J5_init mc ms) mc ms 1 ∧ yJ5_init.name = "<init>" ∧ (Cond.instanceMethod yJ5_init).before args s = true := cwI 1 hts (lw_meth q368) rfl rfl rfl (hts _ q130) (hts _ hl) (hts _ q367) rfl (by decide +kernel) hR
set_option maxHeartbeats 4000000 in
set_option maxRecDepth 100000 in
theorem w_J5_init (l : Launch) {D : va_G} {dA : Nat → ClassId} {A : Nat → Prop} {f : Nat} {u u9 : CH} {x0 : Nat} {x1 : Int32} (hm : m_J5_init f u x0 x1 = some u9) : Met l yJ5_init (ws_ yJ5_init cJ5_init 2 (Option.none : Option Jvm.ClassFile.FieldType)) (rm_J5_init (u9.1 - u.1) (u9.2.1 - u.2.1)) (va_Pc [.ref x0, .int x1] (CPre D dA A u)) (va_Qv (fun u => u = u9) (CPost D dA A) A) (u9.1 - u.1) (u9.2.1 - u.2.1) A := by
  refine metOfWF (cc := cJ5_init) (maxL := 2) (ret := (Option.none : Option Jvm.ClassFile.FieldType)) (by decide +kernel) rfl ?_
  intro p e s m args below meth c s₁ B hml hv
  have hx := B.exec
  have hb := B.bytes
  have hr := B.returns
  have hts := atoms_spec (ws := (ws_ yJ5_init cJ5_init 2 (Option.none : Option Jvm.ClassFile.FieldType))) B.pre
  have hts : ∀ w ∈ lw_all, w.before args s = true := fun w h => hts w (List.mem_cons_of_mem _ h)
  have hown : s.vm.findClass RJ5 = some m.cls := findClass_of_methodNamed B.named
  have hlocks := B.notSynchronized
  have hin : meth.name = "<init>" := (name_of_methodNamed B.named B.method).1
  obtain ⟨hav, hv⟩ := hv
  have C : CX p s m args c cJ5_init RJ5 D dA := ⟨hx, hb, hown, hts, hv.2⟩
  have hw : CW D dA A s u s.heap [] := hv.1
  generalize hQ : MQ below (va_Qv (fun u => u = u9) (CPost D dA A) A) args s (u9.1 - u.1) (u9.2.1 - u.2.1) A = QQ
  have hent := lg_entry_eq m [.ref x0, .int x1] 2
  rw [← hav] at hent
  rw [hent]
  have hl := lv_entry ([.ref x0, .int x1]) (n := 2) (Nat.le_of_ble_eq_true rfl)
  generalize (lg_sl ([.ref x0, .int x1]) ++ List.replicate (2 - (lg_sl ([.ref x0, .int x1])).length) Slot.unset).toArray = ls at hl ⊢
  have hl : lv_has ls 2 [(0, .ref x0), (1, .int x1)] := hl
  obtain ⟨cc, ecc⟩ : ∃ z : Nat, z = 0 := ⟨0, rfl⟩
  obtain ⟨ss, ess⟩ : ∃ z : Nat, z = 0 := ⟨0, rfl⟩
  have hcc : cc + u.1 = u.1 := by omega
  have hss : ss + u.2.1 = u.2.1 := by omega
  suffices hgo : W p l e (rm_J5_init (u9.1 - u.1) (u9.2.1 - u.2.1)) s m args below meth c s.heap [] cc ss QQ (F0 m 0 ls []) by rw [ecc, ess] at hgo; exact hgo
  have ⟨pu, qu, _, _⟩ := mo_J5_init hm
  have hB5 : ∀ (h : CH) (cc ss : Nat) (H : Heap) (locs : List Loc) (ls : Array Slot), m_J5_init_5 f h = some u9 → CW D dA A s h H locs → cc + u.1 = h.1 → ss + u.2.1 = h.2.1 → lv_has ls 2 [] → W p l e (rm_J5_init (u9.1 - u.1) (u9.2.1 - u.2.1)) s m args below meth c H locs cc ss QQ (F0 m 5 ls []) := by
    intro h cc ss H locs ls hm hw hcc hss hl
    have hmo := mo_J5_init_5  h _ hm
    have sb_ : h.1 ≤ u9.1 := hmo.1
    have tb_ : h.2.1 ≤ u9.2.1 := hmo.2.1
    rw [m_J5_init_5] at hm
    have eh := ret1 hm
    have ec : cc = u9.1 - u.1 := by rw [← eh]; omega
    have es : ss = u9.2.1 - u.2.1 := by rw [← eh]; omega
    rw [ec, es, ← hQ]
    exact W.vret hx hb hr (fun t ht hW => ⟨⟨h, rfl, eh, ⟨by rw [ht]; exact hw.1, by rw [ht]; exact hw.2.1⟩⟩, hw.2.2.1.F ht⟩) hw.2.2.1.2.2 dJ5_init_5
  rw [m_J5_init] at hm
  refine lv_aload_n hx hb dJ5_init_0 rfl (lv_at hl 0 rfl) ?_
  refine lv_iload_n hx hb dJ5_init_1 rfl (lv_at hl 1 rfl) ?_
  obtain ⟨h1, eh1, hm⟩ := bdE hm
  have lh1 := mo_J4_init_J5 eh1
  have ph1 : u.1 ≤ h1.1 := lh1.1
  have qh1 : u.2.1 ≤ h1.2.1 := lh1.2.1
  have hmo := mo_J5_init_5   h1 _ hm
  have sh1 : h1.1 ≤ u9.1 := hmo.1
  have th1 : h1.2.1 ≤ u9.2.1 := hmo.2.1
  refine cg_callv hw lh1 (va_runI (As := [.int x1]) (rest := []) ⟨hx, hb, hml, hown, hts⟩ (w_J4_init_J5 l eh1) (cw_J4_init_J5 hts q369 ⟨Nat.le_of_ble_eq_true rfl, Nat.le_of_ble_eq_true rfl⟩) (cg_preS C hw _) rfl rfl hl.1 rfl (lv_room (Nat.le_of_ble_eq_true rfl)) dJ5_init_2 ⟨show cc + (h1.1 - u.1) ≤ u9.1 - u.1 by omega, show ss + (h1.2.1 - u.2.1) ≤ u9.2.1 - u.2.1 by omega⟩) (fun H locs hw => ?_)
  exact hB5 h1 _ _ _ _ _ hm hw (by omega) (by omega) (lv_sub hl [] rfl)
def m_X4_advance_26 (f : Nat) (k0 : CH → Nat → Option CH) (h : CH) (x0 : Nat) : Option CH := bd (oI h 4 2 x0) fun v1 =>
    bd (pF h 4 2 x0 (.int (v1 + (1 : Int32)))) fun h2 =>
    k0 h2 x0
theorem mo_X4_advance_26 {f : Nat} {k0 : CH → Nat → Option CH} (hk0 : ∀ (h : CH) (x0 : Nat) (r : CH), k0 h x0 = some r → le2 h r) : ∀ (h : CH) (x0 : Nat) (r : CH), m_X4_advance_26 f k0 h x0 = some r → le2 h r := by
  intro h x0 r hm
  rw [m_X4_advance_26] at hm
  obtain ⟨v1, ev1, hm⟩ := bdE hm
  obtain ⟨h2, eh2, hm⟩ := bdE hm
  have lh2 := pF_le eh2
  exact (lh2.tr (hk0 h2 x0 _ hm))
def m_X4_advance_294 (f : Nat) (h : CH) : Option CH := some h
theorem mo_X4_advance_294 {f : Nat} : ∀ (h : CH) (r : CH), m_X4_advance_294 f h = some r → le2 h r := by
  intro h r hm
  rw [m_X4_advance_294] at hm
  cases hm
  exact le2.rf
def m_X4_advance_281 (f : Nat) (h : CH) (x0 : Nat) (y0 : Nat) (y1 : Nat) : Option CH := bd (pF h 4 7 y0 (.ref y1)) fun h1 =>
    bd (oI h1 4 2 x0) fun v2 =>
    bd (pF h1 4 2 x0 (.int (v2 + (1 : Int32)))) fun h3 =>
    m_X4_advance_294 f h3
theorem mo_X4_advance_281 {f : Nat} : ∀ (h : CH) (x0 : Nat) (y0 : Nat) (y1 : Nat) (r : CH), m_X4_advance_281 f h x0 y0 y1 = some r → le2 h r := by
  intro h x0 y0 y1 r hm
  rw [m_X4_advance_281] at hm
  obtain ⟨h1, eh1, hm⟩ := bdE hm
  have lh1 := pF_le eh1
  obtain ⟨v2, ev2, hm⟩ := bdE hm
  obtain ⟨h3, eh3, hm⟩ := bdE hm
  have lh3 := pF_le eh3
  exact (lh1.tr (lh3.tr (mo_X4_advance_294  h3 _ hm)))
def m_X4_advance_243 (f : Nat) (h : CH) (x0 : Nat) : Option CH := bd (sR h 5) fun a1 =>
    bd (pF h 4 7 x0 (.ref a1)) fun h2 =>
    m_X4_advance_294 f h2
theorem mo_X4_advance_243 {f : Nat} : ∀ (h : CH) (x0 : Nat) (r : CH), m_X4_advance_243 f h x0 = some r → le2 h r := by
  intro h x0 r hm
  rw [m_X4_advance_243] at hm
  obtain ⟨a1, ea1, hm⟩ := bdE hm
  obtain ⟨h2, eh2, hm⟩ := bdE hm
  have lh2 := pF_le eh2
  exact (lh2.tr (mo_X4_advance_294  h2 _ hm))
def m_X4_advance_220 (f : Nat) (k180 : CH → Nat → Option CH) (h : CH) (x0 : Nat) (y0 : Nat) (y1 : Int32) (y2 : Int32) (y3 : Int32) : Option CH := bd (m_J9_min f y1 ((y2 + y3) - (48 : Int32))) fun r1 =>
    bd (pF h 4 4 y0 (.int r1)) fun h2 =>
    bd (oI h2 4 2 x0) fun v3 =>
    bd (pF h2 4 2 x0 (.int (v3 + (1 : Int32)))) fun h4 =>
    k180 h4 x0
theorem mo_X4_advance_220 {f : Nat} {k180 : CH → Nat → Option CH} (hk180 : ∀ (h : CH) (x0 : Nat) (r : CH), k180 h x0 = some r → le2 h r) : ∀ (h : CH) (x0 : Nat) (y0 : Nat) (y1 : Int32) (y2 : Int32) (y3 : Int32) (r : CH), m_X4_advance_220 f k180 h x0 y0 y1 y2 y3 = some r → le2 h r := by
  intro h x0 y0 y1 y2 y3 r hm
  rw [m_X4_advance_220] at hm
  obtain ⟨r1, er1, hm⟩ := bdE hm
  obtain ⟨h2, eh2, hm⟩ := bdE hm
  have lh2 := pF_le eh2
  obtain ⟨v3, ev3, hm⟩ := bdE hm
  obtain ⟨h4, eh4, hm⟩ := bdE hm
  have lh4 := pF_le eh4
  exact (lh2.tr (lh4.tr (hk180 h4 x0 _ hm)))
def m_X4_advance_188 (f : Nat) (k180 : CH → Nat → Option CH) (h : CH) (x0 : Nat) (y0 : Int32) : Option CH := bd (m_X0_isIn f (Int32.toInt64 y0) (48 : Int64) (57 : Int64)) fun r1 =>
    if r1 = 0 then
    m_X4_advance_243 f h x0
    else bd (oI h 4 4 x0) fun v3 =>
    bd (oI h 4 2 x0) fun v4 =>
    gd (isC h x0 4) <|
    bd2 (m_X4_byteAt f h x0 v4) fun r7 h6 =>
    m_X4_advance_220 f k180 h6 x0 x0 (9999 : Int32) ((10 : Int32) * v3) r7
theorem mo_X4_advance_188 {f : Nat} {k180 : CH → Nat → Option CH} (hk180 : ∀ (h : CH) (x0 : Nat) (r : CH), k180 h x0 = some r → le2 h r) : ∀ (h : CH) (x0 : Nat) (y0 : Int32) (r : CH), m_X4_advance_188 f k180 h x0 y0 = some r → le2 h r := by
  intro h x0 y0 r hm
  rw [m_X4_advance_188] at hm
  obtain ⟨r1, er1, hm⟩ := bdE hm
  by_cases c2 : r1 = 0
  · have hm := ifT hm c2
    exact (mo_X4_advance_243  h x0 _ hm)
  · have hm := ifF hm c2
    obtain ⟨v3, ev3, hm⟩ := bdE hm
    obtain ⟨v4, ev4, hm⟩ := bdE hm
    obtain ⟨g5, hm⟩ := gdE hm
    obtain ⟨r7, h6, er7, hm⟩ := bd2E hm
    have lh6 := mo_X4_byteAt er7
    exact (lh6.tr (mo_X4_advance_220 hk180 h6 x0 x0 (9999 : Int32) ((10 : Int32) * v3) r7 _ hm))
def m_X4_advance_180 (f : Nat) : Nat → CH → Nat → Option CH
  | 0, _, _ => none
  | n180 + 1, h, x0 => bd (oI h 4 2 x0) fun v1 =>
    gd (isC h x0 4) <|
    bd2 (m_X4_byteAt f h x0 v1) fun r4 h3 =>
    m_X4_advance_188 f (m_X4_advance_180 f n180) h3 x0 r4
theorem mo_X4_advance_180 {f : Nat} : ∀ (n180 : Nat) (h : CH) (x0 : Nat) (r : CH), m_X4_advance_180 f n180 h x0 = some r → le2 h r := by
  intro n180
  induction n180 with
  | zero => intro h x0 r hm; rw [m_X4_advance_180] at hm; exact noE hm
  | succ n180 ihm =>
    intro h x0 r hm
    rw [m_X4_advance_180] at hm
    obtain ⟨v1, ev1, hm⟩ := bdE hm
    obtain ⟨g2, hm⟩ := gdE hm
    obtain ⟨r4, h3, er4, hm⟩ := bd2E hm
    have lh3 := mo_X4_byteAt er4
    exact (lh3.tr (mo_X4_advance_188 ihm h3 x0 r4 _ hm))
def m_X4_advance_148 (f : Nat) (h : CH) (x0 : Nat) (y0 : Nat) (y1 : Nat) : Option CH := bd (pF h 4 8 y0 (.ref y1)) fun h1 =>
    bd (sR h1 7) fun a2 =>
    bd (pF h1 4 7 x0 (.ref a2)) fun h3 =>
    m_X4_advance_294 f h3
theorem mo_X4_advance_148 {f : Nat} : ∀ (h : CH) (x0 : Nat) (y0 : Nat) (y1 : Nat) (r : CH), m_X4_advance_148 f h x0 y0 y1 = some r → le2 h r := by
  intro h x0 y0 y1 r hm
  rw [m_X4_advance_148] at hm
  obtain ⟨h1, eh1, hm⟩ := bdE hm
  have lh1 := pF_le eh1
  obtain ⟨a2, ea2, hm⟩ := bdE hm
  obtain ⟨h3, eh3, hm⟩ := bdE hm
  have lh3 := pF_le eh3
  exact (lh1.tr (lh3.tr (mo_X4_advance_294  h3 _ hm)))
def m_X4_advance_143 (f : Nat) (h : CH) (x0 : Nat) (x2 : Nat) : Option CH := gd (isC h x2 18) <|
    bd2 (m_J5_toString f h x2) fun a3 h2 =>
    m_X4_advance_148 f h2 x0 x0 a3
theorem mo_X4_advance_143 {f : Nat} : ∀ (h : CH) (x0 : Nat) (x2 : Nat) (r : CH), m_X4_advance_143 f h x0 x2 = some r → le2 h r := by
  intro h x0 x2 r hm
  rw [m_X4_advance_143] at hm
  obtain ⟨g1, hm⟩ := gdE hm
  obtain ⟨a3, h2, ea3, hm⟩ := bd2E hm
  have lh2 := mo_J5_toString ea3
  exact (lh2.tr (mo_X4_advance_148  h2 x0 x0 a3 _ hm))
def m_X4_advance_129 (f : Nat) (k95 : CH → Nat → Nat → Option CH) (h : CH) (x0 : Nat) (x2 : Nat) (y0 : Nat) : Option CH := bd (oI h 4 2 x0) fun v1 =>
    bd (pF h 4 2 x0 (.int (v1 + (1 : Int32)))) fun h2 =>
    k95 h2 x0 x2
theorem mo_X4_advance_129 {f : Nat} {k95 : CH → Nat → Nat → Option CH} (hk95 : ∀ (h : CH) (x0 : Nat) (x2 : Nat) (r : CH), k95 h x0 x2 = some r → le2 h r) : ∀ (h : CH) (x0 : Nat) (x2 : Nat) (y0 : Nat) (r : CH), m_X4_advance_129 f k95 h x0 x2 y0 = some r → le2 h r := by
  intro h x0 x2 y0 r hm
  rw [m_X4_advance_129] at hm
  obtain ⟨v1, ev1, hm⟩ := bdE hm
  obtain ⟨h2, eh2, hm⟩ := bdE hm
  have lh2 := pF_le eh2
  exact (lh2.tr (hk95 h2 x0 x2 _ hm))
def m_X4_advance_125 (f : Nat) (k95 : CH → Nat → Nat → Option CH) (h : CH) (x0 : Nat) (x2 : Nat) (y0 : Nat) (y1 : Int32) : Option CH := gd (isC h y0 18) <|
    bd2 (m_J5_append f h y0 (UInt32.toInt32 (Int32.toUInt32 y1 % 65536))) fun a3 h2 =>
    m_X4_advance_129 f k95 h2 x0 x2 a3
theorem mo_X4_advance_125 {f : Nat} {k95 : CH → Nat → Nat → Option CH} (hk95 : ∀ (h : CH) (x0 : Nat) (x2 : Nat) (r : CH), k95 h x0 x2 = some r → le2 h r) : ∀ (h : CH) (x0 : Nat) (x2 : Nat) (y0 : Nat) (y1 : Int32) (r : CH), m_X4_advance_125 f k95 h x0 x2 y0 y1 = some r → le2 h r := by
  intro h x0 x2 y0 y1 r hm
  rw [m_X4_advance_125] at hm
  obtain ⟨g1, hm⟩ := gdE hm
  obtain ⟨a3, h2, ea3, hm⟩ := bd2E hm
  have lh2 := mo_J5_append ea3
  exact (lh2.tr (mo_X4_advance_129 hk95 h2 x0 x2 a3 _ hm))
def m_X4_advance_103 (f : Nat) (k95 : CH → Nat → Nat → Option CH) (h : CH) (x0 : Nat) (x2 : Nat) (y0 : Int32) : Option CH := bd (m_X0_isIn f (Int32.toInt64 y0) (97 : Int64) (122 : Int64)) fun r1 =>
    if r1 = 0 then
    m_X4_advance_143 f h x0 x2
    else bd (oI h 4 2 x0) fun v3 =>
    gd (isC h x0 4) <|
    bd2 (m_X4_byteAt f h x0 v3) fun r6 h5 =>
    m_X4_advance_125 f k95 h5 x0 x2 x2 r6
theorem mo_X4_advance_103 {f : Nat} {k95 : CH → Nat → Nat → Option CH} (hk95 : ∀ (h : CH) (x0 : Nat) (x2 : Nat) (r : CH), k95 h x0 x2 = some r → le2 h r) : ∀ (h : CH) (x0 : Nat) (x2 : Nat) (y0 : Int32) (r : CH), m_X4_advance_103 f k95 h x0 x2 y0 = some r → le2 h r := by
  intro h x0 x2 y0 r hm
  rw [m_X4_advance_103] at hm
  obtain ⟨r1, er1, hm⟩ := bdE hm
  by_cases c2 : r1 = 0
  · have hm := ifT hm c2
    exact (mo_X4_advance_143  h x0 x2 _ hm)
  · have hm := ifF hm c2
    obtain ⟨v3, ev3, hm⟩ := bdE hm
    obtain ⟨g4, hm⟩ := gdE hm
    obtain ⟨r6, h5, er6, hm⟩ := bd2E hm
    have lh5 := mo_X4_byteAt er6
    exact (lh5.tr (mo_X4_advance_125 hk95 h5 x0 x2 x2 r6 _ hm))
def m_X4_advance_95 (f : Nat) : Nat → CH → Nat → Nat → Option CH
  | 0, _, _, _ => none
  | n95 + 1, h, x0, x2 => bd (oI h 4 2 x0) fun v1 =>
    gd (isC h x0 4) <|
    bd2 (m_X4_byteAt f h x0 v1) fun r4 h3 =>
    m_X4_advance_103 f (m_X4_advance_95 f n95) h3 x0 x2 r4
theorem mo_X4_advance_95 {f : Nat} : ∀ (n95 : Nat) (h : CH) (x0 : Nat) (x2 : Nat) (r : CH), m_X4_advance_95 f n95 h x0 x2 = some r → le2 h r := by
  intro n95
  induction n95 with
  | zero => intro h x0 x2 r hm; rw [m_X4_advance_95] at hm; exact noE hm
  | succ n95 ihm =>
    intro h x0 x2 r hm
    rw [m_X4_advance_95] at hm
    obtain ⟨v1, ev1, hm⟩ := bdE hm
    obtain ⟨g2, hm⟩ := gdE hm
    obtain ⟨r4, h3, er4, hm⟩ := bd2E hm
    have lh3 := mo_X4_byteAt er4
    exact (lh3.tr (mo_X4_advance_103 ihm h3 x0 x2 r4 _ hm))
def m_X4_advance_94 (f : Nat) (h : CH) (x0 : Nat) (y0 : Nat) : Option CH := m_X4_advance_95 f f h x0 y0
theorem mo_X4_advance_94 {f : Nat} : ∀ (h : CH) (x0 : Nat) (y0 : Nat) (r : CH), m_X4_advance_94 f h x0 y0 = some r → le2 h r := by
  intro h x0 y0 r hm
  rw [m_X4_advance_94] at hm
  exact (mo_X4_advance_95  f h x0 y0 _ hm)
def m_X4_advance_88 (f : Nat) (h : CH) (x0 : Nat) (y0 : Nat) : Option CH := bd (m_J5_init f h y0 (8 : Int32)) fun h1 =>
    m_X4_advance_94 f h1 x0 y0
theorem mo_X4_advance_88 {f : Nat} : ∀ (h : CH) (x0 : Nat) (y0 : Nat) (r : CH), m_X4_advance_88 f h x0 y0 = some r → le2 h r := by
  intro h x0 y0 r hm
  rw [m_X4_advance_88] at hm
  obtain ⟨h1, eh1, hm⟩ := bdE hm
  have lh1 := mo_J5_init eh1
  exact (lh1.tr (mo_X4_advance_94  h1 x0 y0 _ hm))
def m_X4_advance_55 (f : Nat) (h : CH) (x0 : Nat) (y0 : Int32) : Option CH := if ¬ y0 = (-1 : Int32) then
    bd (m_X0_isIn f (Int32.toInt64 y0) (97 : Int64) (122 : Int64)) fun r2 =>
    if r2 = 0 then
    bd (m_X0_isIn f (Int32.toInt64 y0) (48 : Int64) (57 : Int64)) fun r4 =>
    if r4 = 0 then
    if ¬ y0 = (59 : Int32) then
    if ¬ y0 = (45 : Int32) then
    bd (sR h 2) fun a8 =>
    m_X4_advance_281 f h x0 x0 a8
    else bd (sR h 3) fun a9 =>
    m_X4_advance_281 f h x0 x0 a9
    else bd (sR h 6) fun a10 =>
    m_X4_advance_281 f h x0 x0 a10
    else bd (pF h 4 4 x0 (.int (0 : Int32))) fun h11 =>
    m_X4_advance_180 f f h11 x0
    else nmv (cn h 4 (.inl (18, [.null, .int 0, .int 0, .int 0]))) fun h12 =>
    nmv (h.1 : Nat) fun a13 =>
    m_X4_advance_88 f h12 x0 a13
    else bd (sR h 4) fun a14 =>
    bd (pF h 4 7 x0 (.ref a14)) fun h15 =>
    m_X4_advance_294 f h15
theorem mo_X4_advance_55 {f : Nat} : ∀ (h : CH) (x0 : Nat) (y0 : Int32) (r : CH), m_X4_advance_55 f h x0 y0 = some r → le2 h r := by
  intro h x0 y0 r hm
  rw [m_X4_advance_55] at hm
  by_cases c1 : ¬ y0 = (-1 : Int32)
  · have hm := ifT hm c1
    obtain ⟨r2, er2, hm⟩ := bdE hm
    by_cases c3 : r2 = 0
    · have hm := ifT hm c3
      obtain ⟨r4, er4, hm⟩ := bdE hm
      by_cases c5 : r4 = 0
      · have hm := ifT hm c5
        by_cases c6 : ¬ y0 = (59 : Int32)
        · have hm := ifT hm c6
          by_cases c7 : ¬ y0 = (45 : Int32)
          · have hm := ifT hm c7
            obtain ⟨a8, ea8, hm⟩ := bdE hm
            exact (mo_X4_advance_281  h x0 x0 a8 _ hm)
          · have hm := ifF hm c7
            obtain ⟨a9, ea9, hm⟩ := bdE hm
            exact (mo_X4_advance_281  h x0 x0 a9 _ hm)
        · have hm := ifF hm c6
          obtain ⟨a10, ea10, hm⟩ := bdE hm
          exact (mo_X4_advance_281  h x0 x0 a10 _ hm)
      · have hm := ifF hm c5
        obtain ⟨h11, eh11, hm⟩ := bdE hm
        have lh11 := pF_le eh11
        exact (lh11.tr (mo_X4_advance_180  f h11 x0 _ hm))
    · have hm := ifF hm c3
      obtain ⟨h12, eh12, hm⟩ := nmE hm
      have lh12 := cn_le eh12
      obtain ⟨a13, ea13, hm⟩ := nmE hm
      exact (lh12.tr (mo_X4_advance_88  h12 x0 a13 _ hm))
  · have hm := ifF hm c1
    obtain ⟨a14, ea14, hm⟩ := bdE hm
    obtain ⟨h15, eh15, hm⟩ := bdE hm
    have lh15 := pF_le eh15
    exact (lh15.tr (mo_X4_advance_294  h15 _ hm))
def m_X4_advance_39 (f : Nat) (h : CH) (x0 : Nat) : Option CH := bd (oI h 4 2 x0) fun v1 =>
    bd (pF h 4 3 x0 (.int v1)) fun h2 =>
    bd (oI h2 4 2 x0) fun v3 =>
    gd (isC h2 x0 4) <|
    bd2 (m_X4_byteAt f h2 x0 v3) fun r6 h5 =>
    m_X4_advance_55 f h5 x0 r6
theorem mo_X4_advance_39 {f : Nat} : ∀ (h : CH) (x0 : Nat) (r : CH), m_X4_advance_39 f h x0 = some r → le2 h r := by
  intro h x0 r hm
  rw [m_X4_advance_39] at hm
  obtain ⟨v1, ev1, hm⟩ := bdE hm
  obtain ⟨h2, eh2, hm⟩ := bdE hm
  have lh2 := pF_le eh2
  obtain ⟨v3, ev3, hm⟩ := bdE hm
  obtain ⟨g4, hm⟩ := gdE hm
  obtain ⟨r6, h5, er6, hm⟩ := bd2E hm
  have lh5 := mo_X4_byteAt er6
  exact (lh2.tr (lh5.tr (mo_X4_advance_55  h5 x0 r6 _ hm)))
def m_X4_advance_21 (f : Nat) (k0 : CH → Nat → Option CH) (h : CH) (x0 : Nat) (y0 : Int32) : Option CH := if ¬ y0 = (10 : Int32) then
    m_X4_advance_39 f h x0
    else m_X4_advance_26 f k0 h x0
theorem mo_X4_advance_21 {f : Nat} {k0 : CH → Nat → Option CH} (hk0 : ∀ (h : CH) (x0 : Nat) (r : CH), k0 h x0 = some r → le2 h r) : ∀ (h : CH) (x0 : Nat) (y0 : Int32) (r : CH), m_X4_advance_21 f k0 h x0 y0 = some r → le2 h r := by
  intro h x0 y0 r hm
  rw [m_X4_advance_21] at hm
  by_cases c1 : ¬ y0 = (10 : Int32)
  · have hm := ifT hm c1
    exact (mo_X4_advance_39  h x0 _ hm)
  · have hm := ifF hm c1
    exact (mo_X4_advance_26 hk0 h x0 _ hm)
def m_X4_advance_8 (f : Nat) (k0 : CH → Nat → Option CH) (h : CH) (x0 : Nat) (y0 : Int32) : Option CH := if y0 = (32 : Int32) then
    m_X4_advance_26 f k0 h x0
    else bd (oI h 4 2 x0) fun v2 =>
    gd (isC h x0 4) <|
    bd2 (m_X4_byteAt f h x0 v2) fun r5 h4 =>
    m_X4_advance_21 f k0 h4 x0 r5
theorem mo_X4_advance_8 {f : Nat} {k0 : CH → Nat → Option CH} (hk0 : ∀ (h : CH) (x0 : Nat) (r : CH), k0 h x0 = some r → le2 h r) : ∀ (h : CH) (x0 : Nat) (y0 : Int32) (r : CH), m_X4_advance_8 f k0 h x0 y0 = some r → le2 h r := by
  intro h x0 y0 r hm
  rw [m_X4_advance_8] at hm
  by_cases c1 : y0 = (32 : Int32)
  · have hm := ifT hm c1
    exact (mo_X4_advance_26 hk0 h x0 _ hm)
  · have hm := ifF hm c1
    obtain ⟨v2, ev2, hm⟩ := bdE hm
    obtain ⟨g3, hm⟩ := gdE hm
    obtain ⟨r5, h4, er5, hm⟩ := bd2E hm
    have lh4 := mo_X4_byteAt er5
    exact (lh4.tr (mo_X4_advance_21 hk0 h4 x0 r5 _ hm))
def m_X4_advance_0 (f : Nat) : Nat → CH → Nat → Option CH
  | 0, _, _ => none
  | n0 + 1, h, x0 => bd (oI h 4 2 x0) fun v1 =>
    gd (isC h x0 4) <|
    bd2 (m_X4_byteAt f h x0 v1) fun r4 h3 =>
    m_X4_advance_8 f (m_X4_advance_0 f n0) h3 x0 r4
theorem mo_X4_advance_0 {f : Nat} : ∀ (n0 : Nat) (h : CH) (x0 : Nat) (r : CH), m_X4_advance_0 f n0 h x0 = some r → le2 h r := by
  intro n0
  induction n0 with
  | zero => intro h x0 r hm; rw [m_X4_advance_0] at hm; exact noE hm
  | succ n0 ihm =>
    intro h x0 r hm
    rw [m_X4_advance_0] at hm
    obtain ⟨v1, ev1, hm⟩ := bdE hm
    obtain ⟨g2, hm⟩ := gdE hm
    obtain ⟨r4, h3, er4, hm⟩ := bd2E hm
    have lh3 := mo_X4_byteAt er4
    exact (lh3.tr (mo_X4_advance_8 ihm h3 x0 r4 _ hm))
def m_X4_advance (f : Nat) (u : CH) (x0 : Nat) : Option CH := m_X4_advance_0 f f u x0
theorem mo_X4_advance {f : Nat} {u : CH} {x0 : Nat} {u9 : CH} (hm : m_X4_advance f u x0 = some u9) : le2 u u9 := by
  rw [m_X4_advance] at hm
  exact (mo_X4_advance_0  f u x0 _ hm)
abbrev rm_X4_advance (mc ms : Nat) : Room := { frames := 6, cells := mc, slots := ms, locals := 171 }
theorem cw_X4_advance {R : Room} {s : State} {args : Array Value} {own : String} {idx mc ms : Nat} (hts : ∀ w ∈ lw_all, w.before args s = true) (hl : Cond.methodLink own idx yX4_advance ∈ lw_all) (hR : 6 + 1 ≤ R.frames ∧ 8 + (3 + 11) + 171 ≤ R.locals) : CallW R s args own RX4 idx yX4_advance cX4_advance 3 (Option.none : Option Jvm.ClassFile.FieldType) (ws_ yX4_advance cX4_advance 3 (Option.none : Option Jvm.ClassFile.FieldType)) (rm_X4_advance mc ms) mc ms 0 := cwV 0 hts (lw_V hl q353 qs1 q126 q354) rfl rfl rfl (by decide +kernel) hR
set_option maxHeartbeats 4000000 in
set_option maxRecDepth 100000 in
theorem w_X4_advance (l : Launch) {D : va_G} {dA : Nat → ClassId} {A : Nat → Prop} {f : Nat} {u u9 : CH} {x0 : Nat} (hm : m_X4_advance f u x0 = some u9) : Met l yX4_advance (ws_ yX4_advance cX4_advance 3 (Option.none : Option Jvm.ClassFile.FieldType)) (rm_X4_advance (u9.1 - u.1) (u9.2.1 - u.2.1)) (va_Pc [.ref x0] (CPre D dA A u)) (va_Qv (fun u => u = u9) (CPost D dA A) A) (u9.1 - u.1) (u9.2.1 - u.2.1) A := by
  refine Met.ofW (cc := cX4_advance) (maxL := 3) (ret := (Option.none : Option Jvm.ClassFile.FieldType)) (by decide) rfl ?_
  intro p e s m args below meth c s₁ B hml hv
  have hx := B.exec
  have hb := B.bytes
  have hr := B.returns
  have hts := atoms_spec (ws := (ws_ yX4_advance cX4_advance 3 (Option.none : Option Jvm.ClassFile.FieldType))) B.pre
  have hts : ∀ w ∈ lw_all, w.before args s = true := fun w h => hts w (List.mem_cons_of_mem _ h)
  have hown : s.vm.findClass RX4 = some m.cls := findClass_of_methodNamed B.named
  have hlocks := B.notSynchronized
  obtain ⟨hav, hv⟩ := hv
  have C : CX p s m args c cX4_advance RX4 D dA := ⟨hx, hb, hown, hts, hv.2⟩
  have hw : CW D dA A s u s.heap [] := hv.1
  generalize hQ : MQ below (va_Qv (fun u => u = u9) (CPost D dA A) A) args s (u9.1 - u.1) (u9.2.1 - u.2.1) A = QQ
  have hent := lg_entry_eq m [.ref x0] 3
  rw [← hav] at hent
  rw [hent]
  have hl := lv_entry ([.ref x0]) (n := 3) (Nat.le_of_ble_eq_true rfl)
  generalize (lg_sl ([.ref x0]) ++ List.replicate (3 - (lg_sl ([.ref x0])).length) Slot.unset).toArray = ls at hl ⊢
  have hl : lv_has ls 3 [(0, .ref x0)] := hl
  obtain ⟨cc, ecc⟩ : ∃ z : Nat, z = 0 := ⟨0, rfl⟩
  obtain ⟨ss, ess⟩ : ∃ z : Nat, z = 0 := ⟨0, rfl⟩
  have hcc : cc + u.1 = u.1 := by omega
  have hss : ss + u.2.1 = u.2.1 := by omega
  suffices hgo : W p l e (rm_X4_advance (u9.1 - u.1) (u9.2.1 - u.2.1)) s m args below meth c s.heap [] cc ss QQ (F0 m 0 ls []) by rw [ecc, ess] at hgo; exact hgo
  have ⟨pu, qu, _, _⟩ := mo_X4_advance hm
  have hB294 : ∀ (h : CH) (cc ss : Nat) (H : Heap) (locs : List Loc) (ls : Array Slot), m_X4_advance_294 f h = some u9 → CW D dA A s h H locs → cc + u.1 = h.1 → ss + u.2.1 = h.2.1 → lv_has ls 3 [] → W p l e (rm_X4_advance (u9.1 - u.1) (u9.2.1 - u.2.1)) s m args below meth c H locs cc ss QQ (F0 m 294 ls []) := by
    intro h cc ss H locs ls hm hw hcc hss hl
    have hmo := mo_X4_advance_294  h _ hm
    have sb_ : h.1 ≤ u9.1 := hmo.1
    have tb_ : h.2.1 ≤ u9.2.1 := hmo.2.1
    rw [m_X4_advance_294] at hm
    have eh := ret1 hm
    have ec : cc = u9.1 - u.1 := by rw [← eh]; omega
    have es : ss = u9.2.1 - u.2.1 := by rw [← eh]; omega
    rw [ec, es, ← hQ]
    exact W.vret hx hb hr (fun t ht hW => ⟨⟨h, rfl, eh, ⟨by rw [ht]; exact hw.1, by rw [ht]; exact hw.2.1⟩⟩, hw.2.2.1.F ht⟩) hw.2.2.1.2.2 dX4_advance_294
  have hB281 : ∀ (h : CH) (x0 : Nat) (y0 : Nat) (y1 : Nat) (cc ss : Nat) (H : Heap) (locs : List Loc) (ls : Array Slot), m_X4_advance_281 f h x0 y0 y1 = some u9 → CW D dA A s h H locs → cc + u.1 = h.1 → ss + u.2.1 = h.2.1 → lv_has ls 3 [(0, .ref x0)] → W p l e (rm_X4_advance (u9.1 - u.1) (u9.2.1 - u.2.1)) s m args below meth c H locs cc ss QQ (F0 m 281 ls [.ref y1, .ref y0]) := by
    intro h x0 y0 y1 cc ss H locs ls hm hw hcc hss hl
    have hmo := mo_X4_advance_281  h x0 y0 y1 _ hm
    have sb_ : h.1 ≤ u9.1 := hmo.1
    have tb_ : h.2.1 ≤ u9.2.1 := hmo.2.1
    rw [m_X4_advance_281] at hm
    obtain ⟨h1, eh1, hm⟩ := bdE hm
    refine cg_put C hw eh1 rfl in_X4 tyX4 tyX4_ok nmX4 (by decide) q323 rfl rfl rfl dX4_advance_281 (fun H locs hw => ?_)
    have zh1 := pF_sz eh1
    refine lv_aload_n hx hb dX4_advance_284 rfl (lv_at hl 0 rfl) ?_
    refine lv_dup hx hb dX4_advance_285 rfl ?_
    obtain ⟨v2, ev2, hm⟩ := bdE hm
    refine cg_get C hw (oI_E ev2) rfl in_X4 (by decide) q317 dX4_advance_286 ?_
    refine lv_iconst (v := 1) hx hb dX4_advance_289 (by decide) ?_
    refine lv_iadd hx hb dX4_advance_290 ?_
    obtain ⟨h3, eh3, hm⟩ := bdE hm
    refine cg_put C hw eh3 rfl in_X4 tyX4 tyX4_ok nmX4 (by decide) q317 rfl rfl rfl dX4_advance_291 (fun H locs hw => ?_)
    have zh3 := pF_sz eh3
    exact hB294 h3 _ _ _ _ _ hm hw (by omega) (by omega) (lv_sub hl [] rfl)
  have hB243 : ∀ (h : CH) (x0 : Nat) (cc ss : Nat) (H : Heap) (locs : List Loc) (ls : Array Slot), m_X4_advance_243 f h x0 = some u9 → CW D dA A s h H locs → cc + u.1 = h.1 → ss + u.2.1 = h.2.1 → lv_has ls 3 [(0, .ref x0)] → W p l e (rm_X4_advance (u9.1 - u.1) (u9.2.1 - u.2.1)) s m args below meth c H locs cc ss QQ (F0 m 243 ls []) := by
    intro h x0 cc ss H locs ls hm hw hcc hss hl
    have hmo := mo_X4_advance_243  h x0 _ hm
    have sb_ : h.1 ≤ u9.1 := hmo.1
    have tb_ : h.2.1 ≤ u9.2.1 := hmo.2.1
    rw [m_X4_advance_243] at hm
    refine lv_aload_n hx hb dX4_advance_243 rfl (lv_at hl 0 rfl) ?_
    obtain ⟨a1, ea1, hm⟩ := bdE hm
    refine cg_gets C hw (i := 5) ea1 rfl q556 dX4_advance_244 ?_
    obtain ⟨h2, eh2, hm⟩ := bdE hm
    refine cg_put C hw eh2 rfl in_X4 tyX4 tyX4_ok nmX4 (by decide) q323 rfl rfl rfl dX4_advance_247 (fun H locs hw => ?_)
    have zh2 := pF_sz eh2
    refine lv_goto (tgt := 294) hx hb dX4_advance_250 (by decide) ?_
    exact hB294 h2 _ _ _ _ _ hm hw (by omega) (by omega) (lv_sub hl [] rfl)
  have hB180 : ∀ (n180 : Nat), ∀ (h : CH) (x0 : Nat) (cc ss : Nat) (H : Heap) (locs : List Loc) (ls : Array Slot), m_X4_advance_180 f n180 h x0 = some u9 → CW D dA A s h H locs → cc + u.1 = h.1 → ss + u.2.1 = h.2.1 → lv_has ls 3 [(0, .ref x0)] → W p l e (rm_X4_advance (u9.1 - u.1) (u9.2.1 - u.2.1)) s m args below meth c H locs cc ss QQ (F0 m 180 ls []) := by
    intro n180
    induction n180 with
    | zero => intro h x0 cc ss H locs ls hm hw hcc hss hl; rw [m_X4_advance_180] at hm; exact noE hm
    | succ n180 ih180 =>
      have hB220 : ∀ (h : CH) (x0 : Nat) (y0 : Nat) (y1 : Int32) (y2 : Int32) (y3 : Int32) (cc ss : Nat) (H : Heap) (locs : List Loc) (ls : Array Slot), m_X4_advance_220 f (m_X4_advance_180 f n180) h x0 y0 y1 y2 y3 = some u9 → CW D dA A s h H locs → cc + u.1 = h.1 → ss + u.2.1 = h.2.1 → lv_has ls 3 [(0, .ref x0)] → W p l e (rm_X4_advance (u9.1 - u.1) (u9.2.1 - u.2.1)) s m args below meth c H locs cc ss QQ (F0 m 220 ls [.int y3, .int y2, .int y1, .ref y0]) := by
        intro h x0 y0 y1 y2 y3 cc ss H locs ls hm hw hcc hss hl
        have hmo := mo_X4_advance_220 (mo_X4_advance_180 n180) h x0 y0 y1 y2 y3 _ hm
        have sb_ : h.1 ≤ u9.1 := hmo.1
        have tb_ : h.2.1 ≤ u9.2.1 := hmo.2.1
        rw [m_X4_advance_220] at hm
        refine lv_iadd hx hb dX4_advance_220 ?_
        refine lv_bipush (v := 48) hx hb dX4_advance_221 (by decide) ?_
        refine lv_isub hx hb dX4_advance_223 ?_
        obtain ⟨r1, er1, hm⟩ := bdE hm
        refine sci (va_runS (As := [.int y1, .int ((y2 + y3) - (48 : Int32))]) (rest := [.ref y0]) ⟨hx, hb, hml, hown, hts⟩ (w_J9_min l er1) (cw_J9_min hts q555 ⟨Nat.le_of_ble_eq_true rfl, Nat.le_of_ble_eq_true rfl⟩) (pre_s _) rfl rfl hl.1 rfl (lv_room (Nat.le_of_ble_eq_true rfl)) dX4_advance_224 ⟨show cc + 0 ≤ u9.1 - u.1 by omega, show ss + 0 ≤ u9.2.1 - u.2.1 by omega⟩) ?_
        obtain ⟨h2, eh2, hm⟩ := bdE hm
        refine cg_put C hw eh2 rfl in_X4 tyX4 tyX4_ok nmX4 (by decide) q319 rfl rfl rfl dX4_advance_227 (fun H locs hw => ?_)
        have zh2 := pF_sz eh2
        refine lv_aload_n hx hb dX4_advance_230 rfl (lv_at hl 0 rfl) ?_
        refine lv_dup hx hb dX4_advance_231 rfl ?_
        obtain ⟨v3, ev3, hm⟩ := bdE hm
        refine cg_get C hw (oI_E ev3) rfl in_X4 (by decide) q317 dX4_advance_232 ?_
        refine lv_iconst (v := 1) hx hb dX4_advance_235 (by decide) ?_
        refine lv_iadd hx hb dX4_advance_236 ?_
        obtain ⟨h4, eh4, hm⟩ := bdE hm
        refine cg_put C hw eh4 rfl in_X4 tyX4 tyX4_ok nmX4 (by decide) q317 rfl rfl rfl dX4_advance_237 (fun H locs hw => ?_)
        have zh4 := pF_sz eh4
        refine lv_goto (tgt := 180) hx hb dX4_advance_240 (by decide) ?_
        exact ih180 h4 x0 _ _ _ _ _ hm hw (by omega) (by omega) (lv_sub hl [0] rfl)
      have hB188 : ∀ (h : CH) (x0 : Nat) (y0 : Int32) (cc ss : Nat) (H : Heap) (locs : List Loc) (ls : Array Slot), m_X4_advance_188 f (m_X4_advance_180 f n180) h x0 y0 = some u9 → CW D dA A s h H locs → cc + u.1 = h.1 → ss + u.2.1 = h.2.1 → lv_has ls 3 [(0, .ref x0)] → W p l e (rm_X4_advance (u9.1 - u.1) (u9.2.1 - u.2.1)) s m args below meth c H locs cc ss QQ (F0 m 188 ls [.int y0]) := by
        intro h x0 y0 cc ss H locs ls hm hw hcc hss hl
        have hmo := mo_X4_advance_188 (mo_X4_advance_180 n180) h x0 y0 _ hm
        have sb_ : h.1 ≤ u9.1 := hmo.1
        have tb_ : h.2.1 ≤ u9.2.1 := hmo.2.1
        rw [m_X4_advance_188] at hm
        refine lv_i2l hx hb dX4_advance_188 rfl ?_
        refine lv_ldc2 hx hb hown (hts _ q553) dX4_advance_189 ?_
        refine lv_ldc2 hx hb hown (hts _ q554) dX4_advance_192 ?_
        obtain ⟨r1, er1, hm⟩ := bdE hm
        refine sci (va_runSN (As := [.long (Int32.toInt64 y0), .long (48 : Int64), .long (57 : Int64)]) (rest := []) ⟨hx, hb, hml, hown, hts⟩ (w_X0_isIn l er1) ⟨va_cnB 3 hts (lw_meth q299) rfl rfl rfl (hw.2.2.2.2.1 _ (List.mem_of_getElem? (i := 65) rfl)) (hts _ q119) (by decide +kernel) ⟨Nat.le_of_ble_eq_true rfl, Nat.le_of_ble_eq_true rfl⟩, hts _ q298, trivial⟩ (pre_s _) rfl rfl hl.1 rfl (lv_room (Nat.le_of_ble_eq_true rfl)) dX4_advance_195 ⟨show cc + 0 ≤ u9.1 - u.1 by omega, show ss + 0 ≤ u9.2.1 - u.2.1 by omega⟩) ?_
        refine lv_if_eq (tgt := 243) hx hb dX4_advance_198 (by decide) (fun c2 => ?_) (fun c2 => ?_)
        · have hm := ifT hm c2
          exact hB243 h x0 _ _ _ _ _ hm hw (by omega) (by omega) (lv_sub hl [0] rfl)
        · have hm := ifF hm c2
          refine lv_aload_n hx hb dX4_advance_201 rfl (lv_at hl 0 rfl) ?_
          refine lv_sipush (v := 9999) hx hb dX4_advance_202 (by decide) ?_
          refine lv_bipush (v := 10) hx hb dX4_advance_205 (by decide) ?_
          refine lv_aload_n hx hb dX4_advance_207 rfl (lv_at hl 0 rfl) ?_
          obtain ⟨v3, ev3, hm⟩ := bdE hm
          refine cg_get C hw (oI_E ev3) rfl in_X4 (by decide) q319 dX4_advance_208 ?_
          refine lv_imul hx hb dX4_advance_211 ?_
          refine lv_aload_n hx hb dX4_advance_212 rfl (lv_at hl 0 rfl) ?_
          refine lv_aload_n hx hb dX4_advance_213 rfl (lv_at hl 0 rfl) ?_
          obtain ⟨v4, ev4, hm⟩ := bdE hm
          refine cg_get C hw (oI_E ev4) rfl in_X4 (by decide) q317 dX4_advance_214 ?_
          obtain ⟨g5, hm⟩ := gdE hm
          obtain ⟨r7, h6, er7, hm⟩ := bd2E hm
          have lh6 := mo_X4_byteAt er7
          have ph6 : h.1 ≤ h6.1 := lh6.1
          have qh6 : h.2.1 ≤ h6.2.1 := lh6.2.1
          have hmo := mo_X4_advance_220 (mo_X4_advance_180 n180)  h6 x0 x0 (9999 : Int32) ((10 : Int32) * v3) r7 _ hm
          have sh6 : h6.1 ≤ u9.1 := hmo.1
          have th6 : h6.2.1 ≤ u9.2.1 := hmo.2.1
          refine cg_calli hw lh6 (va_runV (As := [.int v4]) (rest := [.int ((10 : Int32) * v3), .int (9999 : Int32), .ref x0]) ⟨hx, hb, hml, hown, hts⟩ (w_X4_byteAt l er7) (cw_X4_byteAt hts q355 ⟨Nat.le_of_ble_eq_true rfl, Nat.le_of_ble_eq_true rfl⟩) (cg_preV C hw g5 rfl _) rfl rfl hl.1 rfl (lv_room (Nat.le_of_ble_eq_true rfl)) dX4_advance_217 ⟨show cc + (h6.1 - h.1) ≤ u9.1 - u.1 by omega, show ss + (h6.2.1 - h.2.1) ≤ u9.2.1 - u.2.1 by omega⟩) (fun H locs hw => ?_)
          exact hB220 h6 x0 x0 (9999 : Int32) ((10 : Int32) * v3) r7 _ _ _ _ _ hm hw (by omega) (by omega) (lv_sub hl [0] rfl)
      intro h x0 cc ss H locs ls hm hw hcc hss hl
      have hmo := mo_X4_advance_180  (n180 + 1) h x0 _ hm
      have sb_ : h.1 ≤ u9.1 := hmo.1
      have tb_ : h.2.1 ≤ u9.2.1 := hmo.2.1
      rw [m_X4_advance_180] at hm
      refine lv_aload_n hx hb dX4_advance_180 rfl (lv_at hl 0 rfl) ?_
      refine lv_aload_n hx hb dX4_advance_181 rfl (lv_at hl 0 rfl) ?_
      obtain ⟨v1, ev1, hm⟩ := bdE hm
      refine cg_get C hw (oI_E ev1) rfl in_X4 (by decide) q317 dX4_advance_182 ?_
      obtain ⟨g2, hm⟩ := gdE hm
      obtain ⟨r4, h3, er4, hm⟩ := bd2E hm
      have lh3 := mo_X4_byteAt er4
      have ph3 : h.1 ≤ h3.1 := lh3.1
      have qh3 : h.2.1 ≤ h3.2.1 := lh3.2.1
      have hmo := mo_X4_advance_188 (mo_X4_advance_180 n180)  h3 x0 r4 _ hm
      have sh3 : h3.1 ≤ u9.1 := hmo.1
      have th3 : h3.2.1 ≤ u9.2.1 := hmo.2.1
      refine cg_calli hw lh3 (va_runV (As := [.int v1]) (rest := []) ⟨hx, hb, hml, hown, hts⟩ (w_X4_byteAt l er4) (cw_X4_byteAt hts q355 ⟨Nat.le_of_ble_eq_true rfl, Nat.le_of_ble_eq_true rfl⟩) (cg_preV C hw g2 rfl _) rfl rfl hl.1 rfl (lv_room (Nat.le_of_ble_eq_true rfl)) dX4_advance_185 ⟨show cc + (h3.1 - h.1) ≤ u9.1 - u.1 by omega, show ss + (h3.2.1 - h.2.1) ≤ u9.2.1 - u.2.1 by omega⟩) (fun H locs hw => ?_)
      exact hB188 h3 x0 r4 _ _ _ _ _ hm hw (by omega) (by omega) (lv_sub hl [0] rfl)
  have hB148 : ∀ (h : CH) (x0 : Nat) (y0 : Nat) (y1 : Nat) (cc ss : Nat) (H : Heap) (locs : List Loc) (ls : Array Slot), m_X4_advance_148 f h x0 y0 y1 = some u9 → CW D dA A s h H locs → cc + u.1 = h.1 → ss + u.2.1 = h.2.1 → lv_has ls 3 [(0, .ref x0)] → W p l e (rm_X4_advance (u9.1 - u.1) (u9.2.1 - u.2.1)) s m args below meth c H locs cc ss QQ (F0 m 148 ls [.ref y1, .ref y0]) := by
    intro h x0 y0 y1 cc ss H locs ls hm hw hcc hss hl
    have hmo := mo_X4_advance_148  h x0 y0 y1 _ hm
    have sb_ : h.1 ≤ u9.1 := hmo.1
    have tb_ : h.2.1 ≤ u9.2.1 := hmo.2.1
    rw [m_X4_advance_148] at hm
    obtain ⟨h1, eh1, hm⟩ := bdE hm
    refine cg_put C hw eh1 rfl in_X4 tyX4 tyX4_ok nmX4 (by decide) q324 rfl rfl rfl dX4_advance_148 (fun H locs hw => ?_)
    have zh1 := pF_sz eh1
    refine lv_aload_n hx hb dX4_advance_151 rfl (lv_at hl 0 rfl) ?_
    obtain ⟨a2, ea2, hm⟩ := bdE hm
    refine cg_gets C hw (i := 7) ea2 rfl q551 dX4_advance_152 ?_
    obtain ⟨h3, eh3, hm⟩ := bdE hm
    refine cg_put C hw eh3 rfl in_X4 tyX4 tyX4_ok nmX4 (by decide) q323 rfl rfl rfl dX4_advance_155 (fun H locs hw => ?_)
    have zh3 := pF_sz eh3
    refine lv_goto (tgt := 294) hx hb dX4_advance_158 (by decide) ?_
    exact hB294 h3 _ _ _ _ _ hm hw (by omega) (by omega) (lv_sub hl [] rfl)
  have hB143 : ∀ (h : CH) (x0 : Nat) (x2 : Nat) (cc ss : Nat) (H : Heap) (locs : List Loc) (ls : Array Slot), m_X4_advance_143 f h x0 x2 = some u9 → CW D dA A s h H locs → cc + u.1 = h.1 → ss + u.2.1 = h.2.1 → lv_has ls 3 [(0, .ref x0), (2, .ref x2)] → W p l e (rm_X4_advance (u9.1 - u.1) (u9.2.1 - u.2.1)) s m args below meth c H locs cc ss QQ (F0 m 143 ls []) := by
    intro h x0 x2 cc ss H locs ls hm hw hcc hss hl
    have hmo := mo_X4_advance_143  h x0 x2 _ hm
    have sb_ : h.1 ≤ u9.1 := hmo.1
    have tb_ : h.2.1 ≤ u9.2.1 := hmo.2.1
    rw [m_X4_advance_143] at hm
    refine lv_aload_n hx hb dX4_advance_143 rfl (lv_at hl 0 rfl) ?_
    refine lv_aload_n hx hb dX4_advance_144 rfl (lv_at hl 1 rfl) ?_
    obtain ⟨g1, hm⟩ := gdE hm
    obtain ⟨a3, h2, ea3, hm⟩ := bd2E hm
    have lh2 := mo_J5_toString ea3
    have ph2 : h.1 ≤ h2.1 := lh2.1
    have qh2 : h.2.1 ≤ h2.2.1 := lh2.2.1
    have hmo := mo_X4_advance_148   h2 x0 x0 a3 _ hm
    have sh2 : h2.1 ≤ u9.1 := hmo.1
    have th2 : h2.2.1 ≤ u9.2.1 := hmo.2.1
    refine cg_callr hw lh2 (va_runV (As := []) (rest := [.ref x0]) ⟨hx, hb, hml, hown, hts⟩ (w_J5_toString l ea3) (cw_J5_toString hts q490 ⟨Nat.le_of_ble_eq_true rfl, Nat.le_of_ble_eq_true rfl⟩) (cg_preV C hw g1 rfl _) rfl rfl hl.1 rfl (lv_room (Nat.le_of_ble_eq_true rfl)) dX4_advance_145 ⟨show cc + (h2.1 - h.1) ≤ u9.1 - u.1 by omega, show ss + (h2.2.1 - h.2.1) ≤ u9.2.1 - u.2.1 by omega⟩) (fun H locs hw => ?_)
    exact hB148 h2 x0 x0 a3 _ _ _ _ _ hm hw (by omega) (by omega) (lv_sub hl [0] rfl)
  have hB95 : ∀ (n95 : Nat), ∀ (h : CH) (x0 : Nat) (x2 : Nat) (cc ss : Nat) (H : Heap) (locs : List Loc) (ls : Array Slot), m_X4_advance_95 f n95 h x0 x2 = some u9 → CW D dA A s h H locs → cc + u.1 = h.1 → ss + u.2.1 = h.2.1 → lv_has ls 3 [(0, .ref x0), (2, .ref x2)] → W p l e (rm_X4_advance (u9.1 - u.1) (u9.2.1 - u.2.1)) s m args below meth c H locs cc ss QQ (F0 m 95 ls []) := by
    intro n95
    induction n95 with
    | zero => intro h x0 x2 cc ss H locs ls hm hw hcc hss hl; rw [m_X4_advance_95] at hm; exact noE hm
    | succ n95 ih95 =>
      have hB129 : ∀ (h : CH) (x0 : Nat) (x2 : Nat) (y0 : Nat) (cc ss : Nat) (H : Heap) (locs : List Loc) (ls : Array Slot), m_X4_advance_129 f (m_X4_advance_95 f n95) h x0 x2 y0 = some u9 → CW D dA A s h H locs → cc + u.1 = h.1 → ss + u.2.1 = h.2.1 → lv_has ls 3 [(0, .ref x0), (2, .ref x2)] → W p l e (rm_X4_advance (u9.1 - u.1) (u9.2.1 - u.2.1)) s m args below meth c H locs cc ss QQ (F0 m 129 ls [.ref y0]) := by
        intro h x0 x2 y0 cc ss H locs ls hm hw hcc hss hl
        have hmo := mo_X4_advance_129 (mo_X4_advance_95 n95) h x0 x2 y0 _ hm
        have sb_ : h.1 ≤ u9.1 := hmo.1
        have tb_ : h.2.1 ≤ u9.2.1 := hmo.2.1
        rw [m_X4_advance_129] at hm
        refine lv_pop hx hb dX4_advance_129 rfl ?_
        refine lv_aload_n hx hb dX4_advance_130 rfl (lv_at hl 0 rfl) ?_
        refine lv_dup hx hb dX4_advance_131 rfl ?_
        obtain ⟨v1, ev1, hm⟩ := bdE hm
        refine cg_get C hw (oI_E ev1) rfl in_X4 (by decide) q317 dX4_advance_132 ?_
        refine lv_iconst (v := 1) hx hb dX4_advance_135 (by decide) ?_
        refine lv_iadd hx hb dX4_advance_136 ?_
        obtain ⟨h2, eh2, hm⟩ := bdE hm
        refine cg_put C hw eh2 rfl in_X4 tyX4 tyX4_ok nmX4 (by decide) q317 rfl rfl rfl dX4_advance_137 (fun H locs hw => ?_)
        have zh2 := pF_sz eh2
        refine lv_goto (tgt := 95) hx hb dX4_advance_140 (by decide) ?_
        exact ih95 h2 x0 x2 _ _ _ _ _ hm hw (by omega) (by omega) (lv_sub hl [0, 1] rfl)
      have hB125 : ∀ (h : CH) (x0 : Nat) (x2 : Nat) (y0 : Nat) (y1 : Int32) (cc ss : Nat) (H : Heap) (locs : List Loc) (ls : Array Slot), m_X4_advance_125 f (m_X4_advance_95 f n95) h x0 x2 y0 y1 = some u9 → CW D dA A s h H locs → cc + u.1 = h.1 → ss + u.2.1 = h.2.1 → lv_has ls 3 [(0, .ref x0), (2, .ref x2)] → W p l e (rm_X4_advance (u9.1 - u.1) (u9.2.1 - u.2.1)) s m args below meth c H locs cc ss QQ (F0 m 125 ls [.int y1, .ref y0]) := by
        intro h x0 x2 y0 y1 cc ss H locs ls hm hw hcc hss hl
        have hmo := mo_X4_advance_125 (mo_X4_advance_95 n95) h x0 x2 y0 y1 _ hm
        have sb_ : h.1 ≤ u9.1 := hmo.1
        have tb_ : h.2.1 ≤ u9.2.1 := hmo.2.1
        rw [m_X4_advance_125] at hm
        refine lv_i2c hx hb dX4_advance_125 rfl ?_
        obtain ⟨g1, hm⟩ := gdE hm
        obtain ⟨a3, h2, ea3, hm⟩ := bd2E hm
        have lh2 := mo_J5_append ea3
        have ph2 : h.1 ≤ h2.1 := lh2.1
        have qh2 : h.2.1 ≤ h2.2.1 := lh2.2.1
        have hmo := mo_X4_advance_129 (mo_X4_advance_95 n95)  h2 x0 x2 a3 _ hm
        have sh2 : h2.1 ≤ u9.1 := hmo.1
        have th2 : h2.2.1 ≤ u9.2.1 := hmo.2.1
        refine cg_callr hw lh2 (va_runV (As := [.int (UInt32.toInt32 (Int32.toUInt32 y1 % 65536))]) (rest := []) ⟨hx, hb, hml, hown, hts⟩ (w_J5_append l ea3) (cw_J5_append hts q395 ⟨Nat.le_of_ble_eq_true rfl, Nat.le_of_ble_eq_true rfl⟩) (cg_preV C hw g1 rfl _) rfl rfl hl.1 rfl (lv_room (Nat.le_of_ble_eq_true rfl)) dX4_advance_126 ⟨show cc + (h2.1 - h.1) ≤ u9.1 - u.1 by omega, show ss + (h2.2.1 - h.2.1) ≤ u9.2.1 - u.2.1 by omega⟩) (fun H locs hw => ?_)
        exact hB129 h2 x0 x2 a3 _ _ _ _ _ hm hw (by omega) (by omega) (lv_sub hl [0, 1] rfl)
      have hB103 : ∀ (h : CH) (x0 : Nat) (x2 : Nat) (y0 : Int32) (cc ss : Nat) (H : Heap) (locs : List Loc) (ls : Array Slot), m_X4_advance_103 f (m_X4_advance_95 f n95) h x0 x2 y0 = some u9 → CW D dA A s h H locs → cc + u.1 = h.1 → ss + u.2.1 = h.2.1 → lv_has ls 3 [(0, .ref x0), (2, .ref x2)] → W p l e (rm_X4_advance (u9.1 - u.1) (u9.2.1 - u.2.1)) s m args below meth c H locs cc ss QQ (F0 m 103 ls [.int y0]) := by
        intro h x0 x2 y0 cc ss H locs ls hm hw hcc hss hl
        have hmo := mo_X4_advance_103 (mo_X4_advance_95 n95) h x0 x2 y0 _ hm
        have sb_ : h.1 ≤ u9.1 := hmo.1
        have tb_ : h.2.1 ≤ u9.2.1 := hmo.2.1
        rw [m_X4_advance_103] at hm
        refine lv_i2l hx hb dX4_advance_103 rfl ?_
        refine lv_ldc2 hx hb hown (hts _ q361) dX4_advance_104 ?_
        refine lv_ldc2 hx hb hown (hts _ q362) dX4_advance_107 ?_
        obtain ⟨r1, er1, hm⟩ := bdE hm
        refine sci (va_runSN (As := [.long (Int32.toInt64 y0), .long (97 : Int64), .long (122 : Int64)]) (rest := []) ⟨hx, hb, hml, hown, hts⟩ (w_X0_isIn l er1) ⟨va_cnB 3 hts (lw_meth q299) rfl rfl rfl (hw.2.2.2.2.1 _ (List.mem_of_getElem? (i := 65) rfl)) (hts _ q119) (by decide +kernel) ⟨Nat.le_of_ble_eq_true rfl, Nat.le_of_ble_eq_true rfl⟩, hts _ q298, trivial⟩ (pre_s _) rfl rfl hl.1 rfl (lv_room (Nat.le_of_ble_eq_true rfl)) dX4_advance_110 ⟨show cc + 0 ≤ u9.1 - u.1 by omega, show ss + 0 ≤ u9.2.1 - u.2.1 by omega⟩) ?_
        refine lv_if_eq (tgt := 143) hx hb dX4_advance_113 (by decide) (fun c2 => ?_) (fun c2 => ?_)
        · have hm := ifT hm c2
          exact hB143 h x0 x2 _ _ _ _ _ hm hw (by omega) (by omega) (lv_sub hl [0, 1] rfl)
        · have hm := ifF hm c2
          refine lv_aload_n hx hb dX4_advance_116 rfl (lv_at hl 1 rfl) ?_
          refine lv_aload_n hx hb dX4_advance_117 rfl (lv_at hl 0 rfl) ?_
          refine lv_aload_n hx hb dX4_advance_118 rfl (lv_at hl 0 rfl) ?_
          obtain ⟨v3, ev3, hm⟩ := bdE hm
          refine cg_get C hw (oI_E ev3) rfl in_X4 (by decide) q317 dX4_advance_119 ?_
          obtain ⟨g4, hm⟩ := gdE hm
          obtain ⟨r6, h5, er6, hm⟩ := bd2E hm
          have lh5 := mo_X4_byteAt er6
          have ph5 : h.1 ≤ h5.1 := lh5.1
          have qh5 : h.2.1 ≤ h5.2.1 := lh5.2.1
          have hmo := mo_X4_advance_125 (mo_X4_advance_95 n95)  h5 x0 x2 x2 r6 _ hm
          have sh5 : h5.1 ≤ u9.1 := hmo.1
          have th5 : h5.2.1 ≤ u9.2.1 := hmo.2.1
          refine cg_calli hw lh5 (va_runV (As := [.int v3]) (rest := [.ref x2]) ⟨hx, hb, hml, hown, hts⟩ (w_X4_byteAt l er6) (cw_X4_byteAt hts q355 ⟨Nat.le_of_ble_eq_true rfl, Nat.le_of_ble_eq_true rfl⟩) (cg_preV C hw g4 rfl _) rfl rfl hl.1 rfl (lv_room (Nat.le_of_ble_eq_true rfl)) dX4_advance_122 ⟨show cc + (h5.1 - h.1) ≤ u9.1 - u.1 by omega, show ss + (h5.2.1 - h.2.1) ≤ u9.2.1 - u.2.1 by omega⟩) (fun H locs hw => ?_)
          exact hB125 h5 x0 x2 x2 r6 _ _ _ _ _ hm hw (by omega) (by omega) (lv_sub hl [0, 1] rfl)
      intro h x0 x2 cc ss H locs ls hm hw hcc hss hl
      have hmo := mo_X4_advance_95  (n95 + 1) h x0 x2 _ hm
      have sb_ : h.1 ≤ u9.1 := hmo.1
      have tb_ : h.2.1 ≤ u9.2.1 := hmo.2.1
      rw [m_X4_advance_95] at hm
      refine lv_aload_n hx hb dX4_advance_95 rfl (lv_at hl 0 rfl) ?_
      refine lv_aload_n hx hb dX4_advance_96 rfl (lv_at hl 0 rfl) ?_
      obtain ⟨v1, ev1, hm⟩ := bdE hm
      refine cg_get C hw (oI_E ev1) rfl in_X4 (by decide) q317 dX4_advance_97 ?_
      obtain ⟨g2, hm⟩ := gdE hm
      obtain ⟨r4, h3, er4, hm⟩ := bd2E hm
      have lh3 := mo_X4_byteAt er4
      have ph3 : h.1 ≤ h3.1 := lh3.1
      have qh3 : h.2.1 ≤ h3.2.1 := lh3.2.1
      have hmo := mo_X4_advance_103 (mo_X4_advance_95 n95)  h3 x0 x2 r4 _ hm
      have sh3 : h3.1 ≤ u9.1 := hmo.1
      have th3 : h3.2.1 ≤ u9.2.1 := hmo.2.1
      refine cg_calli hw lh3 (va_runV (As := [.int v1]) (rest := []) ⟨hx, hb, hml, hown, hts⟩ (w_X4_byteAt l er4) (cw_X4_byteAt hts q355 ⟨Nat.le_of_ble_eq_true rfl, Nat.le_of_ble_eq_true rfl⟩) (cg_preV C hw g2 rfl _) rfl rfl hl.1 rfl (lv_room (Nat.le_of_ble_eq_true rfl)) dX4_advance_100 ⟨show cc + (h3.1 - h.1) ≤ u9.1 - u.1 by omega, show ss + (h3.2.1 - h.2.1) ≤ u9.2.1 - u.2.1 by omega⟩) (fun H locs hw => ?_)
      exact hB103 h3 x0 x2 r4 _ _ _ _ _ hm hw (by omega) (by omega) (lv_sub hl [0, 1] rfl)
  have hB94 : ∀ (h : CH) (x0 : Nat) (y0 : Nat) (cc ss : Nat) (H : Heap) (locs : List Loc) (ls : Array Slot), m_X4_advance_94 f h x0 y0 = some u9 → CW D dA A s h H locs → cc + u.1 = h.1 → ss + u.2.1 = h.2.1 → lv_has ls 3 [(0, .ref x0)] → W p l e (rm_X4_advance (u9.1 - u.1) (u9.2.1 - u.2.1)) s m args below meth c H locs cc ss QQ (F0 m 94 ls [.ref y0]) := by
    intro h x0 y0 cc ss H locs ls hm hw hcc hss hl
    have hmo := mo_X4_advance_94  h x0 y0 _ hm
    have sb_ : h.1 ≤ u9.1 := hmo.1
    have tb_ : h.2.1 ≤ u9.2.1 := hmo.2.1
    rw [m_X4_advance_94] at hm
    refine lv_astore_n (lv' := [(2, .ref y0), (0, .ref x0)]) hx hb dX4_advance_94 rfl hl (by decide) rfl (fun ls hl => ?_)
    exact hB95 f h x0 y0 _ _ _ _ _ hm hw (by omega) (by omega) (lv_sub hl [1, 0] rfl)
  have hB88 : ∀ (h : CH) (x0 : Nat) (y0 : Nat) (cc ss : Nat) (H : Heap) (locs : List Loc) (ls : Array Slot), m_X4_advance_88 f h x0 y0 = some u9 → CW D dA A s h H locs → cc + u.1 = h.1 → ss + u.2.1 = h.2.1 → lv_has ls 3 [(0, .ref x0)] → W p l e (rm_X4_advance (u9.1 - u.1) (u9.2.1 - u.2.1)) s m args below meth c H locs cc ss QQ (F0 m 88 ls [.ref y0]) := by
    intro h x0 y0 cc ss H locs ls hm hw hcc hss hl
    have hmo := mo_X4_advance_88  h x0 y0 _ hm
    have sb_ : h.1 ≤ u9.1 := hmo.1
    have tb_ : h.2.1 ≤ u9.2.1 := hmo.2.1
    rw [m_X4_advance_88] at hm
    refine lv_dup hx hb dX4_advance_88 rfl ?_
    refine lv_bipush (v := 8) hx hb dX4_advance_89 (by decide) ?_
    obtain ⟨h1, eh1, hm⟩ := bdE hm
    have lh1 := mo_J5_init eh1
    have ph1 : h.1 ≤ h1.1 := lh1.1
    have qh1 : h.2.1 ≤ h1.2.1 := lh1.2.1
    have hmo := mo_X4_advance_94   h1 x0 y0 _ hm
    have sh1 : h1.1 ≤ u9.1 := hmo.1
    have th1 : h1.2.1 ≤ u9.2.1 := hmo.2.1
    refine cg_callv hw lh1 (va_runI (As := [.int (8 : Int32)]) (rest := [.ref y0]) ⟨hx, hb, hml, hown, hts⟩ (w_J5_init l eh1) (cw_J5_init hts q366 ⟨Nat.le_of_ble_eq_true rfl, Nat.le_of_ble_eq_true rfl⟩) (cg_preS C hw _) rfl rfl hl.1 rfl (lv_room (Nat.le_of_ble_eq_true rfl)) dX4_advance_91 ⟨show cc + (h1.1 - h.1) ≤ u9.1 - u.1 by omega, show ss + (h1.2.1 - h.2.1) ≤ u9.2.1 - u.2.1 by omega⟩) (fun H locs hw => ?_)
    exact hB94 h1 x0 y0 _ _ _ _ _ hm hw (by omega) (by omega) (lv_sub hl [0] rfl)
  have hB55 : ∀ (h : CH) (x0 : Nat) (y0 : Int32) (cc ss : Nat) (H : Heap) (locs : List Loc) (ls : Array Slot), m_X4_advance_55 f h x0 y0 = some u9 → CW D dA A s h H locs → cc + u.1 = h.1 → ss + u.2.1 = h.2.1 → lv_has ls 3 [(0, .ref x0)] → W p l e (rm_X4_advance (u9.1 - u.1) (u9.2.1 - u.2.1)) s m args below meth c H locs cc ss QQ (F0 m 55 ls [.int y0]) := by
    intro h x0 y0 cc ss H locs ls hm hw hcc hss hl
    have hmo := mo_X4_advance_55  h x0 y0 _ hm
    have sb_ : h.1 ≤ u9.1 := hmo.1
    have tb_ : h.2.1 ≤ u9.2.1 := hmo.2.1
    rw [m_X4_advance_55] at hm
    refine lv_istore_n (lv' := [(1, .int y0), (0, .ref x0)]) hx hb dX4_advance_55 rfl hl (by decide) rfl (fun ls hl => ?_)
    refine lv_iload_n hx hb dX4_advance_56 rfl (lv_at hl 0 rfl) ?_
    refine lv_iconst (v := -1) hx hb dX4_advance_57 (by decide) ?_
    refine lv_icmp_ne (tgt := 71) hx hb dX4_advance_58 (by decide) (fun c1 => ?_) (fun c1 => ?_)
    · have hm := ifT hm c1
      refine lv_iload_n hx hb dX4_advance_71 rfl (lv_at hl 0 rfl) ?_
      refine lv_i2l hx hb dX4_advance_72 rfl ?_
      refine lv_ldc2 hx hb hown (hts _ q361) dX4_advance_73 ?_
      refine lv_ldc2 hx hb hown (hts _ q362) dX4_advance_76 ?_
      obtain ⟨r2, er2, hm⟩ := bdE hm
      refine sci (va_runSN (As := [.long (Int32.toInt64 y0), .long (97 : Int64), .long (122 : Int64)]) (rest := []) ⟨hx, hb, hml, hown, hts⟩ (w_X0_isIn l er2) ⟨va_cnB 3 hts (lw_meth q299) rfl rfl rfl (hw.2.2.2.2.1 _ (List.mem_of_getElem? (i := 65) rfl)) (hts _ q119) (by decide +kernel) ⟨Nat.le_of_ble_eq_true rfl, Nat.le_of_ble_eq_true rfl⟩, hts _ q298, trivial⟩ (pre_s _) rfl rfl hl.1 rfl (lv_room (Nat.le_of_ble_eq_true rfl)) dX4_advance_79 ⟨show cc + 0 ≤ u9.1 - u.1 by omega, show ss + 0 ≤ u9.2.1 - u.2.1 by omega⟩) ?_
      refine lv_if_eq (tgt := 161) hx hb dX4_advance_82 (by decide) (fun c3 => ?_) (fun c3 => ?_)
      · have hm := ifT hm c3
        refine lv_iload_n hx hb dX4_advance_161 rfl (lv_at hl 0 rfl) ?_
        refine lv_i2l hx hb dX4_advance_162 rfl ?_
        refine lv_ldc2 hx hb hown (hts _ q553) dX4_advance_163 ?_
        refine lv_ldc2 hx hb hown (hts _ q554) dX4_advance_166 ?_
        obtain ⟨r4, er4, hm⟩ := bdE hm
        refine sci (va_runSN (As := [.long (Int32.toInt64 y0), .long (48 : Int64), .long (57 : Int64)]) (rest := []) ⟨hx, hb, hml, hown, hts⟩ (w_X0_isIn l er4) ⟨va_cnB 3 hts (lw_meth q299) rfl rfl rfl (hw.2.2.2.2.1 _ (List.mem_of_getElem? (i := 65) rfl)) (hts _ q119) (by decide +kernel) ⟨Nat.le_of_ble_eq_true rfl, Nat.le_of_ble_eq_true rfl⟩, hts _ q298, trivial⟩ (pre_s _) rfl rfl hl.1 rfl (lv_room (Nat.le_of_ble_eq_true rfl)) dX4_advance_169 ⟨show cc + 0 ≤ u9.1 - u.1 by omega, show ss + 0 ≤ u9.2.1 - u.2.1 by omega⟩) ?_
        refine lv_if_eq (tgt := 253) hx hb dX4_advance_172 (by decide) (fun c5 => ?_) (fun c5 => ?_)
        · have hm := ifT hm c5
          refine lv_aload_n hx hb dX4_advance_253 rfl (lv_at hl 1 rfl) ?_
          refine lv_iload_n hx hb dX4_advance_254 rfl (lv_at hl 0 rfl) ?_
          refine lv_bipush (v := 59) hx hb dX4_advance_255 (by decide) ?_
          refine lv_icmp_ne (tgt := 266) hx hb dX4_advance_257 (by decide) (fun c6 => ?_) (fun c6 => ?_)
          · have hm := ifT hm c6
            refine lv_iload_n hx hb dX4_advance_266 rfl (lv_at hl 0 rfl) ?_
            refine lv_bipush (v := 45) hx hb dX4_advance_267 (by decide) ?_
            refine lv_icmp_ne (tgt := 278) hx hb dX4_advance_269 (by decide) (fun c7 => ?_) (fun c7 => ?_)
            · have hm := ifT hm c7
              obtain ⟨a8, ea8, hm⟩ := bdE hm
              refine cg_gets C hw (i := 2) ea8 rfl q562 dX4_advance_278 ?_
              exact hB281 h x0 x0 a8 _ _ _ _ _ hm hw (by omega) (by omega) (lv_sub hl [1] rfl)
            · have hm := ifT' hm c7
              obtain ⟨a9, ea9, hm⟩ := bdE hm
              refine cg_gets C hw (i := 3) ea9 rfl q560 dX4_advance_272 ?_
              refine lv_goto (tgt := 281) hx hb dX4_advance_275 (by decide) ?_
              exact hB281 h x0 x0 a9 _ _ _ _ _ hm hw (by omega) (by omega) (lv_sub hl [1] rfl)
          · have hm := ifT' hm c6
            obtain ⟨a10, ea10, hm⟩ := bdE hm
            refine cg_gets C hw (i := 6) ea10 rfl q558 dX4_advance_260 ?_
            refine lv_goto (tgt := 281) hx hb dX4_advance_263 (by decide) ?_
            exact hB281 h x0 x0 a10 _ _ _ _ _ hm hw (by omega) (by omega) (lv_sub hl [1] rfl)
        · have hm := ifF hm c5
          refine lv_aload_n hx hb dX4_advance_175 rfl (lv_at hl 1 rfl) ?_
          refine lv_iconst (v := 0) hx hb dX4_advance_176 (by decide) ?_
          obtain ⟨h11, eh11, hm⟩ := bdE hm
          refine cg_put C hw eh11 rfl in_X4 tyX4 tyX4_ok nmX4 (by decide) q319 rfl rfl rfl dX4_advance_177 (fun H locs hw => ?_)
          have zh11 := pF_sz eh11
          exact hB180 f h11 x0 _ _ _ _ _ hm hw (by omega) (by omega) (lv_sub hl [1] rfl)
      · have hm := ifF hm c3
        obtain ⟨h12, eh12, hm⟩ := nmE hm
        obtain ⟨_, _, hmq⟩ := nmE hm
        have hmo := mo_X4_advance_88   h12 x0 _ _ hmq
        have sh12 : h12.1 ≤ u9.1 := hmo.1
        have th12 : h12.2.1 ≤ u9.2.1 := hmo.2.1
        have zh12 := cn_sz eh12
        refine cg_new (C0 := C) hw (ci := 18) (fs := [.null, .int 0, .int 0, .int 0]) rfl in_J5 tyJ5 tyJ5_ok q364 q365 q130 (fun j hj => by rcases (show j = 0 ∨ j = 1 ∨ j = 2 ∨ j = 3 by omega) with rfl | rfl | rfl | rfl <;> rfl) (show cc + 1 ≤ u9.1 - u.1 by omega) (show ss + 4 ≤ u9.2.1 - u.2.1 by omega) dX4_advance_85 (fun H hw => ?_)
        rw [← eh12] at hw
        refine lv_topr (fun a13 ea13 => ?_)
        have hm := nmK hm ea13
        exact hB88 h12 x0 a13 _ _ _ _ _ hm hw (by omega) (by omega) (lv_sub hl [1] rfl)
    · have hm := ifT' hm c1
      refine lv_aload_n hx hb dX4_advance_61 rfl (lv_at hl 1 rfl) ?_
      obtain ⟨a14, ea14, hm⟩ := bdE hm
      refine cg_gets C hw (i := 4) ea14 rfl q359 dX4_advance_62 ?_
      obtain ⟨h15, eh15, hm⟩ := bdE hm
      refine cg_put C hw eh15 rfl in_X4 tyX4 tyX4_ok nmX4 (by decide) q323 rfl rfl rfl dX4_advance_65 (fun H locs hw => ?_)
      have zh15 := pF_sz eh15
      refine lv_goto (tgt := 294) hx hb dX4_advance_68 (by decide) ?_
      exact hB294 h15 _ _ _ _ _ hm hw (by omega) (by omega) (lv_sub hl [] rfl)
  have hB39 : ∀ (h : CH) (x0 : Nat) (cc ss : Nat) (H : Heap) (locs : List Loc) (ls : Array Slot), m_X4_advance_39 f h x0 = some u9 → CW D dA A s h H locs → cc + u.1 = h.1 → ss + u.2.1 = h.2.1 → lv_has ls 3 [(0, .ref x0)] → W p l e (rm_X4_advance (u9.1 - u.1) (u9.2.1 - u.2.1)) s m args below meth c H locs cc ss QQ (F0 m 39 ls []) := by
    intro h x0 cc ss H locs ls hm hw hcc hss hl
    have hmo := mo_X4_advance_39  h x0 _ hm
    have sb_ : h.1 ≤ u9.1 := hmo.1
    have tb_ : h.2.1 ≤ u9.2.1 := hmo.2.1
    rw [m_X4_advance_39] at hm
    refine lv_aload_n hx hb dX4_advance_39 rfl (lv_at hl 0 rfl) ?_
    refine lv_aload_n hx hb dX4_advance_40 rfl (lv_at hl 0 rfl) ?_
    obtain ⟨v1, ev1, hm⟩ := bdE hm
    refine cg_get C hw (oI_E ev1) rfl in_X4 (by decide) q317 dX4_advance_41 ?_
    obtain ⟨h2, eh2, hm⟩ := bdE hm
    refine cg_put C hw eh2 rfl in_X4 tyX4 tyX4_ok nmX4 (by decide) q318 rfl rfl rfl dX4_advance_44 (fun H locs hw => ?_)
    have zh2 := pF_sz eh2
    refine lv_aload_n hx hb dX4_advance_47 rfl (lv_at hl 0 rfl) ?_
    refine lv_aload_n hx hb dX4_advance_48 rfl (lv_at hl 0 rfl) ?_
    obtain ⟨v3, ev3, hm⟩ := bdE hm
    refine cg_get C hw (oI_E ev3) rfl in_X4 (by decide) q317 dX4_advance_49 ?_
    obtain ⟨g4, hm⟩ := gdE hm
    obtain ⟨r6, h5, er6, hm⟩ := bd2E hm
    have lh5 := mo_X4_byteAt er6
    have ph5 : h2.1 ≤ h5.1 := lh5.1
    have qh5 : h2.2.1 ≤ h5.2.1 := lh5.2.1
    have hmo := mo_X4_advance_55   h5 x0 r6 _ hm
    have sh5 : h5.1 ≤ u9.1 := hmo.1
    have th5 : h5.2.1 ≤ u9.2.1 := hmo.2.1
    refine cg_calli hw lh5 (va_runV (As := [.int v3]) (rest := []) ⟨hx, hb, hml, hown, hts⟩ (w_X4_byteAt l er6) (cw_X4_byteAt hts q355 ⟨Nat.le_of_ble_eq_true rfl, Nat.le_of_ble_eq_true rfl⟩) (cg_preV C hw g4 rfl _) rfl rfl hl.1 rfl (lv_room (Nat.le_of_ble_eq_true rfl)) dX4_advance_52 ⟨show cc + (h5.1 - h2.1) ≤ u9.1 - u.1 by omega, show ss + (h5.2.1 - h2.2.1) ≤ u9.2.1 - u.2.1 by omega⟩) (fun H locs hw => ?_)
    exact hB55 h5 x0 r6 _ _ _ _ _ hm hw (by omega) (by omega) (lv_sub hl [0] rfl)
  have hB0 : ∀ (n0 : Nat), ∀ (h : CH) (x0 : Nat) (cc ss : Nat) (H : Heap) (locs : List Loc) (ls : Array Slot), m_X4_advance_0 f n0 h x0 = some u9 → CW D dA A s h H locs → cc + u.1 = h.1 → ss + u.2.1 = h.2.1 → lv_has ls 3 [(0, .ref x0)] → W p l e (rm_X4_advance (u9.1 - u.1) (u9.2.1 - u.2.1)) s m args below meth c H locs cc ss QQ (F0 m 0 ls []) := by
    intro n0
    induction n0 with
    | zero => intro h x0 cc ss H locs ls hm hw hcc hss hl; rw [m_X4_advance_0] at hm; exact noE hm
    | succ n0 ih0 =>
      have hB26 : ∀ (h : CH) (x0 : Nat) (cc ss : Nat) (H : Heap) (locs : List Loc) (ls : Array Slot), m_X4_advance_26 f (m_X4_advance_0 f n0) h x0 = some u9 → CW D dA A s h H locs → cc + u.1 = h.1 → ss + u.2.1 = h.2.1 → lv_has ls 3 [(0, .ref x0)] → W p l e (rm_X4_advance (u9.1 - u.1) (u9.2.1 - u.2.1)) s m args below meth c H locs cc ss QQ (F0 m 26 ls []) := by
        intro h x0 cc ss H locs ls hm hw hcc hss hl
        have hmo := mo_X4_advance_26 (mo_X4_advance_0 n0) h x0 _ hm
        have sb_ : h.1 ≤ u9.1 := hmo.1
        have tb_ : h.2.1 ≤ u9.2.1 := hmo.2.1
        rw [m_X4_advance_26] at hm
        refine lv_aload_n hx hb dX4_advance_26 rfl (lv_at hl 0 rfl) ?_
        refine lv_dup hx hb dX4_advance_27 rfl ?_
        obtain ⟨v1, ev1, hm⟩ := bdE hm
        refine cg_get C hw (oI_E ev1) rfl in_X4 (by decide) q317 dX4_advance_28 ?_
        refine lv_iconst (v := 1) hx hb dX4_advance_31 (by decide) ?_
        refine lv_iadd hx hb dX4_advance_32 ?_
        obtain ⟨h2, eh2, hm⟩ := bdE hm
        refine cg_put C hw eh2 rfl in_X4 tyX4 tyX4_ok nmX4 (by decide) q317 rfl rfl rfl dX4_advance_33 (fun H locs hw => ?_)
        have zh2 := pF_sz eh2
        refine lv_goto (tgt := 0) hx hb dX4_advance_36 (by decide) ?_
        exact ih0 h2 x0 _ _ _ _ _ hm hw (by omega) (by omega) (lv_sub hl [0] rfl)
      have hB21 : ∀ (h : CH) (x0 : Nat) (y0 : Int32) (cc ss : Nat) (H : Heap) (locs : List Loc) (ls : Array Slot), m_X4_advance_21 f (m_X4_advance_0 f n0) h x0 y0 = some u9 → CW D dA A s h H locs → cc + u.1 = h.1 → ss + u.2.1 = h.2.1 → lv_has ls 3 [(0, .ref x0)] → W p l e (rm_X4_advance (u9.1 - u.1) (u9.2.1 - u.2.1)) s m args below meth c H locs cc ss QQ (F0 m 21 ls [.int y0]) := by
        intro h x0 y0 cc ss H locs ls hm hw hcc hss hl
        have hmo := mo_X4_advance_21 (mo_X4_advance_0 n0) h x0 y0 _ hm
        have sb_ : h.1 ≤ u9.1 := hmo.1
        have tb_ : h.2.1 ≤ u9.2.1 := hmo.2.1
        rw [m_X4_advance_21] at hm
        refine lv_bipush (v := 10) hx hb dX4_advance_21 (by decide) ?_
        refine lv_icmp_ne (tgt := 39) hx hb dX4_advance_23 (by decide) (fun c1 => ?_) (fun c1 => ?_)
        · have hm := ifT hm c1
          exact hB39 h x0 _ _ _ _ _ hm hw (by omega) (by omega) (lv_sub hl [0] rfl)
        · have hm := ifT' hm c1
          exact hB26 h x0 _ _ _ _ _ hm hw (by omega) (by omega) (lv_sub hl [0] rfl)
      have hB8 : ∀ (h : CH) (x0 : Nat) (y0 : Int32) (cc ss : Nat) (H : Heap) (locs : List Loc) (ls : Array Slot), m_X4_advance_8 f (m_X4_advance_0 f n0) h x0 y0 = some u9 → CW D dA A s h H locs → cc + u.1 = h.1 → ss + u.2.1 = h.2.1 → lv_has ls 3 [(0, .ref x0)] → W p l e (rm_X4_advance (u9.1 - u.1) (u9.2.1 - u.2.1)) s m args below meth c H locs cc ss QQ (F0 m 8 ls [.int y0]) := by
        intro h x0 y0 cc ss H locs ls hm hw hcc hss hl
        have hmo := mo_X4_advance_8 (mo_X4_advance_0 n0) h x0 y0 _ hm
        have sb_ : h.1 ≤ u9.1 := hmo.1
        have tb_ : h.2.1 ≤ u9.2.1 := hmo.2.1
        rw [m_X4_advance_8] at hm
        refine lv_bipush (v := 32) hx hb dX4_advance_8 (by decide) ?_
        refine lv_icmp_eq (tgt := 26) hx hb dX4_advance_10 (by decide) (fun c1 => ?_) (fun c1 => ?_)
        · have hm := ifT hm c1
          exact hB26 h x0 _ _ _ _ _ hm hw (by omega) (by omega) (lv_sub hl [0] rfl)
        · have hm := ifF hm c1
          refine lv_aload_n hx hb dX4_advance_13 rfl (lv_at hl 0 rfl) ?_
          refine lv_aload_n hx hb dX4_advance_14 rfl (lv_at hl 0 rfl) ?_
          obtain ⟨v2, ev2, hm⟩ := bdE hm
          refine cg_get C hw (oI_E ev2) rfl in_X4 (by decide) q317 dX4_advance_15 ?_
          obtain ⟨g3, hm⟩ := gdE hm
          obtain ⟨r5, h4, er5, hm⟩ := bd2E hm
          have lh4 := mo_X4_byteAt er5
          have ph4 : h.1 ≤ h4.1 := lh4.1
          have qh4 : h.2.1 ≤ h4.2.1 := lh4.2.1
          have hmo := mo_X4_advance_21 (mo_X4_advance_0 n0)  h4 x0 r5 _ hm
          have sh4 : h4.1 ≤ u9.1 := hmo.1
          have th4 : h4.2.1 ≤ u9.2.1 := hmo.2.1
          refine cg_calli hw lh4 (va_runV (As := [.int v2]) (rest := []) ⟨hx, hb, hml, hown, hts⟩ (w_X4_byteAt l er5) (cw_X4_byteAt hts q355 ⟨Nat.le_of_ble_eq_true rfl, Nat.le_of_ble_eq_true rfl⟩) (cg_preV C hw g3 rfl _) rfl rfl hl.1 rfl (lv_room (Nat.le_of_ble_eq_true rfl)) dX4_advance_18 ⟨show cc + (h4.1 - h.1) ≤ u9.1 - u.1 by omega, show ss + (h4.2.1 - h.2.1) ≤ u9.2.1 - u.2.1 by omega⟩) (fun H locs hw => ?_)
          exact hB21 h4 x0 r5 _ _ _ _ _ hm hw (by omega) (by omega) (lv_sub hl [0] rfl)
      intro h x0 cc ss H locs ls hm hw hcc hss hl
      have hmo := mo_X4_advance_0  (n0 + 1) h x0 _ hm
      have sb_ : h.1 ≤ u9.1 := hmo.1
      have tb_ : h.2.1 ≤ u9.2.1 := hmo.2.1
      rw [m_X4_advance_0] at hm
      refine lv_aload_n hx hb dX4_advance_0 rfl (lv_at hl 0 rfl) ?_
      refine lv_aload_n hx hb dX4_advance_1 rfl (lv_at hl 0 rfl) ?_
      obtain ⟨v1, ev1, hm⟩ := bdE hm
      refine cg_get C hw (oI_E ev1) rfl in_X4 (by decide) q317 dX4_advance_2 ?_
      obtain ⟨g2, hm⟩ := gdE hm
      obtain ⟨r4, h3, er4, hm⟩ := bd2E hm
      have lh3 := mo_X4_byteAt er4
      have ph3 : h.1 ≤ h3.1 := lh3.1
      have qh3 : h.2.1 ≤ h3.2.1 := lh3.2.1
      have hmo := mo_X4_advance_8 (mo_X4_advance_0 n0)  h3 x0 r4 _ hm
      have sh3 : h3.1 ≤ u9.1 := hmo.1
      have th3 : h3.2.1 ≤ u9.2.1 := hmo.2.1
      refine cg_calli hw lh3 (va_runV (As := [.int v1]) (rest := []) ⟨hx, hb, hml, hown, hts⟩ (w_X4_byteAt l er4) (cw_X4_byteAt hts q355 ⟨Nat.le_of_ble_eq_true rfl, Nat.le_of_ble_eq_true rfl⟩) (cg_preV C hw g2 rfl _) rfl rfl hl.1 rfl (lv_room (Nat.le_of_ble_eq_true rfl)) dX4_advance_5 ⟨show cc + (h3.1 - h.1) ≤ u9.1 - u.1 by omega, show ss + (h3.2.1 - h.2.1) ≤ u9.2.1 - u.2.1 by omega⟩) (fun H locs hw => ?_)
      exact hB8 h3 x0 r4 _ _ _ _ _ hm hw (by omega) (by omega) (lv_sub hl [0] rfl)
  rw [m_X4_advance] at hm
  exact hB0 f u x0 _ _ _ _ _ hm hw (by omega) (by omega) (lv_sub hl [0] rfl)
