/-! walks of the component (printed by gen/walkc.py) -/
set_option maxRecDepth 100000
def m_X0_seeksTurns_127 (f : Nat) (h : CH) : Option CH := some h
theorem mo_X0_seeksTurns_127 {f : Nat} : ∀ (h : CH) (r : CH), m_X0_seeksTurns_127 f h = some r → le2 h r := by
  intro h r hm
  rw [m_X0_seeksTurns_127] at hm
  cases hm
  exact le2.rf
def m_X0_seeksTurns_121 (f : Nat) (k12 : CH → Nat → Nat → Int32 → Int32 → Option CH) (h : CH) (x0 : Nat) (x1 : Nat) (x2 : Int32) (x3 : Int32) : Option CH := nmv ((x3 + 1) : Int32) fun v1 =>
    k12 h x0 x1 x2 v1
theorem mo_X0_seeksTurns_121 {f : Nat} {k12 : CH → Nat → Nat → Int32 → Int32 → Option CH} (hk12 : ∀ (h : CH) (x0 : Nat) (x1 : Nat) (x2 : Int32) (x3 : Int32) (r : CH), k12 h x0 x1 x2 x3 = some r → le2 h r) : ∀ (h : CH) (x0 : Nat) (x1 : Nat) (x2 : Int32) (x3 : Int32) (r : CH), m_X0_seeksTurns_121 f k12 h x0 x1 x2 x3 = some r → le2 h r := by
  intro h x0 x1 x2 x3 r hm
  rw [m_X0_seeksTurns_121] at hm
  obtain ⟨v1, ev1, hm⟩ := nmE hm
  exact (hk12 h x0 x1 x2 v1 _ hm)
def m_X0_seeksTurns_118 (f : Nat) (k12 : CH → Nat → Nat → Int32 → Int32 → Option CH) (h : CH) (x0 : Nat) (x1 : Nat) (x2 : Int32) (x3 : Int32) (y0 : Nat) (y1 : Int32) : Option CH := bd (pF h 1 11 y0 (.int y1)) fun h1 =>
    m_X0_seeksTurns_121 f k12 h1 x0 x1 x2 x3
theorem mo_X0_seeksTurns_118 {f : Nat} {k12 : CH → Nat → Nat → Int32 → Int32 → Option CH} (hk12 : ∀ (h : CH) (x0 : Nat) (x1 : Nat) (x2 : Int32) (x3 : Int32) (r : CH), k12 h x0 x1 x2 x3 = some r → le2 h r) : ∀ (h : CH) (x0 : Nat) (x1 : Nat) (x2 : Int32) (x3 : Int32) (y0 : Nat) (y1 : Int32) (r : CH), m_X0_seeksTurns_118 f k12 h x0 x1 x2 x3 y0 y1 = some r → le2 h r := by
  intro h x0 x1 x2 x3 y0 y1 r hm
  rw [m_X0_seeksTurns_118] at hm
  obtain ⟨h1, eh1, hm⟩ := bdE hm
  have lh1 := pF_le eh1
  exact (lh1.tr (mo_X0_seeksTurns_121 hk12 h1 x0 x1 x2 x3 _ hm))
def m_X0_seeksTurns_53 (f : Nat) (k12 : CH → Nat → Nat → Int32 → Int32 → Option CH) (h : CH) (x0 : Nat) (x1 : Nat) (x2 : Int32) (x3 : Int32) (y0 : Int64) : Option CH := if y0 = (Int32.toInt64 x2) then
    bd (oI h 1 10 x0) fun v2 =>
    bd (pF h 1 10 x0 (.int (v2 + (1 : Int32)))) fun h3 =>
    bd (oI h3 1 11 x0) fun v4 =>
    if ¬ v4 = (-1 : Int32) then
    bd (oI h3 1 11 x0) fun v6 =>
    m_X0_seeksTurns_118 f k12 h3 x0 x1 x2 x3 x0 v6
    else m_X0_seeksTurns_118 f k12 h3 x0 x1 x2 x3 x0 (((((1000 : Int32) * (x3 >>> ((6 : Int32) &&& 31))) + ((100 : Int32) * ((x3 >>> ((4 : Int32) &&& 31)) &&& (3 : Int32)))) + ((10 : Int32) * ((x3 >>> ((2 : Int32) &&& 31)) &&& (3 : Int32)))) + (x3 &&& (3 : Int32)))
    else m_X0_seeksTurns_121 f k12 h x0 x1 x2 x3
theorem mo_X0_seeksTurns_53 {f : Nat} {k12 : CH → Nat → Nat → Int32 → Int32 → Option CH} (hk12 : ∀ (h : CH) (x0 : Nat) (x1 : Nat) (x2 : Int32) (x3 : Int32) (r : CH), k12 h x0 x1 x2 x3 = some r → le2 h r) : ∀ (h : CH) (x0 : Nat) (x1 : Nat) (x2 : Int32) (x3 : Int32) (y0 : Int64) (r : CH), m_X0_seeksTurns_53 f k12 h x0 x1 x2 x3 y0 = some r → le2 h r := by
  intro h x0 x1 x2 x3 y0 r hm
  rw [m_X0_seeksTurns_53] at hm
  by_cases c1 : y0 = (Int32.toInt64 x2)
  · have hm := ifT hm c1
    obtain ⟨v2, ev2, hm⟩ := bdE hm
    obtain ⟨h3, eh3, hm⟩ := bdE hm
    have lh3 := pF_le eh3
    obtain ⟨v4, ev4, hm⟩ := bdE hm
    by_cases c5 : ¬ v4 = (-1 : Int32)
    · have hm := ifT hm c5
      obtain ⟨v6, ev6, hm⟩ := bdE hm
      exact (lh3.tr (mo_X0_seeksTurns_118 hk12 h3 x0 x1 x2 x3 x0 v6 _ hm))
    · have hm := ifF hm c5
      exact (lh3.tr (mo_X0_seeksTurns_118 hk12 h3 x0 x1 x2 x3 x0 (((((1000 : Int32) * (x3 >>> ((6 : Int32) &&& 31))) + ((100 : Int32) * ((x3 >>> ((4 : Int32) &&& 31)) &&& (3 : Int32)))) + ((10 : Int32) * ((x3 >>> ((2 : Int32) &&& 31)) &&& (3 : Int32)))) + (x3 &&& (3 : Int32))) _ hm))
  · have hm := ifF hm c1
    exact (mo_X0_seeksTurns_121 hk12 h x0 x1 x2 x3 _ hm)
def m_X0_seeksTurns_48 (f : Nat) (k12 : CH → Nat → Nat → Int32 → Int32 → Option CH) (h : CH) (x0 : Nat) (x1 : Nat) (x2 : Int32) (x3 : Int32) (x4 : Int64) (y0 : Nat) (y1 : Nat) : Option CH := gd (isC h y0 1) <|
    bd2 (m_X0_indexBy f h y0 y1 x4) fun r3 h2 =>
    m_X0_seeksTurns_53 f k12 h2 x0 x1 x2 x3 r3
theorem mo_X0_seeksTurns_48 {f : Nat} {k12 : CH → Nat → Nat → Int32 → Int32 → Option CH} (hk12 : ∀ (h : CH) (x0 : Nat) (x1 : Nat) (x2 : Int32) (x3 : Int32) (r : CH), k12 h x0 x1 x2 x3 = some r → le2 h r) : ∀ (h : CH) (x0 : Nat) (x1 : Nat) (x2 : Int32) (x3 : Int32) (x4 : Int64) (y0 : Nat) (y1 : Nat) (r : CH), m_X0_seeksTurns_48 f k12 h x0 x1 x2 x3 x4 y0 y1 = some r → le2 h r := by
  intro h x0 x1 x2 x3 x4 y0 y1 r hm
  rw [m_X0_seeksTurns_48] at hm
  obtain ⟨g1, hm⟩ := gdE hm
  obtain ⟨r3, h2, er3, hm⟩ := bd2E hm
  have lh2 := mo_X0_indexBy er3
  exact (lh2.tr (mo_X0_seeksTurns_53 hk12 h2 x0 x1 x2 x3 r3 _ hm))
def m_X0_seeksTurns_40 (f : Nat) (k12 : CH → Nat → Nat → Int32 → Int32 → Option CH) (h : CH) (x0 : Nat) (x1 : Nat) (x2 : Int32) (x3 : Int32) (y0 : Int32) : Option CH := nmv ((Int32.toInt64 y0) : Int64) fun v1 =>
    if isC h x1 6 = true then
    bd2 (m_X6_rows f h x1) fun a4 h3 =>
    m_X0_seeksTurns_48 f k12 h3 x0 x1 x2 x3 v1 x0 a4
    else gd (isC h x1 7) <|
    bd2 (m_X7_rows f h x1) fun a7 h6 =>
    m_X0_seeksTurns_48 f k12 h6 x0 x1 x2 x3 v1 x0 a7
theorem mo_X0_seeksTurns_40 {f : Nat} {k12 : CH → Nat → Nat → Int32 → Int32 → Option CH} (hk12 : ∀ (h : CH) (x0 : Nat) (x1 : Nat) (x2 : Int32) (x3 : Int32) (r : CH), k12 h x0 x1 x2 x3 = some r → le2 h r) : ∀ (h : CH) (x0 : Nat) (x1 : Nat) (x2 : Int32) (x3 : Int32) (y0 : Int32) (r : CH), m_X0_seeksTurns_40 f k12 h x0 x1 x2 x3 y0 = some r → le2 h r := by
  intro h x0 x1 x2 x3 y0 r hm
  rw [m_X0_seeksTurns_40] at hm
  obtain ⟨v1, ev1, hm⟩ := nmE hm
  by_cases c2 : isC h x1 6 = true
  · have hm := ifT hm c2
    obtain ⟨a4, h3, ea4, hm⟩ := bd2E hm
    have lh3 := mo_X6_rows ea4
    exact (lh3.tr (mo_X0_seeksTurns_48 hk12 h3 x0 x1 x2 x3 v1 x0 a4 _ hm))
  · have hm := ifF hm c2
    obtain ⟨g5, hm⟩ := gdE hm
    obtain ⟨a7, h6, ea7, hm⟩ := bd2E hm
    have lh6 := mo_X7_rows ea7
    exact (lh6.tr (mo_X0_seeksTurns_48 hk12 h6 x0 x1 x2 x3 v1 x0 a7 _ hm))
def m_X0_seeksTurns_12 (f : Nat) : Nat → CH → Nat → Nat → Int32 → Int32 → Option CH
  | 0, _, _, _, _, _ => none
  | n12 + 1, h, x0, x1, x2, x3 => if (256 : Int32) ≤ x3 then
    m_X0_seeksTurns_127 f h
    else gd (isC h x0 1) <|
    bd2 (m_X0_laysTurn f h x0 (x3 >>> ((6 : Int32) &&& 31)) ((x3 >>> ((4 : Int32) &&& 31)) &&& (3 : Int32)) ((x3 >>> ((2 : Int32) &&& 31)) &&& (3 : Int32)) (x3 &&& (3 : Int32))) fun r4 h3 =>
    m_X0_seeksTurns_40 f (m_X0_seeksTurns_12 f n12) h3 x0 x1 x2 x3 r4
theorem mo_X0_seeksTurns_12 {f : Nat} : ∀ (n12 : Nat) (h : CH) (x0 : Nat) (x1 : Nat) (x2 : Int32) (x3 : Int32) (r : CH), m_X0_seeksTurns_12 f n12 h x0 x1 x2 x3 = some r → le2 h r := by
  intro n12
  induction n12 with
  | zero => intro h x0 x1 x2 x3 r hm; rw [m_X0_seeksTurns_12] at hm; exact noE hm
  | succ n12 ihm =>
    intro h x0 x1 x2 x3 r hm
    rw [m_X0_seeksTurns_12] at hm
    by_cases c1 : (256 : Int32) ≤ x3
    · have hm := ifT hm c1
      exact (mo_X0_seeksTurns_127  h _ hm)
    · have hm := ifF hm c1
      obtain ⟨g2, hm⟩ := gdE hm
      obtain ⟨r4, h3, er4, hm⟩ := bd2E hm
      have lh3 := mo_X0_laysTurn er4
      exact (lh3.tr (mo_X0_seeksTurns_40 ihm h3 x0 x1 x2 x3 r4 _ hm))
def m_X0_seeksTurns (f : Nat) (u : CH) (x0 : Nat) (x1 : Nat) (x2 : Int32) : Option CH := bd (pF u 1 10 x0 (.int (0 : Int32))) fun h1 =>
    bd (pF h1 1 11 x0 (.int (-1 : Int32))) fun h2 =>
    m_X0_seeksTurns_12 f f h2 x0 x1 x2 (1 : Int32)
theorem mo_X0_seeksTurns {f : Nat} {u : CH} {x0 : Nat} {x1 : Nat} {x2 : Int32} {u9 : CH} (hm : m_X0_seeksTurns f u x0 x1 x2 = some u9) : le2 u u9 := by
  rw [m_X0_seeksTurns] at hm
  obtain ⟨h1, eh1, hm⟩ := bdE hm
  have lh1 := pF_le eh1
  obtain ⟨h2, eh2, hm⟩ := bdE hm
  have lh2 := pF_le eh2
  exact (lh1.tr (lh2.tr (mo_X0_seeksTurns_12  f h2 x0 x1 x2 (1 : Int32) _ hm)))
abbrev rm_X0_seeksTurns (mc ms : Nat) : Room := { frames := 105, cells := mc, slots := ms, locals := 4127 }
theorem cw_X0_seeksTurns {R : Room} {s : State} {args : Array Value} {own : String} {idx mc ms : Nat} (hts : ∀ w ∈ lw_all, w.before args s = true) (hl : Cond.methodLink own idx yX0_seeksTurns ∈ lw_all) (hR : 105 + 1 ≤ R.frames ∧ 8 + (6 + 11) + 4127 ≤ R.locals) : CallW R s args own RX0 idx yX0_seeksTurns cX0_seeksTurns 6 (Option.none : Option Jvm.ClassFile.FieldType) (ws_ yX0_seeksTurns cX0_seeksTurns 6 (Option.none : Option Jvm.ClassFile.FieldType)) (rm_X0_seeksTurns mc ms) mc ms 2 := cwV 2 hts (lw_V hl q1343 qs45 q119 q1344) rfl rfl rfl (by decide +kernel) hR
set_option maxHeartbeats 4000000 in
set_option maxRecDepth 100000 in
theorem w_X0_seeksTurns (l : Launch) {D : va_G} {dA : Nat → ClassId} {A : Nat → Prop} {f : Nat} {u u9 : CH} {x0 : Nat} {x1 : Nat} {x2 : Int32} (hm : m_X0_seeksTurns f u x0 x1 x2 = some u9) : Met l yX0_seeksTurns (ws_ yX0_seeksTurns cX0_seeksTurns 6 (Option.none : Option Jvm.ClassFile.FieldType)) (rm_X0_seeksTurns (u9.1 - u.1) (u9.2.1 - u.2.1)) (va_Pc [.ref x0, .ref x1, .int x2] (CPre D dA A u)) (va_Qv (fun u => u = u9) (CPost D dA A) A) (u9.1 - u.1) (u9.2.1 - u.2.1) A := by
  refine Met.ofW (cc := cX0_seeksTurns) (maxL := 6) (ret := (Option.none : Option Jvm.ClassFile.FieldType)) (by decide) rfl ?_
  intro p e s m args below meth c s₁ B hml hv
  have hx := B.exec
  have hb := B.bytes
  have hr := B.returns
  have hts := atoms_spec (ws := (ws_ yX0_seeksTurns cX0_seeksTurns 6 (Option.none : Option Jvm.ClassFile.FieldType))) B.pre
  have hts : ∀ w ∈ lw_all, w.before args s = true := fun w h => hts w (List.mem_cons_of_mem _ h)
  have hown : s.vm.findClass RX0 = some m.cls := findClass_of_methodNamed B.named
  have hlocks := B.notSynchronized
  obtain ⟨hav, hv⟩ := hv
  have C : CX p s m args c cX0_seeksTurns RX0 D dA := ⟨hx, hb, hown, hts, hv.2⟩
  have hw : CW D dA A s u s.heap [] := hv.1
  generalize hQ : MQ below (va_Qv (fun u => u = u9) (CPost D dA A) A) args s (u9.1 - u.1) (u9.2.1 - u.2.1) A = QQ
  have hent := lg_entry_eq m [.ref x0, .ref x1, .int x2] 6
  rw [← hav] at hent
  rw [hent]
  have hl := lv_entry ([.ref x0, .ref x1, .int x2]) (n := 6) (Nat.le_of_ble_eq_true rfl)
  generalize (lg_sl ([.ref x0, .ref x1, .int x2]) ++ List.replicate (6 - (lg_sl ([.ref x0, .ref x1, .int x2])).length) Slot.unset).toArray = ls at hl ⊢
  have hl : lv_has ls 6 [(0, .ref x0), (1, .ref x1), (2, .int x2)] := hl
  obtain ⟨cc, ecc⟩ : ∃ z : Nat, z = 0 := ⟨0, rfl⟩
  obtain ⟨ss, ess⟩ : ∃ z : Nat, z = 0 := ⟨0, rfl⟩
  have hcc : cc + u.1 = u.1 := by omega
  have hss : ss + u.2.1 = u.2.1 := by omega
  suffices hgo : W p l e (rm_X0_seeksTurns (u9.1 - u.1) (u9.2.1 - u.2.1)) s m args below meth c s.heap [] cc ss QQ (F0 m 0 ls []) by rw [ecc, ess] at hgo; exact hgo
  have ⟨pu, qu, _, _⟩ := mo_X0_seeksTurns hm
  have hB127 : ∀ (h : CH) (cc ss : Nat) (H : Heap) (locs : List Loc) (ls : Array Slot), m_X0_seeksTurns_127 f h = some u9 → CW D dA A s h H locs → cc + u.1 = h.1 → ss + u.2.1 = h.2.1 → lv_has ls 6 [] → W p l e (rm_X0_seeksTurns (u9.1 - u.1) (u9.2.1 - u.2.1)) s m args below meth c H locs cc ss QQ (F0 m 127 ls []) := by
    intro h cc ss H locs ls hm hw hcc hss hl
    have hmo := mo_X0_seeksTurns_127  h _ hm
    have sb_ : h.1 ≤ u9.1 := hmo.1
    have tb_ : h.2.1 ≤ u9.2.1 := hmo.2.1
    rw [m_X0_seeksTurns_127] at hm
    have eh := ret1 hm
    have ec : cc = u9.1 - u.1 := by rw [← eh]; omega
    have es : ss = u9.2.1 - u.2.1 := by rw [← eh]; omega
    rw [ec, es, ← hQ]
    exact W.vret hx hb hr (fun t ht hW => ⟨⟨h, rfl, eh, ⟨by rw [ht]; exact hw.1, by rw [ht]; exact hw.2.1⟩⟩, hw.2.2.1.F ht⟩) hw.2.2.1.2.2 dX0_seeksTurns_127
  have hB12 : ∀ (n12 : Nat), ∀ (h : CH) (x0 : Nat) (x1 : Nat) (x2 : Int32) (x3 : Int32) (cc ss : Nat) (H : Heap) (locs : List Loc) (ls : Array Slot), m_X0_seeksTurns_12 f n12 h x0 x1 x2 x3 = some u9 → CW D dA A s h H locs → cc + u.1 = h.1 → ss + u.2.1 = h.2.1 → lv_has ls 6 [(0, .ref x0), (1, .ref x1), (2, .int x2), (3, .int x3)] → W p l e (rm_X0_seeksTurns (u9.1 - u.1) (u9.2.1 - u.2.1)) s m args below meth c H locs cc ss QQ (F0 m 12 ls []) := by
    intro n12
    induction n12 with
    | zero => intro h x0 x1 x2 x3 cc ss H locs ls hm hw hcc hss hl; rw [m_X0_seeksTurns_12] at hm; exact noE hm
    | succ n12 ih12 =>
      have hB121 : ∀ (h : CH) (x0 : Nat) (x1 : Nat) (x2 : Int32) (x3 : Int32) (cc ss : Nat) (H : Heap) (locs : List Loc) (ls : Array Slot), m_X0_seeksTurns_121 f (m_X0_seeksTurns_12 f n12) h x0 x1 x2 x3 = some u9 → CW D dA A s h H locs → cc + u.1 = h.1 → ss + u.2.1 = h.2.1 → lv_has ls 6 [(0, .ref x0), (1, .ref x1), (2, .int x2), (3, .int x3)] → W p l e (rm_X0_seeksTurns (u9.1 - u.1) (u9.2.1 - u.2.1)) s m args below meth c H locs cc ss QQ (F0 m 121 ls []) := by
        intro h x0 x1 x2 x3 cc ss H locs ls hm hw hcc hss hl
        have hmo := mo_X0_seeksTurns_121 (mo_X0_seeksTurns_12 n12) h x0 x1 x2 x3 _ hm
        have sb_ : h.1 ≤ u9.1 := hmo.1
        have tb_ : h.2.1 ≤ u9.2.1 := hmo.2.1
        rw [m_X0_seeksTurns_121] at hm
        obtain ⟨v1, ev1, hm⟩ := nmE hm
        refine lv_iinc (v := v1) (lv' := [(3, .int v1), (0, .ref x0), (1, .ref x1), (2, .int x2)]) hx hb dX0_seeksTurns_121 hl (k := 3) rfl (by rw [ev1]; rfl) (by decide) rfl (fun ls hl => ?_)
        refine lv_goto (tgt := 12) hx hb dX0_seeksTurns_124 (by decide) ?_
        exact ih12 h x0 x1 x2 v1 _ _ _ _ _ hm hw (by omega) (by omega) (lv_sub hl [1, 2, 3, 0] rfl)
      have hB118 : ∀ (h : CH) (x0 : Nat) (x1 : Nat) (x2 : Int32) (x3 : Int32) (y0 : Nat) (y1 : Int32) (cc ss : Nat) (H : Heap) (locs : List Loc) (ls : Array Slot), m_X0_seeksTurns_118 f (m_X0_seeksTurns_12 f n12) h x0 x1 x2 x3 y0 y1 = some u9 → CW D dA A s h H locs → cc + u.1 = h.1 → ss + u.2.1 = h.2.1 → lv_has ls 6 [(0, .ref x0), (1, .ref x1), (2, .int x2), (3, .int x3)] → W p l e (rm_X0_seeksTurns (u9.1 - u.1) (u9.2.1 - u.2.1)) s m args below meth c H locs cc ss QQ (F0 m 118 ls [.int y1, .ref y0]) := by
        intro h x0 x1 x2 x3 y0 y1 cc ss H locs ls hm hw hcc hss hl
        have hmo := mo_X0_seeksTurns_118 (mo_X0_seeksTurns_12 n12) h x0 x1 x2 x3 y0 y1 _ hm
        have sb_ : h.1 ≤ u9.1 := hmo.1
        have tb_ : h.2.1 ≤ u9.2.1 := hmo.2.1
        rw [m_X0_seeksTurns_118] at hm
        obtain ⟨h1, eh1, hm⟩ := bdE hm
        refine cg_put C hw eh1 rfl in_X0 tyX0 tyX0_ok nmX0 (by decide) q250 rfl rfl rfl dX0_seeksTurns_118 (fun H locs hw => ?_)
        have zh1 := pF_sz eh1
        exact hB121 h1 x0 x1 x2 x3 _ _ _ _ _ hm hw (by omega) (by omega) (lv_sub hl [0, 1, 2, 3] rfl)
      have hB53 : ∀ (h : CH) (x0 : Nat) (x1 : Nat) (x2 : Int32) (x3 : Int32) (y0 : Int64) (cc ss : Nat) (H : Heap) (locs : List Loc) (ls : Array Slot), m_X0_seeksTurns_53 f (m_X0_seeksTurns_12 f n12) h x0 x1 x2 x3 y0 = some u9 → CW D dA A s h H locs → cc + u.1 = h.1 → ss + u.2.1 = h.2.1 → lv_has ls 6 [(0, .ref x0), (1, .ref x1), (2, .int x2), (3, .int x3)] → W p l e (rm_X0_seeksTurns (u9.1 - u.1) (u9.2.1 - u.2.1)) s m args below meth c H locs cc ss QQ (F0 m 53 ls [.long y0]) := by
        intro h x0 x1 x2 x3 y0 cc ss H locs ls hm hw hcc hss hl
        have hmo := mo_X0_seeksTurns_53 (mo_X0_seeksTurns_12 n12) h x0 x1 x2 x3 y0 _ hm
        have sb_ : h.1 ≤ u9.1 := hmo.1
        have tb_ : h.2.1 ≤ u9.2.1 := hmo.2.1
        rw [m_X0_seeksTurns_53] at hm
        refine lv_iload_n hx hb dX0_seeksTurns_53 rfl (lv_at hl 2 rfl) ?_
        refine lv_i2l hx hb dX0_seeksTurns_54 rfl ?_
        refine lc_eq (tgt := 62) hx hb dX0_seeksTurns_55 dX0_seeksTurns_56 (by decide) (fun c1 => ?_) (fun c1 => ?_)
        · have hm := ifT hm c1
          refine lv_aload_n hx hb dX0_seeksTurns_62 rfl (lv_at hl 0 rfl) ?_
          refine lv_dup hx hb dX0_seeksTurns_63 rfl ?_
          obtain ⟨v2, ev2, hm⟩ := bdE hm
          refine cg_get C hw (oI_E ev2) rfl in_X0 (by decide) q249 dX0_seeksTurns_64 ?_
          refine lv_iconst (v := 1) hx hb dX0_seeksTurns_67 (by decide) ?_
          refine lv_iadd hx hb dX0_seeksTurns_68 ?_
          obtain ⟨h3, eh3, hm⟩ := bdE hm
          refine cg_put C hw eh3 rfl in_X0 tyX0 tyX0_ok nmX0 (by decide) q249 rfl rfl rfl dX0_seeksTurns_69 (fun H locs hw => ?_)
          have zh3 := pF_sz eh3
          refine lv_aload_n hx hb dX0_seeksTurns_72 rfl (lv_at hl 0 rfl) ?_
          refine lv_aload_n hx hb dX0_seeksTurns_73 rfl (lv_at hl 0 rfl) ?_
          obtain ⟨v4, ev4, hm⟩ := bdE hm
          refine cg_get C hw (oI_E ev4) rfl in_X0 (by decide) q250 dX0_seeksTurns_74 ?_
          refine lv_iconst (v := -1) hx hb dX0_seeksTurns_77 (by decide) ?_
          refine lv_icmp_ne (tgt := 114) hx hb dX0_seeksTurns_78 (by decide) (fun c5 => ?_) (fun c5 => ?_)
          · have hm := ifT hm c5
            refine lv_aload_n hx hb dX0_seeksTurns_114 rfl (lv_at hl 0 rfl) ?_
            obtain ⟨v6, ev6, hm⟩ := bdE hm
            refine cg_get C hw (oI_E ev6) rfl in_X0 (by decide) q250 dX0_seeksTurns_115 ?_
            exact hB118 h3 x0 x1 x2 x3 x0 v6 _ _ _ _ _ hm hw (by omega) (by omega) (lv_sub hl [0, 1, 2, 3] rfl)
          · have hm := ifT' hm c5
            refine lv_sipush (v := 1000) hx hb dX0_seeksTurns_81 (by decide) ?_
            refine lv_iload_n hx hb dX0_seeksTurns_84 rfl (lv_at hl 3 rfl) ?_
            refine lv_bipush (v := 6) hx hb dX0_seeksTurns_85 (by decide) ?_
            refine lv_ishr hx hb dX0_seeksTurns_87 ?_
            refine lv_imul hx hb dX0_seeksTurns_88 ?_
            refine lv_bipush (v := 100) hx hb dX0_seeksTurns_89 (by decide) ?_
            refine lv_iload_n hx hb dX0_seeksTurns_91 rfl (lv_at hl 3 rfl) ?_
            refine lv_iconst (v := 4) hx hb dX0_seeksTurns_92 (by decide) ?_
            refine lv_ishr hx hb dX0_seeksTurns_93 ?_
            refine lv_iconst (v := 3) hx hb dX0_seeksTurns_94 (by decide) ?_
            refine lv_iand hx hb dX0_seeksTurns_95 ?_
            refine lv_imul hx hb dX0_seeksTurns_96 ?_
            refine lv_iadd hx hb dX0_seeksTurns_97 ?_
            refine lv_bipush (v := 10) hx hb dX0_seeksTurns_98 (by decide) ?_
            refine lv_iload_n hx hb dX0_seeksTurns_100 rfl (lv_at hl 3 rfl) ?_
            refine lv_iconst (v := 2) hx hb dX0_seeksTurns_101 (by decide) ?_
            refine lv_ishr hx hb dX0_seeksTurns_102 ?_
            refine lv_iconst (v := 3) hx hb dX0_seeksTurns_103 (by decide) ?_
            refine lv_iand hx hb dX0_seeksTurns_104 ?_
            refine lv_imul hx hb dX0_seeksTurns_105 ?_
            refine lv_iadd hx hb dX0_seeksTurns_106 ?_
            refine lv_iload_n hx hb dX0_seeksTurns_107 rfl (lv_at hl 3 rfl) ?_
            refine lv_iconst (v := 3) hx hb dX0_seeksTurns_108 (by decide) ?_
            refine lv_iand hx hb dX0_seeksTurns_109 ?_
            refine lv_iadd hx hb dX0_seeksTurns_110 ?_
            refine lv_goto (tgt := 118) hx hb dX0_seeksTurns_111 (by decide) ?_
            exact hB118 h3 x0 x1 x2 x3 x0 (((((1000 : Int32) * (x3 >>> ((6 : Int32) &&& 31))) + ((100 : Int32) * ((x3 >>> ((4 : Int32) &&& 31)) &&& (3 : Int32)))) + ((10 : Int32) * ((x3 >>> ((2 : Int32) &&& 31)) &&& (3 : Int32)))) + (x3 &&& (3 : Int32))) _ _ _ _ _ hm hw (by omega) (by omega) (lv_sub hl [0, 1, 2, 3] rfl)
        · have hm := ifF hm c1
          refine lv_goto (tgt := 121) hx hb dX0_seeksTurns_59 (by decide) ?_
          exact hB121 h x0 x1 x2 x3 _ _ _ _ _ hm hw (by omega) (by omega) (lv_sub hl [0, 1, 2, 3] rfl)
      have hB48 : ∀ (h : CH) (x0 : Nat) (x1 : Nat) (x2 : Int32) (x3 : Int32) (x4 : Int64) (y0 : Nat) (y1 : Nat) (cc ss : Nat) (H : Heap) (locs : List Loc) (ls : Array Slot), m_X0_seeksTurns_48 f (m_X0_seeksTurns_12 f n12) h x0 x1 x2 x3 x4 y0 y1 = some u9 → CW D dA A s h H locs → cc + u.1 = h.1 → ss + u.2.1 = h.2.1 → lv_has ls 6 [(0, .ref x0), (1, .ref x1), (2, .int x2), (3, .int x3), (4, .long x4)] → W p l e (rm_X0_seeksTurns (u9.1 - u.1) (u9.2.1 - u.2.1)) s m args below meth c H locs cc ss QQ (F0 m 48 ls [.ref y1, .ref y0]) := by
        intro h x0 x1 x2 x3 x4 y0 y1 cc ss H locs ls hm hw hcc hss hl
        have hmo := mo_X0_seeksTurns_48 (mo_X0_seeksTurns_12 n12) h x0 x1 x2 x3 x4 y0 y1 _ hm
        have sb_ : h.1 ≤ u9.1 := hmo.1
        have tb_ : h.2.1 ≤ u9.2.1 := hmo.2.1
        rw [m_X0_seeksTurns_48] at hm
        refine lv_lload hx hb dX0_seeksTurns_48 (lv_at hl 4 rfl) ?_
        obtain ⟨g1, hm⟩ := gdE hm
        obtain ⟨r3, h2, er3, hm⟩ := bd2E hm
        have lh2 := mo_X0_indexBy er3
        have ph2 : h.1 ≤ h2.1 := lh2.1
        have qh2 : h.2.1 ≤ h2.2.1 := lh2.2.1
        have hmo := mo_X0_seeksTurns_53 (mo_X0_seeksTurns_12 n12)  h2 x0 x1 x2 x3 r3 _ hm
        have sh2 : h2.1 ≤ u9.1 := hmo.1
        have th2 : h2.2.1 ≤ u9.2.1 := hmo.2.1
        refine cg_calll hw lh2 (va_runV (As := [.ref y1, .long x4]) (rest := []) ⟨hx, hb, hml, hown, hts⟩ (w_X0_indexBy l er3) (cw_X0_indexBy hts q1349 ⟨Nat.le_of_ble_eq_true rfl, Nat.le_of_ble_eq_true rfl⟩) (cg_preV C hw g1 rfl _) rfl rfl hl.1 rfl (lv_room (Nat.le_of_ble_eq_true rfl)) dX0_seeksTurns_50 ⟨show cc + (h2.1 - h.1) ≤ u9.1 - u.1 by omega, show ss + (h2.2.1 - h.2.1) ≤ u9.2.1 - u.2.1 by omega⟩) (fun H locs hw => ?_)
        exact hB53 h2 x0 x1 x2 x3 r3 _ _ _ _ _ hm hw (by omega) (by omega) (lv_sub hl [0, 1, 2, 3] rfl)
      have hB40 : ∀ (h : CH) (x0 : Nat) (x1 : Nat) (x2 : Int32) (x3 : Int32) (y0 : Int32) (cc ss : Nat) (H : Heap) (locs : List Loc) (ls : Array Slot), m_X0_seeksTurns_40 f (m_X0_seeksTurns_12 f n12) h x0 x1 x2 x3 y0 = some u9 → CW D dA A s h H locs → cc + u.1 = h.1 → ss + u.2.1 = h.2.1 → lv_has ls 6 [(0, .ref x0), (1, .ref x1), (2, .int x2), (3, .int x3)] → W p l e (rm_X0_seeksTurns (u9.1 - u.1) (u9.2.1 - u.2.1)) s m args below meth c H locs cc ss QQ (F0 m 40 ls [.int y0]) := by
        intro h x0 x1 x2 x3 y0 cc ss H locs ls hm hw hcc hss hl
        have hmo := mo_X0_seeksTurns_40 (mo_X0_seeksTurns_12 n12) h x0 x1 x2 x3 y0 _ hm
        have sb_ : h.1 ≤ u9.1 := hmo.1
        have tb_ : h.2.1 ≤ u9.2.1 := hmo.2.1
        rw [m_X0_seeksTurns_40] at hm
        refine lv_i2l hx hb dX0_seeksTurns_40 rfl ?_
        refine lv_topl (fun v1 ev1 => ?_)
        have hm := nmK hm ev1
        refine lv_lstore (lv' := [(4, .long v1), (0, .ref x0), (1, .ref x1), (2, .int x2), (3, .int x3)]) hx hb dX0_seeksTurns_41 hl (by decide) rfl (fun ls hl => ?_)
        refine lv_aload_n hx hb dX0_seeksTurns_43 rfl (lv_at hl 1 rfl) ?_
        refine lv_aload_n hx hb dX0_seeksTurns_44 rfl (lv_at hl 2 rfl) ?_
        by_cases c2 : isC h x1 6 = true
        · have hm := ifT hm c2
          obtain ⟨a4, h3, ea4, hm⟩ := bd2E hm
          have lh3 := mo_X6_rows ea4
          have ph3 : h.1 ≤ h3.1 := lh3.1
          have qh3 : h.2.1 ≤ h3.2.1 := lh3.2.1
          have hmo := mo_X0_seeksTurns_48 (mo_X0_seeksTurns_12 n12)  h3 x0 x1 x2 x3 v1 x0 a4 _ hm
          have sh3 : h3.1 ≤ u9.1 := hmo.1
          have th3 : h3.2.1 ≤ u9.2.1 := hmo.2.1
          refine cg_callr hw lh3 (va_runV (As := []) (rest := [.ref x0]) ⟨hx, hb, hml, hown, hts⟩ (w_X6_rows l ea4) (cw_X6_rows hts q904 ⟨Nat.le_of_ble_eq_true rfl, Nat.le_of_ble_eq_true rfl⟩) (cg_preV C hw c2 rfl _) rfl rfl hl.1 rfl (lv_room (Nat.le_of_ble_eq_true rfl)) dX0_seeksTurns_45 ⟨show cc + (h3.1 - h.1) ≤ u9.1 - u.1 by omega, show ss + (h3.2.1 - h.2.1) ≤ u9.2.1 - u.2.1 by omega⟩) (fun H locs hw => ?_)
          exact hB48 h3 x0 x1 x2 x3 v1 x0 a4 _ _ _ _ _ hm hw (by omega) (by omega) (lv_sub hl [1, 2, 3, 4, 0] rfl)
        · have hm := ifF hm c2
          obtain ⟨g5, hm⟩ := gdE hm
          obtain ⟨a7, h6, ea7, hm⟩ := bd2E hm
          have lh6 := mo_X7_rows ea7
          have ph6 : h.1 ≤ h6.1 := lh6.1
          have qh6 : h.2.1 ≤ h6.2.1 := lh6.2.1
          have hmo := mo_X0_seeksTurns_48 (mo_X0_seeksTurns_12 n12)  h6 x0 x1 x2 x3 v1 x0 a7 _ hm
          have sh6 : h6.1 ≤ u9.1 := hmo.1
          have th6 : h6.2.1 ≤ u9.2.1 := hmo.2.1
          refine cg_callr hw lh6 (va_runU (As := []) (rest := [.ref x0]) ⟨hx, hb, hml, hown, hts⟩ (w_X7_rows l ea7) (va_cwO 0 hts (lwO q904 q907 q905 q908 q909 q144 q910) rfl rfl rfl q940 (by decide +kernel) ⟨Nat.le_of_ble_eq_true rfl, Nat.le_of_ble_eq_true rfl⟩) (cg_preV C hw g5 rfl _) rfl rfl hl.1 rfl (lv_room (Nat.le_of_ble_eq_true rfl)) dX0_seeksTurns_45 ⟨show cc + (h6.1 - h.1) ≤ u9.1 - u.1 by omega, show ss + (h6.2.1 - h.2.1) ≤ u9.2.1 - u.2.1 by omega⟩) (fun H locs hw => ?_)
          exact hB48 h6 x0 x1 x2 x3 v1 x0 a7 _ _ _ _ _ hm hw (by omega) (by omega) (lv_sub hl [1, 2, 3, 4, 0] rfl)
      intro h x0 x1 x2 x3 cc ss H locs ls hm hw hcc hss hl
      have hmo := mo_X0_seeksTurns_12  (n12 + 1) h x0 x1 x2 x3 _ hm
      have sb_ : h.1 ≤ u9.1 := hmo.1
      have tb_ : h.2.1 ≤ u9.2.1 := hmo.2.1
      rw [m_X0_seeksTurns_12] at hm
      refine lv_iload_n hx hb dX0_seeksTurns_12 rfl (lv_at hl 3 rfl) ?_
      refine lv_sipush (v := 256) hx hb dX0_seeksTurns_13 (by decide) ?_
      refine lv_icmp_ge (tgt := 127) hx hb dX0_seeksTurns_16 (by decide) (fun c1 => ?_) (fun c1 => ?_)
      · have hm := ifT hm c1
        exact hB127 h _ _ _ _ _ hm hw (by omega) (by omega) (lv_sub hl [] rfl)
      · have hm := ifF hm c1
        refine lv_aload_n hx hb dX0_seeksTurns_19 rfl (lv_at hl 0 rfl) ?_
        refine lv_iload_n hx hb dX0_seeksTurns_20 rfl (lv_at hl 3 rfl) ?_
        refine lv_bipush (v := 6) hx hb dX0_seeksTurns_21 (by decide) ?_
        refine lv_ishr hx hb dX0_seeksTurns_23 ?_
        refine lv_iload_n hx hb dX0_seeksTurns_24 rfl (lv_at hl 3 rfl) ?_
        refine lv_iconst (v := 4) hx hb dX0_seeksTurns_25 (by decide) ?_
        refine lv_ishr hx hb dX0_seeksTurns_26 ?_
        refine lv_iconst (v := 3) hx hb dX0_seeksTurns_27 (by decide) ?_
        refine lv_iand hx hb dX0_seeksTurns_28 ?_
        refine lv_iload_n hx hb dX0_seeksTurns_29 rfl (lv_at hl 3 rfl) ?_
        refine lv_iconst (v := 2) hx hb dX0_seeksTurns_30 (by decide) ?_
        refine lv_ishr hx hb dX0_seeksTurns_31 ?_
        refine lv_iconst (v := 3) hx hb dX0_seeksTurns_32 (by decide) ?_
        refine lv_iand hx hb dX0_seeksTurns_33 ?_
        refine lv_iload_n hx hb dX0_seeksTurns_34 rfl (lv_at hl 3 rfl) ?_
        refine lv_iconst (v := 3) hx hb dX0_seeksTurns_35 (by decide) ?_
        refine lv_iand hx hb dX0_seeksTurns_36 ?_
        obtain ⟨g2, hm⟩ := gdE hm
        obtain ⟨r4, h3, er4, hm⟩ := bd2E hm
        have lh3 := mo_X0_laysTurn er4
        have ph3 : h.1 ≤ h3.1 := lh3.1
        have qh3 : h.2.1 ≤ h3.2.1 := lh3.2.1
        have hmo := mo_X0_seeksTurns_40 (mo_X0_seeksTurns_12 n12)  h3 x0 x1 x2 x3 r4 _ hm
        have sh3 : h3.1 ≤ u9.1 := hmo.1
        have th3 : h3.2.1 ≤ u9.2.1 := hmo.2.1
        refine cg_calli hw lh3 (va_runV (As := [.int (x3 >>> ((6 : Int32) &&& 31)), .int ((x3 >>> ((4 : Int32) &&& 31)) &&& (3 : Int32)), .int ((x3 >>> ((2 : Int32) &&& 31)) &&& (3 : Int32)), .int (x3 &&& (3 : Int32))]) (rest := []) ⟨hx, hb, hml, hown, hts⟩ (w_X0_laysTurn l er4) (cw_X0_laysTurn hts q1345 ⟨Nat.le_of_ble_eq_true rfl, Nat.le_of_ble_eq_true rfl⟩) (cg_preV C hw g2 rfl _) rfl rfl hl.1 rfl (lv_room (Nat.le_of_ble_eq_true rfl)) dX0_seeksTurns_37 ⟨show cc + (h3.1 - h.1) ≤ u9.1 - u.1 by omega, show ss + (h3.2.1 - h.2.1) ≤ u9.2.1 - u.2.1 by omega⟩) (fun H locs hw => ?_)
        exact hB40 h3 x0 x1 x2 x3 r4 _ _ _ _ _ hm hw (by omega) (by omega) (lv_sub hl [0, 1, 2, 3] rfl)
  rw [m_X0_seeksTurns] at hm
  refine lv_aload_n hx hb dX0_seeksTurns_0 rfl (lv_at hl 0 rfl) ?_
  refine lv_iconst (v := 0) hx hb dX0_seeksTurns_1 (by decide) ?_
  obtain ⟨h1, eh1, hm⟩ := bdE hm
  refine cg_put C hw eh1 rfl in_X0 tyX0 tyX0_ok nmX0 (by decide) q249 rfl rfl rfl dX0_seeksTurns_2 (fun H locs hw => ?_)
  have zh1 := pF_sz eh1
  refine lv_aload_n hx hb dX0_seeksTurns_5 rfl (lv_at hl 0 rfl) ?_
  refine lv_iconst (v := -1) hx hb dX0_seeksTurns_6 (by decide) ?_
  obtain ⟨h2, eh2, hm⟩ := bdE hm
  refine cg_put C hw eh2 rfl in_X0 tyX0 tyX0_ok nmX0 (by decide) q250 rfl rfl rfl dX0_seeksTurns_7 (fun H locs hw => ?_)
  have zh2 := pF_sz eh2
  refine lv_iconst (v := 1) hx hb dX0_seeksTurns_10 (by decide) ?_
  refine lv_istore_n (lv' := [(3, .int (1 : Int32)), (0, .ref x0), (1, .ref x1), (2, .int x2)]) hx hb dX0_seeksTurns_11 rfl hl (by decide) rfl (fun ls hl => ?_)
  exact hB12 f h2 x0 x1 x2 (1 : Int32) _ _ _ _ _ hm hw (by omega) (by omega) (lv_sub hl [1, 2, 3, 0] rfl)
def m_X0_asksTurns_31 (f : Nat) (h : CH) : Option (Int32 × CH) := some ((0 : Int32), h)
theorem mo_X0_asksTurns_31 {f : Nat} : ∀ (h : CH) (r : (Int32 × CH)), m_X0_asksTurns_31 f h = some r → le2 h r.2 := by
  intro h r hm
  rw [m_X0_asksTurns_31] at hm
  cases hm
  exact le2.rf
def m_X0_asksTurns_43 (f : Nat) (h : CH) : Option (Int32 × CH) := some ((1 : Int32), h)
theorem mo_X0_asksTurns_43 {f : Nat} : ∀ (h : CH) (r : (Int32 × CH)), m_X0_asksTurns_43 f h = some r → le2 h r.2 := by
  intro h r hm
  rw [m_X0_asksTurns_43] at hm
  cases hm
  exact le2.rf
def m_X0_asksTurns_39 (f : Nat) (h : CH) (x2 : Int32) (y0 : Nat) (y1 : Nat) : Option (Int32 × CH) := gd (isC h y0 1) <|
    bd (m_X0_seeksTurns f h y0 y1 x2) fun h2 =>
    m_X0_asksTurns_43 f h2
theorem mo_X0_asksTurns_39 {f : Nat} : ∀ (h : CH) (x2 : Int32) (y0 : Nat) (y1 : Nat) (r : (Int32 × CH)), m_X0_asksTurns_39 f h x2 y0 y1 = some r → le2 h r.2 := by
  intro h x2 y0 y1 r hm
  rw [m_X0_asksTurns_39] at hm
  obtain ⟨g1, hm⟩ := gdE hm
  obtain ⟨h2, eh2, hm⟩ := bdE hm
  have lh2 := mo_X0_seeksTurns eh2
  exact (lh2.tr (mo_X0_asksTurns_43  h2 _ hm))
def m_X0_asksTurns_16 (f : Nat) (h : CH) (x0 : Nat) (x1 : Int32) (x2 : Int32) (y0 : Int32) : Option (Int32 × CH) := if ¬ y0 = 0 then
    m_X0_asksTurns_31 f h
    else bd (m_X0_isIn f (Int32.toInt64 x2) (1 : Int64) (999 : Int64)) fun r2 =>
    if ¬ r2 = 0 then
    gd (isC h x0 1) <|
    bd2 (m_X0_at f h x0 x1) fun a6 h5 =>
    m_X0_asksTurns_39 f h5 x2 x0 a6
    else m_X0_asksTurns_31 f h
theorem mo_X0_asksTurns_16 {f : Nat} : ∀ (h : CH) (x0 : Nat) (x1 : Int32) (x2 : Int32) (y0 : Int32) (r : (Int32 × CH)), m_X0_asksTurns_16 f h x0 x1 x2 y0 = some r → le2 h r.2 := by
  intro h x0 x1 x2 y0 r hm
  rw [m_X0_asksTurns_16] at hm
  by_cases c1 : ¬ y0 = 0
  · have hm := ifT hm c1
    exact (mo_X0_asksTurns_31  h _ hm)
  · have hm := ifF hm c1
    obtain ⟨r2, er2, hm⟩ := bdE hm
    by_cases c3 : ¬ r2 = 0
    · have hm := ifT hm c3
      obtain ⟨g4, hm⟩ := gdE hm
      obtain ⟨a6, h5, ea6, hm⟩ := bd2E hm
      have lh5 := mo_X0_at ea6
      exact (lh5.tr (mo_X0_asksTurns_39  h5 x2 x0 a6 _ hm))
    · have hm := ifF hm c3
      exact (mo_X0_asksTurns_31  h _ hm)
def m_X0_asksTurns_13 (f : Nat) (h : CH) (x0 : Nat) (x1 : Int32) (x2 : Int32) (y0 : Nat) : Option (Int32 × CH) := if isC h y0 6 = true then
    bd2 (m_X6_isTurned f h y0) fun r3 h2 =>
    m_X0_asksTurns_16 f h2 x0 x1 x2 r3
    else gd (isC h y0 7) <|
    bd2 (m_X7_isTurned f h y0) fun r6 h5 =>
    m_X0_asksTurns_16 f h5 x0 x1 x2 r6
theorem mo_X0_asksTurns_13 {f : Nat} : ∀ (h : CH) (x0 : Nat) (x1 : Int32) (x2 : Int32) (y0 : Nat) (r : (Int32 × CH)), m_X0_asksTurns_13 f h x0 x1 x2 y0 = some r → le2 h r.2 := by
  intro h x0 x1 x2 y0 r hm
  rw [m_X0_asksTurns_13] at hm
  by_cases c1 : isC h y0 6 = true
  · have hm := ifT hm c1
    obtain ⟨r3, h2, er3, hm⟩ := bd2E hm
    have lh2 := mo_X6_isTurned er3
    exact (lh2.tr (mo_X0_asksTurns_16  h2 x0 x1 x2 r3 _ hm))
  · have hm := ifF hm c1
    obtain ⟨g4, hm⟩ := gdE hm
    obtain ⟨r6, h5, er6, hm⟩ := bd2E hm
    have lh5 := mo_X7_isTurned er6
    exact (lh5.tr (mo_X0_asksTurns_16  h5 x0 x1 x2 r6 _ hm))
def m_X0_asksTurns_5 (f : Nat) (h : CH) (x0 : Nat) (x1 : Int32) (x2 : Int32) (y0 : Int32) : Option (Int32 × CH) := if y0 = 0 then
    m_X0_asksTurns_31 f h
    else gd (isC h x0 1) <|
    bd2 (m_X0_at f h x0 x1) fun a4 h3 =>
    m_X0_asksTurns_13 f h3 x0 x1 x2 a4
theorem mo_X0_asksTurns_5 {f : Nat} : ∀ (h : CH) (x0 : Nat) (x1 : Int32) (x2 : Int32) (y0 : Int32) (r : (Int32 × CH)), m_X0_asksTurns_5 f h x0 x1 x2 y0 = some r → le2 h r.2 := by
  intro h x0 x1 x2 y0 r hm
  rw [m_X0_asksTurns_5] at hm
  by_cases c1 : y0 = 0
  · have hm := ifT hm c1
    exact (mo_X0_asksTurns_31  h _ hm)
  · have hm := ifF hm c1
    obtain ⟨g2, hm⟩ := gdE hm
    obtain ⟨a4, h3, ea4, hm⟩ := bd2E hm
    have lh3 := mo_X0_at ea4
    exact (lh3.tr (mo_X0_asksTurns_13  h3 x0 x1 x2 a4 _ hm))
def m_X0_asksTurns (f : Nat) (u : CH) (x0 : Nat) (x1 : Int32) (x2 : Int32) : Option (Int32 × CH) := gd (isC u x0 1) <|
    bd2 (m_X0_isLattice f u x0 x1) fun r3 h2 =>
    m_X0_asksTurns_5 f h2 x0 x1 x2 r3
theorem mo_X0_asksTurns {f : Nat} {u : CH} {x0 : Nat} {x1 : Int32} {x2 : Int32} {r0 : Int32} {u9 : CH} (hm : m_X0_asksTurns f u x0 x1 x2 = some (r0, u9)) : le2 u u9 := by
  rw [m_X0_asksTurns] at hm
  obtain ⟨g1, hm⟩ := gdE hm
  obtain ⟨r3, h2, er3, hm⟩ := bd2E hm
  have lh2 := mo_X0_isLattice er3
  exact (lh2.tr (mo_X0_asksTurns_5  h2 x0 x1 x2 r3 _ hm))
abbrev rm_X0_asksTurns (mc ms : Nat) : Room := { frames := 106, cells := mc, slots := ms, locals := 4152 }
theorem cw_X0_asksTurns {R : Room} {s : State} {args : Array Value} {own : String} {idx mc ms : Nat} (hts : ∀ w ∈ lw_all, w.before args s = true) (hl : Cond.methodLink own idx yX0_asksTurns ∈ lw_all) (hR : 106 + 1 ≤ R.frames ∧ 8 + (3 + 11) + 4152 ≤ R.locals) : CallW R s args own RX0 idx yX0_asksTurns cX0_asksTurns 3 (Option.some Jvm.ClassFile.FieldType.boolean) (ws_ yX0_asksTurns cX0_asksTurns 3 (Option.some Jvm.ClassFile.FieldType.boolean)) (rm_X0_asksTurns mc ms) mc ms 2 := cwV 2 hts (lw_V hl q1339 qs44 q119 q1340) rfl rfl rfl (by decide +kernel) hR
set_option maxHeartbeats 4000000 in
set_option maxRecDepth 100000 in
theorem w_X0_asksTurns (l : Launch) {D : va_G} {dA : Nat → ClassId} {A : Nat → Prop} {f : Nat} {u u9 : CH} {r0 : Int32} {x0 : Nat} {x1 : Int32} {x2 : Int32} (hm : m_X0_asksTurns f u x0 x1 x2 = some (r0, u9)) : Met l yX0_asksTurns (ws_ yX0_asksTurns cX0_asksTurns 3 (Option.some Jvm.ClassFile.FieldType.boolean)) (rm_X0_asksTurns (u9.1 - u.1) (u9.2.1 - u.2.1)) (va_Pc [.ref x0, .int x1, .int x2] (CPre D dA A u)) (va_Qi (fun r u => r = r0 ∧ u = u9) (CPost D dA A) A) (u9.1 - u.1) (u9.2.1 - u.2.1) A := by
  refine Met.ofW (cc := cX0_asksTurns) (maxL := 3) (ret := (Option.some Jvm.ClassFile.FieldType.boolean)) (by decide) rfl ?_
  intro p e s m args below meth c s₁ B hml hv
  have hx := B.exec
  have hb := B.bytes
  have hr := B.returns
  have hts := atoms_spec (ws := (ws_ yX0_asksTurns cX0_asksTurns 3 (Option.some Jvm.ClassFile.FieldType.boolean))) B.pre
  have hts : ∀ w ∈ lw_all, w.before args s = true := fun w h => hts w (List.mem_cons_of_mem _ h)
  have hown : s.vm.findClass RX0 = some m.cls := findClass_of_methodNamed B.named
  have hlocks := B.notSynchronized
  obtain ⟨hav, hv⟩ := hv
  have C : CX p s m args c cX0_asksTurns RX0 D dA := ⟨hx, hb, hown, hts, hv.2⟩
  have hw : CW D dA A s u s.heap [] := hv.1
  generalize hQ : MQ below (va_Qi (fun r u => r = r0 ∧ u = u9) (CPost D dA A) A) args s (u9.1 - u.1) (u9.2.1 - u.2.1) A = QQ
  have hent := lg_entry_eq m [.ref x0, .int x1, .int x2] 3
  rw [← hav] at hent
  rw [hent]
  have hl := lv_entry ([.ref x0, .int x1, .int x2]) (n := 3) (Nat.le_of_ble_eq_true rfl)
  generalize (lg_sl ([.ref x0, .int x1, .int x2]) ++ List.replicate (3 - (lg_sl ([.ref x0, .int x1, .int x2])).length) Slot.unset).toArray = ls at hl ⊢
  have hl : lv_has ls 3 [(0, .ref x0), (1, .int x1), (2, .int x2)] := hl
  obtain ⟨cc, ecc⟩ : ∃ z : Nat, z = 0 := ⟨0, rfl⟩
  obtain ⟨ss, ess⟩ : ∃ z : Nat, z = 0 := ⟨0, rfl⟩
  have hcc : cc + u.1 = u.1 := by omega
  have hss : ss + u.2.1 = u.2.1 := by omega
  suffices hgo : W p l e (rm_X0_asksTurns (u9.1 - u.1) (u9.2.1 - u.2.1)) s m args below meth c s.heap [] cc ss QQ (F0 m 0 ls []) by rw [ecc, ess] at hgo; exact hgo
  have ⟨pu, qu, _, _⟩ := mo_X0_asksTurns hm
  have hB31 : ∀ (h : CH) (cc ss : Nat) (H : Heap) (locs : List Loc) (ls : Array Slot), m_X0_asksTurns_31 f h = some (r0, u9) → CW D dA A s h H locs → cc + u.1 = h.1 → ss + u.2.1 = h.2.1 → lv_has ls 3 [] → W p l e (rm_X0_asksTurns (u9.1 - u.1) (u9.2.1 - u.2.1)) s m args below meth c H locs cc ss QQ (F0 m 31 ls []) := by
    intro h cc ss H locs ls hm hw hcc hss hl
    have hmo := mo_X0_asksTurns_31  h _ hm
    have sb_ : h.1 ≤ u9.1 := hmo.1
    have tb_ : h.2.1 ≤ u9.2.1 := hmo.2.1
    rw [m_X0_asksTurns_31] at hm
    refine lv_iconst (v := 0) hx hb dX0_asksTurns_31 (by decide) ?_
    obtain ⟨er, eh⟩ := retE hm
    have ec : cc = u9.1 - u.1 := by rw [← eh]; omega
    have es : ss = u9.2.1 - u.2.1 := by rw [← eh]; omega
    rw [ec, es, ← hQ]
    exact W.zret (v := (0 : Int32)) hx hb hr rfl (fun t ht hW => ⟨⟨(0 : Int32), h, rfl, ⟨er, eh⟩, ⟨by rw [ht]; exact hw.1, by rw [ht]; exact hw.2.1⟩⟩, hw.2.2.1.F ht⟩) hw.2.2.1.2.2 dX0_asksTurns_32
  have hB43 : ∀ (h : CH) (cc ss : Nat) (H : Heap) (locs : List Loc) (ls : Array Slot), m_X0_asksTurns_43 f h = some (r0, u9) → CW D dA A s h H locs → cc + u.1 = h.1 → ss + u.2.1 = h.2.1 → lv_has ls 3 [] → W p l e (rm_X0_asksTurns (u9.1 - u.1) (u9.2.1 - u.2.1)) s m args below meth c H locs cc ss QQ (F0 m 43 ls []) := by
    intro h cc ss H locs ls hm hw hcc hss hl
    have hmo := mo_X0_asksTurns_43  h _ hm
    have sb_ : h.1 ≤ u9.1 := hmo.1
    have tb_ : h.2.1 ≤ u9.2.1 := hmo.2.1
    rw [m_X0_asksTurns_43] at hm
    refine lv_iconst (v := 1) hx hb dX0_asksTurns_43 (by decide) ?_
    obtain ⟨er, eh⟩ := retE hm
    have ec : cc = u9.1 - u.1 := by rw [← eh]; omega
    have es : ss = u9.2.1 - u.2.1 := by rw [← eh]; omega
    rw [ec, es, ← hQ]
    exact W.zret (v := (1 : Int32)) hx hb hr rfl (fun t ht hW => ⟨⟨(1 : Int32), h, rfl, ⟨er, eh⟩, ⟨by rw [ht]; exact hw.1, by rw [ht]; exact hw.2.1⟩⟩, hw.2.2.1.F ht⟩) hw.2.2.1.2.2 dX0_asksTurns_44
  have hB39 : ∀ (h : CH) (x2 : Int32) (y0 : Nat) (y1 : Nat) (cc ss : Nat) (H : Heap) (locs : List Loc) (ls : Array Slot), m_X0_asksTurns_39 f h x2 y0 y1 = some (r0, u9) → CW D dA A s h H locs → cc + u.1 = h.1 → ss + u.2.1 = h.2.1 → lv_has ls 3 [(2, .int x2)] → W p l e (rm_X0_asksTurns (u9.1 - u.1) (u9.2.1 - u.2.1)) s m args below meth c H locs cc ss QQ (F0 m 39 ls [.ref y1, .ref y0]) := by
    intro h x2 y0 y1 cc ss H locs ls hm hw hcc hss hl
    have hmo := mo_X0_asksTurns_39  h x2 y0 y1 _ hm
    have sb_ : h.1 ≤ u9.1 := hmo.1
    have tb_ : h.2.1 ≤ u9.2.1 := hmo.2.1
    rw [m_X0_asksTurns_39] at hm
    refine lv_iload_n hx hb dX0_asksTurns_39 rfl (lv_at hl 0 rfl) ?_
    obtain ⟨g1, hm⟩ := gdE hm
    obtain ⟨h2, eh2, hm⟩ := bdE hm
    have lh2 := mo_X0_seeksTurns eh2
    have ph2 : h.1 ≤ h2.1 := lh2.1
    have qh2 : h.2.1 ≤ h2.2.1 := lh2.2.1
    have hmo := mo_X0_asksTurns_43   h2 _ hm
    have sh2 : h2.1 ≤ u9.1 := hmo.1
    have th2 : h2.2.1 ≤ u9.2.1 := hmo.2.1
    refine cg_callv hw lh2 (va_runV (As := [.ref y1, .int x2]) (rest := []) ⟨hx, hb, hml, hown, hts⟩ (w_X0_seeksTurns l eh2) (cw_X0_seeksTurns hts q1341 ⟨Nat.le_of_ble_eq_true rfl, Nat.le_of_ble_eq_true rfl⟩) (cg_preV C hw g1 rfl _) rfl rfl hl.1 rfl (lv_room (Nat.le_of_ble_eq_true rfl)) dX0_asksTurns_40 ⟨show cc + (h2.1 - h.1) ≤ u9.1 - u.1 by omega, show ss + (h2.2.1 - h.2.1) ≤ u9.2.1 - u.2.1 by omega⟩) (fun H locs hw => ?_)
    exact hB43 h2 _ _ _ _ _ hm hw (by omega) (by omega) (lv_sub hl [] rfl)
  have hB16 : ∀ (h : CH) (x0 : Nat) (x1 : Int32) (x2 : Int32) (y0 : Int32) (cc ss : Nat) (H : Heap) (locs : List Loc) (ls : Array Slot), m_X0_asksTurns_16 f h x0 x1 x2 y0 = some (r0, u9) → CW D dA A s h H locs → cc + u.1 = h.1 → ss + u.2.1 = h.2.1 → lv_has ls 3 [(0, .ref x0), (1, .int x1), (2, .int x2)] → W p l e (rm_X0_asksTurns (u9.1 - u.1) (u9.2.1 - u.2.1)) s m args below meth c H locs cc ss QQ (F0 m 16 ls [.int y0]) := by
    intro h x0 x1 x2 y0 cc ss H locs ls hm hw hcc hss hl
    have hmo := mo_X0_asksTurns_16  h x0 x1 x2 y0 _ hm
    have sb_ : h.1 ≤ u9.1 := hmo.1
    have tb_ : h.2.1 ≤ u9.2.1 := hmo.2.1
    rw [m_X0_asksTurns_16] at hm
    refine lv_if_ne (tgt := 31) hx hb dX0_asksTurns_16 (by decide) (fun c1 => ?_) (fun c1 => ?_)
    · have hm := ifT hm c1
      exact hB31 h _ _ _ _ _ hm hw (by omega) (by omega) (lv_sub hl [] rfl)
    · have hm := ifT' hm c1
      refine lv_iload_n hx hb dX0_asksTurns_19 rfl (lv_at hl 2 rfl) ?_
      refine lv_i2l hx hb dX0_asksTurns_20 rfl ?_
      refine lv_lconst (v := 1) hx hb dX0_asksTurns_21 (by decide) ?_
      refine lv_ldc2 hx hb hown (hts _ q1083) dX0_asksTurns_22 ?_
      obtain ⟨r2, er2, hm⟩ := bdE hm
      refine sci (va_runS (As := [.long (Int32.toInt64 x2), .long (1 : Int64), .long (999 : Int64)]) (rest := []) ⟨hx, hb, hml, hown, hts⟩ (w_X0_isIn l er2) (cw_X0_isIn hts q297 ⟨Nat.le_of_ble_eq_true rfl, Nat.le_of_ble_eq_true rfl⟩) (pre_s _) rfl rfl hl.1 rfl (lv_room (Nat.le_of_ble_eq_true rfl)) dX0_asksTurns_25 ⟨show cc + 0 ≤ u9.1 - u.1 by omega, show ss + 0 ≤ u9.2.1 - u.2.1 by omega⟩) ?_
      refine lv_if_ne (tgt := 33) hx hb dX0_asksTurns_28 (by decide) (fun c3 => ?_) (fun c3 => ?_)
      · have hm := ifT hm c3
        refine lv_aload_n hx hb dX0_asksTurns_33 rfl (lv_at hl 0 rfl) ?_
        refine lv_aload_n hx hb dX0_asksTurns_34 rfl (lv_at hl 0 rfl) ?_
        refine lv_iload_n hx hb dX0_asksTurns_35 rfl (lv_at hl 1 rfl) ?_
        obtain ⟨g4, hm⟩ := gdE hm
        obtain ⟨a6, h5, ea6, hm⟩ := bd2E hm
        have lh5 := mo_X0_at ea6
        have ph5 : h.1 ≤ h5.1 := lh5.1
        have qh5 : h.2.1 ≤ h5.2.1 := lh5.2.1
        have hmo := mo_X0_asksTurns_39   h5 x2 x0 a6 _ hm
        have sh5 : h5.1 ≤ u9.1 := hmo.1
        have th5 : h5.2.1 ≤ u9.2.1 := hmo.2.1
        refine cg_callr hw lh5 (va_runV (As := [.int x1]) (rest := [.ref x0]) ⟨hx, hb, hml, hown, hts⟩ (w_X0_at l ea6) (cw_X0_at hts q900 ⟨Nat.le_of_ble_eq_true rfl, Nat.le_of_ble_eq_true rfl⟩) (cg_preV C hw g4 rfl _) rfl rfl hl.1 rfl (lv_room (Nat.le_of_ble_eq_true rfl)) dX0_asksTurns_36 ⟨show cc + (h5.1 - h.1) ≤ u9.1 - u.1 by omega, show ss + (h5.2.1 - h.2.1) ≤ u9.2.1 - u.2.1 by omega⟩) (fun H locs hw => ?_)
        exact hB39 h5 x2 x0 a6 _ _ _ _ _ hm hw (by omega) (by omega) (lv_sub hl [2] rfl)
      · have hm := ifT' hm c3
        exact hB31 h _ _ _ _ _ hm hw (by omega) (by omega) (lv_sub hl [] rfl)
  have hB13 : ∀ (h : CH) (x0 : Nat) (x1 : Int32) (x2 : Int32) (y0 : Nat) (cc ss : Nat) (H : Heap) (locs : List Loc) (ls : Array Slot), m_X0_asksTurns_13 f h x0 x1 x2 y0 = some (r0, u9) → CW D dA A s h H locs → cc + u.1 = h.1 → ss + u.2.1 = h.2.1 → lv_has ls 3 [(0, .ref x0), (1, .int x1), (2, .int x2)] → W p l e (rm_X0_asksTurns (u9.1 - u.1) (u9.2.1 - u.2.1)) s m args below meth c H locs cc ss QQ (F0 m 13 ls [.ref y0]) := by
    intro h x0 x1 x2 y0 cc ss H locs ls hm hw hcc hss hl
    have hmo := mo_X0_asksTurns_13  h x0 x1 x2 y0 _ hm
    have sb_ : h.1 ≤ u9.1 := hmo.1
    have tb_ : h.2.1 ≤ u9.2.1 := hmo.2.1
    rw [m_X0_asksTurns_13] at hm
    by_cases c1 : isC h y0 6 = true
    · have hm := ifT hm c1
      obtain ⟨r3, h2, er3, hm⟩ := bd2E hm
      have lh2 := mo_X6_isTurned er3
      have ph2 : h.1 ≤ h2.1 := lh2.1
      have qh2 : h.2.1 ≤ h2.2.1 := lh2.2.1
      have hmo := mo_X0_asksTurns_16   h2 x0 x1 x2 r3 _ hm
      have sh2 : h2.1 ≤ u9.1 := hmo.1
      have th2 : h2.2.1 ≤ u9.2.1 := hmo.2.1
      refine cg_calli hw lh2 (va_runV (As := []) (rest := []) ⟨hx, hb, hml, hown, hts⟩ (w_X6_isTurned l er3) (cw_X6_isTurned hts q883 ⟨Nat.le_of_ble_eq_true rfl, Nat.le_of_ble_eq_true rfl⟩) (cg_preV C hw c1 rfl _) rfl rfl hl.1 rfl (lv_room (Nat.le_of_ble_eq_true rfl)) dX0_asksTurns_13 ⟨show cc + (h2.1 - h.1) ≤ u9.1 - u.1 by omega, show ss + (h2.2.1 - h.2.1) ≤ u9.2.1 - u.2.1 by omega⟩) (fun H locs hw => ?_)
      exact hB16 h2 x0 x1 x2 r3 _ _ _ _ _ hm hw (by omega) (by omega) (lv_sub hl [0, 1, 2] rfl)
    · have hm := ifF hm c1
      obtain ⟨g4, hm⟩ := gdE hm
      obtain ⟨r6, h5, er6, hm⟩ := bd2E hm
      have lh5 := mo_X7_isTurned er6
      have ph5 : h.1 ≤ h5.1 := lh5.1
      have qh5 : h.2.1 ≤ h5.2.1 := lh5.2.1
      have hmo := mo_X0_asksTurns_16   h5 x0 x1 x2 r6 _ hm
      have sh5 : h5.1 ≤ u9.1 := hmo.1
      have th5 : h5.2.1 ≤ u9.2.1 := hmo.2.1
      refine cg_calli hw lh5 (va_runU (As := []) (rest := []) ⟨hx, hb, hml, hown, hts⟩ (w_X7_isTurned l er6) (va_cwO 0 hts (lwO q883 q737 q735 q738 q739 q144 q740) rfl rfl rfl q741 (by decide +kernel) ⟨Nat.le_of_ble_eq_true rfl, Nat.le_of_ble_eq_true rfl⟩) (cg_preV C hw g4 rfl _) rfl rfl hl.1 rfl (lv_room (Nat.le_of_ble_eq_true rfl)) dX0_asksTurns_13 ⟨show cc + (h5.1 - h.1) ≤ u9.1 - u.1 by omega, show ss + (h5.2.1 - h.2.1) ≤ u9.2.1 - u.2.1 by omega⟩) (fun H locs hw => ?_)
      exact hB16 h5 x0 x1 x2 r6 _ _ _ _ _ hm hw (by omega) (by omega) (lv_sub hl [0, 1, 2] rfl)
  have hB5 : ∀ (h : CH) (x0 : Nat) (x1 : Int32) (x2 : Int32) (y0 : Int32) (cc ss : Nat) (H : Heap) (locs : List Loc) (ls : Array Slot), m_X0_asksTurns_5 f h x0 x1 x2 y0 = some (r0, u9) → CW D dA A s h H locs → cc + u.1 = h.1 → ss + u.2.1 = h.2.1 → lv_has ls 3 [(0, .ref x0), (1, .int x1), (2, .int x2)] → W p l e (rm_X0_asksTurns (u9.1 - u.1) (u9.2.1 - u.2.1)) s m args below meth c H locs cc ss QQ (F0 m 5 ls [.int y0]) := by
    intro h x0 x1 x2 y0 cc ss H locs ls hm hw hcc hss hl
    have hmo := mo_X0_asksTurns_5  h x0 x1 x2 y0 _ hm
    have sb_ : h.1 ≤ u9.1 := hmo.1
    have tb_ : h.2.1 ≤ u9.2.1 := hmo.2.1
    rw [m_X0_asksTurns_5] at hm
    refine lv_if_eq (tgt := 31) hx hb dX0_asksTurns_5 (by decide) (fun c1 => ?_) (fun c1 => ?_)
    · have hm := ifT hm c1
      exact hB31 h _ _ _ _ _ hm hw (by omega) (by omega) (lv_sub hl [] rfl)
    · have hm := ifF hm c1
      refine lv_aload_n hx hb dX0_asksTurns_8 rfl (lv_at hl 0 rfl) ?_
      refine lv_iload_n hx hb dX0_asksTurns_9 rfl (lv_at hl 1 rfl) ?_
      obtain ⟨g2, hm⟩ := gdE hm
      obtain ⟨a4, h3, ea4, hm⟩ := bd2E hm
      have lh3 := mo_X0_at ea4
      have ph3 : h.1 ≤ h3.1 := lh3.1
      have qh3 : h.2.1 ≤ h3.2.1 := lh3.2.1
      have hmo := mo_X0_asksTurns_13   h3 x0 x1 x2 a4 _ hm
      have sh3 : h3.1 ≤ u9.1 := hmo.1
      have th3 : h3.2.1 ≤ u9.2.1 := hmo.2.1
      refine cg_callr hw lh3 (va_runV (As := [.int x1]) (rest := []) ⟨hx, hb, hml, hown, hts⟩ (w_X0_at l ea4) (cw_X0_at hts q900 ⟨Nat.le_of_ble_eq_true rfl, Nat.le_of_ble_eq_true rfl⟩) (cg_preV C hw g2 rfl _) rfl rfl hl.1 rfl (lv_room (Nat.le_of_ble_eq_true rfl)) dX0_asksTurns_10 ⟨show cc + (h3.1 - h.1) ≤ u9.1 - u.1 by omega, show ss + (h3.2.1 - h.2.1) ≤ u9.2.1 - u.2.1 by omega⟩) (fun H locs hw => ?_)
      exact hB13 h3 x0 x1 x2 a4 _ _ _ _ _ hm hw (by omega) (by omega) (lv_sub hl [0, 1, 2] rfl)
  rw [m_X0_asksTurns] at hm
  refine lv_aload_n hx hb dX0_asksTurns_0 rfl (lv_at hl 0 rfl) ?_
  refine lv_iload_n hx hb dX0_asksTurns_1 rfl (lv_at hl 1 rfl) ?_
  obtain ⟨g1, hm⟩ := gdE hm
  obtain ⟨r3, h2, er3, hm⟩ := bd2E hm
  have lh2 := mo_X0_isLattice er3
  have ph2 : u.1 ≤ h2.1 := lh2.1
  have qh2 : u.2.1 ≤ h2.2.1 := lh2.2.1
  have hmo := mo_X0_asksTurns_5   h2 x0 x1 x2 r3 _ hm
  have sh2 : h2.1 ≤ u9.1 := hmo.1
  have th2 : h2.2.1 ≤ u9.2.1 := hmo.2.1
  refine cg_calli hw lh2 (va_runV (As := [.int x1]) (rest := []) ⟨hx, hb, hml, hown, hts⟩ (w_X0_isLattice l er3) (cw_X0_isLattice hts q892 ⟨Nat.le_of_ble_eq_true rfl, Nat.le_of_ble_eq_true rfl⟩) (cg_preV C hw g1 rfl _) rfl rfl hl.1 rfl (lv_room (Nat.le_of_ble_eq_true rfl)) dX0_asksTurns_2 ⟨show cc + (h2.1 - u.1) ≤ u9.1 - u.1 by omega, show ss + (h2.2.1 - u.2.1) ≤ u9.2.1 - u.2.1 by omega⟩) (fun H locs hw => ?_)
  exact hB5 h2 x0 x1 x2 r3 _ _ _ _ _ hm hw (by omega) (by omega) (lv_sub hl [0, 1, 2] rfl)
def m_X0_turned_18 (f : Nat) (h : CH) (y0 : Int32) : Option (Int32 × CH) := some (y0, h)
theorem mo_X0_turned_18 {f : Nat} : ∀ (h : CH) (y0 : Int32) (r : (Int32 × CH)), m_X0_turned_18 f h y0 = some r → le2 h r.2 := by
  intro h y0 r hm
  rw [m_X0_turned_18] at hm
  cases hm
  exact le2.rf
def m_X0_turned_6 (f : Nat) (h : CH) (x0 : Nat) (y0 : Int32) : Option (Int32 × CH) := if y0 = 0 then
    m_X0_turned_18 f h (-2 : Int32)
    else bd (oI h 1 10 x0) fun v2 =>
    m_X0_turned_18 f h v2
theorem mo_X0_turned_6 {f : Nat} : ∀ (h : CH) (x0 : Nat) (y0 : Int32) (r : (Int32 × CH)), m_X0_turned_6 f h x0 y0 = some r → le2 h r.2 := by
  intro h x0 y0 r hm
  rw [m_X0_turned_6] at hm
  by_cases c1 : y0 = 0
  · have hm := ifT hm c1
    exact (mo_X0_turned_18  h (-2 : Int32) _ hm)
  · have hm := ifF hm c1
    obtain ⟨v2, ev2, hm⟩ := bdE hm
    exact (mo_X0_turned_18  h v2 _ hm)
def m_X0_turned (f : Nat) (u : CH) (x0 : Nat) (x1 : Int32) (x2 : Int32) : Option (Int32 × CH) := gd (isC u x0 1) <|
    bd2 (m_X0_asksTurns f u x0 x1 x2) fun r3 h2 =>
    m_X0_turned_6 f h2 x0 r3
theorem mo_X0_turned {f : Nat} {u : CH} {x0 : Nat} {x1 : Int32} {x2 : Int32} {r0 : Int32} {u9 : CH} (hm : m_X0_turned f u x0 x1 x2 = some (r0, u9)) : le2 u u9 := by
  rw [m_X0_turned] at hm
  obtain ⟨g1, hm⟩ := gdE hm
  obtain ⟨r3, h2, er3, hm⟩ := bd2E hm
  have lh2 := mo_X0_asksTurns er3
  exact (lh2.tr (mo_X0_turned_6  h2 x0 r3 _ hm))
abbrev rm_X0_turned (mc ms : Nat) : Room := { frames := 107, cells := mc, slots := ms, locals := 4174 }
theorem cw_X0_turned {R : Room} {s : State} {args : Array Value} {own : String} {idx mc ms : Nat} (hts : ∀ w ∈ lw_all, w.before args s = true) (hl : Cond.methodLink own idx yX0_turned ∈ lw_all) (hR : 107 + 1 ≤ R.frames ∧ 8 + (3 + 11) + 4174 ≤ R.locals) : CallW R s args own RX0 idx yX0_turned cX0_turned 3 (Option.some Jvm.ClassFile.FieldType.int) (ws_ yX0_turned cX0_turned 3 (Option.some Jvm.ClassFile.FieldType.int)) (rm_X0_turned mc ms) mc ms 2 := cwV 2 hts (lw_V hl q1334 q1335 q119 q1336) rfl rfl rfl (by decide +kernel) hR
set_option maxHeartbeats 4000000 in
set_option maxRecDepth 100000 in
theorem w_X0_turned (l : Launch) {D : va_G} {dA : Nat → ClassId} {A : Nat → Prop} {f : Nat} {u u9 : CH} {r0 : Int32} {x0 : Nat} {x1 : Int32} {x2 : Int32} (hm : m_X0_turned f u x0 x1 x2 = some (r0, u9)) : Met l yX0_turned (ws_ yX0_turned cX0_turned 3 (Option.some Jvm.ClassFile.FieldType.int)) (rm_X0_turned (u9.1 - u.1) (u9.2.1 - u.2.1)) (va_Pc [.ref x0, .int x1, .int x2] (CPre D dA A u)) (va_Qi (fun r u => r = r0 ∧ u = u9) (CPost D dA A) A) (u9.1 - u.1) (u9.2.1 - u.2.1) A := by
  refine Met.ofW (cc := cX0_turned) (maxL := 3) (ret := (Option.some Jvm.ClassFile.FieldType.int)) (by decide) rfl ?_
  intro p e s m args below meth c s₁ B hml hv
  have hx := B.exec
  have hb := B.bytes
  have hr := B.returns
  have hts := atoms_spec (ws := (ws_ yX0_turned cX0_turned 3 (Option.some Jvm.ClassFile.FieldType.int))) B.pre
  have hts : ∀ w ∈ lw_all, w.before args s = true := fun w h => hts w (List.mem_cons_of_mem _ h)
  have hown : s.vm.findClass RX0 = some m.cls := findClass_of_methodNamed B.named
  have hlocks := B.notSynchronized
  obtain ⟨hav, hv⟩ := hv
  have C : CX p s m args c cX0_turned RX0 D dA := ⟨hx, hb, hown, hts, hv.2⟩
  have hw : CW D dA A s u s.heap [] := hv.1
  generalize hQ : MQ below (va_Qi (fun r u => r = r0 ∧ u = u9) (CPost D dA A) A) args s (u9.1 - u.1) (u9.2.1 - u.2.1) A = QQ
  have hent := lg_entry_eq m [.ref x0, .int x1, .int x2] 3
  rw [← hav] at hent
  rw [hent]
  have hl := lv_entry ([.ref x0, .int x1, .int x2]) (n := 3) (Nat.le_of_ble_eq_true rfl)
  generalize (lg_sl ([.ref x0, .int x1, .int x2]) ++ List.replicate (3 - (lg_sl ([.ref x0, .int x1, .int x2])).length) Slot.unset).toArray = ls at hl ⊢
  have hl : lv_has ls 3 [(0, .ref x0), (1, .int x1), (2, .int x2)] := hl
  obtain ⟨cc, ecc⟩ : ∃ z : Nat, z = 0 := ⟨0, rfl⟩
  obtain ⟨ss, ess⟩ : ∃ z : Nat, z = 0 := ⟨0, rfl⟩
  have hcc : cc + u.1 = u.1 := by omega
  have hss : ss + u.2.1 = u.2.1 := by omega
  suffices hgo : W p l e (rm_X0_turned (u9.1 - u.1) (u9.2.1 - u.2.1)) s m args below meth c s.heap [] cc ss QQ (F0 m 0 ls []) by rw [ecc, ess] at hgo; exact hgo
  have ⟨pu, qu, _, _⟩ := mo_X0_turned hm
  have hB18 : ∀ (h : CH) (y0 : Int32) (cc ss : Nat) (H : Heap) (locs : List Loc) (ls : Array Slot), m_X0_turned_18 f h y0 = some (r0, u9) → CW D dA A s h H locs → cc + u.1 = h.1 → ss + u.2.1 = h.2.1 → lv_has ls 3 [] → W p l e (rm_X0_turned (u9.1 - u.1) (u9.2.1 - u.2.1)) s m args below meth c H locs cc ss QQ (F0 m 18 ls [.int y0]) := by
    intro h y0 cc ss H locs ls hm hw hcc hss hl
    have hmo := mo_X0_turned_18  h y0 _ hm
    have sb_ : h.1 ≤ u9.1 := hmo.1
    have tb_ : h.2.1 ≤ u9.2.1 := hmo.2.1
    rw [m_X0_turned_18] at hm
    obtain ⟨er, eh⟩ := retE hm
    have ec : cc = u9.1 - u.1 := by rw [← eh]; omega
    have es : ss = u9.2.1 - u.2.1 := by rw [← eh]; omega
    rw [ec, es, ← hQ]
    exact W.iret (v := y0) hx hb hr (fun t ht hW => ⟨⟨y0, h, rfl, ⟨er, eh⟩, ⟨by rw [ht]; exact hw.1, by rw [ht]; exact hw.2.1⟩⟩, hw.2.2.1.F ht⟩) hw.2.2.1.2.2 dX0_turned_18
  have hB6 : ∀ (h : CH) (x0 : Nat) (y0 : Int32) (cc ss : Nat) (H : Heap) (locs : List Loc) (ls : Array Slot), m_X0_turned_6 f h x0 y0 = some (r0, u9) → CW D dA A s h H locs → cc + u.1 = h.1 → ss + u.2.1 = h.2.1 → lv_has ls 3 [(0, .ref x0)] → W p l e (rm_X0_turned (u9.1 - u.1) (u9.2.1 - u.2.1)) s m args below meth c H locs cc ss QQ (F0 m 6 ls [.int y0]) := by
    intro h x0 y0 cc ss H locs ls hm hw hcc hss hl
    have hmo := mo_X0_turned_6  h x0 y0 _ hm
    have sb_ : h.1 ≤ u9.1 := hmo.1
    have tb_ : h.2.1 ≤ u9.2.1 := hmo.2.1
    rw [m_X0_turned_6] at hm
    refine lv_if_eq (tgt := 16) hx hb dX0_turned_6 (by decide) (fun c1 => ?_) (fun c1 => ?_)
    · have hm := ifT hm c1
      refine lv_bipush (v := -2) hx hb dX0_turned_16 (by decide) ?_
      exact hB18 h (-2 : Int32) _ _ _ _ _ hm hw (by omega) (by omega) (lv_sub hl [] rfl)
    · have hm := ifF hm c1
      refine lv_aload_n hx hb dX0_turned_9 rfl (lv_at hl 0 rfl) ?_
      obtain ⟨v2, ev2, hm⟩ := bdE hm
      refine cg_get C hw (oI_E ev2) rfl in_X0 (by decide) q249 dX0_turned_10 ?_
      refine lv_goto (tgt := 18) hx hb dX0_turned_13 (by decide) ?_
      exact hB18 h v2 _ _ _ _ _ hm hw (by omega) (by omega) (lv_sub hl [] rfl)
  rw [m_X0_turned] at hm
  refine lv_aload_n hx hb dX0_turned_0 rfl (lv_at hl 0 rfl) ?_
  refine lv_iload_n hx hb dX0_turned_1 rfl (lv_at hl 1 rfl) ?_
  refine lv_iload_n hx hb dX0_turned_2 rfl (lv_at hl 2 rfl) ?_
  obtain ⟨g1, hm⟩ := gdE hm
  obtain ⟨r3, h2, er3, hm⟩ := bd2E hm
  have lh2 := mo_X0_asksTurns er3
  have ph2 : u.1 ≤ h2.1 := lh2.1
  have qh2 : u.2.1 ≤ h2.2.1 := lh2.2.1
  have hmo := mo_X0_turned_6   h2 x0 r3 _ hm
  have sh2 : h2.1 ≤ u9.1 := hmo.1
  have th2 : h2.2.1 ≤ u9.2.1 := hmo.2.1
  refine cg_calli hw lh2 (va_runV (As := [.int x1, .int x2]) (rest := []) ⟨hx, hb, hml, hown, hts⟩ (w_X0_asksTurns l er3) (cw_X0_asksTurns hts q1337 ⟨Nat.le_of_ble_eq_true rfl, Nat.le_of_ble_eq_true rfl⟩) (cg_preV C hw g1 rfl _) rfl rfl hl.1 rfl (lv_room (Nat.le_of_ble_eq_true rfl)) dX0_turned_3 ⟨show cc + (h2.1 - u.1) ≤ u9.1 - u.1 by omega, show ss + (h2.2.1 - u.2.1) ≤ u9.2.1 - u.2.1 by omega⟩) (fun H locs hw => ?_)
  exact hB6 h2 x0 r3 _ _ _ _ _ hm hw (by omega) (by omega) (lv_sub hl [0] rfl)
def m_X0_turnOf_18 (f : Nat) (h : CH) (y0 : Int32) : Option (Int32 × CH) := some (y0, h)
theorem mo_X0_turnOf_18 {f : Nat} : ∀ (h : CH) (y0 : Int32) (r : (Int32 × CH)), m_X0_turnOf_18 f h y0 = some r → le2 h r.2 := by
  intro h y0 r hm
  rw [m_X0_turnOf_18] at hm
  cases hm
  exact le2.rf
def m_X0_turnOf_6 (f : Nat) (h : CH) (x0 : Nat) (y0 : Int32) : Option (Int32 × CH) := if y0 = 0 then
    m_X0_turnOf_18 f h (-2 : Int32)
    else bd (oI h 1 11 x0) fun v2 =>
    m_X0_turnOf_18 f h v2
theorem mo_X0_turnOf_6 {f : Nat} : ∀ (h : CH) (x0 : Nat) (y0 : Int32) (r : (Int32 × CH)), m_X0_turnOf_6 f h x0 y0 = some r → le2 h r.2 := by
  intro h x0 y0 r hm
  rw [m_X0_turnOf_6] at hm
  by_cases c1 : y0 = 0
  · have hm := ifT hm c1
    exact (mo_X0_turnOf_18  h (-2 : Int32) _ hm)
  · have hm := ifF hm c1
    obtain ⟨v2, ev2, hm⟩ := bdE hm
    exact (mo_X0_turnOf_18  h v2 _ hm)
def m_X0_turnOf (f : Nat) (u : CH) (x0 : Nat) (x1 : Int32) (x2 : Int32) : Option (Int32 × CH) := gd (isC u x0 1) <|
    bd2 (m_X0_asksTurns f u x0 x1 x2) fun r3 h2 =>
    m_X0_turnOf_6 f h2 x0 r3
theorem mo_X0_turnOf {f : Nat} {u : CH} {x0 : Nat} {x1 : Int32} {x2 : Int32} {r0 : Int32} {u9 : CH} (hm : m_X0_turnOf f u x0 x1 x2 = some (r0, u9)) : le2 u u9 := by
  rw [m_X0_turnOf] at hm
  obtain ⟨g1, hm⟩ := gdE hm
  obtain ⟨r3, h2, er3, hm⟩ := bd2E hm
  have lh2 := mo_X0_asksTurns er3
  exact (lh2.tr (mo_X0_turnOf_6  h2 x0 r3 _ hm))
abbrev rm_X0_turnOf (mc ms : Nat) : Room := { frames := 107, cells := mc, slots := ms, locals := 4174 }
theorem cw_X0_turnOf {R : Room} {s : State} {args : Array Value} {own : String} {idx mc ms : Nat} (hts : ∀ w ∈ lw_all, w.before args s = true) (hl : Cond.methodLink own idx yX0_turnOf ∈ lw_all) (hR : 107 + 1 ≤ R.frames ∧ 8 + (3 + 11) + 4174 ≤ R.locals) : CallW R s args own RX0 idx yX0_turnOf cX0_turnOf 3 (Option.some Jvm.ClassFile.FieldType.int) (ws_ yX0_turnOf cX0_turnOf 3 (Option.some Jvm.ClassFile.FieldType.int)) (rm_X0_turnOf mc ms) mc ms 2 := cwV 2 hts (lw_V hl q1355 q1356 q119 q1357) rfl rfl rfl (by decide +kernel) hR
set_option maxHeartbeats 4000000 in
set_option maxRecDepth 100000 in
theorem w_X0_turnOf (l : Launch) {D : va_G} {dA : Nat → ClassId} {A : Nat → Prop} {f : Nat} {u u9 : CH} {r0 : Int32} {x0 : Nat} {x1 : Int32} {x2 : Int32} (hm : m_X0_turnOf f u x0 x1 x2 = some (r0, u9)) : Met l yX0_turnOf (ws_ yX0_turnOf cX0_turnOf 3 (Option.some Jvm.ClassFile.FieldType.int)) (rm_X0_turnOf (u9.1 - u.1) (u9.2.1 - u.2.1)) (va_Pc [.ref x0, .int x1, .int x2] (CPre D dA A u)) (va_Qi (fun r u => r = r0 ∧ u = u9) (CPost D dA A) A) (u9.1 - u.1) (u9.2.1 - u.2.1) A := by
  refine Met.ofW (cc := cX0_turnOf) (maxL := 3) (ret := (Option.some Jvm.ClassFile.FieldType.int)) (by decide) rfl ?_
  intro p e s m args below meth c s₁ B hml hv
  have hx := B.exec
  have hb := B.bytes
  have hr := B.returns
  have hts := atoms_spec (ws := (ws_ yX0_turnOf cX0_turnOf 3 (Option.some Jvm.ClassFile.FieldType.int))) B.pre
  have hts : ∀ w ∈ lw_all, w.before args s = true := fun w h => hts w (List.mem_cons_of_mem _ h)
  have hown : s.vm.findClass RX0 = some m.cls := findClass_of_methodNamed B.named
  have hlocks := B.notSynchronized
  obtain ⟨hav, hv⟩ := hv
  have C : CX p s m args c cX0_turnOf RX0 D dA := ⟨hx, hb, hown, hts, hv.2⟩
  have hw : CW D dA A s u s.heap [] := hv.1
  generalize hQ : MQ below (va_Qi (fun r u => r = r0 ∧ u = u9) (CPost D dA A) A) args s (u9.1 - u.1) (u9.2.1 - u.2.1) A = QQ
  have hent := lg_entry_eq m [.ref x0, .int x1, .int x2] 3
  rw [← hav] at hent
  rw [hent]
  have hl := lv_entry ([.ref x0, .int x1, .int x2]) (n := 3) (Nat.le_of_ble_eq_true rfl)
  generalize (lg_sl ([.ref x0, .int x1, .int x2]) ++ List.replicate (3 - (lg_sl ([.ref x0, .int x1, .int x2])).length) Slot.unset).toArray = ls at hl ⊢
  have hl : lv_has ls 3 [(0, .ref x0), (1, .int x1), (2, .int x2)] := hl
  obtain ⟨cc, ecc⟩ : ∃ z : Nat, z = 0 := ⟨0, rfl⟩
  obtain ⟨ss, ess⟩ : ∃ z : Nat, z = 0 := ⟨0, rfl⟩
  have hcc : cc + u.1 = u.1 := by omega
  have hss : ss + u.2.1 = u.2.1 := by omega
  suffices hgo : W p l e (rm_X0_turnOf (u9.1 - u.1) (u9.2.1 - u.2.1)) s m args below meth c s.heap [] cc ss QQ (F0 m 0 ls []) by rw [ecc, ess] at hgo; exact hgo
  have ⟨pu, qu, _, _⟩ := mo_X0_turnOf hm
  have hB18 : ∀ (h : CH) (y0 : Int32) (cc ss : Nat) (H : Heap) (locs : List Loc) (ls : Array Slot), m_X0_turnOf_18 f h y0 = some (r0, u9) → CW D dA A s h H locs → cc + u.1 = h.1 → ss + u.2.1 = h.2.1 → lv_has ls 3 [] → W p l e (rm_X0_turnOf (u9.1 - u.1) (u9.2.1 - u.2.1)) s m args below meth c H locs cc ss QQ (F0 m 18 ls [.int y0]) := by
    intro h y0 cc ss H locs ls hm hw hcc hss hl
    have hmo := mo_X0_turnOf_18  h y0 _ hm
    have sb_ : h.1 ≤ u9.1 := hmo.1
    have tb_ : h.2.1 ≤ u9.2.1 := hmo.2.1
    rw [m_X0_turnOf_18] at hm
    obtain ⟨er, eh⟩ := retE hm
    have ec : cc = u9.1 - u.1 := by rw [← eh]; omega
    have es : ss = u9.2.1 - u.2.1 := by rw [← eh]; omega
    rw [ec, es, ← hQ]
    exact W.iret (v := y0) hx hb hr (fun t ht hW => ⟨⟨y0, h, rfl, ⟨er, eh⟩, ⟨by rw [ht]; exact hw.1, by rw [ht]; exact hw.2.1⟩⟩, hw.2.2.1.F ht⟩) hw.2.2.1.2.2 dX0_turnOf_18
  have hB6 : ∀ (h : CH) (x0 : Nat) (y0 : Int32) (cc ss : Nat) (H : Heap) (locs : List Loc) (ls : Array Slot), m_X0_turnOf_6 f h x0 y0 = some (r0, u9) → CW D dA A s h H locs → cc + u.1 = h.1 → ss + u.2.1 = h.2.1 → lv_has ls 3 [(0, .ref x0)] → W p l e (rm_X0_turnOf (u9.1 - u.1) (u9.2.1 - u.2.1)) s m args below meth c H locs cc ss QQ (F0 m 6 ls [.int y0]) := by
    intro h x0 y0 cc ss H locs ls hm hw hcc hss hl
    have hmo := mo_X0_turnOf_6  h x0 y0 _ hm
    have sb_ : h.1 ≤ u9.1 := hmo.1
    have tb_ : h.2.1 ≤ u9.2.1 := hmo.2.1
    rw [m_X0_turnOf_6] at hm
    refine lv_if_eq (tgt := 16) hx hb dX0_turnOf_6 (by decide) (fun c1 => ?_) (fun c1 => ?_)
    · have hm := ifT hm c1
      refine lv_bipush (v := -2) hx hb dX0_turnOf_16 (by decide) ?_
      exact hB18 h (-2 : Int32) _ _ _ _ _ hm hw (by omega) (by omega) (lv_sub hl [] rfl)
    · have hm := ifF hm c1
      refine lv_aload_n hx hb dX0_turnOf_9 rfl (lv_at hl 0 rfl) ?_
      obtain ⟨v2, ev2, hm⟩ := bdE hm
      refine cg_get C hw (oI_E ev2) rfl in_X0 (by decide) q250 dX0_turnOf_10 ?_
      refine lv_goto (tgt := 18) hx hb dX0_turnOf_13 (by decide) ?_
      exact hB18 h v2 _ _ _ _ _ hm hw (by omega) (by omega) (lv_sub hl [] rfl)
  rw [m_X0_turnOf] at hm
  refine lv_aload_n hx hb dX0_turnOf_0 rfl (lv_at hl 0 rfl) ?_
  refine lv_iload_n hx hb dX0_turnOf_1 rfl (lv_at hl 1 rfl) ?_
  refine lv_iload_n hx hb dX0_turnOf_2 rfl (lv_at hl 2 rfl) ?_
  obtain ⟨g1, hm⟩ := gdE hm
  obtain ⟨r3, h2, er3, hm⟩ := bd2E hm
  have lh2 := mo_X0_asksTurns er3
  have ph2 : u.1 ≤ h2.1 := lh2.1
  have qh2 : u.2.1 ≤ h2.2.1 := lh2.2.1
  have hmo := mo_X0_turnOf_6   h2 x0 r3 _ hm
  have sh2 : h2.1 ≤ u9.1 := hmo.1
  have th2 : h2.2.1 ≤ u9.2.1 := hmo.2.1
  refine cg_calli hw lh2 (va_runV (As := [.int x1, .int x2]) (rest := []) ⟨hx, hb, hml, hown, hts⟩ (w_X0_asksTurns l er3) (cw_X0_asksTurns hts q1337 ⟨Nat.le_of_ble_eq_true rfl, Nat.le_of_ble_eq_true rfl⟩) (cg_preV C hw g1 rfl _) rfl rfl hl.1 rfl (lv_room (Nat.le_of_ble_eq_true rfl)) dX0_turnOf_3 ⟨show cc + (h2.1 - u.1) ≤ u9.1 - u.1 by omega, show ss + (h2.2.1 - u.2.1) ≤ u9.2.1 - u.2.1 by omega⟩) (fun H locs hw => ?_)
  exact hB6 h2 x0 r3 _ _ _ _ _ hm hw (by omega) (by omega) (lv_sub hl [0] rfl)
def m_X0_goes_190 (f : Nat) (h : CH) (y0 : Int32) : Option (Int32 × CH) := gd (zb y0) <|
    some (y0, h)
theorem mo_X0_goes_190 {f : Nat} : ∀ (h : CH) (y0 : Int32) (r : (Int32 × CH)), m_X0_goes_190 f h y0 = some r → le2 h r.2 := by
  intro h y0 r hm
  rw [m_X0_goes_190] at hm
  obtain ⟨g1, hm⟩ := gdE hm
  cases hm
  exact le2.rf
def m_X0_goes_169 (f : Nat) (h : CH) (x7 : Int64) (y0 : Int64) (y1 : Int64) : Option (Int32 × CH) := bd (m_J9_abs f y1) fun r1 =>
    if ¬ y0 = (((r1 * x7) * x7) * x7) then
    m_X0_goes_190 f h (0 : Int32)
    else m_X0_goes_190 f h (1 : Int32)
theorem mo_X0_goes_169 {f : Nat} : ∀ (h : CH) (x7 : Int64) (y0 : Int64) (y1 : Int64) (r : (Int32 × CH)), m_X0_goes_169 f h x7 y0 y1 = some r → le2 h r.2 := by
  intro h x7 y0 y1 r hm
  rw [m_X0_goes_169] at hm
  obtain ⟨r1, er1, hm⟩ := bdE hm
  by_cases c2 : ¬ y0 = (((r1 * x7) * x7) * x7)
  · have hm := ifT hm c2
    exact (mo_X0_goes_190  h (0 : Int32) _ hm)
  · have hm := ifF hm c2
    exact (mo_X0_goes_190  h (1 : Int32) _ hm)
def m_X0_goes_166 (f : Nat) (h : CH) (x7 : Int64) (y0 : Int64) (y1 : Nat) : Option (Int32 × CH) := gd (isC h y1 3) <|
    bd2 (m_X2_determinant f h y1) fun r3 h2 =>
    m_X0_goes_169 f h2 x7 y0 r3
theorem mo_X0_goes_166 {f : Nat} : ∀ (h : CH) (x7 : Int64) (y0 : Int64) (y1 : Nat) (r : (Int32 × CH)), m_X0_goes_166 f h x7 y0 y1 = some r → le2 h r.2 := by
  intro h x7 y0 y1 r hm
  rw [m_X0_goes_166] at hm
  obtain ⟨g1, hm⟩ := gdE hm
  obtain ⟨r3, h2, er3, hm⟩ := bd2E hm
  have lh2 := mo_X2_determinant er3
  exact (lh2.tr (mo_X0_goes_169  h2 x7 y0 r3 _ hm))
def m_X0_goes_150 (f : Nat) (h : CH) (x3 : Nat) (x7 : Int64) (x9 : Int64) (y0 : Int64) : Option (Int32 × CH) := bd (m_J9_abs f y0) fun r1 =>
    if isC h x3 6 = true then
    bd2 (m_X6_rows f h x3) fun a4 h3 =>
    m_X0_goes_166 f h3 x7 (((r1 * x9) * x9) * x9) a4
    else gd (isC h x3 7) <|
    bd2 (m_X7_rows f h x3) fun a7 h6 =>
    m_X0_goes_166 f h6 x7 (((r1 * x9) * x9) * x9) a7
theorem mo_X0_goes_150 {f : Nat} : ∀ (h : CH) (x3 : Nat) (x7 : Int64) (x9 : Int64) (y0 : Int64) (r : (Int32 × CH)), m_X0_goes_150 f h x3 x7 x9 y0 = some r → le2 h r.2 := by
  intro h x3 x7 x9 y0 r hm
  rw [m_X0_goes_150] at hm
  obtain ⟨r1, er1, hm⟩ := bdE hm
  by_cases c2 : isC h x3 6 = true
  · have hm := ifT hm c2
    obtain ⟨a4, h3, ea4, hm⟩ := bd2E hm
    have lh3 := mo_X6_rows ea4
    exact (lh3.tr (mo_X0_goes_166  h3 x7 (((r1 * x9) * x9) * x9) a4 _ hm))
  · have hm := ifF hm c2
    obtain ⟨g5, hm⟩ := gdE hm
    obtain ⟨a7, h6, ea7, hm⟩ := bd2E hm
    have lh6 := mo_X7_rows ea7
    exact (lh6.tr (mo_X0_goes_166  h6 x7 (((r1 * x9) * x9) * x9) a7 _ hm))
def m_X0_goes_143 (f : Nat) (h : CH) (x3 : Nat) (x4 : Nat) (x7 : Int64) (y0 : Int64) : Option (Int32 × CH) := gd (isC h x4 3) <|
    bd2 (m_X2_determinant f h x4) fun r3 h2 =>
    m_X0_goes_150 f h2 x3 x7 y0 r3
theorem mo_X0_goes_143 {f : Nat} : ∀ (h : CH) (x3 : Nat) (x4 : Nat) (x7 : Int64) (y0 : Int64) (r : (Int32 × CH)), m_X0_goes_143 f h x3 x4 x7 y0 = some r → le2 h r.2 := by
  intro h x3 x4 x7 y0 r hm
  rw [m_X0_goes_143] at hm
  obtain ⟨g1, hm⟩ := gdE hm
  obtain ⟨r3, h2, er3, hm⟩ := bd2E hm
  have lh2 := mo_X2_determinant er3
  exact (lh2.tr (mo_X0_goes_150  h2 x3 x7 y0 r3 _ hm))
def m_X0_goes_137 (f : Nat) (h : CH) (x3 : Nat) (x4 : Nat) (y0 : Int64) : Option (Int32 × CH) := if isC h x3 6 = true then
    bd2 (m_X6_over f h x3) fun r3 h2 =>
    m_X0_goes_143 f h2 x3 x4 y0 r3
    else gd (isC h x3 7) <|
    bd2 (m_X7_over f h x3) fun r6 h5 =>
    m_X0_goes_143 f h5 x3 x4 y0 r6
theorem mo_X0_goes_137 {f : Nat} : ∀ (h : CH) (x3 : Nat) (x4 : Nat) (y0 : Int64) (r : (Int32 × CH)), m_X0_goes_137 f h x3 x4 y0 = some r → le2 h r.2 := by
  intro h x3 x4 y0 r hm
  rw [m_X0_goes_137] at hm
  by_cases c1 : isC h x3 6 = true
  · have hm := ifT hm c1
    obtain ⟨r3, h2, er3, hm⟩ := bd2E hm
    have lh2 := mo_X6_over er3
    exact (lh2.tr (mo_X0_goes_143  h2 x3 x4 y0 r3 _ hm))
  · have hm := ifF hm c1
    obtain ⟨g4, hm⟩ := gdE hm
    obtain ⟨r6, h5, er6, hm⟩ := bd2E hm
    have lh5 := mo_X7_over er6
    exact (lh5.tr (mo_X0_goes_143  h5 x3 x4 y0 r6 _ hm))
def m_X0_goes_133 (f : Nat) (h : CH) (x2 : Nat) (x3 : Nat) (x4 : Nat) : Option (Int32 × CH) := if isC h x2 6 = true then
    bd2 (m_X6_over f h x2) fun r3 h2 =>
    m_X0_goes_137 f h2 x3 x4 r3
    else gd (isC h x2 7) <|
    bd2 (m_X7_over f h x2) fun r6 h5 =>
    m_X0_goes_137 f h5 x3 x4 r6
theorem mo_X0_goes_133 {f : Nat} : ∀ (h : CH) (x2 : Nat) (x3 : Nat) (x4 : Nat) (r : (Int32 × CH)), m_X0_goes_133 f h x2 x3 x4 = some r → le2 h r.2 := by
  intro h x2 x3 x4 r hm
  rw [m_X0_goes_133] at hm
  by_cases c1 : isC h x2 6 = true
  · have hm := ifT hm c1
    obtain ⟨r3, h2, er3, hm⟩ := bd2E hm
    have lh2 := mo_X6_over er3
    exact (lh2.tr (mo_X0_goes_137  h2 x3 x4 r3 _ hm))
  · have hm := ifF hm c1
    obtain ⟨g4, hm⟩ := gdE hm
    obtain ⟨r6, h5, er6, hm⟩ := bd2E hm
    have lh5 := mo_X7_over er6
    exact (lh5.tr (mo_X0_goes_137  h5 x3 x4 r6 _ hm))
def m_X0_goes_125 (f : Nat) (h : CH) : Option (Int32 × CH) := some ((0 : Int32), h)
theorem mo_X0_goes_125 {f : Nat} : ∀ (h : CH) (r : (Int32 × CH)), m_X0_goes_125 f h = some r → le2 h r.2 := by
  intro h r hm
  rw [m_X0_goes_125] at hm
  cases hm
  exact le2.rf
def m_X0_goes_122 (f : Nat) (k25 : CH → Int32 → Nat → Nat → Nat → Nat → Nat → Int32 → Option (Int32 × CH)) (h : CH) (x1 : Int32) (x2 : Nat) (x3 : Nat) (x4 : Nat) (x5 : Nat) (x6 : Nat) (x7 : Int32) (y0 : Int32) : Option (Int32 × CH) := if ¬ y0 = 0 then
    nmv ((x7 + 1) : Int32) fun v2 =>
    k25 h x1 x2 x3 x4 x5 x6 v2
    else m_X0_goes_125 f h
theorem mo_X0_goes_122 {f : Nat} {k25 : CH → Int32 → Nat → Nat → Nat → Nat → Nat → Int32 → Option (Int32 × CH)} (hk25 : ∀ (h : CH) (x1 : Int32) (x2 : Nat) (x3 : Nat) (x4 : Nat) (x5 : Nat) (x6 : Nat) (x7 : Int32) (r : (Int32 × CH)), k25 h x1 x2 x3 x4 x5 x6 x7 = some r → le2 h r.2) : ∀ (h : CH) (x1 : Int32) (x2 : Nat) (x3 : Nat) (x4 : Nat) (x5 : Nat) (x6 : Nat) (x7 : Int32) (y0 : Int32) (r : (Int32 × CH)), m_X0_goes_122 f k25 h x1 x2 x3 x4 x5 x6 x7 y0 = some r → le2 h r.2 := by
  intro h x1 x2 x3 x4 x5 x6 x7 y0 r hm
  rw [m_X0_goes_122] at hm
  by_cases c1 : ¬ y0 = 0
  · have hm := ifT hm c1
    obtain ⟨v2, ev2, hm⟩ := nmE hm
    exact (hk25 h x1 x2 x3 x4 x5 x6 v2 _ hm)
  · have hm := ifF hm c1
    exact (mo_X0_goes_125  h _ hm)
def m_X0_goes_119 (f : Nat) (k25 : CH → Int32 → Nat → Nat → Nat → Nat → Nat → Int32 → Option (Int32 × CH)) (h : CH) (x1 : Int32) (x2 : Nat) (x3 : Nat) (x4 : Nat) (x5 : Nat) (x6 : Nat) (x7 : Int32) (y0 : Nat) (y1 : Int64) (y2 : Int64) (y3 : Int64) (y4 : Int64) (y5 : Int64) : Option (Int32 × CH) := bd2 (m_X0_have f h y0 y1 y2 y3 y4 y5) fun r2 h1 =>
    m_X0_goes_122 f k25 h1 x1 x2 x3 x4 x5 x6 x7 r2
theorem mo_X0_goes_119 {f : Nat} {k25 : CH → Int32 → Nat → Nat → Nat → Nat → Nat → Int32 → Option (Int32 × CH)} (hk25 : ∀ (h : CH) (x1 : Int32) (x2 : Nat) (x3 : Nat) (x4 : Nat) (x5 : Nat) (x6 : Nat) (x7 : Int32) (r : (Int32 × CH)), k25 h x1 x2 x3 x4 x5 x6 x7 = some r → le2 h r.2) : ∀ (h : CH) (x1 : Int32) (x2 : Nat) (x3 : Nat) (x4 : Nat) (x5 : Nat) (x6 : Nat) (x7 : Int32) (y0 : Nat) (y1 : Int64) (y2 : Int64) (y3 : Int64) (y4 : Int64) (y5 : Int64) (r : (Int32 × CH)), m_X0_goes_119 f k25 h x1 x2 x3 x4 x5 x6 x7 y0 y1 y2 y3 y4 y5 = some r → le2 h r.2 := by
  intro h x1 x2 x3 x4 x5 x6 x7 y0 y1 y2 y3 y4 y5 r hm
  rw [m_X0_goes_119] at hm
  obtain ⟨r2, h1, er2, hm⟩ := bd2E hm
  have lh1 := mo_X0_have er2
  exact (lh1.tr (mo_X0_goes_122 hk25 h1 x1 x2 x3 x4 x5 x6 x7 r2 _ hm))
def m_X0_goes_103 (f : Nat) (k25 : CH → Int32 → Nat → Nat → Nat → Nat → Nat → Int32 → Option (Int32 × CH)) (h : CH) (x1 : Int32) (x2 : Nat) (x3 : Nat) (x4 : Nat) (x5 : Nat) (x6 : Nat) (x7 : Int32) (y0 : Nat) (y1 : Int64) : Option (Int32 × CH) := bd (aL h 1 x6 (0 : Int32)) fun v1 =>
    bd (aL h 1 x6 (1 : Int32)) fun v2 =>
    bd (aL h 1 x6 (2 : Int32)) fun v3 =>
    if isC h x2 6 = true then
    bd2 (m_X6_over f h x2) fun r6 h5 =>
    m_X0_goes_119 f k25 h5 x1 x2 x3 x4 x5 x6 x7 y0 y1 v1 v2 v3 r6
    else gd (isC h x2 7) <|
    bd2 (m_X7_over f h x2) fun r9 h8 =>
    m_X0_goes_119 f k25 h8 x1 x2 x3 x4 x5 x6 x7 y0 y1 v1 v2 v3 r9
theorem mo_X0_goes_103 {f : Nat} {k25 : CH → Int32 → Nat → Nat → Nat → Nat → Nat → Int32 → Option (Int32 × CH)} (hk25 : ∀ (h : CH) (x1 : Int32) (x2 : Nat) (x3 : Nat) (x4 : Nat) (x5 : Nat) (x6 : Nat) (x7 : Int32) (r : (Int32 × CH)), k25 h x1 x2 x3 x4 x5 x6 x7 = some r → le2 h r.2) : ∀ (h : CH) (x1 : Int32) (x2 : Nat) (x3 : Nat) (x4 : Nat) (x5 : Nat) (x6 : Nat) (x7 : Int32) (y0 : Nat) (y1 : Int64) (r : (Int32 × CH)), m_X0_goes_103 f k25 h x1 x2 x3 x4 x5 x6 x7 y0 y1 = some r → le2 h r.2 := by
  intro h x1 x2 x3 x4 x5 x6 x7 y0 y1 r hm
  rw [m_X0_goes_103] at hm
  obtain ⟨v1, ev1, hm⟩ := bdE hm
  obtain ⟨v2, ev2, hm⟩ := bdE hm
  obtain ⟨v3, ev3, hm⟩ := bdE hm
  by_cases c4 : isC h x2 6 = true
  · have hm := ifT hm c4
    obtain ⟨r6, h5, er6, hm⟩ := bd2E hm
    have lh5 := mo_X6_over er6
    exact (lh5.tr (mo_X0_goes_119 hk25 h5 x1 x2 x3 x4 x5 x6 x7 y0 y1 v1 v2 v3 r6 _ hm))
  · have hm := ifF hm c4
    obtain ⟨g7, hm⟩ := gdE hm
    obtain ⟨r9, h8, er9, hm⟩ := bd2E hm
    have lh8 := mo_X7_over er9
    exact (lh8.tr (mo_X0_goes_119 hk25 h8 x1 x2 x3 x4 x5 x6 x7 y0 y1 v1 v2 v3 r9 _ hm))
def m_X0_goes_99 (f : Nat) (k25 : CH → Int32 → Nat → Nat → Nat → Nat → Nat → Int32 → Option (Int32 × CH)) (h : CH) (x1 : Int32) (x2 : Nat) (x3 : Nat) (x4 : Nat) (x5 : Nat) (x6 : Nat) (x7 : Int32) (y0 : Nat) : Option (Int32 × CH) := if isC h x3 6 = true then
    bd2 (m_X6_over f h x3) fun r3 h2 =>
    m_X0_goes_103 f k25 h2 x1 x2 x3 x4 x5 x6 x7 y0 r3
    else gd (isC h x3 7) <|
    bd2 (m_X7_over f h x3) fun r6 h5 =>
    m_X0_goes_103 f k25 h5 x1 x2 x3 x4 x5 x6 x7 y0 r6
theorem mo_X0_goes_99 {f : Nat} {k25 : CH → Int32 → Nat → Nat → Nat → Nat → Nat → Int32 → Option (Int32 × CH)} (hk25 : ∀ (h : CH) (x1 : Int32) (x2 : Nat) (x3 : Nat) (x4 : Nat) (x5 : Nat) (x6 : Nat) (x7 : Int32) (r : (Int32 × CH)), k25 h x1 x2 x3 x4 x5 x6 x7 = some r → le2 h r.2) : ∀ (h : CH) (x1 : Int32) (x2 : Nat) (x3 : Nat) (x4 : Nat) (x5 : Nat) (x6 : Nat) (x7 : Int32) (y0 : Nat) (r : (Int32 × CH)), m_X0_goes_99 f k25 h x1 x2 x3 x4 x5 x6 x7 y0 = some r → le2 h r.2 := by
  intro h x1 x2 x3 x4 x5 x6 x7 y0 r hm
  rw [m_X0_goes_99] at hm
  by_cases c1 : isC h x3 6 = true
  · have hm := ifT hm c1
    obtain ⟨r3, h2, er3, hm⟩ := bd2E hm
    have lh2 := mo_X6_over er3
    exact (lh2.tr (mo_X0_goes_103 hk25 h2 x1 x2 x3 x4 x5 x6 x7 y0 r3 _ hm))
  · have hm := ifF hm c1
    obtain ⟨g4, hm⟩ := gdE hm
    obtain ⟨r6, h5, er6, hm⟩ := bd2E hm
    have lh5 := mo_X7_over er6
    exact (lh5.tr (mo_X0_goes_103 hk25 h5 x1 x2 x3 x4 x5 x6 x7 y0 r6 _ hm))
def m_X0_goes_95 (f : Nat) (k25 : CH → Int32 → Nat → Nat → Nat → Nat → Nat → Int32 → Option (Int32 × CH)) (h : CH) (x1 : Int32) (x2 : Nat) (x3 : Nat) (x4 : Nat) (x5 : Nat) (x6 : Nat) (x7 : Int32) : Option (Int32 × CH) := if isC h x3 6 = true then
    bd2 (m_X6_rows f h x3) fun a3 h2 =>
    m_X0_goes_99 f k25 h2 x1 x2 x3 x4 x5 x6 x7 a3
    else gd (isC h x3 7) <|
    bd2 (m_X7_rows f h x3) fun a6 h5 =>
    m_X0_goes_99 f k25 h5 x1 x2 x3 x4 x5 x6 x7 a6
theorem mo_X0_goes_95 {f : Nat} {k25 : CH → Int32 → Nat → Nat → Nat → Nat → Nat → Int32 → Option (Int32 × CH)} (hk25 : ∀ (h : CH) (x1 : Int32) (x2 : Nat) (x3 : Nat) (x4 : Nat) (x5 : Nat) (x6 : Nat) (x7 : Int32) (r : (Int32 × CH)), k25 h x1 x2 x3 x4 x5 x6 x7 = some r → le2 h r.2) : ∀ (h : CH) (x1 : Int32) (x2 : Nat) (x3 : Nat) (x4 : Nat) (x5 : Nat) (x6 : Nat) (x7 : Int32) (r : (Int32 × CH)), m_X0_goes_95 f k25 h x1 x2 x3 x4 x5 x6 x7 = some r → le2 h r.2 := by
  intro h x1 x2 x3 x4 x5 x6 x7 r hm
  rw [m_X0_goes_95] at hm
  by_cases c1 : isC h x3 6 = true
  · have hm := ifT hm c1
    obtain ⟨a3, h2, ea3, hm⟩ := bd2E hm
    have lh2 := mo_X6_rows ea3
    exact (lh2.tr (mo_X0_goes_99 hk25 h2 x1 x2 x3 x4 x5 x6 x7 a3 _ hm))
  · have hm := ifF hm c1
    obtain ⟨g4, hm⟩ := gdE hm
    obtain ⟨a6, h5, ea6, hm⟩ := bd2E hm
    have lh5 := mo_X7_rows ea6
    exact (lh5.tr (mo_X0_goes_99 hk25 h5 x1 x2 x3 x4 x5 x6 x7 a6 _ hm))
def m_X0_goes_88 (f : Nat) (k25 : CH → Int32 → Nat → Nat → Nat → Nat → Nat → Int32 → Option (Int32 × CH)) (k34 : CH → Int32 → Nat → Nat → Nat → Nat → Nat → Int32 → Int32 → Option (Int32 × CH)) (h : CH) (x1 : Int32) (x2 : Nat) (x3 : Nat) (x4 : Nat) (x5 : Nat) (x6 : Nat) (x7 : Int32) (x8 : Int32) (y0 : Nat) (y1 : Int32) (y2 : Int64) : Option (Int32 × CH) := bd (uL h 1 y0 y1 y2) fun h1 =>
    nmv ((x8 + 1) : Int32) fun v2 =>
    k34 h1 x1 x2 x3 x4 x5 x6 x7 v2
theorem mo_X0_goes_88 {f : Nat} {k25 : CH → Int32 → Nat → Nat → Nat → Nat → Nat → Int32 → Option (Int32 × CH)} (hk25 : ∀ (h : CH) (x1 : Int32) (x2 : Nat) (x3 : Nat) (x4 : Nat) (x5 : Nat) (x6 : Nat) (x7 : Int32) (r : (Int32 × CH)), k25 h x1 x2 x3 x4 x5 x6 x7 = some r → le2 h r.2) {k34 : CH → Int32 → Nat → Nat → Nat → Nat → Nat → Int32 → Int32 → Option (Int32 × CH)} (hk34 : ∀ (h : CH) (x1 : Int32) (x2 : Nat) (x3 : Nat) (x4 : Nat) (x5 : Nat) (x6 : Nat) (x7 : Int32) (x8 : Int32) (r : (Int32 × CH)), k34 h x1 x2 x3 x4 x5 x6 x7 x8 = some r → le2 h r.2) : ∀ (h : CH) (x1 : Int32) (x2 : Nat) (x3 : Nat) (x4 : Nat) (x5 : Nat) (x6 : Nat) (x7 : Int32) (x8 : Int32) (y0 : Nat) (y1 : Int32) (y2 : Int64) (r : (Int32 × CH)), m_X0_goes_88 f k25 k34 h x1 x2 x3 x4 x5 x6 x7 x8 y0 y1 y2 = some r → le2 h r.2 := by
  intro h x1 x2 x3 x4 x5 x6 x7 x8 y0 y1 y2 r hm
  rw [m_X0_goes_88] at hm
  obtain ⟨h1, eh1, hm⟩ := bdE hm
  have lh1 := uL_le eh1
  obtain ⟨v2, ev2, hm⟩ := nmE hm
  exact (lh1.tr (hk34 h1 x1 x2 x3 x4 x5 x6 x7 v2 _ hm))
def m_X0_goes_34 (f : Nat) (k25 : CH → Int32 → Nat → Nat → Nat → Nat → Nat → Int32 → Option (Int32 × CH)) : Nat → CH → Int32 → Nat → Nat → Nat → Nat → Nat → Int32 → Int32 → Option (Int32 × CH)
  | 0, _, _, _, _, _, _, _, _, _ => none
  | n34 + 1, h, x1, x2, x3, x4, x5, x6, x7, x8 => if (3 : Int32) ≤ x8 then
    m_X0_goes_95 f k25 h x1 x2 x3 x4 x5 x6 x7
    else if ¬ ((x1 >>> (((2 : Int32) - x8) &&& 31)) &&& (1 : Int32)) = (1 : Int32) then
    bd (oR h 3 0 x4) fun a3 =>
    bd (aR h 4 a3 x7) fun a4 =>
    bd (aI h 0 x5 x8) fun v5 =>
    bd (aL h 1 a4 v5) fun v6 =>
    m_X0_goes_88 f k25 (m_X0_goes_34 f k25 n34) h x1 x2 x3 x4 x5 x6 x7 x8 x6 x8 v6
    else bd (oR h 3 0 x4) fun a7 =>
    bd (aR h 4 a7 x7) fun a8 =>
    bd (aI h 0 x5 x8) fun v9 =>
    bd (aL h 1 a8 v9) fun v10 =>
    m_X0_goes_88 f k25 (m_X0_goes_34 f k25 n34) h x1 x2 x3 x4 x5 x6 x7 x8 x6 x8 (-v10)
theorem mo_X0_goes_34 {f : Nat} {k25 : CH → Int32 → Nat → Nat → Nat → Nat → Nat → Int32 → Option (Int32 × CH)} (hk25 : ∀ (h : CH) (x1 : Int32) (x2 : Nat) (x3 : Nat) (x4 : Nat) (x5 : Nat) (x6 : Nat) (x7 : Int32) (r : (Int32 × CH)), k25 h x1 x2 x3 x4 x5 x6 x7 = some r → le2 h r.2) : ∀ (n34 : Nat) (h : CH) (x1 : Int32) (x2 : Nat) (x3 : Nat) (x4 : Nat) (x5 : Nat) (x6 : Nat) (x7 : Int32) (x8 : Int32) (r : (Int32 × CH)), m_X0_goes_34 f k25 n34 h x1 x2 x3 x4 x5 x6 x7 x8 = some r → le2 h r.2 := by
  intro n34
  induction n34 with
  | zero => intro h x1 x2 x3 x4 x5 x6 x7 x8 r hm; rw [m_X0_goes_34] at hm; exact noE hm
  | succ n34 ihm =>
    intro h x1 x2 x3 x4 x5 x6 x7 x8 r hm
    rw [m_X0_goes_34] at hm
    by_cases c1 : (3 : Int32) ≤ x8
    · have hm := ifT hm c1
      exact (mo_X0_goes_95 hk25 h x1 x2 x3 x4 x5 x6 x7 _ hm)
    · have hm := ifF hm c1
      by_cases c2 : ¬ ((x1 >>> (((2 : Int32) - x8) &&& 31)) &&& (1 : Int32)) = (1 : Int32)
      · have hm := ifT hm c2
        obtain ⟨a3, ea3, hm⟩ := bdE hm
        obtain ⟨a4, ea4, hm⟩ := bdE hm
        obtain ⟨v5, ev5, hm⟩ := bdE hm
        obtain ⟨v6, ev6, hm⟩ := bdE hm
        exact (mo_X0_goes_88 hk25 ihm h x1 x2 x3 x4 x5 x6 x7 x8 x6 x8 v6 _ hm)
      · have hm := ifF hm c2
        obtain ⟨a7, ea7, hm⟩ := bdE hm
        obtain ⟨a8, ea8, hm⟩ := bdE hm
        obtain ⟨v9, ev9, hm⟩ := bdE hm
        obtain ⟨v10, ev10, hm⟩ := bdE hm
        exact (mo_X0_goes_88 hk25 ihm h x1 x2 x3 x4 x5 x6 x7 x8 x6 x8 (-v10) _ hm)
def m_X0_goes_25 (f : Nat) : Nat → CH → Int32 → Nat → Nat → Nat → Nat → Nat → Int32 → Option (Int32 × CH)
  | 0, _, _, _, _, _, _, _, _ => none
  | n25 + 1, h, x1, x2, x3, x4, x5, x6, x7 => if (3 : Int32) ≤ x7 then
    m_X0_goes_133 f h x2 x3 x4
    else m_X0_goes_34 f (m_X0_goes_25 f n25) f h x1 x2 x3 x4 x5 x6 x7 (0 : Int32)
theorem mo_X0_goes_25 {f : Nat} : ∀ (n25 : Nat) (h : CH) (x1 : Int32) (x2 : Nat) (x3 : Nat) (x4 : Nat) (x5 : Nat) (x6 : Nat) (x7 : Int32) (r : (Int32 × CH)), m_X0_goes_25 f n25 h x1 x2 x3 x4 x5 x6 x7 = some r → le2 h r.2 := by
  intro n25
  induction n25 with
  | zero => intro h x1 x2 x3 x4 x5 x6 x7 r hm; rw [m_X0_goes_25] at hm; exact noE hm
  | succ n25 ihm =>
    intro h x1 x2 x3 x4 x5 x6 x7 r hm
    rw [m_X0_goes_25] at hm
    by_cases c1 : (3 : Int32) ≤ x7
    · have hm := ifT hm c1
      exact (mo_X0_goes_133  h x2 x3 x4 _ hm)
    · have hm := ifF hm c1
      exact (mo_X0_goes_34 ihm f h x1 x2 x3 x4 x5 x6 x7 (0 : Int32) _ hm)
def m_X0_goes_20 (f : Nat) (h : CH) (x1 : Int32) (x2 : Nat) (x3 : Nat) (x4 : Nat) (x5 : Nat) (y0 : Nat) : Option (Int32 × CH) := m_X0_goes_25 f f h x1 x2 x3 x4 x5 y0 (0 : Int32)
theorem mo_X0_goes_20 {f : Nat} : ∀ (h : CH) (x1 : Int32) (x2 : Nat) (x3 : Nat) (x4 : Nat) (x5 : Nat) (y0 : Nat) (r : (Int32 × CH)), m_X0_goes_20 f h x1 x2 x3 x4 x5 y0 = some r → le2 h r.2 := by
  intro h x1 x2 x3 x4 x5 y0 r hm
  rw [m_X0_goes_20] at hm
  exact (mo_X0_goes_25  f h x1 x2 x3 x4 x5 y0 (0 : Int32) _ hm)
def m_X0_goes_4 (f : Nat) (h : CH) (x0 : Nat) (x1 : Int32) (x2 : Nat) (x3 : Nat) (y0 : Nat) : Option (Int32 × CH) := bd (oR h 1 12 x0) fun a1 =>
    bd (aR h 5 a1 (x1 / (8 : Int32))) fun a2 =>
    nmv (cn h 3 (.inr (1, 3, .inr (.inl (fun _ => 0))))) fun h3 =>
    nmv (h.1 : Nat) fun a4 =>
    m_X0_goes_20 f h3 x1 x2 x3 y0 a2 a4
theorem mo_X0_goes_4 {f : Nat} : ∀ (h : CH) (x0 : Nat) (x1 : Int32) (x2 : Nat) (x3 : Nat) (y0 : Nat) (r : (Int32 × CH)), m_X0_goes_4 f h x0 x1 x2 x3 y0 = some r → le2 h r.2 := by
  intro h x0 x1 x2 x3 y0 r hm
  rw [m_X0_goes_4] at hm
  obtain ⟨a1, ea1, hm⟩ := bdE hm
  obtain ⟨a2, ea2, hm⟩ := bdE hm
  obtain ⟨h3, eh3, hm⟩ := nmE hm
  have lh3 := cn_le eh3
  obtain ⟨a4, ea4, hm⟩ := nmE hm
  exact (lh3.tr (mo_X0_goes_20  h3 x1 x2 x3 y0 a2 a4 _ hm))
def m_X0_goes (f : Nat) (u : CH) (x0 : Nat) (x1 : Int32) (x2 : Nat) (x3 : Nat) : Option (Int32 × CH) := if isC u x2 6 = true then
    bd2 (m_X6_rows f u x2) fun a3 h2 =>
    m_X0_goes_4 f h2 x0 x1 x2 x3 a3
    else gd (isC u x2 7) <|
    bd2 (m_X7_rows f u x2) fun a6 h5 =>
    m_X0_goes_4 f h5 x0 x1 x2 x3 a6
theorem mo_X0_goes {f : Nat} {u : CH} {x0 : Nat} {x1 : Int32} {x2 : Nat} {x3 : Nat} {r0 : Int32} {u9 : CH} (hm : m_X0_goes f u x0 x1 x2 x3 = some (r0, u9)) : le2 u u9 := by
  rw [m_X0_goes] at hm
  by_cases c1 : isC u x2 6 = true
  · have hm := ifT hm c1
    obtain ⟨a3, h2, ea3, hm⟩ := bd2E hm
    have lh2 := mo_X6_rows ea3
    exact (lh2.tr (mo_X0_goes_4  h2 x0 x1 x2 x3 a3 _ hm))
  · have hm := ifF hm c1
    obtain ⟨g4, hm⟩ := gdE hm
    obtain ⟨a6, h5, ea6, hm⟩ := bd2E hm
    have lh5 := mo_X7_rows ea6
    exact (lh5.tr (mo_X0_goes_4  h5 x0 x1 x2 x3 a6 _ hm))
abbrev rm_X0_goes (mc ms : Nat) : Room := { frames := 105, cells := mc, slots := ms, locals := 4139 }
theorem cw_X0_goes {R : Room} {s : State} {args : Array Value} {own : String} {idx mc ms : Nat} (hts : ∀ w ∈ lw_all, w.before args s = true) (hl : Cond.methodLink own idx yX0_goes ∈ lw_all) (hR : 105 + 1 ≤ R.frames ∧ 8 + (11 + 11) + 4139 ≤ R.locals) : CallW R s args own RX0 idx yX0_goes cX0_goes 11 (Option.some Jvm.ClassFile.FieldType.boolean) (ws_ yX0_goes cX0_goes 11 (Option.some Jvm.ClassFile.FieldType.boolean)) (rm_X0_goes mc ms) mc ms 3 := cwV 3 hts (lw_V hl q1364 qs48 q119 q1365) rfl rfl rfl (by decide +kernel) hR
set_option maxHeartbeats 4000000 in
set_option maxRecDepth 100000 in
theorem w_X0_goes (l : Launch) {D : va_G} {dA : Nat → ClassId} {A : Nat → Prop} {f : Nat} {u u9 : CH} {r0 : Int32} {x0 : Nat} {x1 : Int32} {x2 : Nat} {x3 : Nat} (hm : m_X0_goes f u x0 x1 x2 x3 = some (r0, u9)) : Met l yX0_goes (ws_ yX0_goes cX0_goes 11 (Option.some Jvm.ClassFile.FieldType.boolean)) (rm_X0_goes (u9.1 - u.1) (u9.2.1 - u.2.1)) (va_Pc [.ref x0, .int x1, .ref x2, .ref x3] (CPre D dA A u)) (va_Qi (fun r u => r = r0 ∧ u = u9) (CPost D dA A) A) (u9.1 - u.1) (u9.2.1 - u.2.1) A := by
  refine Met.ofW (cc := cX0_goes) (maxL := 11) (ret := (Option.some Jvm.ClassFile.FieldType.boolean)) (by decide) rfl ?_
  intro p e s m args below meth c s₁ B hml hv
  have hx := B.exec
  have hb := B.bytes
  have hr := B.returns
  have hts := atoms_spec (ws := (ws_ yX0_goes cX0_goes 11 (Option.some Jvm.ClassFile.FieldType.boolean))) B.pre
  have hts : ∀ w ∈ lw_all, w.before args s = true := fun w h => hts w (List.mem_cons_of_mem _ h)
  have hown : s.vm.findClass RX0 = some m.cls := findClass_of_methodNamed B.named
  have hlocks := B.notSynchronized
  obtain ⟨hav, hv⟩ := hv
  have C : CX p s m args c cX0_goes RX0 D dA := ⟨hx, hb, hown, hts, hv.2⟩
  have hw : CW D dA A s u s.heap [] := hv.1
  generalize hQ : MQ below (va_Qi (fun r u => r = r0 ∧ u = u9) (CPost D dA A) A) args s (u9.1 - u.1) (u9.2.1 - u.2.1) A = QQ
  have hent := lg_entry_eq m [.ref x0, .int x1, .ref x2, .ref x3] 11
  rw [← hav] at hent
  rw [hent]
  have hl := lv_entry ([.ref x0, .int x1, .ref x2, .ref x3]) (n := 11) (Nat.le_of_ble_eq_true rfl)
  generalize (lg_sl ([.ref x0, .int x1, .ref x2, .ref x3]) ++ List.replicate (11 - (lg_sl ([.ref x0, .int x1, .ref x2, .ref x3])).length) Slot.unset).toArray = ls at hl ⊢
  have hl : lv_has ls 11 [(0, .ref x0), (1, .int x1), (2, .ref x2), (3, .ref x3)] := hl
  obtain ⟨cc, ecc⟩ : ∃ z : Nat, z = 0 := ⟨0, rfl⟩
  obtain ⟨ss, ess⟩ : ∃ z : Nat, z = 0 := ⟨0, rfl⟩
  have hcc : cc + u.1 = u.1 := by omega
  have hss : ss + u.2.1 = u.2.1 := by omega
  suffices hgo : W p l e (rm_X0_goes (u9.1 - u.1) (u9.2.1 - u.2.1)) s m args below meth c s.heap [] cc ss QQ (F0 m 0 ls []) by rw [ecc, ess] at hgo; exact hgo
  have ⟨pu, qu, _, _⟩ := mo_X0_goes hm
  have hB190 : ∀ (h : CH) (y0 : Int32) (cc ss : Nat) (H : Heap) (locs : List Loc) (ls : Array Slot), m_X0_goes_190 f h y0 = some (r0, u9) → CW D dA A s h H locs → cc + u.1 = h.1 → ss + u.2.1 = h.2.1 → lv_has ls 11 [] → W p l e (rm_X0_goes (u9.1 - u.1) (u9.2.1 - u.2.1)) s m args below meth c H locs cc ss QQ (F0 m 190 ls [.int y0]) := by
    intro h y0 cc ss H locs ls hm hw hcc hss hl
    have hmo := mo_X0_goes_190  h y0 _ hm
    have sb_ : h.1 ≤ u9.1 := hmo.1
    have tb_ : h.2.1 ≤ u9.2.1 := hmo.2.1
    rw [m_X0_goes_190] at hm
    obtain ⟨g1, hm⟩ := gdE hm
    obtain ⟨er, eh⟩ := retE hm
    have ec : cc = u9.1 - u.1 := by rw [← eh]; omega
    have es : ss = u9.2.1 - u.2.1 := by rw [← eh]; omega
    rw [ec, es, ← hQ]
    exact W.zret (v := y0) hx hb hr (zb_nar g1) (fun t ht hW => ⟨⟨y0, h, rfl, ⟨er, eh⟩, ⟨by rw [ht]; exact hw.1, by rw [ht]; exact hw.2.1⟩⟩, hw.2.2.1.F ht⟩) hw.2.2.1.2.2 dX0_goes_190
  have hB169 : ∀ (h : CH) (x7 : Int64) (y0 : Int64) (y1 : Int64) (cc ss : Nat) (H : Heap) (locs : List Loc) (ls : Array Slot), m_X0_goes_169 f h x7 y0 y1 = some (r0, u9) → CW D dA A s h H locs → cc + u.1 = h.1 → ss + u.2.1 = h.2.1 → lv_has ls 11 [(7, .long x7)] → W p l e (rm_X0_goes (u9.1 - u.1) (u9.2.1 - u.2.1)) s m args below meth c H locs cc ss QQ (F0 m 169 ls [.long y1, .long y0]) := by
    intro h x7 y0 y1 cc ss H locs ls hm hw hcc hss hl
    have hmo := mo_X0_goes_169  h x7 y0 y1 _ hm
    have sb_ : h.1 ≤ u9.1 := hmo.1
    have tb_ : h.2.1 ≤ u9.2.1 := hmo.2.1
    rw [m_X0_goes_169] at hm
    obtain ⟨r1, er1, hm⟩ := bdE hm
    refine scl (va_runS (As := [.long y1]) (rest := [.long y0]) ⟨hx, hb, hml, hown, hts⟩ (w_J9_abs l er1) (cw_J9_abs hts q933 ⟨Nat.le_of_ble_eq_true rfl, Nat.le_of_ble_eq_true rfl⟩) (pre_s _) rfl rfl hl.1 rfl (lv_room (Nat.le_of_ble_eq_true rfl)) dX0_goes_169 ⟨show cc + 0 ≤ u9.1 - u.1 by omega, show ss + 0 ≤ u9.2.1 - u.2.1 by omega⟩) ?_
    refine lv_lload hx hb dX0_goes_172 (lv_at hl 0 rfl) ?_
    refine lv_lmul hx hb dX0_goes_174 ?_
    refine lv_lload hx hb dX0_goes_175 (lv_at hl 0 rfl) ?_
    refine lv_lmul hx hb dX0_goes_177 ?_
    refine lv_lload hx hb dX0_goes_178 (lv_at hl 0 rfl) ?_
    refine lv_lmul hx hb dX0_goes_180 ?_
    refine lc_ne (tgt := 189) hx hb dX0_goes_181 dX0_goes_182 (by decide) (fun c2 => ?_) (fun c2 => ?_)
    · have hm := ifT hm c2
      refine lv_iconst (v := 0) hx hb dX0_goes_189 (by decide) ?_
      exact hB190 h (0 : Int32) _ _ _ _ _ hm hw (by omega) (by omega) (lv_sub hl [] rfl)
    · have hm := ifT' hm c2
      refine lv_iconst (v := 1) hx hb dX0_goes_185 (by decide) ?_
      refine lv_goto (tgt := 190) hx hb dX0_goes_186 (by decide) ?_
      exact hB190 h (1 : Int32) _ _ _ _ _ hm hw (by omega) (by omega) (lv_sub hl [] rfl)
  have hB166 : ∀ (h : CH) (x7 : Int64) (y0 : Int64) (y1 : Nat) (cc ss : Nat) (H : Heap) (locs : List Loc) (ls : Array Slot), m_X0_goes_166 f h x7 y0 y1 = some (r0, u9) → CW D dA A s h H locs → cc + u.1 = h.1 → ss + u.2.1 = h.2.1 → lv_has ls 11 [(7, .long x7)] → W p l e (rm_X0_goes (u9.1 - u.1) (u9.2.1 - u.2.1)) s m args below meth c H locs cc ss QQ (F0 m 166 ls [.ref y1, .long y0]) := by
    intro h x7 y0 y1 cc ss H locs ls hm hw hcc hss hl
    have hmo := mo_X0_goes_166  h x7 y0 y1 _ hm
    have sb_ : h.1 ≤ u9.1 := hmo.1
    have tb_ : h.2.1 ≤ u9.2.1 := hmo.2.1
    rw [m_X0_goes_166] at hm
    obtain ⟨g1, hm⟩ := gdE hm
    obtain ⟨r3, h2, er3, hm⟩ := bd2E hm
    have lh2 := mo_X2_determinant er3
    have ph2 : h.1 ≤ h2.1 := lh2.1
    have qh2 : h.2.1 ≤ h2.2.1 := lh2.2.1
    have hmo := mo_X0_goes_169   h2 x7 y0 r3 _ hm
    have sh2 : h2.1 ≤ u9.1 := hmo.1
    have th2 : h2.2.1 ≤ u9.2.1 := hmo.2.1
    refine cg_calll hw lh2 (va_runV (As := []) (rest := [.long y0]) ⟨hx, hb, hml, hown, hts⟩ (w_X2_determinant l er3) (cw_X2_determinant hts q1060 ⟨Nat.le_of_ble_eq_true rfl, Nat.le_of_ble_eq_true rfl⟩) (cg_preV C hw g1 rfl _) rfl rfl hl.1 rfl (lv_room (Nat.le_of_ble_eq_true rfl)) dX0_goes_166 ⟨show cc + (h2.1 - h.1) ≤ u9.1 - u.1 by omega, show ss + (h2.2.1 - h.2.1) ≤ u9.2.1 - u.2.1 by omega⟩) (fun H locs hw => ?_)
    exact hB169 h2 x7 y0 r3 _ _ _ _ _ hm hw (by omega) (by omega) (lv_sub hl [0] rfl)
  have hB150 : ∀ (h : CH) (x3 : Nat) (x7 : Int64) (x9 : Int64) (y0 : Int64) (cc ss : Nat) (H : Heap) (locs : List Loc) (ls : Array Slot), m_X0_goes_150 f h x3 x7 x9 y0 = some (r0, u9) → CW D dA A s h H locs → cc + u.1 = h.1 → ss + u.2.1 = h.2.1 → lv_has ls 11 [(3, .ref x3), (7, .long x7), (9, .long x9)] → W p l e (rm_X0_goes (u9.1 - u.1) (u9.2.1 - u.2.1)) s m args below meth c H locs cc ss QQ (F0 m 150 ls [.long y0]) := by
    intro h x3 x7 x9 y0 cc ss H locs ls hm hw hcc hss hl
    have hmo := mo_X0_goes_150  h x3 x7 x9 y0 _ hm
    have sb_ : h.1 ≤ u9.1 := hmo.1
    have tb_ : h.2.1 ≤ u9.2.1 := hmo.2.1
    rw [m_X0_goes_150] at hm
    obtain ⟨r1, er1, hm⟩ := bdE hm
    refine scl (va_runS (As := [.long y0]) (rest := []) ⟨hx, hb, hml, hown, hts⟩ (w_J9_abs l er1) (cw_J9_abs hts q933 ⟨Nat.le_of_ble_eq_true rfl, Nat.le_of_ble_eq_true rfl⟩) (pre_s _) rfl rfl hl.1 rfl (lv_room (Nat.le_of_ble_eq_true rfl)) dX0_goes_150 ⟨show cc + 0 ≤ u9.1 - u.1 by omega, show ss + 0 ≤ u9.2.1 - u.2.1 by omega⟩) ?_
    refine lv_lload hx hb dX0_goes_153 (lv_at hl 2 rfl) ?_
    refine lv_lmul hx hb dX0_goes_155 ?_
    refine lv_lload hx hb dX0_goes_156 (lv_at hl 2 rfl) ?_
    refine lv_lmul hx hb dX0_goes_158 ?_
    refine lv_lload hx hb dX0_goes_159 (lv_at hl 2 rfl) ?_
    refine lv_lmul hx hb dX0_goes_161 ?_
    refine lv_aload_n hx hb dX0_goes_162 rfl (lv_at hl 0 rfl) ?_
    by_cases c2 : isC h x3 6 = true
    · have hm := ifT hm c2
      obtain ⟨a4, h3, ea4, hm⟩ := bd2E hm
      have lh3 := mo_X6_rows ea4
      have ph3 : h.1 ≤ h3.1 := lh3.1
      have qh3 : h.2.1 ≤ h3.2.1 := lh3.2.1
      have hmo := mo_X0_goes_166   h3 x7 (((r1 * x9) * x9) * x9) a4 _ hm
      have sh3 : h3.1 ≤ u9.1 := hmo.1
      have th3 : h3.2.1 ≤ u9.2.1 := hmo.2.1
      refine cg_callr hw lh3 (va_runV (As := []) (rest := [.long (((r1 * x9) * x9) * x9)]) ⟨hx, hb, hml, hown, hts⟩ (w_X6_rows l ea4) (cw_X6_rows hts q904 ⟨Nat.le_of_ble_eq_true rfl, Nat.le_of_ble_eq_true rfl⟩) (cg_preV C hw c2 rfl _) rfl rfl hl.1 rfl (lv_room (Nat.le_of_ble_eq_true rfl)) dX0_goes_163 ⟨show cc + (h3.1 - h.1) ≤ u9.1 - u.1 by omega, show ss + (h3.2.1 - h.2.1) ≤ u9.2.1 - u.2.1 by omega⟩) (fun H locs hw => ?_)
      exact hB166 h3 x7 (((r1 * x9) * x9) * x9) a4 _ _ _ _ _ hm hw (by omega) (by omega) (lv_sub hl [1] rfl)
    · have hm := ifF hm c2
      obtain ⟨g5, hm⟩ := gdE hm
      obtain ⟨a7, h6, ea7, hm⟩ := bd2E hm
      have lh6 := mo_X7_rows ea7
      have ph6 : h.1 ≤ h6.1 := lh6.1
      have qh6 : h.2.1 ≤ h6.2.1 := lh6.2.1
      have hmo := mo_X0_goes_166   h6 x7 (((r1 * x9) * x9) * x9) a7 _ hm
      have sh6 : h6.1 ≤ u9.1 := hmo.1
      have th6 : h6.2.1 ≤ u9.2.1 := hmo.2.1
      refine cg_callr hw lh6 (va_runU (As := []) (rest := [.long (((r1 * x9) * x9) * x9)]) ⟨hx, hb, hml, hown, hts⟩ (w_X7_rows l ea7) (va_cwO 0 hts (lwO q904 q907 q905 q908 q909 q144 q910) rfl rfl rfl q940 (by decide +kernel) ⟨Nat.le_of_ble_eq_true rfl, Nat.le_of_ble_eq_true rfl⟩) (cg_preV C hw g5 rfl _) rfl rfl hl.1 rfl (lv_room (Nat.le_of_ble_eq_true rfl)) dX0_goes_163 ⟨show cc + (h6.1 - h.1) ≤ u9.1 - u.1 by omega, show ss + (h6.2.1 - h.2.1) ≤ u9.2.1 - u.2.1 by omega⟩) (fun H locs hw => ?_)
      exact hB166 h6 x7 (((r1 * x9) * x9) * x9) a7 _ _ _ _ _ hm hw (by omega) (by omega) (lv_sub hl [1] rfl)
  have hB143 : ∀ (h : CH) (x3 : Nat) (x4 : Nat) (x7 : Int64) (y0 : Int64) (cc ss : Nat) (H : Heap) (locs : List Loc) (ls : Array Slot), m_X0_goes_143 f h x3 x4 x7 y0 = some (r0, u9) → CW D dA A s h H locs → cc + u.1 = h.1 → ss + u.2.1 = h.2.1 → lv_has ls 11 [(3, .ref x3), (4, .ref x4), (7, .long x7)] → W p l e (rm_X0_goes (u9.1 - u.1) (u9.2.1 - u.2.1)) s m args below meth c H locs cc ss QQ (F0 m 143 ls [.long y0]) := by
    intro h x3 x4 x7 y0 cc ss H locs ls hm hw hcc hss hl
    have hmo := mo_X0_goes_143  h x3 x4 x7 y0 _ hm
    have sb_ : h.1 ≤ u9.1 := hmo.1
    have tb_ : h.2.1 ≤ u9.2.1 := hmo.2.1
    rw [m_X0_goes_143] at hm
    refine lv_lstore (lv' := [(9, .long y0), (3, .ref x3), (4, .ref x4), (7, .long x7)]) hx hb dX0_goes_143 hl (by decide) rfl (fun ls hl => ?_)
    refine lv_aload hx hb dX0_goes_145 (lv_at hl 2 rfl) ?_
    obtain ⟨g1, hm⟩ := gdE hm
    obtain ⟨r3, h2, er3, hm⟩ := bd2E hm
    have lh2 := mo_X2_determinant er3
    have ph2 : h.1 ≤ h2.1 := lh2.1
    have qh2 : h.2.1 ≤ h2.2.1 := lh2.2.1
    have hmo := mo_X0_goes_150   h2 x3 x7 y0 r3 _ hm
    have sh2 : h2.1 ≤ u9.1 := hmo.1
    have th2 : h2.2.1 ≤ u9.2.1 := hmo.2.1
    refine cg_calll hw lh2 (va_runV (As := []) (rest := []) ⟨hx, hb, hml, hown, hts⟩ (w_X2_determinant l er3) (cw_X2_determinant hts q1060 ⟨Nat.le_of_ble_eq_true rfl, Nat.le_of_ble_eq_true rfl⟩) (cg_preV C hw g1 rfl _) rfl rfl hl.1 rfl (lv_room (Nat.le_of_ble_eq_true rfl)) dX0_goes_147 ⟨show cc + (h2.1 - h.1) ≤ u9.1 - u.1 by omega, show ss + (h2.2.1 - h.2.1) ≤ u9.2.1 - u.2.1 by omega⟩) (fun H locs hw => ?_)
    exact hB150 h2 x3 x7 y0 r3 _ _ _ _ _ hm hw (by omega) (by omega) (lv_sub hl [1, 3, 0] rfl)
  have hB137 : ∀ (h : CH) (x3 : Nat) (x4 : Nat) (y0 : Int64) (cc ss : Nat) (H : Heap) (locs : List Loc) (ls : Array Slot), m_X0_goes_137 f h x3 x4 y0 = some (r0, u9) → CW D dA A s h H locs → cc + u.1 = h.1 → ss + u.2.1 = h.2.1 → lv_has ls 11 [(3, .ref x3), (4, .ref x4)] → W p l e (rm_X0_goes (u9.1 - u.1) (u9.2.1 - u.2.1)) s m args below meth c H locs cc ss QQ (F0 m 137 ls [.long y0]) := by
    intro h x3 x4 y0 cc ss H locs ls hm hw hcc hss hl
    have hmo := mo_X0_goes_137  h x3 x4 y0 _ hm
    have sb_ : h.1 ≤ u9.1 := hmo.1
    have tb_ : h.2.1 ≤ u9.2.1 := hmo.2.1
    rw [m_X0_goes_137] at hm
    refine lv_lstore (lv' := [(7, .long y0), (3, .ref x3), (4, .ref x4)]) hx hb dX0_goes_137 hl (by decide) rfl (fun ls hl => ?_)
    refine lv_aload_n hx hb dX0_goes_139 rfl (lv_at hl 1 rfl) ?_
    by_cases c1 : isC h x3 6 = true
    · have hm := ifT hm c1
      obtain ⟨r3, h2, er3, hm⟩ := bd2E hm
      have lh2 := mo_X6_over er3
      have ph2 : h.1 ≤ h2.1 := lh2.1
      have qh2 : h.2.1 ≤ h2.2.1 := lh2.2.1
      have hmo := mo_X0_goes_143   h2 x3 x4 y0 r3 _ hm
      have sh2 : h2.1 ≤ u9.1 := hmo.1
      have th2 : h2.2.1 ≤ u9.2.1 := hmo.2.1
      refine cg_calll hw lh2 (va_runV (As := []) (rest := []) ⟨hx, hb, hml, hown, hts⟩ (w_X6_over l er3) (cw_X6_over hts q945 ⟨Nat.le_of_ble_eq_true rfl, Nat.le_of_ble_eq_true rfl⟩) (cg_preV C hw c1 rfl _) rfl rfl hl.1 rfl (lv_room (Nat.le_of_ble_eq_true rfl)) dX0_goes_140 ⟨show cc + (h2.1 - h.1) ≤ u9.1 - u.1 by omega, show ss + (h2.2.1 - h.2.1) ≤ u9.2.1 - u.2.1 by omega⟩) (fun H locs hw => ?_)
      exact hB143 h2 x3 x4 y0 r3 _ _ _ _ _ hm hw (by omega) (by omega) (lv_sub hl [1, 2, 0] rfl)
    · have hm := ifF hm c1
      obtain ⟨g4, hm⟩ := gdE hm
      obtain ⟨r6, h5, er6, hm⟩ := bd2E hm
      have lh5 := mo_X7_over er6
      have ph5 : h.1 ≤ h5.1 := lh5.1
      have qh5 : h.2.1 ≤ h5.2.1 := lh5.2.1
      have hmo := mo_X0_goes_143   h5 x3 x4 y0 r6 _ hm
      have sh5 : h5.1 ≤ u9.1 := hmo.1
      have th5 : h5.2.1 ≤ u9.2.1 := hmo.2.1
      refine cg_calll hw lh5 (va_runU (As := []) (rest := []) ⟨hx, hb, hml, hown, hts⟩ (w_X7_over l er6) (va_cwO 0 hts (lwO q945 q948 q946 q949 q950 q144 q951) rfl rfl rfl q952 (by decide +kernel) ⟨Nat.le_of_ble_eq_true rfl, Nat.le_of_ble_eq_true rfl⟩) (cg_preV C hw g4 rfl _) rfl rfl hl.1 rfl (lv_room (Nat.le_of_ble_eq_true rfl)) dX0_goes_140 ⟨show cc + (h5.1 - h.1) ≤ u9.1 - u.1 by omega, show ss + (h5.2.1 - h.2.1) ≤ u9.2.1 - u.2.1 by omega⟩) (fun H locs hw => ?_)
      exact hB143 h5 x3 x4 y0 r6 _ _ _ _ _ hm hw (by omega) (by omega) (lv_sub hl [1, 2, 0] rfl)
  have hB133 : ∀ (h : CH) (x2 : Nat) (x3 : Nat) (x4 : Nat) (cc ss : Nat) (H : Heap) (locs : List Loc) (ls : Array Slot), m_X0_goes_133 f h x2 x3 x4 = some (r0, u9) → CW D dA A s h H locs → cc + u.1 = h.1 → ss + u.2.1 = h.2.1 → lv_has ls 11 [(2, .ref x2), (3, .ref x3), (4, .ref x4)] → W p l e (rm_X0_goes (u9.1 - u.1) (u9.2.1 - u.2.1)) s m args below meth c H locs cc ss QQ (F0 m 133 ls []) := by
    intro h x2 x3 x4 cc ss H locs ls hm hw hcc hss hl
    have hmo := mo_X0_goes_133  h x2 x3 x4 _ hm
    have sb_ : h.1 ≤ u9.1 := hmo.1
    have tb_ : h.2.1 ≤ u9.2.1 := hmo.2.1
    rw [m_X0_goes_133] at hm
    refine lv_aload_n hx hb dX0_goes_133 rfl (lv_at hl 0 rfl) ?_
    by_cases c1 : isC h x2 6 = true
    · have hm := ifT hm c1
      obtain ⟨r3, h2, er3, hm⟩ := bd2E hm
      have lh2 := mo_X6_over er3
      have ph2 : h.1 ≤ h2.1 := lh2.1
      have qh2 : h.2.1 ≤ h2.2.1 := lh2.2.1
      have hmo := mo_X0_goes_137   h2 x3 x4 r3 _ hm
      have sh2 : h2.1 ≤ u9.1 := hmo.1
      have th2 : h2.2.1 ≤ u9.2.1 := hmo.2.1
      refine cg_calll hw lh2 (va_runV (As := []) (rest := []) ⟨hx, hb, hml, hown, hts⟩ (w_X6_over l er3) (cw_X6_over hts q945 ⟨Nat.le_of_ble_eq_true rfl, Nat.le_of_ble_eq_true rfl⟩) (cg_preV C hw c1 rfl _) rfl rfl hl.1 rfl (lv_room (Nat.le_of_ble_eq_true rfl)) dX0_goes_134 ⟨show cc + (h2.1 - h.1) ≤ u9.1 - u.1 by omega, show ss + (h2.2.1 - h.2.1) ≤ u9.2.1 - u.2.1 by omega⟩) (fun H locs hw => ?_)
      exact hB137 h2 x3 x4 r3 _ _ _ _ _ hm hw (by omega) (by omega) (lv_sub hl [1, 2] rfl)
    · have hm := ifF hm c1
      obtain ⟨g4, hm⟩ := gdE hm
      obtain ⟨r6, h5, er6, hm⟩ := bd2E hm
      have lh5 := mo_X7_over er6
      have ph5 : h.1 ≤ h5.1 := lh5.1
      have qh5 : h.2.1 ≤ h5.2.1 := lh5.2.1
      have hmo := mo_X0_goes_137   h5 x3 x4 r6 _ hm
      have sh5 : h5.1 ≤ u9.1 := hmo.1
      have th5 : h5.2.1 ≤ u9.2.1 := hmo.2.1
      refine cg_calll hw lh5 (va_runU (As := []) (rest := []) ⟨hx, hb, hml, hown, hts⟩ (w_X7_over l er6) (va_cwO 0 hts (lwO q945 q948 q946 q949 q950 q144 q951) rfl rfl rfl q952 (by decide +kernel) ⟨Nat.le_of_ble_eq_true rfl, Nat.le_of_ble_eq_true rfl⟩) (cg_preV C hw g4 rfl _) rfl rfl hl.1 rfl (lv_room (Nat.le_of_ble_eq_true rfl)) dX0_goes_134 ⟨show cc + (h5.1 - h.1) ≤ u9.1 - u.1 by omega, show ss + (h5.2.1 - h.2.1) ≤ u9.2.1 - u.2.1 by omega⟩) (fun H locs hw => ?_)
      exact hB137 h5 x3 x4 r6 _ _ _ _ _ hm hw (by omega) (by omega) (lv_sub hl [1, 2] rfl)
  have hB125 : ∀ (h : CH) (cc ss : Nat) (H : Heap) (locs : List Loc) (ls : Array Slot), m_X0_goes_125 f h = some (r0, u9) → CW D dA A s h H locs → cc + u.1 = h.1 → ss + u.2.1 = h.2.1 → lv_has ls 11 [] → W p l e (rm_X0_goes (u9.1 - u.1) (u9.2.1 - u.2.1)) s m args below meth c H locs cc ss QQ (F0 m 125 ls []) := by
    intro h cc ss H locs ls hm hw hcc hss hl
    have hmo := mo_X0_goes_125  h _ hm
    have sb_ : h.1 ≤ u9.1 := hmo.1
    have tb_ : h.2.1 ≤ u9.2.1 := hmo.2.1
    rw [m_X0_goes_125] at hm
    refine lv_iconst (v := 0) hx hb dX0_goes_125 (by decide) ?_
    obtain ⟨er, eh⟩ := retE hm
    have ec : cc = u9.1 - u.1 := by rw [← eh]; omega
    have es : ss = u9.2.1 - u.2.1 := by rw [← eh]; omega
    rw [ec, es, ← hQ]
    exact W.zret (v := (0 : Int32)) hx hb hr rfl (fun t ht hW => ⟨⟨(0 : Int32), h, rfl, ⟨er, eh⟩, ⟨by rw [ht]; exact hw.1, by rw [ht]; exact hw.2.1⟩⟩, hw.2.2.1.F ht⟩) hw.2.2.1.2.2 dX0_goes_126
  have hB25 : ∀ (n25 : Nat), ∀ (h : CH) (x1 : Int32) (x2 : Nat) (x3 : Nat) (x4 : Nat) (x5 : Nat) (x6 : Nat) (x7 : Int32) (cc ss : Nat) (H : Heap) (locs : List Loc) (ls : Array Slot), m_X0_goes_25 f n25 h x1 x2 x3 x4 x5 x6 x7 = some (r0, u9) → CW D dA A s h H locs → cc + u.1 = h.1 → ss + u.2.1 = h.2.1 → lv_has ls 11 [(1, .int x1), (2, .ref x2), (3, .ref x3), (4, .ref x4), (5, .ref x5), (6, .ref x6), (7, .int x7)] → W p l e (rm_X0_goes (u9.1 - u.1) (u9.2.1 - u.2.1)) s m args below meth c H locs cc ss QQ (F0 m 25 ls []) := by
    intro n25
    induction n25 with
    | zero => intro h x1 x2 x3 x4 x5 x6 x7 cc ss H locs ls hm hw hcc hss hl; rw [m_X0_goes_25] at hm; exact noE hm
    | succ n25 ih25 =>
      have hB122 : ∀ (h : CH) (x1 : Int32) (x2 : Nat) (x3 : Nat) (x4 : Nat) (x5 : Nat) (x6 : Nat) (x7 : Int32) (y0 : Int32) (cc ss : Nat) (H : Heap) (locs : List Loc) (ls : Array Slot), m_X0_goes_122 f (m_X0_goes_25 f n25) h x1 x2 x3 x4 x5 x6 x7 y0 = some (r0, u9) → CW D dA A s h H locs → cc + u.1 = h.1 → ss + u.2.1 = h.2.1 → lv_has ls 11 [(1, .int x1), (2, .ref x2), (3, .ref x3), (4, .ref x4), (5, .ref x5), (6, .ref x6), (7, .int x7)] → W p l e (rm_X0_goes (u9.1 - u.1) (u9.2.1 - u.2.1)) s m args below meth c H locs cc ss QQ (F0 m 122 ls [.int y0]) := by
        intro h x1 x2 x3 x4 x5 x6 x7 y0 cc ss H locs ls hm hw hcc hss hl
        have hmo := mo_X0_goes_122 (mo_X0_goes_25 n25) h x1 x2 x3 x4 x5 x6 x7 y0 _ hm
        have sb_ : h.1 ≤ u9.1 := hmo.1
        have tb_ : h.2.1 ≤ u9.2.1 := hmo.2.1
        rw [m_X0_goes_122] at hm
        refine lv_if_ne (tgt := 127) hx hb dX0_goes_122 (by decide) (fun c1 => ?_) (fun c1 => ?_)
        · have hm := ifT hm c1
          obtain ⟨v2, ev2, hm⟩ := nmE hm
          refine lv_iinc (v := v2) (lv' := [(7, .int v2), (1, .int x1), (2, .ref x2), (3, .ref x3), (4, .ref x4), (5, .ref x5), (6, .ref x6)]) hx hb dX0_goes_127 hl (k := 6) rfl (by rw [ev2]; rfl) (by decide) rfl (fun ls hl => ?_)
          refine lv_goto (tgt := 25) hx hb dX0_goes_130 (by decide) ?_
          exact ih25 h x1 x2 x3 x4 x5 x6 v2 _ _ _ _ _ hm hw (by omega) (by omega) (lv_sub hl [1, 2, 3, 4, 5, 6, 0] rfl)
        · have hm := ifT' hm c1
          exact hB125 h _ _ _ _ _ hm hw (by omega) (by omega) (lv_sub hl [] rfl)
      have hB119 : ∀ (h : CH) (x1 : Int32) (x2 : Nat) (x3 : Nat) (x4 : Nat) (x5 : Nat) (x6 : Nat) (x7 : Int32) (y0 : Nat) (y1 : Int64) (y2 : Int64) (y3 : Int64) (y4 : Int64) (y5 : Int64) (cc ss : Nat) (H : Heap) (locs : List Loc) (ls : Array Slot), m_X0_goes_119 f (m_X0_goes_25 f n25) h x1 x2 x3 x4 x5 x6 x7 y0 y1 y2 y3 y4 y5 = some (r0, u9) → CW D dA A s h H locs → cc + u.1 = h.1 → ss + u.2.1 = h.2.1 → lv_has ls 11 [(1, .int x1), (2, .ref x2), (3, .ref x3), (4, .ref x4), (5, .ref x5), (6, .ref x6), (7, .int x7)] → W p l e (rm_X0_goes (u9.1 - u.1) (u9.2.1 - u.2.1)) s m args below meth c H locs cc ss QQ (F0 m 119 ls [.long y5, .long y4, .long y3, .long y2, .long y1, .ref y0]) := by
        intro h x1 x2 x3 x4 x5 x6 x7 y0 y1 y2 y3 y4 y5 cc ss H locs ls hm hw hcc hss hl
        have hmo := mo_X0_goes_119 (mo_X0_goes_25 n25) h x1 x2 x3 x4 x5 x6 x7 y0 y1 y2 y3 y4 y5 _ hm
        have sb_ : h.1 ≤ u9.1 := hmo.1
        have tb_ : h.2.1 ≤ u9.2.1 := hmo.2.1
        rw [m_X0_goes_119] at hm
        obtain ⟨r2, h1, er2, hm⟩ := bd2E hm
        have lh1 := mo_X0_have er2
        have ph1 : h.1 ≤ h1.1 := lh1.1
        have qh1 : h.2.1 ≤ h1.2.1 := lh1.2.1
        have hmo := mo_X0_goes_122 (mo_X0_goes_25 n25)  h1 x1 x2 x3 x4 x5 x6 x7 r2 _ hm
        have sh1 : h1.1 ≤ u9.1 := hmo.1
        have th1 : h1.2.1 ≤ u9.2.1 := hmo.2.1
        refine cg_calli hw lh1 (va_runS (As := [.ref y0, .long y1, .long y2, .long y3, .long y4, .long y5]) (rest := []) ⟨hx, hb, hml, hown, hts⟩ (w_X0_have l er2) (cw_X0_have hts q1085 ⟨Nat.le_of_ble_eq_true rfl, Nat.le_of_ble_eq_true rfl⟩) (cg_preS C hw _) rfl rfl hl.1 rfl (lv_room (Nat.le_of_ble_eq_true rfl)) dX0_goes_119 ⟨show cc + (h1.1 - h.1) ≤ u9.1 - u.1 by omega, show ss + (h1.2.1 - h.2.1) ≤ u9.2.1 - u.2.1 by omega⟩) (fun H locs hw => ?_)
        exact hB122 h1 x1 x2 x3 x4 x5 x6 x7 r2 _ _ _ _ _ hm hw (by omega) (by omega) (lv_sub hl [0, 1, 2, 3, 4, 5, 6] rfl)
      have hB103 : ∀ (h : CH) (x1 : Int32) (x2 : Nat) (x3 : Nat) (x4 : Nat) (x5 : Nat) (x6 : Nat) (x7 : Int32) (y0 : Nat) (y1 : Int64) (cc ss : Nat) (H : Heap) (locs : List Loc) (ls : Array Slot), m_X0_goes_103 f (m_X0_goes_25 f n25) h x1 x2 x3 x4 x5 x6 x7 y0 y1 = some (r0, u9) → CW D dA A s h H locs → cc + u.1 = h.1 → ss + u.2.1 = h.2.1 → lv_has ls 11 [(1, .int x1), (2, .ref x2), (3, .ref x3), (4, .ref x4), (5, .ref x5), (6, .ref x6), (7, .int x7)] → W p l e (rm_X0_goes (u9.1 - u.1) (u9.2.1 - u.2.1)) s m args below meth c H locs cc ss QQ (F0 m 103 ls [.long y1, .ref y0]) := by
        intro h x1 x2 x3 x4 x5 x6 x7 y0 y1 cc ss H locs ls hm hw hcc hss hl
        have hmo := mo_X0_goes_103 (mo_X0_goes_25 n25) h x1 x2 x3 x4 x5 x6 x7 y0 y1 _ hm
        have sb_ : h.1 ≤ u9.1 := hmo.1
        have tb_ : h.2.1 ≤ u9.2.1 := hmo.2.1
        rw [m_X0_goes_103] at hm
        refine lv_aload hx hb dX0_goes_103 (lv_at hl 5 rfl) ?_
        refine lv_iconst (v := 0) hx hb dX0_goes_105 (by decide) ?_
        obtain ⟨v1, ev1, hm⟩ := bdE hm
        refine cg_lald C hw ev1 dX0_goes_106 ?_
        refine lv_aload hx hb dX0_goes_107 (lv_at hl 5 rfl) ?_
        refine lv_iconst (v := 1) hx hb dX0_goes_109 (by decide) ?_
        obtain ⟨v2, ev2, hm⟩ := bdE hm
        refine cg_lald C hw ev2 dX0_goes_110 ?_
        refine lv_aload hx hb dX0_goes_111 (lv_at hl 5 rfl) ?_
        refine lv_iconst (v := 2) hx hb dX0_goes_113 (by decide) ?_
        obtain ⟨v3, ev3, hm⟩ := bdE hm
        refine cg_lald C hw ev3 dX0_goes_114 ?_
        refine lv_aload_n hx hb dX0_goes_115 rfl (lv_at hl 1 rfl) ?_
        by_cases c4 : isC h x2 6 = true
        · have hm := ifT hm c4
          obtain ⟨r6, h5, er6, hm⟩ := bd2E hm
          have lh5 := mo_X6_over er6
          have ph5 : h.1 ≤ h5.1 := lh5.1
          have qh5 : h.2.1 ≤ h5.2.1 := lh5.2.1
          have hmo := mo_X0_goes_119 (mo_X0_goes_25 n25)  h5 x1 x2 x3 x4 x5 x6 x7 y0 y1 v1 v2 v3 r6 _ hm
          have sh5 : h5.1 ≤ u9.1 := hmo.1
          have th5 : h5.2.1 ≤ u9.2.1 := hmo.2.1
          refine cg_calll hw lh5 (runV20 (As := []) (rest := [.long v3, .long v2, .long v1, .long y1, .ref y0]) ⟨hx, hb, hml, hown, hts⟩ (w_X6_over l er6) (cw_X6_over hts q945 ⟨Nat.le_of_ble_eq_true rfl, Nat.le_of_ble_eq_true rfl⟩) (Nat.le_of_ble_eq_true rfl) (cg_preV C hw c4 rfl _) rfl rfl hl.1 rfl (lv_room20 (Nat.le_of_ble_eq_true rfl)) dX0_goes_116 ⟨show cc + (h5.1 - h.1) ≤ u9.1 - u.1 by omega, show ss + (h5.2.1 - h.2.1) ≤ u9.2.1 - u.2.1 by omega⟩) (fun H locs hw => ?_)
          exact hB119 h5 x1 x2 x3 x4 x5 x6 x7 y0 y1 v1 v2 v3 r6 _ _ _ _ _ hm hw (by omega) (by omega) (lv_sub hl [0, 1, 2, 3, 4, 5, 6] rfl)
        · have hm := ifF hm c4
          obtain ⟨g7, hm⟩ := gdE hm
          obtain ⟨r9, h8, er9, hm⟩ := bd2E hm
          have lh8 := mo_X7_over er9
          have ph8 : h.1 ≤ h8.1 := lh8.1
          have qh8 : h.2.1 ≤ h8.2.1 := lh8.2.1
          have hmo := mo_X0_goes_119 (mo_X0_goes_25 n25)  h8 x1 x2 x3 x4 x5 x6 x7 y0 y1 v1 v2 v3 r9 _ hm
          have sh8 : h8.1 ≤ u9.1 := hmo.1
          have th8 : h8.2.1 ≤ u9.2.1 := hmo.2.1
          refine cg_calll hw lh8 (runU20 (As := []) (rest := [.long v3, .long v2, .long v1, .long y1, .ref y0]) ⟨hx, hb, hml, hown, hts⟩ (w_X7_over l er9) (va_cwO 0 hts (lwO q945 q948 q946 q949 q950 q144 q951) rfl rfl rfl q952 (by decide +kernel) ⟨Nat.le_of_ble_eq_true rfl, Nat.le_of_ble_eq_true rfl⟩) (Nat.le_of_ble_eq_true rfl) (cg_preV C hw g7 rfl _) rfl rfl hl.1 rfl (lv_room20 (Nat.le_of_ble_eq_true rfl)) dX0_goes_116 ⟨show cc + (h8.1 - h.1) ≤ u9.1 - u.1 by omega, show ss + (h8.2.1 - h.2.1) ≤ u9.2.1 - u.2.1 by omega⟩) (fun H locs hw => ?_)
          exact hB119 h8 x1 x2 x3 x4 x5 x6 x7 y0 y1 v1 v2 v3 r9 _ _ _ _ _ hm hw (by omega) (by omega) (lv_sub hl [0, 1, 2, 3, 4, 5, 6] rfl)
      have hB99 : ∀ (h : CH) (x1 : Int32) (x2 : Nat) (x3 : Nat) (x4 : Nat) (x5 : Nat) (x6 : Nat) (x7 : Int32) (y0 : Nat) (cc ss : Nat) (H : Heap) (locs : List Loc) (ls : Array Slot), m_X0_goes_99 f (m_X0_goes_25 f n25) h x1 x2 x3 x4 x5 x6 x7 y0 = some (r0, u9) → CW D dA A s h H locs → cc + u.1 = h.1 → ss + u.2.1 = h.2.1 → lv_has ls 11 [(1, .int x1), (2, .ref x2), (3, .ref x3), (4, .ref x4), (5, .ref x5), (6, .ref x6), (7, .int x7)] → W p l e (rm_X0_goes (u9.1 - u.1) (u9.2.1 - u.2.1)) s m args below meth c H locs cc ss QQ (F0 m 99 ls [.ref y0]) := by
        intro h x1 x2 x3 x4 x5 x6 x7 y0 cc ss H locs ls hm hw hcc hss hl
        have hmo := mo_X0_goes_99 (mo_X0_goes_25 n25) h x1 x2 x3 x4 x5 x6 x7 y0 _ hm
        have sb_ : h.1 ≤ u9.1 := hmo.1
        have tb_ : h.2.1 ≤ u9.2.1 := hmo.2.1
        rw [m_X0_goes_99] at hm
        refine lv_aload_n hx hb dX0_goes_99 rfl (lv_at hl 2 rfl) ?_
        by_cases c1 : isC h x3 6 = true
        · have hm := ifT hm c1
          obtain ⟨r3, h2, er3, hm⟩ := bd2E hm
          have lh2 := mo_X6_over er3
          have ph2 : h.1 ≤ h2.1 := lh2.1
          have qh2 : h.2.1 ≤ h2.2.1 := lh2.2.1
          have hmo := mo_X0_goes_103 (mo_X0_goes_25 n25)  h2 x1 x2 x3 x4 x5 x6 x7 y0 r3 _ hm
          have sh2 : h2.1 ≤ u9.1 := hmo.1
          have th2 : h2.2.1 ≤ u9.2.1 := hmo.2.1
          refine cg_calll hw lh2 (va_runV (As := []) (rest := [.ref y0]) ⟨hx, hb, hml, hown, hts⟩ (w_X6_over l er3) (cw_X6_over hts q945 ⟨Nat.le_of_ble_eq_true rfl, Nat.le_of_ble_eq_true rfl⟩) (cg_preV C hw c1 rfl _) rfl rfl hl.1 rfl (lv_room (Nat.le_of_ble_eq_true rfl)) dX0_goes_100 ⟨show cc + (h2.1 - h.1) ≤ u9.1 - u.1 by omega, show ss + (h2.2.1 - h.2.1) ≤ u9.2.1 - u.2.1 by omega⟩) (fun H locs hw => ?_)
          exact hB103 h2 x1 x2 x3 x4 x5 x6 x7 y0 r3 _ _ _ _ _ hm hw (by omega) (by omega) (lv_sub hl [0, 1, 2, 3, 4, 5, 6] rfl)
        · have hm := ifF hm c1
          obtain ⟨g4, hm⟩ := gdE hm
          obtain ⟨r6, h5, er6, hm⟩ := bd2E hm
          have lh5 := mo_X7_over er6
          have ph5 : h.1 ≤ h5.1 := lh5.1
          have qh5 : h.2.1 ≤ h5.2.1 := lh5.2.1
          have hmo := mo_X0_goes_103 (mo_X0_goes_25 n25)  h5 x1 x2 x3 x4 x5 x6 x7 y0 r6 _ hm
          have sh5 : h5.1 ≤ u9.1 := hmo.1
          have th5 : h5.2.1 ≤ u9.2.1 := hmo.2.1
          refine cg_calll hw lh5 (va_runU (As := []) (rest := [.ref y0]) ⟨hx, hb, hml, hown, hts⟩ (w_X7_over l er6) (va_cwO 0 hts (lwO q945 q948 q946 q949 q950 q144 q951) rfl rfl rfl q952 (by decide +kernel) ⟨Nat.le_of_ble_eq_true rfl, Nat.le_of_ble_eq_true rfl⟩) (cg_preV C hw g4 rfl _) rfl rfl hl.1 rfl (lv_room (Nat.le_of_ble_eq_true rfl)) dX0_goes_100 ⟨show cc + (h5.1 - h.1) ≤ u9.1 - u.1 by omega, show ss + (h5.2.1 - h.2.1) ≤ u9.2.1 - u.2.1 by omega⟩) (fun H locs hw => ?_)
          exact hB103 h5 x1 x2 x3 x4 x5 x6 x7 y0 r6 _ _ _ _ _ hm hw (by omega) (by omega) (lv_sub hl [0, 1, 2, 3, 4, 5, 6] rfl)
      have hB95 : ∀ (h : CH) (x1 : Int32) (x2 : Nat) (x3 : Nat) (x4 : Nat) (x5 : Nat) (x6 : Nat) (x7 : Int32) (cc ss : Nat) (H : Heap) (locs : List Loc) (ls : Array Slot), m_X0_goes_95 f (m_X0_goes_25 f n25) h x1 x2 x3 x4 x5 x6 x7 = some (r0, u9) → CW D dA A s h H locs → cc + u.1 = h.1 → ss + u.2.1 = h.2.1 → lv_has ls 11 [(1, .int x1), (2, .ref x2), (3, .ref x3), (4, .ref x4), (5, .ref x5), (6, .ref x6), (7, .int x7)] → W p l e (rm_X0_goes (u9.1 - u.1) (u9.2.1 - u.2.1)) s m args below meth c H locs cc ss QQ (F0 m 95 ls []) := by
        intro h x1 x2 x3 x4 x5 x6 x7 cc ss H locs ls hm hw hcc hss hl
        have hmo := mo_X0_goes_95 (mo_X0_goes_25 n25) h x1 x2 x3 x4 x5 x6 x7 _ hm
        have sb_ : h.1 ≤ u9.1 := hmo.1
        have tb_ : h.2.1 ≤ u9.2.1 := hmo.2.1
        rw [m_X0_goes_95] at hm
        refine lv_aload_n hx hb dX0_goes_95 rfl (lv_at hl 2 rfl) ?_
        by_cases c1 : isC h x3 6 = true
        · have hm := ifT hm c1
          obtain ⟨a3, h2, ea3, hm⟩ := bd2E hm
          have lh2 := mo_X6_rows ea3
          have ph2 : h.1 ≤ h2.1 := lh2.1
          have qh2 : h.2.1 ≤ h2.2.1 := lh2.2.1
          have hmo := mo_X0_goes_99 (mo_X0_goes_25 n25)  h2 x1 x2 x3 x4 x5 x6 x7 a3 _ hm
          have sh2 : h2.1 ≤ u9.1 := hmo.1
          have th2 : h2.2.1 ≤ u9.2.1 := hmo.2.1
          refine cg_callr hw lh2 (va_runV (As := []) (rest := []) ⟨hx, hb, hml, hown, hts⟩ (w_X6_rows l ea3) (cw_X6_rows hts q904 ⟨Nat.le_of_ble_eq_true rfl, Nat.le_of_ble_eq_true rfl⟩) (cg_preV C hw c1 rfl _) rfl rfl hl.1 rfl (lv_room (Nat.le_of_ble_eq_true rfl)) dX0_goes_96 ⟨show cc + (h2.1 - h.1) ≤ u9.1 - u.1 by omega, show ss + (h2.2.1 - h.2.1) ≤ u9.2.1 - u.2.1 by omega⟩) (fun H locs hw => ?_)
          exact hB99 h2 x1 x2 x3 x4 x5 x6 x7 a3 _ _ _ _ _ hm hw (by omega) (by omega) (lv_sub hl [0, 1, 2, 3, 4, 5, 6] rfl)
        · have hm := ifF hm c1
          obtain ⟨g4, hm⟩ := gdE hm
          obtain ⟨a6, h5, ea6, hm⟩ := bd2E hm
          have lh5 := mo_X7_rows ea6
          have ph5 : h.1 ≤ h5.1 := lh5.1
          have qh5 : h.2.1 ≤ h5.2.1 := lh5.2.1
          have hmo := mo_X0_goes_99 (mo_X0_goes_25 n25)  h5 x1 x2 x3 x4 x5 x6 x7 a6 _ hm
          have sh5 : h5.1 ≤ u9.1 := hmo.1
          have th5 : h5.2.1 ≤ u9.2.1 := hmo.2.1
          refine cg_callr hw lh5 (va_runU (As := []) (rest := []) ⟨hx, hb, hml, hown, hts⟩ (w_X7_rows l ea6) (va_cwO 0 hts (lwO q904 q907 q905 q908 q909 q144 q910) rfl rfl rfl q940 (by decide +kernel) ⟨Nat.le_of_ble_eq_true rfl, Nat.le_of_ble_eq_true rfl⟩) (cg_preV C hw g4 rfl _) rfl rfl hl.1 rfl (lv_room (Nat.le_of_ble_eq_true rfl)) dX0_goes_96 ⟨show cc + (h5.1 - h.1) ≤ u9.1 - u.1 by omega, show ss + (h5.2.1 - h.2.1) ≤ u9.2.1 - u.2.1 by omega⟩) (fun H locs hw => ?_)
          exact hB99 h5 x1 x2 x3 x4 x5 x6 x7 a6 _ _ _ _ _ hm hw (by omega) (by omega) (lv_sub hl [0, 1, 2, 3, 4, 5, 6] rfl)
      have hB34 : ∀ (n34 : Nat), ∀ (h : CH) (x1 : Int32) (x2 : Nat) (x3 : Nat) (x4 : Nat) (x5 : Nat) (x6 : Nat) (x7 : Int32) (x8 : Int32) (cc ss : Nat) (H : Heap) (locs : List Loc) (ls : Array Slot), m_X0_goes_34 f (m_X0_goes_25 f n25) n34 h x1 x2 x3 x4 x5 x6 x7 x8 = some (r0, u9) → CW D dA A s h H locs → cc + u.1 = h.1 → ss + u.2.1 = h.2.1 → lv_has ls 11 [(1, .int x1), (2, .ref x2), (3, .ref x3), (4, .ref x4), (5, .ref x5), (6, .ref x6), (7, .int x7), (8, .int x8)] → W p l e (rm_X0_goes (u9.1 - u.1) (u9.2.1 - u.2.1)) s m args below meth c H locs cc ss QQ (F0 m 34 ls []) := by
        intro n34
        induction n34 with
        | zero => intro h x1 x2 x3 x4 x5 x6 x7 x8 cc ss H locs ls hm hw hcc hss hl; rw [m_X0_goes_34] at hm; exact noE hm
        | succ n34 ih34 =>
          have hB88 : ∀ (h : CH) (x1 : Int32) (x2 : Nat) (x3 : Nat) (x4 : Nat) (x5 : Nat) (x6 : Nat) (x7 : Int32) (x8 : Int32) (y0 : Nat) (y1 : Int32) (y2 : Int64) (cc ss : Nat) (H : Heap) (locs : List Loc) (ls : Array Slot), m_X0_goes_88 f (m_X0_goes_25 f n25) (m_X0_goes_34 f (m_X0_goes_25 f n25) n34) h x1 x2 x3 x4 x5 x6 x7 x8 y0 y1 y2 = some (r0, u9) → CW D dA A s h H locs → cc + u.1 = h.1 → ss + u.2.1 = h.2.1 → lv_has ls 11 [(1, .int x1), (2, .ref x2), (3, .ref x3), (4, .ref x4), (5, .ref x5), (6, .ref x6), (7, .int x7), (8, .int x8)] → W p l e (rm_X0_goes (u9.1 - u.1) (u9.2.1 - u.2.1)) s m args below meth c H locs cc ss QQ (F0 m 88 ls [.long y2, .int y1, .ref y0]) := by
            intro h x1 x2 x3 x4 x5 x6 x7 x8 y0 y1 y2 cc ss H locs ls hm hw hcc hss hl
            have hmo := mo_X0_goes_88 (mo_X0_goes_25 n25) (mo_X0_goes_34 (mo_X0_goes_25 n25) n34) h x1 x2 x3 x4 x5 x6 x7 x8 y0 y1 y2 _ hm
            have sb_ : h.1 ≤ u9.1 := hmo.1
            have tb_ : h.2.1 ≤ u9.2.1 := hmo.2.1
            rw [m_X0_goes_88] at hm
            obtain ⟨h1, eh1, hm⟩ := bdE hm
            refine cg_last C hw eh1 dX0_goes_88 (fun H locs hw => ?_)
            have zh1 := uL_sz eh1
            obtain ⟨v2, ev2, hm⟩ := nmE hm
            refine lv_iinc (v := v2) (lv' := [(8, .int v2), (1, .int x1), (2, .ref x2), (3, .ref x3), (4, .ref x4), (5, .ref x5), (6, .ref x6), (7, .int x7)]) hx hb dX0_goes_89 hl (k := 7) rfl (by rw [ev2]; rfl) (by decide) rfl (fun ls hl => ?_)
            refine lv_goto (tgt := 34) hx hb dX0_goes_92 (by decide) ?_
            exact ih34 h1 x1 x2 x3 x4 x5 x6 x7 v2 _ _ _ _ _ hm hw (by omega) (by omega) (lv_sub hl [1, 2, 3, 4, 5, 6, 7, 0] rfl)
          intro h x1 x2 x3 x4 x5 x6 x7 x8 cc ss H locs ls hm hw hcc hss hl
          have hmo := mo_X0_goes_34 (mo_X0_goes_25 n25) (n34 + 1) h x1 x2 x3 x4 x5 x6 x7 x8 _ hm
          have sb_ : h.1 ≤ u9.1 := hmo.1
          have tb_ : h.2.1 ≤ u9.2.1 := hmo.2.1
          rw [m_X0_goes_34] at hm
          refine lv_iload hx hb dX0_goes_34 (lv_at hl 7 rfl) ?_
          refine lv_iconst (v := 3) hx hb dX0_goes_36 (by decide) ?_
          refine lv_icmp_ge (tgt := 95) hx hb dX0_goes_37 (by decide) (fun c1 => ?_) (fun c1 => ?_)
          · have hm := ifT hm c1
            exact hB95 h x1 x2 x3 x4 x5 x6 x7 _ _ _ _ _ hm hw (by omega) (by omega) (lv_sub hl [0, 1, 2, 3, 4, 5, 6] rfl)
          · have hm := ifF hm c1
            refine lv_aload hx hb dX0_goes_40 (lv_at hl 5 rfl) ?_
            refine lv_iload hx hb dX0_goes_42 (lv_at hl 7 rfl) ?_
            refine lv_iload_n hx hb dX0_goes_44 rfl (lv_at hl 0 rfl) ?_
            refine lv_iconst (v := 2) hx hb dX0_goes_45 (by decide) ?_
            refine lv_iload hx hb dX0_goes_46 (lv_at hl 7 rfl) ?_
            refine lv_isub hx hb dX0_goes_48 ?_
            refine lv_ishr hx hb dX0_goes_49 ?_
            refine lv_iconst (v := 1) hx hb dX0_goes_50 (by decide) ?_
            refine lv_iand hx hb dX0_goes_51 ?_
            refine lv_iconst (v := 1) hx hb dX0_goes_52 (by decide) ?_
            refine lv_icmp_ne (tgt := 74) hx hb dX0_goes_53 (by decide) (fun c2 => ?_) (fun c2 => ?_)
            · have hm := ifT hm c2
              refine lv_aload hx hb dX0_goes_74 (lv_at hl 3 rfl) ?_
              obtain ⟨a3, ea3, hm⟩ := bdE hm
              refine cg_getN C hw (by decide) (oR_E ea3) rfl in_X2 (by decide) (hw.2.2.2.2.1 _ (List.mem_of_getElem? (i := 12) rfl)) dX0_goes_76 ?_
              refine lv_iload hx hb dX0_goes_79 (lv_at hl 6 rfl) ?_
              obtain ⟨a4, ea4, hm⟩ := bdE hm
              refine cg_aaldA C hw (ty := .array .long) rfl rfl (aR_E ea4) dX0_goes_81 ?_
              refine lv_aload hx hb dX0_goes_82 (lv_at hl 4 rfl) ?_
              refine lv_iload hx hb dX0_goes_84 (lv_at hl 7 rfl) ?_
              obtain ⟨v5, ev5, hm⟩ := bdE hm
              refine cg_iald C hw ev5 dX0_goes_86 ?_
              obtain ⟨v6, ev6, hm⟩ := bdE hm
              refine cg_lald C hw ev6 dX0_goes_87 ?_
              exact hB88 h x1 x2 x3 x4 x5 x6 x7 x8 x6 x8 v6 _ _ _ _ _ hm hw (by omega) (by omega) (lv_sub hl [0, 1, 2, 3, 4, 5, 6, 7] rfl)
            · have hm := ifT' hm c2
              refine lv_aload hx hb dX0_goes_56 (lv_at hl 3 rfl) ?_
              obtain ⟨a7, ea7, hm⟩ := bdE hm
              refine cg_getN C hw (by decide) (oR_E ea7) rfl in_X2 (by decide) (hw.2.2.2.2.1 _ (List.mem_of_getElem? (i := 12) rfl)) dX0_goes_58 ?_
              refine lv_iload hx hb dX0_goes_61 (lv_at hl 6 rfl) ?_
              obtain ⟨a8, ea8, hm⟩ := bdE hm
              refine cg_aaldA C hw (ty := .array .long) rfl rfl (aR_E ea8) dX0_goes_63 ?_
              refine lv_aload hx hb dX0_goes_64 (lv_at hl 4 rfl) ?_
              refine lv_iload hx hb dX0_goes_66 (lv_at hl 7 rfl) ?_
              obtain ⟨v9, ev9, hm⟩ := bdE hm
              refine cg_iald C hw ev9 dX0_goes_68 ?_
              obtain ⟨v10, ev10, hm⟩ := bdE hm
              refine cg_lald C hw ev10 dX0_goes_69 ?_
              refine lv_lneg hx hb dX0_goes_70 ?_
              refine lv_goto (tgt := 88) hx hb dX0_goes_71 (by decide) ?_
              exact hB88 h x1 x2 x3 x4 x5 x6 x7 x8 x6 x8 (-v10) _ _ _ _ _ hm hw (by omega) (by omega) (lv_sub hl [0, 1, 2, 3, 4, 5, 6, 7] rfl)
      intro h x1 x2 x3 x4 x5 x6 x7 cc ss H locs ls hm hw hcc hss hl
      have hmo := mo_X0_goes_25  (n25 + 1) h x1 x2 x3 x4 x5 x6 x7 _ hm
      have sb_ : h.1 ≤ u9.1 := hmo.1
      have tb_ : h.2.1 ≤ u9.2.1 := hmo.2.1
      rw [m_X0_goes_25] at hm
      refine lv_iload hx hb dX0_goes_25 (lv_at hl 6 rfl) ?_
      refine lv_iconst (v := 3) hx hb dX0_goes_27 (by decide) ?_
      refine lv_icmp_ge (tgt := 133) hx hb dX0_goes_28 (by decide) (fun c1 => ?_) (fun c1 => ?_)
      · have hm := ifT hm c1
        exact hB133 h x2 x3 x4 _ _ _ _ _ hm hw (by omega) (by omega) (lv_sub hl [1, 2, 3] rfl)
      · have hm := ifF hm c1
        refine lv_iconst (v := 0) hx hb dX0_goes_31 (by decide) ?_
        refine lv_istore (lv' := [(8, .int (0 : Int32)), (1, .int x1), (2, .ref x2), (3, .ref x3), (4, .ref x4), (5, .ref x5), (6, .ref x6), (7, .int x7)]) hx hb dX0_goes_32 hl (by decide) rfl (fun ls hl => ?_)
        exact hB34 f h x1 x2 x3 x4 x5 x6 x7 (0 : Int32) _ _ _ _ _ hm hw (by omega) (by omega) (lv_sub hl [1, 2, 3, 4, 5, 6, 7, 0] rfl)
  have hB20 : ∀ (h : CH) (x1 : Int32) (x2 : Nat) (x3 : Nat) (x4 : Nat) (x5 : Nat) (y0 : Nat) (cc ss : Nat) (H : Heap) (locs : List Loc) (ls : Array Slot), m_X0_goes_20 f h x1 x2 x3 x4 x5 y0 = some (r0, u9) → CW D dA A s h H locs → cc + u.1 = h.1 → ss + u.2.1 = h.2.1 → lv_has ls 11 [(1, .int x1), (2, .ref x2), (3, .ref x3), (4, .ref x4), (5, .ref x5)] → W p l e (rm_X0_goes (u9.1 - u.1) (u9.2.1 - u.2.1)) s m args below meth c H locs cc ss QQ (F0 m 20 ls [.ref y0]) := by
    intro h x1 x2 x3 x4 x5 y0 cc ss H locs ls hm hw hcc hss hl
    have hmo := mo_X0_goes_20  h x1 x2 x3 x4 x5 y0 _ hm
    have sb_ : h.1 ≤ u9.1 := hmo.1
    have tb_ : h.2.1 ≤ u9.2.1 := hmo.2.1
    rw [m_X0_goes_20] at hm
    refine lv_astore (lv' := [(6, .ref y0), (1, .int x1), (2, .ref x2), (3, .ref x3), (4, .ref x4), (5, .ref x5)]) hx hb dX0_goes_20 hl (by decide) rfl (fun ls hl => ?_)
    refine lv_iconst (v := 0) hx hb dX0_goes_22 (by decide) ?_
    refine lv_istore (lv' := [(7, .int (0 : Int32)), (6, .ref y0), (1, .int x1), (2, .ref x2), (3, .ref x3), (4, .ref x4), (5, .ref x5)]) hx hb dX0_goes_23 hl (by decide) rfl (fun ls hl => ?_)
    exact hB25 f h x1 x2 x3 x4 x5 y0 (0 : Int32) _ _ _ _ _ hm hw (by omega) (by omega) (lv_sub hl [2, 3, 4, 5, 6, 1, 0] rfl)
  have hB4 : ∀ (h : CH) (x0 : Nat) (x1 : Int32) (x2 : Nat) (x3 : Nat) (y0 : Nat) (cc ss : Nat) (H : Heap) (locs : List Loc) (ls : Array Slot), m_X0_goes_4 f h x0 x1 x2 x3 y0 = some (r0, u9) → CW D dA A s h H locs → cc + u.1 = h.1 → ss + u.2.1 = h.2.1 → lv_has ls 11 [(0, .ref x0), (1, .int x1), (2, .ref x2), (3, .ref x3)] → W p l e (rm_X0_goes (u9.1 - u.1) (u9.2.1 - u.2.1)) s m args below meth c H locs cc ss QQ (F0 m 4 ls [.ref y0]) := by
    intro h x0 x1 x2 x3 y0 cc ss H locs ls hm hw hcc hss hl
    have hmo := mo_X0_goes_4  h x0 x1 x2 x3 y0 _ hm
    have sb_ : h.1 ≤ u9.1 := hmo.1
    have tb_ : h.2.1 ≤ u9.2.1 := hmo.2.1
    rw [m_X0_goes_4] at hm
    refine lv_astore (lv' := [(4, .ref y0), (0, .ref x0), (1, .int x1), (2, .ref x2), (3, .ref x3)]) hx hb dX0_goes_4 hl (by decide) rfl (fun ls hl => ?_)
    refine lv_aload_n hx hb dX0_goes_6 rfl (lv_at hl 1 rfl) ?_
    obtain ⟨a1, ea1, hm⟩ := bdE hm
    refine cg_get C hw (oR_E ea1) rfl in_X0 (by decide) q251 dX0_goes_7 ?_
    refine lv_iload_n hx hb dX0_goes_10 rfl (lv_at hl 2 rfl) ?_
    refine lv_bipush (v := 8) hx hb dX0_goes_11 (by decide) ?_
    refine lv_idiv hx hb dX0_goes_13 (by decide) ?_
    obtain ⟨a2, ea2, hm⟩ := bdE hm
    refine cg_aaldA C hw (ty := .array .int) rfl rfl (aR_E ea2) dX0_goes_14 ?_
    refine lv_astore (lv' := [(5, .ref a2), (4, .ref y0), (0, .ref x0), (1, .int x1), (2, .ref x2), (3, .ref x3)]) hx hb dX0_goes_15 hl (by decide) rfl (fun ls hl => ?_)
    refine lv_iconst (v := 3) hx hb dX0_goes_17 (by decide) ?_
    obtain ⟨h3, eh3, hm⟩ := nmE hm
    obtain ⟨_, _, hmq⟩ := nmE hm
    have hmo := mo_X0_goes_20   h3 x1 x2 x3 y0 a2 _ _ hmq
    have sh3 : h3.1 ≤ u9.1 := hmo.1
    have th3 : h3.2.1 ≤ u9.2.1 := hmo.2.1
    have zh3 := cn_sz eh3
    refine cg_newJ (C0 := C) hw (N := 3) (by decide) (by decide) (by decide) (show cc + 1 ≤ u9.1 - u.1 by omega) (show ss + 3 ≤ u9.2.1 - u.2.1 by omega) dX0_goes_18 (fun H hw => ?_)
    rw [← eh3] at hw
    refine lv_topr (fun a4 ea4 => ?_)
    have hm := nmK hm ea4
    exact hB20 h3 x1 x2 x3 y0 a2 a4 _ _ _ _ _ hm hw (by omega) (by omega) (lv_sub hl [3, 4, 5, 1, 0] rfl)
  rw [m_X0_goes] at hm
  refine lv_aload_n hx hb dX0_goes_0 rfl (lv_at hl 2 rfl) ?_
  by_cases c1 : isC u x2 6 = true
  · have hm := ifT hm c1
    obtain ⟨a3, h2, ea3, hm⟩ := bd2E hm
    have lh2 := mo_X6_rows ea3
    have ph2 : u.1 ≤ h2.1 := lh2.1
    have qh2 : u.2.1 ≤ h2.2.1 := lh2.2.1
    have hmo := mo_X0_goes_4   h2 x0 x1 x2 x3 a3 _ hm
    have sh2 : h2.1 ≤ u9.1 := hmo.1
    have th2 : h2.2.1 ≤ u9.2.1 := hmo.2.1
    refine cg_callr hw lh2 (va_runV (As := []) (rest := []) ⟨hx, hb, hml, hown, hts⟩ (w_X6_rows l ea3) (cw_X6_rows hts q904 ⟨Nat.le_of_ble_eq_true rfl, Nat.le_of_ble_eq_true rfl⟩) (cg_preV C hw c1 rfl _) rfl rfl hl.1 rfl (lv_room (Nat.le_of_ble_eq_true rfl)) dX0_goes_1 ⟨show cc + (h2.1 - u.1) ≤ u9.1 - u.1 by omega, show ss + (h2.2.1 - u.2.1) ≤ u9.2.1 - u.2.1 by omega⟩) (fun H locs hw => ?_)
    exact hB4 h2 x0 x1 x2 x3 a3 _ _ _ _ _ hm hw (by omega) (by omega) (lv_sub hl [0, 1, 2, 3] rfl)
  · have hm := ifF hm c1
    obtain ⟨g4, hm⟩ := gdE hm
    obtain ⟨a6, h5, ea6, hm⟩ := bd2E hm
    have lh5 := mo_X7_rows ea6
    have ph5 : u.1 ≤ h5.1 := lh5.1
    have qh5 : u.2.1 ≤ h5.2.1 := lh5.2.1
    have hmo := mo_X0_goes_4   h5 x0 x1 x2 x3 a6 _ hm
    have sh5 : h5.1 ≤ u9.1 := hmo.1
    have th5 : h5.2.1 ≤ u9.2.1 := hmo.2.1
    refine cg_callr hw lh5 (va_runU (As := []) (rest := []) ⟨hx, hb, hml, hown, hts⟩ (w_X7_rows l ea6) (va_cwO 0 hts (lwO q904 q907 q905 q908 q909 q144 q910) rfl rfl rfl q940 (by decide +kernel) ⟨Nat.le_of_ble_eq_true rfl, Nat.le_of_ble_eq_true rfl⟩) (cg_preV C hw g4 rfl _) rfl rfl hl.1 rfl (lv_room (Nat.le_of_ble_eq_true rfl)) dX0_goes_1 ⟨show cc + (h5.1 - u.1) ≤ u9.1 - u.1 by omega, show ss + (h5.2.1 - u.2.1) ≤ u9.2.1 - u.2.1 by omega⟩) (fun H locs hw => ?_)
    exact hB4 h5 x0 x1 x2 x3 a6 _ _ _ _ _ hm hw (by omega) (by omega) (lv_sub hl [0, 1, 2, 3] rfl)
def m_X0_symmetries_53 (f : Nat) (h : CH) (x2 : Int32) : Option (Int32 × CH) := some (x2, h)
theorem mo_X0_symmetries_53 {f : Nat} : ∀ (h : CH) (x2 : Int32) (r : (Int32 × CH)), m_X0_symmetries_53 f h x2 = some r → le2 h r.2 := by
  intro h x2 r hm
  rw [m_X0_symmetries_53] at hm
  cases hm
  exact le2.rf
def m_X0_symmetries_45 (f : Nat) (k15 : CH → Nat → Int32 → Int32 → Int32 → Option (Int32 × CH)) (h : CH) (x0 : Nat) (x1 : Int32) (x3 : Int32) (y0 : Int32) (y1 : Int32) : Option (Int32 × CH) := nmv ((y0 + y1) : Int32) fun v1 =>
    nmv ((x3 + 1) : Int32) fun v2 =>
    k15 h x0 x1 v1 v2
theorem mo_X0_symmetries_45 {f : Nat} {k15 : CH → Nat → Int32 → Int32 → Int32 → Option (Int32 × CH)} (hk15 : ∀ (h : CH) (x0 : Nat) (x1 : Int32) (x2 : Int32) (x3 : Int32) (r : (Int32 × CH)), k15 h x0 x1 x2 x3 = some r → le2 h r.2) : ∀ (h : CH) (x0 : Nat) (x1 : Int32) (x3 : Int32) (y0 : Int32) (y1 : Int32) (r : (Int32 × CH)), m_X0_symmetries_45 f k15 h x0 x1 x3 y0 y1 = some r → le2 h r.2 := by
  intro h x0 x1 x3 y0 y1 r hm
  rw [m_X0_symmetries_45] at hm
  obtain ⟨v1, ev1, hm⟩ := nmE hm
  obtain ⟨v2, ev2, hm⟩ := nmE hm
  exact (hk15 h x0 x1 v1 v2 _ hm)
def m_X0_symmetries_37 (f : Nat) (k15 : CH → Nat → Int32 → Int32 → Int32 → Option (Int32 × CH)) (h : CH) (x0 : Nat) (x1 : Int32) (x3 : Int32) (y0 : Int32) (y1 : Int32) : Option (Int32 × CH) := if y1 = 0 then
    m_X0_symmetries_45 f k15 h x0 x1 x3 y0 (0 : Int32)
    else m_X0_symmetries_45 f k15 h x0 x1 x3 y0 (1 : Int32)
theorem mo_X0_symmetries_37 {f : Nat} {k15 : CH → Nat → Int32 → Int32 → Int32 → Option (Int32 × CH)} (hk15 : ∀ (h : CH) (x0 : Nat) (x1 : Int32) (x2 : Int32) (x3 : Int32) (r : (Int32 × CH)), k15 h x0 x1 x2 x3 = some r → le2 h r.2) : ∀ (h : CH) (x0 : Nat) (x1 : Int32) (x3 : Int32) (y0 : Int32) (y1 : Int32) (r : (Int32 × CH)), m_X0_symmetries_37 f k15 h x0 x1 x3 y0 y1 = some r → le2 h r.2 := by
  intro h x0 x1 x3 y0 y1 r hm
  rw [m_X0_symmetries_37] at hm
  by_cases c1 : y1 = 0
  · have hm := ifT hm c1
    exact (mo_X0_symmetries_45 hk15 h x0 x1 x3 y0 (0 : Int32) _ hm)
  · have hm := ifF hm c1
    exact (mo_X0_symmetries_45 hk15 h x0 x1 x3 y0 (1 : Int32) _ hm)
def m_X0_symmetries_34 (f : Nat) (k15 : CH → Nat → Int32 → Int32 → Int32 → Option (Int32 × CH)) (h : CH) (x0 : Nat) (x1 : Int32) (x3 : Int32) (y0 : Int32) (y1 : Nat) (y2 : Int32) (y3 : Nat) (y4 : Nat) : Option (Int32 × CH) := gd (isC h y1 1) <|
    bd2 (m_X0_goes f h y1 y2 y3 y4) fun r3 h2 =>
    m_X0_symmetries_37 f k15 h2 x0 x1 x3 y0 r3
theorem mo_X0_symmetries_34 {f : Nat} {k15 : CH → Nat → Int32 → Int32 → Int32 → Option (Int32 × CH)} (hk15 : ∀ (h : CH) (x0 : Nat) (x1 : Int32) (x2 : Int32) (x3 : Int32) (r : (Int32 × CH)), k15 h x0 x1 x2 x3 = some r → le2 h r.2) : ∀ (h : CH) (x0 : Nat) (x1 : Int32) (x3 : Int32) (y0 : Int32) (y1 : Nat) (y2 : Int32) (y3 : Nat) (y4 : Nat) (r : (Int32 × CH)), m_X0_symmetries_34 f k15 h x0 x1 x3 y0 y1 y2 y3 y4 = some r → le2 h r.2 := by
  intro h x0 x1 x3 y0 y1 y2 y3 y4 r hm
  rw [m_X0_symmetries_34] at hm
  obtain ⟨g1, hm⟩ := gdE hm
  obtain ⟨r3, h2, er3, hm⟩ := bd2E hm
  have lh2 := mo_X0_goes er3
  exact (lh2.tr (mo_X0_symmetries_37 hk15 h2 x0 x1 x3 y0 r3 _ hm))
def m_X0_symmetries_29 (f : Nat) (k15 : CH → Nat → Int32 → Int32 → Int32 → Option (Int32 × CH)) (h : CH) (x0 : Nat) (x1 : Int32) (x3 : Int32) (y0 : Int32) (y1 : Nat) (y2 : Int32) (y3 : Nat) : Option (Int32 × CH) := gd (isC h x0 1) <|
    bd2 (m_X0_at f h x0 x1) fun a3 h2 =>
    m_X0_symmetries_34 f k15 h2 x0 x1 x3 y0 y1 y2 y3 a3
theorem mo_X0_symmetries_29 {f : Nat} {k15 : CH → Nat → Int32 → Int32 → Int32 → Option (Int32 × CH)} (hk15 : ∀ (h : CH) (x0 : Nat) (x1 : Int32) (x2 : Int32) (x3 : Int32) (r : (Int32 × CH)), k15 h x0 x1 x2 x3 = some r → le2 h r.2) : ∀ (h : CH) (x0 : Nat) (x1 : Int32) (x3 : Int32) (y0 : Int32) (y1 : Nat) (y2 : Int32) (y3 : Nat) (r : (Int32 × CH)), m_X0_symmetries_29 f k15 h x0 x1 x3 y0 y1 y2 y3 = some r → le2 h r.2 := by
  intro h x0 x1 x3 y0 y1 y2 y3 r hm
  rw [m_X0_symmetries_29] at hm
  obtain ⟨g1, hm⟩ := gdE hm
  obtain ⟨a3, h2, ea3, hm⟩ := bd2E hm
  have lh2 := mo_X0_at ea3
  exact (lh2.tr (mo_X0_symmetries_34 hk15 h2 x0 x1 x3 y0 y1 y2 y3 a3 _ hm))
def m_X0_symmetries_15 (f : Nat) : Nat → CH → Nat → Int32 → Int32 → Int32 → Option (Int32 × CH)
  | 0, _, _, _, _, _ => none
  | n15 + 1, h, x0, x1, x2, x3 => if (48 : Int32) ≤ x3 then
    m_X0_symmetries_53 f h x2
    else gd (isC h x0 1) <|
    bd2 (m_X0_at f h x0 x1) fun a4 h3 =>
    m_X0_symmetries_29 f (m_X0_symmetries_15 f n15) h3 x0 x1 x3 x2 x0 x3 a4
theorem mo_X0_symmetries_15 {f : Nat} : ∀ (n15 : Nat) (h : CH) (x0 : Nat) (x1 : Int32) (x2 : Int32) (x3 : Int32) (r : (Int32 × CH)), m_X0_symmetries_15 f n15 h x0 x1 x2 x3 = some r → le2 h r.2 := by
  intro n15
  induction n15 with
  | zero => intro h x0 x1 x2 x3 r hm; rw [m_X0_symmetries_15] at hm; exact noE hm
  | succ n15 ihm =>
    intro h x0 x1 x2 x3 r hm
    rw [m_X0_symmetries_15] at hm
    by_cases c1 : (48 : Int32) ≤ x3
    · have hm := ifT hm c1
      exact (mo_X0_symmetries_53  h x2 _ hm)
    · have hm := ifF hm c1
      obtain ⟨g2, hm⟩ := gdE hm
      obtain ⟨a4, h3, ea4, hm⟩ := bd2E hm
      have lh3 := mo_X0_at ea4
      exact (lh3.tr (mo_X0_symmetries_29 ihm h3 x0 x1 x3 x2 x0 x3 a4 _ hm))
def m_X0_symmetries_5 (f : Nat) (h : CH) (x0 : Nat) (x1 : Int32) (y0 : Int32) : Option (Int32 × CH) := if ¬ y0 = 0 then
    m_X0_symmetries_15 f f h x0 x1 (0 : Int32) (0 : Int32)
    else some ((-2 : Int32), h)
theorem mo_X0_symmetries_5 {f : Nat} : ∀ (h : CH) (x0 : Nat) (x1 : Int32) (y0 : Int32) (r : (Int32 × CH)), m_X0_symmetries_5 f h x0 x1 y0 = some r → le2 h r.2 := by
  intro h x0 x1 y0 r hm
  rw [m_X0_symmetries_5] at hm
  by_cases c1 : ¬ y0 = 0
  · have hm := ifT hm c1
    exact (mo_X0_symmetries_15  f h x0 x1 (0 : Int32) (0 : Int32) _ hm)
  · have hm := ifF hm c1
    cases hm
    exact le2.rf
def m_X0_symmetries (f : Nat) (u : CH) (x0 : Nat) (x1 : Int32) : Option (Int32 × CH) := gd (isC u x0 1) <|
    bd2 (m_X0_isLattice f u x0 x1) fun r3 h2 =>
    m_X0_symmetries_5 f h2 x0 x1 r3
theorem mo_X0_symmetries {f : Nat} {u : CH} {x0 : Nat} {x1 : Int32} {r0 : Int32} {u9 : CH} (hm : m_X0_symmetries f u x0 x1 = some (r0, u9)) : le2 u u9 := by
  rw [m_X0_symmetries] at hm
  obtain ⟨g1, hm⟩ := gdE hm
  obtain ⟨r3, h2, er3, hm⟩ := bd2E hm
  have lh2 := mo_X0_isLattice er3
  exact (lh2.tr (mo_X0_symmetries_5  h2 x0 x1 r3 _ hm))
abbrev rm_X0_symmetries (mc ms : Nat) : Room := { frames := 106, cells := mc, slots := ms, locals := 4169 }
theorem cw_X0_symmetries {R : Room} {s : State} {args : Array Value} {own : String} {idx mc ms : Nat} (hts : ∀ w ∈ lw_all, w.before args s = true) (hl : Cond.methodLink own idx yX0_symmetries ∈ lw_all) (hR : 106 + 1 ≤ R.frames ∧ 8 + (4 + 11) + 4169 ≤ R.locals) : CallW R s args own RX0 idx yX0_symmetries cX0_symmetries 4 (Option.some Jvm.ClassFile.FieldType.int) (ws_ yX0_symmetries cX0_symmetries 4 (Option.some Jvm.ClassFile.FieldType.int)) (rm_X0_symmetries mc ms) mc ms 1 := cwV 1 hts (lw_V hl q1359 q1360 q119 q1361) rfl rfl rfl (by decide +kernel) hR
set_option maxHeartbeats 4000000 in
set_option maxRecDepth 100000 in
theorem w_X0_symmetries (l : Launch) {D : va_G} {dA : Nat → ClassId} {A : Nat → Prop} {f : Nat} {u u9 : CH} {r0 : Int32} {x0 : Nat} {x1 : Int32} (hm : m_X0_symmetries f u x0 x1 = some (r0, u9)) : Met l yX0_symmetries (ws_ yX0_symmetries cX0_symmetries 4 (Option.some Jvm.ClassFile.FieldType.int)) (rm_X0_symmetries (u9.1 - u.1) (u9.2.1 - u.2.1)) (va_Pc [.ref x0, .int x1] (CPre D dA A u)) (va_Qi (fun r u => r = r0 ∧ u = u9) (CPost D dA A) A) (u9.1 - u.1) (u9.2.1 - u.2.1) A := by
  refine Met.ofW (cc := cX0_symmetries) (maxL := 4) (ret := (Option.some Jvm.ClassFile.FieldType.int)) (by decide) rfl ?_
  intro p e s m args below meth c s₁ B hml hv
  have hx := B.exec
  have hb := B.bytes
  have hr := B.returns
  have hts := atoms_spec (ws := (ws_ yX0_symmetries cX0_symmetries 4 (Option.some Jvm.ClassFile.FieldType.int))) B.pre
  have hts : ∀ w ∈ lw_all, w.before args s = true := fun w h => hts w (List.mem_cons_of_mem _ h)
  have hown : s.vm.findClass RX0 = some m.cls := findClass_of_methodNamed B.named
  have hlocks := B.notSynchronized
  obtain ⟨hav, hv⟩ := hv
  have C : CX p s m args c cX0_symmetries RX0 D dA := ⟨hx, hb, hown, hts, hv.2⟩
  have hw : CW D dA A s u s.heap [] := hv.1
  generalize hQ : MQ below (va_Qi (fun r u => r = r0 ∧ u = u9) (CPost D dA A) A) args s (u9.1 - u.1) (u9.2.1 - u.2.1) A = QQ
  have hent := lg_entry_eq m [.ref x0, .int x1] 4
  rw [← hav] at hent
  rw [hent]
  have hl := lv_entry ([.ref x0, .int x1]) (n := 4) (Nat.le_of_ble_eq_true rfl)
  generalize (lg_sl ([.ref x0, .int x1]) ++ List.replicate (4 - (lg_sl ([.ref x0, .int x1])).length) Slot.unset).toArray = ls at hl ⊢
  have hl : lv_has ls 4 [(0, .ref x0), (1, .int x1)] := hl
  obtain ⟨cc, ecc⟩ : ∃ z : Nat, z = 0 := ⟨0, rfl⟩
  obtain ⟨ss, ess⟩ : ∃ z : Nat, z = 0 := ⟨0, rfl⟩
  have hcc : cc + u.1 = u.1 := by omega
  have hss : ss + u.2.1 = u.2.1 := by omega
  suffices hgo : W p l e (rm_X0_symmetries (u9.1 - u.1) (u9.2.1 - u.2.1)) s m args below meth c s.heap [] cc ss QQ (F0 m 0 ls []) by rw [ecc, ess] at hgo; exact hgo
  have ⟨pu, qu, _, _⟩ := mo_X0_symmetries hm
  have hB53 : ∀ (h : CH) (x2 : Int32) (cc ss : Nat) (H : Heap) (locs : List Loc) (ls : Array Slot), m_X0_symmetries_53 f h x2 = some (r0, u9) → CW D dA A s h H locs → cc + u.1 = h.1 → ss + u.2.1 = h.2.1 → lv_has ls 4 [(2, .int x2)] → W p l e (rm_X0_symmetries (u9.1 - u.1) (u9.2.1 - u.2.1)) s m args below meth c H locs cc ss QQ (F0 m 53 ls []) := by
    intro h x2 cc ss H locs ls hm hw hcc hss hl
    have hmo := mo_X0_symmetries_53  h x2 _ hm
    have sb_ : h.1 ≤ u9.1 := hmo.1
    have tb_ : h.2.1 ≤ u9.2.1 := hmo.2.1
    rw [m_X0_symmetries_53] at hm
    refine lv_iload_n hx hb dX0_symmetries_53 rfl (lv_at hl 0 rfl) ?_
    obtain ⟨er, eh⟩ := retE hm
    have ec : cc = u9.1 - u.1 := by rw [← eh]; omega
    have es : ss = u9.2.1 - u.2.1 := by rw [← eh]; omega
    rw [ec, es, ← hQ]
    exact W.iret (v := x2) hx hb hr (fun t ht hW => ⟨⟨x2, h, rfl, ⟨er, eh⟩, ⟨by rw [ht]; exact hw.1, by rw [ht]; exact hw.2.1⟩⟩, hw.2.2.1.F ht⟩) hw.2.2.1.2.2 dX0_symmetries_54
  have hB15 : ∀ (n15 : Nat), ∀ (h : CH) (x0 : Nat) (x1 : Int32) (x2 : Int32) (x3 : Int32) (cc ss : Nat) (H : Heap) (locs : List Loc) (ls : Array Slot), m_X0_symmetries_15 f n15 h x0 x1 x2 x3 = some (r0, u9) → CW D dA A s h H locs → cc + u.1 = h.1 → ss + u.2.1 = h.2.1 → lv_has ls 4 [(0, .ref x0), (1, .int x1), (2, .int x2), (3, .int x3)] → W p l e (rm_X0_symmetries (u9.1 - u.1) (u9.2.1 - u.2.1)) s m args below meth c H locs cc ss QQ (F0 m 15 ls []) := by
    intro n15
    induction n15 with
    | zero => intro h x0 x1 x2 x3 cc ss H locs ls hm hw hcc hss hl; rw [m_X0_symmetries_15] at hm; exact noE hm
    | succ n15 ih15 =>
      have hB45 : ∀ (h : CH) (x0 : Nat) (x1 : Int32) (x3 : Int32) (y0 : Int32) (y1 : Int32) (cc ss : Nat) (H : Heap) (locs : List Loc) (ls : Array Slot), m_X0_symmetries_45 f (m_X0_symmetries_15 f n15) h x0 x1 x3 y0 y1 = some (r0, u9) → CW D dA A s h H locs → cc + u.1 = h.1 → ss + u.2.1 = h.2.1 → lv_has ls 4 [(0, .ref x0), (1, .int x1), (3, .int x3)] → W p l e (rm_X0_symmetries (u9.1 - u.1) (u9.2.1 - u.2.1)) s m args below meth c H locs cc ss QQ (F0 m 45 ls [.int y1, .int y0]) := by
        intro h x0 x1 x3 y0 y1 cc ss H locs ls hm hw hcc hss hl
        have hmo := mo_X0_symmetries_45 (mo_X0_symmetries_15 n15) h x0 x1 x3 y0 y1 _ hm
        have sb_ : h.1 ≤ u9.1 := hmo.1
        have tb_ : h.2.1 ≤ u9.2.1 := hmo.2.1
        rw [m_X0_symmetries_45] at hm
        refine lv_iadd hx hb dX0_symmetries_45 ?_
        refine lv_topi (fun v1 ev1 => ?_)
        have hm := nmK hm ev1
        refine lv_istore_n (lv' := [(2, .int v1), (0, .ref x0), (1, .int x1), (3, .int x3)]) hx hb dX0_symmetries_46 rfl hl (by decide) rfl (fun ls hl => ?_)
        obtain ⟨v2, ev2, hm⟩ := nmE hm
        refine lv_iinc (v := v2) (lv' := [(3, .int v2), (2, .int v1), (0, .ref x0), (1, .int x1)]) hx hb dX0_symmetries_47 hl (k := 3) rfl (by rw [ev2]; rfl) (by decide) rfl (fun ls hl => ?_)
        refine lv_goto (tgt := 15) hx hb dX0_symmetries_50 (by decide) ?_
        exact ih15 h x0 x1 v1 v2 _ _ _ _ _ hm hw (by omega) (by omega) (lv_sub hl [2, 3, 1, 0] rfl)
      have hB37 : ∀ (h : CH) (x0 : Nat) (x1 : Int32) (x3 : Int32) (y0 : Int32) (y1 : Int32) (cc ss : Nat) (H : Heap) (locs : List Loc) (ls : Array Slot), m_X0_symmetries_37 f (m_X0_symmetries_15 f n15) h x0 x1 x3 y0 y1 = some (r0, u9) → CW D dA A s h H locs → cc + u.1 = h.1 → ss + u.2.1 = h.2.1 → lv_has ls 4 [(0, .ref x0), (1, .int x1), (3, .int x3)] → W p l e (rm_X0_symmetries (u9.1 - u.1) (u9.2.1 - u.2.1)) s m args below meth c H locs cc ss QQ (F0 m 37 ls [.int y1, .int y0]) := by
        intro h x0 x1 x3 y0 y1 cc ss H locs ls hm hw hcc hss hl
        have hmo := mo_X0_symmetries_37 (mo_X0_symmetries_15 n15) h x0 x1 x3 y0 y1 _ hm
        have sb_ : h.1 ≤ u9.1 := hmo.1
        have tb_ : h.2.1 ≤ u9.2.1 := hmo.2.1
        rw [m_X0_symmetries_37] at hm
        refine lv_if_eq (tgt := 44) hx hb dX0_symmetries_37 (by decide) (fun c1 => ?_) (fun c1 => ?_)
        · have hm := ifT hm c1
          refine lv_iconst (v := 0) hx hb dX0_symmetries_44 (by decide) ?_
          exact hB45 h x0 x1 x3 y0 (0 : Int32) _ _ _ _ _ hm hw (by omega) (by omega) (lv_sub hl [0, 1, 2] rfl)
        · have hm := ifF hm c1
          refine lv_iconst (v := 1) hx hb dX0_symmetries_40 (by decide) ?_
          refine lv_goto (tgt := 45) hx hb dX0_symmetries_41 (by decide) ?_
          exact hB45 h x0 x1 x3 y0 (1 : Int32) _ _ _ _ _ hm hw (by omega) (by omega) (lv_sub hl [0, 1, 2] rfl)
      have hB34 : ∀ (h : CH) (x0 : Nat) (x1 : Int32) (x3 : Int32) (y0 : Int32) (y1 : Nat) (y2 : Int32) (y3 : Nat) (y4 : Nat) (cc ss : Nat) (H : Heap) (locs : List Loc) (ls : Array Slot), m_X0_symmetries_34 f (m_X0_symmetries_15 f n15) h x0 x1 x3 y0 y1 y2 y3 y4 = some (r0, u9) → CW D dA A s h H locs → cc + u.1 = h.1 → ss + u.2.1 = h.2.1 → lv_has ls 4 [(0, .ref x0), (1, .int x1), (3, .int x3)] → W p l e (rm_X0_symmetries (u9.1 - u.1) (u9.2.1 - u.2.1)) s m args below meth c H locs cc ss QQ (F0 m 34 ls [.ref y4, .ref y3, .int y2, .ref y1, .int y0]) := by
        intro h x0 x1 x3 y0 y1 y2 y3 y4 cc ss H locs ls hm hw hcc hss hl
        have hmo := mo_X0_symmetries_34 (mo_X0_symmetries_15 n15) h x0 x1 x3 y0 y1 y2 y3 y4 _ hm
        have sb_ : h.1 ≤ u9.1 := hmo.1
        have tb_ : h.2.1 ≤ u9.2.1 := hmo.2.1
        rw [m_X0_symmetries_34] at hm
        obtain ⟨g1, hm⟩ := gdE hm
        obtain ⟨r3, h2, er3, hm⟩ := bd2E hm
        have lh2 := mo_X0_goes er3
        have ph2 : h.1 ≤ h2.1 := lh2.1
        have qh2 : h.2.1 ≤ h2.2.1 := lh2.2.1
        have hmo := mo_X0_symmetries_37 (mo_X0_symmetries_15 n15)  h2 x0 x1 x3 y0 r3 _ hm
        have sh2 : h2.1 ≤ u9.1 := hmo.1
        have th2 : h2.2.1 ≤ u9.2.1 := hmo.2.1
        refine cg_calli hw lh2 (va_runV (As := [.int y2, .ref y3, .ref y4]) (rest := [.int y0]) ⟨hx, hb, hml, hown, hts⟩ (w_X0_goes l er3) (cw_X0_goes hts q1362 ⟨Nat.le_of_ble_eq_true rfl, Nat.le_of_ble_eq_true rfl⟩) (cg_preV C hw g1 rfl _) rfl rfl hl.1 rfl (lv_room (Nat.le_of_ble_eq_true rfl)) dX0_symmetries_34 ⟨show cc + (h2.1 - h.1) ≤ u9.1 - u.1 by omega, show ss + (h2.2.1 - h.2.1) ≤ u9.2.1 - u.2.1 by omega⟩) (fun H locs hw => ?_)
        exact hB37 h2 x0 x1 x3 y0 r3 _ _ _ _ _ hm hw (by omega) (by omega) (lv_sub hl [0, 1, 2] rfl)
      have hB29 : ∀ (h : CH) (x0 : Nat) (x1 : Int32) (x3 : Int32) (y0 : Int32) (y1 : Nat) (y2 : Int32) (y3 : Nat) (cc ss : Nat) (H : Heap) (locs : List Loc) (ls : Array Slot), m_X0_symmetries_29 f (m_X0_symmetries_15 f n15) h x0 x1 x3 y0 y1 y2 y3 = some (r0, u9) → CW D dA A s h H locs → cc + u.1 = h.1 → ss + u.2.1 = h.2.1 → lv_has ls 4 [(0, .ref x0), (1, .int x1), (3, .int x3)] → W p l e (rm_X0_symmetries (u9.1 - u.1) (u9.2.1 - u.2.1)) s m args below meth c H locs cc ss QQ (F0 m 29 ls [.ref y3, .int y2, .ref y1, .int y0]) := by
        intro h x0 x1 x3 y0 y1 y2 y3 cc ss H locs ls hm hw hcc hss hl
        have hmo := mo_X0_symmetries_29 (mo_X0_symmetries_15 n15) h x0 x1 x3 y0 y1 y2 y3 _ hm
        have sb_ : h.1 ≤ u9.1 := hmo.1
        have tb_ : h.2.1 ≤ u9.2.1 := hmo.2.1
        rw [m_X0_symmetries_29] at hm
        refine lv_aload_n hx hb dX0_symmetries_29 rfl (lv_at hl 0 rfl) ?_
        refine lv_iload_n hx hb dX0_symmetries_30 rfl (lv_at hl 1 rfl) ?_
        obtain ⟨g1, hm⟩ := gdE hm
        obtain ⟨a3, h2, ea3, hm⟩ := bd2E hm
        have lh2 := mo_X0_at ea3
        have ph2 : h.1 ≤ h2.1 := lh2.1
        have qh2 : h.2.1 ≤ h2.2.1 := lh2.2.1
        have hmo := mo_X0_symmetries_34 (mo_X0_symmetries_15 n15)  h2 x0 x1 x3 y0 y1 y2 y3 a3 _ hm
        have sh2 : h2.1 ≤ u9.1 := hmo.1
        have th2 : h2.2.1 ≤ u9.2.1 := hmo.2.1
        refine cg_callr hw lh2 (va_runV (As := [.int x1]) (rest := [.ref y3, .int y2, .ref y1, .int y0]) ⟨hx, hb, hml, hown, hts⟩ (w_X0_at l ea3) (cw_X0_at hts q900 ⟨Nat.le_of_ble_eq_true rfl, Nat.le_of_ble_eq_true rfl⟩) (cg_preV C hw g1 rfl _) rfl rfl hl.1 rfl (lv_room (Nat.le_of_ble_eq_true rfl)) dX0_symmetries_31 ⟨show cc + (h2.1 - h.1) ≤ u9.1 - u.1 by omega, show ss + (h2.2.1 - h.2.1) ≤ u9.2.1 - u.2.1 by omega⟩) (fun H locs hw => ?_)
        exact hB34 h2 x0 x1 x3 y0 y1 y2 y3 a3 _ _ _ _ _ hm hw (by omega) (by omega) (lv_sub hl [0, 1, 2] rfl)
      intro h x0 x1 x2 x3 cc ss H locs ls hm hw hcc hss hl
      have hmo := mo_X0_symmetries_15  (n15 + 1) h x0 x1 x2 x3 _ hm
      have sb_ : h.1 ≤ u9.1 := hmo.1
      have tb_ : h.2.1 ≤ u9.2.1 := hmo.2.1
      rw [m_X0_symmetries_15] at hm
      refine lv_iload_n hx hb dX0_symmetries_15 rfl (lv_at hl 3 rfl) ?_
      refine lv_bipush (v := 48) hx hb dX0_symmetries_16 (by decide) ?_
      refine lv_icmp_ge (tgt := 53) hx hb dX0_symmetries_18 (by decide) (fun c1 => ?_) (fun c1 => ?_)
      · have hm := ifT hm c1
        exact hB53 h x2 _ _ _ _ _ hm hw (by omega) (by omega) (lv_sub hl [2] rfl)
      · have hm := ifF hm c1
        refine lv_iload_n hx hb dX0_symmetries_21 rfl (lv_at hl 2 rfl) ?_
        refine lv_aload_n hx hb dX0_symmetries_22 rfl (lv_at hl 0 rfl) ?_
        refine lv_iload_n hx hb dX0_symmetries_23 rfl (lv_at hl 3 rfl) ?_
        refine lv_aload_n hx hb dX0_symmetries_24 rfl (lv_at hl 0 rfl) ?_
        refine lv_iload_n hx hb dX0_symmetries_25 rfl (lv_at hl 1 rfl) ?_
        obtain ⟨g2, hm⟩ := gdE hm
        obtain ⟨a4, h3, ea4, hm⟩ := bd2E hm
        have lh3 := mo_X0_at ea4
        have ph3 : h.1 ≤ h3.1 := lh3.1
        have qh3 : h.2.1 ≤ h3.2.1 := lh3.2.1
        have hmo := mo_X0_symmetries_29 (mo_X0_symmetries_15 n15)  h3 x0 x1 x3 x2 x0 x3 a4 _ hm
        have sh3 : h3.1 ≤ u9.1 := hmo.1
        have th3 : h3.2.1 ≤ u9.2.1 := hmo.2.1
        refine cg_callr hw lh3 (va_runV (As := [.int x1]) (rest := [.int x3, .ref x0, .int x2]) ⟨hx, hb, hml, hown, hts⟩ (w_X0_at l ea4) (cw_X0_at hts q900 ⟨Nat.le_of_ble_eq_true rfl, Nat.le_of_ble_eq_true rfl⟩) (cg_preV C hw g2 rfl _) rfl rfl hl.1 rfl (lv_room (Nat.le_of_ble_eq_true rfl)) dX0_symmetries_26 ⟨show cc + (h3.1 - h.1) ≤ u9.1 - u.1 by omega, show ss + (h3.2.1 - h.2.1) ≤ u9.2.1 - u.2.1 by omega⟩) (fun H locs hw => ?_)
        exact hB29 h3 x0 x1 x3 x2 x0 x3 a4 _ _ _ _ _ hm hw (by omega) (by omega) (lv_sub hl [0, 1, 3] rfl)
  have hB5 : ∀ (h : CH) (x0 : Nat) (x1 : Int32) (y0 : Int32) (cc ss : Nat) (H : Heap) (locs : List Loc) (ls : Array Slot), m_X0_symmetries_5 f h x0 x1 y0 = some (r0, u9) → CW D dA A s h H locs → cc + u.1 = h.1 → ss + u.2.1 = h.2.1 → lv_has ls 4 [(0, .ref x0), (1, .int x1)] → W p l e (rm_X0_symmetries (u9.1 - u.1) (u9.2.1 - u.2.1)) s m args below meth c H locs cc ss QQ (F0 m 5 ls [.int y0]) := by
    intro h x0 x1 y0 cc ss H locs ls hm hw hcc hss hl
    have hmo := mo_X0_symmetries_5  h x0 x1 y0 _ hm
    have sb_ : h.1 ≤ u9.1 := hmo.1
    have tb_ : h.2.1 ≤ u9.2.1 := hmo.2.1
    rw [m_X0_symmetries_5] at hm
    refine lv_if_ne (tgt := 11) hx hb dX0_symmetries_5 (by decide) (fun c1 => ?_) (fun c1 => ?_)
    · have hm := ifT hm c1
      refine lv_iconst (v := 0) hx hb dX0_symmetries_11 (by decide) ?_
      refine lv_istore_n (lv' := [(2, .int (0 : Int32)), (0, .ref x0), (1, .int x1)]) hx hb dX0_symmetries_12 rfl hl (by decide) rfl (fun ls hl => ?_)
      refine lv_iconst (v := 0) hx hb dX0_symmetries_13 (by decide) ?_
      refine lv_istore_n (lv' := [(3, .int (0 : Int32)), (2, .int (0 : Int32)), (0, .ref x0), (1, .int x1)]) hx hb dX0_symmetries_14 rfl hl (by decide) rfl (fun ls hl => ?_)
      exact hB15 f h x0 x1 (0 : Int32) (0 : Int32) _ _ _ _ _ hm hw (by omega) (by omega) (lv_sub hl [2, 3, 1, 0] rfl)
    · have hm := ifT' hm c1
      refine lv_bipush (v := -2) hx hb dX0_symmetries_8 (by decide) ?_
      obtain ⟨er, eh⟩ := retE hm
      have ec : cc = u9.1 - u.1 := by rw [← eh]; omega
      have es : ss = u9.2.1 - u.2.1 := by rw [← eh]; omega
      rw [ec, es, ← hQ]
      exact W.iret (v := (-2 : Int32)) hx hb hr (fun t ht hW => ⟨⟨(-2 : Int32), h, rfl, ⟨er, eh⟩, ⟨by rw [ht]; exact hw.1, by rw [ht]; exact hw.2.1⟩⟩, hw.2.2.1.F ht⟩) hw.2.2.1.2.2 dX0_symmetries_10
  rw [m_X0_symmetries] at hm
  refine lv_aload_n hx hb dX0_symmetries_0 rfl (lv_at hl 0 rfl) ?_
  refine lv_iload_n hx hb dX0_symmetries_1 rfl (lv_at hl 1 rfl) ?_
  obtain ⟨g1, hm⟩ := gdE hm
  obtain ⟨r3, h2, er3, hm⟩ := bd2E hm
  have lh2 := mo_X0_isLattice er3
  have ph2 : u.1 ≤ h2.1 := lh2.1
  have qh2 : u.2.1 ≤ h2.2.1 := lh2.2.1
  have hmo := mo_X0_symmetries_5   h2 x0 x1 r3 _ hm
  have sh2 : h2.1 ≤ u9.1 := hmo.1
  have th2 : h2.2.1 ≤ u9.2.1 := hmo.2.1
  refine cg_calli hw lh2 (va_runV (As := [.int x1]) (rest := []) ⟨hx, hb, hml, hown, hts⟩ (w_X0_isLattice l er3) (cw_X0_isLattice hts q892 ⟨Nat.le_of_ble_eq_true rfl, Nat.le_of_ble_eq_true rfl⟩) (cg_preV C hw g1 rfl _) rfl rfl hl.1 rfl (lv_room (Nat.le_of_ble_eq_true rfl)) dX0_symmetries_2 ⟨show cc + (h2.1 - u.1) ≤ u9.1 - u.1 by omega, show ss + (h2.2.1 - u.2.1) ≤ u9.2.1 - u.2.1 by omega⟩) (fun H locs hw => ?_)
  exact hB5 h2 x0 x1 r3 _ _ _ _ _ hm hw (by omega) (by omega) (lv_sub hl [0, 1] rfl)
def m_X0_takes_16 (f : Nat) (h : CH) : Option (Int32 × CH) := some ((-2 : Int32), h)
theorem mo_X0_takes_16 {f : Nat} : ∀ (h : CH) (r : (Int32 × CH)), m_X0_takes_16 f h = some r → le2 h r.2 := by
  intro h r hm
  rw [m_X0_takes_16] at hm
  cases hm
  exact le2.rf
def m_X0_takes_53 (f : Nat) (h : CH) : Option (Int32 × CH) := some ((-1 : Int32), h)
theorem mo_X0_takes_53 {f : Nat} : ∀ (h : CH) (r : (Int32 × CH)), m_X0_takes_53 f h = some r → le2 h r.2 := by
  intro h r hm
  rw [m_X0_takes_53] at hm
  cases hm
  exact le2.rf
def m_X0_takes_45 (f : Nat) (h : CH) (x3 : Int32) : Option (Int32 × CH) := some (x3, h)
theorem mo_X0_takes_45 {f : Nat} : ∀ (h : CH) (x3 : Int32) (r : (Int32 × CH)), m_X0_takes_45 f h x3 = some r → le2 h r.2 := by
  intro h x3 r hm
  rw [m_X0_takes_45] at hm
  cases hm
  exact le2.rf
def m_X0_takes_42 (f : Nat) (k21 : CH → Nat → Int32 → Int32 → Int32 → Option (Int32 × CH)) (h : CH) (x0 : Nat) (x1 : Int32) (x2 : Int32) (x3 : Int32) (y0 : Int32) : Option (Int32 × CH) := if y0 = 0 then
    nmv ((x3 + 1) : Int32) fun v2 =>
    k21 h x0 x1 x2 v2
    else m_X0_takes_45 f h x3
theorem mo_X0_takes_42 {f : Nat} {k21 : CH → Nat → Int32 → Int32 → Int32 → Option (Int32 × CH)} (hk21 : ∀ (h : CH) (x0 : Nat) (x1 : Int32) (x2 : Int32) (x3 : Int32) (r : (Int32 × CH)), k21 h x0 x1 x2 x3 = some r → le2 h r.2) : ∀ (h : CH) (x0 : Nat) (x1 : Int32) (x2 : Int32) (x3 : Int32) (y0 : Int32) (r : (Int32 × CH)), m_X0_takes_42 f k21 h x0 x1 x2 x3 y0 = some r → le2 h r.2 := by
  intro h x0 x1 x2 x3 y0 r hm
  rw [m_X0_takes_42] at hm
  by_cases c1 : y0 = 0
  · have hm := ifT hm c1
    obtain ⟨v2, ev2, hm⟩ := nmE hm
    exact (hk21 h x0 x1 x2 v2 _ hm)
  · have hm := ifF hm c1
    exact (mo_X0_takes_45  h x3 _ hm)
def m_X0_takes_39 (f : Nat) (k21 : CH → Nat → Int32 → Int32 → Int32 → Option (Int32 × CH)) (h : CH) (x0 : Nat) (x1 : Int32) (x2 : Int32) (x3 : Int32) (y0 : Nat) (y1 : Int32) (y2 : Nat) (y3 : Nat) : Option (Int32 × CH) := gd (isC h y0 1) <|
    bd2 (m_X0_goes f h y0 y1 y2 y3) fun r3 h2 =>
    m_X0_takes_42 f k21 h2 x0 x1 x2 x3 r3
theorem mo_X0_takes_39 {f : Nat} {k21 : CH → Nat → Int32 → Int32 → Int32 → Option (Int32 × CH)} (hk21 : ∀ (h : CH) (x0 : Nat) (x1 : Int32) (x2 : Int32) (x3 : Int32) (r : (Int32 × CH)), k21 h x0 x1 x2 x3 = some r → le2 h r.2) : ∀ (h : CH) (x0 : Nat) (x1 : Int32) (x2 : Int32) (x3 : Int32) (y0 : Nat) (y1 : Int32) (y2 : Nat) (y3 : Nat) (r : (Int32 × CH)), m_X0_takes_39 f k21 h x0 x1 x2 x3 y0 y1 y2 y3 = some r → le2 h r.2 := by
  intro h x0 x1 x2 x3 y0 y1 y2 y3 r hm
  rw [m_X0_takes_39] at hm
  obtain ⟨g1, hm⟩ := gdE hm
  obtain ⟨r3, h2, er3, hm⟩ := bd2E hm
  have lh2 := mo_X0_goes er3
  exact (lh2.tr (mo_X0_takes_42 hk21 h2 x0 x1 x2 x3 r3 _ hm))
def m_X0_takes_34 (f : Nat) (k21 : CH → Nat → Int32 → Int32 → Int32 → Option (Int32 × CH)) (h : CH) (x0 : Nat) (x1 : Int32) (x2 : Int32) (x3 : Int32) (y0 : Nat) (y1 : Int32) (y2 : Nat) : Option (Int32 × CH) := gd (isC h x0 1) <|
    bd2 (m_X0_at f h x0 x2) fun a3 h2 =>
    m_X0_takes_39 f k21 h2 x0 x1 x2 x3 y0 y1 y2 a3
theorem mo_X0_takes_34 {f : Nat} {k21 : CH → Nat → Int32 → Int32 → Int32 → Option (Int32 × CH)} (hk21 : ∀ (h : CH) (x0 : Nat) (x1 : Int32) (x2 : Int32) (x3 : Int32) (r : (Int32 × CH)), k21 h x0 x1 x2 x3 = some r → le2 h r.2) : ∀ (h : CH) (x0 : Nat) (x1 : Int32) (x2 : Int32) (x3 : Int32) (y0 : Nat) (y1 : Int32) (y2 : Nat) (r : (Int32 × CH)), m_X0_takes_34 f k21 h x0 x1 x2 x3 y0 y1 y2 = some r → le2 h r.2 := by
  intro h x0 x1 x2 x3 y0 y1 y2 r hm
  rw [m_X0_takes_34] at hm
  obtain ⟨g1, hm⟩ := gdE hm
  obtain ⟨a3, h2, ea3, hm⟩ := bd2E hm
  have lh2 := mo_X0_at ea3
  exact (lh2.tr (mo_X0_takes_39 hk21 h2 x0 x1 x2 x3 y0 y1 y2 a3 _ hm))
def m_X0_takes_21 (f : Nat) : Nat → CH → Nat → Int32 → Int32 → Int32 → Option (Int32 × CH)
  | 0, _, _, _, _, _ => none
  | n21 + 1, h, x0, x1, x2, x3 => if (48 : Int32) ≤ x3 then
    m_X0_takes_53 f h
    else gd (isC h x0 1) <|
    bd2 (m_X0_at f h x0 x1) fun a4 h3 =>
    m_X0_takes_34 f (m_X0_takes_21 f n21) h3 x0 x1 x2 x3 x0 x3 a4
theorem mo_X0_takes_21 {f : Nat} : ∀ (n21 : Nat) (h : CH) (x0 : Nat) (x1 : Int32) (x2 : Int32) (x3 : Int32) (r : (Int32 × CH)), m_X0_takes_21 f n21 h x0 x1 x2 x3 = some r → le2 h r.2 := by
  intro n21
  induction n21 with
  | zero => intro h x0 x1 x2 x3 r hm; rw [m_X0_takes_21] at hm; exact noE hm
  | succ n21 ihm =>
    intro h x0 x1 x2 x3 r hm
    rw [m_X0_takes_21] at hm
    by_cases c1 : (48 : Int32) ≤ x3
    · have hm := ifT hm c1
      exact (mo_X0_takes_53  h _ hm)
    · have hm := ifF hm c1
      obtain ⟨g2, hm⟩ := gdE hm
      obtain ⟨a4, h3, ea4, hm⟩ := bd2E hm
      have lh3 := mo_X0_at ea4
      exact (lh3.tr (mo_X0_takes_34 ihm h3 x0 x1 x2 x3 x0 x3 a4 _ hm))
def m_X0_takes_13 (f : Nat) (h : CH) (x0 : Nat) (x1 : Int32) (x2 : Int32) (y0 : Int32) : Option (Int32 × CH) := if ¬ y0 = 0 then
    m_X0_takes_21 f f h x0 x1 x2 (0 : Int32)
    else m_X0_takes_16 f h
theorem mo_X0_takes_13 {f : Nat} : ∀ (h : CH) (x0 : Nat) (x1 : Int32) (x2 : Int32) (y0 : Int32) (r : (Int32 × CH)), m_X0_takes_13 f h x0 x1 x2 y0 = some r → le2 h r.2 := by
  intro h x0 x1 x2 y0 r hm
  rw [m_X0_takes_13] at hm
  by_cases c1 : ¬ y0 = 0
  · have hm := ifT hm c1
    exact (mo_X0_takes_21  f h x0 x1 x2 (0 : Int32) _ hm)
  · have hm := ifF hm c1
    exact (mo_X0_takes_16  h _ hm)
def m_X0_takes_5 (f : Nat) (h : CH) (x0 : Nat) (x1 : Int32) (x2 : Int32) (y0 : Int32) : Option (Int32 × CH) := if y0 = 0 then
    m_X0_takes_16 f h
    else gd (isC h x0 1) <|
    bd2 (m_X0_isLattice f h x0 x2) fun r4 h3 =>
    m_X0_takes_13 f h3 x0 x1 x2 r4
theorem mo_X0_takes_5 {f : Nat} : ∀ (h : CH) (x0 : Nat) (x1 : Int32) (x2 : Int32) (y0 : Int32) (r : (Int32 × CH)), m_X0_takes_5 f h x0 x1 x2 y0 = some r → le2 h r.2 := by
  intro h x0 x1 x2 y0 r hm
  rw [m_X0_takes_5] at hm
  by_cases c1 : y0 = 0
  · have hm := ifT hm c1
    exact (mo_X0_takes_16  h _ hm)
  · have hm := ifF hm c1
    obtain ⟨g2, hm⟩ := gdE hm
    obtain ⟨r4, h3, er4, hm⟩ := bd2E hm
    have lh3 := mo_X0_isLattice er4
    exact (lh3.tr (mo_X0_takes_13  h3 x0 x1 x2 r4 _ hm))
def m_X0_takes (f : Nat) (u : CH) (x0 : Nat) (x1 : Int32) (x2 : Int32) : Option (Int32 × CH) := gd (isC u x0 1) <|
    bd2 (m_X0_isLattice f u x0 x1) fun r3 h2 =>
    m_X0_takes_5 f h2 x0 x1 x2 r3
theorem mo_X0_takes {f : Nat} {u : CH} {x0 : Nat} {x1 : Int32} {x2 : Int32} {r0 : Int32} {u9 : CH} (hm : m_X0_takes f u x0 x1 x2 = some (r0, u9)) : le2 u u9 := by
  rw [m_X0_takes] at hm
  obtain ⟨g1, hm⟩ := gdE hm
  obtain ⟨r3, h2, er3, hm⟩ := bd2E hm
  have lh2 := mo_X0_isLattice er3
  exact (lh2.tr (mo_X0_takes_5  h2 x0 x1 x2 r3 _ hm))
abbrev rm_X0_takes (mc ms : Nat) : Room := { frames := 106, cells := mc, slots := ms, locals := 4169 }
theorem cw_X0_takes {R : Room} {s : State} {args : Array Value} {own : String} {idx mc ms : Nat} (hts : ∀ w ∈ lw_all, w.before args s = true) (hl : Cond.methodLink own idx yX0_takes ∈ lw_all) (hR : 106 + 1 ≤ R.frames ∧ 8 + (4 + 11) + 4169 ≤ R.locals) : CallW R s args own RX0 idx yX0_takes cX0_takes 4 (Option.some Jvm.ClassFile.FieldType.int) (ws_ yX0_takes cX0_takes 4 (Option.some Jvm.ClassFile.FieldType.int)) (rm_X0_takes mc ms) mc ms 2 := cwV 2 hts (lw_V hl q1367 q1368 q119 q1369) rfl rfl rfl (by decide +kernel) hR
set_option maxHeartbeats 4000000 in
set_option maxRecDepth 100000 in
theorem w_X0_takes (l : Launch) {D : va_G} {dA : Nat → ClassId} {A : Nat → Prop} {f : Nat} {u u9 : CH} {r0 : Int32} {x0 : Nat} {x1 : Int32} {x2 : Int32} (hm : m_X0_takes f u x0 x1 x2 = some (r0, u9)) : Met l yX0_takes (ws_ yX0_takes cX0_takes 4 (Option.some Jvm.ClassFile.FieldType.int)) (rm_X0_takes (u9.1 - u.1) (u9.2.1 - u.2.1)) (va_Pc [.ref x0, .int x1, .int x2] (CPre D dA A u)) (va_Qi (fun r u => r = r0 ∧ u = u9) (CPost D dA A) A) (u9.1 - u.1) (u9.2.1 - u.2.1) A := by
  refine Met.ofW (cc := cX0_takes) (maxL := 4) (ret := (Option.some Jvm.ClassFile.FieldType.int)) (by decide) rfl ?_
  intro p e s m args below meth c s₁ B hml hv
  have hx := B.exec
  have hb := B.bytes
  have hr := B.returns
  have hts := atoms_spec (ws := (ws_ yX0_takes cX0_takes 4 (Option.some Jvm.ClassFile.FieldType.int))) B.pre
  have hts : ∀ w ∈ lw_all, w.before args s = true := fun w h => hts w (List.mem_cons_of_mem _ h)
  have hown : s.vm.findClass RX0 = some m.cls := findClass_of_methodNamed B.named
  have hlocks := B.notSynchronized
  obtain ⟨hav, hv⟩ := hv
  have C : CX p s m args c cX0_takes RX0 D dA := ⟨hx, hb, hown, hts, hv.2⟩
  have hw : CW D dA A s u s.heap [] := hv.1
  generalize hQ : MQ below (va_Qi (fun r u => r = r0 ∧ u = u9) (CPost D dA A) A) args s (u9.1 - u.1) (u9.2.1 - u.2.1) A = QQ
  have hent := lg_entry_eq m [.ref x0, .int x1, .int x2] 4
  rw [← hav] at hent
  rw [hent]
  have hl := lv_entry ([.ref x0, .int x1, .int x2]) (n := 4) (Nat.le_of_ble_eq_true rfl)
  generalize (lg_sl ([.ref x0, .int x1, .int x2]) ++ List.replicate (4 - (lg_sl ([.ref x0, .int x1, .int x2])).length) Slot.unset).toArray = ls at hl ⊢
  have hl : lv_has ls 4 [(0, .ref x0), (1, .int x1), (2, .int x2)] := hl
  obtain ⟨cc, ecc⟩ : ∃ z : Nat, z = 0 := ⟨0, rfl⟩
  obtain ⟨ss, ess⟩ : ∃ z : Nat, z = 0 := ⟨0, rfl⟩
  have hcc : cc + u.1 = u.1 := by omega
  have hss : ss + u.2.1 = u.2.1 := by omega
  suffices hgo : W p l e (rm_X0_takes (u9.1 - u.1) (u9.2.1 - u.2.1)) s m args below meth c s.heap [] cc ss QQ (F0 m 0 ls []) by rw [ecc, ess] at hgo; exact hgo
  have ⟨pu, qu, _, _⟩ := mo_X0_takes hm
  have hB16 : ∀ (h : CH) (cc ss : Nat) (H : Heap) (locs : List Loc) (ls : Array Slot), m_X0_takes_16 f h = some (r0, u9) → CW D dA A s h H locs → cc + u.1 = h.1 → ss + u.2.1 = h.2.1 → lv_has ls 4 [] → W p l e (rm_X0_takes (u9.1 - u.1) (u9.2.1 - u.2.1)) s m args below meth c H locs cc ss QQ (F0 m 16 ls []) := by
    intro h cc ss H locs ls hm hw hcc hss hl
    have hmo := mo_X0_takes_16  h _ hm
    have sb_ : h.1 ≤ u9.1 := hmo.1
    have tb_ : h.2.1 ≤ u9.2.1 := hmo.2.1
    rw [m_X0_takes_16] at hm
    refine lv_bipush (v := -2) hx hb dX0_takes_16 (by decide) ?_
    obtain ⟨er, eh⟩ := retE hm
    have ec : cc = u9.1 - u.1 := by rw [← eh]; omega
    have es : ss = u9.2.1 - u.2.1 := by rw [← eh]; omega
    rw [ec, es, ← hQ]
    exact W.iret (v := (-2 : Int32)) hx hb hr (fun t ht hW => ⟨⟨(-2 : Int32), h, rfl, ⟨er, eh⟩, ⟨by rw [ht]; exact hw.1, by rw [ht]; exact hw.2.1⟩⟩, hw.2.2.1.F ht⟩) hw.2.2.1.2.2 dX0_takes_18
  have hB53 : ∀ (h : CH) (cc ss : Nat) (H : Heap) (locs : List Loc) (ls : Array Slot), m_X0_takes_53 f h = some (r0, u9) → CW D dA A s h H locs → cc + u.1 = h.1 → ss + u.2.1 = h.2.1 → lv_has ls 4 [] → W p l e (rm_X0_takes (u9.1 - u.1) (u9.2.1 - u.2.1)) s m args below meth c H locs cc ss QQ (F0 m 53 ls []) := by
    intro h cc ss H locs ls hm hw hcc hss hl
    have hmo := mo_X0_takes_53  h _ hm
    have sb_ : h.1 ≤ u9.1 := hmo.1
    have tb_ : h.2.1 ≤ u9.2.1 := hmo.2.1
    rw [m_X0_takes_53] at hm
    refine lv_iconst (v := -1) hx hb dX0_takes_53 (by decide) ?_
    obtain ⟨er, eh⟩ := retE hm
    have ec : cc = u9.1 - u.1 := by rw [← eh]; omega
    have es : ss = u9.2.1 - u.2.1 := by rw [← eh]; omega
    rw [ec, es, ← hQ]
    exact W.iret (v := (-1 : Int32)) hx hb hr (fun t ht hW => ⟨⟨(-1 : Int32), h, rfl, ⟨er, eh⟩, ⟨by rw [ht]; exact hw.1, by rw [ht]; exact hw.2.1⟩⟩, hw.2.2.1.F ht⟩) hw.2.2.1.2.2 dX0_takes_54
  have hB45 : ∀ (h : CH) (x3 : Int32) (cc ss : Nat) (H : Heap) (locs : List Loc) (ls : Array Slot), m_X0_takes_45 f h x3 = some (r0, u9) → CW D dA A s h H locs → cc + u.1 = h.1 → ss + u.2.1 = h.2.1 → lv_has ls 4 [(3, .int x3)] → W p l e (rm_X0_takes (u9.1 - u.1) (u9.2.1 - u.2.1)) s m args below meth c H locs cc ss QQ (F0 m 45 ls []) := by
    intro h x3 cc ss H locs ls hm hw hcc hss hl
    have hmo := mo_X0_takes_45  h x3 _ hm
    have sb_ : h.1 ≤ u9.1 := hmo.1
    have tb_ : h.2.1 ≤ u9.2.1 := hmo.2.1
    rw [m_X0_takes_45] at hm
    refine lv_iload_n hx hb dX0_takes_45 rfl (lv_at hl 0 rfl) ?_
    obtain ⟨er, eh⟩ := retE hm
    have ec : cc = u9.1 - u.1 := by rw [← eh]; omega
    have es : ss = u9.2.1 - u.2.1 := by rw [← eh]; omega
    rw [ec, es, ← hQ]
    exact W.iret (v := x3) hx hb hr (fun t ht hW => ⟨⟨x3, h, rfl, ⟨er, eh⟩, ⟨by rw [ht]; exact hw.1, by rw [ht]; exact hw.2.1⟩⟩, hw.2.2.1.F ht⟩) hw.2.2.1.2.2 dX0_takes_46
  have hB21 : ∀ (n21 : Nat), ∀ (h : CH) (x0 : Nat) (x1 : Int32) (x2 : Int32) (x3 : Int32) (cc ss : Nat) (H : Heap) (locs : List Loc) (ls : Array Slot), m_X0_takes_21 f n21 h x0 x1 x2 x3 = some (r0, u9) → CW D dA A s h H locs → cc + u.1 = h.1 → ss + u.2.1 = h.2.1 → lv_has ls 4 [(0, .ref x0), (1, .int x1), (2, .int x2), (3, .int x3)] → W p l e (rm_X0_takes (u9.1 - u.1) (u9.2.1 - u.2.1)) s m args below meth c H locs cc ss QQ (F0 m 21 ls []) := by
    intro n21
    induction n21 with
    | zero => intro h x0 x1 x2 x3 cc ss H locs ls hm hw hcc hss hl; rw [m_X0_takes_21] at hm; exact noE hm
    | succ n21 ih21 =>
      have hB42 : ∀ (h : CH) (x0 : Nat) (x1 : Int32) (x2 : Int32) (x3 : Int32) (y0 : Int32) (cc ss : Nat) (H : Heap) (locs : List Loc) (ls : Array Slot), m_X0_takes_42 f (m_X0_takes_21 f n21) h x0 x1 x2 x3 y0 = some (r0, u9) → CW D dA A s h H locs → cc + u.1 = h.1 → ss + u.2.1 = h.2.1 → lv_has ls 4 [(0, .ref x0), (1, .int x1), (2, .int x2), (3, .int x3)] → W p l e (rm_X0_takes (u9.1 - u.1) (u9.2.1 - u.2.1)) s m args below meth c H locs cc ss QQ (F0 m 42 ls [.int y0]) := by
        intro h x0 x1 x2 x3 y0 cc ss H locs ls hm hw hcc hss hl
        have hmo := mo_X0_takes_42 (mo_X0_takes_21 n21) h x0 x1 x2 x3 y0 _ hm
        have sb_ : h.1 ≤ u9.1 := hmo.1
        have tb_ : h.2.1 ≤ u9.2.1 := hmo.2.1
        rw [m_X0_takes_42] at hm
        refine lv_if_eq (tgt := 47) hx hb dX0_takes_42 (by decide) (fun c1 => ?_) (fun c1 => ?_)
        · have hm := ifT hm c1
          obtain ⟨v2, ev2, hm⟩ := nmE hm
          refine lv_iinc (v := v2) (lv' := [(3, .int v2), (0, .ref x0), (1, .int x1), (2, .int x2)]) hx hb dX0_takes_47 hl (k := 3) rfl (by rw [ev2]; rfl) (by decide) rfl (fun ls hl => ?_)
          refine lv_goto (tgt := 21) hx hb dX0_takes_50 (by decide) ?_
          exact ih21 h x0 x1 x2 v2 _ _ _ _ _ hm hw (by omega) (by omega) (lv_sub hl [1, 2, 3, 0] rfl)
        · have hm := ifF hm c1
          exact hB45 h x3 _ _ _ _ _ hm hw (by omega) (by omega) (lv_sub hl [3] rfl)
      have hB39 : ∀ (h : CH) (x0 : Nat) (x1 : Int32) (x2 : Int32) (x3 : Int32) (y0 : Nat) (y1 : Int32) (y2 : Nat) (y3 : Nat) (cc ss : Nat) (H : Heap) (locs : List Loc) (ls : Array Slot), m_X0_takes_39 f (m_X0_takes_21 f n21) h x0 x1 x2 x3 y0 y1 y2 y3 = some (r0, u9) → CW D dA A s h H locs → cc + u.1 = h.1 → ss + u.2.1 = h.2.1 → lv_has ls 4 [(0, .ref x0), (1, .int x1), (2, .int x2), (3, .int x3)] → W p l e (rm_X0_takes (u9.1 - u.1) (u9.2.1 - u.2.1)) s m args below meth c H locs cc ss QQ (F0 m 39 ls [.ref y3, .ref y2, .int y1, .ref y0]) := by
        intro h x0 x1 x2 x3 y0 y1 y2 y3 cc ss H locs ls hm hw hcc hss hl
        have hmo := mo_X0_takes_39 (mo_X0_takes_21 n21) h x0 x1 x2 x3 y0 y1 y2 y3 _ hm
        have sb_ : h.1 ≤ u9.1 := hmo.1
        have tb_ : h.2.1 ≤ u9.2.1 := hmo.2.1
        rw [m_X0_takes_39] at hm
        obtain ⟨g1, hm⟩ := gdE hm
        obtain ⟨r3, h2, er3, hm⟩ := bd2E hm
        have lh2 := mo_X0_goes er3
        have ph2 : h.1 ≤ h2.1 := lh2.1
        have qh2 : h.2.1 ≤ h2.2.1 := lh2.2.1
        have hmo := mo_X0_takes_42 (mo_X0_takes_21 n21)  h2 x0 x1 x2 x3 r3 _ hm
        have sh2 : h2.1 ≤ u9.1 := hmo.1
        have th2 : h2.2.1 ≤ u9.2.1 := hmo.2.1
        refine cg_calli hw lh2 (va_runV (As := [.int y1, .ref y2, .ref y3]) (rest := []) ⟨hx, hb, hml, hown, hts⟩ (w_X0_goes l er3) (cw_X0_goes hts q1362 ⟨Nat.le_of_ble_eq_true rfl, Nat.le_of_ble_eq_true rfl⟩) (cg_preV C hw g1 rfl _) rfl rfl hl.1 rfl (lv_room (Nat.le_of_ble_eq_true rfl)) dX0_takes_39 ⟨show cc + (h2.1 - h.1) ≤ u9.1 - u.1 by omega, show ss + (h2.2.1 - h.2.1) ≤ u9.2.1 - u.2.1 by omega⟩) (fun H locs hw => ?_)
        exact hB42 h2 x0 x1 x2 x3 r3 _ _ _ _ _ hm hw (by omega) (by omega) (lv_sub hl [0, 1, 2, 3] rfl)
      have hB34 : ∀ (h : CH) (x0 : Nat) (x1 : Int32) (x2 : Int32) (x3 : Int32) (y0 : Nat) (y1 : Int32) (y2 : Nat) (cc ss : Nat) (H : Heap) (locs : List Loc) (ls : Array Slot), m_X0_takes_34 f (m_X0_takes_21 f n21) h x0 x1 x2 x3 y0 y1 y2 = some (r0, u9) → CW D dA A s h H locs → cc + u.1 = h.1 → ss + u.2.1 = h.2.1 → lv_has ls 4 [(0, .ref x0), (1, .int x1), (2, .int x2), (3, .int x3)] → W p l e (rm_X0_takes (u9.1 - u.1) (u9.2.1 - u.2.1)) s m args below meth c H locs cc ss QQ (F0 m 34 ls [.ref y2, .int y1, .ref y0]) := by
        intro h x0 x1 x2 x3 y0 y1 y2 cc ss H locs ls hm hw hcc hss hl
        have hmo := mo_X0_takes_34 (mo_X0_takes_21 n21) h x0 x1 x2 x3 y0 y1 y2 _ hm
        have sb_ : h.1 ≤ u9.1 := hmo.1
        have tb_ : h.2.1 ≤ u9.2.1 := hmo.2.1
        rw [m_X0_takes_34] at hm
        refine lv_aload_n hx hb dX0_takes_34 rfl (lv_at hl 0 rfl) ?_
        refine lv_iload_n hx hb dX0_takes_35 rfl (lv_at hl 2 rfl) ?_
        obtain ⟨g1, hm⟩ := gdE hm
        obtain ⟨a3, h2, ea3, hm⟩ := bd2E hm
        have lh2 := mo_X0_at ea3
        have ph2 : h.1 ≤ h2.1 := lh2.1
        have qh2 : h.2.1 ≤ h2.2.1 := lh2.2.1
        have hmo := mo_X0_takes_39 (mo_X0_takes_21 n21)  h2 x0 x1 x2 x3 y0 y1 y2 a3 _ hm
        have sh2 : h2.1 ≤ u9.1 := hmo.1
        have th2 : h2.2.1 ≤ u9.2.1 := hmo.2.1
        refine cg_callr hw lh2 (va_runV (As := [.int x2]) (rest := [.ref y2, .int y1, .ref y0]) ⟨hx, hb, hml, hown, hts⟩ (w_X0_at l ea3) (cw_X0_at hts q900 ⟨Nat.le_of_ble_eq_true rfl, Nat.le_of_ble_eq_true rfl⟩) (cg_preV C hw g1 rfl _) rfl rfl hl.1 rfl (lv_room (Nat.le_of_ble_eq_true rfl)) dX0_takes_36 ⟨show cc + (h2.1 - h.1) ≤ u9.1 - u.1 by omega, show ss + (h2.2.1 - h.2.1) ≤ u9.2.1 - u.2.1 by omega⟩) (fun H locs hw => ?_)
        exact hB39 h2 x0 x1 x2 x3 y0 y1 y2 a3 _ _ _ _ _ hm hw (by omega) (by omega) (lv_sub hl [0, 1, 2, 3] rfl)
      intro h x0 x1 x2 x3 cc ss H locs ls hm hw hcc hss hl
      have hmo := mo_X0_takes_21  (n21 + 1) h x0 x1 x2 x3 _ hm
      have sb_ : h.1 ≤ u9.1 := hmo.1
      have tb_ : h.2.1 ≤ u9.2.1 := hmo.2.1
      rw [m_X0_takes_21] at hm
      refine lv_iload_n hx hb dX0_takes_21 rfl (lv_at hl 3 rfl) ?_
      refine lv_bipush (v := 48) hx hb dX0_takes_22 (by decide) ?_
      refine lv_icmp_ge (tgt := 53) hx hb dX0_takes_24 (by decide) (fun c1 => ?_) (fun c1 => ?_)
      · have hm := ifT hm c1
        exact hB53 h _ _ _ _ _ hm hw (by omega) (by omega) (lv_sub hl [] rfl)
      · have hm := ifF hm c1
        refine lv_aload_n hx hb dX0_takes_27 rfl (lv_at hl 0 rfl) ?_
        refine lv_iload_n hx hb dX0_takes_28 rfl (lv_at hl 3 rfl) ?_
        refine lv_aload_n hx hb dX0_takes_29 rfl (lv_at hl 0 rfl) ?_
        refine lv_iload_n hx hb dX0_takes_30 rfl (lv_at hl 1 rfl) ?_
        obtain ⟨g2, hm⟩ := gdE hm
        obtain ⟨a4, h3, ea4, hm⟩ := bd2E hm
        have lh3 := mo_X0_at ea4
        have ph3 : h.1 ≤ h3.1 := lh3.1
        have qh3 : h.2.1 ≤ h3.2.1 := lh3.2.1
        have hmo := mo_X0_takes_34 (mo_X0_takes_21 n21)  h3 x0 x1 x2 x3 x0 x3 a4 _ hm
        have sh3 : h3.1 ≤ u9.1 := hmo.1
        have th3 : h3.2.1 ≤ u9.2.1 := hmo.2.1
        refine cg_callr hw lh3 (va_runV (As := [.int x1]) (rest := [.int x3, .ref x0]) ⟨hx, hb, hml, hown, hts⟩ (w_X0_at l ea4) (cw_X0_at hts q900 ⟨Nat.le_of_ble_eq_true rfl, Nat.le_of_ble_eq_true rfl⟩) (cg_preV C hw g2 rfl _) rfl rfl hl.1 rfl (lv_room (Nat.le_of_ble_eq_true rfl)) dX0_takes_31 ⟨show cc + (h3.1 - h.1) ≤ u9.1 - u.1 by omega, show ss + (h3.2.1 - h.2.1) ≤ u9.2.1 - u.2.1 by omega⟩) (fun H locs hw => ?_)
        exact hB34 h3 x0 x1 x2 x3 x0 x3 a4 _ _ _ _ _ hm hw (by omega) (by omega) (lv_sub hl [0, 1, 2, 3] rfl)
  have hB13 : ∀ (h : CH) (x0 : Nat) (x1 : Int32) (x2 : Int32) (y0 : Int32) (cc ss : Nat) (H : Heap) (locs : List Loc) (ls : Array Slot), m_X0_takes_13 f h x0 x1 x2 y0 = some (r0, u9) → CW D dA A s h H locs → cc + u.1 = h.1 → ss + u.2.1 = h.2.1 → lv_has ls 4 [(0, .ref x0), (1, .int x1), (2, .int x2)] → W p l e (rm_X0_takes (u9.1 - u.1) (u9.2.1 - u.2.1)) s m args below meth c H locs cc ss QQ (F0 m 13 ls [.int y0]) := by
    intro h x0 x1 x2 y0 cc ss H locs ls hm hw hcc hss hl
    have hmo := mo_X0_takes_13  h x0 x1 x2 y0 _ hm
    have sb_ : h.1 ≤ u9.1 := hmo.1
    have tb_ : h.2.1 ≤ u9.2.1 := hmo.2.1
    rw [m_X0_takes_13] at hm
    refine lv_if_ne (tgt := 19) hx hb dX0_takes_13 (by decide) (fun c1 => ?_) (fun c1 => ?_)
    · have hm := ifT hm c1
      refine lv_iconst (v := 0) hx hb dX0_takes_19 (by decide) ?_
      refine lv_istore_n (lv' := [(3, .int (0 : Int32)), (0, .ref x0), (1, .int x1), (2, .int x2)]) hx hb dX0_takes_20 rfl hl (by decide) rfl (fun ls hl => ?_)
      exact hB21 f h x0 x1 x2 (0 : Int32) _ _ _ _ _ hm hw (by omega) (by omega) (lv_sub hl [1, 2, 3, 0] rfl)
    · have hm := ifT' hm c1
      exact hB16 h _ _ _ _ _ hm hw (by omega) (by omega) (lv_sub hl [] rfl)
  have hB5 : ∀ (h : CH) (x0 : Nat) (x1 : Int32) (x2 : Int32) (y0 : Int32) (cc ss : Nat) (H : Heap) (locs : List Loc) (ls : Array Slot), m_X0_takes_5 f h x0 x1 x2 y0 = some (r0, u9) → CW D dA A s h H locs → cc + u.1 = h.1 → ss + u.2.1 = h.2.1 → lv_has ls 4 [(0, .ref x0), (1, .int x1), (2, .int x2)] → W p l e (rm_X0_takes (u9.1 - u.1) (u9.2.1 - u.2.1)) s m args below meth c H locs cc ss QQ (F0 m 5 ls [.int y0]) := by
    intro h x0 x1 x2 y0 cc ss H locs ls hm hw hcc hss hl
    have hmo := mo_X0_takes_5  h x0 x1 x2 y0 _ hm
    have sb_ : h.1 ≤ u9.1 := hmo.1
    have tb_ : h.2.1 ≤ u9.2.1 := hmo.2.1
    rw [m_X0_takes_5] at hm
    refine lv_if_eq (tgt := 16) hx hb dX0_takes_5 (by decide) (fun c1 => ?_) (fun c1 => ?_)
    · have hm := ifT hm c1
      exact hB16 h _ _ _ _ _ hm hw (by omega) (by omega) (lv_sub hl [] rfl)
    · have hm := ifF hm c1
      refine lv_aload_n hx hb dX0_takes_8 rfl (lv_at hl 0 rfl) ?_
      refine lv_iload_n hx hb dX0_takes_9 rfl (lv_at hl 2 rfl) ?_
      obtain ⟨g2, hm⟩ := gdE hm
      obtain ⟨r4, h3, er4, hm⟩ := bd2E hm
      have lh3 := mo_X0_isLattice er4
      have ph3 : h.1 ≤ h3.1 := lh3.1
      have qh3 : h.2.1 ≤ h3.2.1 := lh3.2.1
      have hmo := mo_X0_takes_13   h3 x0 x1 x2 r4 _ hm
      have sh3 : h3.1 ≤ u9.1 := hmo.1
      have th3 : h3.2.1 ≤ u9.2.1 := hmo.2.1
      refine cg_calli hw lh3 (va_runV (As := [.int x2]) (rest := []) ⟨hx, hb, hml, hown, hts⟩ (w_X0_isLattice l er4) (cw_X0_isLattice hts q892 ⟨Nat.le_of_ble_eq_true rfl, Nat.le_of_ble_eq_true rfl⟩) (cg_preV C hw g2 rfl _) rfl rfl hl.1 rfl (lv_room (Nat.le_of_ble_eq_true rfl)) dX0_takes_10 ⟨show cc + (h3.1 - h.1) ≤ u9.1 - u.1 by omega, show ss + (h3.2.1 - h.2.1) ≤ u9.2.1 - u.2.1 by omega⟩) (fun H locs hw => ?_)
      exact hB13 h3 x0 x1 x2 r4 _ _ _ _ _ hm hw (by omega) (by omega) (lv_sub hl [0, 1, 2] rfl)
  rw [m_X0_takes] at hm
  refine lv_aload_n hx hb dX0_takes_0 rfl (lv_at hl 0 rfl) ?_
  refine lv_iload_n hx hb dX0_takes_1 rfl (lv_at hl 1 rfl) ?_
  obtain ⟨g1, hm⟩ := gdE hm
  obtain ⟨r3, h2, er3, hm⟩ := bd2E hm
  have lh2 := mo_X0_isLattice er3
  have ph2 : u.1 ≤ h2.1 := lh2.1
  have qh2 : u.2.1 ≤ h2.2.1 := lh2.2.1
  have hmo := mo_X0_takes_5   h2 x0 x1 x2 r3 _ hm
  have sh2 : h2.1 ≤ u9.1 := hmo.1
  have th2 : h2.2.1 ≤ u9.2.1 := hmo.2.1
  refine cg_calli hw lh2 (va_runV (As := [.int x1]) (rest := []) ⟨hx, hb, hml, hown, hts⟩ (w_X0_isLattice l er3) (cw_X0_isLattice hts q892 ⟨Nat.le_of_ble_eq_true rfl, Nat.le_of_ble_eq_true rfl⟩) (cg_preV C hw g1 rfl _) rfl rfl hl.1 rfl (lv_room (Nat.le_of_ble_eq_true rfl)) dX0_takes_2 ⟨show cc + (h2.1 - u.1) ≤ u9.1 - u.1 by omega, show ss + (h2.2.1 - u.2.1) ≤ u9.2.1 - u.2.1 by omega⟩) (fun H locs hw => ?_)
  exact hB5 h2 x0 x1 x2 r3 _ _ _ _ _ hm hw (by omega) (by omega) (lv_sub hl [0, 1, 2] rfl)
def m_X0_isOwn_24 (f : Nat) (h : CH) (y0 : Int32) : Option (Int32 × CH) := gd (zb y0) <|
    some (y0, h)
theorem mo_X0_isOwn_24 {f : Nat} : ∀ (h : CH) (y0 : Int32) (r : (Int32 × CH)), m_X0_isOwn_24 f h y0 = some r → le2 h r.2 := by
  intro h y0 r hm
  rw [m_X0_isOwn_24] at hm
  obtain ⟨g1, hm⟩ := gdE hm
  cases hm
  exact le2.rf
def m_X0_isOwn_23 (f : Nat) (h : CH) : Option (Int32 × CH) := m_X0_isOwn_24 f h (0 : Int32)
theorem mo_X0_isOwn_23 {f : Nat} : ∀ (h : CH) (r : (Int32 × CH)), m_X0_isOwn_23 f h = some r → le2 h r.2 := by
  intro h r hm
  rw [m_X0_isOwn_23] at hm
  exact (mo_X0_isOwn_24  h (0 : Int32) _ hm)
def m_X0_isOwn_16 (f : Nat) (h : CH) (y0 : Int32) : Option (Int32 × CH) := if ¬ y0 = 0 then
    m_X0_isOwn_23 f h
    else m_X0_isOwn_24 f h (1 : Int32)
theorem mo_X0_isOwn_16 {f : Nat} : ∀ (h : CH) (y0 : Int32) (r : (Int32 × CH)), m_X0_isOwn_16 f h y0 = some r → le2 h r.2 := by
  intro h y0 r hm
  rw [m_X0_isOwn_16] at hm
  by_cases c1 : ¬ y0 = 0
  · have hm := ifT hm c1
    exact (mo_X0_isOwn_23  h _ hm)
  · have hm := ifF hm c1
    exact (mo_X0_isOwn_24  h (1 : Int32) _ hm)
def m_X0_isOwn_13 (f : Nat) (h : CH) (y0 : Nat) : Option (Int32 × CH) := if isC h y0 6 = true then
    bd2 (m_X6_isTurned f h y0) fun r3 h2 =>
    m_X0_isOwn_16 f h2 r3
    else gd (isC h y0 7) <|
    bd2 (m_X7_isTurned f h y0) fun r6 h5 =>
    m_X0_isOwn_16 f h5 r6
theorem mo_X0_isOwn_13 {f : Nat} : ∀ (h : CH) (y0 : Nat) (r : (Int32 × CH)), m_X0_isOwn_13 f h y0 = some r → le2 h r.2 := by
  intro h y0 r hm
  rw [m_X0_isOwn_13] at hm
  by_cases c1 : isC h y0 6 = true
  · have hm := ifT hm c1
    obtain ⟨r3, h2, er3, hm⟩ := bd2E hm
    have lh2 := mo_X6_isTurned er3
    exact (lh2.tr (mo_X0_isOwn_16  h2 r3 _ hm))
  · have hm := ifF hm c1
    obtain ⟨g4, hm⟩ := gdE hm
    obtain ⟨r6, h5, er6, hm⟩ := bd2E hm
    have lh5 := mo_X7_isTurned er6
    exact (lh5.tr (mo_X0_isOwn_16  h5 r6 _ hm))
def m_X0_isOwn_5 (f : Nat) (h : CH) (x0 : Nat) (x1 : Int32) (y0 : Int32) : Option (Int32 × CH) := if y0 = 0 then
    m_X0_isOwn_23 f h
    else gd (isC h x0 1) <|
    bd2 (m_X0_at f h x0 x1) fun a4 h3 =>
    m_X0_isOwn_13 f h3 a4
theorem mo_X0_isOwn_5 {f : Nat} : ∀ (h : CH) (x0 : Nat) (x1 : Int32) (y0 : Int32) (r : (Int32 × CH)), m_X0_isOwn_5 f h x0 x1 y0 = some r → le2 h r.2 := by
  intro h x0 x1 y0 r hm
  rw [m_X0_isOwn_5] at hm
  by_cases c1 : y0 = 0
  · have hm := ifT hm c1
    exact (mo_X0_isOwn_23  h _ hm)
  · have hm := ifF hm c1
    obtain ⟨g2, hm⟩ := gdE hm
    obtain ⟨a4, h3, ea4, hm⟩ := bd2E hm
    have lh3 := mo_X0_at ea4
    exact (lh3.tr (mo_X0_isOwn_13  h3 a4 _ hm))
def m_X0_isOwn (f : Nat) (u : CH) (x0 : Nat) (x1 : Int32) : Option (Int32 × CH) := gd (isC u x0 1) <|
    bd2 (m_X0_isLattice f u x0 x1) fun r3 h2 =>
    m_X0_isOwn_5 f h2 x0 x1 r3
theorem mo_X0_isOwn {f : Nat} {u : CH} {x0 : Nat} {x1 : Int32} {r0 : Int32} {u9 : CH} (hm : m_X0_isOwn f u x0 x1 = some (r0, u9)) : le2 u u9 := by
  rw [m_X0_isOwn] at hm
  obtain ⟨g1, hm⟩ := gdE hm
  obtain ⟨r3, h2, er3, hm⟩ := bd2E hm
  have lh2 := mo_X0_isLattice er3
  exact (lh2.tr (mo_X0_isOwn_5  h2 x0 x1 r3 _ hm))
abbrev rm_X0_isOwn (mc ms : Nat) : Room := { frames := 4, cells := mc, slots := ms, locals := 85 }
theorem cw_X0_isOwn {R : Room} {s : State} {args : Array Value} {own : String} {idx mc ms : Nat} (hts : ∀ w ∈ lw_all, w.before args s = true) (hl : Cond.methodLink own idx yX0_isOwn ∈ lw_all) (hR : 4 + 1 ≤ R.frames ∧ 8 + (2 + 11) + 85 ≤ R.locals) : CallW R s args own RX0 idx yX0_isOwn cX0_isOwn 2 (Option.some Jvm.ClassFile.FieldType.boolean) (ws_ yX0_isOwn cX0_isOwn 2 (Option.some Jvm.ClassFile.FieldType.boolean)) (rm_X0_isOwn mc ms) mc ms 1 := cwV 1 hts (lw_V hl q1376 qs49 q119 q1377) rfl rfl rfl (by decide +kernel) hR
set_option maxHeartbeats 4000000 in
set_option maxRecDepth 100000 in
theorem w_X0_isOwn (l : Launch) {D : va_G} {dA : Nat → ClassId} {A : Nat → Prop} {f : Nat} {u u9 : CH} {r0 : Int32} {x0 : Nat} {x1 : Int32} (hm : m_X0_isOwn f u x0 x1 = some (r0, u9)) : Met l yX0_isOwn (ws_ yX0_isOwn cX0_isOwn 2 (Option.some Jvm.ClassFile.FieldType.boolean)) (rm_X0_isOwn (u9.1 - u.1) (u9.2.1 - u.2.1)) (va_Pc [.ref x0, .int x1] (CPre D dA A u)) (va_Qi (fun r u => r = r0 ∧ u = u9) (CPost D dA A) A) (u9.1 - u.1) (u9.2.1 - u.2.1) A := by
  refine Met.ofW (cc := cX0_isOwn) (maxL := 2) (ret := (Option.some Jvm.ClassFile.FieldType.boolean)) (by decide) rfl ?_
  intro p e s m args below meth c s₁ B hml hv
  have hx := B.exec
  have hb := B.bytes
  have hr := B.returns
  have hts := atoms_spec (ws := (ws_ yX0_isOwn cX0_isOwn 2 (Option.some Jvm.ClassFile.FieldType.boolean))) B.pre
  have hts : ∀ w ∈ lw_all, w.before args s = true := fun w h => hts w (List.mem_cons_of_mem _ h)
  have hown : s.vm.findClass RX0 = some m.cls := findClass_of_methodNamed B.named
  have hlocks := B.notSynchronized
  obtain ⟨hav, hv⟩ := hv
  have C : CX p s m args c cX0_isOwn RX0 D dA := ⟨hx, hb, hown, hts, hv.2⟩
  have hw : CW D dA A s u s.heap [] := hv.1
  generalize hQ : MQ below (va_Qi (fun r u => r = r0 ∧ u = u9) (CPost D dA A) A) args s (u9.1 - u.1) (u9.2.1 - u.2.1) A = QQ
  have hent := lg_entry_eq m [.ref x0, .int x1] 2
  rw [← hav] at hent
  rw [hent]
  have hl := lv_entry ([.ref x0, .int x1]) (n := 2) (Nat.le_of_ble_eq_true rfl)
  generalize (lg_sl ([.ref x0, .int x1]) ++ List.replicate (2 - (lg_sl ([.ref x0, .int x1])).length) Slot.unset).toArray = ls at hl ⊢
  have hl : lv_has ls 2 [(0, .ref x0), (1, .int x1)] := hl
  obtain ⟨cc, ecc⟩ : ∃ z : Nat, z = 0 := ⟨0, rfl⟩
  obtain ⟨ss, ess⟩ : ∃ z : Nat, z = 0 := ⟨0, rfl⟩
  have hcc : cc + u.1 = u.1 := by omega
  have hss : ss + u.2.1 = u.2.1 := by omega
  suffices hgo : W p l e (rm_X0_isOwn (u9.1 - u.1) (u9.2.1 - u.2.1)) s m args below meth c s.heap [] cc ss QQ (F0 m 0 ls []) by rw [ecc, ess] at hgo; exact hgo
  have ⟨pu, qu, _, _⟩ := mo_X0_isOwn hm
  have hB24 : ∀ (h : CH) (y0 : Int32) (cc ss : Nat) (H : Heap) (locs : List Loc) (ls : Array Slot), m_X0_isOwn_24 f h y0 = some (r0, u9) → CW D dA A s h H locs → cc + u.1 = h.1 → ss + u.2.1 = h.2.1 → lv_has ls 2 [] → W p l e (rm_X0_isOwn (u9.1 - u.1) (u9.2.1 - u.2.1)) s m args below meth c H locs cc ss QQ (F0 m 24 ls [.int y0]) := by
    intro h y0 cc ss H locs ls hm hw hcc hss hl
    have hmo := mo_X0_isOwn_24  h y0 _ hm
    have sb_ : h.1 ≤ u9.1 := hmo.1
    have tb_ : h.2.1 ≤ u9.2.1 := hmo.2.1
    rw [m_X0_isOwn_24] at hm
    obtain ⟨g1, hm⟩ := gdE hm
    obtain ⟨er, eh⟩ := retE hm
    have ec : cc = u9.1 - u.1 := by rw [← eh]; omega
    have es : ss = u9.2.1 - u.2.1 := by rw [← eh]; omega
    rw [ec, es, ← hQ]
    exact W.zret (v := y0) hx hb hr (zb_nar g1) (fun t ht hW => ⟨⟨y0, h, rfl, ⟨er, eh⟩, ⟨by rw [ht]; exact hw.1, by rw [ht]; exact hw.2.1⟩⟩, hw.2.2.1.F ht⟩) hw.2.2.1.2.2 dX0_isOwn_24
  have hB23 : ∀ (h : CH) (cc ss : Nat) (H : Heap) (locs : List Loc) (ls : Array Slot), m_X0_isOwn_23 f h = some (r0, u9) → CW D dA A s h H locs → cc + u.1 = h.1 → ss + u.2.1 = h.2.1 → lv_has ls 2 [] → W p l e (rm_X0_isOwn (u9.1 - u.1) (u9.2.1 - u.2.1)) s m args below meth c H locs cc ss QQ (F0 m 23 ls []) := by
    intro h cc ss H locs ls hm hw hcc hss hl
    have hmo := mo_X0_isOwn_23  h _ hm
    have sb_ : h.1 ≤ u9.1 := hmo.1
    have tb_ : h.2.1 ≤ u9.2.1 := hmo.2.1
    rw [m_X0_isOwn_23] at hm
    refine lv_iconst (v := 0) hx hb dX0_isOwn_23 (by decide) ?_
    exact hB24 h (0 : Int32) _ _ _ _ _ hm hw (by omega) (by omega) (lv_sub hl [] rfl)
  have hB16 : ∀ (h : CH) (y0 : Int32) (cc ss : Nat) (H : Heap) (locs : List Loc) (ls : Array Slot), m_X0_isOwn_16 f h y0 = some (r0, u9) → CW D dA A s h H locs → cc + u.1 = h.1 → ss + u.2.1 = h.2.1 → lv_has ls 2 [] → W p l e (rm_X0_isOwn (u9.1 - u.1) (u9.2.1 - u.2.1)) s m args below meth c H locs cc ss QQ (F0 m 16 ls [.int y0]) := by
    intro h y0 cc ss H locs ls hm hw hcc hss hl
    have hmo := mo_X0_isOwn_16  h y0 _ hm
    have sb_ : h.1 ≤ u9.1 := hmo.1
    have tb_ : h.2.1 ≤ u9.2.1 := hmo.2.1
    rw [m_X0_isOwn_16] at hm
    refine lv_if_ne (tgt := 23) hx hb dX0_isOwn_16 (by decide) (fun c1 => ?_) (fun c1 => ?_)
    · have hm := ifT hm c1
      exact hB23 h _ _ _ _ _ hm hw (by omega) (by omega) (lv_sub hl [] rfl)
    · have hm := ifT' hm c1
      refine lv_iconst (v := 1) hx hb dX0_isOwn_19 (by decide) ?_
      refine lv_goto (tgt := 24) hx hb dX0_isOwn_20 (by decide) ?_
      exact hB24 h (1 : Int32) _ _ _ _ _ hm hw (by omega) (by omega) (lv_sub hl [] rfl)
  have hB13 : ∀ (h : CH) (y0 : Nat) (cc ss : Nat) (H : Heap) (locs : List Loc) (ls : Array Slot), m_X0_isOwn_13 f h y0 = some (r0, u9) → CW D dA A s h H locs → cc + u.1 = h.1 → ss + u.2.1 = h.2.1 → lv_has ls 2 [] → W p l e (rm_X0_isOwn (u9.1 - u.1) (u9.2.1 - u.2.1)) s m args below meth c H locs cc ss QQ (F0 m 13 ls [.ref y0]) := by
    intro h y0 cc ss H locs ls hm hw hcc hss hl
    have hmo := mo_X0_isOwn_13  h y0 _ hm
    have sb_ : h.1 ≤ u9.1 := hmo.1
    have tb_ : h.2.1 ≤ u9.2.1 := hmo.2.1
    rw [m_X0_isOwn_13] at hm
    by_cases c1 : isC h y0 6 = true
    · have hm := ifT hm c1
      obtain ⟨r3, h2, er3, hm⟩ := bd2E hm
      have lh2 := mo_X6_isTurned er3
      have ph2 : h.1 ≤ h2.1 := lh2.1
      have qh2 : h.2.1 ≤ h2.2.1 := lh2.2.1
      have hmo := mo_X0_isOwn_16   h2 r3 _ hm
      have sh2 : h2.1 ≤ u9.1 := hmo.1
      have th2 : h2.2.1 ≤ u9.2.1 := hmo.2.1
      refine cg_calli hw lh2 (va_runV (As := []) (rest := []) ⟨hx, hb, hml, hown, hts⟩ (w_X6_isTurned l er3) (cw_X6_isTurned hts q883 ⟨Nat.le_of_ble_eq_true rfl, Nat.le_of_ble_eq_true rfl⟩) (cg_preV C hw c1 rfl _) rfl rfl hl.1 rfl (lv_room (Nat.le_of_ble_eq_true rfl)) dX0_isOwn_13 ⟨show cc + (h2.1 - h.1) ≤ u9.1 - u.1 by omega, show ss + (h2.2.1 - h.2.1) ≤ u9.2.1 - u.2.1 by omega⟩) (fun H locs hw => ?_)
      exact hB16 h2 r3 _ _ _ _ _ hm hw (by omega) (by omega) (lv_sub hl [] rfl)
    · have hm := ifF hm c1
      obtain ⟨g4, hm⟩ := gdE hm
      obtain ⟨r6, h5, er6, hm⟩ := bd2E hm
      have lh5 := mo_X7_isTurned er6
      have ph5 : h.1 ≤ h5.1 := lh5.1
      have qh5 : h.2.1 ≤ h5.2.1 := lh5.2.1
      have hmo := mo_X0_isOwn_16   h5 r6 _ hm
      have sh5 : h5.1 ≤ u9.1 := hmo.1
      have th5 : h5.2.1 ≤ u9.2.1 := hmo.2.1
      refine cg_calli hw lh5 (va_runU (As := []) (rest := []) ⟨hx, hb, hml, hown, hts⟩ (w_X7_isTurned l er6) (va_cwO 0 hts (lwO q883 q737 q735 q738 q739 q144 q740) rfl rfl rfl q741 (by decide +kernel) ⟨Nat.le_of_ble_eq_true rfl, Nat.le_of_ble_eq_true rfl⟩) (cg_preV C hw g4 rfl _) rfl rfl hl.1 rfl (lv_room (Nat.le_of_ble_eq_true rfl)) dX0_isOwn_13 ⟨show cc + (h5.1 - h.1) ≤ u9.1 - u.1 by omega, show ss + (h5.2.1 - h.2.1) ≤ u9.2.1 - u.2.1 by omega⟩) (fun H locs hw => ?_)
      exact hB16 h5 r6 _ _ _ _ _ hm hw (by omega) (by omega) (lv_sub hl [] rfl)
  have hB5 : ∀ (h : CH) (x0 : Nat) (x1 : Int32) (y0 : Int32) (cc ss : Nat) (H : Heap) (locs : List Loc) (ls : Array Slot), m_X0_isOwn_5 f h x0 x1 y0 = some (r0, u9) → CW D dA A s h H locs → cc + u.1 = h.1 → ss + u.2.1 = h.2.1 → lv_has ls 2 [(0, .ref x0), (1, .int x1)] → W p l e (rm_X0_isOwn (u9.1 - u.1) (u9.2.1 - u.2.1)) s m args below meth c H locs cc ss QQ (F0 m 5 ls [.int y0]) := by
    intro h x0 x1 y0 cc ss H locs ls hm hw hcc hss hl
    have hmo := mo_X0_isOwn_5  h x0 x1 y0 _ hm
    have sb_ : h.1 ≤ u9.1 := hmo.1
    have tb_ : h.2.1 ≤ u9.2.1 := hmo.2.1
    rw [m_X0_isOwn_5] at hm
    refine lv_if_eq (tgt := 23) hx hb dX0_isOwn_5 (by decide) (fun c1 => ?_) (fun c1 => ?_)
    · have hm := ifT hm c1
      exact hB23 h _ _ _ _ _ hm hw (by omega) (by omega) (lv_sub hl [] rfl)
    · have hm := ifF hm c1
      refine lv_aload_n hx hb dX0_isOwn_8 rfl (lv_at hl 0 rfl) ?_
      refine lv_iload_n hx hb dX0_isOwn_9 rfl (lv_at hl 1 rfl) ?_
      obtain ⟨g2, hm⟩ := gdE hm
      obtain ⟨a4, h3, ea4, hm⟩ := bd2E hm
      have lh3 := mo_X0_at ea4
      have ph3 : h.1 ≤ h3.1 := lh3.1
      have qh3 : h.2.1 ≤ h3.2.1 := lh3.2.1
      have hmo := mo_X0_isOwn_13   h3 a4 _ hm
      have sh3 : h3.1 ≤ u9.1 := hmo.1
      have th3 : h3.2.1 ≤ u9.2.1 := hmo.2.1
      refine cg_callr hw lh3 (va_runV (As := [.int x1]) (rest := []) ⟨hx, hb, hml, hown, hts⟩ (w_X0_at l ea4) (cw_X0_at hts q900 ⟨Nat.le_of_ble_eq_true rfl, Nat.le_of_ble_eq_true rfl⟩) (cg_preV C hw g2 rfl _) rfl rfl hl.1 rfl (lv_room (Nat.le_of_ble_eq_true rfl)) dX0_isOwn_10 ⟨show cc + (h3.1 - h.1) ≤ u9.1 - u.1 by omega, show ss + (h3.2.1 - h.2.1) ≤ u9.2.1 - u.2.1 by omega⟩) (fun H locs hw => ?_)
      exact hB13 h3 a4 _ _ _ _ _ hm hw (by omega) (by omega) (lv_sub hl [] rfl)
  rw [m_X0_isOwn] at hm
  refine lv_aload_n hx hb dX0_isOwn_0 rfl (lv_at hl 0 rfl) ?_
  refine lv_iload_n hx hb dX0_isOwn_1 rfl (lv_at hl 1 rfl) ?_
  obtain ⟨g1, hm⟩ := gdE hm
  obtain ⟨r3, h2, er3, hm⟩ := bd2E hm
  have lh2 := mo_X0_isLattice er3
  have ph2 : u.1 ≤ h2.1 := lh2.1
  have qh2 : u.2.1 ≤ h2.2.1 := lh2.2.1
  have hmo := mo_X0_isOwn_5   h2 x0 x1 r3 _ hm
  have sh2 : h2.1 ≤ u9.1 := hmo.1
  have th2 : h2.2.1 ≤ u9.2.1 := hmo.2.1
  refine cg_calli hw lh2 (va_runV (As := [.int x1]) (rest := []) ⟨hx, hb, hml, hown, hts⟩ (w_X0_isLattice l er3) (cw_X0_isLattice hts q892 ⟨Nat.le_of_ble_eq_true rfl, Nat.le_of_ble_eq_true rfl⟩) (cg_preV C hw g1 rfl _) rfl rfl hl.1 rfl (lv_room (Nat.le_of_ble_eq_true rfl)) dX0_isOwn_2 ⟨show cc + (h2.1 - u.1) ≤ u9.1 - u.1 by omega, show ss + (h2.2.1 - u.2.1) ≤ u9.2.1 - u.2.1 by omega⟩) (fun H locs hw => ?_)
  exact hB5 h2 x0 x1 r3 _ _ _ _ _ hm hw (by omega) (by omega) (lv_sub hl [0, 1] rfl)
def m_J13_init_X13 (f : Nat) (u : CH) (x0 : Nat) : Option CH := bd (pF u 12 1 x0 (.ref x0)) fun h1 =>
    bd (pF h1 12 2 x0 (va_rf (sR h1 8))) fun h2 =>
    bd (pF h2 12 3 x0 (va_rf (sR h2 9))) fun h3 =>
    gd (flk h3 12 2 5 x0) <|
    some h3
theorem mo_J13_init_X13 {f : Nat} {u : CH} {x0 : Nat} {u9 : CH} (hm : m_J13_init_X13 f u x0 = some u9) : le2 u u9 := by
  rw [m_J13_init_X13] at hm
  obtain ⟨h1, eh1, hm⟩ := bdE hm
  have lh1 := pF_le eh1
  obtain ⟨h2, eh2, hm⟩ := bdE hm
  have lh2 := pF_le eh2
  obtain ⟨h3, eh3, hm⟩ := bdE hm
  have lh3 := pF_le eh3
  obtain ⟨g4, hm⟩ := gdE hm
  cases hm
  exact (lh1.tr (lh2.tr (lh3.tr le2.rf)))
abbrev rm_J13_init_X13 (mc ms : Nat) : Room := { frames := 3, cells := mc, slots := ms, locals := 60 }
theorem cw_J13_init_X13 {R : Room} {s : State} {args : Array Value} {own : String} {idx mc ms : Nat} (hts : ∀ w ∈ lw_all, w.before args s = true) (hl : Cond.methodLink own idx yJ13_init ∈ lw_all) (hR : 3 + 1 ≤ R.frames ∧ 8 + (1 + 11) + 60 ≤ R.locals) : CallB R s args own idx yJ13_init cJ13_init 1 none (ws_ yJ13_init cJ13_init 1 (Option.none : Option Jvm.ClassFile.FieldType)) (rm_J13_init_X13 mc ms) mc ms 0 ∧ yJ13_init.name = "<init>" ∧ (Cond.instanceMethod yJ13_init).before args s = true := cwI 0 hts (lw_meth q608) rfl rfl rfl (hts _ q139) (hts _ hl) (hts _ q607) rfl (by decide +kernel) hR
set_option maxHeartbeats 4000000 in
set_option maxRecDepth 100000 in
theorem w_J13_init_X13 (l : Launch) (htl : l.stackTraces = false) {D : va_G} {dA : Nat → ClassId} {A : Nat → Prop} {f : Nat} {u u9 : CH} {x0 : Nat} (hm : m_J13_init_X13 f u x0 = some u9) : Met l yJ13_init (ws_ yJ13_init cJ13_init 1 (Option.none : Option Jvm.ClassFile.FieldType)) (rm_J13_init_X13 (u9.1 - u.1) (u9.2.1 - u.2.1)) (va_Pc [.ref x0] (CPre D dA A u)) (va_Qv (fun u => u = u9) (CPost D dA A) A) (u9.1 - u.1) (u9.2.1 - u.2.1) A := by
  refine metOfWF (cc := cJ13_init) (maxL := 1) (ret := (Option.none : Option Jvm.ClassFile.FieldType)) (by decide +kernel) rfl ?_
  intro p e s m args below meth c s₁ B hml hv
  have hx := B.exec
  have hb := B.bytes
  have hr := B.returns
  have hts := atoms_spec (ws := (ws_ yJ13_init cJ13_init 1 (Option.none : Option Jvm.ClassFile.FieldType))) B.pre
  have hts : ∀ w ∈ lw_all, w.before args s = true := fun w h => hts w (List.mem_cons_of_mem _ h)
  have hown : s.vm.findClass RJ13 = some m.cls := findClass_of_methodNamed B.named
  have hlocks := B.notSynchronized
  have hin : meth.name = "<init>" := (name_of_methodNamed B.named B.method).1
  obtain ⟨hav, hv⟩ := hv
  have C : CX p s m args c cJ13_init RJ13 D dA := ⟨hx, hb, hown, hts, hv.2⟩
  have hw : CW D dA A s u s.heap [] := hv.1
  generalize hQ : MQ below (va_Qv (fun u => u = u9) (CPost D dA A) A) args s (u9.1 - u.1) (u9.2.1 - u.2.1) A = QQ
  have hent := lg_entry_eq m [.ref x0] 1
  rw [← hav] at hent
  rw [hent]
  have hl := lv_entry ([.ref x0]) (n := 1) (Nat.le_of_ble_eq_true rfl)
  generalize (lg_sl ([.ref x0]) ++ List.replicate (1 - (lg_sl ([.ref x0])).length) Slot.unset).toArray = ls at hl ⊢
  have hl : lv_has ls 1 [(0, .ref x0)] := hl
  obtain ⟨cc, ecc⟩ : ∃ z : Nat, z = 0 := ⟨0, rfl⟩
  obtain ⟨ss, ess⟩ : ∃ z : Nat, z = 0 := ⟨0, rfl⟩
  have hcc : cc + u.1 = u.1 := by omega
  have hss : ss + u.2.1 = u.2.1 := by omega
  suffices hgo : W p l e (rm_J13_init_X13 (u9.1 - u.1) (u9.2.1 - u.2.1)) s m args below meth c s.heap [] cc ss QQ (F0 m 0 ls []) by rw [ecc, ess] at hgo; exact hgo
  have ⟨pu, qu, _, _⟩ := mo_J13_init_X13 hm
  rw [m_J13_init_X13] at hm
  refine lv_aload_n hx hb dJ13_init_0 rfl (lv_at hl 0 rfl) ?_
  refine W.objInit hx hb hown (hts _ q609) (hts _ q161) (hts _ q162) rfl (by rw [hml]; exact hl.1) rfl dJ13_init_1 (Nat.le_of_ble_eq_true rfl) (Nat.le_of_ble_eq_true rfl) ?_
  refine W.eq (g2 := F0 m 4 ls []) rfl ?_
  refine lv_aload_n hx hb dJ13_init_4 rfl (lv_at hl 0 rfl) ?_
  refine lv_aload_n hx hb dJ13_init_5 rfl (lv_at hl 0 rfl) ?_
  obtain ⟨h1, eh1, hm⟩ := bdE hm
  refine cg_put C hw eh1 rfl in_X13 tyX13 tyX13_ok nmX13 (by decide) q640 rfl rfl rfl dJ13_init_6 (fun H locs hw => ?_)
  have zh1 := pF_sz eh1
  refine lv_aload_n hx hb dJ13_init_9 rfl (lv_at hl 0 rfl) ?_
  refine cg_getsQ C hw (i := 8) rfl q610 dJ13_init_10 ?_
  obtain ⟨h2, eh2, hm⟩ := bdE hm
  refine cg_put C hw eh2 rfl in_X13 tyX13 tyX13_ok nmX13 (by decide) q641 rfl (by cases (sR h1 8) <;> rfl) (by cases (sR h1 8) <;> rfl) dJ13_init_13 (fun H locs hw => ?_)
  have zh2 := pF_sz eh2
  refine lv_aload_n hx hb dJ13_init_16 rfl (lv_at hl 0 rfl) ?_
  refine cg_getsQ C hw (i := 9) rfl q612 dJ13_init_17 ?_
  obtain ⟨h3, eh3, hm⟩ := bdE hm
  refine cg_put C hw eh3 rfl in_X13 tyX13 tyX13_ok nmX13 (by decide) q642 rfl (by cases (sR h2 9) <;> rfl) (by cases (sR h2 9) <;> rfl) dJ13_init_20 (fun H locs hw => ?_)
  have zh3 := pF_sz eh3
  refine lv_aload_n hx hb dJ13_init_23 rfl (lv_at hl 0 rfl) ?_
  obtain ⟨g4, hm⟩ := gdE hm
  refine cg_fill htl C hw (hml.trans hl.1.symm) rfl in_X13 (by decide) (by decide) q1397 q618 (by decide) rfl (by decide) rfl g4 (Nat.le_of_ble_eq_true rfl) (Nat.le_of_ble_eq_true rfl) dJ13_init_24 ?_
  refine lv_pop hx hb dJ13_init_27 rfl ?_
  have eh := ret1 hm
  have ec : cc = u9.1 - u.1 := by rw [← eh]; omega
  have es : ss = u9.2.1 - u.2.1 := by rw [← eh]; omega
  rw [ec, es, ← hQ]
  exact W.vret hx hb hr (fun t ht hW => ⟨⟨h3, rfl, eh, ⟨by rw [ht]; exact hw.1, by rw [ht]; exact hw.2.1⟩⟩, hw.2.2.1.F ht⟩) hw.2.2.1.2.2 dJ13_init_28
def m_J14_init_X13_4 (f : Nat) (h : CH) : Option CH := some h
theorem mo_J14_init_X13_4 {f : Nat} : ∀ (h : CH) (r : CH), m_J14_init_X13_4 f h = some r → le2 h r := by
  intro h r hm
  rw [m_J14_init_X13_4] at hm
  cases hm
  exact le2.rf
def m_J14_init_X13 (f : Nat) (u : CH) (x0 : Nat) : Option CH := bd (m_J13_init_X13 f u x0) fun h1 =>
    m_J14_init_X13_4 f h1
theorem mo_J14_init_X13 {f : Nat} {u : CH} {x0 : Nat} {u9 : CH} (hm : m_J14_init_X13 f u x0 = some u9) : le2 u u9 := by
  rw [m_J14_init_X13] at hm
  obtain ⟨h1, eh1, hm⟩ := bdE hm
  have lh1 := mo_J13_init_X13 eh1
  exact (lh1.tr (mo_J14_init_X13_4  h1 _ hm))
abbrev rm_J14_init_X13 (mc ms : Nat) : Room := { frames := 4, cells := mc, slots := ms, locals := 80 }
theorem cw_J14_init_X13 {R : Room} {s : State} {args : Array Value} {own : String} {idx mc ms : Nat} (hts : ∀ w ∈ lw_all, w.before args s = true) (hl : Cond.methodLink own idx yJ14_init ∈ lw_all) (hR : 4 + 1 ≤ R.frames ∧ 8 + (1 + 11) + 80 ≤ R.locals) : CallB R s args own idx yJ14_init cJ14_init 1 none (ws_ yJ14_init cJ14_init 1 (Option.none : Option Jvm.ClassFile.FieldType)) (rm_J14_init_X13 mc ms) mc ms 0 ∧ yJ14_init.name = "<init>" ∧ (Cond.instanceMethod yJ14_init).before args s = true := cwI 0 hts (lw_meth q632) rfl rfl rfl (hts _ q140) (hts _ hl) (hts _ q631) rfl (by decide +kernel) hR
set_option maxHeartbeats 4000000 in
set_option maxRecDepth 100000 in
theorem w_J14_init_X13 (l : Launch) (htl : l.stackTraces = false) {D : va_G} {dA : Nat → ClassId} {A : Nat → Prop} {f : Nat} {u u9 : CH} {x0 : Nat} (hm : m_J14_init_X13 f u x0 = some u9) : Met l yJ14_init (ws_ yJ14_init cJ14_init 1 (Option.none : Option Jvm.ClassFile.FieldType)) (rm_J14_init_X13 (u9.1 - u.1) (u9.2.1 - u.2.1)) (va_Pc [.ref x0] (CPre D dA A u)) (va_Qv (fun u => u = u9) (CPost D dA A) A) (u9.1 - u.1) (u9.2.1 - u.2.1) A := by
  refine metOfWF (cc := cJ14_init) (maxL := 1) (ret := (Option.none : Option Jvm.ClassFile.FieldType)) (by decide +kernel) rfl ?_
  intro p e s m args below meth c s₁ B hml hv
  have hx := B.exec
  have hb := B.bytes
  have hr := B.returns
  have hts := atoms_spec (ws := (ws_ yJ14_init cJ14_init 1 (Option.none : Option Jvm.ClassFile.FieldType))) B.pre
  have hts : ∀ w ∈ lw_all, w.before args s = true := fun w h => hts w (List.mem_cons_of_mem _ h)
  have hown : s.vm.findClass RJ14 = some m.cls := findClass_of_methodNamed B.named
  have hlocks := B.notSynchronized
  have hin : meth.name = "<init>" := (name_of_methodNamed B.named B.method).1
  obtain ⟨hav, hv⟩ := hv
  have C : CX p s m args c cJ14_init RJ14 D dA := ⟨hx, hb, hown, hts, hv.2⟩
  have hw : CW D dA A s u s.heap [] := hv.1
  generalize hQ : MQ below (va_Qv (fun u => u = u9) (CPost D dA A) A) args s (u9.1 - u.1) (u9.2.1 - u.2.1) A = QQ
  have hent := lg_entry_eq m [.ref x0] 1
  rw [← hav] at hent
  rw [hent]
  have hl := lv_entry ([.ref x0]) (n := 1) (Nat.le_of_ble_eq_true rfl)
  generalize (lg_sl ([.ref x0]) ++ List.replicate (1 - (lg_sl ([.ref x0])).length) Slot.unset).toArray = ls at hl ⊢
  have hl : lv_has ls 1 [(0, .ref x0)] := hl
  obtain ⟨cc, ecc⟩ : ∃ z : Nat, z = 0 := ⟨0, rfl⟩
  obtain ⟨ss, ess⟩ : ∃ z : Nat, z = 0 := ⟨0, rfl⟩
  have hcc : cc + u.1 = u.1 := by omega
  have hss : ss + u.2.1 = u.2.1 := by omega
  suffices hgo : W p l e (rm_J14_init_X13 (u9.1 - u.1) (u9.2.1 - u.2.1)) s m args below meth c s.heap [] cc ss QQ (F0 m 0 ls []) by rw [ecc, ess] at hgo; exact hgo
  have ⟨pu, qu, _, _⟩ := mo_J14_init_X13 hm
  have hB4 : ∀ (h : CH) (cc ss : Nat) (H : Heap) (locs : List Loc) (ls : Array Slot), m_J14_init_X13_4 f h = some u9 → CW D dA A s h H locs → cc + u.1 = h.1 → ss + u.2.1 = h.2.1 → lv_has ls 1 [] → W p l e (rm_J14_init_X13 (u9.1 - u.1) (u9.2.1 - u.2.1)) s m args below meth c H locs cc ss QQ (F0 m 4 ls []) := by
    intro h cc ss H locs ls hm hw hcc hss hl
    have hmo := mo_J14_init_X13_4  h _ hm
    have sb_ : h.1 ≤ u9.1 := hmo.1
    have tb_ : h.2.1 ≤ u9.2.1 := hmo.2.1
    rw [m_J14_init_X13_4] at hm
    have eh := ret1 hm
    have ec : cc = u9.1 - u.1 := by rw [← eh]; omega
    have es : ss = u9.2.1 - u.2.1 := by rw [← eh]; omega
    rw [ec, es, ← hQ]
    exact W.vret hx hb hr (fun t ht hW => ⟨⟨h, rfl, eh, ⟨by rw [ht]; exact hw.1, by rw [ht]; exact hw.2.1⟩⟩, hw.2.2.1.F ht⟩) hw.2.2.1.2.2 dJ14_init_4
  rw [m_J14_init_X13] at hm
  refine lv_aload_n hx hb dJ14_init_0 rfl (lv_at hl 0 rfl) ?_
  obtain ⟨h1, eh1, hm⟩ := bdE hm
  have lh1 := mo_J13_init_X13 eh1
  have ph1 : u.1 ≤ h1.1 := lh1.1
  have qh1 : u.2.1 ≤ h1.2.1 := lh1.2.1
  have hmo := mo_J14_init_X13_4   h1 _ hm
  have sh1 : h1.1 ≤ u9.1 := hmo.1
  have th1 : h1.2.1 ≤ u9.2.1 := hmo.2.1
  refine cg_callv hw lh1 (va_runI (As := []) (rest := []) ⟨hx, hb, hml, hown, hts⟩ (w_J13_init_X13 l htl eh1) (cw_J13_init_X13 hts q633 ⟨Nat.le_of_ble_eq_true rfl, Nat.le_of_ble_eq_true rfl⟩) (cg_preS C hw _) rfl rfl hl.1 rfl (lv_room (Nat.le_of_ble_eq_true rfl)) dJ14_init_1 ⟨show cc + (h1.1 - u.1) ≤ u9.1 - u.1 by omega, show ss + (h1.2.1 - u.2.1) ≤ u9.2.1 - u.2.1 by omega⟩) (fun H locs hw => ?_)
  exact hB4 h1 _ _ _ _ _ hm hw (by omega) (by omega) (lv_sub hl [] rfl)
def m_X12_init_X13_4 (f : Nat) (h : CH) (x0 : Nat) (x1 : Int32) : Option CH := bd (pF h 12 0 x0 (.int x1)) fun h1 =>
    some h1
theorem mo_X12_init_X13_4 {f : Nat} : ∀ (h : CH) (x0 : Nat) (x1 : Int32) (r : CH), m_X12_init_X13_4 f h x0 x1 = some r → le2 h r := by
  intro h x0 x1 r hm
  rw [m_X12_init_X13_4] at hm
  obtain ⟨h1, eh1, hm⟩ := bdE hm
  have lh1 := pF_le eh1
  cases hm
  exact (lh1.tr le2.rf)
def m_X12_init_X13 (f : Nat) (u : CH) (x0 : Nat) (x1 : Int32) : Option CH := bd (m_J14_init_X13 f u x0) fun h1 =>
    m_X12_init_X13_4 f h1 x0 x1
theorem mo_X12_init_X13 {f : Nat} {u : CH} {x0 : Nat} {x1 : Int32} {u9 : CH} (hm : m_X12_init_X13 f u x0 x1 = some u9) : le2 u u9 := by
  rw [m_X12_init_X13] at hm
  obtain ⟨h1, eh1, hm⟩ := bdE hm
  have lh1 := mo_J14_init_X13 eh1
  exact (lh1.tr (mo_X12_init_X13_4  h1 x0 x1 _ hm))
abbrev rm_X12_init_X13 (mc ms : Nat) : Room := { frames := 5, cells := mc, slots := ms, locals := 100 }
theorem cw_X12_init_X13 {R : Room} {s : State} {args : Array Value} {own : String} {idx mc ms : Nat} (hts : ∀ w ∈ lw_all, w.before args s = true) (hl : Cond.methodLink own idx yX12_init ∈ lw_all) (hR : 5 + 1 ≤ R.frames ∧ 8 + (2 + 11) + 100 ≤ R.locals) : CallB R s args own idx yX12_init cX12_init 2 none (ws_ yX12_init cX12_init 2 (Option.none : Option Jvm.ClassFile.FieldType)) (rm_X12_init_X13 mc ms) mc ms 1 ∧ yX12_init.name = "<init>" ∧ (Cond.instanceMethod yX12_init).before args s = true := cwI 1 hts (lw_meth q1408) rfl rfl rfl (hts _ q149) (hts _ hl) (hts _ q1407) rfl (by decide +kernel) hR
set_option maxHeartbeats 4000000 in
set_option maxRecDepth 100000 in
theorem w_X12_init_X13 (l : Launch) (htl : l.stackTraces = false) {D : va_G} {dA : Nat → ClassId} {A : Nat → Prop} {f : Nat} {u u9 : CH} {x0 : Nat} {x1 : Int32} (hm : m_X12_init_X13 f u x0 x1 = some u9) : Met l yX12_init (ws_ yX12_init cX12_init 2 (Option.none : Option Jvm.ClassFile.FieldType)) (rm_X12_init_X13 (u9.1 - u.1) (u9.2.1 - u.2.1)) (va_Pc [.ref x0, .int x1] (CPre D dA A u)) (va_Qv (fun u => u = u9) (CPost D dA A) A) (u9.1 - u.1) (u9.2.1 - u.2.1) A := by
  refine Met.ofW (cc := cX12_init) (maxL := 2) (ret := (Option.none : Option Jvm.ClassFile.FieldType)) (by decide) rfl ?_
  intro p e s m args below meth c s₁ B hml hv
  have hx := B.exec
  have hb := B.bytes
  have hr := B.returns
  have hts := atoms_spec (ws := (ws_ yX12_init cX12_init 2 (Option.none : Option Jvm.ClassFile.FieldType))) B.pre
  have hts : ∀ w ∈ lw_all, w.before args s = true := fun w h => hts w (List.mem_cons_of_mem _ h)
  have hown : s.vm.findClass RX12 = some m.cls := findClass_of_methodNamed B.named
  have hlocks := B.notSynchronized
  have hin : meth.name = "<init>" := (name_of_methodNamed B.named B.method).1
  obtain ⟨hav, hv⟩ := hv
  have C : CX p s m args c cX12_init RX12 D dA := ⟨hx, hb, hown, hts, hv.2⟩
  have hw : CW D dA A s u s.heap [] := hv.1
  generalize hQ : MQ below (va_Qv (fun u => u = u9) (CPost D dA A) A) args s (u9.1 - u.1) (u9.2.1 - u.2.1) A = QQ
  have hent := lg_entry_eq m [.ref x0, .int x1] 2
  rw [← hav] at hent
  rw [hent]
  have hl := lv_entry ([.ref x0, .int x1]) (n := 2) (Nat.le_of_ble_eq_true rfl)
  generalize (lg_sl ([.ref x0, .int x1]) ++ List.replicate (2 - (lg_sl ([.ref x0, .int x1])).length) Slot.unset).toArray = ls at hl ⊢
  have hl : lv_has ls 2 [(0, .ref x0), (1, .int x1)] := hl
  obtain ⟨cc, ecc⟩ : ∃ z : Nat, z = 0 := ⟨0, rfl⟩
  obtain ⟨ss, ess⟩ : ∃ z : Nat, z = 0 := ⟨0, rfl⟩
  have hcc : cc + u.1 = u.1 := by omega
  have hss : ss + u.2.1 = u.2.1 := by omega
  suffices hgo : W p l e (rm_X12_init_X13 (u9.1 - u.1) (u9.2.1 - u.2.1)) s m args below meth c s.heap [] cc ss QQ (F0 m 0 ls []) by rw [ecc, ess] at hgo; exact hgo
  have ⟨pu, qu, _, _⟩ := mo_X12_init_X13 hm
  have hB4 : ∀ (h : CH) (x0 : Nat) (x1 : Int32) (cc ss : Nat) (H : Heap) (locs : List Loc) (ls : Array Slot), m_X12_init_X13_4 f h x0 x1 = some u9 → CW D dA A s h H locs → cc + u.1 = h.1 → ss + u.2.1 = h.2.1 → lv_has ls 2 [(0, .ref x0), (1, .int x1)] → W p l e (rm_X12_init_X13 (u9.1 - u.1) (u9.2.1 - u.2.1)) s m args below meth c H locs cc ss QQ (F0 m 4 ls []) := by
    intro h x0 x1 cc ss H locs ls hm hw hcc hss hl
    have hmo := mo_X12_init_X13_4  h x0 x1 _ hm
    have sb_ : h.1 ≤ u9.1 := hmo.1
    have tb_ : h.2.1 ≤ u9.2.1 := hmo.2.1
    rw [m_X12_init_X13_4] at hm
    refine lv_aload_n hx hb dX12_init_4 rfl (lv_at hl 0 rfl) ?_
    refine lv_iload_n hx hb dX12_init_5 rfl (lv_at hl 1 rfl) ?_
    obtain ⟨h1, eh1, hm⟩ := bdE hm
    refine cg_putF C hw eh1 rfl in_X13 tyX13 tyX13_ok nmX13 (by decide) q1410 rfl hin rfl rfl rfl dX12_init_6 (fun H locs hw => ?_)
    have zh1 := pF_sz eh1
    have eh := ret1 hm
    have ec : cc = u9.1 - u.1 := by rw [← eh]; omega
    have es : ss = u9.2.1 - u.2.1 := by rw [← eh]; omega
    rw [ec, es, ← hQ]
    exact W.vret hx hb hr (fun t ht hW => ⟨⟨h1, rfl, eh, ⟨by rw [ht]; exact hw.1, by rw [ht]; exact hw.2.1⟩⟩, hw.2.2.1.F ht⟩) hw.2.2.1.2.2 dX12_init_9
  rw [m_X12_init_X13] at hm
  refine lv_aload_n hx hb dX12_init_0 rfl (lv_at hl 0 rfl) ?_
  obtain ⟨h1, eh1, hm⟩ := bdE hm
  have lh1 := mo_J14_init_X13 eh1
  have ph1 : u.1 ≤ h1.1 := lh1.1
  have qh1 : u.2.1 ≤ h1.2.1 := lh1.2.1
  have hmo := mo_X12_init_X13_4   h1 x0 x1 _ hm
  have sh1 : h1.1 ≤ u9.1 := hmo.1
  have th1 : h1.2.1 ≤ u9.2.1 := hmo.2.1
  refine cg_callv hw lh1 (va_runI (As := []) (rest := []) ⟨hx, hb, hml, hown, hts⟩ (w_J14_init_X13 l htl eh1) (cw_J14_init_X13 hts q1409 ⟨Nat.le_of_ble_eq_true rfl, Nat.le_of_ble_eq_true rfl⟩) (cg_preS C hw _) rfl rfl hl.1 rfl (lv_room (Nat.le_of_ble_eq_true rfl)) dX12_init_1 ⟨show cc + (h1.1 - u.1) ≤ u9.1 - u.1 by omega, show ss + (h1.2.1 - u.2.1) ≤ u9.2.1 - u.2.1 by omega⟩) (fun H locs hw => ?_)
  exact hB4 h1 x0 x1 _ _ _ _ _ hm hw (by omega) (by omega) (lv_sub hl [0, 1] rfl)
def m_X13_init_5 (f : Nat) (h : CH) : Option CH := some h
theorem mo_X13_init_5 {f : Nat} : ∀ (h : CH) (r : CH), m_X13_init_5 f h = some r → le2 h r := by
  intro h r hm
  rw [m_X13_init_5] at hm
  cases hm
  exact le2.rf
def m_X13_init (f : Nat) (u : CH) (x0 : Nat) : Option CH := bd (m_X12_init_X13 f u x0 (-1 : Int32)) fun h1 =>
    m_X13_init_5 f h1
theorem mo_X13_init {f : Nat} {u : CH} {x0 : Nat} {u9 : CH} (hm : m_X13_init f u x0 = some u9) : le2 u u9 := by
  rw [m_X13_init] at hm
  obtain ⟨h1, eh1, hm⟩ := bdE hm
  have lh1 := mo_X12_init_X13 eh1
  exact (lh1.tr (mo_X13_init_5  h1 _ hm))
abbrev rm_X13_init (mc ms : Nat) : Room := { frames := 6, cells := mc, slots := ms, locals := 121 }
theorem cw_X13_init {R : Room} {s : State} {args : Array Value} {own : String} {idx mc ms : Nat} (hts : ∀ w ∈ lw_all, w.before args s = true) (hl : Cond.methodLink own idx yX13_init ∈ lw_all) (hR : 6 + 1 ≤ R.frames ∧ 8 + (1 + 11) + 121 ≤ R.locals) : CallB R s args own idx yX13_init cX13_init 1 none (ws_ yX13_init cX13_init 1 (Option.none : Option Jvm.ClassFile.FieldType)) (rm_X13_init mc ms) mc ms 0 ∧ yX13_init.name = "<init>" ∧ (Cond.instanceMethod yX13_init).before args s = true := cwI 0 hts (lw_meth q1405) rfl rfl rfl (hts _ q150) (hts _ hl) (hts _ q1404) rfl (by decide +kernel) hR
set_option maxHeartbeats 4000000 in
set_option maxRecDepth 100000 in
theorem w_X13_init (l : Launch) (htl : l.stackTraces = false) {D : va_G} {dA : Nat → ClassId} {A : Nat → Prop} {f : Nat} {u u9 : CH} {x0 : Nat} (hm : m_X13_init f u x0 = some u9) : Met l yX13_init (ws_ yX13_init cX13_init 1 (Option.none : Option Jvm.ClassFile.FieldType)) (rm_X13_init (u9.1 - u.1) (u9.2.1 - u.2.1)) (va_Pc [.ref x0] (CPre D dA A u)) (va_Qv (fun u => u = u9) (CPost D dA A) A) (u9.1 - u.1) (u9.2.1 - u.2.1) A := by
  refine Met.ofW (cc := cX13_init) (maxL := 1) (ret := (Option.none : Option Jvm.ClassFile.FieldType)) (by decide) rfl ?_
  intro p e s m args below meth c s₁ B hml hv
  have hx := B.exec
  have hb := B.bytes
  have hr := B.returns
  have hts := atoms_spec (ws := (ws_ yX13_init cX13_init 1 (Option.none : Option Jvm.ClassFile.FieldType))) B.pre
  have hts : ∀ w ∈ lw_all, w.before args s = true := fun w h => hts w (List.mem_cons_of_mem _ h)
  have hown : s.vm.findClass RX13 = some m.cls := findClass_of_methodNamed B.named
  have hlocks := B.notSynchronized
  have hin : meth.name = "<init>" := (name_of_methodNamed B.named B.method).1
  obtain ⟨hav, hv⟩ := hv
  have C : CX p s m args c cX13_init RX13 D dA := ⟨hx, hb, hown, hts, hv.2⟩
  have hw : CW D dA A s u s.heap [] := hv.1
  generalize hQ : MQ below (va_Qv (fun u => u = u9) (CPost D dA A) A) args s (u9.1 - u.1) (u9.2.1 - u.2.1) A = QQ
  have hent := lg_entry_eq m [.ref x0] 1
  rw [← hav] at hent
  rw [hent]
  have hl := lv_entry ([.ref x0]) (n := 1) (Nat.le_of_ble_eq_true rfl)
  generalize (lg_sl ([.ref x0]) ++ List.replicate (1 - (lg_sl ([.ref x0])).length) Slot.unset).toArray = ls at hl ⊢
  have hl : lv_has ls 1 [(0, .ref x0)] := hl
  obtain ⟨cc, ecc⟩ : ∃ z : Nat, z = 0 := ⟨0, rfl⟩
  obtain ⟨ss, ess⟩ : ∃ z : Nat, z = 0 := ⟨0, rfl⟩
  have hcc : cc + u.1 = u.1 := by omega
  have hss : ss + u.2.1 = u.2.1 := by omega
  suffices hgo : W p l e (rm_X13_init (u9.1 - u.1) (u9.2.1 - u.2.1)) s m args below meth c s.heap [] cc ss QQ (F0 m 0 ls []) by rw [ecc, ess] at hgo; exact hgo
  have ⟨pu, qu, _, _⟩ := mo_X13_init hm
  have hB5 : ∀ (h : CH) (cc ss : Nat) (H : Heap) (locs : List Loc) (ls : Array Slot), m_X13_init_5 f h = some u9 → CW D dA A s h H locs → cc + u.1 = h.1 → ss + u.2.1 = h.2.1 → lv_has ls 1 [] → W p l e (rm_X13_init (u9.1 - u.1) (u9.2.1 - u.2.1)) s m args below meth c H locs cc ss QQ (F0 m 5 ls []) := by
    intro h cc ss H locs ls hm hw hcc hss hl
    have hmo := mo_X13_init_5  h _ hm
    have sb_ : h.1 ≤ u9.1 := hmo.1
    have tb_ : h.2.1 ≤ u9.2.1 := hmo.2.1
    rw [m_X13_init_5] at hm
    have eh := ret1 hm
    have ec : cc = u9.1 - u.1 := by rw [← eh]; omega
    have es : ss = u9.2.1 - u.2.1 := by rw [← eh]; omega
    rw [ec, es, ← hQ]
    exact W.vret hx hb hr (fun t ht hW => ⟨⟨h, rfl, eh, ⟨by rw [ht]; exact hw.1, by rw [ht]; exact hw.2.1⟩⟩, hw.2.2.1.F ht⟩) hw.2.2.1.2.2 dX13_init_5
  rw [m_X13_init] at hm
  refine lv_aload_n hx hb dX13_init_0 rfl (lv_at hl 0 rfl) ?_
  refine lv_iconst (v := -1) hx hb dX13_init_1 (by decide) ?_
  obtain ⟨h1, eh1, hm⟩ := bdE hm
  have lh1 := mo_X12_init_X13 eh1
  have ph1 : u.1 ≤ h1.1 := lh1.1
  have qh1 : u.2.1 ≤ h1.2.1 := lh1.2.1
  have hmo := mo_X13_init_5   h1 _ hm
  have sh1 : h1.1 ≤ u9.1 := hmo.1
  have th1 : h1.2.1 ≤ u9.2.1 := hmo.2.1
  refine cg_callv hw lh1 (va_runI (As := [.int (-1 : Int32)]) (rest := []) ⟨hx, hb, hml, hown, hts⟩ (w_X12_init_X13 l htl eh1) (cw_X12_init_X13 hts q1406 ⟨Nat.le_of_ble_eq_true rfl, Nat.le_of_ble_eq_true rfl⟩) (cg_preS C hw _) rfl rfl hl.1 rfl (lv_room (Nat.le_of_ble_eq_true rfl)) dX13_init_2 ⟨show cc + (h1.1 - u.1) ≤ u9.1 - u.1 by omega, show ss + (h1.2.1 - u.2.1) ≤ u9.2.1 - u.2.1 by omega⟩) (fun H locs hw => ?_)
  exact hB5 h1 _ _ _ _ _ hm hw (by omega) (by omega) (lv_sub hl [] rfl)
def m_J13_init_X14 (f : Nat) (u : CH) (x0 : Nat) : Option CH := bd (pF u 13 1 x0 (.ref x0)) fun h1 =>
    bd (pF h1 13 2 x0 (va_rf (sR h1 8))) fun h2 =>
    bd (pF h2 13 3 x0 (va_rf (sR h2 9))) fun h3 =>
    gd (flk h3 13 2 5 x0) <|
    some h3
theorem mo_J13_init_X14 {f : Nat} {u : CH} {x0 : Nat} {u9 : CH} (hm : m_J13_init_X14 f u x0 = some u9) : le2 u u9 := by
  rw [m_J13_init_X14] at hm
  obtain ⟨h1, eh1, hm⟩ := bdE hm
  have lh1 := pF_le eh1
  obtain ⟨h2, eh2, hm⟩ := bdE hm
  have lh2 := pF_le eh2
  obtain ⟨h3, eh3, hm⟩ := bdE hm
  have lh3 := pF_le eh3
  obtain ⟨g4, hm⟩ := gdE hm
  cases hm
  exact (lh1.tr (lh2.tr (lh3.tr le2.rf)))
abbrev rm_J13_init_X14 (mc ms : Nat) : Room := { frames := 3, cells := mc, slots := ms, locals := 60 }
theorem cw_J13_init_X14 {R : Room} {s : State} {args : Array Value} {own : String} {idx mc ms : Nat} (hts : ∀ w ∈ lw_all, w.before args s = true) (hl : Cond.methodLink own idx yJ13_init ∈ lw_all) (hR : 3 + 1 ≤ R.frames ∧ 8 + (1 + 11) + 60 ≤ R.locals) : CallB R s args own idx yJ13_init cJ13_init 1 none (ws_ yJ13_init cJ13_init 1 (Option.none : Option Jvm.ClassFile.FieldType)) (rm_J13_init_X14 mc ms) mc ms 0 ∧ yJ13_init.name = "<init>" ∧ (Cond.instanceMethod yJ13_init).before args s = true := cwI 0 hts (lw_meth q608) rfl rfl rfl (hts _ q139) (hts _ hl) (hts _ q607) rfl (by decide +kernel) hR
set_option maxHeartbeats 4000000 in
set_option maxRecDepth 100000 in
theorem w_J13_init_X14 (l : Launch) (htl : l.stackTraces = false) {D : va_G} {dA : Nat → ClassId} {A : Nat → Prop} {f : Nat} {u u9 : CH} {x0 : Nat} (hm : m_J13_init_X14 f u x0 = some u9) : Met l yJ13_init (ws_ yJ13_init cJ13_init 1 (Option.none : Option Jvm.ClassFile.FieldType)) (rm_J13_init_X14 (u9.1 - u.1) (u9.2.1 - u.2.1)) (va_Pc [.ref x0] (CPre D dA A u)) (va_Qv (fun u => u = u9) (CPost D dA A) A) (u9.1 - u.1) (u9.2.1 - u.2.1) A := by
  refine metOfWF (cc := cJ13_init) (maxL := 1) (ret := (Option.none : Option Jvm.ClassFile.FieldType)) (by decide +kernel) rfl ?_
  intro p e s m args below meth c s₁ B hml hv
  have hx := B.exec
  have hb := B.bytes
  have hr := B.returns
  have hts := atoms_spec (ws := (ws_ yJ13_init cJ13_init 1 (Option.none : Option Jvm.ClassFile.FieldType))) B.pre
  have hts : ∀ w ∈ lw_all, w.before args s = true := fun w h => hts w (List.mem_cons_of_mem _ h)
  have hown : s.vm.findClass RJ13 = some m.cls := findClass_of_methodNamed B.named
  have hlocks := B.notSynchronized
  have hin : meth.name = "<init>" := (name_of_methodNamed B.named B.method).1
  obtain ⟨hav, hv⟩ := hv
  have C : CX p s m args c cJ13_init RJ13 D dA := ⟨hx, hb, hown, hts, hv.2⟩
  have hw : CW D dA A s u s.heap [] := hv.1
  generalize hQ : MQ below (va_Qv (fun u => u = u9) (CPost D dA A) A) args s (u9.1 - u.1) (u9.2.1 - u.2.1) A = QQ
  have hent := lg_entry_eq m [.ref x0] 1
  rw [← hav] at hent
  rw [hent]
  have hl := lv_entry ([.ref x0]) (n := 1) (Nat.le_of_ble_eq_true rfl)
  generalize (lg_sl ([.ref x0]) ++ List.replicate (1 - (lg_sl ([.ref x0])).length) Slot.unset).toArray = ls at hl ⊢
  have hl : lv_has ls 1 [(0, .ref x0)] := hl
  obtain ⟨cc, ecc⟩ : ∃ z : Nat, z = 0 := ⟨0, rfl⟩
  obtain ⟨ss, ess⟩ : ∃ z : Nat, z = 0 := ⟨0, rfl⟩
  have hcc : cc + u.1 = u.1 := by omega
  have hss : ss + u.2.1 = u.2.1 := by omega
  suffices hgo : W p l e (rm_J13_init_X14 (u9.1 - u.1) (u9.2.1 - u.2.1)) s m args below meth c s.heap [] cc ss QQ (F0 m 0 ls []) by rw [ecc, ess] at hgo; exact hgo
  have ⟨pu, qu, _, _⟩ := mo_J13_init_X14 hm
  rw [m_J13_init_X14] at hm
  refine lv_aload_n hx hb dJ13_init_0 rfl (lv_at hl 0 rfl) ?_
  refine W.objInit hx hb hown (hts _ q609) (hts _ q161) (hts _ q162) rfl (by rw [hml]; exact hl.1) rfl dJ13_init_1 (Nat.le_of_ble_eq_true rfl) (Nat.le_of_ble_eq_true rfl) ?_
  refine W.eq (g2 := F0 m 4 ls []) rfl ?_
  refine lv_aload_n hx hb dJ13_init_4 rfl (lv_at hl 0 rfl) ?_
  refine lv_aload_n hx hb dJ13_init_5 rfl (lv_at hl 0 rfl) ?_
  obtain ⟨h1, eh1, hm⟩ := bdE hm
  refine cg_put C hw eh1 rfl in_X14 tyX14 tyX14_ok nmX14 (by decide) q640 rfl rfl rfl dJ13_init_6 (fun H locs hw => ?_)
  have zh1 := pF_sz eh1
  refine lv_aload_n hx hb dJ13_init_9 rfl (lv_at hl 0 rfl) ?_
  refine cg_getsQ C hw (i := 8) rfl q610 dJ13_init_10 ?_
  obtain ⟨h2, eh2, hm⟩ := bdE hm
  refine cg_put C hw eh2 rfl in_X14 tyX14 tyX14_ok nmX14 (by decide) q641 rfl (by cases (sR h1 8) <;> rfl) (by cases (sR h1 8) <;> rfl) dJ13_init_13 (fun H locs hw => ?_)
  have zh2 := pF_sz eh2
  refine lv_aload_n hx hb dJ13_init_16 rfl (lv_at hl 0 rfl) ?_
  refine cg_getsQ C hw (i := 9) rfl q612 dJ13_init_17 ?_
  obtain ⟨h3, eh3, hm⟩ := bdE hm
  refine cg_put C hw eh3 rfl in_X14 tyX14 tyX14_ok nmX14 (by decide) q642 rfl (by cases (sR h2 9) <;> rfl) (by cases (sR h2 9) <;> rfl) dJ13_init_20 (fun H locs hw => ?_)
  have zh3 := pF_sz eh3
  refine lv_aload_n hx hb dJ13_init_23 rfl (lv_at hl 0 rfl) ?_
  obtain ⟨g4, hm⟩ := gdE hm
  refine cg_fill htl C hw (hml.trans hl.1.symm) rfl in_X14 (by decide) (by decide) q1422 q620 (by decide) rfl (by decide) rfl g4 (Nat.le_of_ble_eq_true rfl) (Nat.le_of_ble_eq_true rfl) dJ13_init_24 ?_
  refine lv_pop hx hb dJ13_init_27 rfl ?_
  have eh := ret1 hm
  have ec : cc = u9.1 - u.1 := by rw [← eh]; omega
  have es : ss = u9.2.1 - u.2.1 := by rw [← eh]; omega
  rw [ec, es, ← hQ]
  exact W.vret hx hb hr (fun t ht hW => ⟨⟨h3, rfl, eh, ⟨by rw [ht]; exact hw.1, by rw [ht]; exact hw.2.1⟩⟩, hw.2.2.1.F ht⟩) hw.2.2.1.2.2 dJ13_init_28
def m_J14_init_X14_4 (f : Nat) (h : CH) : Option CH := some h
theorem mo_J14_init_X14_4 {f : Nat} : ∀ (h : CH) (r : CH), m_J14_init_X14_4 f h = some r → le2 h r := by
  intro h r hm
  rw [m_J14_init_X14_4] at hm
  cases hm
  exact le2.rf
def m_J14_init_X14 (f : Nat) (u : CH) (x0 : Nat) : Option CH := bd (m_J13_init_X14 f u x0) fun h1 =>
    m_J14_init_X14_4 f h1
theorem mo_J14_init_X14 {f : Nat} {u : CH} {x0 : Nat} {u9 : CH} (hm : m_J14_init_X14 f u x0 = some u9) : le2 u u9 := by
  rw [m_J14_init_X14] at hm
  obtain ⟨h1, eh1, hm⟩ := bdE hm
  have lh1 := mo_J13_init_X14 eh1
  exact (lh1.tr (mo_J14_init_X14_4  h1 _ hm))
abbrev rm_J14_init_X14 (mc ms : Nat) : Room := { frames := 4, cells := mc, slots := ms, locals := 80 }
theorem cw_J14_init_X14 {R : Room} {s : State} {args : Array Value} {own : String} {idx mc ms : Nat} (hts : ∀ w ∈ lw_all, w.before args s = true) (hl : Cond.methodLink own idx yJ14_init ∈ lw_all) (hR : 4 + 1 ≤ R.frames ∧ 8 + (1 + 11) + 80 ≤ R.locals) : CallB R s args own idx yJ14_init cJ14_init 1 none (ws_ yJ14_init cJ14_init 1 (Option.none : Option Jvm.ClassFile.FieldType)) (rm_J14_init_X14 mc ms) mc ms 0 ∧ yJ14_init.name = "<init>" ∧ (Cond.instanceMethod yJ14_init).before args s = true := cwI 0 hts (lw_meth q632) rfl rfl rfl (hts _ q140) (hts _ hl) (hts _ q631) rfl (by decide +kernel) hR
set_option maxHeartbeats 4000000 in
set_option maxRecDepth 100000 in
theorem w_J14_init_X14 (l : Launch) (htl : l.stackTraces = false) {D : va_G} {dA : Nat → ClassId} {A : Nat → Prop} {f : Nat} {u u9 : CH} {x0 : Nat} (hm : m_J14_init_X14 f u x0 = some u9) : Met l yJ14_init (ws_ yJ14_init cJ14_init 1 (Option.none : Option Jvm.ClassFile.FieldType)) (rm_J14_init_X14 (u9.1 - u.1) (u9.2.1 - u.2.1)) (va_Pc [.ref x0] (CPre D dA A u)) (va_Qv (fun u => u = u9) (CPost D dA A) A) (u9.1 - u.1) (u9.2.1 - u.2.1) A := by
  refine metOfWF (cc := cJ14_init) (maxL := 1) (ret := (Option.none : Option Jvm.ClassFile.FieldType)) (by decide +kernel) rfl ?_
  intro p e s m args below meth c s₁ B hml hv
  have hx := B.exec
  have hb := B.bytes
  have hr := B.returns
  have hts := atoms_spec (ws := (ws_ yJ14_init cJ14_init 1 (Option.none : Option Jvm.ClassFile.FieldType))) B.pre
  have hts : ∀ w ∈ lw_all, w.before args s = true := fun w h => hts w (List.mem_cons_of_mem _ h)
  have hown : s.vm.findClass RJ14 = some m.cls := findClass_of_methodNamed B.named
  have hlocks := B.notSynchronized
  have hin : meth.name = "<init>" := (name_of_methodNamed B.named B.method).1
  obtain ⟨hav, hv⟩ := hv
  have C : CX p s m args c cJ14_init RJ14 D dA := ⟨hx, hb, hown, hts, hv.2⟩
  have hw : CW D dA A s u s.heap [] := hv.1
  generalize hQ : MQ below (va_Qv (fun u => u = u9) (CPost D dA A) A) args s (u9.1 - u.1) (u9.2.1 - u.2.1) A = QQ
  have hent := lg_entry_eq m [.ref x0] 1
  rw [← hav] at hent
  rw [hent]
  have hl := lv_entry ([.ref x0]) (n := 1) (Nat.le_of_ble_eq_true rfl)
  generalize (lg_sl ([.ref x0]) ++ List.replicate (1 - (lg_sl ([.ref x0])).length) Slot.unset).toArray = ls at hl ⊢
  have hl : lv_has ls 1 [(0, .ref x0)] := hl
  obtain ⟨cc, ecc⟩ : ∃ z : Nat, z = 0 := ⟨0, rfl⟩
  obtain ⟨ss, ess⟩ : ∃ z : Nat, z = 0 := ⟨0, rfl⟩
  have hcc : cc + u.1 = u.1 := by omega
  have hss : ss + u.2.1 = u.2.1 := by omega
  suffices hgo : W p l e (rm_J14_init_X14 (u9.1 - u.1) (u9.2.1 - u.2.1)) s m args below meth c s.heap [] cc ss QQ (F0 m 0 ls []) by rw [ecc, ess] at hgo; exact hgo
  have ⟨pu, qu, _, _⟩ := mo_J14_init_X14 hm
  have hB4 : ∀ (h : CH) (cc ss : Nat) (H : Heap) (locs : List Loc) (ls : Array Slot), m_J14_init_X14_4 f h = some u9 → CW D dA A s h H locs → cc + u.1 = h.1 → ss + u.2.1 = h.2.1 → lv_has ls 1 [] → W p l e (rm_J14_init_X14 (u9.1 - u.1) (u9.2.1 - u.2.1)) s m args below meth c H locs cc ss QQ (F0 m 4 ls []) := by
    intro h cc ss H locs ls hm hw hcc hss hl
    have hmo := mo_J14_init_X14_4  h _ hm
    have sb_ : h.1 ≤ u9.1 := hmo.1
    have tb_ : h.2.1 ≤ u9.2.1 := hmo.2.1
    rw [m_J14_init_X14_4] at hm
    have eh := ret1 hm
    have ec : cc = u9.1 - u.1 := by rw [← eh]; omega
    have es : ss = u9.2.1 - u.2.1 := by rw [← eh]; omega
    rw [ec, es, ← hQ]
    exact W.vret hx hb hr (fun t ht hW => ⟨⟨h, rfl, eh, ⟨by rw [ht]; exact hw.1, by rw [ht]; exact hw.2.1⟩⟩, hw.2.2.1.F ht⟩) hw.2.2.1.2.2 dJ14_init_4
  rw [m_J14_init_X14] at hm
  refine lv_aload_n hx hb dJ14_init_0 rfl (lv_at hl 0 rfl) ?_
  obtain ⟨h1, eh1, hm⟩ := bdE hm
  have lh1 := mo_J13_init_X14 eh1
  have ph1 : u.1 ≤ h1.1 := lh1.1
  have qh1 : u.2.1 ≤ h1.2.1 := lh1.2.1
  have hmo := mo_J14_init_X14_4   h1 _ hm
  have sh1 : h1.1 ≤ u9.1 := hmo.1
  have th1 : h1.2.1 ≤ u9.2.1 := hmo.2.1
  refine cg_callv hw lh1 (va_runI (As := []) (rest := []) ⟨hx, hb, hml, hown, hts⟩ (w_J13_init_X14 l htl eh1) (cw_J13_init_X14 hts q633 ⟨Nat.le_of_ble_eq_true rfl, Nat.le_of_ble_eq_true rfl⟩) (cg_preS C hw _) rfl rfl hl.1 rfl (lv_room (Nat.le_of_ble_eq_true rfl)) dJ14_init_1 ⟨show cc + (h1.1 - u.1) ≤ u9.1 - u.1 by omega, show ss + (h1.2.1 - u.2.1) ≤ u9.2.1 - u.2.1 by omega⟩) (fun H locs hw => ?_)
  exact hB4 h1 _ _ _ _ _ hm hw (by omega) (by omega) (lv_sub hl [] rfl)
def m_X12_init_X14_4 (f : Nat) (h : CH) (x0 : Nat) (x1 : Int32) : Option CH := bd (pF h 13 0 x0 (.int x1)) fun h1 =>
    some h1
theorem mo_X12_init_X14_4 {f : Nat} : ∀ (h : CH) (x0 : Nat) (x1 : Int32) (r : CH), m_X12_init_X14_4 f h x0 x1 = some r → le2 h r := by
  intro h x0 x1 r hm
  rw [m_X12_init_X14_4] at hm
  obtain ⟨h1, eh1, hm⟩ := bdE hm
  have lh1 := pF_le eh1
  cases hm
  exact (lh1.tr le2.rf)
def m_X12_init_X14 (f : Nat) (u : CH) (x0 : Nat) (x1 : Int32) : Option CH := bd (m_J14_init_X14 f u x0) fun h1 =>
    m_X12_init_X14_4 f h1 x0 x1
theorem mo_X12_init_X14 {f : Nat} {u : CH} {x0 : Nat} {x1 : Int32} {u9 : CH} (hm : m_X12_init_X14 f u x0 x1 = some u9) : le2 u u9 := by
  rw [m_X12_init_X14] at hm
  obtain ⟨h1, eh1, hm⟩ := bdE hm
  have lh1 := mo_J14_init_X14 eh1
  exact (lh1.tr (mo_X12_init_X14_4  h1 x0 x1 _ hm))
abbrev rm_X12_init_X14 (mc ms : Nat) : Room := { frames := 5, cells := mc, slots := ms, locals := 100 }
theorem cw_X12_init_X14 {R : Room} {s : State} {args : Array Value} {own : String} {idx mc ms : Nat} (hts : ∀ w ∈ lw_all, w.before args s = true) (hl : Cond.methodLink own idx yX12_init ∈ lw_all) (hR : 5 + 1 ≤ R.frames ∧ 8 + (2 + 11) + 100 ≤ R.locals) : CallB R s args own idx yX12_init cX12_init 2 none (ws_ yX12_init cX12_init 2 (Option.none : Option Jvm.ClassFile.FieldType)) (rm_X12_init_X14 mc ms) mc ms 1 ∧ yX12_init.name = "<init>" ∧ (Cond.instanceMethod yX12_init).before args s = true := cwI 1 hts (lw_meth q1408) rfl rfl rfl (hts _ q149) (hts _ hl) (hts _ q1407) rfl (by decide +kernel) hR
set_option maxHeartbeats 4000000 in
set_option maxRecDepth 100000 in
theorem w_X12_init_X14 (l : Launch) (htl : l.stackTraces = false) {D : va_G} {dA : Nat → ClassId} {A : Nat → Prop} {f : Nat} {u u9 : CH} {x0 : Nat} {x1 : Int32} (hm : m_X12_init_X14 f u x0 x1 = some u9) : Met l yX12_init (ws_ yX12_init cX12_init 2 (Option.none : Option Jvm.ClassFile.FieldType)) (rm_X12_init_X14 (u9.1 - u.1) (u9.2.1 - u.2.1)) (va_Pc [.ref x0, .int x1] (CPre D dA A u)) (va_Qv (fun u => u = u9) (CPost D dA A) A) (u9.1 - u.1) (u9.2.1 - u.2.1) A := by
  refine Met.ofW (cc := cX12_init) (maxL := 2) (ret := (Option.none : Option Jvm.ClassFile.FieldType)) (by decide) rfl ?_
  intro p e s m args below meth c s₁ B hml hv
  have hx := B.exec
  have hb := B.bytes
  have hr := B.returns
  have hts := atoms_spec (ws := (ws_ yX12_init cX12_init 2 (Option.none : Option Jvm.ClassFile.FieldType))) B.pre
  have hts : ∀ w ∈ lw_all, w.before args s = true := fun w h => hts w (List.mem_cons_of_mem _ h)
  have hown : s.vm.findClass RX12 = some m.cls := findClass_of_methodNamed B.named
  have hlocks := B.notSynchronized
  have hin : meth.name = "<init>" := (name_of_methodNamed B.named B.method).1
  obtain ⟨hav, hv⟩ := hv
  have C : CX p s m args c cX12_init RX12 D dA := ⟨hx, hb, hown, hts, hv.2⟩
  have hw : CW D dA A s u s.heap [] := hv.1
  generalize hQ : MQ below (va_Qv (fun u => u = u9) (CPost D dA A) A) args s (u9.1 - u.1) (u9.2.1 - u.2.1) A = QQ
  have hent := lg_entry_eq m [.ref x0, .int x1] 2
  rw [← hav] at hent
  rw [hent]
  have hl := lv_entry ([.ref x0, .int x1]) (n := 2) (Nat.le_of_ble_eq_true rfl)
  generalize (lg_sl ([.ref x0, .int x1]) ++ List.replicate (2 - (lg_sl ([.ref x0, .int x1])).length) Slot.unset).toArray = ls at hl ⊢
  have hl : lv_has ls 2 [(0, .ref x0), (1, .int x1)] := hl
  obtain ⟨cc, ecc⟩ : ∃ z : Nat, z = 0 := ⟨0, rfl⟩
  obtain ⟨ss, ess⟩ : ∃ z : Nat, z = 0 := ⟨0, rfl⟩
  have hcc : cc + u.1 = u.1 := by omega
  have hss : ss + u.2.1 = u.2.1 := by omega
  suffices hgo : W p l e (rm_X12_init_X14 (u9.1 - u.1) (u9.2.1 - u.2.1)) s m args below meth c s.heap [] cc ss QQ (F0 m 0 ls []) by rw [ecc, ess] at hgo; exact hgo
  have ⟨pu, qu, _, _⟩ := mo_X12_init_X14 hm
  have hB4 : ∀ (h : CH) (x0 : Nat) (x1 : Int32) (cc ss : Nat) (H : Heap) (locs : List Loc) (ls : Array Slot), m_X12_init_X14_4 f h x0 x1 = some u9 → CW D dA A s h H locs → cc + u.1 = h.1 → ss + u.2.1 = h.2.1 → lv_has ls 2 [(0, .ref x0), (1, .int x1)] → W p l e (rm_X12_init_X14 (u9.1 - u.1) (u9.2.1 - u.2.1)) s m args below meth c H locs cc ss QQ (F0 m 4 ls []) := by
    intro h x0 x1 cc ss H locs ls hm hw hcc hss hl
    have hmo := mo_X12_init_X14_4  h x0 x1 _ hm
    have sb_ : h.1 ≤ u9.1 := hmo.1
    have tb_ : h.2.1 ≤ u9.2.1 := hmo.2.1
    rw [m_X12_init_X14_4] at hm
    refine lv_aload_n hx hb dX12_init_4 rfl (lv_at hl 0 rfl) ?_
    refine lv_iload_n hx hb dX12_init_5 rfl (lv_at hl 1 rfl) ?_
    obtain ⟨h1, eh1, hm⟩ := bdE hm
    refine cg_putF C hw eh1 rfl in_X14 tyX14 tyX14_ok nmX14 (by decide) q1410 rfl hin rfl rfl rfl dX12_init_6 (fun H locs hw => ?_)
    have zh1 := pF_sz eh1
    have eh := ret1 hm
    have ec : cc = u9.1 - u.1 := by rw [← eh]; omega
    have es : ss = u9.2.1 - u.2.1 := by rw [← eh]; omega
    rw [ec, es, ← hQ]
    exact W.vret hx hb hr (fun t ht hW => ⟨⟨h1, rfl, eh, ⟨by rw [ht]; exact hw.1, by rw [ht]; exact hw.2.1⟩⟩, hw.2.2.1.F ht⟩) hw.2.2.1.2.2 dX12_init_9
  rw [m_X12_init_X14] at hm
  refine lv_aload_n hx hb dX12_init_0 rfl (lv_at hl 0 rfl) ?_
  obtain ⟨h1, eh1, hm⟩ := bdE hm
  have lh1 := mo_J14_init_X14 eh1
  have ph1 : u.1 ≤ h1.1 := lh1.1
  have qh1 : u.2.1 ≤ h1.2.1 := lh1.2.1
  have hmo := mo_X12_init_X14_4   h1 x0 x1 _ hm
  have sh1 : h1.1 ≤ u9.1 := hmo.1
  have th1 : h1.2.1 ≤ u9.2.1 := hmo.2.1
  refine cg_callv hw lh1 (va_runI (As := []) (rest := []) ⟨hx, hb, hml, hown, hts⟩ (w_J14_init_X14 l htl eh1) (cw_J14_init_X14 hts q1409 ⟨Nat.le_of_ble_eq_true rfl, Nat.le_of_ble_eq_true rfl⟩) (cg_preS C hw _) rfl rfl hl.1 rfl (lv_room (Nat.le_of_ble_eq_true rfl)) dX12_init_1 ⟨show cc + (h1.1 - u.1) ≤ u9.1 - u.1 by omega, show ss + (h1.2.1 - u.2.1) ≤ u9.2.1 - u.2.1 by omega⟩) (fun H locs hw => ?_)
  exact hB4 h1 x0 x1 _ _ _ _ _ hm hw (by omega) (by omega) (lv_sub hl [0, 1] rfl)
def m_X14_init_5 (f : Nat) (h : CH) : Option CH := some h
theorem mo_X14_init_5 {f : Nat} : ∀ (h : CH) (r : CH), m_X14_init_5 f h = some r → le2 h r := by
  intro h r hm
  rw [m_X14_init_5] at hm
  cases hm
  exact le2.rf
def m_X14_init (f : Nat) (u : CH) (x0 : Nat) (x1 : Int32) : Option CH := bd (m_X12_init_X14 f u x0 x1) fun h1 =>
    m_X14_init_5 f h1
theorem mo_X14_init {f : Nat} {u : CH} {x0 : Nat} {x1 : Int32} {u9 : CH} (hm : m_X14_init f u x0 x1 = some u9) : le2 u u9 := by
  rw [m_X14_init] at hm
  obtain ⟨h1, eh1, hm⟩ := bdE hm
  have lh1 := mo_X12_init_X14 eh1
  exact (lh1.tr (mo_X14_init_5  h1 _ hm))
abbrev rm_X14_init (mc ms : Nat) : Room := { frames := 6, cells := mc, slots := ms, locals := 121 }
theorem cw_X14_init {R : Room} {s : State} {args : Array Value} {own : String} {idx mc ms : Nat} (hts : ∀ w ∈ lw_all, w.before args s = true) (hl : Cond.methodLink own idx yX14_init ∈ lw_all) (hR : 6 + 1 ≤ R.frames ∧ 8 + (2 + 11) + 121 ≤ R.locals) : CallB R s args own idx yX14_init cX14_init 2 none (ws_ yX14_init cX14_init 2 (Option.none : Option Jvm.ClassFile.FieldType)) (rm_X14_init mc ms) mc ms 1 ∧ yX14_init.name = "<init>" ∧ (Cond.instanceMethod yX14_init).before args s = true := cwI 1 hts (lw_meth q1430) rfl rfl rfl (hts _ q151) (hts _ hl) (hts _ q1429) rfl (by decide +kernel) hR
set_option maxHeartbeats 4000000 in
set_option maxRecDepth 100000 in
theorem w_X14_init (l : Launch) (htl : l.stackTraces = false) {D : va_G} {dA : Nat → ClassId} {A : Nat → Prop} {f : Nat} {u u9 : CH} {x0 : Nat} {x1 : Int32} (hm : m_X14_init f u x0 x1 = some u9) : Met l yX14_init (ws_ yX14_init cX14_init 2 (Option.none : Option Jvm.ClassFile.FieldType)) (rm_X14_init (u9.1 - u.1) (u9.2.1 - u.2.1)) (va_Pc [.ref x0, .int x1] (CPre D dA A u)) (va_Qv (fun u => u = u9) (CPost D dA A) A) (u9.1 - u.1) (u9.2.1 - u.2.1) A := by
  refine Met.ofW (cc := cX14_init) (maxL := 2) (ret := (Option.none : Option Jvm.ClassFile.FieldType)) (by decide) rfl ?_
  intro p e s m args below meth c s₁ B hml hv
  have hx := B.exec
  have hb := B.bytes
  have hr := B.returns
  have hts := atoms_spec (ws := (ws_ yX14_init cX14_init 2 (Option.none : Option Jvm.ClassFile.FieldType))) B.pre
  have hts : ∀ w ∈ lw_all, w.before args s = true := fun w h => hts w (List.mem_cons_of_mem _ h)
  have hown : s.vm.findClass RX14 = some m.cls := findClass_of_methodNamed B.named
  have hlocks := B.notSynchronized
  have hin : meth.name = "<init>" := (name_of_methodNamed B.named B.method).1
  obtain ⟨hav, hv⟩ := hv
  have C : CX p s m args c cX14_init RX14 D dA := ⟨hx, hb, hown, hts, hv.2⟩
  have hw : CW D dA A s u s.heap [] := hv.1
  generalize hQ : MQ below (va_Qv (fun u => u = u9) (CPost D dA A) A) args s (u9.1 - u.1) (u9.2.1 - u.2.1) A = QQ
  have hent := lg_entry_eq m [.ref x0, .int x1] 2
  rw [← hav] at hent
  rw [hent]
  have hl := lv_entry ([.ref x0, .int x1]) (n := 2) (Nat.le_of_ble_eq_true rfl)
  generalize (lg_sl ([.ref x0, .int x1]) ++ List.replicate (2 - (lg_sl ([.ref x0, .int x1])).length) Slot.unset).toArray = ls at hl ⊢
  have hl : lv_has ls 2 [(0, .ref x0), (1, .int x1)] := hl
  obtain ⟨cc, ecc⟩ : ∃ z : Nat, z = 0 := ⟨0, rfl⟩
  obtain ⟨ss, ess⟩ : ∃ z : Nat, z = 0 := ⟨0, rfl⟩
  have hcc : cc + u.1 = u.1 := by omega
  have hss : ss + u.2.1 = u.2.1 := by omega
  suffices hgo : W p l e (rm_X14_init (u9.1 - u.1) (u9.2.1 - u.2.1)) s m args below meth c s.heap [] cc ss QQ (F0 m 0 ls []) by rw [ecc, ess] at hgo; exact hgo
  have ⟨pu, qu, _, _⟩ := mo_X14_init hm
  have hB5 : ∀ (h : CH) (cc ss : Nat) (H : Heap) (locs : List Loc) (ls : Array Slot), m_X14_init_5 f h = some u9 → CW D dA A s h H locs → cc + u.1 = h.1 → ss + u.2.1 = h.2.1 → lv_has ls 2 [] → W p l e (rm_X14_init (u9.1 - u.1) (u9.2.1 - u.2.1)) s m args below meth c H locs cc ss QQ (F0 m 5 ls []) := by
    intro h cc ss H locs ls hm hw hcc hss hl
    have hmo := mo_X14_init_5  h _ hm
    have sb_ : h.1 ≤ u9.1 := hmo.1
    have tb_ : h.2.1 ≤ u9.2.1 := hmo.2.1
    rw [m_X14_init_5] at hm
    have eh := ret1 hm
    have ec : cc = u9.1 - u.1 := by rw [← eh]; omega
    have es : ss = u9.2.1 - u.2.1 := by rw [← eh]; omega
    rw [ec, es, ← hQ]
    exact W.vret hx hb hr (fun t ht hW => ⟨⟨h, rfl, eh, ⟨by rw [ht]; exact hw.1, by rw [ht]; exact hw.2.1⟩⟩, hw.2.2.1.F ht⟩) hw.2.2.1.2.2 dX14_init_5
  rw [m_X14_init] at hm
  refine lv_aload_n hx hb dX14_init_0 rfl (lv_at hl 0 rfl) ?_
  refine lv_iload_n hx hb dX14_init_1 rfl (lv_at hl 1 rfl) ?_
  obtain ⟨h1, eh1, hm⟩ := bdE hm
  have lh1 := mo_X12_init_X14 eh1
  have ph1 : u.1 ≤ h1.1 := lh1.1
  have qh1 : u.2.1 ≤ h1.2.1 := lh1.2.1
  have hmo := mo_X14_init_5   h1 _ hm
  have sh1 : h1.1 ≤ u9.1 := hmo.1
  have th1 : h1.2.1 ≤ u9.2.1 := hmo.2.1
  refine cg_callv hw lh1 (va_runI (As := [.int x1]) (rest := []) ⟨hx, hb, hml, hown, hts⟩ (w_X12_init_X14 l htl eh1) (cw_X12_init_X14 hts q1431 ⟨Nat.le_of_ble_eq_true rfl, Nat.le_of_ble_eq_true rfl⟩) (cg_preS C hw _) rfl rfl hl.1 rfl (lv_room (Nat.le_of_ble_eq_true rfl)) dX14_init_2 ⟨show cc + (h1.1 - u.1) ≤ u9.1 - u.1 by omega, show ss + (h1.2.1 - u.2.1) ≤ u9.2.1 - u.2.1 by omega⟩) (fun H locs hw => ?_)
  exact hB5 h1 _ _ _ _ _ hm hw (by omega) (by omega) (lv_sub hl [] rfl)
def m_J13_init_X15 (f : Nat) (u : CH) (x0 : Nat) : Option CH := bd (pF u 14 1 x0 (.ref x0)) fun h1 =>
    bd (pF h1 14 2 x0 (va_rf (sR h1 8))) fun h2 =>
    bd (pF h2 14 3 x0 (va_rf (sR h2 9))) fun h3 =>
    gd (flk h3 14 2 5 x0) <|
    some h3
theorem mo_J13_init_X15 {f : Nat} {u : CH} {x0 : Nat} {u9 : CH} (hm : m_J13_init_X15 f u x0 = some u9) : le2 u u9 := by
  rw [m_J13_init_X15] at hm
  obtain ⟨h1, eh1, hm⟩ := bdE hm
  have lh1 := pF_le eh1
  obtain ⟨h2, eh2, hm⟩ := bdE hm
  have lh2 := pF_le eh2
  obtain ⟨h3, eh3, hm⟩ := bdE hm
  have lh3 := pF_le eh3
  obtain ⟨g4, hm⟩ := gdE hm
  cases hm
  exact (lh1.tr (lh2.tr (lh3.tr le2.rf)))
abbrev rm_J13_init_X15 (mc ms : Nat) : Room := { frames := 3, cells := mc, slots := ms, locals := 60 }
theorem cw_J13_init_X15 {R : Room} {s : State} {args : Array Value} {own : String} {idx mc ms : Nat} (hts : ∀ w ∈ lw_all, w.before args s = true) (hl : Cond.methodLink own idx yJ13_init ∈ lw_all) (hR : 3 + 1 ≤ R.frames ∧ 8 + (1 + 11) + 60 ≤ R.locals) : CallB R s args own idx yJ13_init cJ13_init 1 none (ws_ yJ13_init cJ13_init 1 (Option.none : Option Jvm.ClassFile.FieldType)) (rm_J13_init_X15 mc ms) mc ms 0 ∧ yJ13_init.name = "<init>" ∧ (Cond.instanceMethod yJ13_init).before args s = true := cwI 0 hts (lw_meth q608) rfl rfl rfl (hts _ q139) (hts _ hl) (hts _ q607) rfl (by decide +kernel) hR
set_option maxHeartbeats 4000000 in
set_option maxRecDepth 100000 in
theorem w_J13_init_X15 (l : Launch) (htl : l.stackTraces = false) {D : va_G} {dA : Nat → ClassId} {A : Nat → Prop} {f : Nat} {u u9 : CH} {x0 : Nat} (hm : m_J13_init_X15 f u x0 = some u9) : Met l yJ13_init (ws_ yJ13_init cJ13_init 1 (Option.none : Option Jvm.ClassFile.FieldType)) (rm_J13_init_X15 (u9.1 - u.1) (u9.2.1 - u.2.1)) (va_Pc [.ref x0] (CPre D dA A u)) (va_Qv (fun u => u = u9) (CPost D dA A) A) (u9.1 - u.1) (u9.2.1 - u.2.1) A := by
  refine metOfWF (cc := cJ13_init) (maxL := 1) (ret := (Option.none : Option Jvm.ClassFile.FieldType)) (by decide +kernel) rfl ?_
  intro p e s m args below meth c s₁ B hml hv
  have hx := B.exec
  have hb := B.bytes
  have hr := B.returns
  have hts := atoms_spec (ws := (ws_ yJ13_init cJ13_init 1 (Option.none : Option Jvm.ClassFile.FieldType))) B.pre
  have hts : ∀ w ∈ lw_all, w.before args s = true := fun w h => hts w (List.mem_cons_of_mem _ h)
  have hown : s.vm.findClass RJ13 = some m.cls := findClass_of_methodNamed B.named
  have hlocks := B.notSynchronized
  have hin : meth.name = "<init>" := (name_of_methodNamed B.named B.method).1
  obtain ⟨hav, hv⟩ := hv
  have C : CX p s m args c cJ13_init RJ13 D dA := ⟨hx, hb, hown, hts, hv.2⟩
  have hw : CW D dA A s u s.heap [] := hv.1
  generalize hQ : MQ below (va_Qv (fun u => u = u9) (CPost D dA A) A) args s (u9.1 - u.1) (u9.2.1 - u.2.1) A = QQ
  have hent := lg_entry_eq m [.ref x0] 1
  rw [← hav] at hent
  rw [hent]
  have hl := lv_entry ([.ref x0]) (n := 1) (Nat.le_of_ble_eq_true rfl)
  generalize (lg_sl ([.ref x0]) ++ List.replicate (1 - (lg_sl ([.ref x0])).length) Slot.unset).toArray = ls at hl ⊢
  have hl : lv_has ls 1 [(0, .ref x0)] := hl
  obtain ⟨cc, ecc⟩ : ∃ z : Nat, z = 0 := ⟨0, rfl⟩
  obtain ⟨ss, ess⟩ : ∃ z : Nat, z = 0 := ⟨0, rfl⟩
  have hcc : cc + u.1 = u.1 := by omega
  have hss : ss + u.2.1 = u.2.1 := by omega
  suffices hgo : W p l e (rm_J13_init_X15 (u9.1 - u.1) (u9.2.1 - u.2.1)) s m args below meth c s.heap [] cc ss QQ (F0 m 0 ls []) by rw [ecc, ess] at hgo; exact hgo
  have ⟨pu, qu, _, _⟩ := mo_J13_init_X15 hm
  rw [m_J13_init_X15] at hm
  refine lv_aload_n hx hb dJ13_init_0 rfl (lv_at hl 0 rfl) ?_
  refine W.objInit hx hb hown (hts _ q609) (hts _ q161) (hts _ q162) rfl (by rw [hml]; exact hl.1) rfl dJ13_init_1 (Nat.le_of_ble_eq_true rfl) (Nat.le_of_ble_eq_true rfl) ?_
  refine W.eq (g2 := F0 m 4 ls []) rfl ?_
  refine lv_aload_n hx hb dJ13_init_4 rfl (lv_at hl 0 rfl) ?_
  refine lv_aload_n hx hb dJ13_init_5 rfl (lv_at hl 0 rfl) ?_
  obtain ⟨h1, eh1, hm⟩ := bdE hm
  refine cg_put C hw eh1 rfl in_X15 tyX15 tyX15_ok nmX15 (by decide) q640 rfl rfl rfl dJ13_init_6 (fun H locs hw => ?_)
  have zh1 := pF_sz eh1
  refine lv_aload_n hx hb dJ13_init_9 rfl (lv_at hl 0 rfl) ?_
  refine cg_getsQ C hw (i := 8) rfl q610 dJ13_init_10 ?_
  obtain ⟨h2, eh2, hm⟩ := bdE hm
  refine cg_put C hw eh2 rfl in_X15 tyX15 tyX15_ok nmX15 (by decide) q641 rfl (by cases (sR h1 8) <;> rfl) (by cases (sR h1 8) <;> rfl) dJ13_init_13 (fun H locs hw => ?_)
  have zh2 := pF_sz eh2
  refine lv_aload_n hx hb dJ13_init_16 rfl (lv_at hl 0 rfl) ?_
  refine cg_getsQ C hw (i := 9) rfl q612 dJ13_init_17 ?_
  obtain ⟨h3, eh3, hm⟩ := bdE hm
  refine cg_put C hw eh3 rfl in_X15 tyX15 tyX15_ok nmX15 (by decide) q642 rfl (by cases (sR h2 9) <;> rfl) (by cases (sR h2 9) <;> rfl) dJ13_init_20 (fun H locs hw => ?_)
  have zh3 := pF_sz eh3
  refine lv_aload_n hx hb dJ13_init_23 rfl (lv_at hl 0 rfl) ?_
  obtain ⟨g4, hm⟩ := gdE hm
  refine cg_fill htl C hw (hml.trans hl.1.symm) rfl in_X15 (by decide) (by decide) q1438 q617 (by decide) rfl (by decide) rfl g4 (Nat.le_of_ble_eq_true rfl) (Nat.le_of_ble_eq_true rfl) dJ13_init_24 ?_
  refine lv_pop hx hb dJ13_init_27 rfl ?_
  have eh := ret1 hm
  have ec : cc = u9.1 - u.1 := by rw [← eh]; omega
  have es : ss = u9.2.1 - u.2.1 := by rw [← eh]; omega
  rw [ec, es, ← hQ]
  exact W.vret hx hb hr (fun t ht hW => ⟨⟨h3, rfl, eh, ⟨by rw [ht]; exact hw.1, by rw [ht]; exact hw.2.1⟩⟩, hw.2.2.1.F ht⟩) hw.2.2.1.2.2 dJ13_init_28
def m_J14_init_X15_4 (f : Nat) (h : CH) : Option CH := some h
theorem mo_J14_init_X15_4 {f : Nat} : ∀ (h : CH) (r : CH), m_J14_init_X15_4 f h = some r → le2 h r := by
  intro h r hm
  rw [m_J14_init_X15_4] at hm
  cases hm
  exact le2.rf
def m_J14_init_X15 (f : Nat) (u : CH) (x0 : Nat) : Option CH := bd (m_J13_init_X15 f u x0) fun h1 =>
    m_J14_init_X15_4 f h1
theorem mo_J14_init_X15 {f : Nat} {u : CH} {x0 : Nat} {u9 : CH} (hm : m_J14_init_X15 f u x0 = some u9) : le2 u u9 := by
  rw [m_J14_init_X15] at hm
  obtain ⟨h1, eh1, hm⟩ := bdE hm
  have lh1 := mo_J13_init_X15 eh1
  exact (lh1.tr (mo_J14_init_X15_4  h1 _ hm))
abbrev rm_J14_init_X15 (mc ms : Nat) : Room := { frames := 4, cells := mc, slots := ms, locals := 80 }
theorem cw_J14_init_X15 {R : Room} {s : State} {args : Array Value} {own : String} {idx mc ms : Nat} (hts : ∀ w ∈ lw_all, w.before args s = true) (hl : Cond.methodLink own idx yJ14_init ∈ lw_all) (hR : 4 + 1 ≤ R.frames ∧ 8 + (1 + 11) + 80 ≤ R.locals) : CallB R s args own idx yJ14_init cJ14_init 1 none (ws_ yJ14_init cJ14_init 1 (Option.none : Option Jvm.ClassFile.FieldType)) (rm_J14_init_X15 mc ms) mc ms 0 ∧ yJ14_init.name = "<init>" ∧ (Cond.instanceMethod yJ14_init).before args s = true := cwI 0 hts (lw_meth q632) rfl rfl rfl (hts _ q140) (hts _ hl) (hts _ q631) rfl (by decide +kernel) hR
set_option maxHeartbeats 4000000 in
set_option maxRecDepth 100000 in
theorem w_J14_init_X15 (l : Launch) (htl : l.stackTraces = false) {D : va_G} {dA : Nat → ClassId} {A : Nat → Prop} {f : Nat} {u u9 : CH} {x0 : Nat} (hm : m_J14_init_X15 f u x0 = some u9) : Met l yJ14_init (ws_ yJ14_init cJ14_init 1 (Option.none : Option Jvm.ClassFile.FieldType)) (rm_J14_init_X15 (u9.1 - u.1) (u9.2.1 - u.2.1)) (va_Pc [.ref x0] (CPre D dA A u)) (va_Qv (fun u => u = u9) (CPost D dA A) A) (u9.1 - u.1) (u9.2.1 - u.2.1) A := by
  refine metOfWF (cc := cJ14_init) (maxL := 1) (ret := (Option.none : Option Jvm.ClassFile.FieldType)) (by decide +kernel) rfl ?_
  intro p e s m args below meth c s₁ B hml hv
  have hx := B.exec
  have hb := B.bytes
  have hr := B.returns
  have hts := atoms_spec (ws := (ws_ yJ14_init cJ14_init 1 (Option.none : Option Jvm.ClassFile.FieldType))) B.pre
  have hts : ∀ w ∈ lw_all, w.before args s = true := fun w h => hts w (List.mem_cons_of_mem _ h)
  have hown : s.vm.findClass RJ14 = some m.cls := findClass_of_methodNamed B.named
  have hlocks := B.notSynchronized
  have hin : meth.name = "<init>" := (name_of_methodNamed B.named B.method).1
  obtain ⟨hav, hv⟩ := hv
  have C : CX p s m args c cJ14_init RJ14 D dA := ⟨hx, hb, hown, hts, hv.2⟩
  have hw : CW D dA A s u s.heap [] := hv.1
  generalize hQ : MQ below (va_Qv (fun u => u = u9) (CPost D dA A) A) args s (u9.1 - u.1) (u9.2.1 - u.2.1) A = QQ
  have hent := lg_entry_eq m [.ref x0] 1
  rw [← hav] at hent
  rw [hent]
  have hl := lv_entry ([.ref x0]) (n := 1) (Nat.le_of_ble_eq_true rfl)
  generalize (lg_sl ([.ref x0]) ++ List.replicate (1 - (lg_sl ([.ref x0])).length) Slot.unset).toArray = ls at hl ⊢
  have hl : lv_has ls 1 [(0, .ref x0)] := hl
  obtain ⟨cc, ecc⟩ : ∃ z : Nat, z = 0 := ⟨0, rfl⟩
  obtain ⟨ss, ess⟩ : ∃ z : Nat, z = 0 := ⟨0, rfl⟩
  have hcc : cc + u.1 = u.1 := by omega
  have hss : ss + u.2.1 = u.2.1 := by omega
  suffices hgo : W p l e (rm_J14_init_X15 (u9.1 - u.1) (u9.2.1 - u.2.1)) s m args below meth c s.heap [] cc ss QQ (F0 m 0 ls []) by rw [ecc, ess] at hgo; exact hgo
  have ⟨pu, qu, _, _⟩ := mo_J14_init_X15 hm
  have hB4 : ∀ (h : CH) (cc ss : Nat) (H : Heap) (locs : List Loc) (ls : Array Slot), m_J14_init_X15_4 f h = some u9 → CW D dA A s h H locs → cc + u.1 = h.1 → ss + u.2.1 = h.2.1 → lv_has ls 1 [] → W p l e (rm_J14_init_X15 (u9.1 - u.1) (u9.2.1 - u.2.1)) s m args below meth c H locs cc ss QQ (F0 m 4 ls []) := by
    intro h cc ss H locs ls hm hw hcc hss hl
    have hmo := mo_J14_init_X15_4  h _ hm
    have sb_ : h.1 ≤ u9.1 := hmo.1
    have tb_ : h.2.1 ≤ u9.2.1 := hmo.2.1
    rw [m_J14_init_X15_4] at hm
    have eh := ret1 hm
    have ec : cc = u9.1 - u.1 := by rw [← eh]; omega
    have es : ss = u9.2.1 - u.2.1 := by rw [← eh]; omega
    rw [ec, es, ← hQ]
    exact W.vret hx hb hr (fun t ht hW => ⟨⟨h, rfl, eh, ⟨by rw [ht]; exact hw.1, by rw [ht]; exact hw.2.1⟩⟩, hw.2.2.1.F ht⟩) hw.2.2.1.2.2 dJ14_init_4
  rw [m_J14_init_X15] at hm
  refine lv_aload_n hx hb dJ14_init_0 rfl (lv_at hl 0 rfl) ?_
  obtain ⟨h1, eh1, hm⟩ := bdE hm
  have lh1 := mo_J13_init_X15 eh1
  have ph1 : u.1 ≤ h1.1 := lh1.1
  have qh1 : u.2.1 ≤ h1.2.1 := lh1.2.1
  have hmo := mo_J14_init_X15_4   h1 _ hm
  have sh1 : h1.1 ≤ u9.1 := hmo.1
  have th1 : h1.2.1 ≤ u9.2.1 := hmo.2.1
  refine cg_callv hw lh1 (va_runI (As := []) (rest := []) ⟨hx, hb, hml, hown, hts⟩ (w_J13_init_X15 l htl eh1) (cw_J13_init_X15 hts q633 ⟨Nat.le_of_ble_eq_true rfl, Nat.le_of_ble_eq_true rfl⟩) (cg_preS C hw _) rfl rfl hl.1 rfl (lv_room (Nat.le_of_ble_eq_true rfl)) dJ14_init_1 ⟨show cc + (h1.1 - u.1) ≤ u9.1 - u.1 by omega, show ss + (h1.2.1 - u.2.1) ≤ u9.2.1 - u.2.1 by omega⟩) (fun H locs hw => ?_)
  exact hB4 h1 _ _ _ _ _ hm hw (by omega) (by omega) (lv_sub hl [] rfl)
def m_X12_init_X15_4 (f : Nat) (h : CH) (x0 : Nat) (x1 : Int32) : Option CH := bd (pF h 14 0 x0 (.int x1)) fun h1 =>
    some h1
theorem mo_X12_init_X15_4 {f : Nat} : ∀ (h : CH) (x0 : Nat) (x1 : Int32) (r : CH), m_X12_init_X15_4 f h x0 x1 = some r → le2 h r := by
  intro h x0 x1 r hm
  rw [m_X12_init_X15_4] at hm
  obtain ⟨h1, eh1, hm⟩ := bdE hm
  have lh1 := pF_le eh1
  cases hm
  exact (lh1.tr le2.rf)
def m_X12_init_X15 (f : Nat) (u : CH) (x0 : Nat) (x1 : Int32) : Option CH := bd (m_J14_init_X15 f u x0) fun h1 =>
    m_X12_init_X15_4 f h1 x0 x1
theorem mo_X12_init_X15 {f : Nat} {u : CH} {x0 : Nat} {x1 : Int32} {u9 : CH} (hm : m_X12_init_X15 f u x0 x1 = some u9) : le2 u u9 := by
  rw [m_X12_init_X15] at hm
  obtain ⟨h1, eh1, hm⟩ := bdE hm
  have lh1 := mo_J14_init_X15 eh1
  exact (lh1.tr (mo_X12_init_X15_4  h1 x0 x1 _ hm))
abbrev rm_X12_init_X15 (mc ms : Nat) : Room := { frames := 5, cells := mc, slots := ms, locals := 100 }
theorem cw_X12_init_X15 {R : Room} {s : State} {args : Array Value} {own : String} {idx mc ms : Nat} (hts : ∀ w ∈ lw_all, w.before args s = true) (hl : Cond.methodLink own idx yX12_init ∈ lw_all) (hR : 5 + 1 ≤ R.frames ∧ 8 + (2 + 11) + 100 ≤ R.locals) : CallB R s args own idx yX12_init cX12_init 2 none (ws_ yX12_init cX12_init 2 (Option.none : Option Jvm.ClassFile.FieldType)) (rm_X12_init_X15 mc ms) mc ms 1 ∧ yX12_init.name = "<init>" ∧ (Cond.instanceMethod yX12_init).before args s = true := cwI 1 hts (lw_meth q1408) rfl rfl rfl (hts _ q149) (hts _ hl) (hts _ q1407) rfl (by decide +kernel) hR
set_option maxHeartbeats 4000000 in
set_option maxRecDepth 100000 in
theorem w_X12_init_X15 (l : Launch) (htl : l.stackTraces = false) {D : va_G} {dA : Nat → ClassId} {A : Nat → Prop} {f : Nat} {u u9 : CH} {x0 : Nat} {x1 : Int32} (hm : m_X12_init_X15 f u x0 x1 = some u9) : Met l yX12_init (ws_ yX12_init cX12_init 2 (Option.none : Option Jvm.ClassFile.FieldType)) (rm_X12_init_X15 (u9.1 - u.1) (u9.2.1 - u.2.1)) (va_Pc [.ref x0, .int x1] (CPre D dA A u)) (va_Qv (fun u => u = u9) (CPost D dA A) A) (u9.1 - u.1) (u9.2.1 - u.2.1) A := by
  refine Met.ofW (cc := cX12_init) (maxL := 2) (ret := (Option.none : Option Jvm.ClassFile.FieldType)) (by decide) rfl ?_
  intro p e s m args below meth c s₁ B hml hv
  have hx := B.exec
  have hb := B.bytes
  have hr := B.returns
  have hts := atoms_spec (ws := (ws_ yX12_init cX12_init 2 (Option.none : Option Jvm.ClassFile.FieldType))) B.pre
  have hts : ∀ w ∈ lw_all, w.before args s = true := fun w h => hts w (List.mem_cons_of_mem _ h)
  have hown : s.vm.findClass RX12 = some m.cls := findClass_of_methodNamed B.named
  have hlocks := B.notSynchronized
  have hin : meth.name = "<init>" := (name_of_methodNamed B.named B.method).1
  obtain ⟨hav, hv⟩ := hv
  have C : CX p s m args c cX12_init RX12 D dA := ⟨hx, hb, hown, hts, hv.2⟩
  have hw : CW D dA A s u s.heap [] := hv.1
  generalize hQ : MQ below (va_Qv (fun u => u = u9) (CPost D dA A) A) args s (u9.1 - u.1) (u9.2.1 - u.2.1) A = QQ
  have hent := lg_entry_eq m [.ref x0, .int x1] 2
  rw [← hav] at hent
  rw [hent]
  have hl := lv_entry ([.ref x0, .int x1]) (n := 2) (Nat.le_of_ble_eq_true rfl)
  generalize (lg_sl ([.ref x0, .int x1]) ++ List.replicate (2 - (lg_sl ([.ref x0, .int x1])).length) Slot.unset).toArray = ls at hl ⊢
  have hl : lv_has ls 2 [(0, .ref x0), (1, .int x1)] := hl
  obtain ⟨cc, ecc⟩ : ∃ z : Nat, z = 0 := ⟨0, rfl⟩
  obtain ⟨ss, ess⟩ : ∃ z : Nat, z = 0 := ⟨0, rfl⟩
  have hcc : cc + u.1 = u.1 := by omega
  have hss : ss + u.2.1 = u.2.1 := by omega
  suffices hgo : W p l e (rm_X12_init_X15 (u9.1 - u.1) (u9.2.1 - u.2.1)) s m args below meth c s.heap [] cc ss QQ (F0 m 0 ls []) by rw [ecc, ess] at hgo; exact hgo
  have ⟨pu, qu, _, _⟩ := mo_X12_init_X15 hm
  have hB4 : ∀ (h : CH) (x0 : Nat) (x1 : Int32) (cc ss : Nat) (H : Heap) (locs : List Loc) (ls : Array Slot), m_X12_init_X15_4 f h x0 x1 = some u9 → CW D dA A s h H locs → cc + u.1 = h.1 → ss + u.2.1 = h.2.1 → lv_has ls 2 [(0, .ref x0), (1, .int x1)] → W p l e (rm_X12_init_X15 (u9.1 - u.1) (u9.2.1 - u.2.1)) s m args below meth c H locs cc ss QQ (F0 m 4 ls []) := by
    intro h x0 x1 cc ss H locs ls hm hw hcc hss hl
    have hmo := mo_X12_init_X15_4  h x0 x1 _ hm
    have sb_ : h.1 ≤ u9.1 := hmo.1
    have tb_ : h.2.1 ≤ u9.2.1 := hmo.2.1
    rw [m_X12_init_X15_4] at hm
    refine lv_aload_n hx hb dX12_init_4 rfl (lv_at hl 0 rfl) ?_
    refine lv_iload_n hx hb dX12_init_5 rfl (lv_at hl 1 rfl) ?_
    obtain ⟨h1, eh1, hm⟩ := bdE hm
    refine cg_putF C hw eh1 rfl in_X15 tyX15 tyX15_ok nmX15 (by decide) q1410 rfl hin rfl rfl rfl dX12_init_6 (fun H locs hw => ?_)
    have zh1 := pF_sz eh1
    have eh := ret1 hm
    have ec : cc = u9.1 - u.1 := by rw [← eh]; omega
    have es : ss = u9.2.1 - u.2.1 := by rw [← eh]; omega
    rw [ec, es, ← hQ]
    exact W.vret hx hb hr (fun t ht hW => ⟨⟨h1, rfl, eh, ⟨by rw [ht]; exact hw.1, by rw [ht]; exact hw.2.1⟩⟩, hw.2.2.1.F ht⟩) hw.2.2.1.2.2 dX12_init_9
  rw [m_X12_init_X15] at hm
  refine lv_aload_n hx hb dX12_init_0 rfl (lv_at hl 0 rfl) ?_
  obtain ⟨h1, eh1, hm⟩ := bdE hm
  have lh1 := mo_J14_init_X15 eh1
  have ph1 : u.1 ≤ h1.1 := lh1.1
  have qh1 : u.2.1 ≤ h1.2.1 := lh1.2.1
  have hmo := mo_X12_init_X15_4   h1 x0 x1 _ hm
  have sh1 : h1.1 ≤ u9.1 := hmo.1
  have th1 : h1.2.1 ≤ u9.2.1 := hmo.2.1
  refine cg_callv hw lh1 (va_runI (As := []) (rest := []) ⟨hx, hb, hml, hown, hts⟩ (w_J14_init_X15 l htl eh1) (cw_J14_init_X15 hts q1409 ⟨Nat.le_of_ble_eq_true rfl, Nat.le_of_ble_eq_true rfl⟩) (cg_preS C hw _) rfl rfl hl.1 rfl (lv_room (Nat.le_of_ble_eq_true rfl)) dX12_init_1 ⟨show cc + (h1.1 - u.1) ≤ u9.1 - u.1 by omega, show ss + (h1.2.1 - u.2.1) ≤ u9.2.1 - u.2.1 by omega⟩) (fun H locs hw => ?_)
  exact hB4 h1 x0 x1 _ _ _ _ _ hm hw (by omega) (by omega) (lv_sub hl [0, 1] rfl)
def m_X15_init_5 (f : Nat) (h : CH) : Option CH := some h
theorem mo_X15_init_5 {f : Nat} : ∀ (h : CH) (r : CH), m_X15_init_5 f h = some r → le2 h r := by
  intro h r hm
  rw [m_X15_init_5] at hm
  cases hm
  exact le2.rf
def m_X15_init (f : Nat) (u : CH) (x0 : Nat) (x1 : Int32) : Option CH := bd (m_X12_init_X15 f u x0 x1) fun h1 =>
    m_X15_init_5 f h1
theorem mo_X15_init {f : Nat} {u : CH} {x0 : Nat} {x1 : Int32} {u9 : CH} (hm : m_X15_init f u x0 x1 = some u9) : le2 u u9 := by
  rw [m_X15_init] at hm
  obtain ⟨h1, eh1, hm⟩ := bdE hm
  have lh1 := mo_X12_init_X15 eh1
  exact (lh1.tr (mo_X15_init_5  h1 _ hm))
abbrev rm_X15_init (mc ms : Nat) : Room := { frames := 6, cells := mc, slots := ms, locals := 121 }
theorem cw_X15_init {R : Room} {s : State} {args : Array Value} {own : String} {idx mc ms : Nat} (hts : ∀ w ∈ lw_all, w.before args s = true) (hl : Cond.methodLink own idx yX15_init ∈ lw_all) (hR : 6 + 1 ≤ R.frames ∧ 8 + (2 + 11) + 121 ≤ R.locals) : CallB R s args own idx yX15_init cX15_init 2 none (ws_ yX15_init cX15_init 2 (Option.none : Option Jvm.ClassFile.FieldType)) (rm_X15_init mc ms) mc ms 1 ∧ yX15_init.name = "<init>" ∧ (Cond.instanceMethod yX15_init).before args s = true := cwI 1 hts (lw_meth q1446) rfl rfl rfl (hts _ q152) (hts _ hl) (hts _ q1445) rfl (by decide +kernel) hR
set_option maxHeartbeats 4000000 in
set_option maxRecDepth 100000 in
theorem w_X15_init (l : Launch) (htl : l.stackTraces = false) {D : va_G} {dA : Nat → ClassId} {A : Nat → Prop} {f : Nat} {u u9 : CH} {x0 : Nat} {x1 : Int32} (hm : m_X15_init f u x0 x1 = some u9) : Met l yX15_init (ws_ yX15_init cX15_init 2 (Option.none : Option Jvm.ClassFile.FieldType)) (rm_X15_init (u9.1 - u.1) (u9.2.1 - u.2.1)) (va_Pc [.ref x0, .int x1] (CPre D dA A u)) (va_Qv (fun u => u = u9) (CPost D dA A) A) (u9.1 - u.1) (u9.2.1 - u.2.1) A := by
  refine Met.ofW (cc := cX15_init) (maxL := 2) (ret := (Option.none : Option Jvm.ClassFile.FieldType)) (by decide) rfl ?_
  intro p e s m args below meth c s₁ B hml hv
  have hx := B.exec
  have hb := B.bytes
  have hr := B.returns
  have hts := atoms_spec (ws := (ws_ yX15_init cX15_init 2 (Option.none : Option Jvm.ClassFile.FieldType))) B.pre
  have hts : ∀ w ∈ lw_all, w.before args s = true := fun w h => hts w (List.mem_cons_of_mem _ h)
  have hown : s.vm.findClass RX15 = some m.cls := findClass_of_methodNamed B.named
  have hlocks := B.notSynchronized
  have hin : meth.name = "<init>" := (name_of_methodNamed B.named B.method).1
  obtain ⟨hav, hv⟩ := hv
  have C : CX p s m args c cX15_init RX15 D dA := ⟨hx, hb, hown, hts, hv.2⟩
  have hw : CW D dA A s u s.heap [] := hv.1
  generalize hQ : MQ below (va_Qv (fun u => u = u9) (CPost D dA A) A) args s (u9.1 - u.1) (u9.2.1 - u.2.1) A = QQ
  have hent := lg_entry_eq m [.ref x0, .int x1] 2
  rw [← hav] at hent
  rw [hent]
  have hl := lv_entry ([.ref x0, .int x1]) (n := 2) (Nat.le_of_ble_eq_true rfl)
  generalize (lg_sl ([.ref x0, .int x1]) ++ List.replicate (2 - (lg_sl ([.ref x0, .int x1])).length) Slot.unset).toArray = ls at hl ⊢
  have hl : lv_has ls 2 [(0, .ref x0), (1, .int x1)] := hl
  obtain ⟨cc, ecc⟩ : ∃ z : Nat, z = 0 := ⟨0, rfl⟩
  obtain ⟨ss, ess⟩ : ∃ z : Nat, z = 0 := ⟨0, rfl⟩
  have hcc : cc + u.1 = u.1 := by omega
  have hss : ss + u.2.1 = u.2.1 := by omega
  suffices hgo : W p l e (rm_X15_init (u9.1 - u.1) (u9.2.1 - u.2.1)) s m args below meth c s.heap [] cc ss QQ (F0 m 0 ls []) by rw [ecc, ess] at hgo; exact hgo
  have ⟨pu, qu, _, _⟩ := mo_X15_init hm
  have hB5 : ∀ (h : CH) (cc ss : Nat) (H : Heap) (locs : List Loc) (ls : Array Slot), m_X15_init_5 f h = some u9 → CW D dA A s h H locs → cc + u.1 = h.1 → ss + u.2.1 = h.2.1 → lv_has ls 2 [] → W p l e (rm_X15_init (u9.1 - u.1) (u9.2.1 - u.2.1)) s m args below meth c H locs cc ss QQ (F0 m 5 ls []) := by
    intro h cc ss H locs ls hm hw hcc hss hl
    have hmo := mo_X15_init_5  h _ hm
    have sb_ : h.1 ≤ u9.1 := hmo.1
    have tb_ : h.2.1 ≤ u9.2.1 := hmo.2.1
    rw [m_X15_init_5] at hm
    have eh := ret1 hm
    have ec : cc = u9.1 - u.1 := by rw [← eh]; omega
    have es : ss = u9.2.1 - u.2.1 := by rw [← eh]; omega
    rw [ec, es, ← hQ]
    exact W.vret hx hb hr (fun t ht hW => ⟨⟨h, rfl, eh, ⟨by rw [ht]; exact hw.1, by rw [ht]; exact hw.2.1⟩⟩, hw.2.2.1.F ht⟩) hw.2.2.1.2.2 dX15_init_5
  rw [m_X15_init] at hm
  refine lv_aload_n hx hb dX15_init_0 rfl (lv_at hl 0 rfl) ?_
  refine lv_iload_n hx hb dX15_init_1 rfl (lv_at hl 1 rfl) ?_
  obtain ⟨h1, eh1, hm⟩ := bdE hm
  have lh1 := mo_X12_init_X15 eh1
  have ph1 : u.1 ≤ h1.1 := lh1.1
  have qh1 : u.2.1 ≤ h1.2.1 := lh1.2.1
  have hmo := mo_X15_init_5   h1 _ hm
  have sh1 : h1.1 ≤ u9.1 := hmo.1
  have th1 : h1.2.1 ≤ u9.2.1 := hmo.2.1
  refine cg_callv hw lh1 (va_runI (As := [.int x1]) (rest := []) ⟨hx, hb, hml, hown, hts⟩ (w_X12_init_X15 l htl eh1) (cw_X12_init_X15 hts q1447 ⟨Nat.le_of_ble_eq_true rfl, Nat.le_of_ble_eq_true rfl⟩) (cg_preS C hw _) rfl rfl hl.1 rfl (lv_room (Nat.le_of_ble_eq_true rfl)) dX15_init_2 ⟨show cc + (h1.1 - u.1) ≤ u9.1 - u.1 by omega, show ss + (h1.2.1 - u.2.1) ≤ u9.2.1 - u.2.1 by omega⟩) (fun H locs hw => ?_)
  exact hB5 h1 _ _ _ _ _ hm hw (by omega) (by omega) (lv_sub hl [] rfl)
def m_X0_checks_65 (f : Nat) (h : CH) (y0 : Nat) : Option ((Unit ⊕ Nat) × CH) := gd (isC h y0 14) <|
    some (.inr y0, h)
theorem mo_X0_checks_65 {f : Nat} : ∀ (h : CH) (y0 : Nat) (r : ((Unit ⊕ Nat) × CH)), m_X0_checks_65 f h y0 = some r → le2 h r.2 := by
  intro h y0 r hm
  rw [m_X0_checks_65] at hm
  obtain ⟨g1, hm⟩ := gdE hm
  cases hm
  exact le2.rf
def m_X0_checks_60 (f : Nat) (h : CH) (x1 : Int32) (y0 : Nat) : Option ((Unit ⊕ Nat) × CH) := bd (m_X15_init f h y0 x1) fun h1 =>
    m_X0_checks_65 f h1 y0
theorem mo_X0_checks_60 {f : Nat} : ∀ (h : CH) (x1 : Int32) (y0 : Nat) (r : ((Unit ⊕ Nat) × CH)), m_X0_checks_60 f h x1 y0 = some r → le2 h r.2 := by
  intro h x1 y0 r hm
  rw [m_X0_checks_60] at hm
  obtain ⟨h1, eh1, hm⟩ := bdE hm
  have lh1 := mo_X15_init eh1
  exact (lh1.tr (mo_X0_checks_65  h1 y0 _ hm))
def m_X0_checks_44 (f : Nat) (h : CH) (x1 : Int32) (y0 : Int64) : Option ((Unit ⊕ Nat) × CH) := bd (m_J9_abs f y0) fun r1 =>
    bd (m_X0_isIn f r1 (1 : Int64) (60 : Int64)) fun r2 =>
    if ¬ r2 = 0 then
    some (.inl (), h)
    else nmv (cn h 7 (.inl (14, [.int 0, .null, .null, .null, .null, .null, .int 0]))) fun h4 =>
    nmv (h.1 : Nat) fun a5 =>
    m_X0_checks_60 f h4 x1 a5
theorem mo_X0_checks_44 {f : Nat} : ∀ (h : CH) (x1 : Int32) (y0 : Int64) (r : ((Unit ⊕ Nat) × CH)), m_X0_checks_44 f h x1 y0 = some r → le2 h r.2 := by
  intro h x1 y0 r hm
  rw [m_X0_checks_44] at hm
  obtain ⟨r1, er1, hm⟩ := bdE hm
  obtain ⟨r2, er2, hm⟩ := bdE hm
  by_cases c3 : ¬ r2 = 0
  · have hm := ifT hm c3
    cases hm
    exact le2.rf
  · have hm := ifF hm c3
    obtain ⟨h4, eh4, hm⟩ := nmE hm
    have lh4 := cn_le eh4
    obtain ⟨a5, ea5, hm⟩ := nmE hm
    exact (lh4.tr (mo_X0_checks_60  h4 x1 a5 _ hm))
def m_X0_checks_40 (f : Nat) (h : CH) (x0 : Nat) (x1 : Int32) : Option ((Unit ⊕ Nat) × CH) := gd (isC h x0 3) <|
    bd2 (m_X2_determinant f h x0) fun r3 h2 =>
    m_X0_checks_44 f h2 x1 r3
theorem mo_X0_checks_40 {f : Nat} : ∀ (h : CH) (x0 : Nat) (x1 : Int32) (r : ((Unit ⊕ Nat) × CH)), m_X0_checks_40 f h x0 x1 = some r → le2 h r.2 := by
  intro h x0 x1 r hm
  rw [m_X0_checks_40] at hm
  obtain ⟨g1, hm⟩ := gdE hm
  obtain ⟨r3, h2, er3, hm⟩ := bd2E hm
  have lh2 := mo_X2_determinant er3
  exact (lh2.tr (mo_X0_checks_44  h2 x1 r3 _ hm))
def m_X0_checks_33 (f : Nat) (h : CH) (y0 : Nat) : Option ((Unit ⊕ Nat) × CH) := gd (isC h y0 13) <|
    some (.inr y0, h)
theorem mo_X0_checks_33 {f : Nat} : ∀ (h : CH) (y0 : Nat) (r : ((Unit ⊕ Nat) × CH)), m_X0_checks_33 f h y0 = some r → le2 h r.2 := by
  intro h y0 r hm
  rw [m_X0_checks_33] at hm
  obtain ⟨g1, hm⟩ := gdE hm
  cases hm
  exact le2.rf
def m_X0_checks_28 (f : Nat) (h : CH) (x1 : Int32) (y0 : Nat) : Option ((Unit ⊕ Nat) × CH) := bd (m_X14_init f h y0 x1) fun h1 =>
    m_X0_checks_33 f h1 y0
theorem mo_X0_checks_28 {f : Nat} : ∀ (h : CH) (x1 : Int32) (y0 : Nat) (r : ((Unit ⊕ Nat) × CH)), m_X0_checks_28 f h x1 y0 = some r → le2 h r.2 := by
  intro h x1 y0 r hm
  rw [m_X0_checks_28] at hm
  obtain ⟨h1, eh1, hm⟩ := bdE hm
  have lh1 := mo_X14_init eh1
  exact (lh1.tr (mo_X0_checks_33  h1 y0 _ hm))
def m_X0_checks_25 (f : Nat) (h : CH) (x1 : Int32) : Option ((Unit ⊕ Nat) × CH) := nmv (cn h 7 (.inl (13, [.int 0, .null, .null, .null, .null, .null, .int 0]))) fun h1 =>
    nmv (h.1 : Nat) fun a2 =>
    m_X0_checks_28 f h1 x1 a2
theorem mo_X0_checks_25 {f : Nat} : ∀ (h : CH) (x1 : Int32) (r : ((Unit ⊕ Nat) × CH)), m_X0_checks_25 f h x1 = some r → le2 h r.2 := by
  intro h x1 r hm
  rw [m_X0_checks_25] at hm
  obtain ⟨h1, eh1, hm⟩ := nmE hm
  have lh1 := cn_le eh1
  obtain ⟨a2, ea2, hm⟩ := nmE hm
  exact (lh1.tr (mo_X0_checks_28  h1 x1 a2 _ hm))
def m_X0_checks_2 (f : Nat) : Nat → CH → Nat → Int32 → Int32 → Option ((Unit ⊕ Nat) × CH)
  | 0, _, _, _, _ => none
  | n2 + 1, h, x0, x1, x2 => if (3 : Int32) ≤ x2 then
    m_X0_checks_40 f h x0 x1
    else bd (oR h 3 0 x0) fun a2 =>
    bd (aR h 4 a2 x1) fun a3 =>
    bd (aL h 1 a3 x2) fun v4 =>
    bd (m_J9_abs f v4) fun r5 =>
    if r5 ≤ (20 : Int64) then
    nmv ((x2 + 1) : Int32) fun v7 =>
    m_X0_checks_2 f n2 h x0 x1 v7
    else m_X0_checks_25 f h x1
theorem mo_X0_checks_2 {f : Nat} : ∀ (n2 : Nat) (h : CH) (x0 : Nat) (x1 : Int32) (x2 : Int32) (r : ((Unit ⊕ Nat) × CH)), m_X0_checks_2 f n2 h x0 x1 x2 = some r → le2 h r.2 := by
  intro n2
  induction n2 with
  | zero => intro h x0 x1 x2 r hm; rw [m_X0_checks_2] at hm; exact noE hm
  | succ n2 ihm =>
    intro h x0 x1 x2 r hm
    rw [m_X0_checks_2] at hm
    by_cases c1 : (3 : Int32) ≤ x2
    · have hm := ifT hm c1
      exact (mo_X0_checks_40  h x0 x1 _ hm)
    · have hm := ifF hm c1
      obtain ⟨a2, ea2, hm⟩ := bdE hm
      obtain ⟨a3, ea3, hm⟩ := bdE hm
      obtain ⟨v4, ev4, hm⟩ := bdE hm
      obtain ⟨r5, er5, hm⟩ := bdE hm
      by_cases c6 : r5 ≤ (20 : Int64)
      · have hm := ifT hm c6
        obtain ⟨v7, ev7, hm⟩ := nmE hm
        exact (ihm h x0 x1 v7 _ hm)
      · have hm := ifF hm c6
        exact (mo_X0_checks_25  h x1 _ hm)
def m_X0_checks (f : Nat) (u : CH) (x0 : Nat) (x1 : Int32) : Option ((Unit ⊕ Nat) × CH) := m_X0_checks_2 f f u x0 x1 (0 : Int32)
theorem mo_X0_checks {f : Nat} {u : CH} {x0 : Nat} {x1 : Int32} {r0 : Unit ⊕ Nat} {u9 : CH} (hm : m_X0_checks f u x0 x1 = some (r0, u9)) : le2 u u9 := by
  rw [m_X0_checks] at hm
  exact (mo_X0_checks_2  f u x0 x1 (0 : Int32) _ hm)
abbrev rm_X0_checks (mc ms : Nat) : Room := { frames := 7, cells := mc, slots := ms, locals := 142 }
theorem cw_X0_checks {R : Room} {s : State} {args : Array Value} {own : String} {idx mc ms : Nat} (hts : ∀ w ∈ lw_all, w.before args s = true) (hl : Cond.methodLink own idx yX0_checks ∈ lw_all) (hR : 7 + 1 ≤ R.frames ∧ 8 + (3 + 11) + 142 ≤ R.locals) : CallB R s args own idx yX0_checks cX0_checks 3 (Option.none : Option Jvm.ClassFile.FieldType) (ws_ yX0_checks cX0_checks 3 (Option.none : Option Jvm.ClassFile.FieldType)) (rm_X0_checks mc ms) mc ms 2 ∧ (Cond.static yX0_checks).before args s = true := va_cwS 2 hts (lw_S hl q1417 q119 q1418) rfl rfl rfl (by decide +kernel) hR
set_option maxHeartbeats 4000000 in
set_option maxRecDepth 100000 in
theorem w_X0_checks (l : Launch) (htl : l.stackTraces = false) {D : va_G} {dA : Nat → ClassId} {A : Nat → Prop} {f : Nat} {u u9 : CH} {r0 : Unit ⊕ Nat} {x0 : Nat} {x1 : Int32} (hm : m_X0_checks f u x0 x1 = some (r0, u9)) : vy_Met l yX0_checks (ws_ yX0_checks cX0_checks 3 (Option.none : Option Jvm.ClassFile.FieldType)) (rm_X0_checks (u9.1 - u.1) (u9.2.1 - u.2.1)) (va_Pc [.ref x0, .int x1] (CPre D dA A u)) (cxQv D dA A r0 u9) (cxX D dA A r0 u9) (u9.1 - u.1) (u9.2.1 - u.2.1) A := by
  refine vy_ofW (cc := cX0_checks) (maxL := 3) (ret := (Option.none : Option Jvm.ClassFile.FieldType)) (by decide) rfl ?_
  intro p e s m args below meth c s₁ B hml htab hv
  have hx := B.exec
  have hb := B.bytes
  have hr := B.returns
  have hts := atoms_spec (ws := (ws_ yX0_checks cX0_checks 3 (Option.none : Option Jvm.ClassFile.FieldType))) B.pre
  have hts : ∀ w ∈ lw_all, w.before args s = true := fun w h => hts w (List.mem_cons_of_mem _ h)
  have hown : s.vm.findClass RX0 = some m.cls := findClass_of_methodNamed B.named
  have hlocks := B.notSynchronized
  obtain ⟨hav, hv⟩ := hv
  have C : CX p s m args c cX0_checks RX0 D dA := ⟨hx, hb, hown, hts, hv.2⟩
  have hw : CW D dA A s u s.heap [] := hv.1
  generalize hQ : vy_MQ below (cxQv D dA A r0 u9) (cxX D dA A r0 u9) args s (u9.1 - u.1) (u9.2.1 - u.2.1) A = QQ
  have hent := lg_entry_eq m [.ref x0, .int x1] 3
  rw [← hav] at hent
  rw [hent]
  have hl := lv_entry ([.ref x0, .int x1]) (n := 3) (Nat.le_of_ble_eq_true rfl)
  generalize (lg_sl ([.ref x0, .int x1]) ++ List.replicate (3 - (lg_sl ([.ref x0, .int x1])).length) Slot.unset).toArray = ls at hl ⊢
  have hl : lv_has ls 3 [(0, .ref x0), (1, .int x1)] := hl
  obtain ⟨cc, ecc⟩ : ∃ z : Nat, z = 0 := ⟨0, rfl⟩
  obtain ⟨ss, ess⟩ : ∃ z : Nat, z = 0 := ⟨0, rfl⟩
  have hcc : cc + u.1 = u.1 := by omega
  have hss : ss + u.2.1 = u.2.1 := by omega
  suffices hgo : W p l e (rm_X0_checks (u9.1 - u.1) (u9.2.1 - u.2.1)) s m args below meth c s.heap [] cc ss QQ (F0 m 0 ls []) by rw [ecc, ess] at hgo; exact hgo
  have ⟨pu, qu, _, _⟩ := mo_X0_checks hm
  have hB65 : ∀ (h : CH) (y0 : Nat) (cc ss : Nat) (H : Heap) (locs : List Loc) (ls : Array Slot), m_X0_checks_65 f h y0 = some (r0, u9) → CW D dA A s h H locs → cc + u.1 = h.1 → ss + u.2.1 = h.2.1 → lv_has ls 3 [] → W p l e (rm_X0_checks (u9.1 - u.1) (u9.2.1 - u.2.1)) s m args below meth c H locs cc ss QQ (F0 m 65 ls [.ref y0]) := by
    intro h y0 cc ss H locs ls hm hw hcc hss hl
    have hmo := mo_X0_checks_65  h y0 _ hm
    have sb_ : h.1 ≤ u9.1 := hmo.1
    have tb_ : h.2.1 ≤ u9.2.1 := hmo.2.1
    rw [m_X0_checks_65] at hm
    obtain ⟨g1, hm⟩ := gdE hm
    refine vy_athrow hx hb dX0_checks_65 ?_
    obtain ⟨er, eh⟩ := retE hm
    rw [← hQ]
    exact cx_out C hw g1 (by decide) rfl er eh (fun x hx => (htab x hx).elim) hlocks (by rw [← eh]; omega) (by rw [← eh]; omega)
  have hB60 : ∀ (h : CH) (x1 : Int32) (y0 : Nat) (cc ss : Nat) (H : Heap) (locs : List Loc) (ls : Array Slot), m_X0_checks_60 f h x1 y0 = some (r0, u9) → CW D dA A s h H locs → cc + u.1 = h.1 → ss + u.2.1 = h.2.1 → lv_has ls 3 [(1, .int x1)] → W p l e (rm_X0_checks (u9.1 - u.1) (u9.2.1 - u.2.1)) s m args below meth c H locs cc ss QQ (F0 m 60 ls [.ref y0]) := by
    intro h x1 y0 cc ss H locs ls hm hw hcc hss hl
    have hmo := mo_X0_checks_60  h x1 y0 _ hm
    have sb_ : h.1 ≤ u9.1 := hmo.1
    have tb_ : h.2.1 ≤ u9.2.1 := hmo.2.1
    rw [m_X0_checks_60] at hm
    refine lv_dup hx hb dX0_checks_60 rfl ?_
    refine lv_iload_n hx hb dX0_checks_61 rfl (lv_at hl 0 rfl) ?_
    obtain ⟨h1, eh1, hm⟩ := bdE hm
    have lh1 := mo_X15_init eh1
    have ph1 : h.1 ≤ h1.1 := lh1.1
    have qh1 : h.2.1 ≤ h1.2.1 := lh1.2.1
    have hmo := mo_X0_checks_65   h1 y0 _ hm
    have sh1 : h1.1 ≤ u9.1 := hmo.1
    have th1 : h1.2.1 ≤ u9.2.1 := hmo.2.1
    refine cg_callv hw lh1 (va_runI (As := [.int x1]) (rest := [.ref y0]) ⟨hx, hb, hml, hown, hts⟩ (w_X15_init l htl eh1) (cw_X15_init hts q1444 ⟨Nat.le_of_ble_eq_true rfl, Nat.le_of_ble_eq_true rfl⟩) (cg_preS C hw _) rfl rfl hl.1 rfl (lv_room (Nat.le_of_ble_eq_true rfl)) dX0_checks_62 ⟨show cc + (h1.1 - h.1) ≤ u9.1 - u.1 by omega, show ss + (h1.2.1 - h.2.1) ≤ u9.2.1 - u.2.1 by omega⟩) (fun H locs hw => ?_)
    exact hB65 h1 y0 _ _ _ _ _ hm hw (by omega) (by omega) (lv_sub hl [] rfl)
  have hB44 : ∀ (h : CH) (x1 : Int32) (y0 : Int64) (cc ss : Nat) (H : Heap) (locs : List Loc) (ls : Array Slot), m_X0_checks_44 f h x1 y0 = some (r0, u9) → CW D dA A s h H locs → cc + u.1 = h.1 → ss + u.2.1 = h.2.1 → lv_has ls 3 [(1, .int x1)] → W p l e (rm_X0_checks (u9.1 - u.1) (u9.2.1 - u.2.1)) s m args below meth c H locs cc ss QQ (F0 m 44 ls [.long y0]) := by
    intro h x1 y0 cc ss H locs ls hm hw hcc hss hl
    have hmo := mo_X0_checks_44  h x1 y0 _ hm
    have sb_ : h.1 ≤ u9.1 := hmo.1
    have tb_ : h.2.1 ≤ u9.2.1 := hmo.2.1
    rw [m_X0_checks_44] at hm
    obtain ⟨r1, er1, hm⟩ := bdE hm
    refine scl (va_runS (As := [.long y0]) (rest := []) ⟨hx, hb, hml, hown, hts⟩ (w_J9_abs l er1) (cw_J9_abs hts q933 ⟨Nat.le_of_ble_eq_true rfl, Nat.le_of_ble_eq_true rfl⟩) (pre_s _) rfl rfl hl.1 rfl (lv_room (Nat.le_of_ble_eq_true rfl)) dX0_checks_44 ⟨show cc + 0 ≤ u9.1 - u.1 by omega, show ss + 0 ≤ u9.2.1 - u.2.1 by omega⟩) ?_
    refine lv_lconst (v := 1) hx hb dX0_checks_47 (by decide) ?_
    refine lv_ldc2 hx hb hown (hts _ q1435) dX0_checks_48 ?_
    obtain ⟨r2, er2, hm⟩ := bdE hm
    refine sci (va_runS (As := [.long r1, .long (1 : Int64), .long (60 : Int64)]) (rest := []) ⟨hx, hb, hml, hown, hts⟩ (w_X0_isIn l er2) (cw_X0_isIn hts q297 ⟨Nat.le_of_ble_eq_true rfl, Nat.le_of_ble_eq_true rfl⟩) (pre_s _) rfl rfl hl.1 rfl (lv_room (Nat.le_of_ble_eq_true rfl)) dX0_checks_51 ⟨show cc + 0 ≤ u9.1 - u.1 by omega, show ss + 0 ≤ u9.2.1 - u.2.1 by omega⟩) ?_
    refine lv_if_ne (tgt := 66) hx hb dX0_checks_54 (by decide) (fun c3 => ?_) (fun c3 => ?_)
    · have hm := ifT hm c3
      obtain ⟨er, eh⟩ := retE hm
      have ec : cc = u9.1 - u.1 := by rw [← eh]; omega
      have es : ss = u9.2.1 - u.2.1 := by rw [← eh]; omega
      rw [ec, es, ← hQ]
      refine vy_ret ?_
      exact W.vret hx hb hr (fun t ht hW => ⟨⟨h, rfl, ⟨er.symm, eh⟩, ⟨by rw [ht]; exact hw.1, by rw [ht]; exact hw.2.1⟩⟩, hw.2.2.1.F ht⟩) hw.2.2.1.2.2 dX0_checks_66
    · have hm := ifT' hm c3
      obtain ⟨h4, eh4, hm⟩ := nmE hm
      obtain ⟨_, _, hmq⟩ := nmE hm
      have hmo := mo_X0_checks_60   h4 x1 _ _ hmq
      have sh4 : h4.1 ≤ u9.1 := hmo.1
      have th4 : h4.2.1 ≤ u9.2.1 := hmo.2.1
      have zh4 := cn_sz eh4
      refine cg_new (C0 := C) hw (ci := 14) (fs := [.int 0, .null, .null, .null, .null, .null, .int 0]) rfl in_X15 tyX15 tyX15_ok q1393 q1436 q152 (fun j hj => by rcases (show j = 0 ∨ j = 1 ∨ j = 2 ∨ j = 3 ∨ j = 4 ∨ j = 5 ∨ j = 6 by omega) with rfl | rfl | rfl | rfl | rfl | rfl | rfl <;> rfl) (show cc + 1 ≤ u9.1 - u.1 by omega) (show ss + 7 ≤ u9.2.1 - u.2.1 by omega) dX0_checks_57 (fun H hw => ?_)
      rw [← eh4] at hw
      refine lv_topr (fun a5 ea5 => ?_)
      have hm := nmK hm ea5
      exact hB60 h4 x1 a5 _ _ _ _ _ hm hw (by omega) (by omega) (lv_sub hl [0] rfl)
  have hB40 : ∀ (h : CH) (x0 : Nat) (x1 : Int32) (cc ss : Nat) (H : Heap) (locs : List Loc) (ls : Array Slot), m_X0_checks_40 f h x0 x1 = some (r0, u9) → CW D dA A s h H locs → cc + u.1 = h.1 → ss + u.2.1 = h.2.1 → lv_has ls 3 [(0, .ref x0), (1, .int x1)] → W p l e (rm_X0_checks (u9.1 - u.1) (u9.2.1 - u.2.1)) s m args below meth c H locs cc ss QQ (F0 m 40 ls []) := by
    intro h x0 x1 cc ss H locs ls hm hw hcc hss hl
    have hmo := mo_X0_checks_40  h x0 x1 _ hm
    have sb_ : h.1 ≤ u9.1 := hmo.1
    have tb_ : h.2.1 ≤ u9.2.1 := hmo.2.1
    rw [m_X0_checks_40] at hm
    refine lv_aload_n hx hb dX0_checks_40 rfl (lv_at hl 0 rfl) ?_
    obtain ⟨g1, hm⟩ := gdE hm
    obtain ⟨r3, h2, er3, hm⟩ := bd2E hm
    have lh2 := mo_X2_determinant er3
    have ph2 : h.1 ≤ h2.1 := lh2.1
    have qh2 : h.2.1 ≤ h2.2.1 := lh2.2.1
    have hmo := mo_X0_checks_44   h2 x1 r3 _ hm
    have sh2 : h2.1 ≤ u9.1 := hmo.1
    have th2 : h2.2.1 ≤ u9.2.1 := hmo.2.1
    refine cg_calll hw lh2 (va_runV (As := []) (rest := []) ⟨hx, hb, hml, hown, hts⟩ (w_X2_determinant l er3) (cw_X2_determinant hts q1060 ⟨Nat.le_of_ble_eq_true rfl, Nat.le_of_ble_eq_true rfl⟩) (cg_preV C hw g1 rfl _) rfl rfl hl.1 rfl (lv_room (Nat.le_of_ble_eq_true rfl)) dX0_checks_41 ⟨show cc + (h2.1 - h.1) ≤ u9.1 - u.1 by omega, show ss + (h2.2.1 - h.2.1) ≤ u9.2.1 - u.2.1 by omega⟩) (fun H locs hw => ?_)
    exact hB44 h2 x1 r3 _ _ _ _ _ hm hw (by omega) (by omega) (lv_sub hl [1] rfl)
  have hB33 : ∀ (h : CH) (y0 : Nat) (cc ss : Nat) (H : Heap) (locs : List Loc) (ls : Array Slot), m_X0_checks_33 f h y0 = some (r0, u9) → CW D dA A s h H locs → cc + u.1 = h.1 → ss + u.2.1 = h.2.1 → lv_has ls 3 [] → W p l e (rm_X0_checks (u9.1 - u.1) (u9.2.1 - u.2.1)) s m args below meth c H locs cc ss QQ (F0 m 33 ls [.ref y0]) := by
    intro h y0 cc ss H locs ls hm hw hcc hss hl
    have hmo := mo_X0_checks_33  h y0 _ hm
    have sb_ : h.1 ≤ u9.1 := hmo.1
    have tb_ : h.2.1 ≤ u9.2.1 := hmo.2.1
    rw [m_X0_checks_33] at hm
    obtain ⟨g1, hm⟩ := gdE hm
    refine vy_athrow hx hb dX0_checks_33 ?_
    obtain ⟨er, eh⟩ := retE hm
    rw [← hQ]
    exact cx_out C hw g1 (by decide) rfl er eh (fun x hx => (htab x hx).elim) hlocks (by rw [← eh]; omega) (by rw [← eh]; omega)
  have hB28 : ∀ (h : CH) (x1 : Int32) (y0 : Nat) (cc ss : Nat) (H : Heap) (locs : List Loc) (ls : Array Slot), m_X0_checks_28 f h x1 y0 = some (r0, u9) → CW D dA A s h H locs → cc + u.1 = h.1 → ss + u.2.1 = h.2.1 → lv_has ls 3 [(1, .int x1)] → W p l e (rm_X0_checks (u9.1 - u.1) (u9.2.1 - u.2.1)) s m args below meth c H locs cc ss QQ (F0 m 28 ls [.ref y0]) := by
    intro h x1 y0 cc ss H locs ls hm hw hcc hss hl
    have hmo := mo_X0_checks_28  h x1 y0 _ hm
    have sb_ : h.1 ≤ u9.1 := hmo.1
    have tb_ : h.2.1 ≤ u9.2.1 := hmo.2.1
    rw [m_X0_checks_28] at hm
    refine lv_dup hx hb dX0_checks_28 rfl ?_
    refine lv_iload_n hx hb dX0_checks_29 rfl (lv_at hl 0 rfl) ?_
    obtain ⟨h1, eh1, hm⟩ := bdE hm
    have lh1 := mo_X14_init eh1
    have ph1 : h.1 ≤ h1.1 := lh1.1
    have qh1 : h.2.1 ≤ h1.2.1 := lh1.2.1
    have hmo := mo_X0_checks_33   h1 y0 _ hm
    have sh1 : h1.1 ≤ u9.1 := hmo.1
    have th1 : h1.2.1 ≤ u9.2.1 := hmo.2.1
    refine cg_callv hw lh1 (va_runI (As := [.int x1]) (rest := [.ref y0]) ⟨hx, hb, hml, hown, hts⟩ (w_X14_init l htl eh1) (cw_X14_init hts q1428 ⟨Nat.le_of_ble_eq_true rfl, Nat.le_of_ble_eq_true rfl⟩) (cg_preS C hw _) rfl rfl hl.1 rfl (lv_room (Nat.le_of_ble_eq_true rfl)) dX0_checks_30 ⟨show cc + (h1.1 - h.1) ≤ u9.1 - u.1 by omega, show ss + (h1.2.1 - h.2.1) ≤ u9.2.1 - u.2.1 by omega⟩) (fun H locs hw => ?_)
    exact hB33 h1 y0 _ _ _ _ _ hm hw (by omega) (by omega) (lv_sub hl [] rfl)
  have hB25 : ∀ (h : CH) (x1 : Int32) (cc ss : Nat) (H : Heap) (locs : List Loc) (ls : Array Slot), m_X0_checks_25 f h x1 = some (r0, u9) → CW D dA A s h H locs → cc + u.1 = h.1 → ss + u.2.1 = h.2.1 → lv_has ls 3 [(1, .int x1)] → W p l e (rm_X0_checks (u9.1 - u.1) (u9.2.1 - u.2.1)) s m args below meth c H locs cc ss QQ (F0 m 25 ls []) := by
    intro h x1 cc ss H locs ls hm hw hcc hss hl
    have hmo := mo_X0_checks_25  h x1 _ hm
    have sb_ : h.1 ≤ u9.1 := hmo.1
    have tb_ : h.2.1 ≤ u9.2.1 := hmo.2.1
    rw [m_X0_checks_25] at hm
    obtain ⟨h1, eh1, hm⟩ := nmE hm
    obtain ⟨_, _, hmq⟩ := nmE hm
    have hmo := mo_X0_checks_28   h1 x1 _ _ hmq
    have sh1 : h1.1 ≤ u9.1 := hmo.1
    have th1 : h1.2.1 ≤ u9.2.1 := hmo.2.1
    have zh1 := cn_sz eh1
    refine cg_new (C0 := C) hw (ci := 13) (fs := [.int 0, .null, .null, .null, .null, .null, .int 0]) rfl in_X14 tyX14 tyX14_ok q1392 q1420 q151 (fun j hj => by rcases (show j = 0 ∨ j = 1 ∨ j = 2 ∨ j = 3 ∨ j = 4 ∨ j = 5 ∨ j = 6 by omega) with rfl | rfl | rfl | rfl | rfl | rfl | rfl <;> rfl) (show cc + 1 ≤ u9.1 - u.1 by omega) (show ss + 7 ≤ u9.2.1 - u.2.1 by omega) dX0_checks_25 (fun H hw => ?_)
    rw [← eh1] at hw
    refine lv_topr (fun a2 ea2 => ?_)
    have hm := nmK hm ea2
    exact hB28 h1 x1 a2 _ _ _ _ _ hm hw (by omega) (by omega) (lv_sub hl [0] rfl)
  have hB2 : ∀ (n2 : Nat), ∀ (h : CH) (x0 : Nat) (x1 : Int32) (x2 : Int32) (cc ss : Nat) (H : Heap) (locs : List Loc) (ls : Array Slot), m_X0_checks_2 f n2 h x0 x1 x2 = some (r0, u9) → CW D dA A s h H locs → cc + u.1 = h.1 → ss + u.2.1 = h.2.1 → lv_has ls 3 [(0, .ref x0), (1, .int x1), (2, .int x2)] → W p l e (rm_X0_checks (u9.1 - u.1) (u9.2.1 - u.2.1)) s m args below meth c H locs cc ss QQ (F0 m 2 ls []) := by
    intro n2
    induction n2 with
    | zero => intro h x0 x1 x2 cc ss H locs ls hm hw hcc hss hl; rw [m_X0_checks_2] at hm; exact noE hm
    | succ n2 ih2 =>
      intro h x0 x1 x2 cc ss H locs ls hm hw hcc hss hl
      have hmo := mo_X0_checks_2  (n2 + 1) h x0 x1 x2 _ hm
      have sb_ : h.1 ≤ u9.1 := hmo.1
      have tb_ : h.2.1 ≤ u9.2.1 := hmo.2.1
      rw [m_X0_checks_2] at hm
      refine lv_iload_n hx hb dX0_checks_2 rfl (lv_at hl 2 rfl) ?_
      refine lv_iconst (v := 3) hx hb dX0_checks_3 (by decide) ?_
      refine lv_icmp_ge (tgt := 40) hx hb dX0_checks_4 (by decide) (fun c1 => ?_) (fun c1 => ?_)
      · have hm := ifT hm c1
        exact hB40 h x0 x1 _ _ _ _ _ hm hw (by omega) (by omega) (lv_sub hl [0, 1] rfl)
      · have hm := ifF hm c1
        refine lv_aload_n hx hb dX0_checks_7 rfl (lv_at hl 0 rfl) ?_
        obtain ⟨a2, ea2, hm⟩ := bdE hm
        refine cg_getN C hw (by decide) (oR_E ea2) rfl in_X2 (by decide) (hw.2.2.2.2.1 _ (List.mem_of_getElem? (i := 12) rfl)) dX0_checks_8 ?_
        refine lv_iload_n hx hb dX0_checks_11 rfl (lv_at hl 1 rfl) ?_
        obtain ⟨a3, ea3, hm⟩ := bdE hm
        refine cg_aaldA C hw (ty := .array .long) rfl rfl (aR_E ea3) dX0_checks_12 ?_
        refine lv_iload_n hx hb dX0_checks_13 rfl (lv_at hl 2 rfl) ?_
        obtain ⟨v4, ev4, hm⟩ := bdE hm
        refine cg_lald C hw ev4 dX0_checks_14 ?_
        obtain ⟨r5, er5, hm⟩ := bdE hm
        refine scl (va_runS (As := [.long v4]) (rest := []) ⟨hx, hb, hml, hown, hts⟩ (w_J9_abs l er5) (cw_J9_abs hts q933 ⟨Nat.le_of_ble_eq_true rfl, Nat.le_of_ble_eq_true rfl⟩) (pre_s _) rfl rfl hl.1 rfl (lv_room (Nat.le_of_ble_eq_true rfl)) dX0_checks_15 ⟨show cc + 0 ≤ u9.1 - u.1 by omega, show ss + 0 ≤ u9.2.1 - u.2.1 by omega⟩) ?_
        refine lv_ldc2 hx hb hown (hts _ q1419) dX0_checks_18 ?_
        refine lc_le (tgt := 34) hx hb dX0_checks_21 dX0_checks_22 (by decide) (fun c6 => ?_) (fun c6 => ?_)
        · have hm := ifT hm c6
          obtain ⟨v7, ev7, hm⟩ := nmE hm
          refine lv_iinc (v := v7) (lv' := [(2, .int v7), (0, .ref x0), (1, .int x1)]) hx hb dX0_checks_34 hl (k := 2) rfl (by rw [ev7]; rfl) (by decide) rfl (fun ls hl => ?_)
          refine lv_goto (tgt := 2) hx hb dX0_checks_37 (by decide) ?_
          exact ih2 h x0 x1 v7 _ _ _ _ _ hm hw (by omega) (by omega) (lv_sub hl [1, 2, 0] rfl)
        · have hm := ifF hm c6
          exact hB25 h x1 _ _ _ _ _ hm hw (by omega) (by omega) (lv_sub hl [1] rfl)
  rw [m_X0_checks] at hm
  refine lv_iconst (v := 0) hx hb dX0_checks_0 (by decide) ?_
  refine lv_istore_n (lv' := [(2, .int (0 : Int32)), (0, .ref x0), (1, .int x1)]) hx hb dX0_checks_1 rfl hl (by decide) rfl (fun ls hl => ?_)
  exact hB2 f u x0 x1 (0 : Int32) _ _ _ _ _ hm hw (by omega) (by omega) (lv_sub hl [1, 2, 0] rfl)
def m_X16_init (f : Nat) (u : CH) (x0 : Nat) (x1 : Int32) (x2 : Nat) : Option CH := bd (pF u 15 0 x0 (.int x1)) fun h1 =>
    bd (pF h1 15 1 x0 (.ref x2)) fun h2 =>
    some h2
theorem mo_X16_init {f : Nat} {u : CH} {x0 : Nat} {x1 : Int32} {x2 : Nat} {u9 : CH} (hm : m_X16_init f u x0 x1 x2 = some u9) : le2 u u9 := by
  rw [m_X16_init] at hm
  obtain ⟨h1, eh1, hm⟩ := bdE hm
  have lh1 := pF_le eh1
  obtain ⟨h2, eh2, hm⟩ := bdE hm
  have lh2 := pF_le eh2
  cases hm
  exact (lh1.tr (lh2.tr le2.rf))
abbrev rm_X16_init (mc ms : Nat) : Room := { frames := 1, cells := mc, slots := ms, locals := 20 }
theorem cw_X16_init {R : Room} {s : State} {args : Array Value} {own : String} {idx mc ms : Nat} (hts : ∀ w ∈ lw_all, w.before args s = true) (hl : Cond.methodLink own idx yX16_init ∈ lw_all) (hR : 1 + 1 ≤ R.frames ∧ 8 + (3 + 11) + 20 ≤ R.locals) : CallB R s args own idx yX16_init cX16_init 3 none (ws_ yX16_init cX16_init 3 (Option.none : Option Jvm.ClassFile.FieldType)) (rm_X16_init mc ms) mc ms 2 ∧ yX16_init.name = "<init>" ∧ (Cond.instanceMethod yX16_init).before args s = true := cwI 2 hts (lw_meth q1455) rfl rfl rfl (hts _ q153) (hts _ hl) (hts _ q1454) rfl (by decide +kernel) hR
set_option maxHeartbeats 4000000 in
set_option maxRecDepth 100000 in
theorem w_X16_init (l : Launch) {D : va_G} {dA : Nat → ClassId} {A : Nat → Prop} {f : Nat} {u u9 : CH} {x0 : Nat} {x1 : Int32} {x2 : Nat} (hm : m_X16_init f u x0 x1 x2 = some u9) : Met l yX16_init (ws_ yX16_init cX16_init 3 (Option.none : Option Jvm.ClassFile.FieldType)) (rm_X16_init (u9.1 - u.1) (u9.2.1 - u.2.1)) (va_Pc [.ref x0, .int x1, .ref x2] (CPre D dA A u)) (va_Qv (fun u => u = u9) (CPost D dA A) A) (u9.1 - u.1) (u9.2.1 - u.2.1) A := by
  refine Met.ofW (cc := cX16_init) (maxL := 3) (ret := (Option.none : Option Jvm.ClassFile.FieldType)) (by decide) rfl ?_
  intro p e s m args below meth c s₁ B hml hv
  have hx := B.exec
  have hb := B.bytes
  have hr := B.returns
  have hts := atoms_spec (ws := (ws_ yX16_init cX16_init 3 (Option.none : Option Jvm.ClassFile.FieldType))) B.pre
  have hts : ∀ w ∈ lw_all, w.before args s = true := fun w h => hts w (List.mem_cons_of_mem _ h)
  have hown : s.vm.findClass RX16 = some m.cls := findClass_of_methodNamed B.named
  have hlocks := B.notSynchronized
  have hin : meth.name = "<init>" := (name_of_methodNamed B.named B.method).1
  obtain ⟨hav, hv⟩ := hv
  have C : CX p s m args c cX16_init RX16 D dA := ⟨hx, hb, hown, hts, hv.2⟩
  have hw : CW D dA A s u s.heap [] := hv.1
  generalize hQ : MQ below (va_Qv (fun u => u = u9) (CPost D dA A) A) args s (u9.1 - u.1) (u9.2.1 - u.2.1) A = QQ
  have hent := lg_entry_eq m [.ref x0, .int x1, .ref x2] 3
  rw [← hav] at hent
  rw [hent]
  have hl := lv_entry ([.ref x0, .int x1, .ref x2]) (n := 3) (Nat.le_of_ble_eq_true rfl)
  generalize (lg_sl ([.ref x0, .int x1, .ref x2]) ++ List.replicate (3 - (lg_sl ([.ref x0, .int x1, .ref x2])).length) Slot.unset).toArray = ls at hl ⊢
  have hl : lv_has ls 3 [(0, .ref x0), (1, .int x1), (2, .ref x2)] := hl
  obtain ⟨cc, ecc⟩ : ∃ z : Nat, z = 0 := ⟨0, rfl⟩
  obtain ⟨ss, ess⟩ : ∃ z : Nat, z = 0 := ⟨0, rfl⟩
  have hcc : cc + u.1 = u.1 := by omega
  have hss : ss + u.2.1 = u.2.1 := by omega
  suffices hgo : W p l e (rm_X16_init (u9.1 - u.1) (u9.2.1 - u.2.1)) s m args below meth c s.heap [] cc ss QQ (F0 m 0 ls []) by rw [ecc, ess] at hgo; exact hgo
  have ⟨pu, qu, _, _⟩ := mo_X16_init hm
  rw [m_X16_init] at hm
  refine lv_aload_n hx hb dX16_init_0 rfl (lv_at hl 0 rfl) ?_
  refine W.objInit hx hb hown (hts _ q1456) (hts _ q161) (hts _ q162) rfl (by rw [hml]; exact hl.1) rfl dX16_init_1 (Nat.le_of_ble_eq_true rfl) (Nat.le_of_ble_eq_true rfl) ?_
  refine W.eq (g2 := F0 m 4 ls []) rfl ?_
  refine lv_aload_n hx hb dX16_init_4 rfl (lv_at hl 0 rfl) ?_
  refine lv_iload_n hx hb dX16_init_5 rfl (lv_at hl 1 rfl) ?_
  obtain ⟨h1, eh1, hm⟩ := bdE hm
  refine cg_putF C hw eh1 rfl in_X16 tyX16 tyX16_ok nmX16 (by decide) q1457 rfl hin rfl rfl rfl dX16_init_6 (fun H locs hw => ?_)
  have zh1 := pF_sz eh1
  refine lv_aload_n hx hb dX16_init_9 rfl (lv_at hl 0 rfl) ?_
  refine lv_aload_n hx hb dX16_init_10 rfl (lv_at hl 2 rfl) ?_
  obtain ⟨h2, eh2, hm⟩ := bdE hm
  refine cg_putF C hw eh2 rfl in_X16 tyX16 tyX16_ok nmX16 (by decide) q1459 rfl hin rfl rfl rfl dX16_init_11 (fun H locs hw => ?_)
  have zh2 := pF_sz eh2
  have eh := ret1 hm
  have ec : cc = u9.1 - u.1 := by rw [← eh]; omega
  have es : ss = u9.2.1 - u.2.1 := by rw [← eh]; omega
  rw [ec, es, ← hQ]
  exact W.vret hx hb hr (fun t ht hW => ⟨⟨h2, rfl, eh, ⟨by rw [ht]; exact hw.1, by rw [ht]; exact hw.2.1⟩⟩, hw.2.2.1.F ht⟩) hw.2.2.1.2.2 dX16_init_14
def m_J13_init_2_X17 (f : Nat) (u : CH) (x0 : Nat) (x1 : Nat) (x2 : Nat) : Option CH := bd (pF u 16 0 x0 (.ref x0)) fun h1 =>
    bd (pF h1 16 1 x0 (va_rf (sR h1 8))) fun h2 =>
    bd (pF h2 16 2 x0 (va_rf (sR h2 9))) fun h3 =>
    gd (flk h3 16 1 4 x0) <|
    bd (pF h3 16 3 x0 (.ref x1)) fun h5 =>
    bd (pF h5 16 0 x0 (.ref x2)) fun h6 =>
    some h6
theorem mo_J13_init_2_X17 {f : Nat} {u : CH} {x0 : Nat} {x1 : Nat} {x2 : Nat} {u9 : CH} (hm : m_J13_init_2_X17 f u x0 x1 x2 = some u9) : le2 u u9 := by
  rw [m_J13_init_2_X17] at hm
  obtain ⟨h1, eh1, hm⟩ := bdE hm
  have lh1 := pF_le eh1
  obtain ⟨h2, eh2, hm⟩ := bdE hm
  have lh2 := pF_le eh2
  obtain ⟨h3, eh3, hm⟩ := bdE hm
  have lh3 := pF_le eh3
  obtain ⟨g4, hm⟩ := gdE hm
  obtain ⟨h5, eh5, hm⟩ := bdE hm
  have lh5 := pF_le eh5
  obtain ⟨h6, eh6, hm⟩ := bdE hm
  have lh6 := pF_le eh6
  cases hm
  exact (lh1.tr (lh2.tr (lh3.tr (lh5.tr (lh6.tr le2.rf)))))
abbrev rm_J13_init_2_X17 (mc ms : Nat) : Room := { frames := 3, cells := mc, slots := ms, locals := 60 }
theorem cw_J13_init_2_X17 {R : Room} {s : State} {args : Array Value} {own : String} {idx mc ms : Nat} (hts : ∀ w ∈ lw_all, w.before args s = true) (hl : Cond.methodLink own idx yJ13_init_2 ∈ lw_all) (hR : 3 + 1 ≤ R.frames ∧ 8 + (3 + 11) + 60 ≤ R.locals) : CallB R s args own idx yJ13_init_2 cJ13_init_2 3 none (ws_ yJ13_init_2 cJ13_init_2 3 (Option.none : Option Jvm.ClassFile.FieldType)) (rm_J13_init_2_X17 mc ms) mc ms 2 ∧ yJ13_init_2.name = "<init>" ∧ (Cond.instanceMethod yJ13_init_2).before args s = true := cwI 2 hts (lw_meth q1484) rfl rfl rfl (hts _ q139) (hts _ hl) (hts _ q1483) rfl (by decide +kernel) hR
set_option maxHeartbeats 4000000 in
set_option maxRecDepth 100000 in
theorem w_J13_init_2_X17 (l : Launch) (htl : l.stackTraces = false) {D : va_G} {dA : Nat → ClassId} {A : Nat → Prop} {f : Nat} {u u9 : CH} {x0 : Nat} {x1 : Nat} {x2 : Nat} (hm : m_J13_init_2_X17 f u x0 x1 x2 = some u9) : Met l yJ13_init_2 (ws_ yJ13_init_2 cJ13_init_2 3 (Option.none : Option Jvm.ClassFile.FieldType)) (rm_J13_init_2_X17 (u9.1 - u.1) (u9.2.1 - u.2.1)) (va_Pc [.ref x0, .ref x1, .ref x2] (CPre D dA A u)) (va_Qv (fun u => u = u9) (CPost D dA A) A) (u9.1 - u.1) (u9.2.1 - u.2.1) A := by
  refine metOfWF (cc := cJ13_init_2) (maxL := 3) (ret := (Option.none : Option Jvm.ClassFile.FieldType)) (by decide +kernel) rfl ?_
  intro p e s m args below meth c s₁ B hml hv
  have hx := B.exec
  have hb := B.bytes
  have hr := B.returns
  have hts := atoms_spec (ws := (ws_ yJ13_init_2 cJ13_init_2 3 (Option.none : Option Jvm.ClassFile.FieldType))) B.pre
  have hts : ∀ w ∈ lw_all, w.before args s = true := fun w h => hts w (List.mem_cons_of_mem _ h)
  have hown : s.vm.findClass RJ13 = some m.cls := findClass_of_methodNamed B.named
  have hlocks := B.notSynchronized
  have hin : meth.name = "<init>" := (name_of_methodNamed B.named B.method).1
  obtain ⟨hav, hv⟩ := hv
  have C : CX p s m args c cJ13_init_2 RJ13 D dA := ⟨hx, hb, hown, hts, hv.2⟩
  have hw : CW D dA A s u s.heap [] := hv.1
  generalize hQ : MQ below (va_Qv (fun u => u = u9) (CPost D dA A) A) args s (u9.1 - u.1) (u9.2.1 - u.2.1) A = QQ
  have hent := lg_entry_eq m [.ref x0, .ref x1, .ref x2] 3
  rw [← hav] at hent
  rw [hent]
  have hl := lv_entry ([.ref x0, .ref x1, .ref x2]) (n := 3) (Nat.le_of_ble_eq_true rfl)
  generalize (lg_sl ([.ref x0, .ref x1, .ref x2]) ++ List.replicate (3 - (lg_sl ([.ref x0, .ref x1, .ref x2])).length) Slot.unset).toArray = ls at hl ⊢
  have hl : lv_has ls 3 [(0, .ref x0), (1, .ref x1), (2, .ref x2)] := hl
  obtain ⟨cc, ecc⟩ : ∃ z : Nat, z = 0 := ⟨0, rfl⟩
  obtain ⟨ss, ess⟩ : ∃ z : Nat, z = 0 := ⟨0, rfl⟩
  have hcc : cc + u.1 = u.1 := by omega
  have hss : ss + u.2.1 = u.2.1 := by omega
  suffices hgo : W p l e (rm_J13_init_2_X17 (u9.1 - u.1) (u9.2.1 - u.2.1)) s m args below meth c s.heap [] cc ss QQ (F0 m 0 ls []) by rw [ecc, ess] at hgo; exact hgo
  have ⟨pu, qu, _, _⟩ := mo_J13_init_2_X17 hm
  rw [m_J13_init_2_X17] at hm
  refine lv_aload_n hx hb dJ13_init_2_0 rfl (lv_at hl 0 rfl) ?_
  refine W.objInit hx hb hown (hts _ q609) (hts _ q161) (hts _ q162) rfl (by rw [hml]; exact hl.1) rfl dJ13_init_2_1 (Nat.le_of_ble_eq_true rfl) (Nat.le_of_ble_eq_true rfl) ?_
  refine W.eq (g2 := F0 m 4 ls []) rfl ?_
  refine lv_aload_n hx hb dJ13_init_2_4 rfl (lv_at hl 0 rfl) ?_
  refine lv_aload_n hx hb dJ13_init_2_5 rfl (lv_at hl 0 rfl) ?_
  obtain ⟨h1, eh1, hm⟩ := bdE hm
  refine cg_put C hw eh1 rfl in_X17 tyX17 tyX17_ok nmX17 (by decide) q640 rfl rfl rfl dJ13_init_2_6 (fun H locs hw => ?_)
  have zh1 := pF_sz eh1
  refine lv_aload_n hx hb dJ13_init_2_9 rfl (lv_at hl 0 rfl) ?_
  refine cg_getsQ C hw (i := 8) rfl q610 dJ13_init_2_10 ?_
  obtain ⟨h2, eh2, hm⟩ := bdE hm
  refine cg_put C hw eh2 rfl in_X17 tyX17 tyX17_ok nmX17 (by decide) q641 rfl (by cases (sR h1 8) <;> rfl) (by cases (sR h1 8) <;> rfl) dJ13_init_2_13 (fun H locs hw => ?_)
  have zh2 := pF_sz eh2
  refine lv_aload_n hx hb dJ13_init_2_16 rfl (lv_at hl 0 rfl) ?_
  refine cg_getsQ C hw (i := 9) rfl q612 dJ13_init_2_17 ?_
  obtain ⟨h3, eh3, hm⟩ := bdE hm
  refine cg_put C hw eh3 rfl in_X17 tyX17 tyX17_ok nmX17 (by decide) q642 rfl (by cases (sR h2 9) <;> rfl) (by cases (sR h2 9) <;> rfl) dJ13_init_2_20 (fun H locs hw => ?_)
  have zh3 := pF_sz eh3
  refine lv_aload_n hx hb dJ13_init_2_23 rfl (lv_at hl 0 rfl) ?_
  obtain ⟨g4, hm⟩ := gdE hm
  refine cg_fill htl C hw (hml.trans hl.1.symm) rfl in_X17 (by decide) (by decide) q1469 q619 (by decide) rfl (by decide) rfl g4 (Nat.le_of_ble_eq_true rfl) (Nat.le_of_ble_eq_true rfl) dJ13_init_2_24 ?_
  refine lv_pop hx hb dJ13_init_2_27 rfl ?_
  refine lv_aload_n hx hb dJ13_init_2_28 rfl (lv_at hl 0 rfl) ?_
  refine lv_aload_n hx hb dJ13_init_2_29 rfl (lv_at hl 1 rfl) ?_
  obtain ⟨h5, eh5, hm⟩ := bdE hm
  refine cg_put C hw eh5 rfl in_X17 tyX17 tyX17_ok nmX17 (by decide) q639 rfl rfl rfl dJ13_init_2_30 (fun H locs hw => ?_)
  have zh5 := pF_sz eh5
  refine lv_aload_n hx hb dJ13_init_2_33 rfl (lv_at hl 0 rfl) ?_
  refine lv_aload_n hx hb dJ13_init_2_34 rfl (lv_at hl 2 rfl) ?_
  obtain ⟨h6, eh6, hm⟩ := bdE hm
  refine cg_put C hw eh6 rfl in_X17 tyX17 tyX17_ok nmX17 (by decide) q640 rfl rfl rfl dJ13_init_2_35 (fun H locs hw => ?_)
  have zh6 := pF_sz eh6
  have eh := ret1 hm
  have ec : cc = u9.1 - u.1 := by rw [← eh]; omega
  have es : ss = u9.2.1 - u.2.1 := by rw [← eh]; omega
  rw [ec, es, ← hQ]
  exact W.vret hx hb hr (fun t ht hW => ⟨⟨h6, rfl, eh, ⟨by rw [ht]; exact hw.1, by rw [ht]; exact hw.2.1⟩⟩, hw.2.2.1.F ht⟩) hw.2.2.1.2.2 dJ13_init_2_38
