/-! the base of the walks: combinators of the mirrors, rows for longs' compares, calls of pure statics -/
set_option maxRecDepth 100000
abbrev gCl : List vw_C := [(RX3, TX3, 40), (RX0, TX0, 15), (RX1, TX1, 3), (RX2, TX2, 1), (RX4, TX4, 10), (RX5, TX5, 8), (RX6, TX6, 1), (RX7, TX7, 5), (RX8, TX8, 2), (RX9, TX9, 4), (RX10, TX10, 2), (RX11, TX11, 2), (RX13, TX13, 7), (RX14, TX14, 7), (RX15, TX15, 7), (RX16, TX16, 2), (RX17, TX17, 8), (RJ2, TJ2, 3), (RJ5, TJ5, 4), (RJ6, TJ6, 4)]
def gd {α : Type} (b : Bool) (x : Option α) : Option α := if b = true then x else none
theorem gdE {α : Type} {b : Bool} {x : Option α} {r : α} (h : gd b x = some r) : b = true ∧ x = some r := by
  unfold gd at h
  split at h
  · rename_i hb
    exact ⟨hb, h⟩
  · cases h
def bd {α β : Type} (o : Option α) (k : α → Option β) : Option β := match o with
  | none => none
  | some a => k a
theorem bdE {α β : Type} {o : Option α} {k : α → Option β} {r : β} (h : bd o k = some r) : ∃ a, o = some a ∧ k a = some r := by
  cases o with
  | none => cases h
  | some a => exact ⟨a, rfl, h⟩
def bd2 {α β γ : Type} (o : Option (α × β)) (k : α → β → Option γ) : Option γ := match o with
  | none => none
  | some a => k a.1 a.2
theorem bd2E {α β γ : Type} {o : Option (α × β)} {k : α → β → Option γ} {r : γ} (h : bd2 o k = some r) : ∃ a b, o = some (a, b) ∧ k a b = some r := by
  cases o with
  | none => cases h
  | some a => exact ⟨a.1, a.2, rfl, h⟩
def nmv {α β : Type} (e : α) (k : α → Option β) : Option β := k e
theorem nmK {α β : Type} {e : α} {k : α → Option β} {r : β} (h : nmv e k = some r) {v : α} (hv : v = e) : k v = some r := by
  rw [hv]; exact h
theorem nmE {α β : Type} {e : α} {k : α → Option β} {r : β} (h : nmv e k = some r) : ∃ v, v = e ∧ k v = some r := ⟨e, rfl, h⟩
theorem ifT {α : Type} {P : Prop} {d : Decidable P} {a b : Option α} {r : α} (h : @ite _ P d a b = some r) (c : P) : a = some r := by
  rw [if_pos c] at h; exact h
theorem ifF {α : Type} {P : Prop} {d : Decidable P} {a b : Option α} {r : α} (h : @ite _ P d a b = some r) (c : ¬ P) : b = some r := by
  rw [if_neg c] at h; exact h
theorem ifT' {α : Type} {P : Prop} {d : Decidable (¬ P)} {a b : Option α} {r : α} (h : @ite _ (¬ P) d a b = some r) (c : P) : b = some r := by
  rw [if_neg (fun h => h c)] at h; exact h
theorem retE {α β : Type} {a c : α} {b d : β} (h : some (a, b) = some (c, d)) : a = c ∧ b = d := by
  cases h; exact ⟨rfl, rfl⟩
theorem ret1 {α : Type} {a c : α} (h : some a = some c) : a = c := by
  cases h; rfl
theorem noE {α : Type} {r : α} {P : Prop} (h : (none : Option α) = some r) : P := by cases h
def ix (i : Int32) (n : Nat) : Bool := decide (¬ (i < 0 ∨ n ≤ i.toNatClampNeg))
theorem ix_in {i : Int32} {n : Nat} (h : ix i n = true) : vp_in i n := by
  unfold ix at h
  unfold vp_in
  exact of_decide_eq_true h
def nzI (y : Int32) : Bool := decide (¬ y = 0)
theorem nzI_ne {y : Int32} (h : nzI y = true) : ¬ y = 0 := of_decide_eq_true h
def nzL (y : Int64) : Bool := decide (¬ y = 0)
theorem nzL_ne {y : Int64} (h : nzL y = true) : ¬ y = 0 := of_decide_eq_true h
def zb (v : Int32) : Bool := decide (v = 0) || decide (v = 1)
theorem zb_nar {v : Int32} (h : zb v = true) : narrow .boolean (.int v) = .int v := by
  unfold zb at h
  rcases Bool.or_eq_true _ _ ▸ h with h | h
  · rw [of_decide_eq_true h]; rfl
  · rw [of_decide_eq_true h]; rfl
def rmI (x y : Int32) : Int32 := x - x / y * y
def rmL (x y : Int64) : Int64 := x - x / y * y
def ushI (x y : Int32) : Int32 := (x.toUInt32 >>> (y.toUInt32 &&& Int32.toUInt32 31)).toInt32
section BW
variable {p : Program} {l : Launch} {e : Env} {R : Room} {s : State} {m : MethodId} {args : Array Value} {below : List Frame} {meth : Method} {c : Code} {H : Heap} {locs : List Loc} {cells slots : Nat} {Q : State → Prop}
variable {cc : ByteArray} {pc : Nat} {ls : Array Slot} {rest : List Value}
theorem w_irem (hexec : p.tables.exec = Jvm.exec) (hb : c.code = cc) {x y : Int32} (hdg : decode cc pc = .ok (.irem, 1)) (hne : ¬ y = 0) (k : W p l e R s m args below meth c H locs cells slots Q (F0 m (pc + 1) ls (.int (rmI x y) :: rest))) : W p l e R s m args below meth c H locs cells slots Q (F0 m pc ls (.int y :: .int x :: rest)) := lv_irem hexec hb hdg hne k
theorem w_lrem (hexec : p.tables.exec = Jvm.exec) (hb : c.code = cc) {x y : Int64} (hdg : decode cc pc = .ok (.lrem, 1)) (hne : ¬ y = 0) (k : W p l e R s m args below meth c H locs cells slots Q (F0 m (pc + 1) ls (.long (rmL x y) :: rest))) : W p l e R s m args below meth c H locs cells slots Q (F0 m pc ls (.long y :: .long x :: rest)) := lv_lrem hexec hb hdg hne k
theorem lg_ltE (x y : Int64) : lg_cmp x y < 0 ↔ x < y := by
  unfold lg_cmp
  simp only [gt_iff_lt, Int64.lt_iff_toInt_lt, ← Int64.toInt_inj]
  split
  · constructor
    · intro h; exact absurd h (by decide)
    · intro h; omega
  · split
    · constructor
      · intro h; exact absurd h (by decide)
      · intro h; omega
    · constructor
      · intro h; omega
      · intro h; decide
theorem lg_eqE (x y : Int64) : lg_cmp x y = 0 ↔ x = y := by
  unfold lg_cmp
  simp only [gt_iff_lt, Int64.lt_iff_toInt_lt, ← Int64.toInt_inj]
  split
  · constructor
    · intro h; exact absurd h (by decide)
    · intro h; omega
  · split
    · constructor
      · intro h; assumption
      · intro h; rfl
    · constructor
      · intro h; exact absurd h (by decide)
      · intro h; omega
theorem lg_gtE (x y : Int64) : 0 < lg_cmp x y ↔ y < x := by
  unfold lg_cmp
  simp only [gt_iff_lt, Int64.lt_iff_toInt_lt, ← Int64.toInt_inj]
  split
  · constructor
    · intro h; assumption
    · intro h; decide
  · split
    · constructor
      · intro h; exact absurd h (by decide)
      · intro h; omega
    · constructor
      · intro h; exact absurd h (by decide)
      · intro h; omega
theorem lg_leE (x y : Int64) : lg_cmp x y ≤ 0 ↔ x ≤ y := by
  unfold lg_cmp
  simp only [gt_iff_lt, Int64.lt_iff_toInt_lt, Int64.le_iff_toInt_le, ← Int64.toInt_inj]
  split
  · constructor
    · intro h; exact absurd h (by decide)
    · intro h; omega
  · split
    · constructor
      · intro h; omega
      · intro h; decide
    · constructor
      · intro h; omega
      · intro h; decide
theorem lg_geE (x y : Int64) : 0 ≤ lg_cmp x y ↔ y ≤ x := lg_cmp_ge x y
theorem lc_eq (hexec : p.tables.exec = Jvm.exec) (hb : c.code = cc) {x y : Int64} {off : Int} {tgt : Nat} (hd0 : decode cc pc = .ok (.lcmp, 1)) (hdg : decode cc (pc + 1) = .ok (.ifCond .eq off, 3)) (ht : ((pc + 1 : Nat) : Int) + off = (tgt : Int)) (kt : x = y → W p l e R s m args below meth c H locs cells slots Q (F0 m tgt ls rest)) (kf : ¬ x = y → W p l e R s m args below meth c H locs cells slots Q (F0 m (pc + 1 + 3) ls rest)) : W p l e R s m args below meth c H locs cells slots Q (F0 m pc ls (.long y :: .long x :: rest)) :=
  W.lcmp hexec hb hd0 (lv_if_eq hexec hb hdg ht (fun h => kt ((lg_eqE x y).mp h)) (fun h => kf (fun g => h ((lg_eqE x y).mpr g))))
theorem lc_ne (hexec : p.tables.exec = Jvm.exec) (hb : c.code = cc) {x y : Int64} {off : Int} {tgt : Nat} (hd0 : decode cc pc = .ok (.lcmp, 1)) (hdg : decode cc (pc + 1) = .ok (.ifCond .ne off, 3)) (ht : ((pc + 1 : Nat) : Int) + off = (tgt : Int)) (kt : ¬ x = y → W p l e R s m args below meth c H locs cells slots Q (F0 m tgt ls rest)) (kf : x = y → W p l e R s m args below meth c H locs cells slots Q (F0 m (pc + 1 + 3) ls rest)) : W p l e R s m args below meth c H locs cells slots Q (F0 m pc ls (.long y :: .long x :: rest)) :=
  W.lcmp hexec hb hd0 (lv_if_ne hexec hb hdg ht (fun h => kt (fun g => h ((lg_eqE x y).mpr g))) (fun h => kf ((lg_eqE x y).mp h)))
theorem lc_lt (hexec : p.tables.exec = Jvm.exec) (hb : c.code = cc) {x y : Int64} {off : Int} {tgt : Nat} (hd0 : decode cc pc = .ok (.lcmp, 1)) (hdg : decode cc (pc + 1) = .ok (.ifCond .lt off, 3)) (ht : ((pc + 1 : Nat) : Int) + off = (tgt : Int)) (kt : x < y → W p l e R s m args below meth c H locs cells slots Q (F0 m tgt ls rest)) (kf : ¬ x < y → W p l e R s m args below meth c H locs cells slots Q (F0 m (pc + 1 + 3) ls rest)) : W p l e R s m args below meth c H locs cells slots Q (F0 m pc ls (.long y :: .long x :: rest)) :=
  W.lcmp hexec hb hd0 (lv_if_lt hexec hb hdg ht (fun h => kt ((lg_ltE x y).mp h)) (fun h => kf (fun g => h ((lg_ltE x y).mpr g))))
theorem lc_ge (hexec : p.tables.exec = Jvm.exec) (hb : c.code = cc) {x y : Int64} {off : Int} {tgt : Nat} (hd0 : decode cc pc = .ok (.lcmp, 1)) (hdg : decode cc (pc + 1) = .ok (.ifCond .ge off, 3)) (ht : ((pc + 1 : Nat) : Int) + off = (tgt : Int)) (kt : y ≤ x → W p l e R s m args below meth c H locs cells slots Q (F0 m tgt ls rest)) (kf : ¬ y ≤ x → W p l e R s m args below meth c H locs cells slots Q (F0 m (pc + 1 + 3) ls rest)) : W p l e R s m args below meth c H locs cells slots Q (F0 m pc ls (.long y :: .long x :: rest)) :=
  W.lcmp hexec hb hd0 (lv_if_ge hexec hb hdg ht (fun h => kt ((lg_geE x y).mp h)) (fun h => kf (fun g => h ((lg_geE x y).mpr g))))
theorem lc_gt (hexec : p.tables.exec = Jvm.exec) (hb : c.code = cc) {x y : Int64} {off : Int} {tgt : Nat} (hd0 : decode cc pc = .ok (.lcmp, 1)) (hdg : decode cc (pc + 1) = .ok (.ifCond .gt off, 3)) (ht : ((pc + 1 : Nat) : Int) + off = (tgt : Int)) (kt : y < x → W p l e R s m args below meth c H locs cells slots Q (F0 m tgt ls rest)) (kf : ¬ y < x → W p l e R s m args below meth c H locs cells slots Q (F0 m (pc + 1 + 3) ls rest)) : W p l e R s m args below meth c H locs cells slots Q (F0 m pc ls (.long y :: .long x :: rest)) :=
  W.lcmp hexec hb hd0 (lv_if_gt hexec hb hdg ht (fun h => kt ((lg_gtE x y).mp h)) (fun h => kf (fun g => h ((lg_gtE x y).mpr g))))
theorem lc_le (hexec : p.tables.exec = Jvm.exec) (hb : c.code = cc) {x y : Int64} {off : Int} {tgt : Nat} (hd0 : decode cc pc = .ok (.lcmp, 1)) (hdg : decode cc (pc + 1) = .ok (.ifCond .le off, 3)) (ht : ((pc + 1 : Nat) : Int) + off = (tgt : Int)) (kt : x ≤ y → W p l e R s m args below meth c H locs cells slots Q (F0 m tgt ls rest)) (kf : ¬ x ≤ y → W p l e R s m args below meth c H locs cells slots Q (F0 m (pc + 1 + 3) ls rest)) : W p l e R s m args below meth c H locs cells slots Q (F0 m pc ls (.long y :: .long x :: rest)) :=
  W.lcmp hexec hb hd0 (lv_if_le hexec hb hdg ht (fun h => kt ((lg_leE x y).mp h)) (fun h => kf (fun g => h ((lg_leE x y).mpr g))))
/-- a call of a pure static: nothing in the heap has changed -/
theorem sc_i {post : Int32 → Prop} {a : Array Value} {st0 : List Value} (hr : va_Run p l e R s m args below meth c H locs cells slots 0 0 (F0 m pc ls st0) rest (vp_Si post a) (fun _ => False))
    (kk : ∀ r : Int32, post r → W p l e R s m args below meth c H locs cells slots Q (F0 m (pc + 3) ls (.int r :: rest))) : W p l e R s m args below meth c H locs cells slots Q (F0 m pc ls st0) := by
  intro T hT X
  obtain ⟨v, st₀, t, T', L, h0, X', hL, e1, e2, ⟨r, hv, hp, hh⟩, st⟩ := hr T hT X
  cases hv
  obtain ⟨t2, a1, b1⟩ := kk r hp T' (by rw [e1, hh, h0]) (Stand.forget X' (fun q h => (hL q h).elim))
  exact ⟨t2, st t2 a1, b1⟩
theorem sc_l {post : Int64 → Prop} {a : Array Value} {st0 : List Value} (hr : va_Run p l e R s m args below meth c H locs cells slots 0 0 (F0 m pc ls st0) rest (vp_Sl post a) (fun _ => False))
    (kk : ∀ r : Int64, post r → W p l e R s m args below meth c H locs cells slots Q (F0 m (pc + 3) ls (.long r :: rest))) : W p l e R s m args below meth c H locs cells slots Q (F0 m pc ls st0) := by
  intro T hT X
  obtain ⟨v, st₀, t, T', L, h0, X', hL, e1, e2, ⟨r, hv, hp, hh⟩, st⟩ := hr T hT X
  cases hv
  obtain ⟨t2, a1, b1⟩ := kk r hp T' (by rw [e1, hh, h0]) (Stand.forget X' (fun q h => (hL q h).elim))
  exact ⟨t2, st t2 a1, b1⟩
end BW
section BW2
variable {p : Program} {l : Launch} {e : Env} {R : Room} {s : State} {m : MethodId} {args : Array Value} {below : List Frame} {meth : Method} {c : Code} {H : Heap} {locs : List Loc} {cells slots : Nat} {Q : State → Prop}
variable {cc : ByteArray} {pc : Nat} {ls : Array Slot} {rest : List Value}
theorem sci {r0 : Int32} {a : Array Value} {st0 : List Value} (hr : va_Run p l e R s m args below meth c H locs cells slots 0 0 (F0 m pc ls st0) rest (vp_Si (fun r => r = r0) a) (fun _ => False))
    (kk : W p l e R s m args below meth c H locs cells slots Q (F0 m (pc + 3) ls (.int r0 :: rest))) : W p l e R s m args below meth c H locs cells slots Q (F0 m pc ls st0) := sc_i hr (fun r h => by rw [h]; exact kk)
theorem scl {r0 : Int64} {a : Array Value} {st0 : List Value} (hr : va_Run p l e R s m args below meth c H locs cells slots 0 0 (F0 m pc ls st0) rest (vp_Sl (fun r => r = r0) a) (fun _ => False))
    (kk : W p l e R s m args below meth c H locs cells slots Q (F0 m (pc + 3) ls (.long r0 :: rest))) : W p l e R s m args below meth c H locs cells slots Q (F0 m pc ls st0) := sc_l hr (fun r h => by rw [h]; exact kk)
theorem pre_s {s : State} {H : Heap} (av : List Value) : PreS s H (va_Pc av (fun _ => True)) av := ⟨fun _ _ _ _ q => q, fun _ _ _ => ⟨rfl, trivial⟩⟩
end BW2
theorem i32_of_toInt {x : Int32} (k : Int) (h : x.toInt = k) : x = Int32.ofInt k := by
  rw [← h]; exact (Int32.ofInt_toInt x).symm
/-- a contract of a method whose class is not plain by name (the JDK's): by the method -/
theorem metOfWF {l : Launch} {y : MethodName} {ws ws' : List Cond} {rm : Room} {Pc : Array Value → State → Prop} {Qc : Array Value → State → Outcome → State → Prop} {mc ms : Nat} {free : Addr → Prop} {cc : ByteArray} {maxL : Nat} {ret : Option FieldType}
    (hy : plainFor y = true) (hw : ws = Cond.code y cc maxL ret :: ws')
    (body : ∀ p e s m args below meth c s₁, BodyLoose p l y (headSpec ws rm) cc maxL ret e s m args below meth c s₁ → c.maxLocals = maxL → Pc args s →
      W p l e (headSpec ws rm).room s m args below meth c s.heap [] 0 0 (MQ below Qc args s mc ms free) (entryFrame m args maxL)) : Met l y ws rm Pc Qc mc ms free := by
  refine MetFree.of_bodySF (code := cc) (maxLocals := maxL) (ret := ret) hy ?_ ?_
  · intro args s m h hn
    obtain ⟨meth, c, h1, h2, h3, h4, h5, h6, -, -⟩ := Cond.code_spec hn (atoms_spec (ws := ws) h _ (by rw [hw]; exact List.mem_cons_self))
    exact ⟨meth, c, h1, h2, h3, h4, h5, h6⟩
  · intro p e s m args below meth c s₁ B hml hP _
    have hh0 : s₁.heap = s.heap := by rw [B.state]; rfl
    obtain ⟨t, a1, o, b1, b2, b3⟩ := body p e s m args below meth c s₁ B hml hP s₁ hh0 (Stand.of_body B)
    exact ⟨t, o, a1, b1, b2, ⟨b3.1, b3.2⟩⟩
