/-! calls that may throw, over the component's world: the mirror says whether they do -/
set_option maxRecDepth 100000
def bx {α β : Type} (o : Option ((α ⊕ Nat) × CH)) (k : α → CH → Option β) (kx : Nat → CH → Option β) : Option β := match o with
  | some (.inl a, h) => k a h
  | some (.inr q, h) => kx q h
  | none => none
theorem bxE {α β : Type} {o : Option ((α ⊕ Nat) × CH)} {k : α → CH → Option β} {kx : Nat → CH → Option β} {r : β} (h : bx o k kx = some r) : (∃ a h1, o = some (.inl a, h1) ∧ k a h1 = some r) ∨ ∃ q h1, o = some (.inr q, h1) ∧ kx q h1 = some r := by
  unfold bx at h
  split at h
  · exact Or.inl ⟨_, _, rfl, h⟩
  · exact Or.inr ⟨_, _, rfl, h⟩
  · cases h
section CXC
variable {p : Program} {l : Launch} {e : Env} {R : Room} {s : State} {m : MethodId} {args : Array Value} {below : List Frame} {meth : Method} {c : Code} {H : Heap} {locs : List Loc} {cells slots : Nat} {Q : State → Prop}
variable {cc : ByteArray} {pc : Nat} {ls : Array Slot} {rest : List Value} {D : va_G} {dA : Nat → ClassId} {A : Nat → Prop} {h : CH} {own : String}
abbrev cxQi (D : va_G) (dA : Nat → ClassId) (A : Nat → Prop) (rr : Int32 ⊕ Nat) (u9 : CH) : Array Value → State → Outcome → State → Prop := va_Qi (fun r u => rr = .inl r ∧ u = u9) (CPost D dA A) A
abbrev cxQv (D : va_G) (dA : Nat → ClassId) (A : Nat → Prop) (rr : Unit ⊕ Nat) (u9 : CH) : Array Value → State → Outcome → State → Prop := va_Qv (fun u => rr = .inl () ∧ u = u9) (CPost D dA A) A
abbrev cxQr (D : va_G) (dA : Nat → ClassId) (A : Nat → Prop) (rr : Nat ⊕ Nat) (u9 : CH) : Array Value → State → Outcome → State → Prop := va_Qr (fun u => u = u9) (fun u r t => rr = .inl r ∧ CPost D dA A u t) A
abbrev cxX {α : Type} (D : va_G) (dA : Nat → ClassId) (A : Nat → Prop) (rr : α ⊕ Nat) (u9 : CH) : String → Addr → State → State → Prop := vy_X (fun u => u = u9) (fun _ q u t => rr = .inr q ∧ CPost D dA A u t) A
theorem cx_calli {r0 : Int32} {u1 : CH} {a : Array Value} {st0 : List Value} {mc ms : Nat} (w : CW D dA A s h H locs) (hle : le2 h u1) (hr : vy_Run p l e R s m args below meth c H locs cells slots mc ms (F0 m pc ls st0) rest (cxQi D dA A (.inl r0) u1 a) (cxX D dA A (.inl r0 : Int32 ⊕ Nat) u1) A)
    (kk : ∀ (H : Heap) (locs : List Loc), CW D dA A s u1 H locs → W p l e R s m args below meth c H locs (cells + mc) (slots + ms) Q (F0 m (pc + 3) ls (.int r0 :: rest))) : W p l e R s m args below meth c H locs cells slots Q (F0 m pc ls st0) := by
  intro T hT X
  rcases hr T hT X with ⟨v, st₀, t, T', L, h0, X', hL, e1, e2, ⟨⟨r, u, hv, hp, hb⟩, hF⟩, st⟩ | ⟨q, st₀, t, T', L, E, ce, h0, X', hL, e1, e2, ⟨u, hp, hb, hF⟩, hce, hcv, hcl, st⟩
  · cases hv
    obtain ⟨q1, q2⟩ := hp
    cases q1
    rw [q2] at hb
    obtain ⟨k1, k2, k3⟩ := vy_keep h0 e1 w.2.2.1 (fun q _ h => h) (fun q h => h) hL hF
    obtain ⟨t2, a1, b1⟩ := kk T'.heap (locs ++ L) (cg_back w hle e1.symm hb k3) T' rfl X'
    exact ⟨t2, st t2 a1, b1⟩
  · cases hb.1
theorem cx_callv {u1 : CH} {a : Array Value} {st0 : List Value} {mc ms : Nat} (w : CW D dA A s h H locs) (hle : le2 h u1) (hr : vy_Run p l e R s m args below meth c H locs cells slots mc ms (F0 m pc ls st0) rest (cxQv D dA A (.inl ()) u1 a) (cxX D dA A (.inl () : Unit ⊕ Nat) u1) A)
    (kk : ∀ (H : Heap) (locs : List Loc), CW D dA A s u1 H locs → W p l e R s m args below meth c H locs (cells + mc) (slots + ms) Q (F0 m (pc + 3) ls rest)) : W p l e R s m args below meth c H locs cells slots Q (F0 m pc ls st0) := by
  intro T hT X
  rcases hr T hT X with ⟨v, st₀, t, T', L, h0, X', hL, e1, e2, ⟨⟨u, hv, hp, hb⟩, hF⟩, st⟩ | ⟨q, st₀, t, T', L, E, ce, h0, X', hL, e1, e2, ⟨u, hp, hb, hF⟩, hce, hcv, hcl, st⟩
  · cases hv
    rw [hp.2] at hb
    obtain ⟨k1, k2, k3⟩ := vy_keep h0 e1 w.2.2.1 (fun q _ h => h) (fun q h => h) hL hF
    obtain ⟨t2, a1, b1⟩ := kk T'.heap (locs ++ L) (cg_back w hle e1.symm hb k3) T' rfl X'
    exact ⟨t2, st t2 a1, b1⟩
  · cases hb.1
theorem cx_callr {r0 : Nat} {u1 : CH} {a : Array Value} {st0 : List Value} {mc ms : Nat} (w : CW D dA A s h H locs) (hle : le2 h u1) (hr : vy_Run p l e R s m args below meth c H locs cells slots mc ms (F0 m pc ls st0) rest (cxQr D dA A (.inl r0) u1 a) (cxX D dA A (.inl r0 : Nat ⊕ Nat) u1) A)
    (kk : ∀ (H : Heap) (locs : List Loc), CW D dA A s u1 H locs → W p l e R s m args below meth c H locs (cells + mc) (slots + ms) Q (F0 m (pc + 3) ls (.ref r0 :: rest))) : W p l e R s m args below meth c H locs cells slots Q (F0 m pc ls st0) := by
  intro T hT X
  rcases hr T hT X with ⟨v, st₀, t, T', L, h0, X', hL, e1, e2, ⟨⟨u, r, hv, hp, hb⟩, hF⟩, st⟩ | ⟨q, st₀, t, T', L, E, ce, h0, X', hL, e1, e2, ⟨u, hp, hb, hF⟩, hce, hcv, hcl, st⟩
  · cases hv
    obtain ⟨q1, hb⟩ := hb
    cases q1
    rw [hp] at hb
    obtain ⟨k1, k2, k3⟩ := vy_keep h0 e1 w.2.2.1 (fun q _ h => h) (fun q h => h) hL hF
    obtain ⟨t2, a1, b1⟩ := kk T'.heap (locs ++ L) (cg_back w hle e1.symm hb k3) T' rfl X'
    exact ⟨t2, st t2 a1, b1⟩
  · cases hb.1
/-- the call throws -/
theorem cx_callX {α : Type} {q0 : Nat} {u1 : CH} {Qa : State → Outcome → State → Prop} {st0 : List Value} {mc ms : Nat} (w : CW D dA A s h H locs) (hle : le2 h u1) (hno : ∀ st v t, ¬ Qa st (.returned v) t) (hr : vy_Run p l e R s m args below meth c H locs cells slots mc ms (F0 m pc ls st0) rest Qa (cxX D dA A (.inr q0 : α ⊕ Nat) u1) A)
    (kk : ∀ (H : Heap) (locs : List Loc), CW D dA A s u1 H locs → vy_W p l e R s m args below meth c H locs (cells + mc) (slots + ms) Q (F0 m pc ls rest) q0) : W p l e R s m args below meth c H locs cells slots Q (F0 m pc ls st0) := by
  intro T hT X
  rcases hr T hT X with ⟨v, st₀, t, T', L, h0, X', hL, e1, e2, hq, st⟩ | ⟨q, st₀, t, T', L, E, ce, h0, X', hL, e1, e2, ⟨u, hp, hb, hF⟩, hce, hcv, hcl, st⟩
  · exact absurd hq (hno _ _ _)
  · obtain ⟨q1, hb⟩ := hb
    cases q1
    rw [hp] at hb
    obtain ⟨k1, k2, k3⟩ := vy_keep h0 e1 w.2.2.1 (fun q _ h => h) (fun q h => h) hL hF
    obtain ⟨t2, a1, b1⟩ := kk T'.heap (locs ++ L) (cg_back w hle e1.symm hb k3) T' rfl X'
    exact ⟨t2, st.trans a1, b1⟩
theorem noQi {q0 : Nat} {u1 : CH} {a : Array Value} : ∀ st v t, ¬ cxQi D dA A (.inr q0) u1 a st (.returned v) t := fun st v t hq => by
  obtain ⟨⟨r, u, -, hp, -⟩, -⟩ := hq
  cases hp.1
theorem noQv {q0 : Nat} {u1 : CH} {a : Array Value} : ∀ st v t, ¬ cxQv D dA A (.inr q0) u1 a st (.returned v) t := fun st v t hq => by
  obtain ⟨⟨u, -, hp, -⟩, -⟩ := hq
  cases hp.1
theorem noQr {q0 : Nat} {u1 : CH} {a : Array Value} : ∀ st v t, ¬ cxQr D dA A (.inr q0) u1 a st (.returned v) t := fun st v t hq => by
  obtain ⟨⟨u, r, -, -, hb⟩, -⟩ := hq
  cases hb.1
/-- an object of the world, as one that is thrown -/
theorem cx_obj (C : CX p s m args c cc own D dA) (w : CW D dA A s h H locs) {a ci : Nat} {q : vw_C} (hi : isC h a ci = true) (hne : ci ≠ 19) (hc : gCl[ci]? = some q) : ∃ ce : Cell, H[a]? = some ce ∧ ce.vm = .none ∧ s.vm.findClass q.1 = some ce.cls := by
  unfold isC at hi
  split at hi
  · rename_i c' fs he
    have : c' = ci := by simpa using hi
    subst this
    obtain ⟨r, g1, cell, q1, q2, q3, -⟩ := w.one he 0 _ rfl
    exact ⟨cell, q1, q3, by rw [q2]; exact (C.2.2.2.2.1 c' q hc).2.1⟩
  · split at hi
    · exact absurd (by simpa using hi) hne
    · cases hi
  · cases hi
/-- it leaves the method -/
theorem cx_out {α : Type} {rr : α ⊕ Nat} {u9 : CH} {Qc : Array Value → State → Outcome → State → Prop} {q0 ci mc ms : Nat} {r : vw_C} (C : CX p s m args c cc own D dA) (w : CW D dA A s h H locs) (hi : isC h q0 ci = true) (hne : ci ≠ 19) (hc : gCl[ci]? = some r) (er : .inr q0 = rr) (eh : h = u9) (hout : ∀ x ∈ c.exceptionTable.toList, covers x pc = false) (hlocks : meth.locks = false) (hcc : cells ≤ mc) (hss : slots ≤ ms) :
    vy_W p l e R s m args below meth c H locs cells slots (vy_MQ below Qc (cxX D dA A rr u9) args s mc ms A) (F0 m pc ls rest) q0 := by
  obtain ⟨ce, h1, h2, h3⟩ := cx_obj C w hi hne hc
  exact vy_out hout hlocks h1 h2 h3 (fun t ht _ => ⟨h, eh, ⟨er.symm, by rw [ht]; exact w.1, by rw [ht]; exact w.2.1⟩, w.2.2.1.F ht⟩) w.2.2.1.2.2 hcc hss
/-- it is caught by the table's row x -/
theorem cx_catch {q0 ci : Nat} {r : vw_C} {name : String} (C : CX p s m args c cc own D dA) (w : CW D dA A s h H locs) (hi : isC h q0 ci = true) (hne : ci ≠ 19) (hc : gCl[ci]? = some r) (pre : List ExceptionTableEntry) (x : ExceptionTableEntry) (suf : List ExceptionTableEntry) (hsplit : c.exceptionTable.toList = pre ++ x :: suf)
    (hpass : ∀ z ∈ pre, covers z pc = false ∨ (z.catchType ≠ 0 ∧ ∃ nm : String, (Cond.classLink own z.catchType nm).before args s = true ∧ va_Nc r.1 nm s)) (hx : covers x pc = true) (h0 : x.catchType ≠ 0)
    (hlink : Cond.classLink own x.catchType name ∈ lw_all) (hcast : va_Nw (Cond.castable r.1 name) s)
    (kk : W p l e R s m args below meth c H locs cells slots Q (F0 m x.handlerPc ls [.ref q0])) : vy_W p l e R s m args below meth c H locs cells slots Q (F0 m pc ls rest) q0 := by
  obtain ⟨ce, h1, h2, h3⟩ := cx_obj C w hi hne hc
  exact vy_catch C.2.2.1 pre x suf hsplit hpass hx h0 (C.2.2.2.1 _ hlink) (va_Nw.use rfl hcast) h1 h2 h3 kk
end CXC
