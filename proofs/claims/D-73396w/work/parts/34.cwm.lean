/-! statics, texts, casts, compares of references, calls by the object's class -/
set_option maxRecDepth 100000
def sR (h : CH) (i : Nat) : Option Nat := h.2.2.2.2.2 i
def cntok (n : Int32) : Bool := decide (¬ n < 0) && decide (n.toNatClampNeg ≤ 1000000)
theorem cntok_nn {n : Int32} (h : cntok n = true) : ¬ n < 0 := of_decide_eq_true (Bool.and_eq_true _ _ ▸ h).1
theorem cntok_le {n : Int32} (h : cntok n = true) : n.toNatClampNeg ≤ 1000000 := of_decide_eq_true (Bool.and_eq_true _ _ ▸ h).2
/-- a byte -/
def bb (v : Int32) : Bool := decide (v.toInt8.toInt32 = v)
theorem bb_nar {v : Int32} (h : bb v = true) : narrow .byte (.int v) = .int v := by
  have h2 : v.toInt8.toInt32 = v := of_decide_eq_true h
  show Value.int v.toInt8.toInt32 = .int v
  rw [h2]
theorem bb_fit {v : Int32} (h : bb v = true) : fits .byte (.int v) = true := by
  have h2 : v.toInt8.toInt32 = v := of_decide_eq_true h
  rw [← h2]
  exact pk_fb v
theorem zb_fit {v : Int32} (h : zb v = true) : fits .boolean (.int v) = true := by
  unfold zb at h
  rcases Bool.or_eq_true _ _ ▸ h with h | h
  · rw [of_decide_eq_true h]; rfl
  · rw [of_decide_eq_true h]; rfl
/-- a char -/
def cb (v : Int32) : Bool := decide ((v.toUInt32 % 65536).toInt32 = v)
theorem cb_nar {v : Int32} (h : cb v = true) : narrow .char (.int v) = .int v := by
  have h2 : (v.toUInt32 % 65536).toInt32 = v := of_decide_eq_true h
  rw [← h2]
  exact pk_nc v
theorem lwU {own : String} {idx : Nat} {C owner : String} {x y : MethodName} {b : ByteArray} {L : Nat} {r : Option FieldType} (h1 : Cond.methodLink own idx x ∈ lw_all) (h2 : Cond.sameMethod x.cls owner x.name x.desc ∈ lw_all) (h3 : Cond.selects C x y ∈ lw_all) (h4 : Cond.instanceMethod y ∈ lw_all) (h5 : Cond.initialized y.cls ∈ lw_all) (h6 : Cond.code y b L r ∈ lw_all) : GoodIn lw_all (va_wsU own idx C owner x y (ws_ y b L r)) := by
  refine lw_app ?_ (lw_meth h6)
  intro w hw
  simp only [List.mem_cons, List.not_mem_nil, or_false] at hw
  rcases hw with e | e | e | e | e
  · rw [e]; exact h1
  · rw [e]; exact h2
  · rw [e]; exact h3
  · rw [e]; exact h4
  · rw [e]; exact h5
theorem lwO {own : String} {idx : Nat} {C owner : String} {x y : MethodName} {b : ByteArray} {L : Nat} {r : Option FieldType} (h1 : Cond.methodLink own idx x ∈ lw_all) (h2 : Cond.sameMethod x.cls owner x.name x.desc ∈ lw_all) (h0 : Cond.instanceMethod ⟨owner, x.name, x.desc⟩ ∈ lw_all) (h3 : Cond.selects C x y ∈ lw_all) (h4 : Cond.instanceMethod y ∈ lw_all) (h5 : Cond.initialized y.cls ∈ lw_all) (h6 : Cond.code y b L r ∈ lw_all) : GoodIn lw_all (va_wsO own idx C owner x y (ws_ y b L r)) := by
  refine lw_app ?_ (lw_meth h6)
  intro w hw
  simp only [List.mem_cons, List.not_mem_nil, or_false] at hw
  rcases hw with e | e | e | e | e | e
  · rw [e]; exact h1
  · rw [e]; exact h2
  · rw [e]; exact h0
  · rw [e]; exact h3
  · rw [e]; exact h4
  · rw [e]; exact h5
section CWM
variable {p : Program} {l : Launch} {e : Env} {R : Room} {s : State} {m : MethodId} {args : Array Value} {below : List Frame} {meth : Method} {c : Code} {H : Heap} {locs : List Loc} {cells slots : Nat} {Q : State → Prop}
variable {cc : ByteArray} {pc : Nat} {ls : Array Slot} {rest : List Value} {D : va_G} {dA : Nat → ClassId} {A : Nat → Prop} {h : CH} {own : String}
theorem cg_gets (C : CX p s m args c cc own D dA) (w : CW D dA A s h H locs) {i a : Nat} (e1 : sR h i = some a) {q : String × String × String} (hq : stS[i]? = some q) {index : Nat} (hl : Cond.fieldLink own index q.1 q.2.1 q.2.2 ∈ lw_all) (hdg : decode cc pc = .ok (.getstatic index, 3))
    (kk : W p l e R s m args below meth c H locs cells slots Q (F0 m (pc + 3) ls (.ref a :: rest))) : W p l e R s m args below meth c H locs cells slots Q (F0 m pc ls rest) := by
  have h1 := w.2.2.2.2.2.2.1 i q hq
  rw [show h.2.2.2.2.2 i = some a from e1] at h1
  exact va_gets C.1 C.2.1 h1 w.2.2.1 C.2.2.1 (C.2.2.2.1 _ hl) (fun _ h9 => h9) hdg kk
theorem cg_getsQ (C : CX p s m args c cc own D dA) (w : CW D dA A s h H locs) {i : Nat} {q : String × String × String} (hq : stS[i]? = some q) {index : Nat} (hl : Cond.fieldLink own index q.1 q.2.1 q.2.2 ∈ lw_all) (hdg : decode cc pc = .ok (.getstatic index, 3))
    (kk : W p l e R s m args below meth c H locs cells slots Q (F0 m (pc + 3) ls (va_rf (sR h i) :: rest))) : W p l e R s m args below meth c H locs cells slots Q (F0 m pc ls rest) :=
  va_gets C.1 C.2.1 (w.2.2.2.2.2.2.1 i q hq) w.2.2.1 C.2.2.1 (C.2.2.2.1 _ hl) (fun _ h9 => h9) hdg kk
theorem cg_getsI (C : CX p s m args c cc own D dA) (w : CW D dA A s h H locs) {i : Nat} {q : String × String × String × Int32} (hq : siS[i]? = some q) {index : Nat} (hl : Cond.fieldLink own index q.1 q.2.1 q.2.2.1 ∈ lw_all) (hdg : decode cc pc = .ok (.getstatic index, 3))
    (kk : W p l e R s m args below meth c H locs cells slots Q (F0 m (pc + 3) ls (.int q.2.2.2 :: rest))) : W p l e R s m args below meth c H locs cells slots Q (F0 m pc ls rest) :=
  va_gets C.1 C.2.1 (w.2.2.2.2.2.2.2.1 i q hq) w.2.2.1 C.2.2.1 (C.2.2.2.1 _ hl) (fun _ h9 => h9) hdg kk
theorem cg_ldcs (C : CX p s m args c cc own D dA) (w : CW D dA A s h H locs) {i a index : Nat} {tx : String} (e1 : sR h (20 + i) = some a) (hq : strS[i]? = some (own, index, tx)) (hdg : decode cc pc = .ok (.ldc index, 2))
    (kk : W p l e R s m args below meth c H locs cells slots Q (F0 m (pc + 2) ls (.ref a :: rest))) : W p l e R s m args below meth c H locs cells slots Q (F0 m pc ls rest) := by
  obtain ⟨a', h1, h2⟩ := w.2.2.2.2.2.2.2.2.1 i _ hq
  have h3 : a' = a := Option.some.inj (h1.symm.trans e1)
  subst h3
  exact va_ldcS C.1 C.2.1 C.2.2.1 h2 hdg kk
theorem cg_castS (C : CX p s m args c cc own D dA) (w : CW D dA A s h H locs) {a ci : Nat} {q : vw_C} (hi : isC h a ci = true) (hc : gCl[ci]? = some q) {index : Nat} (hl : Cond.classLink own index q.1 ∈ lw_all) (hdg : decode cc pc = .ok (.checkcast index, 3))
    (kk : W p l e R s m args below meth c H locs cells slots Q (F0 m (pc + 3) ls (.ref a :: rest))) : W p l e R s m args below meth c H locs cells slots Q (F0 m pc ls (.ref a :: rest)) :=
  va_castS C.1 C.2.1 C.2.2.1 (C.2.2.2.1 _ hl) (C.2.2.2.2.1 ci q hc).2 (cg_rcv C w hi hc) hdg kk
theorem cg_castY (C : CX p s m args c cc own D dA) (w : CW D dA A s h H locs) {a ci : Nat} {q : vw_C} {nm : String} (hi : isC h a ci = true) (hc : gCl[ci]? = some q) {index : Nat} (hl : Cond.classLink own index nm ∈ lw_all) (hca : va_Nw (.castable q.1 nm) s) (hdg : decode cc pc = .ok (.checkcast index, 3))
    (kk : W p l e R s m args below meth c H locs cells slots Q (F0 m (pc + 3) ls (.ref a :: rest))) : W p l e R s m args below meth c H locs cells slots Q (F0 m pc ls (.ref a :: rest)) :=
  va_castY C.1 C.2.1 C.2.2.1 (C.2.2.2.1 _ hl) hca (cg_rcv C w hi hc) hdg kk
theorem cg_instS (C : CX p s m args c cc own D dA) (w : CW D dA A s h H locs) {a ci : Nat} {q : vw_C} (hi : isC h a ci = true) (hc : gCl[ci]? = some q) {index : Nat} (hl : Cond.classLink own index q.1 ∈ lw_all) (hdg : decode cc pc = .ok (.instanceof index, 3))
    (kk : W p l e R s m args below meth c H locs cells slots Q (F0 m (pc + 3) ls (.int 1 :: rest))) : W p l e R s m args below meth c H locs cells slots Q (F0 m pc ls (.ref a :: rest)) :=
  va_instS C.1 C.2.1 C.2.2.1 (C.2.2.2.1 _ hl) (C.2.2.2.2.1 ci q hc).2 (cg_rcv C w hi hc) hdg kk
theorem cg_instY (C : CX p s m args c cc own D dA) (w : CW D dA A s h H locs) {a ci : Nat} {q : vw_C} {nm : String} (hi : isC h a ci = true) (hc : gCl[ci]? = some q) {index : Nat} (hl : Cond.classLink own index nm ∈ lw_all) (hca : va_Nw (.castable q.1 nm) s) (hdg : decode cc pc = .ok (.instanceof index, 3))
    (kk : W p l e R s m args below meth c H locs cells slots Q (F0 m (pc + 3) ls (.int 1 :: rest))) : W p l e R s m args below meth c H locs cells slots Q (F0 m pc ls (.ref a :: rest)) :=
  va_instY C.1 C.2.1 C.2.2.1 (C.2.2.2.1 _ hl) hca (cg_rcv C w hi hc) hdg kk
theorem cg_acmp_eq (hexec : p.tables.exec = Jvm.exec) (hb : c.code = cc) {x y : Nat} {off : Int} {tgt : Nat} (hdg : decode cc pc = .ok (.if_acmp .eq off, 3)) (ht : (pc : Int) + off = (tgt : Int)) (kt : x = y → W p l e R s m args below meth c H locs cells slots Q (F0 m tgt ls rest)) (kf : ¬ x = y → W p l e R s m args below meth c H locs cells slots Q (F0 m (pc + 3) ls rest)) : W p l e R s m args below meth c H locs cells slots Q (F0 m pc ls (.ref y :: .ref x :: rest)) :=
  lv_acmp_eq (rx := some x) (ry := some y) hexec hb hdg ht (fun h => kt (Option.some.inj h)) (fun h => kf (fun g => h (by rw [g])))
theorem cg_acmp_ne (hexec : p.tables.exec = Jvm.exec) (hb : c.code = cc) {x y : Nat} {off : Int} {tgt : Nat} (hdg : decode cc pc = .ok (.if_acmp .ne off, 3)) (ht : (pc : Int) + off = (tgt : Int)) (kt : ¬ x = y → W p l e R s m args below meth c H locs cells slots Q (F0 m tgt ls rest)) (kf : x = y → W p l e R s m args below meth c H locs cells slots Q (F0 m (pc + 3) ls rest)) : W p l e R s m args below meth c H locs cells slots Q (F0 m pc ls (.ref y :: .ref x :: rest)) :=
  lv_acmp_ne (rx := some x) (ry := some y) hexec hb hdg ht (fun h => kt (fun g => h (by rw [g]))) (fun h => kf (Option.some.inj h))
end CWM
