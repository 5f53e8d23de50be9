/-! calls over the component's world -/
set_option maxRecDepth 100000
def le2 (h h' : CH) : Prop := h.1 ≤ h'.1 ∧ h.2.1 ≤ h'.2.1 ∧ h'.2.2.1 = h.2.2.1 ∧ h'.2.2.2.2 = h.2.2.2.2
theorem le2.rf {h : CH} : le2 h h := ⟨Nat.le_refl _, Nat.le_refl _, rfl, rfl⟩
theorem le2.tr {a b c : CH} (h1 : le2 a b) (h2 : le2 b c) : le2 a c := ⟨Nat.le_trans h1.1 h2.1, Nat.le_trans h1.2.1 h2.2.1, h2.2.2.1.trans h1.2.2.1, h2.2.2.2.trans h1.2.2.2⟩
theorem cn_le {h h' : CH} {k : Nat} {e : AC} (q : h' = cn h k e) : le2 h h' := by subst q; exact ⟨Nat.le_succ _, Nat.le_add_right _ _, rfl, rfl⟩
theorem cn_sz {h h' : CH} {k : Nat} {e : AC} (q : h' = cn h k e) : h'.1 = h.1 + 1 ∧ h'.2.1 = h.2.1 + k := by subst q; exact ⟨rfl, rfl⟩
theorem cM_le {h h' : CH} {t : Nat} {e : AC} (q : h' = cM h t e) : le2 h h' := by subst q; exact ⟨Nat.le_add_right _ 4, Nat.le_add_right _ 12, rfl, rfl⟩
theorem cM_sz {h h' : CH} {t : Nat} {e : AC} (q : h' = cM h t e) : h'.1 = h.1 + 4 ∧ h'.2.1 = h.2.1 + 12 := by subst q; exact ⟨rfl, rfl⟩
theorem pF_le {h h' : CH} {ci k a : Nat} {v : Value} (e : pF h ci k a v = some h') : le2 h h' := by
  obtain ⟨fs, -, -, -, rfl⟩ := pF_E e; exact le2.rf
theorem pF_sz {h h' : CH} {ci k a : Nat} {v : Value} (e : pF h ci k a v = some h') : h'.1 = h.1 ∧ h'.2.1 = h.2.1 := by
  obtain ⟨fs, -, -, -, rfl⟩ := pF_E e; exact ⟨rfl, rfl⟩
theorem uI_le {h h' : CH} {t a : Nat} {i x : Int32} (e : uI h t a i x = some h') : le2 h h' := by
  obtain ⟨n, f, -, -, -, rfl⟩ := uI_E e; exact le2.rf
theorem uI_sz {h h' : CH} {t a : Nat} {i x : Int32} (e : uI h t a i x = some h') : h'.1 = h.1 ∧ h'.2.1 = h.2.1 := by
  obtain ⟨n, f, -, -, -, rfl⟩ := uI_E e; exact ⟨rfl, rfl⟩
theorem uL_le {h h' : CH} {t a : Nat} {i : Int32} {x : Int64} (e : uL h t a i x = some h') : le2 h h' := by
  obtain ⟨n, f, -, -, -, rfl⟩ := uL_E e; exact le2.rf
theorem uL_sz {h h' : CH} {t a : Nat} {i : Int32} {x : Int64} (e : uL h t a i x = some h') : h'.1 = h.1 ∧ h'.2.1 = h.2.1 := by
  obtain ⟨n, f, -, -, -, rfl⟩ := uL_E e; exact ⟨rfl, rfl⟩
theorem uQ_le {h h' : CH} {t a : Nat} {i : Int32} {x : Option Nat} (e : uQ h t a i x = some h') : le2 h h' := by
  obtain ⟨n, f, -, -, -, rfl⟩ := uQ_E e; exact le2.rf
theorem uQ_sz {h h' : CH} {t a : Nat} {i : Int32} {x : Option Nat} (e : uQ h t a i x = some h') : h'.1 = h.1 ∧ h'.2.1 = h.2.1 := by
  obtain ⟨n, f, -, -, -, rfl⟩ := uQ_E e; exact ⟨rfl, rfl⟩
/-- the object at a is of the class number ci (a constant String counts) -/
def isC (h : CH) (a ci : Nat) : Bool := match cm h a with
  | some (.inl (c, _)) => c == ci
  | none => (match h.2.2.2.2.1 a with
    | some (.inr (.inl _)) => ci == 19
    | _ => false)
  | _ => false
def CPre (D : va_G) (dA : Nat → ClassId) (A : Nat → Prop) (h : CH) (U : State) : Prop := CW D dA A U h U.heap [] ∧ va_K D gCl (cTys dA) U
def CPost (D : va_G) (dA : Nat → ClassId) (A : Nat → Prop) (u : CH) (t : State) : Prop := t.heap.size = u.1 ∧ ∀ a e, u.2.2.2.1 a = some e → va_at D gCl (a, toE dA e) t.heap ∧ (u.2.2.1 ≤ a → A a) ∧ moF a e t.heap
theorem KW.same {A : Nat → Prop} {kt : KT} {s U : State} (w : KW A kt s) (hv : s.vm = U.vm) (hh : s.heap = U.heap) : KW A kt U := by
  have hal : s.vm.Alike U.vm := hv ▸ Vm.Alike.refl s.vm
  refine ⟨fun x hx => stW_same x hx s U hv (w.1 x hx), fun a e he => ?_, fun i q hq => ?_, fun i q hq => ?_, fun i q hq => ?_, fun i q hq => va_Nc.moved hal (w.2.2.2.2.2.1 i q hq), ?_, va_Fw.moved (by decide) hal w.2.2.2.2.2.2.2.1, hh ▸ vx_L.moved hal w.2.2.2.2.2.2.2.2.1, hh ▸ vx_L.moved hal w.2.2.2.2.2.2.2.2.2⟩
  · have h := w.2.1 a e he
    rcases e with n | v | bs
    · unfold kcOk at h ⊢
      rw [← hh]; exact va_T.moved hal h
    · unfold kcOk at h ⊢
      rw [← hh]; exact ⟨va_OF.moved hal h.1, va_OF.moved hal h.2.1, va_O.moved hal h.2.2⟩
    · unfold kcOk at h ⊢
      rw [← hh]; exact va_T.moved hal h
  · exact hh ▸ va_Z.moved hal (w.2.2.1 i q hq)
  · exact hh ▸ va_Z.moved hal (w.2.2.2.1 i q hq)
  · obtain ⟨a, h1, h2⟩ := w.2.2.2.2.1 i q hq
    exact ⟨a, h1, h2.same hv.symm⟩
  · obtain ⟨mi, h1, h2⟩ := w.2.2.2.2.2.2.1
    exact ⟨mi, h1, va_Mi.moved hal h2⟩
section CWC
variable {p : Program} {l : Launch} {e : Env} {R : Room} {s : State} {m : MethodId} {args : Array Value} {below : List Frame} {meth : Method} {c : Code} {H : Heap} {locs : List Loc} {cells slots : Nat} {Q : State → Prop}
variable {cc : ByteArray} {pc : Nat} {ls : Array Slot} {rest : List Value} {D : va_G} {dA : Nat → ClassId} {A : Nat → Prop} {h : CH} {own : String}
theorem lv_topr {x : Nat} (k : ∀ y : Nat, y = x → W p l e R s m args below meth c H locs cells slots Q (F0 m pc ls (.ref y :: rest))) : W p l e R s m args below meth c H locs cells slots Q (F0 m pc ls (.ref x :: rest)) := k x rfl
theorem CPre.blind {av : List Value} : FrameBlind (va_Pc av (CPre D dA A h)) := fun a U g mk q => ⟨q.1, ⟨q.2.1.1, q.2.1.2.1, q.2.1.2.2.1, q.2.1.2.2.2.1, KW.same q.2.1.2.2.2.2 rfl rfl⟩, va_K.moved (u := U) (U := U.calling g mk a) (Vm.Alike.refl U.vm) q.2.2⟩
theorem cg_start (C : CX p s m args c cc own D dA) (w : CW D dA A s h H locs) : ∀ U : State, U.heap = H → s.WarmedH U.vm → CPre D dA A h U := by
  intro U hU hW
  refine ⟨⟨by rw [hU]; exact w.1, by rw [hU]; exact w.2.1, va_S.rf, ?_, w.2.2.2.2.moved hU hW w.2.2.1⟩, va_K.moved hW.alike C.2.2.2.2⟩
  rw [hU]
  exact fun q hq => w.2.2.2.1 q (Nat.le_trans w.2.2.1.1 hq)
theorem cg_preS (C : CX p s m args c cc own D dA) (w : CW D dA A s h H locs) (av : List Value) : PreS s H (va_Pc av (CPre D dA A h)) av := ⟨CPre.blind, fun U hU hW => ⟨rfl, cg_start C w U hU hW⟩⟩
theorem cg_rcv (C : CX p s m args c cc own D dA) (w : CW D dA A s h H locs) {a ci : Nat} {q : vw_C} (hi : isC h a ci = true) (hc : gCl[ci]? = some q) : ∃ cell : Cell, H[a]? = some cell ∧ cell.vm.isStatics = false ∧ s.vm.findClass q.1 = some cell.cls := by
  unfold isC at hi
  split at hi
  · rename_i c' fs he
    have : c' = ci := by simpa using hi
    subst this
    exact va_recv C.2.2.2.2 (w.one he) (q0 := 0) hc rfl
  · split at hi
    · rename_i v hv
      have : ci = 19 := by simpa using hi
      subst this
      cases hc
      obtain ⟨cell, h1, h2, h3, -⟩ := (w.2.2.2.2.2.1 a _ hv).2.2.kept w.2.2.1.2.1
      exact ⟨cell, h1, h2, h3⟩
    · cases hi
  · cases hi
theorem cg_preV (C : CX p s m args c cc own D dA) (w : CW D dA A s h H locs) {a ci : Nat} {q : vw_C} (hi : isC h a ci = true) (hc : gCl[ci]? = some q) (As : List Value) : PreV s H q.1 a (va_Pc (.ref a :: As) (CPre D dA A h)) As := ⟨CPre.blind, cg_rcv C w hi hc, fun U hU hW => ⟨rfl, cg_start C w U hU hW⟩⟩
theorem cg_back {u1 : CH} (w : CW D dA A s h H locs) (hle : le2 h u1) {t : State} {H1 : Heap} {locs1 : List Loc} (ht : t.heap = H1) (hB : CPost D dA A u1 t) (hS : va_S A s.heap H1 locs1) : CW D dA A s u1 H1 locs1 := by
  subst ht
  exact ⟨hB.1, hB.2, hS, w.2.2.2.1, by rw [hle.2.2.2]; exact w.2.2.2.2⟩
theorem cg_calli {r0 : Int32} {u1 : CH} {a : Array Value} {st0 : List Value} {mc ms : Nat} (w : CW D dA A s h H locs) (hle : le2 h u1) (hr : va_Run p l e R s m args below meth c H locs cells slots mc ms (F0 m pc ls st0) rest (va_Qi (fun r u => r = r0 ∧ u = u1) (CPost D dA A) A a) A)
    (kk : ∀ (H : Heap) (locs : List Loc), CW D dA A s u1 H locs → W p l e R s m args below meth c H locs (cells + mc) (slots + ms) Q (F0 m (pc + 3) ls (.int r0 :: rest))) : W p l e R s m args below meth c H locs cells slots Q (F0 m pc ls st0) := by
  refine va_calli hr w.2.2.1 (fun q _ h => h) (fun q h => h) (fun r u t H1 locs1 ht hvm hw hB hz hk hS => ?_)
  obtain ⟨e1, e2⟩ := hw
  rw [e1]; rw [e2] at hB
  exact kk H1 locs1 (cg_back w hle ht hB hS)
theorem cg_calll {r0 : Int64} {u1 : CH} {a : Array Value} {st0 : List Value} {mc ms : Nat} (w : CW D dA A s h H locs) (hle : le2 h u1) (hr : va_Run p l e R s m args below meth c H locs cells slots mc ms (F0 m pc ls st0) rest (va_Ql (fun r u => r = r0 ∧ u = u1) (CPost D dA A) A a) A)
    (kk : ∀ (H : Heap) (locs : List Loc), CW D dA A s u1 H locs → W p l e R s m args below meth c H locs (cells + mc) (slots + ms) Q (F0 m (pc + 3) ls (.long r0 :: rest))) : W p l e R s m args below meth c H locs cells slots Q (F0 m pc ls st0) := by
  refine va_calll hr w.2.2.1 (fun q _ h => h) (fun q h => h) (fun r u t H1 locs1 ht hvm hw hB hz hk hS => ?_)
  obtain ⟨e1, e2⟩ := hw
  rw [e1]; rw [e2] at hB
  exact kk H1 locs1 (cg_back w hle ht hB hS)
theorem cg_callv {u1 : CH} {a : Array Value} {st0 : List Value} {mc ms : Nat} (w : CW D dA A s h H locs) (hle : le2 h u1) (hr : va_Run p l e R s m args below meth c H locs cells slots mc ms (F0 m pc ls st0) rest (va_Qv (fun u => u = u1) (CPost D dA A) A a) A)
    (kk : ∀ (H : Heap) (locs : List Loc), CW D dA A s u1 H locs → W p l e R s m args below meth c H locs (cells + mc) (slots + ms) Q (F0 m (pc + 3) ls rest)) : W p l e R s m args below meth c H locs cells slots Q (F0 m pc ls st0) := by
  refine va_callv hr w.2.2.1 (fun q _ h => h) (fun q h => h) (fun u t H1 locs1 ht hvm hw hB hz hk hS => ?_)
  rw [hw] at hB
  exact kk H1 locs1 (cg_back w hle ht hB hS)
theorem cg_callr {r0 : Nat} {u1 : CH} {a : Array Value} {st0 : List Value} {mc ms : Nat} (w : CW D dA A s h H locs) (hle : le2 h u1) (hr : va_Run p l e R s m args below meth c H locs cells slots mc ms (F0 m pc ls st0) rest (va_Qr (fun u => u = u1) (fun u r t => r = r0 ∧ CPost D dA A u t) A a) A)
    (kk : ∀ (H : Heap) (locs : List Loc), CW D dA A s u1 H locs → W p l e R s m args below meth c H locs (cells + mc) (slots + ms) Q (F0 m (pc + 3) ls (.ref r0 :: rest))) : W p l e R s m args below meth c H locs cells slots Q (F0 m pc ls st0) := by
  refine va_callr hr w.2.2.1 (fun q _ h => h) (fun q h => h) (fun u r t H1 locs1 ht hvm hw hB hz hk hS => ?_)
  obtain ⟨e1, hB⟩ := hB
  rw [e1]; rw [hw] at hB
  exact kk H1 locs1 (cg_back w hle ht hB hS)
end CWC
