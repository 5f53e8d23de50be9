/-! a clone of bytes; a cast of bytes -/
set_option maxRecDepth 100000
def clB (h : CH) (a : Nat) : Option CH := match cm h a with
  | some (.inr (2, n, .inl f)) => if okF f 0 n = true then some (cn h n (.inr (2, n, .inl f))) else none
  | _ => none
theorem clB_E {h h' : CH} {a : Nat} (e : clB h a = some h') : ∃ n f, cm h a = some (.inr (2, n, .inl f)) ∧ okF f 0 n = true ∧ h' = cn h n (.inr (2, n, .inl f)) := by
  unfold clB at e
  split at e
  · rename_i n f hc
    split at e
    · rename_i hf
      cases e
      exact ⟨n, f, hc, hf, rfl⟩
    · cases e
  · cases e
theorem clB_le {h h' : CH} {a : Nat} (e : clB h a = some h') : le2 h h' := by
  obtain ⟨n, f, -, -, rfl⟩ := clB_E e
  exact cn_le rfl
theorem clB_sz {h h' : CH} {a : Nat} (e : clB h a = some h') : h'.1 = h.1 + 1 ∧ h.2.1 ≤ h'.2.1 := by
  obtain ⟨n, f, -, -, rfl⟩ := clB_E e
  exact ⟨rfl, Nat.le_add_right _ _⟩
def isA2 (h : CH) (a : Nat) : Bool := match cm h a with
  | some (.inr (2, _, .inl _)) => true
  | _ => false
theorem isA2_E {h : CH} {a : Nat} (e : isA2 h a = true) : ∃ n f, cm h a = some (.inr (2, n, .inl f)) := by
  unfold isA2 at e
  split at e
  · rename_i n f he; exact ⟨n, f, he⟩
  · cases e
section CCL
variable {p : Program} {l : Launch} {e : Env} {R : Room} {s : State} {m : MethodId} {args : Array Value} {below : List Frame} {meth : Method} {c : Code} {H : Heap} {locs : List Loc} {cells slots : Nat} {Q : State → Prop}
variable {cc : ByteArray} {pc : Nat} {ls : Array Slot} {rest : List Value} {D : va_G} {dA : Nat → ClassId} {A : Nat → Prop} {h : CH} {own : String}
theorem cg_cloneB (C : CX p s m args c cc own D dA) (w : CW D dA A s h H locs) (hml : c.maxLocals = ls.size) {index a : Nat} {h' : CH} (e1 : clB h a = some h')
    (hlink : Cond.methodLink own index ⟨"[B", "clone", "()Ljava/lang/Object;"⟩ ∈ lw_all) (hsame : Cond.sameMethod "[B" "java/lang/Object" "clone" "()Ljava/lang/Object;" ∈ lw_all)
    (hnat : Cond.native ⟨"java/lang/Object", "clone", "()Ljava/lang/Object;"⟩ ∈ lw_all) (hinst : Cond.instanceMethod ⟨"java/lang/Object", "clone", "()Ljava/lang/Object;"⟩ ∈ lw_all)
    (hsel : Cond.selects "[B" ⟨"[B", "clone", "()Ljava/lang/Object;"⟩ ⟨"java/lang/Object", "clone", "()Ljava/lang/Object;"⟩ ∈ lw_all) (hcl : va_Nw (.castable "[B" "java/lang/Cloneable") s)
    (hframes : 1 ≤ R.frames) (hlocals : (rest.map fun v => v.category).sum + 14 ≤ R.locals) (hcells : cells + 1 ≤ R.cells) (hslots : slots + (h'.2.1 - h.2.1) ≤ R.slots) (hdg : decode cc pc = .ok (.invokevirtual index, 3))
    (kk : ∀ (H : Heap), CW D dA A s h' H locs → W p l e R s m args below meth c H locs (cells + 1) (slots + (h'.2.1 - h.2.1)) Q (F0 m (pc + 3) ls (.ref h.1 :: rest))) : W p l e R s m args below meth c H locs cells slots Q (F0 m pc ls (.ref a :: rest)) := by
  obtain ⟨n, f, ha, hfit, rfl⟩ := clB_E e1
  have hdn : (cn h n (.inr (2, n, .inl f))).2.1 - h.2.1 = n := by show h.2.1 + n - h.2.1 = n; omega
  rw [hdn] at hslots kk
  have hsz : (vp_cell (dA 2) (n, .inl f)).slots.size = n := arrV_size _ _ _
  have hvm0 : (vp_cell (dA 2) (n, .inl f)).vm = .none := rfl
  have hcl0 : (vp_cell (dA 2) (n, .inl f)).cls = dA 2 := rfl
  have hcellE : ({ cls := (vp_cell (dA 2) (n, .inl f)).cls, slots := (vp_cell (dA 2) (n, .inl f)).slots } : Cell) = vp_cell (dA 2) (n, .inl f) := rfl
  obtain ⟨c0, t0', f1, f2, f3⟩ := Cond.castable_spec (va_Nw.use (A := args) rfl hcl)
  have hnm : s.vm.findClass "[B" = some (dA 2) := (C.2.2.2.2.2 2 _ rfl).2
  cases hnm.symm.trans f1
  intro T hT X
  have hcellT : T.heap[a]? = some (vp_cell (dA 2) (n, .inl f)) := by rw [hT]; exact w.one ha 0 _ rfl
  obtain ⟨-, kA, hkA, comp, hkind⟩ := State.isArrayOf_alike X.warmed.alike ((C.2.2.2.2.2 2 _ rfl).1 0 (fun _ => .null))
  obtain ⟨-, kS, hkS, compS, hkindS⟩ := (C.2.2.2.2.2 2 _ rfl).1 0 (fun _ => .null)
  have hfits : ∀ (i : Nat) (v : Value), (vp_cell (dA 2) (n, .inl f)).slots[i]? = some v → fits .byte v = true := by
    intro i v hv
    have hlt : i < n := by
      have := (Array.getElem?_eq_some_iff.mp hv).1
      rw [hsz] at this
      exact this
    have hr : (arrV (dA 2) n (fun j => .int (f j))).slots[i]? = some (.int (f i)) := arrV_read _ _ hlt
    cases hv.symm.trans hr
    have hb := List.all_eq_true.mp hfit i (List.mem_range.mpr hlt)
    rw [Nat.zero_add] at hb
    exact bb_fit hb
  obtain ⟨vm', X', st⟩ := X.cloneArray C.1 C.2.2.1 (C.2.2.2.1 _ hlink) (C.2.2.2.1 _ hsame) (C.2.2.2.1 _ hnat) (C.2.2.2.1 _ hinst) (C.2.2.2.1 _ hsel) (a := a) (cell := vp_cell (dA 2) (n, .inl f)) hcellT (fun k h => by rw [hvm0] at h; cases h) (by rw [hvm0]; exact fun h => by cases h) (by rw [hcl0]; exact hnm) f2 (by rw [hcl0]; exact f3)
    (fun i v hv => by
      rw [hcl0]
      have hk' : T.vm.classes[dA 2]? = some kA := hkA
      simpa [State.fitsSlot, State.slotType?, hk', hkind] using hfits i v hv)
    (g := F0 m pc ls (.ref a :: rest)) rfl (by rw [hml]) rfl (by rw [C.2.1]; exact hdg) hframes (by show 2 * 0 + _ + 14 ≤ _; omega) hcells (by rw [hsz]; exact hslots) (hloader := by rw [hcl0]; exact Vm.clonesLoader_of_array hkS hkindS)
  rw [hcellE, hsz] at X'
  generalize hH1 : H.push (vp_cell (dA 2) (n, .inl f)) = H1
  have z1 : H1.size = H.size + 1 := by rw [← hH1, Array.size_push]
  have e1 : H1[H.size]? = some (vp_cell (dA 2) (n, .inl f)) := by rw [← hH1, Array.getElem?_push_size]
  have o1 : ∀ q : Nat, q < H.size → H1[q]? = H[q]? := fun q hq => by rw [← hH1, Array.getElem?_push, if_neg (Nat.ne_of_lt hq)]
  obtain ⟨t, b1, b2⟩ := kk H1 (w.growA z1 o1 e1) ((T.setVm vm').pushCell (vp_cell (dA 2) (n, .inl f))) (by rw [← hH1, ← hT]; rfl) X'
  refine ⟨t, st t ?_, b2⟩
  rw [hcellE, hT, w.1]
  exact b1
theorem cg_cast2 (C : CX p s m args c cc own D dA) (w : CW D dA A s h H locs) {a index : Nat} (hi : isA2 h a = true) (hl : Cond.classLink own index "[B" ∈ lw_all) (hdg : decode cc pc = .ok (.checkcast index, 3))
    (kk : W p l e R s m args below meth c H locs cells slots Q (F0 m (pc + 3) ls (.ref a :: rest))) : W p l e R s m args below meth c H locs cells slots Q (F0 m pc ls (.ref a :: rest)) := by
  obtain ⟨n, f, he⟩ := isA2_E hi
  have h3 : s.vm.findClass "[B" = some (dA 2) := (C.2.2.2.2.2 2 _ rfl).2
  intro T hT X
  obtain ⟨vm', X', st⟩ := X.checkcastYes C.1 C.2.2.1 (C.2.2.2.1 _ hl) (by rw [hT]; exact w.one he 0 _ rfl) rfl h3 (Vm.assignable_self s.vm (dA 2)) (g := F0 m pc ls (.ref a :: rest)) rfl rfl (by rw [C.2.1]; exact hdg)
  obtain ⟨t, a1, b1⟩ := kk (T.setVm vm') hT X'
  exact ⟨t, st t a1, b1⟩
end CCL
theorem lwSU {own : String} {idx : Nat} {y : MethodName} {b : ByteArray} {L : Nat} {r : Option FieldType} (h1 : Cond.methodLink own idx y ∈ lw_all) (h2 : Cond.sameMethod y.cls y.cls y.name y.desc ∈ lw_all) (h3 : Cond.superclass own y.cls ∈ lw_all) (h4 : Cond.instanceMethod y ∈ lw_all) (h5 : Cond.initialized y.cls ∈ lw_all) (h6 : Cond.code y b L r ∈ lw_all) : GoodIn lw_all (va_wsSU own idx y (ws_ y b L r)) := by
  refine lw_app ?_ (lw_meth h6)
  intro w hw
  simp only [List.mem_cons, List.not_mem_nil, or_false] at hw
  rcases hw with e | e | e | e | e
  · rw [e]; exact h1
  · rw [e]; exact h2
  · rw [e]; exact h3
  · rw [e]; exact h4
  · rw [e]; exact h5
