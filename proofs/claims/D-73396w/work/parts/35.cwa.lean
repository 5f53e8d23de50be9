/-! arrays of references: stores, new ones, copies; fields by another class' name -/
set_option maxRecDepth 100000
theorem castO : ∀ (ci : Nat) (q : vw_C), gCl[ci]? = some q → Cond.castable q.1 "java/lang/Object" ∈ stW := by
  intro ci q hq
  match ci, hq with
  | 0, hq => cases hq; exact (List.mem_of_getElem? (i := 61) rfl)
  | 1, hq => cases hq; exact (List.mem_of_getElem? (i := 38) rfl)
  | 2, hq => cases hq; exact (List.mem_of_getElem? (i := 41) rfl)
  | 3, hq => cases hq; exact (List.mem_of_getElem? (i := 60) rfl)
  | 4, hq => cases hq; exact (List.mem_of_getElem? (i := 68) rfl)
  | 5, hq => cases hq; exact (List.mem_of_getElem? (i := 70) rfl)
  | 6, hq => cases hq; exact (List.mem_of_getElem? (i := 72) rfl)
  | 7, hq => cases hq; exact (List.mem_of_getElem? (i := 78) rfl)
  | 8, hq => cases hq; exact (List.mem_of_getElem? (i := 80) rfl)
  | 9, hq => cases hq; exact (List.mem_of_getElem? (i := 81) rfl)
  | 10, hq => cases hq; exact (List.mem_of_getElem? (i := 43) rfl)
  | 11, hq => cases hq; exact (List.mem_of_getElem? (i := 45) rfl)
  | 12, hq => cases hq; exact (List.mem_of_getElem? (i := 49) rfl)
  | 13, hq => cases hq; exact (List.mem_of_getElem? (i := 52) rfl)
  | 14, hq => cases hq; exact (List.mem_of_getElem? (i := 55) rfl)
  | 15, hq => cases hq; exact (List.mem_of_getElem? (i := 56) rfl)
  | 16, hq => cases hq; exact (List.mem_of_getElem? (i := 58) rfl)
  | 17, hq => cases hq; exact (List.mem_of_getElem? (i := 9) rfl)
  | 18, hq => cases hq; exact (List.mem_of_getElem? (i := 10) rfl)
  | 19, hq => cases hq; exact (List.mem_of_getElem? (i := 11) rfl)
  | k + 20, hq => simp at hq
def isO (h : CH) (a : Nat) : Bool := match cm h a with
  | some (.inl (c, _)) => decide (c < 20)
  | none => (match h.2.2.2.2.1 a with
    | some (.inr (.inl _)) => true
    | _ => false)
  | _ => false
/-- every place copied holds null or an object -/
def okE (h : CH) (f : Nat → Option Nat) (sp n : Nat) : Bool := (List.range n).all fun i => match f (sp + i) with
  | none => true
  | some y => isO h y
def cpO (h : CH) (a0 : Nat) (sp : Int32) (a : Nat) (dp n : Int32) : Option CH := match cm h a0, cm h a with
  | some (.inr (3, n0, .inr (.inr f))), some (.inr (3, n1, .inr (.inr g))) => if h.2.2.1 ≤ a ∧ ¬ sp < 0 ∧ ¬ dp < 0 ∧ ¬ n < 0 ∧ sp.toNatClampNeg + n.toNatClampNeg ≤ n0 ∧ dp.toNatClampNeg + n.toNatClampNeg ≤ n1 ∧ okE h f sp.toNatClampNeg n.toNatClampNeg = true then some (cs h a (.inr (3, n1, .inr (.inr (va_cpy f g sp.toNatClampNeg dp.toNatClampNeg n.toNatClampNeg))))) else none
  | _, _ => none
def okF (f : Nat → Int32) (sp n : Nat) : Bool := (List.range n).all fun i => bb (f (sp + i))
def cpB (h : CH) (a0 : Nat) (sp : Int32) (a : Nat) (dp n : Int32) : Option CH := match cm h a0, cm h a with
  | some (.inr (2, n0, .inl f)), some (.inr (2, n1, .inl g)) => if h.2.2.1 ≤ a ∧ ¬ sp < 0 ∧ ¬ dp < 0 ∧ ¬ n < 0 ∧ sp.toNatClampNeg + n.toNatClampNeg ≤ n0 ∧ dp.toNatClampNeg + n.toNatClampNeg ≤ n1 ∧ okF f sp.toNatClampNeg n.toNatClampNeg = true then some (cs h a (.inr (2, n1, .inl (va_cpy f g sp.toNatClampNeg dp.toNatClampNeg n.toNatClampNeg)))) else none
  | _, _ => none
theorem cpO_E {h h' : CH} {a0 a : Nat} {sp dp n : Int32} (e : cpO h a0 sp a dp n = some h') : ∃ n0 n1 f g, cm h a0 = some (.inr (3, n0, .inr (.inr f))) ∧ cm h a = some (.inr (3, n1, .inr (.inr g))) ∧ (h.2.2.1 ≤ a ∧ ¬ sp < 0 ∧ ¬ dp < 0 ∧ ¬ n < 0 ∧ sp.toNatClampNeg + n.toNatClampNeg ≤ n0 ∧ dp.toNatClampNeg + n.toNatClampNeg ≤ n1 ∧ okE h f sp.toNatClampNeg n.toNatClampNeg = true) ∧ h' = cs h a (.inr (3, n1, .inr (.inr (va_cpy f g sp.toNatClampNeg dp.toNatClampNeg n.toNatClampNeg)))) := by
  unfold cpO at e
  split at e
  · rename_i n0 f n1 g h1 h2
    split at e
    · rename_i hh
      cases e
      exact ⟨n0, n1, f, g, h1, h2, hh, rfl⟩
    · cases e
  · cases e
theorem cpB_E {h h' : CH} {a0 a : Nat} {sp dp n : Int32} (e : cpB h a0 sp a dp n = some h') : ∃ n0 n1 f g, cm h a0 = some (.inr (2, n0, .inl f)) ∧ cm h a = some (.inr (2, n1, .inl g)) ∧ (h.2.2.1 ≤ a ∧ ¬ sp < 0 ∧ ¬ dp < 0 ∧ ¬ n < 0 ∧ sp.toNatClampNeg + n.toNatClampNeg ≤ n0 ∧ dp.toNatClampNeg + n.toNatClampNeg ≤ n1 ∧ okF f sp.toNatClampNeg n.toNatClampNeg = true) ∧ h' = cs h a (.inr (2, n1, .inl (va_cpy f g sp.toNatClampNeg dp.toNatClampNeg n.toNatClampNeg))) := by
  unfold cpB at e
  split at e
  · rename_i n0 f n1 g h1 h2
    split at e
    · rename_i hh
      cases e
      exact ⟨n0, n1, f, g, h1, h2, hh, rfl⟩
    · cases e
  · cases e
theorem cpO_le {h h' : CH} {a0 a : Nat} {sp dp n : Int32} (e : cpO h a0 sp a dp n = some h') : le2 h h' := by
  obtain ⟨_, _, _, _, -, -, -, rfl⟩ := cpO_E e; exact le2.rf
theorem cpO_sz {h h' : CH} {a0 a : Nat} {sp dp n : Int32} (e : cpO h a0 sp a dp n = some h') : h'.1 = h.1 ∧ h'.2.1 = h.2.1 := by
  obtain ⟨_, _, _, _, -, -, -, rfl⟩ := cpO_E e; exact ⟨rfl, rfl⟩
theorem cpB_le {h h' : CH} {a0 a : Nat} {sp dp n : Int32} (e : cpB h a0 sp a dp n = some h') : le2 h h' := by
  obtain ⟨_, _, _, _, -, -, -, rfl⟩ := cpB_E e; exact le2.rf
theorem cpB_sz {h h' : CH} {a0 a : Nat} {sp dp n : Int32} (e : cpB h a0 sp a dp n = some h') : h'.1 = h.1 ∧ h'.2.1 = h.2.1 := by
  obtain ⟨_, _, _, _, -, -, -, rfl⟩ := cpB_E e; exact ⟨rfl, rfl⟩
section CWA
variable {p : Program} {l : Launch} {e : Env} {R : Room} {s : State} {m : MethodId} {args : Array Value} {below : List Frame} {meth : Method} {c : Code} {H : Heap} {locs : List Loc} {cells slots : Nat} {Q : State → Prop}
variable {cc : ByteArray} {pc : Nat} {ls : Array Slot} {rest : List Value} {D : va_G} {dA : Nat → ClassId} {A : Nat → Prop} {h : CH} {own : String}
theorem cg_any (C : CX p s m args c cc own D dA) (w : CW D dA A s h H locs) {a : Nat} (hi : isO h a = true) : va_Any "java/lang/Object" s H a := by
  unfold isO at hi
  have key : ∀ (ci : Nat) (q : vw_C), gCl[ci]? = some q → isC h a ci = true → va_Any "java/lang/Object" s H a := by
    intro ci q hq hc
    obtain ⟨cell, h1, h2, h3⟩ := cg_rcv C w hc hq
    obtain ⟨kC, hkC, -⟩ := Vm.findClass_spec h3
    obtain ⟨c0, t1, f1, f2, f3⟩ := Cond.castable_spec (va_Nw.use (A := args) rfl (w.2.2.2.2.1 _ (castO ci q hq)))
    cases h3.symm.trans f1
    exact ⟨cell, h1, h2, ⟨kC, hkC⟩, fun comp hc => by cases hc.symm.trans f2; exact f3⟩
  split at hi
  · rename_i c' fs he
    have hlt : c' < 20 := of_decide_eq_true hi
    exact key c' (gCl[c']'hlt) (List.getElem?_eq_getElem hlt) (by unfold isC; rw [he]; simp)
  · rename_i he
    split at hi
    · rename_i v hv
      exact key 19 _ rfl (by unfold isC; rw [he, hv]; rfl)
    · cases hi
  · cases hi
theorem cg_aastO (C : CX p s m args c cc own D dA) (w : CW D dA A s h H locs) {a v : Nat} {i : Int32} {h' : CH} (hv : isO h v = true) (e1 : uQ h 3 a i (some v) = some h') (hdg : decode cc pc = .ok (.aastore, 1))
    (kk : ∀ (H : Heap) (locs : List Loc), CW D dA A s h' H locs → W p l e R s m args below meth c H locs cells slots Q (F0 m (pc + 1) ls rest)) : W p l e R s m args below meth c H locs cells slots Q (F0 m pc ls (.ref v :: .int i :: .ref a :: rest)) := by
  obtain ⟨n, f, h1, hba, h2, rfl⟩ := uQ_E e1
  have hin := ix_in h2
  have hlt : i.toNatClampNeg < n := Nat.not_le.mp fun q => hin (Or.inr q)
  have h0 : ¬ i < 0 := fun q => hin (Or.inl q)
  obtain ⟨cellV, g1, g3, ⟨kC, hkC⟩, hasg⟩ := cg_any C w hv
  obtain ⟨kA, comp, k1, k2, k3, -⟩ := (C.2.2.2.2.2 3 _ rfl).2
  obtain ⟨kE, hkE, -⟩ := Vm.findClass_spec k3
  refine W.aast C.1 C.2.1 (w.one h1 0 _ rfl) (fun q h => by cases h) (fun h => by cases h) k1 k2 rfl hkE ⟨h0, by show _ < (arrV _ _ _).slots.size; rw [arrV_size]; exact hlt⟩ g1 (fun q h => by rw [h] at g3; cases g3) hkC (hasg _ k3) rfl rfl hdg fun H1 e z oq => ?_
  refine kk H1 _ (w.putA h1 hba z oq ?_)
  show H1[a]? = some (vp_cell _ _)
  rw [e]
  rw [vp_cell_q, vp_cell_q, arrV_store]
  congr 2
  funext q
  by_cases hq : q = i.toNatClampNeg
  · subst hq
    simp [updV, va_up, va_rf]
  · simp [updV, va_up, hq]
theorem cg_aastN (C : CX p s m args c cc own D dA) (w : CW D dA A s h H locs) {a : Nat} {i : Int32} {h' : CH} (e1 : uQ h 3 a i none = some h') (hdg : decode cc pc = .ok (.aastore, 1))
    (kk : ∀ (H : Heap) (locs : List Loc), CW D dA A s h' H locs → W p l e R s m args below meth c H locs cells slots Q (F0 m (pc + 1) ls rest)) : W p l e R s m args below meth c H locs cells slots Q (F0 m pc ls (.null :: .int i :: .ref a :: rest)) := by
  obtain ⟨n, f, h1, hba, h2, rfl⟩ := uQ_E e1
  refine va_WaastN (C := "java/lang/Object") C.1 C.2.1 (w.one h1 0 _ rfl) ((C.2.2.2.2.2 3 _ rfl).1 n (fun j => va_rf (f j))) (fun h => by cases h) (by show ¬ (i < 0 ∨ (arrV _ _ _).slots.size ≤ _); rw [arrV_size]; exact ix_in h2) rfl rfl hdg fun H1 e z oq => ?_
  refine kk H1 _ (w.putA h1 hba z oq ?_)
  show H1[a]? = some (vp_cell _ _)
  rw [e]
  rw [vp_cell_q, vp_cell_q, arrV_store]
  congr 2
  funext q
  by_cases hq : q = i.toNatClampNeg
  · subst hq
    simp [updV, va_up, va_rf]
  · simp [updV, va_up, hq]
/-- an array of ints into an array of such -/
theorem cg_aastA (C : CX p s m args c cc own D dA) (w : CW D dA A s h H locs) {a v nv : Nat} {i : Int32} {h' : CH} (hv : aN h 0 v = some nv) (e1 : uQ h 5 a i (some v) = some h') (hov : va_Nw (Cond.arrayOver (.array .int)) s) (hdg : decode cc pc = .ok (.aastore, 1))
    (kk : ∀ (H : Heap) (locs : List Loc), CW D dA A s h' H locs → W p l e R s m args below meth c H locs cells slots Q (F0 m (pc + 1) ls rest)) : W p l e R s m args below meth c H locs cells slots Q (F0 m pc ls (.ref v :: .int i :: .ref a :: rest)) := by
  obtain ⟨n, f, h1, hba, h2, rfl⟩ := uQ_E e1
  have hin := ix_in h2
  have hlt : i.toNatClampNeg < n := Nat.not_le.mp fun q => hin (Or.inr q)
  have h0 : ¬ i < 0 := fun q => hin (Or.inl q)
  rcases aN_E hv with ⟨g, hv1⟩ | ⟨hz, -⟩ | ⟨hz, -⟩
  case inr.inl => cases hz
  case inr.inr => cases hz
  obtain ⟨comp, c1, k, s1, s2, s3, s4, s5⟩ := aa_spec hov
  have hc1 : c1 = dA 5 := Option.some.inj (s5.symm.trans (C.2.2.2.2.2 5 _ rfl).2)
  have hcomp : comp = dA 0 := Option.some.inj (s1.symm.trans (C.2.2.2.2.2 0 _ rfl).2)
  subst hc1
  subst hcomp
  obtain ⟨kE, hkE, -⟩ := Vm.findClass_spec s1
  have hcv : ∃ cv : Cell, H[v]? = some cv ∧ cv.vm = .none ∧ cv.cls = dA 0 := by
    have q := w.one hv1 0 _ rfl
    rcases g with g | g | g
    · exact ⟨_, q, rfl, rfl⟩
    · exact ⟨_, q, rfl, rfl⟩
    · exact ⟨_, q, rfl, rfl⟩
  obtain ⟨cv, v1, v2, v3⟩ := hcv
  refine W.aast C.1 C.2.1 (w.one h1 0 _ rfl) (fun q h => by cases h) (fun h => by cases h) s3 s4 rfl hkE ⟨h0, by show _ < (arrV _ _ _).slots.size; rw [arrV_size]; exact hlt⟩ v1 (fun q h => by rw [v2] at h; cases h) (by rw [v3]; exact hkE) (by rw [v3]; exact Vm.assignable_self s.vm (dA 0)) rfl rfl hdg fun H1 e z oq => ?_
  refine kk H1 _ (w.putA h1 hba z oq ?_)
  show H1[a]? = some (vp_cell _ _)
  rw [e]
  rw [vp_cell_q, vp_cell_q, arrV_store]
  congr 2
  funext q
  by_cases hq : q = i.toNatClampNeg
  · subst hq
    simp [updV, va_up, va_rf]
  · simp [updV, va_up, hq]
theorem cg_anewO {C0 : CX p s m args c cc own D dA} (w : CW D dA A s h H locs) {index : Nat} (hcl : Cond.classLink own index "java/lang/Object" ∈ lw_all) (hov : va_Nw (Cond.arrayOver (.object "java/lang/Object")) s) {n : Int32} {N : Nat} (hn : ¬ n < 0) (hN : n.toNatClampNeg = N) (hby : N ≤ 1000000) (hcells : cells + 1 ≤ R.cells) (hslots : slots + N ≤ R.slots) (hdg : decode cc pc = .ok (.anewarray index, 3))
    (kk : ∀ (H : Heap), CW D dA A s (cn h N (.inr (3, N, .inr (.inr (fun _ => none))))) H locs → W p l e R s m args below meth c H locs (cells + 1) (slots + N) Q (F0 m (pc + 3) ls (.ref h.1 :: rest))) : W p l e R s m args below meth c H locs cells slots Q (F0 m pc ls (.int n :: rest)) := by
  obtain ⟨hx, hb, hown, hts, hK⟩ := C0
  subst hN
  refine W.anew hx hb hown (hts _ hcl) (va_AO.use hov) rfl hdg rfl hn (by omega) hcells hslots fun cA kA comp f1 f2 f3 f4 => ?_
  obtain ⟨kB, cB, k1, k2, k3, k4⟩ := (hK.2 3 _ rfl).2
  have hd : cA = dA 3 := Option.some.inj (f1.symm.trans k4)
  subst hd
  generalize hH1 : H.push ({ cls := dA 3, slots := Array.replicate n.toNatClampNeg .null, vm := .none } : Cell) = H1
  have z1 : H1.size = H.size + 1 := by rw [← hH1, Array.size_push]
  have e1 : H1[H.size]? = some (arrV (dA 3) n.toNatClampNeg (fun _ => .null)) := by rw [← hH1, Array.getElem?_push_size, ← arrV_new]
  have o1 : ∀ q : Nat, q < H.size → H1[q]? = H[q]? := fun q hq => by rw [← hH1, Array.getElem?_push, if_neg (Nat.ne_of_lt hq)]
  have hk := kk H1 (w.growA z1 o1 e1)
  rw [← w.1] at hk
  exact hk
theorem cg_anewA {C0 : CX p s m args c cc own D dA} (w : CW D dA A s h H locs) {index : Nat} (hcl : Cond.classLink own index (FieldType.array .int).toString ∈ lw_all) (hov : va_Nw (Cond.arrayOver (.array .int)) s) {n : Int32} {N : Nat} (hn : ¬ n < 0) (hN : n.toNatClampNeg = N) (hby : N ≤ 1000000) (hcells : cells + 1 ≤ R.cells) (hslots : slots + N ≤ R.slots) (hdg : decode cc pc = .ok (.anewarray index, 3))
    (kk : ∀ (H : Heap), CW D dA A s (cn h N (.inr (5, N, .inr (.inr (fun _ => none))))) H locs → W p l e R s m args below meth c H locs (cells + 1) (slots + N) Q (F0 m (pc + 3) ls (.ref h.1 :: rest))) : W p l e R s m args below meth c H locs cells slots Q (F0 m pc ls (.int n :: rest)) := by
  obtain ⟨hx, hb, hown, hts, hK⟩ := C0
  subst hN
  refine W.anewA hx hb hown (hts _ hcl) (show (Cond.arrayOver (.array .int)).before args s = true from hov) rfl hdg rfl hn (by omega) hcells hslots fun cA kA comp f1 f2 f3 f4 => ?_
  have hd : cA = dA 5 := Option.some.inj (f1.symm.trans (hK.2 5 _ rfl).2)
  subst hd
  generalize hH1 : H.push ({ cls := dA 5, slots := Array.replicate n.toNatClampNeg .null, vm := .none } : Cell) = H1
  have z1 : H1.size = H.size + 1 := by rw [← hH1, Array.size_push]
  have e1 : H1[H.size]? = some (arrV (dA 5) n.toNatClampNeg (fun _ => .null)) := by rw [← hH1, Array.getElem?_push_size, ← arrV_new]
  have o1 : ∀ q : Nat, q < H.size → H1[q]? = H[q]? := fun q hq => by rw [← hH1, Array.getElem?_push, if_neg (Nat.ne_of_lt hq)]
  have hk := kk H1 (w.growA z1 o1 e1)
  rw [← w.1] at hk
  exact hk
theorem cg_getM (C : CX p s m args c cc own D dA) (w : CW D dA A s h H locs) {ci k a : Nat} {v : Value} (e1 : oF h ci k a = some v) {Cn : String} {T : u_T} {N : Nat} (hc : gCl[ci]? = some (Cn, T, N)) (hin : ∀ w ∈ u_ws Cn T N, w ∈ lw_all) (hk : k < N) {index : Nat} {ref : String} (hl : Cond.fieldLink own index ref (T k).2.1 (T k).2.2.1 ∈ lw_all) (hsm : Cond.sameField ref (T k).1 (T k).2.1 (T k).2.2.1 ∈ lw_all) (hdg : decode cc pc = .ok (.getfield index, 3))
    (kk : W p l e R s m args below meth c H locs cells slots Q (F0 m (pc + 3) ls (v :: rest))) : W p l e R s m args below meth c H locs cells slots Q (F0 m pc ls (.ref a :: rest)) := by
  rcases oF_E e1 with ⟨fs, h1, h2⟩ | ⟨h19, v0, h1, h2⟩
  case inr =>
    subst h19
    obtain ⟨rfl, rfl, rfl⟩ : Cn = RJ6 ∧ T = TJ6 ∧ N = 4 := by cases hc; exact ⟨rfl, rfl, rfl⟩
    have h3 := w.2.2.2.2.2.1 a _ h1
    rcases h2 with ⟨rfl, rfl⟩ | ⟨rfl, rfl⟩
    · exact vk_getf C.1 C.2.1 h3.1 w.2.2.1 C.2.2.1 (C.2.2.2.1 _ hl) (fun x9 h9 => u_same (C.2.2.2.1 _ hsm) x9 h9) hdg kk
    · exact vk_getf C.1 C.2.1 h3.2.1 w.2.2.1 C.2.2.1 (C.2.2.2.1 _ hl) (fun x9 h9 => u_same (C.2.2.2.1 _ hsm) x9 h9) hdg kk
  exact va_get (D := D) (ci := ci) (v := v) (C := Cn) (T := T) (N := N) (ref := ref) C.1 C.2.1 C.2.2.2.1 hin C.2.2.1 C.2.2.2.2 (w.one h1) 0 rfl hc k hk (C.2.2.2.1 _ hl) (fun x9 h9 => u_same (C.2.2.2.1 _ hsm) x9 h9) h2 hdg kk
theorem cg_putM (C : CX p s m args c cc own D dA) (w : CW D dA A s h H locs) {ci k a : Nat} {v : Value} {h' : CH} (e1 : pF h ci k a v = some h') {Cn : String} {T : u_T} {N : Nat} (hc : gCl[ci]? = some (Cn, T, N)) (hin : ∀ w ∈ u_ws Cn T N, w ∈ lw_all) (ty0 : Nat → FieldType) (hty : ∀ k, k < N → parseFieldDescriptor (T k).2.2.1 = some (ty0 k)) (hnm : ∀ a, a < N → ∀ b, b < N → a ≠ b → (T a).2.1 ≠ (T b).2.1) (hk : k < N) {index : Nat} {ref : String} (hl : Cond.fieldLink own index ref (T k).2.1 (T k).2.2.1 ∈ lw_all) (hsm : Cond.sameField ref (T k).1 (T k).2.1 (T k).2.2.1 ∈ lw_all) (hfin : (T k).2.2.2 = false) (hn : narrow (ty0 k) v = v) (hfit : fits (ty0 k) v = true) (hdg : decode cc pc = .ok (.putfield index, 3))
    (kk : ∀ (H : Heap) (locs : List Loc), CW D dA A s h' H locs → W p l e R s m args below meth c H locs cells slots Q (F0 m (pc + 3) ls rest)) : W p l e R s m args below meth c H locs cells slots Q (F0 m pc ls (v :: .ref a :: rest)) := by
  obtain ⟨fs, h1, hba, hlf, rfl⟩ := pF_E e1
  obtain ⟨hx, hb, hown, hts, hK⟩ := C
  have hap := va_apart (own := own) hts hin ty0 hty hnm hK hc
  obtain ⟨r, g1, cell, q1, q2, q3, q4⟩ := w.one h1 0 _ rfl
  have hr : r = (Cn, T, N) := Option.some.inj (g1.symm.trans hc)
  subst hr
  obtain ⟨hS, hfc, kC, hkC, hkind⟩ := hK.1 ci _ hc
  obtain ⟨cf, kf, fi, f, hi, hsl⟩ := hS k hk
  have hlay := hts _ (hin _ (u_in_lay hk))
  unfold u_lay at hlay
  rw [if_neg (by rw [hfin]; decide)] at hlay
  have hst := (u_facts hfc hkC (u_lays hts hin hk) hi).1
  have h6 := u_store hfc hkC hkind hlay hi (hty k hk) hn hfit
  refine W.putK hx hb (f := f) ⟨hown, hts _ hl, ⟨_, _, _, u_same (hts _ hsm) _ hi⟩, hst⟩ (by rw [q2]; exact h6) q1 q3 (by rw [hsl]; exact k2_hasslot (q4 k hk)) rfl rfl hdg fun H' e1 e2 e3 => ?_
  rw [hsl] at e1 ⊢
  exact kk H' _ (w.put h1 hba e2 e3 ⟨_, hc, t_OB.to (V := updV (vp_V fs) k v) ⟨_, e1, q2, q3, t_set q4 hap hk v⟩ (fun j _ => vp_updV_set hlf v j)⟩ (fun hz c9 h9 => by rw [e1] at h9; cases h9; exact (show cell.monitor = {} from (w.2.1 _ _ h1).2.2 hz cell q1)))
end CWA
