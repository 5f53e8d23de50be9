/-! rows over the component's world -/
set_option maxRecDepth 100000
/-- what a walk carries: the class 'own' -/
def CX (p : Program) (s : State) (m : MethodId) (args : Array Value) (c : Code) (cc : ByteArray) (own : String) (D : va_G) (dA : Nat → ClassId) : Prop := p.tables.exec = Jvm.exec ∧ c.code = cc ∧ s.vm.findClass own = some m.cls ∧ (∀ w ∈ lw_all, w.before args s = true) ∧ va_K D gCl (cTys dA) s
section CWR
variable {p : Program} {l : Launch} {e : Env} {R : Room} {s : State} {m : MethodId} {args : Array Value} {below : List Frame} {meth : Method} {c : Code} {H : Heap} {locs : List Loc} {cells slots : Nat} {Q : State → Prop}
variable {cc : ByteArray} {pc : Nat} {ls : Array Slot} {rest : List Value} {D : va_G} {dA : Nat → ClassId} {A : Nat → Prop} {h : CH} {own : String}
theorem cg_get (C : CX p s m args c cc own D dA) (w : CW D dA A s h H locs) {ci k a : Nat} {v : Value} (e1 : oF h ci k a = some v) {Cn : String} {T : u_T} {N : Nat} (hc : gCl[ci]? = some (Cn, T, N)) (hin : ∀ w ∈ u_ws Cn T N, w ∈ lw_all) (hk : k < N) {index : Nat} (hl : Cond.fieldLink own index (T k).1 (T k).2.1 (T k).2.2.1 ∈ lw_all) (hdg : decode cc pc = .ok (.getfield index, 3))
    (kk : W p l e R s m args below meth c H locs cells slots Q (F0 m (pc + 3) ls (v :: rest))) : W p l e R s m args below meth c H locs cells slots Q (F0 m pc ls (.ref a :: rest)) := by
  rcases oF_E e1 with ⟨fs, h1, h2⟩ | ⟨h19, v0, h1, h2⟩
  case inr =>
    subst h19
    obtain ⟨rfl, rfl, rfl⟩ : Cn = RJ6 ∧ T = TJ6 ∧ N = 4 := by cases hc; exact ⟨rfl, rfl, rfl⟩
    have h3 := w.2.2.2.2.2.1 a _ h1
    rcases h2 with ⟨rfl, rfl⟩ | ⟨rfl, rfl⟩
    · exact vk_getf C.1 C.2.1 h3.1 w.2.2.1 C.2.2.1 (C.2.2.2.1 _ hl) (fun _ h9 => h9) hdg kk
    · exact vk_getf C.1 C.2.1 h3.2.1 w.2.2.1 C.2.2.1 (C.2.2.2.1 _ hl) (fun _ h9 => h9) hdg kk
  exact va_get (D := D) (ci := ci) (v := v) (C := Cn) (T := T) (N := N) (ref := (T k).1) C.1 C.2.1 C.2.2.2.1 hin C.2.2.1 C.2.2.2.2 (w.one h1) 0 rfl hc k hk (C.2.2.2.1 _ hl) (fun _ h9 => h9) h2 hdg kk
theorem cg_getN (C : CX p s m args c cc own D dA) (w : CW D dA A s h H locs) {ci k a : Nat} (hne : ci ≠ 19) {v : Value} (e1 : oF h ci k a = some v) {Cn : String} {T : u_T} {N : Nat} (hc : gCl[ci]? = some (Cn, T, N)) (hin : ∀ w ∈ u_ws Cn T N, w ∈ lw_all) (hk : k < N) {index : Nat} {host : String} (hl : va_Nw (Cond.fieldLinkNest own index (T k).1 (T k).2.1 (T k).2.2.1 host) s) (hdg : decode cc pc = .ok (.getfield index, 3))
    (kk : W p l e R s m args below meth c H locs cells slots Q (F0 m (pc + 3) ls (v :: rest))) : W p l e R s m args below meth c H locs cells slots Q (F0 m pc ls (.ref a :: rest)) := by
  rcases oF_E e1 with ⟨fs, h1, h2⟩ | ⟨h19, v0, h1, h2⟩
  case inr => exact absurd h19 hne
  exact va_getN (D := D) (ci := ci) (v := v) (C := Cn) (T := T) (N := N) (ref := (T k).1) (host := host) C.1 C.2.1 C.2.2.2.1 hin C.2.2.1 C.2.2.2.2 (w.one h1) 0 rfl hc k hk (va_Nw.use rfl hl) (fun _ h9 => h9) h2 hdg kk
theorem cg_put (C : CX p s m args c cc own D dA) (w : CW D dA A s h H locs) {ci k a : Nat} {v : Value} {h' : CH} (e1 : pF h ci k a v = some h') {Cn : String} {T : u_T} {N : Nat} (hc : gCl[ci]? = some (Cn, T, N)) (hin : ∀ w ∈ u_ws Cn T N, w ∈ lw_all) (ty0 : Nat → FieldType) (hty : ∀ k, k < N → parseFieldDescriptor (T k).2.2.1 = some (ty0 k)) (hnm : ∀ a, a < N → ∀ b, b < N → a ≠ b → (T a).2.1 ≠ (T b).2.1) (hk : k < N) {index : Nat} (hl : Cond.fieldLink own index (T k).1 (T k).2.1 (T k).2.2.1 ∈ lw_all) (hfin : (T k).2.2.2 = false) (hn : narrow (ty0 k) v = v) (hfit : fits (ty0 k) v = true) (hdg : decode cc pc = .ok (.putfield index, 3))
    (kk : ∀ (H : Heap) (locs : List Loc), CW D dA A s h' H locs → W p l e R s m args below meth c H locs cells slots Q (F0 m (pc + 3) ls rest)) : W p l e R s m args below meth c H locs cells slots Q (F0 m pc ls (v :: .ref a :: rest)) := by
  obtain ⟨fs, h1, hba, hlf, rfl⟩ := pF_E e1
  obtain ⟨hx, hb, hown, hts, hK⟩ := C
  have hap := va_apart (own := own) hts hin ty0 hty hnm hK hc
  obtain ⟨r, g1, cell, q1, q2, q3, q4⟩ := w.one h1 0 _ rfl
  have hr : r = (Cn, T, N) := Option.some.inj (g1.symm.trans hc)
  subst hr
  obtain ⟨hS, hfc, kC, hkC, hkind⟩ := hK.1 ci _ hc
  obtain ⟨cf, kf, fi, f, hi, hsl⟩ := hS k hk
  have hlay := hts _ (hin _ (u_in_lay hk))
  unfold u_lay at hlay
  rw [if_neg (by rw [hfin]; decide)] at hlay
  have hst := (u_facts hfc hkC (u_lays hts hin hk) hi).1
  have h6 := u_store hfc hkC hkind hlay hi (hty k hk) hn hfit
  refine W.putK hx hb (f := f) ⟨hown, hts _ hl, ⟨_, _, _, hi⟩, hst⟩ (by rw [q2]; exact h6) q1 q3 (by rw [hsl]; exact k2_hasslot (q4 k hk)) rfl rfl hdg fun H' e1 e2 e3 => ?_
  rw [hsl] at e1 ⊢
  exact kk H' _ (w.put h1 hba e2 e3 ⟨_, hc, t_OB.to (V := updV (vp_V fs) k v) ⟨_, e1, q2, q3, t_set q4 hap hk v⟩ (fun j _ => vp_updV_set hlf v j)⟩ (fun hz c9 h9 => by rw [e1] at h9; cases h9; exact (show cell.monitor = {} from (w.2.1 _ _ h1).2.2 hz cell q1)))
theorem cg_putN (C : CX p s m args c cc own D dA) (w : CW D dA A s h H locs) {ci k a : Nat} {v : Value} {h' : CH} (e1 : pF h ci k a v = some h') {Cn : String} {T : u_T} {N : Nat} (hc : gCl[ci]? = some (Cn, T, N)) (hin : ∀ w ∈ u_ws Cn T N, w ∈ lw_all) (ty0 : Nat → FieldType) (hty : ∀ k, k < N → parseFieldDescriptor (T k).2.2.1 = some (ty0 k)) (hnm : ∀ a, a < N → ∀ b, b < N → a ≠ b → (T a).2.1 ≠ (T b).2.1) (hk : k < N) {index : Nat} {host : String} (hl : va_Nw (Cond.fieldLinkNest own index (T k).1 (T k).2.1 (T k).2.2.1 host) s) (hfin : (T k).2.2.2 = false) (hn : narrow (ty0 k) v = v) (hfit : fits (ty0 k) v = true) (hdg : decode cc pc = .ok (.putfield index, 3))
    (kk : ∀ (H : Heap) (locs : List Loc), CW D dA A s h' H locs → W p l e R s m args below meth c H locs cells slots Q (F0 m (pc + 3) ls rest)) : W p l e R s m args below meth c H locs cells slots Q (F0 m pc ls (v :: .ref a :: rest)) := by
  obtain ⟨fs, h1, hba, hlf, rfl⟩ := pF_E e1
  obtain ⟨hx, hb, hown, hts, hK⟩ := C
  have hap := va_apart (own := own) hts hin ty0 hty hnm hK hc
  obtain ⟨r, g1, cell, q1, q2, q3, q4⟩ := w.one h1 0 _ rfl
  have hr : r = (Cn, T, N) := Option.some.inj (g1.symm.trans hc)
  subst hr
  obtain ⟨hS, hfc, kC, hkC, hkind⟩ := hK.1 ci _ hc
  obtain ⟨cf, kf, fi, f, hi, hsl⟩ := hS k hk
  have hlay := hts _ (hin _ (u_in_lay hk))
  unfold u_lay at hlay
  rw [if_neg (by rw [hfin]; decide)] at hlay
  have hst := (u_facts hfc hkC (u_lays hts hin hk) hi).1
  have h6 := u_store hfc hkC hkind hlay hi (hty k hk) hn hfit
  refine va_WputK hx hb (f := f) hown (va_Nw.use rfl hl) hi hst (by rw [q2]; exact h6) q1 q3 (by rw [hsl]; exact k2_hasslot (q4 k hk)) rfl rfl hdg fun H' e1 e2 e3 => ?_
  rw [hsl] at e1 ⊢
  exact kk H' _ (w.put h1 hba e2 e3 ⟨_, hc, t_OB.to (V := updV (vp_V fs) k v) ⟨_, e1, q2, q3, t_set q4 hap hk v⟩ (fun j _ => vp_updV_set hlf v j)⟩ (fun hz c9 h9 => by rw [e1] at h9; cases h9; exact (show cell.monitor = {} from (w.2.1 _ _ h1).2.2 hz cell q1)))
/-- a final field in its own class' constructor -/
theorem cg_putF (C : CX p s m args c cc own D dA) (w : CW D dA A s h H locs) {ci k a : Nat} {v : Value} {h' : CH} (e1 : pF h ci k a v = some h') {Cn : String} {T : u_T} {N : Nat} (hc : gCl[ci]? = some (Cn, T, N)) (hin : ∀ w ∈ u_ws Cn T N, w ∈ lw_all) (ty0 : Nat → FieldType) (hty : ∀ k, k < N → parseFieldDescriptor (T k).2.2.1 = some (ty0 k)) (hnm : ∀ a, a < N → ∀ b, b < N → a ≠ b → (T a).2.1 ≠ (T b).2.1) (hk : k < N) {index : Nat} (hl : Cond.fieldLink own index (T k).1 (T k).2.1 (T k).2.2.1 ∈ lw_all) (hfin : (T k).2.2.2 = true) (hin2 : meth.name = "<init>") (hdecl : (T k).1 = own) (hn : narrow (ty0 k) v = v) (hfit : fits (ty0 k) v = true) (hdg : decode cc pc = .ok (.putfield index, 3))
    (kk : ∀ (H : Heap) (locs : List Loc), CW D dA A s h' H locs → W p l e R s m args below meth c H locs cells slots Q (F0 m (pc + 3) ls rest)) : W p l e R s m args below meth c H locs cells slots Q (F0 m pc ls (v :: .ref a :: rest)) := by
  obtain ⟨fs, h1, hba, hlf, rfl⟩ := pF_E e1
  obtain ⟨hx, hb, hown, hts, hK⟩ := C
  have hap := va_apart (own := own) hts hin ty0 hty hnm hK hc
  obtain ⟨r, g1, cell, q1, q2, q3, q4⟩ := w.one h1 0 _ rfl
  have hr : r = (Cn, T, N) := Option.some.inj (g1.symm.trans hc)
  subst hr
  obtain ⟨hS, hfc, kC, hkC, hkind⟩ := hK.1 ci _ hc
  obtain ⟨cf, kf, fi, f, hi, hsl⟩ := hS k hk
  have hlay := hts _ (hin _ (u_in_lay hk))
  unfold u_lay at hlay
  rw [if_pos hfin] at hlay
  have hst := (u_facts hfc hkC (u_lays hts hin hk) hi).1
  have hcf : m.cls = cf := by
    obtain ⟨_, _, c', _, _, _, -, -, hf', -, -, -, hown2, -⟩ := Cond.laysFinal_spec hlay
    have e1 : c' = cf := by have := hi.symm.trans hf'; simp at this; exact this.1.symm
    rw [hdecl] at hown2
    rw [← e1]; exact Option.some.inj (hown.symm.trans hown2)
  have h6 := u_fits hfc hkC hkind (Or.inr hlay) hi (hty k hk) hn hfit
  refine W.putFinK hx hb hown (hts _ hl) hi hst hcf hin2 (by rw [q2]; exact h6) q1 q3 (by rw [hsl]; exact k2_hasslot (q4 k hk)) rfl rfl hdg fun H' e1 e2 e3 => ?_
  rw [hsl] at e1 ⊢
  exact kk H' _ (w.put h1 hba e2 e3 ⟨_, hc, t_OB.to (V := updV (vp_V fs) k v) ⟨_, e1, q2, q3, t_set q4 hap hk v⟩ (fun j _ => vp_updV_set hlf v j)⟩ (fun hz c9 h9 => by rw [e1] at h9; cases h9; exact (show cell.monitor = {} from (w.2.1 _ _ h1).2.2 hz cell q1)))
theorem cg_iald (C : CX p s m args c cc own D dA) (w : CW D dA A s h H locs) {a : Nat} {i x : Int32} (e1 : aI h 0 a i = some x) (hdg : decode cc pc = .ok (.iaload, 1))
    (kk : W p l e R s m args below meth c H locs cells slots Q (F0 m (pc + 1) ls (.int x :: rest))) : W p l e R s m args below meth c H locs cells slots Q (F0 m pc ls (.int i :: .ref a :: rest)) := by
  rcases aI_E e1 with ⟨n, f, h1, h2, rfl⟩ | ⟨h2, -⟩
  case inr => cases h2
  exact va_iald C.1 C.2.1 C.2.2.2.2 (w.one h1) 0 0 rfl rfl (ix_in h2) hdg kk
theorem cg_bald (C : CX p s m args c cc own D dA) (w : CW D dA A s h H locs) {a : Nat} {i x : Int32} (e1 : aI h 2 a i = some x) (hdg : decode cc pc = .ok (.baload, 1))
    (kk : W p l e R s m args below meth c H locs cells slots Q (F0 m (pc + 1) ls (.int x :: rest))) : W p l e R s m args below meth c H locs cells slots Q (F0 m pc ls (.int i :: .ref a :: rest)) := by
  rcases aI_E e1 with ⟨n, f, h1, h2, rfl⟩ | ⟨-, bs, h1, h2, rfl⟩
  case inr => exact va_tb C.1 C.2.1 (w.2.2.2.2.2.1 a _ h1) w.2.2.1 (ix_in h2) rfl hdg kk
  exact va_bald C.1 C.2.1 C.2.2.2.2 (w.one h1) 0 2 rfl rfl (ix_in h2) hdg kk
theorem cg_lald (C : CX p s m args c cc own D dA) (w : CW D dA A s h H locs) {a : Nat} {i : Int32} {x : Int64} (e1 : aL h 1 a i = some x) (hdg : decode cc pc = .ok (.laload, 1))
    (kk : W p l e R s m args below meth c H locs cells slots Q (F0 m (pc + 1) ls (.long x :: rest))) : W p l e R s m args below meth c H locs cells slots Q (F0 m pc ls (.int i :: .ref a :: rest)) := by
  obtain ⟨n, f, h1, h2, rfl⟩ := aL_E e1
  exact va_lald C.1 C.2.1 C.2.2.2.2 (w.one h1) 0 1 rfl rfl (ix_in h2) hdg kk
theorem cg_aald3 (C : CX p s m args c cc own D dA) (w : CW D dA A s h H locs) {a : Nat} {i : Int32} {x : Option Nat} (e1 : aQ h 3 a i = some x) (hdg : decode cc pc = .ok (.aaload, 1))
    (kk : W p l e R s m args below meth c H locs cells slots Q (F0 m (pc + 1) ls (va_rf x :: rest))) : W p l e R s m args below meth c H locs cells slots Q (F0 m pc ls (.int i :: .ref a :: rest)) := by
  obtain ⟨n, f, h1, h2, rfl⟩ := aQ_E e1
  exact va_aldq C.1 C.2.1 C.2.2.2.2 (w.one h1) 0 3 rfl rfl (ix_in h2) hdg kk
theorem cg_aaldA (C : CX p s m args c cc own D dA) (w : CW D dA A s h H locs) {t a : Nat} {i : Int32} {x : Option Nat} {ty : FieldType} (ht : (cTys dA)[t]? = some (dA t, ty)) (hty : ty.isReference = true) (e1 : aQ h t a i = some x) (hdg : decode cc pc = .ok (.aaload, 1))
    (kk : W p l e R s m args below meth c H locs cells slots Q (F0 m (pc + 1) ls (va_rf x :: rest))) : W p l e R s m args below meth c H locs cells slots Q (F0 m pc ls (.int i :: .ref a :: rest)) := by
  obtain ⟨n, f, h1, h2, rfl⟩ := aQ_E e1
  have hlt : i.toNatClampNeg < n := Nat.not_le.mp fun q => (ix_in h2) (Or.inr q)
  exact W.aald (v := va_rf (f i.toNatClampNeg)) C.1 C.2.1 (w.one h1 0 _ rfl) ((C.2.2.2.2.2 t _ ht).1 n (fun j => va_rf (f j))) hty (fun q => by cases q) (by show ¬ (i < 0 ∨ (arrV _ _ _).slots.size ≤ _); rw [arrV_size]; exact ix_in h2) (by show (arrV _ _ _).slots[_]? = _; rw [arrV_read _ _ hlt]) rfl rfl hdg kk
theorem cg_alen (C : CX p s m args c cc own D dA) (w : CW D dA A s h H locs) {t a n : Nat} {ty : FieldType} (ht : (cTys dA)[t]? = some (dA t, ty)) (e1 : aN h t a = some n) (hdg : decode cc pc = .ok (.arraylength, 1))
    (kk : W p l e R s m args below meth c H locs cells slots Q (F0 m (pc + 1) ls (.int (Int32.ofNat n) :: rest))) : W p l e R s m args below meth c H locs cells slots Q (F0 m pc ls (.ref a :: rest)) := by
  rcases aN_E e1 with ⟨g, h1⟩ | ⟨rfl, h1⟩ | ⟨rfl, bs, h1, rfl⟩
  case inr.inl => exact va_tlen C.1 C.2.1 (w.2.2.2.2.2.1 a _ h1) w.2.2.1 rfl hdg kk
  case inr.inr => exact va_tlen C.1 C.2.1 (w.2.2.2.2.2.1 a _ h1) w.2.2.1 rfl hdg kk
  have h2 := w.one h1
  rcases g with f | f | f
  · exact va_alen (x := (n, .inl f)) C.1 C.2.1 C.2.2.2.2 h2 0 t rfl ht rfl hdg kk
  · exact va_alen (x := (n, .inr (.inl f))) C.1 C.2.1 C.2.2.2.2 h2 0 t rfl ht rfl hdg kk
  · exact va_alen (x := (n, .inr (.inr (.inr (.inr f))))) C.1 C.2.1 C.2.2.2.2 h2 0 t rfl ht rfl hdg kk
theorem cg_iast (C : CX p s m args c cc own D dA) (w : CW D dA A s h H locs) {a : Nat} {i x : Int32} {h' : CH} (e1 : uI h 0 a i x = some h') (hdg : decode cc pc = .ok (.iastore, 1))
    (kk : ∀ (H : Heap) (locs : List Loc), CW D dA A s h' H locs → W p l e R s m args below meth c H locs cells slots Q (F0 m (pc + 1) ls rest)) : W p l e R s m args below meth c H locs cells slots Q (F0 m pc ls (.int x :: .int i :: .ref a :: rest)) := by
  obtain ⟨n, f, h1, hba, h2, rfl⟩ := uI_E e1
  refine W.iast C.1 C.2.1 (w.one h1 0 _ rfl) ((C.2.2.2.2.2 0 _ rfl).1 n (fun j => .int (f j))) (fun q => by cases q) (by show ¬ (i < 0 ∨ (arrV _ _ _).slots.size ≤ _); rw [arrV_size]; exact ix_in h2) rfl rfl hdg fun H1 e z oq => ?_
  refine kk H1 _ (w.putA h1 hba z oq ?_)
  show H1[a]? = some (vp_cell _ _)
  rw [e]
  rw [vp_cell_i, vp_cell_i, arrV_store]
  congr 2
  funext q
  by_cases hq : q = i.toNatClampNeg
  · subst hq
    simp [updV, upd]
  · simp [updV, upd, hq]
theorem cg_last (C : CX p s m args c cc own D dA) (w : CW D dA A s h H locs) {a : Nat} {i : Int32} {x : Int64} {h' : CH} (e1 : uL h 1 a i x = some h') (hdg : decode cc pc = .ok (.lastore, 1))
    (kk : ∀ (H : Heap) (locs : List Loc), CW D dA A s h' H locs → W p l e R s m args below meth c H locs cells slots Q (F0 m (pc + 1) ls rest)) : W p l e R s m args below meth c H locs cells slots Q (F0 m pc ls (.long x :: .int i :: .ref a :: rest)) := by
  obtain ⟨n, f, h1, hba, h2, rfl⟩ := uL_E e1
  refine W.last C.1 C.2.1 (w.one h1 0 _ rfl) ((C.2.2.2.2.2 1 _ rfl).1 n (fun j => .long (f j))) (fun q => by cases q) (by show ¬ (i < 0 ∨ (arrV _ _ _).slots.size ≤ _); rw [arrV_size]; exact ix_in h2) rfl rfl hdg fun H1 e z oq => ?_
  refine kk H1 _ (w.putA h1 hba z oq ?_)
  show H1[a]? = some (vp_cell _ _)
  rw [e]
  rw [vp_cell_l, vp_cell_l, arrV_store]
  congr 2
  funext q
  by_cases hq : q = i.toNatClampNeg
  · subst hq
    simp [updV, vp_updL]
  · simp [updV, vp_updL, hq]
theorem cg_bast (C : CX p s m args c cc own D dA) (w : CW D dA A s h H locs) {a : Nat} {i x : Int32} {h' : CH} (e1 : uI h 2 a i (vp_nar .byte x) = some h') (hdg : decode cc pc = .ok (.bastore, 1))
    (kk : ∀ (H : Heap) (locs : List Loc), CW D dA A s h' H locs → W p l e R s m args below meth c H locs cells slots Q (F0 m (pc + 1) ls rest)) : W p l e R s m args below meth c H locs cells slots Q (F0 m pc ls (.int x :: .int i :: .ref a :: rest)) := by
  obtain ⟨n, f, h1, hba, h2, rfl⟩ := uI_E e1
  refine W.bast C.1 C.2.1 (w.one h1 0 _ rfl) ((C.2.2.2.2.2 2 _ rfl).1 n (fun j => .int (f j))) (fun q => by cases q) (by show ¬ (i < 0 ∨ (arrV _ _ _).slots.size ≤ _); rw [arrV_size]; exact ix_in h2) rfl rfl hdg fun H1 e z oq => ?_
  refine kk H1 _ (w.putA h1 hba z oq ?_)
  show H1[a]? = some (vp_cell _ _)
  rw [e]
  rw [vp_cell_i, vp_cell_i, arrV_store]
  congr 2
  funext q
  by_cases hq : q = i.toNatClampNeg
  · subst hq
    simp [updV, upd, vp_nar_byte]
    rfl
  · simp [updV, upd, hq]
theorem cg_new {C0 : CX p s m args c cc own D dA} (w : CW D dA A s h H locs) {Cn : String} {T : u_T} {N ci : Nat} (hc : gCl[ci]? = some (Cn, T, N)) (hin : ∀ w ∈ u_ws Cn T N, w ∈ lw_all) (ty : Nat → FieldType) (hty : ∀ k, k < N → parseFieldDescriptor (T k).2.2.1 = some (ty k)) {index : Nat} (hcl : Cond.classLink own index Cn ∈ lw_all) (hinst : Cond.instantiable Cn N ∈ lw_all) (hini : Cond.initialized Cn ∈ lw_all) {fs : List Value} (hfs : ∀ j, j < N → defaultValue (ty j) = vp_V fs j) (hcells : cells + 1 ≤ R.cells) (hslots : slots + N ≤ R.slots) (hdg : decode cc pc = .ok (.new index, 3))
    (kk : ∀ (H : Heap), CW D dA A s (cn h N (.inl (ci, fs))) H locs → W p l e R s m args below meth c H locs (cells + 1) (slots + N) Q (F0 m (pc + 3) ls (.ref h.1 :: rest))) : W p l e R s m args below meth c H locs cells slots Q (F0 m pc ls rest) := by
  obtain ⟨hx, hb, hown, hts, hK⟩ := C0
  have hKn := hK.1 ci _ hc
  refine W.newcK hx hb hown (hts _ hcl) (hts _ hinst) (hts _ hini) rfl hdg hcells hslots hKn.2.1 w.1 fun H1 kC hkC e1 z1 o1 => ?_
  rw [← w.1] at e1 z1 o1
  exact kk H1 (w.grow z1 o1 ⟨_, hc, (u_born ty hts hin hKn hkC e1 hty).to hfs⟩ (fun _ c9 h9 => by rw [e1] at h9; cases h9; rfl))
theorem cg_newJ {C0 : CX p s m args c cc own D dA} (w : CW D dA A s h H locs) {n : Int32} {N : Nat} (hn : ¬ n < 0) (hN : n.toNatClampNeg = N) (hby : N ≤ 1000000) (hcells : cells + 1 ≤ R.cells) (hslots : slots + N ≤ R.slots) (hdg : decode cc pc = .ok (.newarray .long, 2))
    (kk : ∀ (H : Heap), CW D dA A s (cn h N (.inr (1, N, .inr (.inl (fun _ => 0))))) H locs → W p l e R s m args below meth c H locs (cells + 1) (slots + N) Q (F0 m (pc + 2) ls (.ref h.1 :: rest))) : W p l e R s m args below meth c H locs cells slots Q (F0 m pc ls (.int n :: rest)) := by
  obtain ⟨hx, hb, hown, hts, hK⟩ := C0
  refine va_newaK (atype := .long) hx hb (hts _ q217) rfl hdg rfl hn hN (by show N * 8 ≤ 536870912; omega) hcells hslots w.1 fun H1 cA e1 z1 o1 _ hf => ?_
  have hd : cA = dA 1 := Option.some.inj (hf.symm.trans (hK.2 1 _ rfl).2)
  subst hd
  rw [← w.1] at e1 z1 o1
  exact kk H1 (w.growA z1 o1 e1)
theorem cg_newI {C0 : CX p s m args c cc own D dA} (w : CW D dA A s h H locs) {n : Int32} {N : Nat} (hn : ¬ n < 0) (hN : n.toNatClampNeg = N) (hby : N ≤ 1000000) (hcells : cells + 1 ≤ R.cells) (hslots : slots + N ≤ R.slots) (hdg : decode cc pc = .ok (.newarray .int, 2))
    (kk : ∀ (H : Heap), CW D dA A s (cn h N (.inr (0, N, .inl (fun _ => 0)))) H locs → W p l e R s m args below meth c H locs (cells + 1) (slots + N) Q (F0 m (pc + 2) ls (.ref h.1 :: rest))) : W p l e R s m args below meth c H locs cells slots Q (F0 m pc ls (.int n :: rest)) := by
  obtain ⟨hx, hb, hown, hts, hK⟩ := C0
  refine va_newaK (atype := .int) hx hb (hts _ q216) rfl hdg rfl hn hN (by show N * 4 ≤ 536870912; omega) hcells hslots w.1 fun H1 cA e1 z1 o1 _ hf => ?_
  have hd : cA = dA 0 := Option.some.inj (hf.symm.trans (hK.2 0 _ rfl).2)
  subst hd
  rw [← w.1] at e1 z1 o1
  exact kk H1 (w.growA z1 o1 e1)
theorem cg_newB {C0 : CX p s m args c cc own D dA} (w : CW D dA A s h H locs) {n : Int32} {N : Nat} (hn : ¬ n < 0) (hN : n.toNatClampNeg = N) (hby : N ≤ 1000000) (hcells : cells + 1 ≤ R.cells) (hslots : slots + N ≤ R.slots) (hdg : decode cc pc = .ok (.newarray .byte, 2))
    (kk : ∀ (H : Heap), CW D dA A s (cn h N (.inr (2, N, .inl (fun _ => 0)))) H locs → W p l e R s m args below meth c H locs (cells + 1) (slots + N) Q (F0 m (pc + 2) ls (.ref h.1 :: rest))) : W p l e R s m args below meth c H locs cells slots Q (F0 m pc ls (.int n :: rest)) := by
  obtain ⟨hx, hb, hown, hts, hK⟩ := C0
  refine va_newaK (atype := .byte) hx hb (hts _ q215) rfl hdg rfl hn hN (by show N * 1 ≤ 536870912; omega) hcells hslots w.1 fun H1 cA e1 z1 o1 _ hf => ?_
  have hd : cA = dA 2 := Option.some.inj (hf.symm.trans (hK.2 2 _ rfl).2)
  subst hd
  rw [← w.1] at e1 z1 o1
  exact kk H1 (w.growA z1 o1 e1)
end CWR
theorem CW.ext {D : va_G} {dA : Nat → ClassId} {A : Nat → Prop} {s : State} {H H1 : Heap} {h h' : CH} {locs : List Loc} (w : CW D dA A s h H locs) (hs : H1.size = h'.1) (hb : h'.2.2.1 = h.2.2.1) (hkt : h'.2.2.2.2 = h.2.2.2.2) (hle : H.size ≤ H1.size) (oq : ∀ q : Nat, q < H.size → H1[q]? = H[q]?) (hm : ∀ b e, h'.2.2.2.1 b = some e → h.2.2.2.1 b = some e ∨ (H.size ≤ b ∧ va_at D gCl (b, toE dA e) H1 ∧ moF b e H1)) : CW D dA A s h' H1 locs := by
  refine ⟨hs, fun b e2 hb2 => ?_, ⟨Nat.le_trans w.2.2.1.1 hle, fun x g1 g2 => (oq x (Nat.lt_of_lt_of_le g1 w.2.2.1.1)).trans (w.2.2.1.2.1 x g1 g2), w.2.2.1.2.2⟩, w.2.2.2.1, by rw [hkt]; exact w.2.2.2.2⟩
  rcases hm b e2 hb2 with g | ⟨g1, g2, g3⟩
  · have h5 := w.2.1 b e2 g
    exact ⟨h5.1.kept (oq b (w.lt g)), by rw [hb]; exact h5.2.1, h5.2.2.kept (oq b (w.lt g))⟩
  · exact ⟨g2, fun _ => w.2.2.2.1 _ (Nat.le_trans w.2.2.1.1 g1), g3⟩
/-- three rows of three, new: the outer array first -/
def cM (h : CH) (to_ : Nat) (inner : AC) : CH := cn (cn (cn (cn h 3 (.inr (to_, 3, .inr (.inr (fun j => if j < 3 then some (h.1 + 1 + j) else none))))) 3 inner) 3 inner) 3 inner
section CMR
variable {p : Program} {l : Launch} {e : Env} {R : Room} {s : State} {m : MethodId} {args : Array Value} {below : List Frame} {meth : Method} {c : Code} {H : Heap} {locs : List Loc} {cells slots : Nat} {Q : State → Prop}
variable {cc : ByteArray} {pc : Nat} {ls : Array Slot} {rest : List Value} {D : va_G} {dA : Nat → ClassId} {A : Nat → Prop} {h : CH} {own : String}
theorem cg_multi (C0 : CX p s m args c cc own D dA) (w : CW D dA A s h H locs) {index to_ ti : Nat} {ty : FieldType} {inner : AC} (hcl : Cond.classLink own index ("[" ++ (FieldType.array ty).toString) ∈ lw_all) (hov : va_Nw (Cond.arrayOver (.array ty)) s) (harr : Cond.arrayClass ty ∈ lw_all) (hto : (cTys dA)[to_]? = some (dA to_, .array ty)) (hti : (cTys dA)[ti]? = some (dA ti, ty)) (hRA : va_RA s (dA ti) ty = (s.vm.findClass ("[" ++ ty.toString) = some (dA ti))) (hRB : va_RA s (dA to_) (.array ty) = (s.vm.findClass ("[" ++ (FieldType.array ty).toString) = some (dA to_))) (hstr : (FieldType.array ty).toString = "[" ++ ty.toString) (hby : 3 * componentBytes ty ≤ 536870912) (hdf : fits ty (defaultValue ty) = true) (hdd : (defaultValue ty).isDefault = true) (hin : toE dA inner = .inl (dA ti, 3, (match inner with | .inr (_, _, .inl f) => .inl f | .inr (_, _, .inr (.inl f)) => .inr (.inl f) | _ => .inl (fun _ => 0)))) (hic : ∀ H1 : Heap, ∀ b, H1[b]? = some (arrV (dA ti) 3 (fun _ => defaultValue ty)) → va_at D gCl (b, toE dA inner) H1) (hcells : cells + 4 ≤ R.cells) (hslots : slots + 12 ≤ R.slots) (hdg : decode cc pc = .ok (.multianewarray index 2, 4))
    (kk : ∀ (H : Heap), CW D dA A s (cM h to_ inner) H locs → W p l e R s m args below meth c H locs (cells + 4) (slots + 12) Q (F0 m (pc + 4) ls (.ref h.1 :: rest))) : W p l e R s m args below meth c H locs cells slots Q (F0 m pc ls (.int 3 :: .int 3 :: rest)) := by
  obtain ⟨hx, hb, hown, hts, hK⟩ := C0
  have hmi : ∀ (b : Nat) (H1 : Heap), moF b inner H1 := by
    intro b H1
    rcases inner with o | o
    · cases hin
    · trivial
  intro T hT X
  obtain ⟨vm₁, cA, comp, hW1, hfA, hfC, -, -, X1, step⟩ := X.multianewarray2F hx (own := own) (index := index) (ty := ty) hown (hts _ hcl) (show (Cond.arrayOver (.array ty)).before args s = true from hov) (hts _ harr)
      (g := F0 m pc ls (.int 3 :: .int 3 :: rest)) rfl (by rw [hb]; exact hdg) (n := 3) (k := 3) (rest := rest) rfl (by decide) (by decide)
      (by decide) hby (by decide) hdf hdd (by show cells + (1 + 3) ≤ _; omega) (by show slots + (3 + 3 * 3) ≤ _; omega)
  have hcA : cA = dA to_ := Option.some.inj (hfA.symm.trans (hRB.mp (hK.2 to_ _ hto).2))
  have hco : comp = dA ti := Option.some.inj (hfC.symm.trans (by rw [hstr]; exact hRA.mp (hK.2 ti _ hti).2))
  subst hcA
  subst hco
  obtain ⟨f1, f2, f3, f4⟩ := Jvm.Free.Multi.fill_facts (T.setVm vm₁) (dA to_) (dA ti) 3 3 (defaultValue ty) 3
  have hTs : (T.setVm vm₁).heap.size = H.size := by show T.heap.size = _; rw [hT]
  have hF : ∀ H1, H1 = (Jvm.Free.Multi.fill (T.setVm vm₁) (dA to_) (dA ti) 3 3 (defaultValue ty) 3).heap → CW D dA A s (cM h to_ inner) H1 locs := by
    intro H1 hH1
    have g1 : H1.size = H.size + 1 + 3 := by rw [hH1, f1, hTs]
    have go : H1[H.size]? = some (Jvm.Free.Multi.outerC (dA to_) 3 H.size 3) := by rw [hH1, ← hTs]; exact f2
    have gi : ∀ j, j < 3 → H1[H.size + 1 + j]? = some (arrV (dA ti) 3 (fun _ => defaultValue ty)) := by
      intro j hj
      rw [hH1, ← hTs, Jvm.Free.Multi.fill_inner (T.setVm vm₁) (dA to_) (dA ti) 3 3 (defaultValue ty) 3 j hj, ← arrV_new]
      rfl
    have gold : ∀ q, q < H.size → H1[q]? = H[q]? := by
      intro q hq
      rw [hH1, Jvm.Free.Multi.fill_old (T.setVm vm₁) (dA to_) (dA ti) 3 3 (defaultValue ty) (by rw [hTs]; exact hq) 3]
      show T.heap[q]? = _
      rw [hT]
    have hsz := w.1
    refine w.ext (by rw [g1, hsz]; rfl) rfl rfl (by omega) gold ?_
    intro b e2 hb2
    have hb3 : va_up (va_up (va_up (va_up h.2.2.2.1 h.1 (some (.inr (to_, 3, .inr (.inr (fun j => if j < 3 then some (h.1 + 1 + j) else none)))))) (h.1 + 1) (some inner)) (h.1 + 1 + 1) (some inner)) (h.1 + 1 + 1 + 1) (some inner) b = some e2 := hb2
    simp only [va_up] at hb3
    split at hb3
    · rename_i hq
      cases hb3
      exact Or.inr ⟨by omega, hic H1 b (by rw [hq, ← hsz]; exact gi 2 (by decide)), hmi _ _⟩
    · split at hb3
      · rename_i hq
        cases hb3
        exact Or.inr ⟨by omega, hic H1 b (by rw [hq, ← hsz]; exact gi 1 (by decide)), hmi _ _⟩
      · split at hb3
        · rename_i hq
          cases hb3
          exact Or.inr ⟨by omega, hic H1 b (by rw [hq, ← hsz]; exact gi 0 (by decide)), hmi _ _⟩
        · split at hb3
          · rename_i hq
            cases hb3
            refine Or.inr ⟨by omega, ?_, trivial⟩
            show H1[b]? = some (vp_cell (dA to_) (3, .inr (.inr (.inr (.inr (fun j => if j < 3 then some (h.1 + 1 + j) else none))))))
            rw [hq, ← hsz, go, vp_cell_q]
            congr 1
          · exact Or.inl hb3
  have hgo := kk _ (hF _ rfl)
  obtain ⟨t, a1, b1⟩ := hgo _ rfl X1
  refine ⟨t, ?_, b1⟩
  have hst := step t
  rw [hT] at hst
  rw [w.1] at hst
  exact hst a1
end CMR
