/-! copies of arrays, class objects, casts of arrays -/
set_option maxRecDepth 100000
section CCP
variable {p : Program} {l : Launch} {e : Env} {R : Room} {s : State} {m : MethodId} {args : Array Value} {below : List Frame} {meth : Method} {c : Code} {H : Heap} {locs : List Loc} {cells slots : Nat} {Q : State → Prop}
variable {cc : ByteArray} {pc : Nat} {ls : Array Slot} {rest : List Value} {D : va_G} {dA : Nat → ClassId} {A : Nat → Prop} {h : CH} {own : String}
theorem cg_instN (C : CX p s m args c cc own D dA) (w : CW D dA A s h H locs) {a : Nat} (hi : isC h a 6 = true) {index : Nat} (hl : Cond.classLink own index "CoincideBench$Turned" ∈ lw_all) (hdg : decode cc pc = .ok (.instanceof index, 3))
    (kk : W p l e R s m args below meth c H locs cells slots Q (F0 m (pc + 3) ls (.int 0 :: rest))) : W p l e R s m args below meth c H locs cells slots Q (F0 m pc ls (.ref a :: rest)) :=
  va_instNo C.1 C.2.1 C.2.2.1 (C.2.2.2.1 _ hl) (w.2.2.2.2.2.2.2.2.2.1 0 _ rfl) (cg_rcv C w hi rfl) hdg kk
theorem cg_ldcM (C : CX p s m args c cc own D dA) (w : CW D dA A s h H locs) {a index : Nat} (e1 : sR h 40 = some a) (hl : Cond.classLink own index "[Ljava/lang/Object;" ∈ lw_all) (hdg : decode cc pc = .ok (.ldc index, 2))
    (kk : W p l e R s m args below meth c H locs cells slots Q (F0 m (pc + 2) ls (.ref a :: rest))) : W p l e R s m args below meth c H locs cells slots Q (F0 m pc ls rest) := by
  obtain ⟨mi, h1, h2⟩ := w.2.2.2.2.2.2.2.2.2.2.1
  have h3 : mi = a := Option.some.inj (h1.symm.trans e1)
  subst h3
  exact va_ldcM C.1 C.2.1 C.2.2.1 (C.2.2.2.1 _ hl) h2 hdg kk
theorem cg_arr3 (C : CX p s m args c cc own D dA) (w : CW D dA A s h H locs) {a n : Nat} {f : Nat → Option Nat} (he : cm h a = some (.inr (3, n, .inr (.inr f)))) : ∃ cell : Cell, H[a]? = some cell ∧ cell.vm.isStatics = false ∧ s.vm.findClass "[Ljava/lang/Object;" = some cell.cls :=
  ⟨_, w.one he 0 _ rfl, rfl, va_nmO (C.2.2.2.2.2 3 _ rfl).2 (by decide)⟩
/-- an array of references that was made here -/
def isA3 (h : CH) (a : Nat) : Bool := match cm h a with
  | some (.inr (3, _, .inr (.inr _))) => true
  | _ => false
theorem isA3_E {h : CH} {a : Nat} (e : isA3 h a = true) : ∃ n f, cm h a = some (.inr (3, n, .inr (.inr f))) := by
  unfold isA3 at e
  split at e
  · rename_i n f he; exact ⟨n, f, he⟩
  · cases e
theorem cg_getC (C : CX p s m args c cc own D dA) (w : CW D dA A s h H locs) (hml : c.maxLocals = ls.size) {a mi index : Nat} (hi : isA3 h a = true) (e1 : sR h 40 = some mi) (hl : Cond.methodLink own index ⟨"java/lang/Object", "getClass", "()Ljava/lang/Class;"⟩ ∈ lw_all) (hd : va_Nw (Cond.declares ⟨"java/lang/Object", "getClass", "()Ljava/lang/Class;"⟩) s) (hsel : Cond.selects "[Ljava/lang/Object;" ⟨"java/lang/Object", "getClass", "()Ljava/lang/Class;"⟩ ⟨"java/lang/Object", "getClass", "()Ljava/lang/Class;"⟩ ∈ lw_all) (hin : Cond.instanceMethod ⟨"java/lang/Object", "getClass", "()Ljava/lang/Class;"⟩ ∈ lw_all) (hna : Cond.native ⟨"java/lang/Object", "getClass", "()Ljava/lang/Class;"⟩ ∈ lw_all) (hframes : 1 ≤ R.frames) (hlocals : (rest.map fun v => v.category).sum + 14 ≤ R.locals) (hdg : decode cc pc = .ok (.invokevirtual index, 3))
    (kk : W p l e R s m args below meth c H locs cells slots Q (F0 m (pc + 3) ls (.ref mi :: rest))) : W p l e R s m args below meth c H locs cells slots Q (F0 m pc ls (.ref a :: rest)) := by
  obtain ⟨mi', h1, h2⟩ := w.2.2.2.2.2.2.2.2.2.2.1
  have h3 : mi' = mi := Option.some.inj (h1.symm.trans e1)
  subst h3
  obtain ⟨n, f, he⟩ := isA3_E hi
  exact va_getC C.1 C.2.1 hml C.2.2.1 (C.2.2.2.1 _ hl) (va_Nw.use rfl hd) (C.2.2.2.1 _ hsel) (C.2.2.2.1 _ hin) (C.2.2.2.1 _ hna) h2 (cg_arr3 C w he) hframes hlocals hdg kk
theorem cg_cast3 (C : CX p s m args c cc own D dA) (w : CW D dA A s h H locs) {a index : Nat} (hi : isA3 h a = true) (hl : Cond.classLink own index "[Ljava/lang/Object;" ∈ lw_all) (hdg : decode cc pc = .ok (.checkcast index, 3))
    (kk : W p l e R s m args below meth c H locs cells slots Q (F0 m (pc + 3) ls (.ref a :: rest))) : W p l e R s m args below meth c H locs cells slots Q (F0 m pc ls (.ref a :: rest)) := by
  obtain ⟨n, f, he⟩ := isA3_E hi
  obtain ⟨cell, h1, h2, h3⟩ := cg_arr3 C w he
  intro T hT X
  obtain ⟨vm', X', st⟩ := X.checkcastYes C.1 C.2.2.1 (C.2.2.2.1 _ hl) (by rw [hT]; exact h1) h2 h3 (Vm.assignable_self s.vm cell.cls) (g := F0 m pc ls (.ref a :: rest)) rfl rfl (by rw [C.2.1]; exact hdg)
  obtain ⟨t, a1, b1⟩ := kk (T.setVm vm') hT X'
  exact ⟨t, st t a1, b1⟩
theorem cg_copyO (C : CX p s m args c cc own D dA) (w : CW D dA A s h H locs) (hml : c.maxLocals = ls.size) {index : Nat} (hl : Cond.methodLink own index arraycopyName ∈ lw_all) (hnat : Cond.native arraycopyName ∈ lw_all) (hstat : Cond.static arraycopyName ∈ lw_all) (hini : Cond.initialized "java/lang/System" ∈ lw_all) {a0 a : Nat} {sp dp n : Int32} {h' : CH} (e1 : cpO h a0 sp a dp n = some h') (hframes : 1 ≤ R.frames) (hlocals : (rest.map fun v => v.category).sum + (nativeFrameWords "java/lang/System" "arraycopy" 5 + 11) ≤ R.locals) (hdg : decode cc pc = .ok (.invokestatic index, 3))
    (kk : ∀ (H : Heap) (locs : List Loc), CW D dA A s h' H locs → W p l e R s m args below meth c H locs cells slots Q (F0 m (pc + 3) ls rest)) : W p l e R s m args below meth c H locs cells slots Q (F0 m pc ls (.int n :: .int dp :: .ref a :: .int sp :: .ref a0 :: rest)) := by
  obtain ⟨n0, n1, f, g, g1, g2, ⟨h0, h1, h2, h3, h4, h5, h6⟩, rfl⟩ := cpO_E e1
  have nn : ∀ z : Int32, ¬ z < 0 → z.toInt = (z.toNatClampNeg : Int) := by
    intro z hz
    have hz0 : (0 : Int) ≤ z.toInt := by
      have := Int32.not_lt.mp hz
      simpa using Int32.le_iff_toInt_le.mp this
    show z.toInt = ((z.toInt.toNat : Nat) : Int)
    omega
  intro T hT X
  have hc0 : H[a0]? = some (vp_cell (dA 3) (n0, .inr (.inr (.inr (.inr f))))) := w.one g1 0 _ rfl
  have hc1 : H[a]? = some (vp_cell (dA 3) (n1, .inr (.inr (.inr (.inr g))))) := w.one g2 0 _ rfl
  obtain ⟨-, k0, hk0, cm0, hkk0⟩ := (C.2.2.2.2.2 3 _ rfl).1 n0 (fun j => va_rf (f j))
  obtain ⟨-, k1, hk1, cm1, hkk1⟩ := (C.2.2.2.2.2 3 _ rfl).1 n1 (fun j => va_rf (g j))
  obtain ⟨vm', X', step⟩ := X.arraycopy C.1 C.2.2.1 (C.2.2.2.1 _ hl) (C.2.2.2.1 _ hnat) (C.2.2.2.1 _ hstat) (C.2.2.2.1 _ hini) (src := a0) (dst := a) (cs := vp_cell (dA 3) (n0, .inr (.inr (.inr (.inr f))))) (cd := vp_cell (dA 3) (n1, .inr (.inr (.inr (.inr g))))) (srcPos := sp) (destPos := dp) (n := n) (by rw [hT]; exact hc0) (by rw [hT]; exact hc1)
    (fun _ h => by cases h) (fun _ h => by cases h) (fun h => by cases h) (fun h => by cases h) hk0 hk1 hkk0 hkk1 rfl h1 h2 h3
    (by rw [nn sp h1, nn n h3]; show ¬ _ > ((arrV (dA 3) n0 (fun j => va_rf (f j))).slots.size : Int); rw [arrV_size]; omega)
    (by rw [nn dp h2, nn n h3]; show ¬ _ > ((arrV (dA 3) n1 (fun j => va_rf (g j))).slots.size : Int); rw [arrV_size]; omega)
    (fun vm₁ hal i hi => by
      have e : (vp_cell (dA 3) (n0, .inr (.inr (.inr (.inr f))))).slots.getD (sp.toNatClampNeg + i) .null = va_rf (f (sp.toNatClampNeg + i)) := by
        show (arrV (dA 3) n0 (fun j => va_rf (f j))).slots.getD _ _ = _
        rw [Array.getD_eq_getD_getElem?, arrV_read _ _ (by omega)]
        rfl
      rw [e]
      cases hy : f (sp.toNatClampNeg + i) with
      | none => exact ⟨rfl, trivial⟩
      | some y =>
        have hO : isO h y = true := by
          have hall := List.all_eq_true.mp h6 i (List.mem_range.mpr hi)
          rw [hy] at hall
          exact hall
        obtain ⟨cellV, v1, v2, ⟨kC, hkC⟩, hasg⟩ := cg_any C w hO
        obtain ⟨kA, comp, r1, r2, r3, -⟩ := (C.2.2.2.2.2 3 _ rfl).2
        cases hk1.symm.trans r1
        cases hkk1.symm.trans r2
        obtain ⟨kE, hkE, -⟩ := Vm.findClass_spec r3
        obtain ⟨kC', hkC', -⟩ := hal.2.2 _ _ hkC
        obtain ⟨kE', hkE', -⟩ := hal.2.2 _ _ hkE
        refine ⟨rfl, cellV, (show T.heap[y]? = some cellV by rw [hT]; exact v1), (fun q h => by rw [h] at v2; cases v2), ⟨kC', hkC'⟩, ?_, ?_⟩
        · exact ⟨kE', hkE'⟩
        · show vm₁.assignable _ _ = true
          rw [hal.assignable]
          exact hasg _ r3)
    (g := F0 m pc ls (.int n :: .int dp :: .ref a :: .int sp :: .ref a0 :: rest)) rfl (by rw [hml]) (rest := rest) rfl (by rw [C.2.1]; exact hdg) hframes (by show 2 * 0 + _ + _ ≤ _; omega)
  have e1 : copied (vp_cell (dA 3) (n0, .inr (.inr (.inr (.inr f))))) (vp_cell (dA 3) (n1, .inr (.inr (.inr (.inr g))))) sp dp n = vp_cell (dA 3) (n1, .inr (.inr (.inr (.inr (va_cpy f g sp.toNatClampNeg dp.toNatClampNeg n.toNatClampNeg))))) := by
    rw [vp_cell_q, vp_cell_q, vp_cell_q]
    exact va_copied (fun z => va_rf z) (dA 3) (dA 3) f g h4
  rw [e1] at X' step
  have hl0 : a < H.size := (Array.getElem?_eq_some_iff.mp hc1).1
  have hheap : ((T.setVm vm').setCell a (vp_cell (dA 3) (n1, .inr (.inr (.inr (.inr (va_cpy f g sp.toNatClampNeg dp.toNatClampNeg n.toNatClampNeg))))))).heap = H.setIfInBounds a (vp_cell (dA 3) (n1, .inr (.inr (.inr (.inr (va_cpy f g sp.toNatClampNeg dp.toNatClampNeg n.toNatClampNeg)))))) := by rw [← hT]; rfl
  have oq : ∀ q : Nat, q ≠ a → (H.setIfInBounds a (vp_cell (dA 3) (n1, .inr (.inr (.inr (.inr (va_cpy f g sp.toNatClampNeg dp.toNatClampNeg n.toNatClampNeg)))))))[q]? = H[q]? := fun q hq => by simp [Array.getElem?_setIfInBounds, Ne.symm hq]
  obtain ⟨t, a1, b1⟩ := kk _ _ ⟨by simp; exact w.1, (w.putA (e' := (3, n1, .inr (.inr (va_cpy f g sp.toNatClampNeg dp.toNatClampNeg n.toNatClampNeg)))) g2 h0 (j := 0) (by simp) oq (by show (H.setIfInBounds a _)[a]? = some _; simp [Array.getElem?_setIfInBounds, hl0, toE])).2.1, ⟨by simp; exact w.2.2.1.1, fun q x1 x2 => by
      rw [oq q (fun e => x2 (by rw [e]; exact (w.2.1 a _ g2).2.1 h0))]
      exact w.2.2.1.2.1 q x1 x2, fun q hq => by
      rcases List.mem_append.mp hq with x | x
      · exact w.2.2.1.2.2 q x
      · obtain ⟨z, -, hz⟩ := List.mem_map.mp x
        rw [← hz]
        exact (w.2.1 a _ g2).2.1 h0⟩, w.2.2.2.1, w.2.2.2.2⟩ _ hheap X'
  exact ⟨t, step t a1, b1⟩
theorem cg_copyB (C : CX p s m args c cc own D dA) (w : CW D dA A s h H locs) (hml : c.maxLocals = ls.size) {index : Nat} (hl : Cond.methodLink own index arraycopyName ∈ lw_all) (hnat : Cond.native arraycopyName ∈ lw_all) (hstat : Cond.static arraycopyName ∈ lw_all) (hini : Cond.initialized "java/lang/System" ∈ lw_all) {a0 a : Nat} {sp dp n : Int32} {h' : CH} (e1 : cpB h a0 sp a dp n = some h') (hframes : 1 ≤ R.frames) (hlocals : (rest.map fun v => v.category).sum + (nativeFrameWords "java/lang/System" "arraycopy" 5 + 11) ≤ R.locals) (hdg : decode cc pc = .ok (.invokestatic index, 3))
    (kk : ∀ (H : Heap) (locs : List Loc), CW D dA A s h' H locs → W p l e R s m args below meth c H locs cells slots Q (F0 m (pc + 3) ls rest)) : W p l e R s m args below meth c H locs cells slots Q (F0 m pc ls (.int n :: .int dp :: .ref a :: .int sp :: .ref a0 :: rest)) := by
  obtain ⟨n0, n1, f, g, g1, g2, ⟨h0, h1, h2, h3, h4, h5, h6⟩, rfl⟩ := cpB_E e1
  have nn : ∀ z : Int32, ¬ z < 0 → z.toInt = (z.toNatClampNeg : Int) := by
    intro z hz
    have hz0 : (0 : Int) ≤ z.toInt := by
      have := Int32.not_lt.mp hz
      simpa using Int32.le_iff_toInt_le.mp this
    show z.toInt = ((z.toInt.toNat : Nat) : Int)
    omega
  intro T hT X
  have hc0 : H[a0]? = some (vp_cell (dA 2) (n0, .inl f)) := w.one g1 0 _ rfl
  have hc1 : H[a]? = some (vp_cell (dA 2) (n1, .inl g)) := w.one g2 0 _ rfl
  obtain ⟨-, k0, hk0, cm0, hkk0⟩ := (C.2.2.2.2.2 2 _ rfl).1 n0 (fun j => .int (f j))
  obtain ⟨-, k1, hk1, cm1, hkk1⟩ := (C.2.2.2.2.2 2 _ rfl).1 n1 (fun j => .int (g j))
  obtain ⟨vm', X', step⟩ := X.arraycopy C.1 C.2.2.1 (C.2.2.2.1 _ hl) (C.2.2.2.1 _ hnat) (C.2.2.2.1 _ hstat) (C.2.2.2.1 _ hini) (src := a0) (dst := a) (cs := vp_cell (dA 2) (n0, .inl f)) (cd := vp_cell (dA 2) (n1, .inl g)) (srcPos := sp) (destPos := dp) (n := n) (by rw [hT]; exact hc0) (by rw [hT]; exact hc1)
    (fun _ h => by cases h) (fun _ h => by cases h) (fun h => by cases h) (fun h => by cases h) hk0 hk1 hkk0 hkk1 rfl h1 h2 h3
    (by rw [nn sp h1, nn n h3]; show ¬ _ > ((arrV (dA 2) n0 (fun j => .int (f j))).slots.size : Int); rw [arrV_size]; omega)
    (by rw [nn dp h2, nn n h3]; show ¬ _ > ((arrV (dA 2) n1 (fun j => .int (g j))).slots.size : Int); rw [arrV_size]; omega)
    (fun vm₁ _ i hi => by
      have e : (vp_cell (dA 2) (n0, .inl f)).slots.getD (sp.toNatClampNeg + i) .null = .int (f (sp.toNatClampNeg + i)) := by
        show (arrV (dA 2) n0 (fun j => .int (f j))).slots.getD _ _ = _
        rw [Array.getD_eq_getD_getElem?, arrV_read _ _ (by omega)]
        rfl
      refine ⟨?_, ?_⟩
      · rw [e]
        exact bb_fit (List.all_eq_true.mp h6 i (List.mem_range.mpr hi))
      · rw [e]
        exact trivial)
    (g := F0 m pc ls (.int n :: .int dp :: .ref a :: .int sp :: .ref a0 :: rest)) rfl (by rw [hml]) (rest := rest) rfl (by rw [C.2.1]; exact hdg) hframes (by show 2 * 0 + _ + _ ≤ _; omega)
  have e1 : copied (vp_cell (dA 2) (n0, .inl f)) (vp_cell (dA 2) (n1, .inl g)) sp dp n = vp_cell (dA 2) (n1, .inl (va_cpy f g sp.toNatClampNeg dp.toNatClampNeg n.toNatClampNeg)) := va_copied (fun z => .int z) (dA 2) (dA 2) f g h4
  rw [e1] at X' step
  have hl0 : a < H.size := (Array.getElem?_eq_some_iff.mp hc1).1
  have hheap : ((T.setVm vm').setCell a (vp_cell (dA 2) (n1, .inl (va_cpy f g sp.toNatClampNeg dp.toNatClampNeg n.toNatClampNeg)))).heap = H.setIfInBounds a (vp_cell (dA 2) (n1, .inl (va_cpy f g sp.toNatClampNeg dp.toNatClampNeg n.toNatClampNeg))) := by rw [← hT]; rfl
  have oq : ∀ q : Nat, q ≠ a → (H.setIfInBounds a (vp_cell (dA 2) (n1, .inl (va_cpy f g sp.toNatClampNeg dp.toNatClampNeg n.toNatClampNeg))))[q]? = H[q]? := fun q hq => by simp [Array.getElem?_setIfInBounds, Ne.symm hq]
  obtain ⟨t, a1, b1⟩ := kk _ _ ⟨by simp; exact w.1, (w.putA (e' := (2, n1, .inl (va_cpy f g sp.toNatClampNeg dp.toNatClampNeg n.toNatClampNeg))) g2 h0 (j := 0) (by simp) oq (by show (H.setIfInBounds a _)[a]? = some _; simp [Array.getElem?_setIfInBounds, hl0, toE])).2.1, ⟨by simp; exact w.2.2.1.1, fun q x1 x2 => by
      rw [oq q (fun e => x2 (by rw [e]; exact (w.2.1 a _ g2).2.1 h0))]
      exact w.2.2.1.2.1 q x1 x2, fun q hq => by
      rcases List.mem_append.mp hq with x | x
      · exact w.2.2.1.2.2 q x
      · obtain ⟨z, -, hz⟩ := List.mem_map.mp x
        rw [← hz]
        exact (w.2.1 a _ g2).2.1 h0⟩, w.2.2.2.1, w.2.2.2.2⟩ _ hheap X'
  exact ⟨t, step t a1, b1⟩
end CCP
section C5
variable {p : Program} {l : Launch} {e : Env} {R : Room} {s : State} {m : MethodId} {args : Array Value} {below : List Frame} {meth : Method} {c : Code} {H : Heap} {locs : List Loc} {cells slots : Nat} {Q : State → Prop}
variable {pc : Nat} {ls : Array Slot} {rest st0 : List Value} {a : Array Value} {A0 A1 : Nat → Prop} {H0 : Heap} {mc ms : Nat} {free : Addr → Prop}
theorem call5r {S : Type} {post : S → Prop} {B : S → Nat → State → Prop} (hr : va_Run5 p l e R s m args below meth c H locs cells slots mc ms (F0 m pc ls st0) rest (va_Qr post B A1 a) free) (hS : va_S A0 H0 H locs) (hA : ∀ q, q < H.size → A1 q → A0 q) (hf : ∀ q, free q → A0 q)
    (kk : ∀ (u : S) (ra : Nat) (t : State) (H1 : Heap) (locs1 : List Loc), t.heap = H1 → s.vm.Alike t.vm → post u → B u ra t → H.size ≤ H1.size → (∀ q : Nat, q < H.size → ¬ A1 q → H1[q]? = H[q]?) → va_S A0 H0 H1 locs1 → W p l e R s m args below meth c H1 locs1 (cells + mc) (slots + ms) Q (F0 m (pc + 5) ls (.ref ra :: rest))) : W p l e R s m args below meth c H locs cells slots Q (F0 m pc ls st0) := by
  intro T hT X
  obtain ⟨v, st₀, t, T', L, h0, X', hL, e1, e2, ⟨⟨u, ra, hv, hp, hb⟩, hz, hk⟩, st⟩ := hr T hT X
  cases hv
  rw [h0] at hz hk
  obtain ⟨t2, a1, b1⟩ := kk u ra t T'.heap (locs ++ L) e1.symm (by rw [← e2]; exact X'.warmed.alike) hp hb (by rw [e1]; exact hz) (fun q h1 h2 => by rw [e1]; exact hk q h1 h2)
    ⟨Nat.le_trans hS.1 (by rw [e1]; exact hz), fun q h1 h2 => by rw [e1, hk q (Nat.lt_of_lt_of_le h1 hS.1) (fun z => h2 (hA q (Nat.lt_of_lt_of_le h1 hS.1) z))]; exact hS.2.1 q h1 h2, fun q hq => by
      rcases List.mem_append.mp hq with h | h
      · exact hS.2.2 q h
      · exact hf _ (hL q h)⟩ T' rfl X'
  exact ⟨t2, st t2 a1, b1⟩
theorem cg_call5r {D : va_G} {dA : Nat → ClassId} {A : Nat → Prop} {h : CH} {r0 : Nat} {u1 : CH} {a : Array Value} {st0 : List Value} {mc ms : Nat} (w : CW D dA A s h H locs) (hle : le2 h u1) (hr : va_Run5 p l e R s m args below meth c H locs cells slots mc ms (F0 m pc ls st0) rest (va_Qr (fun u => u = u1) (fun u r t => r = r0 ∧ CPost D dA A u t) A a) A)
    (kk : ∀ (H : Heap) (locs : List Loc), CW D dA A s u1 H locs → W p l e R s m args below meth c H locs (cells + mc) (slots + ms) Q (F0 m (pc + 5) ls (.ref r0 :: rest))) : W p l e R s m args below meth c H locs cells slots Q (F0 m pc ls st0) := by
  refine call5r hr w.2.2.1 (fun q _ h => h) (fun q h => h) (fun u r t H1 locs1 ht hvm hw hB hz hk hS => ?_)
  obtain ⟨e1, hB⟩ := hB
  rw [e1]; rw [hw] at hB
  exact kk H1 locs1 (cg_back w hle ht hB hS)
end C5
theorem lwF {own : String} {idx : Nat} {C : String} {x y : MethodName} {b : ByteArray} {L : Nat} {r : Option FieldType} (h1 : Cond.methodLink own idx x ∈ lw_all) (h2 : Cond.selects C x y ∈ lw_all) (h3 : Cond.instanceMethod y ∈ lw_all) (h4 : Cond.initialized y.cls ∈ lw_all) (h5 : Cond.code y b L r ∈ lw_all) : GoodIn lw_all (va_wsF own idx C x y (ws_ y b L r)) := by
  refine lw_app ?_ (lw_meth h5)
  intro w hw
  simp only [List.mem_cons, List.not_mem_nil, or_false] at hw
  rcases hw with e | e | e | e
  · rw [e]; exact h1
  · rw [e]; exact h2
  · rw [e]; exact h3
  · rw [e]; exact h4
