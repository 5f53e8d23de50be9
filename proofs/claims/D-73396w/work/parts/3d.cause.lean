/-! an abstract method, by the object's class; Throwable.getCause() (synchronized) of an object whose cause is another one -/
set_option maxRecDepth 100000
theorem cwA {R : Room} {s : State} {args : Array Value} {own C : String} {index maxL mc ms : Nat} {x y : MethodName} {bytes : ByteArray} {ret : Option FieldType} {rm : Room} (n : Nat) (ht : ∀ w ∈ lw_all, w.before args s = true) (h1 : Cond.methodLink own index x ∈ lw_all) (h2 : Cond.sameMethod x.cls x.cls x.name x.desc ∈ lw_all) (hdec : va_Nw (Cond.declares x) s) (h3 : Cond.selects C x y ∈ lw_all) (h4 : Cond.instanceMethod y ∈ lw_all) (h5 : Cond.initialized y.cls ∈ lw_all) (h6 : Cond.code y bytes maxL ret ∈ lw_all) (hrc : rm.cells = mc) (hrs : rm.slots = ms)
    (hd : x.cls ≠ "java/lang/invoke/MethodHandle" ∧ x.cls ≠ "java/lang/invoke/VarHandle" ∧ (parseMethodDescriptor x.desc).map (fun d => d.parameters.length) = some n) (hR : rm.frames + 1 ≤ R.frames ∧ 8 + (maxL + 11) + rm.locals ≤ R.locals) : va_CU R s args own C x.cls index x y bytes maxL ret (ws_ y bytes maxL ret) rm mc ms n := by
  have hG : GoodIn lw_all (ws_ y bytes maxL ret) := lw_meth h6
  have hD : va_Decl s x := Cond.declares_spec (show (Cond.declares x).before args s = true from va_Nw.use rfl hdec)
  refine ⟨⟨hrc, hrs, hR.1, hR.2, pay_in ht hG, List.mem_cons_self⟩, ht _ h6, ht _ h5, ⟨hd.1, hd.2.1⟩, fun sig h => ?_, ht _ h1, ht _ h2, hD, ht _ h3, ht _ h4⟩
  have h3 := hd.2.2
  rw [h] at h3
  exact (Option.some.inj h3).symm
theorem gc_0 : decode prog_36_method_8_code 0 = .ok (.aload_n 0, 1) := by decide +kernel
theorem gc_1 : decode prog_36_method_8_code 1 = .ok (.getfield 7, 3) := by decide +kernel
theorem gc_4 : decode prog_36_method_8_code 4 = .ok (.aload_n 0, 1) := by decide +kernel
theorem gc_5 : decode prog_36_method_8_code 5 = .ok (.if_acmp .ne 7, 3) := by decide +kernel
theorem gc_12 : decode prog_36_method_8_code 12 = .ok (.aload_n 0, 1) := by decide +kernel
theorem gc_13 : decode prog_36_method_8_code 13 = .ok (.getfield 7, 3) := by decide +kernel
theorem gc_16 : decode prog_36_method_8_code 16 = .ok (.areturn, 1) := by decide +kernel
section CAUSE
variable {p : Program} {l : Launch} {e : Env} {R : Room} {s : State} {m : MethodId} {args : Array Value} {below : List Frame} {meth : Method} {c : Code} {H : Heap} {locs : List Loc} {cells slots : Nat} {Q : State → Prop}
variable {cc : ByteArray} {pc : Nat} {ls : Array Slot} {rest : List Value} {D : va_G} {dA : Nat → ClassId} {A : Nat → Prop} {h : CH} {own : String}
set_option maxHeartbeats 4000000 in
theorem cg_cause (C : CX p s m args c cc RX17 D dA) (w : CW D dA A s h H locs) (hml : c.maxLocals = ls.size) {x a : Nat} (e1 : oF h 16 0 x = some (.ref a)) (hne : (decide (¬ a = x) && decide (h.2.2.1 ≤ x)) = true)
    {index : Nat} (hl : Cond.methodLink RX17 index ⟨"CoincideBench$Refused", "getCause", "()Ljava/lang/Throwable;"⟩ ∈ lw_all) (hframes : 1 < R.frames) (hlocals : (rest.map fun v => v.category).sum + 30 ≤ R.locals) (hdg : decode cc pc = .ok (.invokevirtual index, 3))
    (kk : W p l e R s m args below meth c H locs cells slots Q (F0 m (pc + 3) ls (.ref a :: rest))) : W p l e R s m args below meth c H locs cells slots Q (F0 m pc ls (.ref x :: rest)) := by
  simp only [Bool.and_eq_true, decide_eq_true_eq] at hne
  obtain ⟨hax, hbase⟩ := hne
  intro T hT X
  obtain ⟨hx, hb, hown, hts, hK⟩ := C
  have howns : e.platform.frameOwnsMonitors = true := by rw [X.admits.platform]
  have hfin : e.platform.finalization = false := by rw [X.admits.platform]
  have hpl : e.platform.magicAccessors = ({} : Platform).magicAccessors := by rw [X.admits.platform]
  obtain ⟨Th, Z, L, LZ, Y⟩ := ThrowableC.of_atoms (args := args) (s := s) (pl := e.platform) howns hfin hpl (th_atoms hts w)
  obtain ⟨fs, he, hf0⟩ : ∃ fs, cm h x = some (.inl (16, fs)) ∧ fs[0]? = some (.ref a) := by
    rcases oF_E e1 with ⟨fs, h1, h2⟩ | ⟨h19, -⟩
    · exact ⟨fs, h1, h2⟩
    · cases h19
  obtain ⟨r, g1, cell, q1, q2, q3, q4⟩ := w.one he 0 _ rfl
  have hmon : cell.monitor = {} := (w.2.1 x _ he).2.2 (by decide) cell q1
  have hr : r = (RX17, TX17, 8) := Option.some.inj (g1.symm.trans rfl)
  subst hr
  obtain ⟨hS, hfc, kC, hkC, hkind⟩ := hK.1 16 (RX17, TX17, 8) rfl
  obtain ⟨cf, kf, fi, f, hi, hsl⟩ := hS 0 (by decide)
  have hff : f = Th.fCause := (ff_inj hi Y.cause).2
  have hvC : cell.slots[Th.fCause.slot]? = some (.ref a) := by
    rw [← hff, hsl, q4 0 (by decide), vpV_at hf0]
  obtain ⟨mk, methM, hnamed, hmethM, hstM, habM⟩ := Cond.instanceMethod_spec (hts _ q1521)
  obtain ⟨methM', cM, hmethM', hcM, hbM, hlM, hrM, hlkM, -, hsigM⟩ := Cond.codeSync_spec hnamed (hts _ q1522)
  cases hmethM.symm.trans hmethM'
  obtain ⟨cn, ck, r1, hcn, hck, hni, hfo, hn1⟩ := Cond.sameMethod_found (hts _ q1518)
  cases hnamed.symm.trans hn1
  obtain ⟨c2, r2, m2, z1, z2, z3, z4, kP, hkP, hkPi⟩ := Cond.selects_spec (hts _ q1520)
  cases Option.some.inj (z1.symm.trans hfc)
  cases hfo.symm.trans z2
  cases hnamed.symm.trans z3
  have hselP : selectMethod e.platform s.vm cell.cls mk = .method mk := by rw [Launch.admits_selectMethod X.admits, q2]; exact z4
  have hcT : T.heap[x]? = some cell := by rw [hT]; exact q1
  have hobj : ∀ k, cell.vm ≠ .statics k := fun z hz => by rw [q3] at hz; cases hz
  obtain ⟨vm₁, X₁, hstep₁⟩ := X.invokevirtualUp hx hown (hts _ hl) (hts _ q1518) (by decide) hnamed hmethM hstM (a := x) (cell := cell) hcT hobj hselP hmethM habM hkP hkPi
    (g := F0 m pc ls (.ref x :: rest)) rfl (argsL := []) (rest := rest) (sg0 hsigM (by decide +kernel)) rfl (by rw [hb]; exact hdg)
  obtain ⟨mc0, mi0⟩ := mk
  have hcls : mc0 = Th.cT := Option.some.inj ((findClass_of_methodNamed hnamed).symm.trans Y.found)
  subst hcls
  have hlt : x < T.heap.size := (Array.getElem?_eq_some_iff.mp hcT).1
  have hfr' : (T.setVm vm₁).frames.length + 1 < (e.platform.stackLimits (T.setVm vm₁).me).1 := X₁.framesAbove hframes
  have hwd' : (stackUse (.java (F0 m pc ls rest) :: (T.setVm vm₁).frames.tail)).2 + 30 ≤ (e.platform.stackLimits (T.setVm vm₁).me).2 := X₁.stackAbove (g := F0 m pc ls rest) hml.symm (K := 30) (by show 2 * 0 + (rest.map fun v => v.category).sum + 30 ≤ R.locals; omega)
  have hV : At (T.setVm vm₁) m c below := X₁.here
  obtain ⟨g₀, hg0⟩ := Option.isSome_iff_exists.mp hV.top
  obtain ⟨tl0, htl0⟩ := State.topJava?_eq_some.mp hg0
  have hlen0 : (T.setVm vm₁).frames.length = (Frame.java (F0 m pc ls rest) :: (T.setVm vm₁).frames.tail).length := by rw [htl0]; rfl
  have hfg : ((T.setVm vm₁).setTop (F0 m pc ls rest)).frames = [] ++ (Frame.java (F0 m pc ls rest) :: (T.setVm vm₁).frames.tail) := by rw [State.frames_setTop _ htl0, htl0]; rfl
  have hroom : e.platform.stackFull ((((T.setVm vm₁).setTop (F0 m pc ls rest)).threads[((T.setVm vm₁).setTop (F0 m pc ls rest)).cur]?).getD { frames := [] }) ((T.setVm vm₁).setTop (F0 m pc ls rest)).frames (1 + 2) = false :=
    roomAbove (pushed := []) (base := Frame.java (F0 m pc ls rest) :: (T.setVm vm₁).frames.tail) (free := 30) (lim := e.platform.stackLimits (T.setVm vm₁).me) hfg (State.stackLimits_setTop _ hV.top (F0 m pc ls rest)) (by rw [← hlen0]; simp only [List.length_nil]; omega) hwd' (by simp only [stackUse_nil]; omega)
  have hplain : ∀ k, s.vm.classes[(⟨Th.cT, mi0⟩ : MethodId).cls]? = some k → plainName k.name = true := fun k hk => by
    cases Option.some.inj (L.cls.symm.trans hk)
    rw [L.name]; decide
  have hAof : ∀ vm, s.WarmedH vm → At (fillInside ((T.setVm vm₁).setVm vm) (F0 m pc ls rest) ⟨Th.cT, mi0⟩ x cell) ⟨Th.cT, mi0⟩ cM below := fun vm hWv => by
    have := At.enter_sync (g := F0 m pc ls rest) (hV.setVm (X₁.warmed.alike.symm.trans hWv.alike)) #[.ref x] x (cell.withEntry (T.setVm vm₁).cur) (hWv.methodAt hmethM) hcM (hWv.plainAt (m := ⟨Th.cT, mi0⟩) hplain)
    rw [hlM] at this
    exact this
  have hcellU : ∀ vm, (fillInside ((T.setVm vm₁).setVm vm) (F0 m pc ls rest) ⟨Th.cT, mi0⟩ x cell).heap[x]? = some (cell.withEntry (T.setVm vm₁).cur) := fun vm => by
    show (T.heap.setIfInBounds x (cell.withEntry (T.setVm vm₁).cur))[x]? = _
    simp [hlt]
  have hknown : (cell.withEntry (T.setVm vm₁).cur).vm ≠ .unknown := by show cell.vm ≠ _; rw [q3]; intro z; cases z
  have hA : At (fillInside (T.setVm vm₁) (F0 m pc ls rest) ⟨Th.cT, mi0⟩ x cell) ⟨Th.cT, mi0⟩ cM below := hAof (T.setVm vm₁).vm X₁.warmed
  obtain ⟨vm1, hW1, st1⟩ := Steps.getfieldCold (tb := p.tables) (s₀ := s) (U := (fillInside (T.setVm vm₁) (F0 m pc ls rest) ⟨Th.cT, mi0⟩ x cell)) (f := (fillJ ⟨Th.cT, mi0⟩ x 1 [.ref x])) (a := x) (rest := []) (cell := (cell.withEntry (T.setVm vm₁).cur)) (v := .ref a) hA hx (by rw [hbM]; exact gc_1) X₁.warmed L.link7 L.right7 L.cls L.at7
      L.causeInstance rfl (hcellU (T.setVm vm₁).vm) hknown hvC
  obtain ⟨vm2, hW2, st2⟩ := Steps.getfieldCold (tb := p.tables) (s₀ := s) (U := (fillInside ((T.setVm vm₁).setVm vm1) (F0 m pc ls rest) ⟨Th.cT, mi0⟩ x cell)) (f := (fillJ ⟨Th.cT, mi0⟩ x 13 [.ref x])) (a := x) (rest := []) (cell := (cell.withEntry (T.setVm vm₁).cur)) (v := .ref a) (hAof vm1 hW1) hx (by rw [hbM]; exact gc_13) hW1 L.link7 L.right7 L.cls L.at7
      L.causeInstance rfl (hcellU vm1) hknown hvC
  obtain ⟨t, a1, b1⟩ := kk (T.setVm vm2) hT (X.noted hW2)
  refine ⟨t, hstep₁ _ (fun acts => ?_), b1⟩
  rw [doInvoke_enter_sync hV.top acts (X₁.warmed.methodAt hmethM) hcM hlkM hstM rfl hcT (Or.inl (by rw [hmon])) (by rw [hlM]; exact hroom), hlM]
  show Steps p.tables e below ((fillInside (T.setVm vm₁) (F0 m pc ls rest) ⟨Th.cT, mi0⟩ x cell).setTop (fillJ ⟨Th.cT, mi0⟩ x 0 [])) t
  jvm_step hA [hx, hbM, gc_0, Value.isRef]
  refine st1 t ?_
  show Steps p.tables e below ((fillInside ((T.setVm vm₁).setVm vm1) (F0 m pc ls rest) ⟨Th.cT, mi0⟩ x cell).setTop (fillJ ⟨Th.cT, mi0⟩ x 4 [.ref a])) t
  jvm_step (hAof vm1 hW1) [hx, hbM, gc_4, Value.isRef]
  jvm_step (hAof vm1 hW1) [hx, hbM, gc_5, if_acmp.wp_sem, Value.isRef]
  refine ⟨_, rfl, _, rfl, ?_⟩
  rw [if_pos (by simp [if_acmp.holds, hax])]
  show Steps p.tables e below ((fillInside ((T.setVm vm₁).setVm vm1) (F0 m pc ls rest) ⟨Th.cT, mi0⟩ x cell).setTop (fillJ ⟨Th.cT, mi0⟩ x 12 [])) t
  jvm_step (hAof vm1 hW1) [hx, hbM, gc_12, Value.isRef]
  refine st2 t ?_
  show Steps p.tables e below ((fillInside ((T.setVm vm₁).setVm vm2) (F0 m pc ls rest) ⟨Th.cT, mi0⟩ x cell).setTop (fillJ ⟨Th.cT, mi0⟩ x 16 [.ref a])) t
  jvm_step (hAof vm2 hW2) [(hAof vm2 hW2).top, hx, hbM, gc_16, areturn.wp_sem, Value.isRef, FieldType.isReference]
  refine ⟨methM, hW2.methodAt hmethM, ⟨_, hrM, rfl⟩, fun acts' => ?_⟩
  have hVt : ((T.setVm vm₁).setVm vm2).topJava?.isSome := hV.top
  have hfr : (fillInside ((T.setVm vm₁).setVm vm2) (F0 m pc ls rest) ⟨Th.cT, mi0⟩ x cell).frames = .java (entryFrameSync ⟨Th.cT, mi0⟩ #[.ref x] 1 x) :: .java (F0 m pc ls rest) :: ((T.setVm vm₁).setVm vm2).frames.tail :=
    frames_entered (g := F0 m pc ls rest) (show (((T.setVm vm₁).setVm vm2).setCell x (cell.withEntry ((T.setVm vm₁).setVm vm2).cur)).topJava?.isSome from hVt) _
  have hcode : (fillInside ((T.setVm vm₁).setVm vm2) (F0 m pc ls rest) ⟨Th.cT, mi0⟩ x cell).code? m = some c := by
    have := (X.noted hW2).here.code
    rw [State.code?_eq] at this ⊢
    exact this
  rw [doReturn_leave_sync (u := fillInside ((T.setVm vm₁).setVm vm2) (F0 m pc ls rest) ⟨Th.cT, mi0⟩ x cell) (g := F0 m pc ls rest) (meth := methM) (cg := c) (ig := .invokevirtual index) (len := 3) (a := x) (cell := cell.withEntry (T.setVm vm₁).cur)
      (f := fillJ ⟨Th.cT, mi0⟩ x 16 []) (f₀ := entryFrameSync ⟨Th.cT, mi0⟩ #[.ref x] 1 x) (r := ((T.setVm vm₁).setVm vm2).frames.tail) acts' howns hfr (hW2.methodAt hmethM) hlkM rfl rfl
      (hcellU vm2) rfl hcode (by rw [hb]; exact hdg)]
  have e1 : ((fillInside ((T.setVm vm₁).setVm vm2) (F0 m pc ls rest) ⟨Th.cT, mi0⟩ x cell).setCell x (cell.withEntry (T.setVm vm₁).cur).left).setFrames (.java (F0 m pc ls rest) :: ((T.setVm vm₁).setVm vm2).frames.tail) = (((T.setVm vm₁).setVm vm2).setTop (F0 m pc ls rest)) := by
    show ((fillInside ((T.setVm vm₁).setVm vm2) (F0 m pc ls rest) ⟨Th.cT, mi0⟩ x cell).setFrames (.java (F0 m pc ls rest) :: (((T.setVm vm₁).setVm vm2).setCell x (cell.withEntry (T.setVm vm₁).cur)).frames.tail)).setCell x _ = _
    erw [setFrames_entered (s := ((T.setVm vm₁).setVm vm2).setCell x (cell.withEntry ((T.setVm vm₁).setVm vm2).cur)) hVt]
    change ((((T.setVm vm₁).setVm vm2).setCell x (cell.withEntry (T.setVm vm₁).cur)).setTop (F0 m pc ls rest)).setCell x (cell.withEntry (T.setVm vm₁).cur).left = _
    rw [Cell.left_withEntry _ (by rw [hmon]) (by rw [hmon])]
    have h9 : ((((T.setVm vm₁).setVm vm2).setCell x (cell.withEntry (T.setVm vm₁).cur)).setTop (F0 m pc ls rest)).setCell x cell = ((((T.setVm vm₁).setVm vm2).setCell x (cell.withEntry (T.setVm vm₁).cur)).setCell x cell).setTop (F0 m pc ls rest) := rfl
    rw [h9, setCell_twice, State.setCell_asItLies (s := (T.setVm vm₁).setVm vm2) hcT]
  rw [e1, State.setTop_setTop]
  exact a1
end CAUSE
