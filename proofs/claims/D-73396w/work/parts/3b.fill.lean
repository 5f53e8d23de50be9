/-! Throwable.fillInStackTrace() where no traces are kept: the object stays as it is (by the library's Steps.fillColdAnyV) -/
set_option maxRecDepth 100000
def flk (h : CH) (ci kS kB x : Nat) : Bool := decide (oF h ci kS x = some (va_rf (sR h 8))) && decide (oF h ci kB x = some .null) && decide (h.2.2.1 ≤ x)
theorem flk_E {h : CH} {ci kS kB x : Nat} (e : flk h ci kS kB x = true) : oF h ci kS x = some (va_rf (sR h 8)) ∧ oF h ci kB x = some .null ∧ h.2.2.1 ≤ x := by
  unfold flk at e
  simp only [Bool.and_eq_true, decide_eq_true_eq] at e
  exact ⟨e.1.1, e.1.2, e.2⟩
theorem ff_inj {s : State} {C n d : String} {a a' : ClassId} {k k' : Class} {i i' : Nat} {f f' : Field} (h : s.fieldFound? C n d = some (a, k, i, f)) (h' : s.fieldFound? C n d = some (a', k', i', f')) : k = k' ∧ f = f' := by
  have e := Option.some.inj (h.symm.trans h')
  injection e with e1 e2
  injection e2 with e2 e3
  injection e3 with e3 e4
  exact ⟨e2, e4⟩
theorem vpV_at {fs : List Value} {k : Nat} {v : Value} (h : fs[k]? = some v) : vp_V fs k = v := by
  unfold vp_V
  rw [List.getD_eq_getElem?_getD, h]
  rfl
theorem sg0 {d : String} {sig : MethodDescriptor} (h : parseMethodDescriptor d = some sig) (h0 : (parseMethodDescriptor d).map (fun z => z.parameters.length) = some 0) : ([] : List Value).length = sig.parameters.length := by
  rw [h] at h0
  exact (Option.some.inj h0).symm
section FILL
variable {p : Program} {l : Launch} {e : Env} {R : Room} {s : State} {m : MethodId} {args : Array Value} {below : List Frame} {meth : Method} {c : Code} {H : Heap} {locs : List Loc} {cells slots : Nat} {Q : State → Prop}
variable {cc : ByteArray} {pc : Nat} {ls : Array Slot} {rest : List Value} {D : va_G} {dA : Nat → ClassId} {A : Nat → Prop} {h : CH} {own : String}
theorem th_atoms (hts : ∀ w ∈ lw_all, w.before args s = true) (w : CW D dA A s h H locs) : ∀ a ∈ Bundle.throwableAtoms, a.before args s = true := by
  have l1 : (Cond.laysStatic "java/lang/Throwable" "UNASSIGNED_STACK" "[Ljava/lang/StackTraceElement;").before args s = true := vx_L.word w.2.2.2.2.2.2.2.2.2.2.2.2.1
  have l2 : (Cond.laysStatic "java/lang/Throwable" "SUPPRESSED_SENTINEL" "Ljava/util/List;").before args s = true := vx_L.word w.2.2.2.2.2.2.2.2.2.2.2.2.2
  unfold Bundle.throwableAtoms
  refine List.forall_mem_cons.mpr ⟨hts _ q139, List.forall_mem_cons.mpr ⟨hts _ q606, List.forall_mem_cons.mpr ⟨hts _ q615, List.forall_mem_cons.mpr ⟨hts _ q621, List.forall_mem_cons.mpr ⟨hts _ q624, List.forall_mem_cons.mpr ⟨hts _ q626, List.forall_mem_cons.mpr ⟨hts _ q607, List.forall_mem_cons.mpr ⟨hts _ q608, List.forall_mem_cons.mpr ⟨hts _ q161, List.forall_mem_cons.mpr ⟨hts _ q162, List.forall_mem_cons.mpr ⟨hts _ q609, List.forall_mem_cons.mpr ⟨hts _ q614, ?_⟩⟩⟩⟩⟩⟩⟩⟩⟩⟩⟩⟩
  exact List.forall_mem_cons.mpr ⟨hts _ q622, List.forall_mem_cons.mpr ⟨hts _ q640, List.forall_mem_cons.mpr ⟨hts _ q596, List.forall_mem_cons.mpr ⟨hts _ q641, List.forall_mem_cons.mpr ⟨hts _ q598, List.forall_mem_cons.mpr ⟨hts _ q642, List.forall_mem_cons.mpr ⟨hts _ q600, List.forall_mem_cons.mpr ⟨hts _ q610, List.forall_mem_cons.mpr ⟨l1, List.forall_mem_cons.mpr ⟨hts _ q612, List.forall_mem_cons.mpr ⟨l2, List.forall_mem_cons.mpr ⟨hts _ q602, fun _ h => absurd h List.not_mem_nil⟩⟩⟩⟩⟩⟩⟩⟩⟩⟩⟩⟩
set_option maxHeartbeats 4000000 in
theorem cg_fill (htl : l.stackTraces = false) (C : CX p s m args c cc RJ13 D dA) (w : CW D dA A s h H locs) (hml : c.maxLocals = ls.size) {ci x kS kB : Nat} {Cn : String} {T0 : u_T} {N : Nat} (hc : gCl[ci]? = some (Cn, T0, N)) (hin : ∀ w ∈ u_ws Cn T0 N, w ∈ lw_all) (hne : ci ≠ 19) (hc0 : ci ≠ 0)
    (hs0 : Cond.selects Cn ⟨"java/lang/Throwable", "fillInStackTrace", "(I)Ljava/lang/Throwable;"⟩ ⟨"java/lang/Throwable", "fillInStackTrace", "(I)Ljava/lang/Throwable;"⟩ ∈ lw_all) (hsF : Cond.selects Cn ⟨"java/lang/Throwable", "fillInStackTrace", "()Ljava/lang/Throwable;"⟩ ⟨"java/lang/Throwable", "fillInStackTrace", "()Ljava/lang/Throwable;"⟩ ∈ lw_all)
    (hkS : kS < N) (tS : T0 kS = ("java/lang/Throwable", "stackTrace", "[Ljava/lang/StackTraceElement;", false)) (hkB : kB < N) (tB : T0 kB = ("java/lang/Throwable", "backtrace", "Ljava/lang/Object;", false)) (hfl : flk h ci kS kB x = true)
    (hframes : 2 < R.frames) (hlocals : (rest.map fun v => v.category).sum + 42 ≤ R.locals) (hdg : decode cc pc = .ok (.invokevirtual 27, 3))
    (kk : W p l e R s m args below meth c H locs cells slots Q (F0 m (pc + 3) ls (.ref x :: rest))) : W p l e R s m args below meth c H locs cells slots Q (F0 m pc ls (.ref x :: rest)) := by
  obtain ⟨eS, eB, hbase⟩ := flk_E hfl
  intro T hT X
  obtain ⟨hx, hb, hown, hts, hK⟩ := C
  have howns : e.platform.frameOwnsMonitors = true := by rw [X.admits.platform]
  have hfin : e.platform.finalization = false := by rw [X.admits.platform]
  have hpl : e.platform.magicAccessors = ({} : Platform).magicAccessors := by rw [X.admits.platform]
  have htr : e.platform.stackTraces = false := (show e.platform.stackTraces = l.stackTraces by rw [X.admits.platform]).trans htl
  have ha := th_atoms hts w
  obtain ⟨Th, Z, L, LZ, Y⟩ := ThrowableC.of_atoms (args := args) (s := s) (pl := e.platform) howns hfin hpl ha
  have hKW := w.2.2.2.2
  obtain ⟨fs, he, hfS⟩ : ∃ fs, cm h x = some (.inl (ci, fs)) ∧ fs[kS]? = some (va_rf (sR h 8)) := by
    rcases oF_E eS with ⟨fs, h1, h2⟩ | ⟨h19, -⟩
    · exact ⟨fs, h1, h2⟩
    · exact absurd h19 hne
  have hfB : fs[kB]? = some .null := by
    rcases oF_E eB with ⟨fs', h1, h2⟩ | ⟨h19, -⟩
    · cases he.symm.trans h1
      exact h2
    · exact absurd h19 hne
  obtain ⟨r, g1, cell, q1, q2, q3, q4⟩ := w.one he 0 _ rfl
  have hmon : cell.monitor = {} := (w.2.1 x _ he).2.2 hc0 cell q1
  have hr : r = (Cn, T0, N) := Option.some.inj (g1.symm.trans hc)
  subst hr
  obtain ⟨hS, hfc, kC, hkC, hkind⟩ := hK.1 ci _ hc
  obtain ⟨cf, kf, fi, f, hi, hsl⟩ := hS kS hkS
  have hlays := u_lays hts hin hkS
  dsimp only at hi hfc
  rw [tS] at hi hlays
  have hff : f = Th.fStack := (ff_inj hi Y.stack).2
  have hvS : cell.slots[Th.fStack.slot]? = some (va_rf (sR h 8)) := by
    rw [← hff, hsl, q4 kS hkS, vpV_at hfS]
  obtain ⟨cfU, kfU, fiU, fU, aU, cellS, u1, u2, u3, u4, u5, u6, u7, u8⟩ := (hKW.2.2.1 8 _ rfl).kept w.2.2.1.2.1
  obtain ⟨hkU, hfU⟩ := ff_inj u1 Y.unassigned
  have haS : aU = Th.aS := Option.some.inj (u4.symm.trans (by rw [hkU]; exact L.statics))
  subst haS
  have hneS : Th.aS ≠ x := fun q => u8 (by rw [q]; exact (w.2.1 x _ he).2.1 hbase)
  have hknownS : cellS.vm ≠ .unknown := by intro q; rw [q] at u6; cases u6
  have hu0 : (va_rf (sR h 8)).isRef = true := by cases sR h 8 <;> rfl
  have hvU : cellS.slots[Th.fUnassigned.slot]? = some (va_rf (sR h 8)) := by rw [← hfU]; exact u7
  have hsel0 : selectMethod e.platform s.vm cell.cls Th.fill0 = .method Th.fill0 := by
    obtain ⟨c2, r2, m2, z1, z2, z3, z4, -⟩ := Cond.selects_spec (hts _ hs0)
    cases Option.some.inj (z1.symm.trans hfc)
    cases Option.some.inj (z2.symm.trans (State.methodFound?_of_named Y.fill0 (by decide)))
    cases Option.some.inj (z3.symm.trans Y.fill0)
    rw [Launch.admits_selectMethod X.admits, q2]; exact z4
  obtain ⟨ci198, i198, fB, hk198, hg198, ha198, hsB, -, hnB, htB, hffB⟩ := Cond.ownField (t := .object "java/lang/Object") Y.found L.cls (by decide +kernel) (hts _ q605) (hts _ q604) e.platform hpl
  obtain ⟨cfb, kfb, fib, fb, hib, hslb⟩ := hS kB hkB
  dsimp only at hib
  rw [tB] at hib
  have hfb : fb = fB := (ff_inj hib hffB).2
  have hvB : cell.slots[fB.slot]? = some .null := by
    rw [← hfb, hslb, q4 kB hkB, vpV_at hfB]
  obtain ⟨mk, methM, hnamed, hmethM, hstM, habM⟩ := Cond.instanceMethod_spec (hts _ q615)
  have hmk : mk = Th.fill := Option.some.inj (hnamed.symm.trans Y.fill)
  subst hmk
  obtain ⟨methM', cM, hmethM', -, -, -, -, -, -, hsigM⟩ := Cond.codeSync_spec hnamed (hts _ q621)
  cases hmethM.symm.trans hmethM'
  obtain ⟨c2, r2, m2, z1, z2, z3, z4, kP, hkP, hkPi⟩ := Cond.selects_spec (hts _ hsF)
  cases Option.some.inj (z1.symm.trans hfc)
  cases Option.some.inj (z2.symm.trans (State.methodFound?_of_named Y.fill (by decide)))
  cases Option.some.inj (z3.symm.trans Y.fill)
  have hselP : selectMethod e.platform s.vm cell.cls Th.fill = .method Th.fill := by rw [Launch.admits_selectMethod X.admits, q2]; exact z4
  have hcT : T.heap[x]? = some cell := by rw [hT]; exact q1
  have hobj : ∀ k, cell.vm ≠ .statics k := fun z hz => by rw [q3] at hz; cases hz
  obtain ⟨vm₁, X₁, hstep₁⟩ := X.invokevirtual hx hown (hts _ q614) hnamed hmethM hstM hkP hkPi (by decide) (a := x) (cell := cell) hcT hobj hselP hmethM habM hkP hkPi
    (g := F0 m pc ls (.ref x :: rest)) rfl (argsL := []) (rest := rest) (sg0 hsigM (by decide +kernel)) rfl (by rw [hb]; exact hdg)
  have hlt : x < T.heap.size := (Array.getElem?_eq_some_iff.mp hcT).1
  have hfr' : (T.setVm vm₁).frames.length + 2 < (e.platform.stackLimits (T.setVm vm₁).me).1 := X₁.framesAbove hframes
  have hwd' : (stackUse (.java (F0 m pc ls rest) :: (T.setVm vm₁).frames.tail)).2 + 42 ≤ (e.platform.stackLimits (T.setVm vm₁).me).2 := X₁.stackAbove (g := F0 m pc ls rest) hml.symm (K := 42) (by show 2 * 0 + (rest.map fun v => v.category).sum + 42 ≤ R.locals; omega)
  have hV : At (T.setVm vm₁) m c below := X₁.here
  obtain ⟨g₀, hg0⟩ := Option.isSome_iff_exists.mp hV.top
  obtain ⟨tl0, htl0⟩ := State.topJava?_eq_some.mp hg0
  have hlen0 : (T.setVm vm₁).frames.length = (Frame.java (F0 m pc ls rest) :: (T.setVm vm₁).frames.tail).length := by rw [htl0]; rfl
  generalize hFr : (Frame.java (F0 m pc ls rest) :: (T.setVm vm₁).frames.tail) = Fr at hlen0 hwd'
  have hfg : ((T.setVm vm₁).setTop (F0 m pc ls rest)).frames = [] ++ Fr := by rw [State.frames_setTop _ htl0, ← hFr, htl0]; rfl
  have hroom : e.platform.stackFull ((((T.setVm vm₁).setTop (F0 m pc ls rest)).threads[((T.setVm vm₁).setTop (F0 m pc ls rest)).cur]?).getD { frames := [] }) ((T.setVm vm₁).setTop (F0 m pc ls rest)).frames (1 + 2) = false :=
    roomAbove (pushed := []) (base := Fr) (free := 42) (lim := e.platform.stackLimits (T.setVm vm₁).me) hfg (State.stackLimits_setTop _ hV.top (F0 m pc ls rest)) (by rw [← hlen0]; simp only [List.length_nil]; omega) hwd' (by simp only [stackUse_nil]; omega)
  have hw14 : (stackUse [Frame.java (fillJ Th.fill x 16 [])]).2 = 14 := by
    rw [stackUse_java, stackUse_nil]
    simp [operandWords]
  have htS : Takes s cell Th.fStack (va_rf (sR h 8)) := by
    refine ⟨(Array.getElem?_eq_some_iff.mp hvS).1, ?_⟩
    obtain ⟨-, hfits⟩ := u_fits (ty := .array (.object "java/lang/StackTraceElement")) (v := va_rf (sR h 8)) hfc hkC hkind hlays hi (by decide +kernel) (by cases sR h 8 <;> rfl) (by cases sR h 8 <;> rfl)
    rw [q2, q3, ← hff]
    exact hfits
  obtain ⟨vm', hW', st⟩ := Steps.fillColdAnyV p (V := T.setVm vm₁) (g := F0 m pc ls rest) (c := c) (self := x) hV hx Th L X₁.warmed
    (Nn := fun u => u) heapOnly_id (fun _ _ => rfl) (fun _ => rfl) (fun u a b => setCell_twice u x a b)
    (cell := cell) (cellS := cellS) (cN := cell.withEntry (T.setVm vm₁).cur) (u0 := ⟨va_rf (sR h 8), hu0⟩) (ig := .invokevirtual 27) (len := 3) []
    hcT hobj (by rw [q3]; intro z; cases z) (Or.inl (by rw [hmon])) hvS hsel0 (by show T.heap[Th.aS]? = _; rw [hT]; exact u5) hneS hknownS hvU (fun u hu => hu) (fun u hu => hu)
    rfl rfl rfl rfl htS (by rw [hb]; exact hdg)
    (fun _ vm1 hW1 hAt t' hrest => by
      obtain ⟨g₁, hg1⟩ := Option.isSome_iff_exists.mp hAt.top
      obtain ⟨tl1, htl1⟩ := State.topJava?_eq_some.mp hg1
      have htail : (fillInside ((T.setVm vm₁).setVm vm1) (F0 m pc ls rest) Th.fill x cell).frames.tail = Fr := by rw [← hFr]; exact fillInside_tail ((T.setVm vm₁).setVm vm1) (F0 m pc ls rest) Th.fill x cell hV.top
      have etl : tl1 = Fr := by rw [htl1] at htail; exact htail
      have htopE : (((T.setVm vm₁).setVm vm1).setCell x (cell.withEntry ((T.setVm vm₁).setVm vm1).cur)).topJava?.isSome := hV.top
      have hlimF : e.platform.stackLimits (fillInside ((T.setVm vm₁).setVm vm1) (F0 m pc ls rest) Th.fill x cell).me = e.platform.stackLimits (T.setVm vm₁).me := by
        rw [State.stackLimits_pushFrame, State.stackLimits_setTop _ htopE]; rfl
      exact L.nativeOff p htr hAt hW1
        (roomAbove (pushed := [.java (fillJ Th.fill x 16 [])]) (base := Fr) (free := 42) (lim := e.platform.stackLimits (T.setVm vm₁).me) (by rw [State.frames_setTop _ htl1, etl]; rfl) (by rw [State.stackLimits_setTop _ hAt.top]; exact hlimF)
          (by rw [← hlen0]; simp only [List.length_cons, List.length_nil]; omega) hwd' (by rw [hw14]; decide)) hrest)
    hroom ⟨{ ci198 := ci198, i198 := i198, fBack := fB }, ⟨hk198, hg198, ha198, hsB⟩, hvB, fun _ _ => rfl⟩
  have hend : ((T.setVm vm₁).setVm vm').setCell x ((cell.withEntry (T.setVm vm₁).cur).setSlot Th.fStack.slot (va_rf (sR h 8))).left = T.setVm vm' := by
    have h1 : (cell.withEntry (T.setVm vm₁).cur).setSlot Th.fStack.slot (va_rf (sR h 8)) = cell.withEntry (T.setVm vm₁).cur := Cell.setSlot_same hvS
    rw [h1, Cell.left_withEntry _ (by rw [hmon]) (by rw [hmon])]
    exact State.setCell_asItLies (s := T.setVm vm') hcT
  obtain ⟨t, a1, b1⟩ := kk (T.setVm vm') hT (X.noted hW')
  refine ⟨t, hstep₁ _ (fun acts => ?_), b1⟩
  rw [doInvoke_state]
  refine st _ ?_
  rw [hend]
  exact a1
end FILL
