/-! a private method of a class above the object's, by another method of that class that is selected -/
set_option maxRecDepth 100000
theorem sel_priv {C : String} {y z : MethodName} {s : State} {args : Array Value} {n : Nat} (hy : y.cls ≠ "java/lang/invoke/MethodHandle" ∧ y.cls ≠ "java/lang/invoke/VarHandle")
    (hins : (Cond.instantiable C n).before args s = true) (hpriv : (Cond.privateMethod y).before args s = true) (hinst : (Cond.instanceMethod y).before args s = true) (hz : (Cond.selects C z z).before args s = true) (hzi : (Cond.instanceMethod z).before args s = true) (hzy : z.cls = y.cls) :
    (Cond.selects C y y).before args s = true := by
  obtain ⟨c, k, hc, hk, -, hniab, -, -⟩ := Cond.instantiable_spec hins
  obtain ⟨mk, methM, hnamed, hmethM, -, -⟩ := Cond.instanceMethod_spec hinst
  obtain ⟨mz, methZ, hnamedZ, hmethZ, -, -⟩ := Cond.instanceMethod_spec hzi
  have hfound : s.methodFound? y.cls y.name y.desc = some mk := State.methodFound?_of_named hnamed hy
  have hfoundZ : s.methodFound? z.cls z.name z.desc = some mz := State.methodFound?_of_named hnamedZ (by rw [hzy]; exact hy)
  have hsel : selectMethod {} s.vm c mk = .method mk := selectMethod_private hmethM (Cond.privateMethod_at hpriv mk methM hnamed hmethM)
  have hcl : mz.cls = mk.cls := Option.some.inj ((findClass_of_methodNamed hnamedZ).symm.trans (by rw [hzy]; exact findClass_of_methodNamed hnamed))
  simp only [Cond.before, Cond.holds, Cond.value, hc, hfoundZ, hnamedZ] at hz
  simp only [Cond.before, Cond.holds, Cond.value, hc, hfound, hnamed, hsel]
  rw [hcl] at hz
  simp at hz ⊢
  split at hz
  · exact (Bool.and_eq_true _ _ ▸ hz).2
  · cases hz
/-- what a call of a method of a class above the object's asks, its 'selects' given apart -/
theorem cwP {R : Room} {s : State} {args : Array Value} {own C : String} {index maxL mc ms : Nat} {x : MethodName} {bytes : ByteArray} {ret : Option FieldType} {rm : Room} (n : Nat) (ht : ∀ w ∈ lw_all, w.before args s = true) (h1 : Cond.methodLink own index x ∈ lw_all) (h2 : Cond.sameMethod x.cls x.cls x.name x.desc ∈ lw_all) (hsel : (Cond.selects C x x).before args s = true) (h4 : Cond.instanceMethod x ∈ lw_all) (h5 : Cond.initialized x.cls ∈ lw_all) (h6 : Cond.code x bytes maxL ret ∈ lw_all) (hrc : rm.cells = mc) (hrs : rm.slots = ms)
    (hd : x.cls ≠ "java/lang/invoke/MethodHandle" ∧ x.cls ≠ "java/lang/invoke/VarHandle" ∧ (parseMethodDescriptor x.desc).map (fun d => d.parameters.length) = some n) (hR : rm.frames + 1 ≤ R.frames ∧ 8 + (maxL + 11) + rm.locals ≤ R.locals) : va_CU R s args own C x.cls index x x bytes maxL ret (ws_ x bytes maxL ret) rm mc ms n := by
  have hG : GoodIn lw_all (ws_ x bytes maxL ret) := lw_meth h6
  refine ⟨⟨hrc, hrs, hR.1, hR.2, pay_in ht hG, List.mem_cons_self⟩, ht _ h6, ht _ h5, ⟨hd.1, hd.2.1⟩, fun sig h => ?_, ht _ h1, ht _ h2, va_Decl.of (ht _ h4) (ht _ h6), hsel, ht _ h4⟩
  have h3 := hd.2.2
  rw [h] at h3
  exact (Option.some.inj h3).symm
