/-! array classes over array classes; several cells new at once; a grid is made -/
set_option maxRecDepth 100000
theorem aa_spec {s : State} {t : FieldType} (h : va_Nw (Cond.arrayOver (.array t)) s) : ∃ comp c k, s.vm.findClass (FieldType.array t).toString = some comp ∧ (s.vm.classes.findIdx? fun (x : Class) => match x.kind with | .array component _ => component == comp | _ => false) = some c ∧ s.vm.classes[c]? = some k ∧ k.kind = .array comp (.array t) ∧ s.vm.findClass ("[" ++ (FieldType.array t).toString) = some c := by
  unfold va_Nw Cond.before at h
  simp only [Cond.holds, Cond.value, beq_iff_eq] at h
  cases hc : s.vm.findClass (FieldType.array t).toString with
  | none => rw [hc] at h; simp at h
  | some comp =>
    rw [hc, Option.bind_some] at h
    cases hi : (s.vm.classes.findIdx? fun (x : Class) => match x.kind with | .array component _ => component == comp | _ => false) with
    | none => erw [hi] at h; simp at h
    | some c =>
      erw [hi] at h
      rw [Option.bind_some] at h
      cases hk : s.vm.classes[c]? with
      | none => rw [hk] at h; simp at h
      | some k =>
        rw [hk] at h
        obtain ⟨hlt, hp, -⟩ := Array.findIdx?_eq_some_iff_getElem.mp hi
        have hke : s.vm.classes[c] = k := by
          rw [Array.getElem?_eq_getElem hlt] at hk
          exact Option.some.inj hk
        rw [hke] at hp
        simp only [Option.map_some, Option.some.injEq] at h
        split at h
        · rename_i cmp ty hkd
          rw [hkd] at hp
          simp only [Bool.and_eq_true, decide_eq_true_eq] at h
          have e1 : cmp = comp := by simpa using hp
          refine ⟨comp, c, k, rfl, hi, hk, ?_, h.2⟩
          rw [hkd, e1, h.1]
        · cases h
theorem aa_moved {t : FieldType} {u U : State} (hvm : u.vm.Alike U.vm) (h : va_Nw (Cond.arrayOver (.array t)) u) : va_Nw (Cond.arrayOver (.array t)) U := by
  obtain ⟨comp, c, k, h1, h2, h3, h4, h5⟩ := aa_spec h
  obtain ⟨k', hk', he⟩ := hvm.2.2 _ _ h3
  have hi : (U.vm.classes.findIdx? fun (x : Class) => match x.kind with | .array component _ => component == comp | _ => false) = some c := by
    rw [hvm.findIdx?_eq _ (fun _ => rfl)]
    exact h2
  have hkind : k'.kind = .array comp (.array t) := by rw [he]; exact h4
  have f1 : U.vm.findClass (FieldType.array t).toString = some comp := by rw [hvm.findClass]; exact h1
  have f2 : U.vm.findClass ("[" ++ (FieldType.array t).toString) = some c := by rw [hvm.findClass]; exact h5
  unfold va_Nw Cond.before Cond.holds
  simp only [Cond.value]
  rw [f1, Option.bind_some]
  refine (congrArg (fun o : Option Nat => (o.bind (fun c => (U.vm.classes[c]?).map fun (k : Class) => match k.kind with | .array _ ty => decide (ty = FieldType.array t) && decide (U.vm.findClass ("[" ++ (FieldType.array t).toString) = some c) | _ => false) == some true)) hi).trans ?_
  simp [hk', hkind, f2]
/-! words that do not ride in lw_all: carried by ST -/
set_option maxRecDepth 100000
def stW : List Cond := [
  Jvm.Cond.declares ({ cls := "java/lang/Throwable", name := "<init>", desc := "()V" } : Jvm.MethodName),
  Jvm.Cond.declares ({ cls := "java/lang/Throwable", name := "<init>", desc := "(Ljava/lang/String;)V" } : Jvm.MethodName),
  Jvm.Cond.declares ({ cls := "java/lang/Throwable", name := "getCause", desc := "()Ljava/lang/Throwable;" } : Jvm.MethodName),
  Jvm.Cond.castable "java/lang/Throwable" "java/lang/Object",
  Jvm.Cond.declares ({ cls := "java/lang/Exception", name := "<init>", desc := "()V" } : Jvm.MethodName),
  Jvm.Cond.declares ({ cls := "java/lang/Exception", name := "<init>", desc := "(Ljava/lang/String;)V" } : Jvm.MethodName),
  Jvm.Cond.declares ({ cls := "java/lang/Object", name := "equals", desc := "(Ljava/lang/Object;)Z" } : Jvm.MethodName),
  Jvm.Cond.declares ({ cls := "java/lang/Object", name := "getClass", desc := "()Ljava/lang/Class;" } : Jvm.MethodName),
  Jvm.Cond.castable "java/util/ArrayList" "java/util/Collection",
  Jvm.Cond.castable "java/util/ArrayList" "java/lang/Object",
  Jvm.Cond.castable "java/lang/StringBuilder" "java/lang/Object",
  Jvm.Cond.castable "java/lang/String" "java/lang/Object",
  Jvm.Cond.fieldLinkNest "CoincideBench" (150 : Nat) "CoincideBench$Rows" "at" "[[J" "CoincideBench",
  Jvm.Cond.fieldLinkNest "CoincideBench" (243 : Nat) "CoincideBench$Small" "form" "LCoincideBench$Rows;" "CoincideBench",
  Jvm.Cond.methodLinkNest "CoincideBench" (81 : Nat) ({ cls := "CoincideBench$Reader", name := "<init>", desc := "(LCoincideBench;)V" } : Jvm.MethodName) "CoincideBench",
  Jvm.Cond.fieldLinkNest "CoincideBench" (90 : Nat) "CoincideBench$Reader" "fresh" "Ljava/util/ArrayList;" "CoincideBench",
  Jvm.Cond.fieldLinkNest "CoincideBench" (97 : Nat) "CoincideBench$Reader" "lined" "I" "CoincideBench",
  Jvm.Cond.fieldLinkNest "CoincideBench" (109 : Nat) "CoincideBench$Fault" "kind" "I" "CoincideBench",
  Jvm.Cond.fieldLinkNest "CoincideBench" (112 : Nat) "CoincideBench$Fault" "place" "I" "CoincideBench",
  Jvm.Cond.fieldLinkNest "CoincideBench" (332 : Nat) "CoincideBench$Turned" "over" "J" "CoincideBench",
  Jvm.Cond.fieldLinkNest "CoincideBench" (329 : Nat) "CoincideBench$Turned" "upon" "J" "CoincideBench",
  Jvm.Cond.fieldLinkNest "CoincideBench" (384 : Nat) "CoincideBench$Lattice" "rows" "LCoincideBench$Rows;" "CoincideBench",
  Jvm.Cond.fieldLinkNest "CoincideBench" (176 : Nat) "CoincideBench$Step" "kind" "I" "CoincideBench",
  Jvm.Cond.fieldLinkNest "CoincideBench" (177 : Nat) "CoincideBench$Step" "row" "I" "CoincideBench",
  Jvm.Cond.fieldLinkNest "CoincideBench" (180 : Nat) "CoincideBench$Step" "other" "I" "CoincideBench",
  Jvm.Cond.fieldLinkNest "CoincideBench" (183 : Nat) "CoincideBench$Step" "times" "J" "CoincideBench",
  Jvm.Cond.fieldLinkNest "CoincideBench" (163 : Nat) "CoincideBench$Hermite" "rows" "LCoincideBench$Rows;" "CoincideBench",
  Jvm.Cond.fieldLinkNest "CoincideBench" (168 : Nat) "CoincideBench$Hermite" "steps" "Ljava/util/ArrayList;" "CoincideBench",
  Jvm.Cond.fieldLinkNest "CoincideBench" (265 : Nat) "CoincideBench$Both" "rows" "LCoincideBench$Rows;" "CoincideBench",
  Jvm.Cond.fieldLinkNest "CoincideBench" (263 : Nat) "CoincideBench$Both" "over" "J" "CoincideBench",
  Jvm.Cond.fieldLinkNest "CoincideBench" (294 : Nat) "CoincideBench$Reduced" "rows" "LCoincideBench$Rows;" "CoincideBench",
  Jvm.Cond.fieldLinkNest "CoincideBench" (295 : Nat) "CoincideBench$Reduced" "bettered" "I" "CoincideBench",
  Jvm.Cond.methodLinkNest "CoincideBench" (301 : Nat) ({ cls := "CoincideBench$Reduced", name := "kissing", desc := "()I" } : Jvm.MethodName) "CoincideBench",
  Jvm.Cond.fieldLinkNest "CoincideBench" (438 : Nat) "CoincideBench$Hindrance" "row" "I" "CoincideBench",
  Jvm.Cond.fieldLinkNest "CoincideBench" (442 : Nat) "CoincideBench$Act" "lattice" "I" "CoincideBench",
  Jvm.Cond.fieldLinkNest "CoincideBench" (443 : Nat) "CoincideBench$Act" "were" "LCoincideBench$Rows;" "CoincideBench",
  Jvm.Cond.fieldLinkNest "CoincideBench" (424 : Nat) "CoincideBench$Refused" "act" "I" "CoincideBench",
  Jvm.Cond.fieldLinkNest "CoincideBench" (435 : Nat) "CoincideBench$Refused" "lattice" "I" "CoincideBench",
  Jvm.Cond.castable "CoincideBench" "java/lang/Object",
  Jvm.Cond.methodLinkNest "CoincideBench$Small" (11 : Nat) ({ cls := "CoincideBench$Rows", name := "<init>", desc := "()V" } : Jvm.MethodName) "CoincideBench",
  Jvm.Cond.fieldLinkNest "CoincideBench$Small" (30 : Nat) "CoincideBench$Rows" "at" "[[J" "CoincideBench",
  Jvm.Cond.castable "CoincideBench$Small" "java/lang/Object",
  Jvm.Cond.methodLinkNest "CoincideBench$Both" (13 : Nat) ({ cls := "CoincideBench", name := "divisor", desc := "(JJ)J" } : Jvm.MethodName) "CoincideBench",
  Jvm.Cond.castable "CoincideBench$Both" "java/lang/Object",
  Jvm.Cond.fieldLinkNest "CoincideBench$Reduced" (36 : Nat) "CoincideBench$Rows" "at" "[[J" "CoincideBench",
  Jvm.Cond.castable "CoincideBench$Reduced" "java/lang/Object",
  Jvm.Cond.declares ({ cls := "CoincideBench$Hindrance", name := "kind", desc := "()I" } : Jvm.MethodName),
  Jvm.Cond.castable "CoincideBench$Full" "CoincideBench$Full",
  Jvm.Cond.castable "CoincideBench$Full" "CoincideBench$Hindrance",
  Jvm.Cond.castable "CoincideBench$Full" "java/lang/Object",
  Jvm.Cond.castable "CoincideBench$TooGreat" "CoincideBench$TooGreat",
  Jvm.Cond.castable "CoincideBench$TooGreat" "CoincideBench$Hindrance",
  Jvm.Cond.castable "CoincideBench$TooGreat" "java/lang/Object",
  Jvm.Cond.castable "CoincideBench$Flat" "CoincideBench$Flat",
  Jvm.Cond.castable "CoincideBench$Flat" "CoincideBench$Hindrance",
  Jvm.Cond.castable "CoincideBench$Flat" "java/lang/Object",
  Jvm.Cond.castable "CoincideBench$Act" "java/lang/Object",
  Jvm.Cond.castable "CoincideBench$Refused" "CoincideBench$Refused",
  Jvm.Cond.castable "CoincideBench$Refused" "java/lang/Object",
  Jvm.Cond.methodLinkNest "CoincideBench$Rows" (21 : Nat) ({ cls := "CoincideBench", name := "divisor", desc := "(JJ)J" } : Jvm.MethodName) "CoincideBench",
  Jvm.Cond.castable "CoincideBench$Rows" "java/lang/Object",
  Jvm.Cond.castable "CoincideBenchModel" "java/lang/Object",
  Jvm.Cond.fieldLinkNest "CoincideBench$Reader" (176 : Nat) "CoincideBench$Rows" "at" "[[J" "CoincideBench",
  Jvm.Cond.fieldLinkNest "CoincideBench$Reader" (37 : Nat) "CoincideBench" "tape" "[B" "CoincideBench",
  Jvm.Cond.fieldLinkNest "CoincideBench$Reader" (33 : Nat) "CoincideBench" "taped" "I" "CoincideBench",
  Jvm.Cond.methodLinkNest "CoincideBench$Reader" (64 : Nat) ({ cls := "CoincideBench", name := "isIn", desc := "(JJJ)Z" } : Jvm.MethodName) "CoincideBench",
  Jvm.Cond.fieldLinkNest "CoincideBench$Reader" (172 : Nat) "CoincideBench$Lattice" "rows" "LCoincideBench$Rows;" "CoincideBench",
  Jvm.Cond.methodLinkNest "CoincideBench$Reader" (171 : Nat) ({ cls := "CoincideBench$Lattice", name := "<init>", desc := "()V" } : Jvm.MethodName) "CoincideBench",
  Jvm.Cond.castable "CoincideBench$Reader" "java/lang/Object",
  Jvm.Cond.castable "CoincideBench$Fault" "CoincideBench$Fault",
  Jvm.Cond.castable "CoincideBench$Fault" "java/lang/Object",
  Jvm.Cond.methodLinkNest "CoincideBench$Lattice" (9 : Nat) ({ cls := "CoincideBench$Rows", name := "<init>", desc := "()V" } : Jvm.MethodName) "CoincideBench",
  Jvm.Cond.castable "CoincideBench$Lattice" "java/lang/Object",
  Jvm.Cond.fieldLinkNest "CoincideBench$Turned" (24 : Nat) "CoincideBench$Rows" "at" "[[J" "CoincideBench",
  Jvm.Cond.methodLinkNest "CoincideBench$Turned" (3 : Nat) ({ cls := "CoincideBench$Lattice", name := "<init>", desc := "()V" } : Jvm.MethodName) "CoincideBench",
  Jvm.Cond.methodLinkNest "CoincideBench$Turned" (19 : Nat) ({ cls := "CoincideBench$Rows", name := "<init>", desc := "()V" } : Jvm.MethodName) "CoincideBench",
  Jvm.Cond.methodLinkNest "CoincideBench$Turned" (50 : Nat) ({ cls := "CoincideBench", name := "divisor", desc := "(JJ)J" } : Jvm.MethodName) "CoincideBench",
  Jvm.Cond.castable "CoincideBench$Turned" "CoincideBench$Lattice",
  Jvm.Cond.castable "CoincideBench$Turned" "java/lang/Object",
  Jvm.Cond.fieldLinkNest "CoincideBench$Hermite" (45 : Nat) "CoincideBench$Rows" "at" "[[J" "CoincideBench",
  Jvm.Cond.castable "CoincideBench$Hermite" "java/lang/Object",
  Jvm.Cond.castable "CoincideBench$Step" "java/lang/Object",
  Jvm.Cond.castable "CoincideBench$Token" "java/lang/Object",
  Jvm.Cond.castable "[B" "java/lang/Cloneable",
  Jvm.Cond.castable "[B" "java/lang/Object",
  Jvm.Cond.castable "[I" "java/lang/Object",
  Jvm.Cond.castable "[J" "java/lang/Object",
  Jvm.Cond.castable "[Ljava/lang/Object;" "java/lang/Object",
  Jvm.Cond.castable "[[I" "java/lang/Object",
  Jvm.Cond.castable "[[J" "java/lang/Object",
  Jvm.Cond.declares ({ cls := "java/util/Collection", name := "toArray", desc := "()[Ljava/lang/Object;" } : Jvm.MethodName),
  Jvm.Cond.arrayOver (Jvm.ClassFile.FieldType.object "java/lang/Object"),
  Jvm.Cond.arrayOver (Jvm.ClassFile.FieldType.array Jvm.ClassFile.FieldType.long),
  Jvm.Cond.arrayOver (Jvm.ClassFile.FieldType.array Jvm.ClassFile.FieldType.int),
  Jvm.Cond.selects "java/lang/StringBuilder" ({ cls := "java/lang/AbstractStringBuilder", name := "ensureCapacityInternal", desc := "(I)V" } : Jvm.MethodName) ({ cls := "java/lang/AbstractStringBuilder", name := "ensureCapacityInternal", desc := "(I)V" } : Jvm.MethodName),
  Jvm.Cond.selects "java/lang/StringBuilder" ({ cls := "java/lang/AbstractStringBuilder", name := "newCapacity", desc := "(I)I" } : Jvm.MethodName) ({ cls := "java/lang/AbstractStringBuilder", name := "newCapacity", desc := "(I)I" } : Jvm.MethodName),
  Jvm.Cond.selects "java/lang/StringBuilder" ({ cls := "java/lang/AbstractStringBuilder", name := "inflate", desc := "()V" } : Jvm.MethodName) ({ cls := "java/lang/AbstractStringBuilder", name := "inflate", desc := "()V" } : Jvm.MethodName)]
def slW : List Cond := [
  Jvm.Cond.selects "java/lang/StringBuilder" ({ cls := "java/lang/AbstractStringBuilder", name := "ensureCapacityInternal", desc := "(I)V" } : Jvm.MethodName) ({ cls := "java/lang/AbstractStringBuilder", name := "ensureCapacityInternal", desc := "(I)V" } : Jvm.MethodName),
  Jvm.Cond.selects "java/lang/StringBuilder" ({ cls := "java/lang/AbstractStringBuilder", name := "newCapacity", desc := "(I)I" } : Jvm.MethodName) ({ cls := "java/lang/AbstractStringBuilder", name := "newCapacity", desc := "(I)I" } : Jvm.MethodName),
  Jvm.Cond.selects "java/lang/StringBuilder" ({ cls := "java/lang/AbstractStringBuilder", name := "inflate", desc := "()V" } : Jvm.MethodName) ({ cls := "java/lang/AbstractStringBuilder", name := "inflate", desc := "()V" } : Jvm.MethodName)]
theorem stW_tbl : ∀ w ∈ stW, w ∈ lw_tbl ∨ w ∈ slW := List.forall_mem_cons.mpr ⟨Or.inl q591, List.forall_mem_cons.mpr ⟨Or.inl q592, List.forall_mem_cons.mpr ⟨Or.inl q1519, List.forall_mem_cons.mpr ⟨Or.inl q2216, List.forall_mem_cons.mpr ⟨Or.inl q589, List.forall_mem_cons.mpr ⟨Or.inl q590, List.forall_mem_cons.mpr ⟨Or.inl q685, List.forall_mem_cons.mpr ⟨Or.inl q2219, List.forall_mem_cons.mpr ⟨Or.inl q865, List.forall_mem_cons.mpr ⟨Or.inl q2196, List.forall_mem_cons.mpr ⟨Or.inl q2202, List.forall_mem_cons.mpr ⟨Or.inl q2203, List.forall_mem_cons.mpr ⟨Or.inl q211, List.forall_mem_cons.mpr ⟨Or.inl q223, List.forall_mem_cons.mpr ⟨Or.inl q307, List.forall_mem_cons.mpr ⟨Or.inl q315, List.forall_mem_cons.mpr ⟨Or.inl q320, List.forall_mem_cons.mpr ⟨Or.inl q635, List.forall_mem_cons.mpr ⟨Or.inl q637, List.forall_mem_cons.mpr ⟨Or.inl q763, List.forall_mem_cons.mpr ⟨Or.inl q765, List.forall_mem_cons.mpr ⟨Or.inl q768, List.forall_mem_cons.mpr ⟨Or.inl q995, List.forall_mem_cons.mpr ⟨Or.inl q997, List.forall_mem_cons.mpr ⟨Or.inl q999, List.forall_mem_cons.mpr ⟨Or.inl q1001, List.forall_mem_cons.mpr ⟨Or.inl q1032, List.forall_mem_cons.mpr ⟨Or.inl q1034, List.forall_mem_cons.mpr ⟨Or.inl q1159, List.forall_mem_cons.mpr ⟨Or.inl q1161, List.forall_mem_cons.mpr ⟨Or.inl q1256, List.forall_mem_cons.mpr ⟨Or.inl q1258, List.forall_mem_cons.mpr ⟨Or.inl q1277, List.forall_mem_cons.mpr ⟨Or.inl q1411, List.forall_mem_cons.mpr ⟨Or.inl q1458, List.forall_mem_cons.mpr ⟨Or.inl q1460, List.forall_mem_cons.mpr ⟨Or.inl q1486, List.forall_mem_cons.mpr ⟨Or.inl q1488, List.forall_mem_cons.mpr ⟨Or.inl q2195, List.forall_mem_cons.mpr ⟨Or.inl q199, List.forall_mem_cons.mpr ⟨Or.inl q207, List.forall_mem_cons.mpr ⟨Or.inl q2197, List.forall_mem_cons.mpr ⟨Or.inl q1156, List.forall_mem_cons.mpr ⟨Or.inl q2209, List.forall_mem_cons.mpr ⟨Or.inl q208, List.forall_mem_cons.mpr ⟨Or.inl q2210, List.forall_mem_cons.mpr ⟨Or.inl q1525, List.forall_mem_cons.mpr ⟨Or.inl q1396, List.forall_mem_cons.mpr ⟨Or.inl q2193, List.forall_mem_cons.mpr ⟨Or.inl q2211, List.forall_mem_cons.mpr ⟨Or.inl q1421, List.forall_mem_cons.mpr ⟨Or.inl q2194, List.forall_mem_cons.mpr ⟨Or.inl q2212, List.forall_mem_cons.mpr ⟨Or.inl q1437, List.forall_mem_cons.mpr ⟨Or.inl q2192, List.forall_mem_cons.mpr ⟨Or.inl q2213, List.forall_mem_cons.mpr ⟨Or.inl q2214, List.forall_mem_cons.mpr ⟨Or.inl q1468, List.forall_mem_cons.mpr ⟨Or.inl q2215, List.forall_mem_cons.mpr ⟨Or.inl q930, List.forall_mem_cons.mpr ⟨Or.inl q2198, List.forall_mem_cons.mpr ⟨Or.inl q2199, List.forall_mem_cons.mpr ⟨Or.inl q210, List.forall_mem_cons.mpr ⟨Or.inl q239, List.forall_mem_cons.mpr ⟨Or.inl q241, List.forall_mem_cons.mpr ⟨Or.inl q363, List.forall_mem_cons.mpr ⟨Or.inl q767, List.forall_mem_cons.mpr ⟨Or.inl q785, List.forall_mem_cons.mpr ⟨Or.inl q2200, List.forall_mem_cons.mpr ⟨Or.inl q588, List.forall_mem_cons.mpr ⟨Or.inl q2204, List.forall_mem_cons.mpr ⟨Or.inl q756, List.forall_mem_cons.mpr ⟨Or.inl q2206, List.forall_mem_cons.mpr ⟨Or.inl q206, List.forall_mem_cons.mpr ⟨Or.inl q751, List.forall_mem_cons.mpr ⟨Or.inl q759, List.forall_mem_cons.mpr ⟨Or.inl q935, List.forall_mem_cons.mpr ⟨Or.inl q2191, List.forall_mem_cons.mpr ⟨Or.inl q2205, List.forall_mem_cons.mpr ⟨Or.inl q209, List.forall_mem_cons.mpr ⟨Or.inl q2207, List.forall_mem_cons.mpr ⟨Or.inl q2208, List.forall_mem_cons.mpr ⟨Or.inl q2201, List.forall_mem_cons.mpr ⟨Or.inl q429, List.forall_mem_cons.mpr ⟨Or.inl q2222, List.forall_mem_cons.mpr ⟨Or.inl q2223, List.forall_mem_cons.mpr ⟨Or.inl q2224, List.forall_mem_cons.mpr ⟨Or.inl q2220, List.forall_mem_cons.mpr ⟨Or.inl q2225, List.forall_mem_cons.mpr ⟨Or.inl q2221, List.forall_mem_cons.mpr ⟨Or.inl q864, List.forall_mem_cons.mpr ⟨Or.inl q176, List.forall_mem_cons.mpr ⟨Or.inl q204, List.forall_mem_cons.mpr ⟨Or.inl q234, List.forall_mem_cons.mpr ⟨Or.inr (List.mem_of_getElem? (i := 0) rfl), List.forall_mem_cons.mpr ⟨Or.inr (List.mem_of_getElem? (i := 1) rfl), List.forall_mem_cons.mpr ⟨Or.inr (List.mem_of_getElem? (i := 2) rfl), fun _ h => absurd h List.not_mem_nil⟩⟩⟩⟩⟩⟩⟩⟩⟩⟩⟩⟩⟩⟩⟩⟩⟩⟩⟩⟩⟩⟩⟩⟩⟩⟩⟩⟩⟩⟩⟩⟩⟩⟩⟩⟩⟩⟩⟩⟩⟩⟩⟩⟩⟩⟩⟩⟩⟩⟩⟩⟩⟩⟩⟩⟩⟩⟩⟩⟩⟩⟩⟩⟩⟩⟩⟩⟩⟩⟩⟩⟩⟩⟩⟩⟩⟩⟩⟩⟩⟩⟩⟩⟩⟩⟩⟩⟩⟩⟩⟩⟩⟩⟩⟩⟩⟩
theorem stW_warm : ∀ w ∈ stW, ∀ s U : State, s.WarmedH U.vm → va_Nw w s → va_Nw w U := List.forall_mem_cons.mpr ⟨fun s U hW h => va_Nw.warmD hW h, List.forall_mem_cons.mpr ⟨fun s U hW h => va_Nw.warmD hW h, List.forall_mem_cons.mpr ⟨fun s U hW h => va_Nw.warmD hW h, List.forall_mem_cons.mpr ⟨fun s U hW h => va_Nw.warmC hW h, List.forall_mem_cons.mpr ⟨fun s U hW h => va_Nw.warmD hW h, List.forall_mem_cons.mpr ⟨fun s U hW h => va_Nw.warmD hW h, List.forall_mem_cons.mpr ⟨fun s U hW h => va_Nw.warmD hW h, List.forall_mem_cons.mpr ⟨fun s U hW h => va_Nw.warmD hW h, List.forall_mem_cons.mpr ⟨fun s U hW h => va_Nw.warmC hW h, List.forall_mem_cons.mpr ⟨fun s U hW h => va_Nw.warmC hW h, List.forall_mem_cons.mpr ⟨fun s U hW h => va_Nw.warmC hW h, List.forall_mem_cons.mpr ⟨fun s U hW h => va_Nw.warmC hW h, List.forall_mem_cons.mpr ⟨fun s U hW h => va_Nw.warmF hW h, List.forall_mem_cons.mpr ⟨fun s U hW h => va_Nw.warmF hW h, List.forall_mem_cons.mpr ⟨fun s U hW h => va_Nw.warmM hW h, List.forall_mem_cons.mpr ⟨fun s U hW h => va_Nw.warmF hW h, List.forall_mem_cons.mpr ⟨fun s U hW h => va_Nw.warmF hW h, List.forall_mem_cons.mpr ⟨fun s U hW h => va_Nw.warmF hW h, List.forall_mem_cons.mpr ⟨fun s U hW h => va_Nw.warmF hW h, List.forall_mem_cons.mpr ⟨fun s U hW h => va_Nw.warmF hW h, List.forall_mem_cons.mpr ⟨fun s U hW h => va_Nw.warmF hW h, List.forall_mem_cons.mpr ⟨fun s U hW h => va_Nw.warmF hW h, List.forall_mem_cons.mpr ⟨fun s U hW h => va_Nw.warmF hW h, List.forall_mem_cons.mpr ⟨fun s U hW h => va_Nw.warmF hW h, List.forall_mem_cons.mpr ⟨fun s U hW h => va_Nw.warmF hW h, List.forall_mem_cons.mpr ⟨fun s U hW h => va_Nw.warmF hW h, List.forall_mem_cons.mpr ⟨fun s U hW h => va_Nw.warmF hW h, List.forall_mem_cons.mpr ⟨fun s U hW h => va_Nw.warmF hW h, List.forall_mem_cons.mpr ⟨fun s U hW h => va_Nw.warmF hW h, List.forall_mem_cons.mpr ⟨fun s U hW h => va_Nw.warmF hW h, List.forall_mem_cons.mpr ⟨fun s U hW h => va_Nw.warmF hW h, List.forall_mem_cons.mpr ⟨fun s U hW h => va_Nw.warmF hW h, List.forall_mem_cons.mpr ⟨fun s U hW h => va_Nw.warmM hW h, List.forall_mem_cons.mpr ⟨fun s U hW h => va_Nw.warmF hW h, List.forall_mem_cons.mpr ⟨fun s U hW h => va_Nw.warmF hW h, List.forall_mem_cons.mpr ⟨fun s U hW h => va_Nw.warmF hW h, List.forall_mem_cons.mpr ⟨fun s U hW h => va_Nw.warmF hW h, List.forall_mem_cons.mpr ⟨fun s U hW h => va_Nw.warmF hW h, List.forall_mem_cons.mpr ⟨fun s U hW h => va_Nw.warmC hW h, List.forall_mem_cons.mpr ⟨fun s U hW h => va_Nw.warmM hW h, List.forall_mem_cons.mpr ⟨fun s U hW h => va_Nw.warmF hW h, List.forall_mem_cons.mpr ⟨fun s U hW h => va_Nw.warmC hW h, List.forall_mem_cons.mpr ⟨fun s U hW h => va_Nw.warmM hW h, List.forall_mem_cons.mpr ⟨fun s U hW h => va_Nw.warmC hW h, List.forall_mem_cons.mpr ⟨fun s U hW h => va_Nw.warmF hW h, List.forall_mem_cons.mpr ⟨fun s U hW h => va_Nw.warmC hW h, List.forall_mem_cons.mpr ⟨fun s U hW h => va_Nw.warmD hW h, List.forall_mem_cons.mpr ⟨fun s U hW h => va_Nw.warmC hW h, List.forall_mem_cons.mpr ⟨fun s U hW h => va_Nw.warmC hW h, List.forall_mem_cons.mpr ⟨fun s U hW h => va_Nw.warmC hW h, List.forall_mem_cons.mpr ⟨fun s U hW h => va_Nw.warmC hW h, List.forall_mem_cons.mpr ⟨fun s U hW h => va_Nw.warmC hW h, List.forall_mem_cons.mpr ⟨fun s U hW h => va_Nw.warmC hW h, List.forall_mem_cons.mpr ⟨fun s U hW h => va_Nw.warmC hW h, List.forall_mem_cons.mpr ⟨fun s U hW h => va_Nw.warmC hW h, List.forall_mem_cons.mpr ⟨fun s U hW h => va_Nw.warmC hW h, List.forall_mem_cons.mpr ⟨fun s U hW h => va_Nw.warmC hW h, List.forall_mem_cons.mpr ⟨fun s U hW h => va_Nw.warmC hW h, List.forall_mem_cons.mpr ⟨fun s U hW h => va_Nw.warmC hW h, List.forall_mem_cons.mpr ⟨fun s U hW h => va_Nw.warmM hW h, List.forall_mem_cons.mpr ⟨fun s U hW h => va_Nw.warmC hW h, List.forall_mem_cons.mpr ⟨fun s U hW h => va_Nw.warmC hW h, List.forall_mem_cons.mpr ⟨fun s U hW h => va_Nw.warmF hW h, List.forall_mem_cons.mpr ⟨fun s U hW h => va_Nw.warmF hW h, List.forall_mem_cons.mpr ⟨fun s U hW h => va_Nw.warmF hW h, List.forall_mem_cons.mpr ⟨fun s U hW h => va_Nw.warmM hW h, List.forall_mem_cons.mpr ⟨fun s U hW h => va_Nw.warmF hW h, List.forall_mem_cons.mpr ⟨fun s U hW h => va_Nw.warmM hW h, List.forall_mem_cons.mpr ⟨fun s U hW h => va_Nw.warmC hW h, List.forall_mem_cons.mpr ⟨fun s U hW h => va_Nw.warmC hW h, List.forall_mem_cons.mpr ⟨fun s U hW h => va_Nw.warmC hW h, List.forall_mem_cons.mpr ⟨fun s U hW h => va_Nw.warmM hW h, List.forall_mem_cons.mpr ⟨fun s U hW h => va_Nw.warmC hW h, List.forall_mem_cons.mpr ⟨fun s U hW h => va_Nw.warmF hW h, List.forall_mem_cons.mpr ⟨fun s U hW h => va_Nw.warmM hW h, List.forall_mem_cons.mpr ⟨fun s U hW h => va_Nw.warmM hW h, List.forall_mem_cons.mpr ⟨fun s U hW h => va_Nw.warmM hW h, List.forall_mem_cons.mpr ⟨fun s U hW h => va_Nw.warmC hW h, List.forall_mem_cons.mpr ⟨fun s U hW h => va_Nw.warmC hW h, List.forall_mem_cons.mpr ⟨fun s U hW h => va_Nw.warmF hW h, List.forall_mem_cons.mpr ⟨fun s U hW h => va_Nw.warmC hW h, List.forall_mem_cons.mpr ⟨fun s U hW h => va_Nw.warmC hW h, List.forall_mem_cons.mpr ⟨fun s U hW h => va_Nw.warmC hW h, List.forall_mem_cons.mpr ⟨fun s U hW h => va_Nw.warmC hW h, List.forall_mem_cons.mpr ⟨fun s U hW h => va_Nw.warmC hW h, List.forall_mem_cons.mpr ⟨fun s U hW h => va_Nw.warmC hW h, List.forall_mem_cons.mpr ⟨fun s U hW h => va_Nw.warmC hW h, List.forall_mem_cons.mpr ⟨fun s U hW h => va_Nw.warmC hW h, List.forall_mem_cons.mpr ⟨fun s U hW h => va_Nw.warmC hW h, List.forall_mem_cons.mpr ⟨fun s U hW h => va_Nw.warmC hW h, List.forall_mem_cons.mpr ⟨fun s U hW h => va_Nw.warmD hW h, List.forall_mem_cons.mpr ⟨fun s U hW h => va_AO.moved hW.alike h, List.forall_mem_cons.mpr ⟨fun s U hW h => aa_moved hW.alike h, List.forall_mem_cons.mpr ⟨fun s U hW h => aa_moved hW.alike h, List.forall_mem_cons.mpr ⟨fun s U hW h => word_at hW (Or.inl (by first | rfl | simp [Cond.onTables, Cond.keeps, Cond.steady])) h, List.forall_mem_cons.mpr ⟨fun s U hW h => word_at hW (Or.inl (by first | rfl | simp [Cond.onTables, Cond.keeps, Cond.steady])) h, List.forall_mem_cons.mpr ⟨fun s U hW h => word_at hW (Or.inl (by first | rfl | simp [Cond.onTables, Cond.keeps, Cond.steady])) h, fun _ h => absurd h List.not_mem_nil⟩⟩⟩⟩⟩⟩⟩⟩⟩⟩⟩⟩⟩⟩⟩⟩⟩⟩⟩⟩⟩⟩⟩⟩⟩⟩⟩⟩⟩⟩⟩⟩⟩⟩⟩⟩⟩⟩⟩⟩⟩⟩⟩⟩⟩⟩⟩⟩⟩⟩⟩⟩⟩⟩⟩⟩⟩⟩⟩⟩⟩⟩⟩⟩⟩⟩⟩⟩⟩⟩⟩⟩⟩⟩⟩⟩⟩⟩⟩⟩⟩⟩⟩⟩⟩⟩⟩⟩⟩⟩⟩⟩⟩⟩⟩⟩⟩
theorem stW_same : ∀ w ∈ stW, ∀ s U : State, s.vm = U.vm → va_Nw w s → va_Nw w U := List.forall_mem_cons.mpr ⟨fun s U hv h => va_Nw.same rfl hv h, List.forall_mem_cons.mpr ⟨fun s U hv h => va_Nw.same rfl hv h, List.forall_mem_cons.mpr ⟨fun s U hv h => va_Nw.same rfl hv h, List.forall_mem_cons.mpr ⟨fun s U hv h => va_Nw.same rfl hv h, List.forall_mem_cons.mpr ⟨fun s U hv h => va_Nw.same rfl hv h, List.forall_mem_cons.mpr ⟨fun s U hv h => va_Nw.same rfl hv h, List.forall_mem_cons.mpr ⟨fun s U hv h => va_Nw.same rfl hv h, List.forall_mem_cons.mpr ⟨fun s U hv h => va_Nw.same rfl hv h, List.forall_mem_cons.mpr ⟨fun s U hv h => va_Nw.same rfl hv h, List.forall_mem_cons.mpr ⟨fun s U hv h => va_Nw.same rfl hv h, List.forall_mem_cons.mpr ⟨fun s U hv h => va_Nw.same rfl hv h, List.forall_mem_cons.mpr ⟨fun s U hv h => va_Nw.same rfl hv h, List.forall_mem_cons.mpr ⟨fun s U hv h => va_Nw.same rfl hv h, List.forall_mem_cons.mpr ⟨fun s U hv h => va_Nw.same rfl hv h, List.forall_mem_cons.mpr ⟨fun s U hv h => va_Nw.same rfl hv h, List.forall_mem_cons.mpr ⟨fun s U hv h => va_Nw.same rfl hv h, List.forall_mem_cons.mpr ⟨fun s U hv h => va_Nw.same rfl hv h, List.forall_mem_cons.mpr ⟨fun s U hv h => va_Nw.same rfl hv h, List.forall_mem_cons.mpr ⟨fun s U hv h => va_Nw.same rfl hv h, List.forall_mem_cons.mpr ⟨fun s U hv h => va_Nw.same rfl hv h, List.forall_mem_cons.mpr ⟨fun s U hv h => va_Nw.same rfl hv h, List.forall_mem_cons.mpr ⟨fun s U hv h => va_Nw.same rfl hv h, List.forall_mem_cons.mpr ⟨fun s U hv h => va_Nw.same rfl hv h, List.forall_mem_cons.mpr ⟨fun s U hv h => va_Nw.same rfl hv h, List.forall_mem_cons.mpr ⟨fun s U hv h => va_Nw.same rfl hv h, List.forall_mem_cons.mpr ⟨fun s U hv h => va_Nw.same rfl hv h, List.forall_mem_cons.mpr ⟨fun s U hv h => va_Nw.same rfl hv h, List.forall_mem_cons.mpr ⟨fun s U hv h => va_Nw.same rfl hv h, List.forall_mem_cons.mpr ⟨fun s U hv h => va_Nw.same rfl hv h, List.forall_mem_cons.mpr ⟨fun s U hv h => va_Nw.same rfl hv h, List.forall_mem_cons.mpr ⟨fun s U hv h => va_Nw.same rfl hv h, List.forall_mem_cons.mpr ⟨fun s U hv h => va_Nw.same rfl hv h, List.forall_mem_cons.mpr ⟨fun s U hv h => va_Nw.same rfl hv h, List.forall_mem_cons.mpr ⟨fun s U hv h => va_Nw.same rfl hv h, List.forall_mem_cons.mpr ⟨fun s U hv h => va_Nw.same rfl hv h, List.forall_mem_cons.mpr ⟨fun s U hv h => va_Nw.same rfl hv h, List.forall_mem_cons.mpr ⟨fun s U hv h => va_Nw.same rfl hv h, List.forall_mem_cons.mpr ⟨fun s U hv h => va_Nw.same rfl hv h, List.forall_mem_cons.mpr ⟨fun s U hv h => va_Nw.same rfl hv h, List.forall_mem_cons.mpr ⟨fun s U hv h => va_Nw.same rfl hv h, List.forall_mem_cons.mpr ⟨fun s U hv h => va_Nw.same rfl hv h, List.forall_mem_cons.mpr ⟨fun s U hv h => va_Nw.same rfl hv h, List.forall_mem_cons.mpr ⟨fun s U hv h => va_Nw.same rfl hv h, List.forall_mem_cons.mpr ⟨fun s U hv h => va_Nw.same rfl hv h, List.forall_mem_cons.mpr ⟨fun s U hv h => va_Nw.same rfl hv h, List.forall_mem_cons.mpr ⟨fun s U hv h => va_Nw.same rfl hv h, List.forall_mem_cons.mpr ⟨fun s U hv h => va_Nw.same rfl hv h, List.forall_mem_cons.mpr ⟨fun s U hv h => va_Nw.same rfl hv h, List.forall_mem_cons.mpr ⟨fun s U hv h => va_Nw.same rfl hv h, List.forall_mem_cons.mpr ⟨fun s U hv h => va_Nw.same rfl hv h, List.forall_mem_cons.mpr ⟨fun s U hv h => va_Nw.same rfl hv h, List.forall_mem_cons.mpr ⟨fun s U hv h => va_Nw.same rfl hv h, List.forall_mem_cons.mpr ⟨fun s U hv h => va_Nw.same rfl hv h, List.forall_mem_cons.mpr ⟨fun s U hv h => va_Nw.same rfl hv h, List.forall_mem_cons.mpr ⟨fun s U hv h => va_Nw.same rfl hv h, List.forall_mem_cons.mpr ⟨fun s U hv h => va_Nw.same rfl hv h, List.forall_mem_cons.mpr ⟨fun s U hv h => va_Nw.same rfl hv h, List.forall_mem_cons.mpr ⟨fun s U hv h => va_Nw.same rfl hv h, List.forall_mem_cons.mpr ⟨fun s U hv h => va_Nw.same rfl hv h, List.forall_mem_cons.mpr ⟨fun s U hv h => va_Nw.same rfl hv h, List.forall_mem_cons.mpr ⟨fun s U hv h => va_Nw.same rfl hv h, List.forall_mem_cons.mpr ⟨fun s U hv h => va_Nw.same rfl hv h, List.forall_mem_cons.mpr ⟨fun s U hv h => va_Nw.same rfl hv h, List.forall_mem_cons.mpr ⟨fun s U hv h => va_Nw.same rfl hv h, List.forall_mem_cons.mpr ⟨fun s U hv h => va_Nw.same rfl hv h, List.forall_mem_cons.mpr ⟨fun s U hv h => va_Nw.same rfl hv h, List.forall_mem_cons.mpr ⟨fun s U hv h => va_Nw.same rfl hv h, List.forall_mem_cons.mpr ⟨fun s U hv h => va_Nw.same rfl hv h, List.forall_mem_cons.mpr ⟨fun s U hv h => va_Nw.same rfl hv h, List.forall_mem_cons.mpr ⟨fun s U hv h => va_Nw.same rfl hv h, List.forall_mem_cons.mpr ⟨fun s U hv h => va_Nw.same rfl hv h, List.forall_mem_cons.mpr ⟨fun s U hv h => va_Nw.same rfl hv h, List.forall_mem_cons.mpr ⟨fun s U hv h => va_Nw.same rfl hv h, List.forall_mem_cons.mpr ⟨fun s U hv h => va_Nw.same rfl hv h, List.forall_mem_cons.mpr ⟨fun s U hv h => va_Nw.same rfl hv h, List.forall_mem_cons.mpr ⟨fun s U hv h => va_Nw.same rfl hv h, List.forall_mem_cons.mpr ⟨fun s U hv h => va_Nw.same rfl hv h, List.forall_mem_cons.mpr ⟨fun s U hv h => va_Nw.same rfl hv h, List.forall_mem_cons.mpr ⟨fun s U hv h => va_Nw.same rfl hv h, List.forall_mem_cons.mpr ⟨fun s U hv h => va_Nw.same rfl hv h, List.forall_mem_cons.mpr ⟨fun s U hv h => va_Nw.same rfl hv h, List.forall_mem_cons.mpr ⟨fun s U hv h => va_Nw.same rfl hv h, List.forall_mem_cons.mpr ⟨fun s U hv h => va_Nw.same rfl hv h, List.forall_mem_cons.mpr ⟨fun s U hv h => va_Nw.same rfl hv h, List.forall_mem_cons.mpr ⟨fun s U hv h => va_Nw.same rfl hv h, List.forall_mem_cons.mpr ⟨fun s U hv h => va_Nw.same rfl hv h, List.forall_mem_cons.mpr ⟨fun s U hv h => va_Nw.same rfl hv h, List.forall_mem_cons.mpr ⟨fun s U hv h => va_Nw.same rfl hv h, List.forall_mem_cons.mpr ⟨fun s U hv h => va_Nw.same rfl hv h, List.forall_mem_cons.mpr ⟨fun s U hv h => va_Nw.same rfl hv h, List.forall_mem_cons.mpr ⟨fun s U hv h => va_Nw.same rfl hv h, List.forall_mem_cons.mpr ⟨fun s U hv h => va_AO.moved (hv ▸ Vm.Alike.refl s.vm) h, List.forall_mem_cons.mpr ⟨fun s U hv h => aa_moved (hv ▸ Vm.Alike.refl s.vm) h, List.forall_mem_cons.mpr ⟨fun s U hv h => aa_moved (hv ▸ Vm.Alike.refl s.vm) h, List.forall_mem_cons.mpr ⟨fun s U hv h => va_Nw.same rfl hv h, List.forall_mem_cons.mpr ⟨fun s U hv h => va_Nw.same rfl hv h, List.forall_mem_cons.mpr ⟨fun s U hv h => va_Nw.same rfl hv h, fun _ h => absurd h List.not_mem_nil⟩⟩⟩⟩⟩⟩⟩⟩⟩⟩⟩⟩⟩⟩⟩⟩⟩⟩⟩⟩⟩⟩⟩⟩⟩⟩⟩⟩⟩⟩⟩⟩⟩⟩⟩⟩⟩⟩⟩⟩⟩⟩⟩⟩⟩⟩⟩⟩⟩⟩⟩⟩⟩⟩⟩⟩⟩⟩⟩⟩⟩⟩⟩⟩⟩⟩⟩⟩⟩⟩⟩⟩⟩⟩⟩⟩⟩⟩⟩⟩⟩⟩⟩⟩⟩⟩⟩⟩⟩⟩⟩⟩⟩⟩⟩⟩⟩
