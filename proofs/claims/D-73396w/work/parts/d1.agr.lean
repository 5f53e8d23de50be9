/-! states that agree where the twin has fields -/
set_option maxRecDepth 100000
theorem agr_of {ad ad' : Nat → Nat} {u v : TS} (h : twl ad u = twl ad' v) : agr u v := by
  unfold agr
  unfold twl twF at h ⊢
  simp only [List.cons.injEq, Prod.mk.injEq, Sum.inl.injEq, Sum.inr.injEq, Value.int.injEq, Value.long.injEq, true_and, and_true] at h ⊢
  simp only [h, and_self]
theorem Tw.agr {h : CH} {y : Nat} {ad : Nat → Nat} {u : TS} (H : Tw h y ad u) : agr (rdU h y) u := agr_of H.lst
theorem agr.A {u v : TS} (h : agr u v) {k : Nat} (hk : k ∈ [0, 1, 2, 3, 16, 17, 21, 22, 23]) : tA u k = tA v k := by
  unfold Jvm.Pilot.CCoincideBenchLaw_law_r8029_ca2b77.agr twl twF at h
  simp only [List.cons.injEq, Prod.mk.injEq, Sum.inl.injEq, Sum.inr.injEq, Value.int.injEq, Value.long.injEq, true_and, and_true] at h
  simp only [List.mem_cons, List.not_mem_nil, or_false] at hk
  rcases hk with rfl | rfl | rfl | rfl | rfl | rfl | rfl | rfl | rfl <;> simp only [h]
theorem agr.B {u v : TS} (h : agr u v) {k : Nat} (hk : k ∈ [18, 20, 24, 26, 27, 29, 32, 33, 34, 36, 37, 38, 39]) : tB u k = tB v k := by
  unfold Jvm.Pilot.CCoincideBenchLaw_law_r8029_ca2b77.agr twl twF at h
  simp only [List.cons.injEq, Prod.mk.injEq, Sum.inl.injEq, Sum.inr.injEq, Value.int.injEq, Value.long.injEq, true_and, and_true] at h
  simp only [List.mem_cons, List.not_mem_nil, or_false] at hk
  rcases hk with rfl | rfl | rfl | rfl | rfl | rfl | rfl | rfl | rfl | rfl | rfl | rfl | rfl <;> simp only [h]
theorem agr.I {u v : TS} (h : agr u v) {k : Nat} (hk : k ∈ [4, 5, 6, 7, 8, 9, 10, 11, 12, 13, 14, 15, 25, 35]) : tI u k = tI v k := by
  unfold Jvm.Pilot.CCoincideBenchLaw_law_r8029_ca2b77.agr twl twF at h
  simp only [List.cons.injEq, Prod.mk.injEq, Sum.inl.injEq, Sum.inr.injEq, Value.int.injEq, Value.long.injEq, true_and, and_true] at h
  simp only [List.mem_cons, List.not_mem_nil, or_false] at hk
  rcases hk with rfl | rfl | rfl | rfl | rfl | rfl | rfl | rfl | rfl | rfl | rfl | rfl | rfl | rfl <;> simp only [h]
theorem agr.L {u v : TS} (h : agr u v) {k : Nat} (hk : k ∈ [19, 28, 30, 31]) : tL u k = tL v k := by
  unfold Jvm.Pilot.CCoincideBenchLaw_law_r8029_ca2b77.agr twl twF at h
  simp only [List.cons.injEq, Prod.mk.injEq, Sum.inl.injEq, Sum.inr.injEq, Value.int.injEq, Value.long.injEq, true_and, and_true] at h
  simp only [List.mem_cons, List.not_mem_nil, or_false] at hk
  rcases hk with rfl | rfl | rfl | rfl <;> simp only [h]
theorem agr.tv {u v : TS} {LS : LSt} (h : agr u v) (T : TV v LS) : TV u LS := by
  have e := h.A (k := 0) (by decide)
  refine ⟨by rw [e]; exact T.1, T.2.1, fun i M n tn hi => ?_⟩
  obtain ⟨t1, t2⟩ := T.2.2 i M n tn hi
  exact ⟨fun f hf w hw => t1 f hf w (fun x => by rw [hw x, e]), by rw [e]; exact t2⟩
theorem agr.tR {u v : TS} {N : Mi} {k : Nat} (h : agr u v) (hk : k ∈ [18, 20, 24, 26, 27, 29, 32, 33, 34, 36, 37, 38, 39]) (T : tR k v N) : tR k u N := fun i j hi hj => by rw [h.B hk]; exact T i j hi hj
/-- of the twin's own fields only those of l changed -/
def FrA (l : List Nat) (u v : TS) : Prop := ∃ w, Fr l u w ∧ agr v w
