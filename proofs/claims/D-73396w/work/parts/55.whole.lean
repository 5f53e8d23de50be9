/-! the claim's walk out of the pure law -/
set_option maxRecDepth 100000
noncomputable section
def LawTrue : Prop := ∀ (base : Nat) (kt : KT) (xs : Nat → Int32) (L b : Nat), L ≤ 448 → KF base kt → ∃ f u9, m_L_law f xs L (base, 0, base, fun _ => none, kt) b = some (1, u9) ∧ u9.1 - base ≤ 601024 ∧ u9.2.1 ≤ 7293034
theorem whole_of (hlaw : LawTrue) {p : Program} {e : Env} {s : State} {m : MethodId} {below : List Frame} {meth : Method} {c : Code} (l : Launch) (hflags : l.flags = flags0) {b L : Nat} {xs : Nat → Int32} (hL : L ≤ 448) (C0 : lw_At p s m meth c b L xs) : W p l e room_1 s m #[Value.ref b] below meth c s.heap [] 0 0 (lw_Z below #[Value.ref b] s) (entryFrame m ([Value.ref b] : List Value).toArray 4) := by
  obtain ⟨hx, hb, hr, hml, hown, hts, hX, hbl, hlocks, hgv⟩ := C0
  obtain ⟨kt, hF, hKW⟩ := start_kt hts hgv
  obtain ⟨D, dA, hK⟩ := start_K hts
  obtain ⟨f, u9, hm, h1, h2⟩ := hlaw s.heap.size kt xs L b hL hF
  have htl : l.stackTraces = false := by unfold Launch.stackTraces; rw [hflags]; decide +kernel
  refine w_law l htl (D := D) (dA := dA) (A := fun q => s.heap.size ≤ q) (u := (s.heap.size, 0, s.heap.size, fun _ => none, kt)) hm h1 (by show u9.2.1 - 0 ≤ _; omega) hx hb hr hml hown (fun w h => hts w (lw_all_tbl h)) hX hbl hlocks (fun q => Iff.rfl) ⟨⟨rfl, (fun a e he => by cases he), va_S.rf, fun q hq => hq, hKW⟩, hK⟩
end
