/-! the component's world: a map of cells by address, the heap's size, the slots made; rows over it -/
set_option maxRecDepth 100000
abbrev AC : Type := (Nat × List Value) ⊕ (Nat × Nat × ((Nat → Int32) ⊕ (Nat → Int64) ⊕ (Nat → Option Nat)))
/-- constants: an array of that many null places; a String, by its bytes' address; bytes -/
abbrev KC : Type := Nat ⊕ Nat ⊕ List Int32
abbrev KT : Type := (Nat → Option KC) × (Nat → Option Nat)
/-- size of the heap, slots made so far, from where on cells may be written, the cells, the constants -/
abbrev CH : Type := Nat × Nat × Nat × (Nat → Option AC) × KT
def toE (dA : Nat → ClassId) : AC → va_E
  | .inl o => .inr o
  | .inr (t, n, .inl f) => .inl (dA t, n, .inl f)
  | .inr (t, n, .inr (.inl f)) => .inl (dA t, n, .inr (.inl f))
  | .inr (t, n, .inr (.inr f)) => .inl (dA t, n, .inr (.inr (.inr (.inr f))))
abbrev cTys (dA : Nat → ClassId) : List (ClassId × FieldType) := [(dA 0, .int), (dA 1, .long), (dA 2, .byte), (dA 3, .object "java/lang/Object"), (dA 4, .array .long), (dA 5, .array .int)]
def cm (h : CH) (a : Nat) : Option AC := h.2.2.2.1 a
def cs (h : CH) (a : Nat) (e : AC) : CH := (h.1, h.2.1, h.2.2.1, va_up h.2.2.2.1 a (some e), h.2.2.2.2)
/-- a new cell, of so many slots -/
def cn (h : CH) (k : Nat) (e : AC) : CH := (h.1 + 1, h.2.1 + k, h.2.2.1, va_up h.2.2.2.1 h.1 (some e), h.2.2.2.2)
def oF (h : CH) (ci k a : Nat) : Option Value := match cm h a with
  | some (.inl (c, fs)) => if c = ci then fs[k]? else none
  | none => (match h.2.2.2.2.1 a with
    | some (.inr (.inl v)) => if ci = 19 then (if k = 0 then some (.ref v) else if k = 1 then some (.int 0) else none) else none
    | _ => none)
  | _ => none
def oI (h : CH) (ci k a : Nat) : Option Int32 := match oF h ci k a with
  | some (.int x) => some x
  | _ => none
def oL (h : CH) (ci k a : Nat) : Option Int64 := match oF h ci k a with
  | some (.long x) => some x
  | _ => none
def oR (h : CH) (ci k a : Nat) : Option Nat := match oF h ci k a with
  | some (.ref x) => some x
  | _ => none
/-- a reference or null -/
def oQ (h : CH) (ci k a : Nat) : Option (Option Nat) := match oF h ci k a with
  | some (.ref x) => some (some x)
  | some .null => some none
  | _ => none
def pF (h : CH) (ci k a : Nat) (v : Value) : Option CH := match cm h a with
  | some (.inl (c, fs)) => if c = ci ∧ h.2.2.1 ≤ a ∧ k < fs.length then some (cs h a (.inl (c, fs.set k v))) else none
  | _ => none
def aI (h : CH) (t a : Nat) (i : Int32) : Option Int32 := match cm h a with
  | some (.inr (t', n, .inl f)) => if t' = t ∧ ix i n = true then some (f i.toNatClampNeg) else none
  | none => (match h.2.2.2.2.1 a with
    | some (.inr (.inr bs)) => if t = 2 ∧ ix i bs.length = true then some (bs.getD i.toNatClampNeg 0) else none
    | _ => none)
  | _ => none
def aL (h : CH) (t a : Nat) (i : Int32) : Option Int64 := match cm h a with
  | some (.inr (t', n, .inr (.inl f))) => if t' = t ∧ ix i n = true then some (f i.toNatClampNeg) else none
  | _ => none
def aQ (h : CH) (t a : Nat) (i : Int32) : Option (Option Nat) := match cm h a with
  | some (.inr (t', n, .inr (.inr f))) => if t' = t ∧ ix i n = true then some (f i.toNatClampNeg) else none
  | _ => none
def aR (h : CH) (t a : Nat) (i : Int32) : Option Nat := match aQ h t a i with
  | some (some x) => some x
  | _ => none
/-- an array's length -/
def aN (h : CH) (t a : Nat) : Option Nat := match cm h a with
  | some (.inr (t', n, _)) => if t' = t then some n else none
  | none => (match h.2.2.2.2.1 a with
    | some (.inl n) => if t = 3 then some n else none
    | some (.inr (.inr bs)) => if t = 2 then some bs.length else none
    | _ => none)
  | _ => none
def uI (h : CH) (t a : Nat) (i : Int32) (x : Int32) : Option CH := match cm h a with
  | some (.inr (t', n, .inl f)) => if t' = t ∧ h.2.2.1 ≤ a ∧ ix i n = true then some (cs h a (.inr (t', n, .inl (upd f i.toNatClampNeg x)))) else none
  | _ => none
def uL (h : CH) (t a : Nat) (i : Int32) (x : Int64) : Option CH := match cm h a with
  | some (.inr (t', n, .inr (.inl f))) => if t' = t ∧ h.2.2.1 ≤ a ∧ ix i n = true then some (cs h a (.inr (t', n, .inr (.inl (vp_updL f i.toNatClampNeg x))))) else none
  | _ => none
def uQ (h : CH) (t a : Nat) (i : Int32) (x : Option Nat) : Option CH := match cm h a with
  | some (.inr (t', n, .inr (.inr f))) => if t' = t ∧ h.2.2.1 ≤ a ∧ ix i n = true then some (cs h a (.inr (t', n, .inr (.inr (va_up f i.toNatClampNeg x))))) else none
  | _ => none
/-- the object's class, by its number in gCl -/
def oC (h : CH) (a : Nat) : Option Nat := match cm h a with
  | some (.inl (c, _)) => some c
  | _ => none
abbrev stS : List (String × String × String) := [("java/util/ArrayList", "DEFAULTCAPACITY_EMPTY_ELEMENTDATA", "[Ljava/lang/Object;"), ("java/util/ArrayList", "EMPTY_ELEMENTDATA", "[Ljava/lang/Object;"), ("CoincideBench$Token", "BAD", "LCoincideBench$Token;"), ("CoincideBench$Token", "DASH", "LCoincideBench$Token;"), ("CoincideBench$Token", "END", "LCoincideBench$Token;"), ("CoincideBench$Token", "NUMBER", "LCoincideBench$Token;"), ("CoincideBench$Token", "SEMI", "LCoincideBench$Token;"), ("CoincideBench$Token", "WORD", "LCoincideBench$Token;"), ("java/lang/Throwable", "UNASSIGNED_STACK", "[Ljava/lang/StackTraceElement;"), ("java/lang/Throwable", "SUPPRESSED_SENTINEL", "Ljava/util/List;"), ("jdk/internal/util/Preconditions", "SIOOBE_FORMATTER", "Ljava/util/function/BiFunction;")]
abbrev siS : List (String × String × String × Int32) := [("java/lang/String", "COMPACT_STRINGS", "Z", 1), ("java/lang/StringUTF16", "$assertionsDisabled", "Z", 1), ("java/lang/StringUTF16", "HI_BYTE_SHIFT", "I", 0), ("java/lang/StringUTF16", "LO_BYTE_SHIFT", "I", 8)]
abbrev strS : List (String × Nat × String) := [("CoincideBench$Refused", 1, "refused"), ("CoincideBench$Reader", 27, ""), ("CoincideBench$Reader", 135, "turn"), ("CoincideBench$Reader", 137, "lattice"), ("CoincideBench$Reader", 165, "of"), ("CoincideBench$Reader", 167, "by"), ("CoincideBenchModel", 139, "lattice"), ("CoincideBenchModel", 145, "turn"), ("CoincideBenchModel", 146, "of"), ("CoincideBenchModel", 148, "by"), ("CoincideBenchModel", 349, "012021102120201210")]
def kcOk (A : Nat → Prop) (s : State) (a : Nat) : KC → Prop
  | .inl n => va_T (.object "java/lang/Object") a n (fun _ => .null) A s s.heap
  | .inr (.inl v) => va_OF "java/lang/String" "value" "[B" (.ref v) a A s s.heap ∧ va_OF "java/lang/String" "coder" "B" (.int 0) a A s s.heap ∧ va_O "java/lang/String" a A s s.heap
  | .inr (.inr bs) => va_T .byte a bs.length (fun j => .int (bs.getD j 0)) A s s.heap
/-- pairs of classes the first of which can not be cast to the second -/
abbrev ncS : List (String × String) := [("CoincideBench$Lattice", "CoincideBench$Turned"), ("CoincideBench$Flat", "CoincideBench$TooGreat"), ("CoincideBench$Full", "CoincideBench$TooGreat"), ("CoincideBench$Full", "CoincideBench$Flat")]
/-- what is constant: the tables' words, constants' cells, statics, texts -/
def KW (A : Nat → Prop) (kt : KT) (s : State) : Prop := (∀ w ∈ stW, va_Nw w s) ∧ (∀ a e, kt.1 a = some e → kcOk A s a e) ∧ (∀ (i : Nat) (q : String × String × String), stS[i]? = some q → va_Z q.1 q.2.1 q.2.2 (va_rf (kt.2 i)) A s s.heap) ∧ (∀ (i : Nat) (q : String × String × String × Int32), siS[i]? = some q → va_Z q.1 q.2.1 q.2.2.1 (.int q.2.2.2) A s s.heap) ∧ (∀ (i : Nat) (q : String × Nat × String), strS[i]? = some q → ∃ a, kt.2 (20 + i) = some a ∧ vk_R q.1 q.2.1 q.2.2 a s) ∧ (∀ (i : Nat) (q : String × String), ncS[i]? = some q → va_Nc q.1 q.2 s) ∧ (∃ mi, kt.2 40 = some mi ∧ va_Mi "[Ljava/lang/Object;" mi s) ∧ va_Fw "java/util/ArrayList" ⟨"java/util/Collection", "toArray", "()[Ljava/lang/Object;"⟩ ⟨"java/util/ArrayList", "toArray", "()[Ljava/lang/Object;"⟩ s ∧ vx_L "java/lang/Throwable" "UNASSIGNED_STACK" "[Ljava/lang/StackTraceElement;" A s s.heap ∧ vx_L "java/lang/Throwable" "SUPPRESSED_SENTINEL" "Ljava/util/List;" A s s.heap
theorem KW.moved {A : Nat → Prop} {kt : KT} {s U : State} {H : Heap} {locs : List Loc} (w : KW A kt s) (hU : U.heap = H) (hW : s.WarmedH U.vm) (hS : va_S A s.heap H locs) : KW A kt U := by
  subst hU
  refine ⟨fun x hx => stW_warm x hx s U hW (w.1 x hx), fun a e he => ?_, fun i q hq => ?_, fun i q hq => ?_, fun i q hq => ?_, fun i q hq => va_Nc.moved hW.alike (w.2.2.2.2.2.1 i q hq), ?_, va_Fw.moved (by decide) hW.alike w.2.2.2.2.2.2.2.1, (vx_L.moved hW.alike w.2.2.2.2.2.2.2.2.1).kept hS.2.1, (vx_L.moved hW.alike w.2.2.2.2.2.2.2.2.2).kept hS.2.1⟩
  · have h := w.2.1 a e he
    rcases e with n | v | bs
    · exact (va_T.moved hW.alike h).kept hS.2.1
    · exact ⟨(va_OF.moved hW.alike h.1).kept hS.2.1, (va_OF.moved hW.alike h.2.1).kept hS.2.1, (va_O.moved hW.alike h.2.2).kept hS.2.1⟩
    · exact (va_T.moved hW.alike h).kept hS.2.1
  · exact (va_Z.moved hW.alike (w.2.2.1 i q hq)).kept hS.2.1
  · exact (va_Z.moved hW.alike (w.2.2.2.1 i q hq)).kept hS.2.1
  · obtain ⟨a, h1, h2⟩ := w.2.2.2.2.1 i q hq
    exact ⟨a, h1, h2.warm hW⟩
  · obtain ⟨mi, h1, h2⟩ := w.2.2.2.2.2.2.1
    exact ⟨mi, h1, va_Mi.moved hW.alike h2⟩
/-- nobody holds an object's lock (of the twin's nothing is said) -/
def moF (a : Nat) (e : AC) (H : Heap) : Prop := match e with
  | .inl (c, _) => c ≠ 0 → ∀ cell : Cell, H[a]? = some cell → cell.monitor = {}
  | .inr _ => True
theorem moF.kept {a : Nat} {e : AC} {H H1 : Heap} (h : moF a e H) (hq : H1[a]? = H[a]?) : moF a e H1 := by
  rcases e with ⟨c, fs⟩ | o
  · exact fun hz cell hc => h hz cell (hq.symm.trans hc)
  · trivial
def CW (D : va_G) (dA : Nat → ClassId) (A : Nat → Prop) (s : State) (h : CH) (H : Heap) (locs : List Loc) : Prop :=
  H.size = h.1 ∧ (∀ a e, h.2.2.2.1 a = some e → va_at D gCl (a, toE dA e) H ∧ (h.2.2.1 ≤ a → A a) ∧ moF a e H) ∧ va_S A s.heap H locs ∧ (∀ q, s.heap.size ≤ q → A q) ∧ KW A h.2.2.2.2 s
theorem CW.one {D : va_G} {dA : Nat → ClassId} {A : Nat → Prop} {s : State} {H : Heap} {h : CH} {locs : List Loc} (w : CW D dA A s h H locs) {a : Nat} {e : AC} (he : cm h a = some e) : va_P D gCl [(a, toE dA e)] H := by
  intro k q hk
  have hz : k < 1 := (List.getElem?_eq_some_iff.mp hk).1
  rw [show k = 0 by omega] at hk
  cases hk
  exact (w.2.1 a e he).1
theorem CW.lt {D : va_G} {dA : Nat → ClassId} {A : Nat → Prop} {s : State} {H : Heap} {h : CH} {locs : List Loc} (w : CW D dA A s h H locs) {a : Nat} {e : AC} (he : cm h a = some e) : a < H.size := (w.one he 0 _ rfl).lt
/-- one cell changes -/
theorem CW.put {D : va_G} {dA : Nat → ClassId} {A : Nat → Prop} {s : State} {H H1 : Heap} {h : CH} {locs : List Loc} (w : CW D dA A s h H locs) {a j : Nat} {e e' : AC} (he : cm h a = some e) (hb : h.2.2.1 ≤ a) (z : H1.size = H.size) (oq : ∀ q : Nat, q ≠ a → H1[q]? = H[q]?) (h1 : va_at D gCl (a, toE dA e') H1) (hmo : moF a e' H1) : CW D dA A s (cs h a e') H1 (locs ++ [⟨a, j⟩]) := by
  refine ⟨z.trans w.1, fun b e2 hb2 => ?_, w.2.2.1.put z oq ((w.2.1 a e he).2.1 hb), w.2.2.2⟩
  by_cases hq : b = a
  · subst hq
    have : e' = e2 := by
      have h3 : va_up h.2.2.2.1 b (some e') b = some e2 := hb2
      simp [va_up] at h3
      exact h3
    subst this
    exact ⟨h1, (w.2.1 b e he).2.1, hmo⟩
  · have h3 : h.2.2.2.1 b = some e2 := by
      have h4 : va_up h.2.2.2.1 a (some e') b = some e2 := hb2
      simp [va_up, hq] at h4
      exact h4
    have h5 := w.2.1 b e2 h3
    exact ⟨h5.1.kept (oq b hq), h5.2.1, h5.2.2.kept (oq b hq)⟩
/-- one array changes -/
theorem CW.putA {D : va_G} {dA : Nat → ClassId} {A : Nat → Prop} {s : State} {H H1 : Heap} {h : CH} {locs : List Loc} (w : CW D dA A s h H locs) {a j : Nat} {e : AC} {e' : Nat × Nat × ((Nat → Int32) ⊕ (Nat → Int64) ⊕ (Nat → Option Nat))} (he : cm h a = some e) (hb : h.2.2.1 ≤ a) (z : H1.size = H.size) (oq : ∀ q : Nat, q ≠ a → H1[q]? = H[q]?) (h1 : va_at D gCl (a, toE dA (.inr e')) H1) : CW D dA A s (cs h a (.inr e')) H1 (locs ++ [⟨a, j⟩]) := w.put he hb z oq h1 trivial
/-- a cell is new -/
theorem CW.grow {D : va_G} {dA : Nat → ClassId} {A : Nat → Prop} {s : State} {H H1 : Heap} {h : CH} {locs : List Loc} (w : CW D dA A s h H locs) {k : Nat} {e' : AC} (z : H1.size = H.size + 1) (oq : ∀ q : Nat, q < H.size → H1[q]? = H[q]?) (h1 : va_at D gCl (H.size, toE dA e') H1) (hmo : moF H.size e' H1) : CW D dA A s (cn h k e') H1 locs := by
  refine ⟨by rw [z, w.1]; rfl, fun b e2 hb2 => ?_, ⟨Nat.le_trans w.2.2.1.1 (by omega), fun x g1 g2 => (oq x (Nat.lt_of_lt_of_le g1 w.2.2.1.1)).trans (w.2.2.1.2.1 x g1 g2), w.2.2.1.2.2⟩, w.2.2.2⟩
  by_cases hq : b = h.1
  · subst hq
    have : e' = e2 := by
      have h3 : va_up h.2.2.2.1 h.1 (some e') h.1 = some e2 := hb2
      simp [va_up] at h3
      exact h3
    subst this
    rw [w.1] at h1 hmo
    exact ⟨h1, fun _ => w.2.2.2.1 _ (by rw [← w.1]; exact w.2.2.1.1), hmo⟩
  · have h3 : h.2.2.2.1 b = some e2 := by
      have h4 : va_up h.2.2.2.1 h.1 (some e') b = some e2 := hb2
      simp [va_up, hq] at h4
      exact h4
    have h5 := w.2.1 b e2 h3
    exact ⟨h5.1.kept (oq b (w.lt h3)), h5.2.1, h5.2.2.kept (oq b (w.lt h3))⟩
/-- an array is new -/
theorem CW.growA {D : va_G} {dA : Nat → ClassId} {A : Nat → Prop} {s : State} {H H1 : Heap} {h : CH} {locs : List Loc} (w : CW D dA A s h H locs) {k : Nat} {e' : Nat × Nat × ((Nat → Int32) ⊕ (Nat → Int64) ⊕ (Nat → Option Nat))} (z : H1.size = H.size + 1) (oq : ∀ q : Nat, q < H.size → H1[q]? = H[q]?) (h1 : va_at D gCl (H.size, toE dA (.inr e')) H1) : CW D dA A s (cn h k (.inr e')) H1 locs := w.grow z oq h1 trivial
theorem oF_E {h : CH} {ci k a : Nat} {v : Value} (e : oF h ci k a = some v) : (∃ fs, cm h a = some (.inl (ci, fs)) ∧ fs[k]? = some v) ∨ (ci = 19 ∧ ∃ v0, h.2.2.2.2.1 a = some (.inr (.inl v0)) ∧ ((k = 0 ∧ v = .ref v0) ∨ (k = 1 ∧ v = .int 0))) := by
  unfold oF at e
  split at e
  · rename_i c fs hc
    split at e
    · rename_i hci
      subst hci
      exact Or.inl ⟨fs, hc, e⟩
    · cases e
  · split at e
    · rename_i v0 hv0
      split at e
      · rename_i hci
        refine Or.inr ⟨hci, v0, hv0, ?_⟩
        split at e
        · rename_i hk; cases e; exact Or.inl ⟨hk, rfl⟩
        · split at e
          · rename_i hk; cases e; exact Or.inr ⟨hk, rfl⟩
          · cases e
      · cases e
    · cases e
  · cases e
theorem oI_E {h : CH} {ci k a : Nat} {x : Int32} (e : oI h ci k a = some x) : oF h ci k a = some (.int x) := by
  unfold oI at e
  split at e
  · rename_i y hy; cases e; exact hy
  · cases e
theorem oL_E {h : CH} {ci k a : Nat} {x : Int64} (e : oL h ci k a = some x) : oF h ci k a = some (.long x) := by
  unfold oL at e
  split at e
  · rename_i y hy; cases e; exact hy
  · cases e
theorem oR_E {h : CH} {ci k a : Nat} {x : Nat} (e : oR h ci k a = some x) : oF h ci k a = some (.ref x) := by
  unfold oR at e
  split at e
  · rename_i y hy; cases e; exact hy
  · cases e
theorem oQ_E {h : CH} {ci k a : Nat} {x : Option Nat} (e : oQ h ci k a = some x) : oF h ci k a = some (va_rf x) := by
  unfold oQ at e
  split at e
  · rename_i y hy; cases e; exact hy
  · rename_i hy; cases e; exact hy
  · cases e
theorem pF_E {h h' : CH} {ci k a : Nat} {v : Value} (e : pF h ci k a v = some h') : ∃ fs, cm h a = some (.inl (ci, fs)) ∧ h.2.2.1 ≤ a ∧ k < fs.length ∧ h' = cs h a (.inl (ci, fs.set k v)) := by
  unfold pF at e
  split at e
  · rename_i c fs hc
    split at e
    · rename_i hci
      obtain ⟨rfl, h2, h3⟩ := hci
      cases e
      exact ⟨fs, hc, h2, h3, rfl⟩
    · cases e
  · cases e
theorem aI_E {h : CH} {t a : Nat} {i x : Int32} (e : aI h t a i = some x) : (∃ n f, cm h a = some (.inr (t, n, .inl f)) ∧ ix i n = true ∧ x = f i.toNatClampNeg) ∨ (t = 2 ∧ ∃ bs, h.2.2.2.2.1 a = some (.inr (.inr bs)) ∧ ix i bs.length = true ∧ x = bs.getD i.toNatClampNeg 0) := by
  unfold aI at e
  split at e
  · rename_i t' n f hc
    split at e
    · rename_i hci
      obtain ⟨rfl, h2⟩ := hci
      cases e
      exact Or.inl ⟨n, f, hc, h2, rfl⟩
    · cases e
  · split at e
    · rename_i bs hbs
      split at e
      · rename_i hci
        cases e
        exact Or.inr ⟨hci.1, bs, hbs, hci.2, rfl⟩
      · cases e
    · cases e
  · cases e
theorem aL_E {h : CH} {t a : Nat} {i : Int32} {x : Int64} (e : aL h t a i = some x) : ∃ n f, cm h a = some (.inr (t, n, .inr (.inl f))) ∧ ix i n = true ∧ x = f i.toNatClampNeg := by
  unfold aL at e
  split at e
  · rename_i t' n f hc
    split at e
    · rename_i hci
      obtain ⟨rfl, h2⟩ := hci
      cases e
      exact ⟨n, f, hc, h2, rfl⟩
    · cases e
  · cases e
theorem aQ_E {h : CH} {t a : Nat} {i : Int32} {x : Option Nat} (e : aQ h t a i = some x) : ∃ n f, cm h a = some (.inr (t, n, .inr (.inr f))) ∧ ix i n = true ∧ x = f i.toNatClampNeg := by
  unfold aQ at e
  split at e
  · rename_i t' n f hc
    split at e
    · rename_i hci
      obtain ⟨rfl, h2⟩ := hci
      cases e
      exact ⟨n, f, hc, h2, rfl⟩
    · cases e
  · cases e
theorem aR_E {h : CH} {t a : Nat} {i : Int32} {x : Nat} (e : aR h t a i = some x) : aQ h t a i = some (some x) := by
  unfold aR at e
  split at e
  · rename_i y hy; cases e; exact hy
  · cases e
theorem aN_E {h : CH} {t a n : Nat} (e : aN h t a = some n) : (∃ g, cm h a = some (.inr (t, n, g))) ∨ (t = 3 ∧ h.2.2.2.2.1 a = some (.inl n)) ∨ (t = 2 ∧ ∃ bs : List Int32, h.2.2.2.2.1 a = some (.inr (.inr bs)) ∧ bs.length = n) := by
  unfold aN at e
  split at e
  · rename_i t' n' g hc
    split at e
    · rename_i hci
      subst hci
      cases e
      exact Or.inl ⟨g, hc⟩
    · cases e
  · split at e
    · rename_i n' hn
      split at e
      · rename_i ht; cases e; exact Or.inr (Or.inl ⟨ht, hn⟩)
      · cases e
    · rename_i bs hbs
      split at e
      · rename_i ht; cases e; exact Or.inr (Or.inr ⟨ht, bs, hbs, rfl⟩)
      · cases e
    · cases e
  · cases e
theorem uI_E {h h' : CH} {t a : Nat} {i x : Int32} (e : uI h t a i x = some h') : ∃ n f, cm h a = some (.inr (t, n, .inl f)) ∧ h.2.2.1 ≤ a ∧ ix i n = true ∧ h' = cs h a (.inr (t, n, .inl (upd f i.toNatClampNeg x))) := by
  unfold uI at e
  split at e
  · rename_i t' n f hc
    split at e
    · rename_i hci
      obtain ⟨rfl, h2, h3⟩ := hci
      cases e
      exact ⟨n, f, hc, h2, h3, rfl⟩
    · cases e
  · cases e
theorem uL_E {h h' : CH} {t a : Nat} {i : Int32} {x : Int64} (e : uL h t a i x = some h') : ∃ n f, cm h a = some (.inr (t, n, .inr (.inl f))) ∧ h.2.2.1 ≤ a ∧ ix i n = true ∧ h' = cs h a (.inr (t, n, .inr (.inl (vp_updL f i.toNatClampNeg x)))) := by
  unfold uL at e
  split at e
  · rename_i t' n f hc
    split at e
    · rename_i hci
      obtain ⟨rfl, h2, h3⟩ := hci
      cases e
      exact ⟨n, f, hc, h2, h3, rfl⟩
    · cases e
  · cases e
theorem uQ_E {h h' : CH} {t a : Nat} {i : Int32} {x : Option Nat} (e : uQ h t a i x = some h') : ∃ n f, cm h a = some (.inr (t, n, .inr (.inr f))) ∧ h.2.2.1 ≤ a ∧ ix i n = true ∧ h' = cs h a (.inr (t, n, .inr (.inr (va_up f i.toNatClampNeg x)))) := by
  unfold uQ at e
  split at e
  · rename_i t' n f hc
    split at e
    · rename_i hci
      obtain ⟨rfl, h2, h3⟩ := hci
      cases e
      exact ⟨n, f, hc, h2, h3, rfl⟩
    · cases e
  · cases e
