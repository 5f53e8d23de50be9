/-! the twin's cells within the component's world: its state is read off; its walked methods are called there -/
set_option maxRecDepth 100000
noncomputable section
def twl (ad : Nat → Nat) (u : TS) : List (Nat × AC) := [(ad 40, .inl (0, twF ad u)), (ad 0, .inr (0, 73, .inl (tA u 0))), (ad 1, .inr (0, 73, .inl (tA u 1))), (ad 2, .inr (0, 900, .inl (tA u 2))), (ad 3, .inr (0, 500, .inl (tA u 3))), (ad 16, .inr (0, 5, .inl (tA u 16))), (ad 17, .inr (0, 5, .inl (tA u 17))), (ad 18, .inr (1, 9, .inr (.inl (tB u 18)))), (ad 20, .inr (1, 9, .inr (.inl (tB u 20)))), (ad 21, .inr (0, 400, .inl (tA u 21))), (ad 22, .inr (0, 400, .inl (tA u 22))), (ad 23, .inr (0, 400, .inl (tA u 23))), (ad 24, .inr (1, 400, .inr (.inl (tB u 24)))), (ad 26, .inr (1, 3, .inr (.inl (tB u 26)))), (ad 27, .inr (1, 9, .inr (.inl (tB u 27)))), (ad 29, .inr (1, 9, .inr (.inl (tB u 29)))), (ad 32, .inr (1, 9, .inr (.inl (tB u 32)))), (ad 33, .inr (1, 16, .inr (.inl (tB u 33)))), (ad 34, .inr (1, 18, .inr (.inl (tB u 34)))), (ad 36, .inr (1, 3, .inr (.inl (tB u 36)))), (ad 37, .inr (1, 3, .inr (.inl (tB u 37)))), (ad 38, .inr (1, 3, .inr (.inl (tB u 38)))), (ad 39, .inr (1, 3, .inr (.inl (tB u 39))))]
def adl (ad : Nat → Nat) : List Nat := [ad 40, ad 0, ad 1, ad 2, ad 3, ad 16, ad 17, ad 18, ad 20, ad 21, ad 22, ad 23, ad 24, ad 26, ad 27, ad 29, ad 32, ad 33, ad 34, ad 36, ad 37, ad 38, ad 39]
theorem tw_twl (ad : Nat → Nat) (dA : Nat → ClassId) (u : TS) : tw ad (dA 0) (dA 1) u = (twl ad u).map (fun q => (q.1, toE dA q.2)) := rfl
theorem twl_adl (ad : Nat → Nat) (u : TS) : (twl ad u).map (·.1) = adl ad := rfl
def rdF (h : CH) (x : Nat) : List Value := match cm h x with
  | some (.inl (_, fs)) => fs
  | _ => []
def rdA (h : CH) (x k : Nat) : Nat := if k = 40 then x else match (rdF h x)[k]? with
  | some (.ref a) => a
  | _ => 0
def rdI (h : CH) (x k : Nat) : Int32 := match (rdF h x)[k]? with
  | some (.int v) => v
  | _ => 0
def rdL (h : CH) (x k : Nat) : Int64 := match (rdF h x)[k]? with
  | some (.long v) => v
  | _ => 0
def rdP (h : CH) (a : Nat) : Nat → Int32 := match cm h a with
  | some (.inr (_, _, .inl f)) => f
  | _ => fun _ => 0
def rdQ (h : CH) (a : Nat) : Nat → Int64 := match cm h a with
  | some (.inr (_, _, .inr (.inl f))) => f
  | _ => fun _ => 0
/-- the twin's state, as it lies in the heap -/
def rdU (h : CH) (x : Nat) : TS := (fun k => rdI h x k, fun k => rdL h x k, fun k => rdP h (rdA h x k), fun k => rdQ h (rdA h x k))
/-- all of the twin lies at x -/
def TwOk (h : CH) (x : Nat) : Prop := (∀ q ∈ twl (rdA h x) (rdU h x), cm h q.1 = some q.2 ∧ h.2.2.1 ≤ q.1) ∧ (adl (rdA h x)).Nodup
def wrL : CH → List (Nat × AC) → CH
  | h, [] => h
  | h, q :: r => wrL (cs h q.1 q.2) r
def wrT (h : CH) (ad : Nat → Nat) (u : TS) : CH := wrL h (twl ad u)
def tcv (h : CH) (x : Nat) (mf : TS → Option TS) : Option CH := @ite _ (TwOk h x) (Classical.propDecidable _) (bd (mf (rdU h x)) fun u9 => some (wrT h (rdA h x) u9)) none
def tcr {α : Type} (h : CH) (x : Nat) (mf : TS → Option (α × TS)) : Option (α × CH) := @ite _ (TwOk h x) (Classical.propDecidable _) (bd2 (mf (rdU h x)) fun r u9 => some (r, wrT h (rdA h x) u9)) none
theorem tcv_E {h h' : CH} {x : Nat} {mf : TS → Option TS} (e : tcv h x mf = some h') : TwOk h x ∧ ∃ u9, mf (rdU h x) = some u9 ∧ h' = wrT h (rdA h x) u9 := by
  unfold tcv at e
  by_cases c : TwOk h x
  · rw [if_pos c] at e
    obtain ⟨u9, h1, h2⟩ := bdE e
    exact ⟨c, u9, h1, (Option.some.inj h2).symm⟩
  · rw [if_neg c] at e
    cases e
theorem tcr_E {α : Type} {h h' : CH} {x : Nat} {r : α} {mf : TS → Option (α × TS)} (e : tcr h x mf = some (r, h')) : TwOk h x ∧ ∃ u9, mf (rdU h x) = some (r, u9) ∧ h' = wrT h (rdA h x) u9 := by
  unfold tcr at e
  by_cases c : TwOk h x
  · rw [if_pos c] at e
    obtain ⟨r1, u9, h1, h2⟩ := bd2E e
    obtain ⟨e1, e2⟩ := retE h2
    subst e1
    exact ⟨c, u9, h1, e2.symm⟩
  · rw [if_neg c] at e
    cases e
theorem wrL_sz (l : List (Nat × AC)) : ∀ h : CH, (wrL h l).1 = h.1 ∧ (wrL h l).2.1 = h.2.1 ∧ (wrL h l).2.2.1 = h.2.2.1 ∧ (wrL h l).2.2.2.2 = h.2.2.2.2 := by
  induction l with
  | nil => exact fun h => ⟨rfl, rfl, rfl, rfl⟩
  | cons q r ih => exact fun h => ih (cs h q.1 q.2)
theorem wrL_out (l : List (Nat × AC)) (b : Nat) : ∀ h : CH, b ∉ l.map (·.1) → cm (wrL h l) b = cm h b := by
  induction l with
  | nil => exact fun h _ => rfl
  | cons q r ih =>
    intro h hb
    have h1 : b ≠ q.1 := fun e => hb (by rw [e]; exact List.mem_cons_self)
    have h2 : b ∉ r.map (·.1) := fun e => hb (List.mem_cons_of_mem _ e)
    rw [wrL, ih _ h2]
    show va_up h.2.2.2.1 q.1 (some q.2) b = h.2.2.2.1 b
    simp [va_up, h1]
theorem wrL_in (l : List (Nat × AC)) (b : Nat) (e : AC) : ∀ h : CH, (l.map (·.1)).Nodup → (b, e) ∈ l → cm (wrL h l) b = some e := by
  induction l with
  | nil => exact fun h _ hm => absurd hm List.not_mem_nil
  | cons q r ih =>
    intro h hn hm
    rw [List.map_cons, List.nodup_cons] at hn
    rw [wrL]
    rcases List.mem_cons.mp hm with rfl | hm
    · rw [wrL_out r b _ hn.1]
      show va_up h.2.2.2.1 b (some e) b = some e
      simp [va_up]
    · exact ih _ hn.2 hm
theorem tcv_le {h h' : CH} {x : Nat} {mf : TS → Option TS} (e : tcv h x mf = some h') : le2 h h' := by
  obtain ⟨-, u9, -, rfl⟩ := tcv_E e
  obtain ⟨h1, h2, h3, h4⟩ := wrL_sz (twl (rdA h x) u9) h
  exact ⟨Nat.le_of_eq h1.symm, Nat.le_of_eq h2.symm, h3, h4⟩
theorem tcv_sz {h h' : CH} {x : Nat} {mf : TS → Option TS} (e : tcv h x mf = some h') : h'.1 = h.1 ∧ h'.2.1 = h.2.1 := by
  obtain ⟨-, u9, -, rfl⟩ := tcv_E e
  obtain ⟨h1, h2, -, -⟩ := wrL_sz (twl (rdA h x) u9) h
  exact ⟨h1, h2⟩
theorem tcr_le {α : Type} {h h' : CH} {x : Nat} {r : α} {mf : TS → Option (α × TS)} (e : tcr h x mf = some (r, h')) : le2 h h' := by
  obtain ⟨-, u9, -, rfl⟩ := tcr_E e
  obtain ⟨h1, h2, h3, h4⟩ := wrL_sz (twl (rdA h x) u9) h
  exact ⟨Nat.le_of_eq h1.symm, Nat.le_of_eq h2.symm, h3, h4⟩
theorem tcr_sz {α : Type} {h h' : CH} {x : Nat} {r : α} {mf : TS → Option (α × TS)} (e : tcr h x mf = some (r, h')) : h'.1 = h.1 ∧ h'.2.1 = h.2.1 := by
  obtain ⟨-, u9, -, rfl⟩ := tcr_E e
  obtain ⟨h1, h2, -, -⟩ := wrL_sz (twl (rdA h x) u9) h
  exact ⟨h1, h2⟩
theorem ldcwS {p : Program} {l : Launch} {e : Env} {R : Room} {s : State} {m : MethodId} {args : Array Value} {below : List Frame} {meth : Method} {c : Code} {T : State} {locs : List Loc} {cells slots : Nat}
    (X : Stand p l e R s m args below meth c T locs cells slots) (hexec : p.tables.exec = Jvm.exec) {own text : String} {index : Nat} {a : Addr} (hown : s.vm.findClass own = some m.cls)
    (hconst : (Cond.stringRef own index text).before args s = true) (hev : (Term.string own index).eval args s none [] s = some (.ref a)) {g : JFrame} (hg : g.method = m) (hdg : decode c.code g.pc = .ok (.ldc_w index, 3)) :
    ∀ target, Steps p.tables e below (T.setTop { g with pc := g.pc + 3, stack := .ref a :: g.stack }) target → Steps p.tables e below (T.setTop g) target := by
  obtain ⟨k, cf, i, a', hk, hcf, hcp, -, hr, hev'⟩ := Cond.stringRef_spec hown hconst
  cases hev.symm.trans hev'
  obtain ⟨k', hk', he⟩ := X.warmed.alike.2.2 _ _ hk
  have hr' : k'.resolved[index]? = some (some (.string a)) := by
    rcases X.warmed.entry hk hk' index with h | ⟨h, -⟩
    · rw [h]; exact hr
    · rw [hr] at h; cases h
  intro target hrest
  subst hg
  jvm_step X.here [hexec, hdg, ldc_w.wp_string (e := e) (s := T) (f := g) X.here.top hk' (by rw [he]; exact hcf) hcp hr']
  exact hrest
section TB
variable {p : Program} {l : Launch} {e : Env} {R : Room} {s : State} {m : MethodId} {args : Array Value} {below : List Frame} {meth : Method} {c : Code} {H : Heap} {locs : List Loc} {cells slots : Nat} {Q : State → Prop}
variable {cc : ByteArray} {pc : Nat} {ls : Array Slot} {rest : List Value} {D : va_G} {dA : Nat → ClassId} {A : Nat → Prop} {h : CH} {own : String}
theorem cg_ldcsW (C : CX p s m args c cc own D dA) (w : CW D dA A s h H locs) {i a index : Nat} {tx : String} (e1 : sR h (20 + i) = some a) (hq : strS[i]? = some (own, index, tx)) (hdg : decode cc pc = .ok (.ldc_w index, 3))
    (kk : W p l e R s m args below meth c H locs cells slots Q (F0 m (pc + 3) ls (.ref a :: rest))) : W p l e R s m args below meth c H locs cells slots Q (F0 m pc ls rest) := by
  obtain ⟨a', h1, h2⟩ := w.2.2.2.2.2.2.2.2.1 i _ hq
  have h3 : a' = a := Option.some.inj (h1.symm.trans e1)
  subst h3
  intro T hT X
  obtain ⟨t, a1, b1⟩ := kk T hT X
  exact ⟨t, ldcwS X C.1 C.2.2.1 (text := tx) (a := a') h2.1 h2.2 (g := F0 m pc ls rest) rfl (by rw [C.2.1]; exact hdg) t a1, b1⟩
def tA_ (h : CH) (x : Nat) (H : Heap) : Nat → Prop := fun q => q ∈ adl (rdA h x) ∨ H.size ≤ q
theorem tb_in (w : CW D dA A s h H locs) {x : Nat} (hk : TwOk h x) : ∀ q, tA_ h x H q → A q := by
  intro q hq
  rcases hq with hq | hq
  · rw [← twl_adl _ (rdU h x)] at hq
    obtain ⟨z, hz, rfl⟩ := List.mem_map.mp hq
    obtain ⟨h1, h2⟩ := hk.1 z hz
    exact (w.2.1 z.1 z.2 h1).2.1 h2
  · exact w.2.2.2.1 q (Nat.le_trans w.2.2.1.1 hq)
theorem tb_P (w : CW D dA A s h H locs) {x : Nat} (hk : TwOk h x) : va_P D gCl (tw (rdA h x) (dA 0) (dA 1) (rdU h x)) H ∧ va_D (tA_ h x H) (tw (rdA h x) (dA 0) (dA 1) (rdU h x)) := by
  rw [tw_twl]
  refine ⟨fun k q hq => ?_, fun i j a b hi hj hab => ?_, fun k q hq => ?_⟩
  · rw [List.getElem?_map] at hq
    obtain ⟨z, hz, rfl⟩ := Option.map_eq_some_iff.mp hq
    exact (w.2.1 z.1 z.2 (hk.1 z (List.mem_of_getElem? hz)).1).1
  · rw [List.getElem?_map] at hi hj
    obtain ⟨z1, hz1, rfl⟩ := Option.map_eq_some_iff.mp hi
    obtain ⟨z2, hz2, rfl⟩ := Option.map_eq_some_iff.mp hj
    have hn := hk.2
    rw [← twl_adl _ (rdU h x)] at hn
    have g1 : ((twl (rdA h x) (rdU h x)).map (·.1))[i]? = some z1.1 := by rw [List.getElem?_map, hz1]; rfl
    have g2 : ((twl (rdA h x) (rdU h x)).map (·.1))[j]? = some z2.1 := by rw [List.getElem?_map, hz2]; rfl
    have hab : z1.1 = z2.1 := hab
    rw [← hab] at g2
    have hi' : i < ((twl (rdA h x) (rdU h x)).map (·.1)).length := (List.getElem?_eq_some_iff.mp g1).1
    exact (List.getElem?_inj hi' hn).mp (g1.trans g2.symm)
  · rw [List.getElem?_map] at hq
    obtain ⟨z, hz, rfl⟩ := Option.map_eq_some_iff.mp hq
    refine Or.inl ?_
    rw [← twl_adl _ (rdU h x)]
    exact List.mem_map.mpr ⟨z, List.mem_of_getElem? hz, rfl⟩
theorem tb_pre (C : CX p s m args c cc own D dA) (w : CW D dA A s h H locs) {x : Nat} (hk : TwOk h x) (As : List Value) : PreV s H RX3 x (va_Pc (.ref x :: As) (TPre D (rdA h x) (dA 0) (dA 1) (tA_ h x H) (rdU h x))) As := by
  obtain ⟨h1, h2⟩ := tb_P w hk
  have hK : va_K D gCl (tTy (dA 0) (dA 1)) s := C.2.2.2.2.sub [0, 1] rfl
  exact ⟨TPre.blind, va_recv C.2.2.2.2 h1 (ci := 0) (q0 := 0) rfl rfl, fun U hU hW => ⟨rfl, by rw [hU]; exact h1, va_K.moved hW.alike hK, h2, by rw [hU]; exact fun q hq => Or.inr hq⟩⟩
theorem tb_back (w : CW D dA A s h H locs) {x : Nat} (hk : TwOk h x) {u9 : TS} {t : State} {H1 : Heap} {locs1 : List Loc} (ht : t.heap = H1) (hB : TPost D (rdA h x) (dA 0) (dA 1) (tA_ h x H) u9 t) (hsz : H1.size = h.1) (hkeep : ∀ q : Nat, q < H.size → ¬ tA_ h x H q → H1[q]? = H[q]?) (hS : va_S A s.heap H1 locs1) : CW D dA A s (wrT h (rdA h x) u9) H1 locs1 := by
  obtain ⟨k1, k2, k3, k4⟩ := wrL_sz (twl (rdA h x) u9) h
  have hnd : ((twl (rdA h x) u9).map (·.1)).Nodup := by rw [twl_adl]; exact hk.2
  refine ⟨hsz.trans k1.symm, fun b e hb => ?_, hS, w.2.2.2.1, ?_⟩
  · have hb : cm (wrL h (twl (rdA h x) u9)) b = some e := hb
    have hbase : (wrT h (rdA h x) u9).2.2.1 = h.2.2.1 := k3
    rw [hbase]
    by_cases hin : b ∈ (twl (rdA h x) u9).map (·.1)
    · obtain ⟨z, hz, hzb⟩ := List.mem_map.mp hin
      have h1 := wrL_in (twl (rdA h x) u9) b z.2 h hnd (by rw [← hzb]; exact hz)
      cases h1.symm.trans hb
      obtain ⟨i, hi⟩ := List.getElem?_of_mem hz
      have hat : va_at D gCl (z.1, toE dA z.2) t.heap := hB.1 i _ (by rw [tw_twl, List.getElem?_map, hi]; rfl)
      rw [ht, hzb] at hat
      have hold : b ∈ (twl (rdA h x) (rdU h x)).map (·.1) := by rw [twl_adl]; rw [twl_adl] at hin; exact hin
      obtain ⟨z0, hz0, hz0b⟩ := List.mem_map.mp hold
      have h2 := hk.1 z0 hz0
      rw [hz0b] at h2
      refine ⟨hat, (w.2.1 b z0.2 h2.1).2.1, ?_⟩
      have hz' : ∀ q ∈ twl (rdA h x) u9, moF b q.2 H1 := by
        unfold twl
        intro q hq
        simp only [List.mem_cons, List.not_mem_nil, or_false] at hq
        rcases hq with rfl | rfl | rfl | rfl | rfl | rfl | rfl | rfl | rfl | rfl | rfl | rfl | rfl | rfl | rfl | rfl | rfl | rfl | rfl | rfl | rfl | rfl | rfl
        · exact fun h0 => absurd rfl h0
        all_goals trivial
      exact hz' z hz
    · have h1 := wrL_out (twl (rdA h x) u9) b h hin
      have h2 : cm h b = some e := h1.symm.trans hb
      have hlt := w.lt h2
      have hno : ¬ tA_ h x H b := by
        rintro (hq | hq)
        · exact hin (by rw [twl_adl]; exact hq)
        · omega
      have h5 := w.2.1 b e h2
      exact ⟨h5.1.kept (hkeep b hlt hno), h5.2.1, h5.2.2.kept (hkeep b hlt hno)⟩
  · have hkt : (wrT h (rdA h x) u9).2.2.2.2 = h.2.2.2.2 := k4
    rw [hkt]
    exact w.2.2.2.2
theorem cg_tcv (C : CX p s m args c cc own D dA) (w : CW D dA A s h H locs) {x : Nat} {mf : TS → Option TS} {h' : CH} (e1 : tcv h x mf = some h') (hsz : cells + s.heap.size = h.1) {a : Array Value} {st0 : List Value}
    (hr : ∀ u9 : TS, TwOk h x → mf (rdU h x) = some u9 → va_Run p l e R s m args below meth c H locs cells slots 0 0 (F0 m pc ls st0) rest (va_Qv (fun v => v = u9) (TPost D (rdA h x) (dA 0) (dA 1) (tA_ h x H)) (tA_ h x H) a) (tA_ h x H))
    (kk : ∀ (H : Heap) (locs : List Loc), CW D dA A s h' H locs → W p l e R s m args below meth c H locs cells slots Q (F0 m (pc + 3) ls rest)) : W p l e R s m args below meth c H locs cells slots Q (F0 m pc ls st0) := by
  obtain ⟨hk, u9, hm, rfl⟩ := tcv_E e1
  intro T hT X
  obtain ⟨v, st₀, t, T', L, h0, X', hL, q1, q2, ⟨⟨u, hv, hp, hb⟩, hF⟩, st⟩ := hr u9 hk hm T hT X
  cases hv
  rw [hp] at hb
  obtain ⟨k1, k2, k3⟩ := vy_keep h0 q1 w.2.2.1 (fun q _ hq => tb_in w hk q hq) (fun q hq => tb_in w hk q hq) hL hF
  have hz := X'.heapSize
  have hz2 : T'.heap.size = h.1 := by have := w.1; omega
  obtain ⟨t2, a1, b1⟩ := kk T'.heap (locs ++ L) (tb_back w hk q1.symm hb hz2 k2 k3) T' rfl X'
  exact ⟨t2, st t2 a1, b1⟩
theorem cg_tci (C : CX p s m args c cc own D dA) (w : CW D dA A s h H locs) {x : Nat} {mf : TS → Option (Int32 × TS)} {r0 : Int32} {h' : CH} (e1 : tcr h x mf = some (r0, h')) (hsz : cells + s.heap.size = h.1) {a : Array Value} {st0 : List Value}
    (hr : ∀ u9 : TS, TwOk h x → mf (rdU h x) = some (r0, u9) → va_Run p l e R s m args below meth c H locs cells slots 0 0 (F0 m pc ls st0) rest (va_Qi (fun r v => r = r0 ∧ v = u9) (TPost D (rdA h x) (dA 0) (dA 1) (tA_ h x H)) (tA_ h x H) a) (tA_ h x H))
    (kk : ∀ (H : Heap) (locs : List Loc), CW D dA A s h' H locs → W p l e R s m args below meth c H locs cells slots Q (F0 m (pc + 3) ls (.int r0 :: rest))) : W p l e R s m args below meth c H locs cells slots Q (F0 m pc ls st0) := by
  obtain ⟨hk, u9, hm, rfl⟩ := tcr_E e1
  intro T hT X
  obtain ⟨v, st₀, t, T', L, h0, X', hL, q1, q2, ⟨⟨r, u, hv, hp, hb⟩, hF⟩, st⟩ := hr u9 hk hm T hT X
  cases hv
  rw [hp.2] at hb
  obtain ⟨k1, k2, k3⟩ := vy_keep h0 q1 w.2.2.1 (fun q _ hq => tb_in w hk q hq) (fun q hq => tb_in w hk q hq) hL hF
  have hz := X'.heapSize
  have hz2 : T'.heap.size = h.1 := by have := w.1; omega
  obtain ⟨t2, a1, b1⟩ := kk T'.heap (locs ++ L) (tb_back w hk q1.symm hb hz2 k2 k3) T' rfl X'
  rw [← hp.1] at a1
  exact ⟨t2, st t2 a1, b1⟩
theorem cg_tcl (C : CX p s m args c cc own D dA) (w : CW D dA A s h H locs) {x : Nat} {mf : TS → Option (Int64 × TS)} {r0 : Int64} {h' : CH} (e1 : tcr h x mf = some (r0, h')) (hsz : cells + s.heap.size = h.1) {a : Array Value} {st0 : List Value}
    (hr : ∀ u9 : TS, TwOk h x → mf (rdU h x) = some (r0, u9) → va_Run p l e R s m args below meth c H locs cells slots 0 0 (F0 m pc ls st0) rest (va_Ql (fun r v => r = r0 ∧ v = u9) (TPost D (rdA h x) (dA 0) (dA 1) (tA_ h x H)) (tA_ h x H) a) (tA_ h x H))
    (kk : ∀ (H : Heap) (locs : List Loc), CW D dA A s h' H locs → W p l e R s m args below meth c H locs cells slots Q (F0 m (pc + 3) ls (.long r0 :: rest))) : W p l e R s m args below meth c H locs cells slots Q (F0 m pc ls st0) := by
  obtain ⟨hk, u9, hm, rfl⟩ := tcr_E e1
  intro T hT X
  obtain ⟨v, st₀, t, T', L, h0, X', hL, q1, q2, ⟨⟨r, u, hv, hp, hb⟩, hF⟩, st⟩ := hr u9 hk hm T hT X
  cases hv
  rw [hp.2] at hb
  obtain ⟨k1, k2, k3⟩ := vy_keep h0 q1 w.2.2.1 (fun q _ hq => tb_in w hk q hq) (fun q hq => tb_in w hk q hq) hL hF
  have hz := X'.heapSize
  have hz2 : T'.heap.size = h.1 := by have := w.1; omega
  obtain ⟨t2, a1, b1⟩ := kk T'.heap (locs ++ L) (tb_back w hk q1.symm hb hz2 k2 k3) T' rfl X'
  rw [← hp.1] at a1
  exact ⟨t2, st t2 a1, b1⟩
end TB
end
