/-! the twin's fields; its rows brought to their form -/
set_option maxRecDepth 100000
theorem tI_sI (s : TS) (k : Nat) (v : Int32) (j : Nat) : tI (sI s k v) j = if j = k then v else tI s j := rfl
theorem tL_sL (s : TS) (k : Nat) (v : Int64) (j : Nat) : tL (sL s k v) j = if j = k then v else tL s j := rfl
theorem tA_sA (s : TS) (k i : Nat) (v : Int32) (j x : Nat) : tA (sA s k i v) j x = if j = k ∧ x = i then v else tA s j x := by
  show va_up s.2.2.1 k (upd (s.2.2.1 k) i v) j x = _
  unfold va_up upd
  by_cases h : j = k
  · subst h; by_cases hx : x = i <;> simp [hx, tA]
  · simp [h, tA]
theorem tB_sB (s : TS) (k i : Nat) (v : Int64) (j x : Nat) : tB (sB s k i v) j x = if j = k ∧ x = i then v else tB s j x := by
  show va_up s.2.2.2 k (vp_updL (s.2.2.2 k) i v) j x = _
  unfold va_up vp_updL
  by_cases h : j = k
  · subst h; by_cases hx : x = i <;> simp [hx, tB]
  · simp [h, tB]
theorem tI_sL (s : TS) (k : Nat) (v : Int64) (j : Nat) : tI (sL s k v) j = tI s j := rfl
theorem tI_sA (s : TS) (k i : Nat) (v : Int32) (j : Nat) : tI (sA s k i v) j = tI s j := rfl
theorem tI_sB (s : TS) (k i : Nat) (v : Int64) (j : Nat) : tI (sB s k i v) j = tI s j := rfl
theorem tL_sI (s : TS) (k : Nat) (v : Int32) (j : Nat) : tL (sI s k v) j = tL s j := rfl
theorem tL_sA (s : TS) (k i : Nat) (v : Int32) (j : Nat) : tL (sA s k i v) j = tL s j := rfl
theorem tL_sB (s : TS) (k i : Nat) (v : Int64) (j : Nat) : tL (sB s k i v) j = tL s j := rfl
theorem tA_sI (s : TS) (k : Nat) (v : Int32) (j : Nat) : tA (sI s k v) j = tA s j := rfl
theorem tA_sL (s : TS) (k : Nat) (v : Int64) (j : Nat) : tA (sL s k v) j = tA s j := rfl
theorem tA_sB (s : TS) (k i : Nat) (v : Int64) (j : Nat) : tA (sB s k i v) j = tA s j := rfl
theorem tB_sI (s : TS) (k : Nat) (v : Int32) (j : Nat) : tB (sI s k v) j = tB s j := rfl
theorem tB_sL (s : TS) (k : Nat) (v : Int64) (j : Nat) : tB (sL s k v) j = tB s j := rfl
theorem tB_sA (s : TS) (k i : Nat) (v : Int32) (j : Nat) : tB (sA s k i v) j = tB s j := rfl
/-- nothing but those fields has changed -/
def Fr (l : List Nat) (u u' : TS) : Prop := ∀ k, k ∉ l → tI u' k = tI u k ∧ tL u' k = tL u k ∧ (∀ x, tA u' k x = tA u k x) ∧ ∀ x, tB u' k x = tB u k x
theorem Fr.rf {l : List Nat} {u : TS} : Fr l u u := fun _ _ => ⟨rfl, rfl, fun _ => rfl, fun _ => rfl⟩
theorem Fr.tr {l : List Nat} {u v w : TS} (a : Fr l u v) (b : Fr l v w) : Fr l u w := fun k hk => by
  obtain ⟨a1, a2, a3, a4⟩ := a k hk
  obtain ⟨b1, b2, b3, b4⟩ := b k hk
  exact ⟨b1.trans a1, b2.trans a2, fun x => (b3 x).trans (a3 x), fun x => (b4 x).trans (a4 x)⟩
theorem Fr.mono {l l' : List Nat} {u v : TS} (a : Fr l u v) (h : ∀ k, k ∈ l → k ∈ l') : Fr l' u v := fun k hk => a k (fun hh => hk (h k hh))
theorem Fr.sI {l : List Nat} {u : TS} {k : Nat} {v : Int32} (h : k ∈ l) : Fr l u (sI u k v) := fun j hj => ⟨by rw [tI_sI, if_neg (fun e => hj (by rw [e]; exact h))], rfl, fun _ => rfl, fun _ => rfl⟩
theorem Fr.sL {l : List Nat} {u : TS} {k : Nat} {v : Int64} (h : k ∈ l) : Fr l u (sL u k v) := fun j hj => ⟨rfl, by rw [tL_sL, if_neg (fun e => hj (by rw [e]; exact h))], fun _ => rfl, fun _ => rfl⟩
theorem Fr.sA {l : List Nat} {u : TS} {k i : Nat} {v : Int32} (h : k ∈ l) : Fr l u (sA u k i v) := fun j hj => ⟨rfl, rfl, fun x => by rw [tA_sA, if_neg (fun e => hj (by rw [e.1]; exact h))], fun _ => rfl⟩
theorem Fr.sB {l : List Nat} {u : TS} {k i : Nat} {v : Int64} (h : k ∈ l) : Fr l u (sB u k i v) := fun j hj => ⟨rfl, rfl, fun _ => rfl, fun x => by rw [tB_sB, if_neg (fun e => hj (by rw [e.1]; exact h))]⟩
theorem i3 (r c : Nat) : (3 : Int32) * ni r + ni c = ni (3 * r + c) := by
  rw [z3, ← Int32.ofNat_mul, ← Int32.ofNat_add]
theorem i3c {r c : Nat} (hr : r < 3) (hc : c < 3) : Int32.toNatClampNeg ((3 : Int32) * ni r + ni c) = 3 * r + c := by rw [i3, ni_clamp (by omega)]
theorem i3x {r c : Nat} (hr : r < 3) (hc : c < 3) : ix ((3 : Int32) * ni r + ni c) 9 = true := by rw [i3]; exact ix_ni (by omega) (by decide)
/-- rows at hand, in field k -/
def tR (k : Nat) (u : TS) (N : Mi) : Prop := ∀ i j, i < 3 → j < 3 → tB u k (3 * i + j) = li (N i j)
theorem tR.fr {k : Nat} {l : List Nat} {u v : TS} {N : Mi} (h : tR k u N) (a : Fr l u v) (hk : k ∉ l) : tR k v N := fun i j hi hj => by rw [(a k hk).2.2.2]; exact h i j hi hj
theorem tR.congr {k : Nat} {u : TS} {N N' : Mi} (h : tR k u N) (he : ∀ i j, i < 3 → j < 3 → N i j = N' i j) : tR k u N' := fun i j hi hj => by rw [h i j hi hj, he i j hi hj]
theorem tR.set {k : Nat} {u : TS} {N : Mi} (h : tR k u N) {i j : Nat} (hi : i < 3) (hj : j < 3) (x : Int) : tR k (sB u k (3 * i + j) (li x)) (fun a b => if a = i ∧ b = j then x else N a b) := fun a b ha hb => by
  rw [tB_sB]
  by_cases e : a = i ∧ b = j
  · obtain ⟨rfl, rfl⟩ := e
    rw [if_pos ⟨rfl, rfl⟩]; simp
  · rw [if_neg (fun h => e (by omega))]
    show _ = li (if a = i ∧ b = j then x else N a b)
    rw [if_neg e]; exact h a b ha hb
def tS (u : TS) (l : List St) : Prop := tI u 25 = ni l.length ∧ ∀ (i : Nat) (st : St), l[i]? = some st → tA u 21 i = st.1 ∧ tA u 22 i = st.2.1 ∧ tA u 23 i = st.2.2.1 ∧ tB u 24 i = st.2.2.2
abbrev fF : List Nat := [18, 21, 22, 23, 24, 25]
theorem X3_step {f : Nat} {u : TS} {l : List St} (h : tS u l) (hl : l.length < 400) (st : St) : ∃ u', m_X3_step f u st.1 st.2.1 st.2.2.1 st.2.2.2 = some u' ∧ tS u' (l ++ [st]) ∧ Fr [21, 22, 23, 24, 25] u u' := by
  unfold m_X3_step
  simp only [nmv_eq, tI_sA, tI_sB, h.1]
  have hx : ix (ni l.length) 400 = true := ix_ni hl (by decide)
  simp only [gd_of hx, ni_clamp (show l.length < 2 ^ 31 by omega)]
  refine ⟨_, rfl, ⟨?_, fun i st' hi => ?_⟩, ?_⟩
  · rw [tI_sI, if_pos rfl, List.length_append]; exact ni_succ _
  · simp only [tA_sI, tA_sB, tB_sI, tA_sA, tB_sB, tB_sA]
    by_cases e : i = l.length
    · subst e
      simp at hi
      subst hi
      simp
    · have hi2 : i < l.length := by
        have := (List.getElem?_eq_some_iff.mp hi).1
        simp at this; omega
      rw [List.getElem?_append_left hi2] at hi
      have := h.2 i st' hi
      simp [e, this]
  · have q1 : Fr [21, 22, 23, 24, 25] u (sA u 21 l.length st.1) := Fr.sA (by decide)
    exact (((q1.tr (Fr.sA (by decide))).tr (Fr.sA (by decide))).tr (Fr.sB (by decide))).tr (Fr.sI (by decide))
def TF (u0 : TS) (s : HS) (u : TS) : Prop := tR 18 u s.1 ∧ tS u s.2 ∧ Fr fF u0 u
theorem TF.step {f : Nat} {u0 u : TS} {s : HS} (h : TF u0 s u) (hl : s.2.length < 400) (st : St) : ∃ u', m_X3_step f u st.1 st.2.1 st.2.2.1 st.2.2.2 = some u' ∧ TF u0 (s.1, s.2 ++ [st]) u' := by
  obtain ⟨u', e1, e2, e3⟩ := X3_step (f := f) h.2.1 hl st
  exact ⟨u', e1, h.1.fr e3 (by decide), e2, h.2.2.tr (e3.mono (by decide))⟩
theorem tS.fr {l : List Nat} {u v : TS} {s : List St} (h : tS u s) (a : Fr l u v) (hk : 21 ∉ l ∧ 22 ∉ l ∧ 23 ∉ l ∧ 24 ∉ l ∧ 25 ∉ l) : tS v s := by
  refine ⟨by rw [(a 25 hk.2.2.2.2).1]; exact h.1, fun i st hi => ?_⟩
  rw [(a 21 hk.1).2.2.1, (a 22 hk.2.1).2.2.1, (a 23 hk.2.2.1).2.2.1, (a 24 hk.2.2.2.1).2.2.2]
  exact h.2 i st hi
/-- while a row is changed, column by column -/
def TU (u0 : TS) (N N' : Mi) (l : List St) (j : Nat) (u : TS) : Prop := TF u0 (upc N N' j, l) u
theorem TU.start {u0 u : TS} {N N' : Mi} {l : List St} (h : TF u0 (N, l) u) : TU u0 N N' l 0 u := ⟨h.1.congr (fun a b _ _ => by show N a b = upc N N' 0 a b; unfold upc; simp), h.2⟩
theorem TU.done {u0 u : TS} {N N' : Mi} {l : List St} (h : TU u0 N N' l 3 u) : TF u0 (N', l) u := ⟨h.1.congr (fun a b _ hb => by show upc N N' 3 a b = N' a b; unfold upc; rw [if_pos hb]), h.2⟩
theorem TF.set {u0 u : TS} {s : HS} (h : TF u0 s u) {i j : Nat} (hi : i < 3) (hj : j < 3) (x : Int) : TF u0 (fun a b => if a = i ∧ b = j then x else s.1 a b, s.2) (sB u 18 (3 * i + j) (li x)) := ⟨h.1.set hi hj x, h.2.1.fr (l := [18]) (Fr.sB (by decide)) (by decide), h.2.2.tr (Fr.sB (by decide))⟩
theorem TU.one {u0 u : TS} {N N' : Mi} {l : List St} {j r : Nat} (h : TU u0 N N' l j u) (hr : r < 3) (hj : j < 3) (hs : ∀ a, a < 3 → a ≠ r → N' a j = N a j) : TU u0 N N' l (j + 1) (sB u 18 (3 * r + j) (li (N' r j))) := by
  have q := TF.set h hr hj (N' r j)
  refine ⟨q.1.congr (fun a b ha hb => ?_), q.2⟩
  show (if a = r ∧ b = j then N' r j else upc N N' j a b) = upc N N' (j + 1) a b
  by_cases e : a = r ∧ b = j
  · obtain ⟨rfl, rfl⟩ := e
    rw [if_pos ⟨rfl, rfl⟩]; unfold upc; rw [if_pos (by omega)]
  · rw [if_neg e]
    unfold upc
    by_cases hb' : b < j
    · rw [if_pos hb', if_pos (by omega)]
    · rw [if_neg hb']
      by_cases hbj : b = j
      · subst hbj
        rw [if_pos (by omega), hs a ha (fun h => e ⟨h, rfl⟩)]
      · rw [if_neg (by omega)]
theorem X3_addsRow {f : Nat} (hf : 4 ≤ f) {u0 u : TS} {s : HS} (h : TF u0 s u) (hl : s.2.length < 400) {r o : Nat} (hr : r < 3) (ho : o < 3) (hne : r ≠ o) (t : Int) : ∃ u', m_X3_addsRow f u (ni r) (ni o) (li t) = some u' ∧ TF u0 (hadd s r o t) u' := by
  unfold m_X3_addsRow
  obtain ⟨u2, p2, e2⟩ := loop3v (fun n u x => m_X3_addsRow_3 f n u (ni r) (ni o) (li t) x) (fun u => m_X3_addsRow_42 f u (ni r) (ni o) (li t)) (fun j u => TU u0 s.1 (addR s.1 r o t) s.2 j u)
    (fun n u _ => by rw [m_X3_addsRow_3, if_pos le33])
    (fun n u j hj q => by
      refine ⟨_, ?_, q.one hr hj (fun a _ ha => by unfold addR; rw [if_neg ha])⟩
      have e1 : upc s.1 (addR s.1 r o t) j r j = s.1 r j := by unfold upc; rw [if_neg (by omega)]
      have e2 : upc s.1 (addR s.1 r o t) j o j = s.1 o j := by unfold upc; rw [if_neg (by omega)]
      have e3 : addR s.1 r o t r j = s.1 r j + t * s.1 o j := by unfold addR; rw [if_pos rfl]
      have q1 := q.1 r j hr hj
      have q2 := q.1 o j ho hj
      rw [m_X3_addsRow_3, if_neg (le3 hj), gd_of (i3x hr hj), gd_of (i3x ho hj), gd_of (i3x hr hj)]
      simp only [nmv_eq]
      rw [i3c hr hj, i3c ho hj, q1, q2]
      show m_X3_addsRow_3 f n (sB u 18 (3 * r + j) (li (upc s.1 (addR s.1 r o t) j r j) + li t * li (upc s.1 (addR s.1 r o t) j o j))) _ _ _ _ = _
      rw [e1, e2, li_mul, li_add, e3, ni_succ])
    hf (TU.start h)
  have e3 : m_X3_addsRow_3 f f u (ni r) (ni o) (li t) 0 = _ := e2
  rw [e3]
  unfold m_X3_addsRow_42
  obtain ⟨u3, g1, g2⟩ := TF.step (f := f) p2.done hl (1, ni r, ni o, li t)
  rw [g1, bd_some]
  exact ⟨u3, rfl, g2⟩
theorem X3_exchangesRows {f : Nat} (hf : 4 ≤ f) {u0 u : TS} {s : HS} (h : TF u0 s u) (hl : s.2.length < 400) {r o : Nat} (hr : r < 3) (ho : o < 3) (hne : r ≠ o) : ∃ u', m_X3_exchangesRows f u (ni r) (ni o) = some u' ∧ TF u0 (hexc s r o) u' := by
  unfold m_X3_exchangesRows
  obtain ⟨u2, p2, e2⟩ := loop3v (fun n u x => m_X3_exchangesRows_2 f n u (ni r) (ni o) x) (fun u => m_X3_exchangesRows_57 f u (ni r) (ni o)) (fun j u => TU u0 s.1 (excR s.1 r o) s.2 j u)
    (fun n u _ => by rw [m_X3_exchangesRows_2, if_pos le33])
    (fun n u j hj q => by
      have e1 : upc s.1 (excR s.1 r o) j r j = s.1 r j := by unfold upc; rw [if_neg (by omega)]
      have e2 : upc s.1 (excR s.1 r o) j o j = s.1 o j := by unfold upc; rw [if_neg (by omega)]
      have q1 : tB u 18 (3 * r + j) = li (s.1 r j) := by rw [← e1]; exact q.1 r j hr hj
      have q2 : tB u 18 (3 * o + j) = li (s.1 o j) := by rw [← e2]; exact q.1 o j ho hj
      have w1 := TF.set q hr hj (s.1 o j)
      have w2 := TF.set w1 ho hj (s.1 r j)
      refine ⟨_, ?_, ⟨w2.1.congr (fun a b ha hb => ?_), w2.2⟩⟩
      · rw [m_X3_exchangesRows_2, if_neg (le3 hj), gd_of (i3x hr hj)]
        simp only [nmv_eq]
        rw [gd_of (i3x ho hj), gd_of (i3x hr hj), gd_of (i3x ho hj), i3c hr hj, i3c ho hj, q1, q2, ni_succ]
      · show (if a = o ∧ b = j then s.1 r j else if a = r ∧ b = j then s.1 o j else upc s.1 (excR s.1 r o) j a b) = upc s.1 (excR s.1 r o) (j + 1) a b
        by_cases e1 : a = o ∧ b = j
        · obtain ⟨rfl, rfl⟩ := e1
          rw [if_pos ⟨rfl, rfl⟩]
          unfold upc excR
          rw [if_pos (by omega), if_neg (fun e => hne e.symm), if_pos rfl]
        · rw [if_neg e1]
          by_cases e2 : a = r ∧ b = j
          · obtain ⟨rfl, rfl⟩ := e2
            rw [if_pos ⟨rfl, rfl⟩]
            unfold upc excR
            rw [if_pos (by omega), if_pos rfl]
          · rw [if_neg e2]
            unfold upc
            by_cases hb' : b < j
            · rw [if_pos hb', if_pos (by omega)]
            · rw [if_neg hb']
              by_cases hbj : b = j
              · subst hbj
                rw [if_pos (by omega)]
                unfold excR
                rw [if_neg (fun h => e2 ⟨h, rfl⟩), if_neg (fun h => e1 ⟨h, rfl⟩)]
              · rw [if_neg (by omega)])
    hf (TU.start h)
  have e3 : m_X3_exchangesRows_2 f f u (ni r) (ni o) 0 = _ := e2
  rw [e3]
  unfold m_X3_exchangesRows_57
  obtain ⟨u3, g1, g2⟩ := TF.step (f := f) p2.done hl (0, ni r, ni o, 0)
  rw [g1, bd_some]
  exact ⟨u3, rfl, g2⟩
