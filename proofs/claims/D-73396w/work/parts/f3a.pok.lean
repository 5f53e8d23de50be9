/-! what was read is in order -/
set_option maxRecDepth 100000
theorem pSee_ok {b : Nat → Nat} {n most : Nat} {s : Lx} (o : LxOk b n s) {v : Int} {s1 : Lx} (h : pSee b n most s = .inr (v, s1)) : LxOk b n s1 ∧ s.2.1 ≤ s1.2.1 ∧ v.natAbs ≤ most ∧ s1.1 = 2 := by
  have q := nx_ok (b := b) o.2.2.1
  have o2 := o.2.1
  unfold pSee at h
  split at h
  · split at h
    · cases h
    · rename_i h2
      split at h
      · cases h
      · cases h
        exact ⟨q.1, by omega, by omega, by omega⟩
  · split at h
    · cases h
    · rename_i h2
      split at h
      · cases h
      · cases h
        exact ⟨o, Nat.le_refl _, by omega, by omega⟩
theorem pNums_ok {b : Nat → Nat} {n most : Nat} : ∀ k s vs l vs' l' s', LxOk b n s → pNums b n most k s vs l = .inr (vs', l', s') → LxOk b n s' ∧ s.2.1 ≤ s'.2.1 ∧ vs'.length = vs.length + k ∧ ((∀ v, v ∈ vs → v.natAbs ≤ most) → ∀ v, v ∈ vs' → v.natAbs ≤ most)
  | 0, s, vs, l, vs', l', s', o, h => by
    cases h
    exact ⟨o, Nat.le_refl _, rfl, id⟩
  | k + 1, s, vs, l, vs', l', s', o, h => by
    unfold pNums at h
    cases hp : pSee b n most s with
    | inl e => rw [hp] at h; cases h
    | inr q =>
      obtain ⟨v, s1⟩ := q
      rw [hp] at h
      obtain ⟨q1, q2, q3, q4⟩ := pSee_ok o hp
      have q5 := nx_ok (b := b) q1.2.2.1
      obtain ⟨z1', z2', z3', z4'⟩ := pNums_ok k (nx b n s1.2.2) (vs ++ [v]) s1.2.1 vs' l' s' q5.1 h
      have := q1.2.1
      refine ⟨z1', by omega, by rw [z3', List.length_append]; show vs.length + 1 + k = _; omega, fun hv => z4' (fun w hw => ?_)⟩
      rcases List.mem_append.mp hw with hw | hw
      · exact hv w hw
      · rw [List.mem_singleton.mp hw]; exact q3
/-- one told, in order -/
def ItOk (ts : List It) (it : It) : Prop := match it.2 with
  | none => it.1.length = 9 ∧ (∀ v, v ∈ it.1 → v.natAbs ≤ 6) ∧ 1 ≤ (dtf (lsM it.1)).natAbs ∧ (dtf (lsM it.1)).natAbs ≤ 60
  | some k => it.1.length = 4 ∧ (∀ v, v ∈ it.1 → v.natAbs ≤ 3) ∧ k < ts.length ∧ (ts.getD k ([], none)).2 = none ∧ ¬ (it.1.getD 0 0 = 0 ∧ it.1.getD 1 0 = 0 ∧ it.1.getD 2 0 = 0 ∧ it.1.getD 3 0 = 0)
theorem pLat_ok {b : Nat → Nat} {n : Nat} {s : Lx} (o : LxOk b n s) {it : It} {s' : Lx} (h : pLat b n s = .inr (it, s')) (ts : List It) : LxOk b n s' ∧ s.2.1 ≤ s'.2.1 ∧ ItOk ts it := by
  unfold pLat at h
  cases hp : pNums b n 6 9 s [] 0 with
  | inl e => rw [hp] at h; cases h
  | inr q =>
    obtain ⟨vs, l, s1⟩ := q
    rw [hp] at h
    obtain ⟨q1, q2, q3, q4⟩ := pNums_ok 9 s [] 0 vs l s1 o hp
    by_cases hd : 1 ≤ (dtf (lsM vs)).natAbs ∧ (dtf (lsM vs)).natAbs ≤ 60
    · rw [pLatC_y hd] at h
      cases h
      exact ⟨q1, q2, q3, q4 (fun v hv => by cases hv), hd⟩
    · rw [pLatC_n hd] at h; cases h
theorem pTurn_q {b : Nat → Nat} {n : Nat} {ns : List (List Nat)} {ts : List It} {s : Lx} {it : It} {s' : Lx} (h : pTurn b n ns ts s = .inr (it, s')) : ∃ k vs l, it = (vs, some k) ∧ k < ns.length ∧ (ts.getD k ([], none)).2 = none ∧ pNums b n 3 4 (nx b n (nx b n (nx b n s.2.2).2.2).2.2) [] 0 = .inr (vs, l, s') ∧ ¬ (vs.getD 0 0 = 0 ∧ vs.getD 1 0 = 0 ∧ vs.getD 2 0 = 0 ∧ vs.getD 3 0 = 0) := by
  unfold pTurn at h
  split at h
  · split at h
    · cases h
    · cases hi : ixo (word b (nx b n s.2.2)) ns 0 with
      | none => rw [hi] at h; cases h
      | some k =>
        rw [hi] at h
        have h2 : (if ((ts.getD k ([], none)).2).isSome = true then (.inl (2, (nx b n s.2.2).2.1) : Rs (It × Lx)) else pTurn2 b n k (nx b n (nx b n s.2.2).2.2)) = .inr (it, s') := h
        split at h2
        · cases h2
        · rename_i hn
          unfold pTurn2 at h2
          split at h2
          · cases hp : pNums b n 3 4 (nx b n (nx b n (nx b n s.2.2).2.2).2.2) [] 0 with
            | inl e => rw [hp] at h2; cases h2
            | inr q =>
              obtain ⟨vs, l, s1⟩ := q
              rw [hp] at h2
              by_cases hz : vs.getD 0 0 = 0 ∧ vs.getD 1 0 = 0 ∧ vs.getD 2 0 = 0 ∧ vs.getD 3 0 = 0
              · rw [pTurC_n hz] at h2; cases h2
              · rw [pTurC_y hz] at h2
                cases h2
                have := ixo_lt ns 0 k hi
                refine ⟨k, vs, l, rfl, by omega, ?_, rfl, hz⟩
                cases hq : (ts.getD k ([], none)).2 with
                | none => rfl
                | some z => rw [hq] at hn; exact absurd rfl hn
          · cases h2
  · cases h
theorem pTurn_ok {b : Nat → Nat} {n : Nat} {ns : List (List Nat)} {ts : List It} (hl : ns.length = ts.length) {s : Lx} (o : LxOk b n s) {it : It} {s' : Lx} (h : pTurn b n ns ts s = .inr (it, s')) : LxOk b n s' ∧ s.2.1 ≤ s'.2.1 ∧ ItOk ts it := by
  obtain ⟨k, vs, l, rfl, hk, ho, hp, hz⟩ := pTurn_q h
  have a1 := nx_ok (b := b) o.2.2.1
  have a2 := nx_ok (b := b) a1.1.2.2.1
  have a3 := nx_ok (b := b) a2.1.2.2.1
  obtain ⟨q1, q2, q3, q4⟩ := pNums_ok 4 _ [] 0 vs l s' a3.1 hp
  have := o.2.1
  have := a1.1.2.1
  have := a2.1.2.1
  exact ⟨q1, by omega, q3, q4 (fun v hv => by cases hv), by omega, ho, hz⟩
theorem pLine_ok {b : Nat → Nat} {n : Nat} {ns : List (List Nat)} {ts : List It} (hl : ns.length = ts.length) {s : Lx} (o : LxOk b n s) (h0 : s.1 ≠ 0) {w : List Nat} {it : It} {s' : Lx} (h : pLine b n ns ts s = .inr (w, it, s')) : LxOk b n s' ∧ s.2.2 ≤ s'.2.1 ∧ ItOk ts it ∧ ts.length < 5 ∧ w = word b (nx b n s.2.2) ∧ (nx b n s.2.2).1 = 1 := by
  have a1 := nx_ok (b := b) o.2.2.1
  have a2 := nx_ok (b := b) a1.1.2.2.1
  have b1 := a1.1.2.1
  unfold pLine at h
  split at h
  · cases h
  · split at h
    · cases h
    · split at h
      · cases h
      · rename_i hk
        split at h
        · cases h
        · have fin : ∀ r : Rs (It × Lx), (∀ it s1, r = .inr (it, s1) → LxOk b n s1 ∧ (nx b n (nx b n s.2.2).2.2).2.1 ≤ s1.2.1 ∧ ItOk ts it) → pEnd b n (word b (nx b n s.2.2)) r = .inr (w, it, s') → LxOk b n s' ∧ s.2.2 ≤ s'.2.1 ∧ ItOk ts it ∧ ts.length < 5 ∧ w = word b (nx b n s.2.2) ∧ (nx b n s.2.2).1 = 1 := fun r hr he => by
            cases r with
            | inl e => cases he
            | inr q =>
              obtain ⟨it1, s1⟩ := q
              obtain ⟨z1', z2', z3'⟩ := hr it1 s1 rfl
              have he2 : (if s1.1 ≠ 3 then (.inl (1, s1.2.1) : Rs (List Nat × It × Lx)) else .inr (word b (nx b n s.2.2), it1, nx b n s1.2.2)) = .inr (w, it, s') := he
              split at he2
              · cases he2
              · cases he2
                have a5 := nx_ok (b := b) z1'.2.2.1
                have := z1'.2.1
                exact ⟨a5.1, by omega, z3', by omega, rfl, by omega⟩
          refine fin _ (fun it1 s1 hr => ?_) h
          split at hr
          · exact pTurn_ok hl a2.1 hr
          · exact pLat_ok a2.1 hr ts
/-- all that was told is in order -/
def ItsOk (ts : List It) : Prop := ts.length ≤ 5 ∧ ∀ k, k < ts.length → ItOk (ts.take k) (ts.getD k ([], none))
theorem ItsOk.q {ts : List It} (h : ItsOk ts) {k q : Nat} (hq : (ts.getD k ([], none)).2 = some q) : q < k ∧ k < ts.length := by
  by_cases hk : k < ts.length
  · have := h.2 k hk
    unfold ItOk at this
    rw [hq] at this
    have h3 := this.2.2.1
    rw [List.length_take] at h3
    exact ⟨by omega, hk⟩
  · rw [List.getD_eq_getElem?_getD, List.getElem?_eq_none (by omega)] at hq
    cases hq
theorem ItsOk.snoc {ts : List It} {it : It} (h : ItsOk ts) (h5 : ts.length < 5) (hi : ItOk ts it) : ItsOk (ts ++ [it]) := by
  have g : ∀ j, (ts ++ [it]).getD j ([], none) = if j < ts.length then ts.getD j ([], none) else if j = ts.length then it else ([], none) := fun j => by
    rw [List.getD_eq_getElem?_getD, List.getD_eq_getElem?_getD]
    by_cases h : j < ts.length
    · rw [if_pos h, List.getElem?_append_left h]
    · rw [if_neg h, List.getElem?_append_right (by omega)]
      by_cases h2 : j = ts.length
      · rw [if_pos h2, h2, Nat.sub_self]; rfl
      · rw [if_neg h2]
        obtain ⟨z, hz⟩ : ∃ z, j - ts.length = z + 1 := ⟨j - ts.length - 1, by omega⟩
        rw [hz]; rfl
  refine ⟨by rw [List.length_append]; show ts.length + 1 ≤ 5; omega, fun k hk => ?_⟩
  rw [List.length_append] at hk
  have hk' : k < ts.length + 1 := hk
  rw [g]
  by_cases hkt : k < ts.length
  · rw [if_pos hkt, List.take_append_of_le_length (by omega)]
    exact h.2 k hkt
  · rw [if_neg hkt, if_pos (by omega), List.take_append_of_le_length (by omega), List.take_of_length_le (by omega)]
    exact hi
theorem pRead_ok {b : Nat → Nat} {n : Nat} : ∀ K ns ts s ts', ns.length = ts.length → LxOk b n s → ItsOk ts → pRead b n K ns ts s = .inr ts' → ItsOk ts'
  | 0, ns, ts, s, ts', hl, o, ht, h => by cases h; exact ht
  | K + 1, ns, ts, s, ts', hl, o, ht, h => by
    unfold pRead at h
    split at h
    · cases h; exact ht
    · rename_i h0
      cases hp : pLine b n ns ts s with
      | inl e => rw [hp] at h; cases h
      | inr q =>
        obtain ⟨w, it, s'⟩ := q
        rw [hp] at h
        obtain ⟨z1', z2', z3', z4', _⟩ := pLine_ok hl o h0 hp
        exact pRead_ok K (ns ++ [w]) (ts ++ [it]) s' ts' (by rw [List.length_append, List.length_append, hl]; rfl) z1' (ht.snoc z4' z3') h
theorem pAll_ok {b : Nat → Nat} {n : Nat} {ts : List It} (h : pAll b n = .inr ts) : ItsOk ts := pRead_ok 501 [] [] _ ts rfl (nx_ok (Nat.zero_le _)).1 ⟨Nat.zero_le _, fun k hk => by cases hk⟩ h
