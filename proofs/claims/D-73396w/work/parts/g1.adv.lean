/-! reading: the component's pieces -/
set_option maxRecDepth 100000
/-- the reader: lists, where it is, from where, number, lines, last, piece, word -/
def reC (FL NL x p q : Nat) (num : Int32) (ln : Nat) (la : Int32) (tk : Value) (wd : Nat) : AC := .inl (4, [.ref FL, .ref NL, .int (ni p), .int (ni q), .int num, .int (ni ln), .int la, tk, .ref wd, .ref x])
def cTp (h : CH) (x : Nat) (b : Nat → Nat) (n : Nat) : Prop := ∃ fs TP tf, cm h x = some (.inl (1, fs)) ∧ fs[3]? = some (.int (ni n)) ∧ fs[2]? = some (.ref TP) ∧ cm h TP = some (.inr (2, 500, .inl tf)) ∧ n ≤ 500 ∧ ∀ i, i < n → b i < 256 ∧ (tf i &&& 255) = ni (b i)
theorem cTp.mod {S : Nat → Prop} {k n' : Nat} {h h1 : CH} {x : Nat} {b : Nat → Nat} {n : Nat} (H : cTp h x b n) (m : Mod S k n' h h1) (w : wfh h) (hS : ∀ q, S q → (∀ fs, cm h q ≠ some (.inl (1, fs))) ∧ ∀ c f, cm h q ≠ some (.inr (2, c, .inl f))) : cTp h1 x b n := by
  obtain ⟨fs, TP, tf, a1, a2, a3, a4, a5⟩ := H
  exact ⟨fs, TP, tf, m.at w a1 (fun hs => (hS _ hs).1 _ a1), a2, a3, m.at w a4 (fun hs => (hS _ hs).2 _ _ a4), a5⟩
theorem cTp.re {k n' : Nat} {h h1 : CH} {x : Nat} {b : Nat → Nat} {n r : Nat} {fs : List Value} (H : cTp h x b n) (m : Mod (· = r) k n' h h1) (w : wfh h) (hr : cm h r = some (.inl (4, fs))) : cTp h1 x b n := H.mod m w (fun q hq => by
  have e : q = r := hq
  subst e
  exact ⟨fun fs' hh => (by rw [hr] at hh; cases hh), fun c f hh => (by rw [hr] at hh; cases hh)⟩)
theorem X4_byteAt {f : Nat} {h : CH} {x : Nat} {b : Nat → Nat} {n : Nat} (T : cTp h x b n) {r FL NL p q : Nat} {num : Int32} {ln : Nat} {la : Int32} {tk : Value} {wd : Nat} (hr : cm h r = some (reC FL NL x p q num ln la tk wd)) {z : Nat} (hz : z < 2 ^ 31) : m_X4_byteAt f h r (ni z) = some (if z < n then ni (b z) else -1, h) := by
  obtain ⟨fs, TP, tf, a1, a2, a3, a4, a5, a6⟩ := T
  unfold m_X4_byteAt
  have o9 : oR h 4 9 r = some x := oR_c hr rfl
  rw [o9, bd_some, oI_c a1 a2, bd_some]
  by_cases hlt : z < n
  · obtain ⟨b1, b2⟩ := a6 z hlt
    have ai : aI h 2 TP (ni z) = some (tf z) := by
      unfold aI; rw [a4]
      simp only [ix_ni (show z < 500 by omega) (by decide), and_self, if_true]
      rw [ni_clamp hz]
    rw [if_neg (show ¬ ni n ≤ ni z from fun hh => by have := (ni_le (by omega) hz).mp hh; omega), bd_some, oR_c a1 a3, bd_some, ai, bd_some, b2, if_pos hlt]
    rfl
  · rw [if_pos (show ni n ≤ ni z from (ni_le (by omega) hz).mpr (by omega)), if_neg hlt]
    rfl
theorem isC_re {h : CH} {r FL NL x p q : Nat} {num : Int32} {ln : Nat} {la : Int32} {tk : Value} {wd : Nat} (hr : cm h r = some (reC FL NL x p q num ln la tk wd)) : isC h r 4 = true := by unfold isC; rw [hr]; rfl
def Tk (h : CH) (t : Nat → Nat) : Prop := (∀ i, i < 6 → sR h (2 + i) = some (t i)) ∧ ∀ i j, i < 6 → j < 6 → t i = t j → i = j
theorem Tk.of {h : CH} (k : kf h) : ∃ t, Tk h t := by
  obtain ⟨_, _, ⟨t, h1, h2⟩, _⟩ := k
  exact ⟨t, h1, h2⟩
theorem Tk.mod {S : Nat → Prop} {k n : Nat} {h h1 : CH} {t : Nat → Nat} (H : Tk h t) (m : Mod S k n h h1) : Tk h1 t := ⟨fun i hi => by unfold sR; rw [m.2.2.2.2.2.1]; exact H.1 i hi, H.2⟩
def tkC (k : Nat) : Nat := [2, 5, 3, 4, 1, 0].getD k 0
theorem tkC_lt : ∀ k, k < 6 → tkC k < 6 := by decide
theorem tkC_inj : ∀ k, k < 6 → ∀ j, j < 6 → tkC k = tkC j → k = j := by decide
/-- the reader has the piece s at hand -/
def cRe (h : CH) (r FL NL x : Nat) (ln : Nat) (la : Int32) (t : Nat → Nat) (b : Nat → Nat) (s : Lx) : Prop := ∃ num wd, cm h r = some (reC FL NL x s.2.2 s.2.1 num ln la (.ref (t (tkC s.1))) wd) ∧ (s.1 = 1 → isS h wd (word b s)) ∧ (s.1 = 2 → num = ni (min 9999 (val b s)))
theorem isIn_n {f : Nat} {c lo hi : Nat} (hc : c < 2 ^ 31) (h1 : lo < 2 ^ 31) (h2 : hi < 2 ^ 31) : m_X0_isIn f (Int32.toInt64 (ni c)) (li lo) (li hi) = some (if lo ≤ c ∧ c ≤ hi then 1 else 0) := by
  rw [toL, ni_toInt hc, isIn_li (rg_nat.mpr (by rw [Int.natAbs_natCast]; omega)) (rg_nat.mpr (by rw [Int.natAbs_natCast]; omega)) (rg_nat.mpr (by rw [Int.natAbs_natCast]; omega))]
  unfold inI
  by_cases h : lo ≤ c ∧ c ≤ hi
  · rw [if_pos h, if_pos (decide_eq_true (by omega))]
  · rw [if_neg h, if_neg (fun hh => h (by have := of_decide_eq_true hh; omega))]
theorem isIn_m1 {f : Nat} {lo hi : Nat} (h1 : lo < 2 ^ 31) (h2 : hi < 2 ^ 31) : m_X0_isIn f (Int32.toInt64 (-1 : Int32)) (li lo) (li hi) = some 0 := by
  rw [toL, show (-1 : Int32).toInt = -1 from rfl, isIn_li (rg_nat.mpr (by decide)) (rg_nat.mpr (by rw [Int.natAbs_natCast]; omega)) (rg_nat.mpr (by rw [Int.natAbs_natCast]; omega))]
  unfold inI
  rw [if_neg (fun hh => by have := of_decide_eq_true hh; omega)]
/-- a byte of the tape, or none, within bounds -/
theorem isIn_b {f : Nat} {b : Nat → Nat} {n z : Nat} (hb : z < n → b z < 256) {lo hi : Nat} (h1 : lo < 2 ^ 31) (h2 : hi < 2 ^ 31) : m_X0_isIn f (Int32.toInt64 (if z < n then ni (b z) else -1)) (li lo) (li hi) = some (if z < n ∧ (lo ≤ b z ∧ b z ≤ hi) then 1 else 0) := by
  by_cases h : z < n
  · have := hb h
    rw [if_pos h, isIn_n (by omega) h1 h2]
    by_cases h3 : lo ≤ b z ∧ b z ≤ hi
    · rw [if_pos h3, if_pos ⟨h, h3⟩]
    · rw [if_neg h3, if_neg (fun hh => h3 hh.2)]
  · rw [if_neg h, isIn_m1 h1 h2, if_neg (fun hh => h hh.1)]
theorem re_at {h : CH} (w : wfh h) {r FL NL x p q : Nat} {num : Int32} {ln : Nat} {la : Int32} {tk : Value} {wd : Nat} (hr : cm h r = some (reC FL NL x p q num ln la tk wd)) (p' : Nat) : pF h 4 2 r (.int (ni p')) = some (cs h r (reC FL NL x p' q num ln la tk wd)) := pF_c hr w (by simp) _
theorem re_num {h : CH} (w : wfh h) {r FL NL x p q : Nat} {num : Int32} {ln : Nat} {la : Int32} {tk : Value} {wd : Nat} (hr : cm h r = some (reC FL NL x p q num ln la tk wd)) (v : Int32) : pF h 4 4 r (.int v) = some (cs h r (reC FL NL x p q v ln la tk wd)) := pF_c hr w (by simp) _
theorem re_tk {h : CH} (w : wfh h) {r FL NL x p q : Nat} {num : Int32} {ln : Nat} {la : Int32} {tk : Value} {wd : Nat} (hr : cm h r = some (reC FL NL x p q num ln la tk wd)) (v : Nat) : pF h 4 7 r (.ref v) = some (cs h r (reC FL NL x p q num ln la (.ref v) wd)) := pF_c hr w (by simp) _
theorem re_wd {h : CH} (w : wfh h) {r FL NL x p q : Nat} {num : Int32} {ln : Nat} {la : Int32} {tk : Value} {wd : Nat} (hr : cm h r = some (reC FL NL x p q num ln la tk wd)) (v : Nat) : pF h 4 8 r (.ref v) = some (cs h r (reC FL NL x p q num ln la tk v)) := pF_c hr w (by simp) _
theorem re_fr {h : CH} (w : wfh h) {r FL NL x p q : Nat} {num : Int32} {ln : Nat} {la : Int32} {tk : Value} {wd : Nat} (hr : cm h r = some (reC FL NL x p q num ln la tk wd)) (v : Nat) : pF h 4 3 r (.int (ni v)) = some (cs h r (reC FL NL x p v num ln la tk wd)) := pF_c hr w (by simp) _
theorem re_md {h : CH} (w : wfh h) {r FL NL x p q : Nat} {num : Int32} {ln : Nat} {la : Int32} {tk : Value} {wd : Nat} (hr : cm h r = some (reC FL NL x p q num ln la tk wd)) (e : AC) : Mod (· = r) 0 0 h (cs h r e) := Mod.cs w hr rfl
/-- digits are gone behind -/
theorem X4_a180 {f : Nat} {x : Nat} {b : Nat → Nat} {n : Nat} {r FL NL q : Nat} {ln : Nat} {la : Int32} {tk : Value} {wd : Nat} {t : Nat → Nat} {h0 : CH} : ∀ k p m h, p + k = n → k < m → q ≤ p → wfh h → Tk h t → cTp h x b n → cm h r = some (reC FL NL x p q (ni (min 9999 (dv b q (p - q)))) ln la tk wd) → Mod (· = r) 0 0 h0 h → ∃ h', m_X4_advance_180 f m h r = some h' ∧ cm h' r = some (reC FL NL x (stp isDig b n p) q (ni (min 9999 (dv b q (stp isDig b n p - q)))) ln la (.ref (t (tkC 2))) wd) ∧ Mod (· = r) 0 0 h0 h' := by
  intro k
  have stop : ∀ p m h, p ≤ n → wfh h → Tk h t → cTp h x b n → cm h r = some (reC FL NL x p q (ni (min 9999 (dv b q (p - q)))) ln la tk wd) → Mod (· = r) 0 0 h0 h → ¬ (p < n ∧ (48 ≤ b p ∧ b p ≤ 57)) → ∃ h', m_X4_advance_180 f (m + 1) h r = some h' ∧ cm h' r = some (reC FL NL x (stp isDig b n p) q (ni (min 9999 (dv b q (stp isDig b n p - q)))) ln la (.ref (t (tkC 2))) wd) ∧ Mod (· = r) 0 0 h0 h' := fun p m h hp w T C hr M hc => by
    have n5 : n ≤ 500 := by obtain ⟨_, _, _, _, _, _, _, a5, _⟩ := C; exact a5
    have hb : p < n → b p < 256 := fun hh => by obtain ⟨_, _, _, _, _, _, _, _, a6⟩ := C; exact (a6 p hh).1
    have i2 : oI h 4 2 r = some (ni p) := oI_c hr rfl
    rw [m_X4_advance_180, i2, bd_some, gd_of (isC_re hr), X4_byteAt C hr (by omega), bd2_some]
    unfold m_X4_advance_188 m_X4_advance_243
    have e := isIn_b (f := f) (b := b) (n := n) (z := p) hb (lo := 48) (hi := 57) (by decide) (by decide)
    rw [if_neg hc] at e
    have e' : m_X0_isIn f (Int32.toInt64 (if p < n then ni (b p) else -1)) (48 : Int64) (57 : Int64) = some 0 := e
    rw [e', bd_some, if_pos rfl, T.1 3 (by decide), bd_some, re_tk w hr, bd_some, stp_n (fun hh => hc ⟨hh.1, of_decide_eq_true hh.2⟩)]
    exact ⟨_, rfl, cm_cs_s _ _ _, M.tr (re_md w hr _) (fun _ _ => id)⟩
  induction k with
  | zero =>
    intro p m h hp hm hq w T C hr M
    obtain ⟨m, rfl⟩ : ∃ z, m = z + 1 := ⟨m - 1, by omega⟩
    exact stop p m h (by omega) w T C hr M (fun hh => by omega)
  | succ k ih =>
    intro p m h hp hm hq w T C hr M
    obtain ⟨m, rfl⟩ : ∃ z, m = z + 1 := ⟨m - 1, by omega⟩
    by_cases hc : 48 ≤ b p ∧ b p ≤ 57
    · have n5 : n ≤ 500 := by obtain ⟨_, _, _, _, _, _, _, a5, _⟩ := C; exact a5
      have hb : p < n → b p < 256 := fun hh => by obtain ⟨_, _, _, _, _, _, _, _, a6⟩ := C; exact (a6 p hh).1
      have hlt : p < n := by omega
      have i2 : oI h 4 2 r = some (ni p) := oI_c hr rfl
      have i4 : oI h 4 4 r = some (ni (min 9999 (dv b q (p - q)))) := oI_c hr rfl
      rw [m_X4_advance_180, i2, bd_some, gd_of (isC_re hr), X4_byteAt C hr (by omega), bd2_some]
      unfold m_X4_advance_188 m_X4_advance_220
      have e := isIn_b (f := f) (b := b) (n := n) (z := p) hb (lo := 48) (hi := 57) (by decide) (by decide)
      rw [if_pos (show p < n ∧ (48 ≤ b p ∧ b p ≤ 57) from ⟨hlt, hc⟩)] at e
      have e' : m_X0_isIn f (Int32.toInt64 (if p < n then ni (b p) else -1)) (48 : Int64) (57 : Int64) = some 1 := e
      rw [e', bd_some, if_neg (by decide), i4, bd_some, i2, bd_some, gd_of (isC_re hr), X4_byteAt C hr (by omega), bd2_some, if_pos hlt, show (9999 : Int32) = ni 9999 from rfl, dg_st (by omega) (by omega) hc, bd_some, re_num w hr, bd_some]
      have m1 := re_md w hr (reC FL NL x p q (ni (min 9999 (10 * dv b q (p - q) + (b p - 48)))) ln la tk wd)
      have c1 := cm_cs_s h r (reC FL NL x p q (ni (min 9999 (10 * dv b q (p - q) + (b p - 48)))) ln la tk wd)
      have C1 := C.re m1 w hr
      generalize cs h r (reC FL NL x p q (ni (min 9999 (10 * dv b q (p - q) + (b p - 48)))) ln la tk wd) = h1 at m1 c1 C1 ⊢
      have i2' : oI h1 4 2 r = some (ni p) := oI_c c1 rfl
      rw [i2', bd_some, ni_succ, re_at m1.wf c1, bd_some]
      have m2 := re_md m1.wf c1 (reC FL NL x (p + 1) q (ni (min 9999 (10 * dv b q (p - q) + (b p - 48)))) ln la tk wd)
      have ed : dv b q (p + 1 - q) = 10 * dv b q (p - q) + (b p - 48) := by
        rw [show p + 1 - q = (p - q) + 1 by omega, dv_succ, show q + (p - q) = p by omega]
      obtain ⟨h', z1', z2', z3'⟩ := ih (p + 1) m _ (by omega) (by omega) (by omega) m2.wf ((T.mod m1).mod m2) (C1.re m2 m1.wf c1) (by rw [cm_cs_s, ed]) ((M.tr m1 (fun _ _ => id)).tr m2 (fun _ _ => id))
      refine ⟨h', z1', ?_, z3'⟩
      rw [stp_y hlt (decide_eq_true hc)]; exact z2'
    · exact stop p m h (by omega) w T C hr M (fun hh => hc hh.2)
theorem word_snoc {b : Nat → Nat} {k q p : Nat} (h : q ≤ p) : word b (k, q, p + 1) = word b (k, q, p) ++ [b p] := by
  unfold word
  show (List.range (p + 1 - q)).map _ = _
  rw [show p + 1 - q = (p - q) + 1 by omega, List.range_succ, List.map_append]
  show _ ++ [b (q + (p - q))] = _
  rw [show q + (p - q) = p by omega]
/-- letters are gone behind, and built -/
theorem X4_a95 {f : Nat} {x : Nat} {b : Nat → Nat} {n : Nat} {r FL NL q : Nat} {num : Int32} {ln : Nat} {la : Int32} {tk : Value} {wd : Nat} {t : Nat → Nat} {h0 : CH} (w0 : wfh h0) (C0 : cTp h0 x b n) {fs0 : List Value} (hr0 : cm h0 r = some (.inl (4, fs0))) {B : Nat} (hB : h0.1 ≤ B) (hrB : r < h0.1) : ∀ k p m h V c, p + k = n → k < m → q ≤ p → wfh h → kf h → Tk h t → cTp h x b n → cm h r = some (reC FL NL x p q num ln la tk wd) → isB h B V c (word b (1, q, p)) → h0.1 ≤ V → 8 ≤ c → (c = 8 ∨ c ≤ 2 * (p - q)) → (∃ e, e + 16 ≤ 12 + 2 * c ∧ Mod (· = r) (2 + (p - q)) e h0 h) → ∃ h' wd', m_X4_advance_95 f m h r B = some h' ∧ cm h' r = some (reC FL NL x (stp isLet b n p) q num ln la (.ref (t (tkC 1))) wd') ∧ isS h' wd' (word b (1, q, stp isLet b n p)) ∧ Mod (· = r) (4 + (stp isLet b n p - q)) (24 + 5 * (stp isLet b n p - q)) h0 h' := by
  intro k
  have stop : ∀ p m h V c, q ≤ p → p ≤ n → wfh h → kf h → Tk h t → cTp h x b n → cm h r = some (reC FL NL x p q num ln la tk wd) → isB h B V c (word b (1, q, p)) → h0.1 ≤ V → 8 ≤ c → (c = 8 ∨ c ≤ 2 * (p - q)) → (∃ e, e + 16 ≤ 12 + 2 * c ∧ Mod (· = r) (2 + (p - q)) e h0 h) → ¬ (p < n ∧ (97 ≤ b p ∧ b p ≤ 122)) → ∃ h' wd', m_X4_advance_95 f (m + 1) h r B = some h' ∧ cm h' r = some (reC FL NL x (stp isLet b n p) q num ln la (.ref (t (tkC 1))) wd') ∧ isS h' wd' (word b (1, q, stp isLet b n p)) ∧ Mod (· = r) (4 + (stp isLet b n p - q)) (24 + 5 * (stp isLet b n p - q)) h0 h' := fun p m h V c hq hp w kf0 T C hr hBd hV h8 hc2 ⟨e0, he0, M⟩ hc => by
    have n5 : n ≤ 500 := by obtain ⟨_, _, _, _, _, _, _, a5, _⟩ := C; exact a5
    have hb : p < n → b p < 256 := fun hh => by obtain ⟨_, _, _, _, _, _, _, _, a6⟩ := C; exact (a6 p hh).1
    have i2 : oI h 4 2 r = some (ni p) := oI_c hr rfl
    rw [m_X4_advance_95, i2, bd_some, gd_of (isC_re hr), X4_byteAt C hr (by omega), bd2_some]
    unfold m_X4_advance_103 m_X4_advance_143 m_X4_advance_148
    have e := isIn_b (f := f) (b := b) (n := n) (z := p) hb (lo := 97) (hi := 122) (by decide) (by decide)
    rw [if_neg hc] at e
    have e' : m_X0_isIn f (Int32.toInt64 (if p < n then ni (b p) else -1)) (97 : Int64) (122 : Int64) = some 0 := e
    have wl : (word b (1, q, p)).length = p - q := word_len b (1, q, p)
    obtain ⟨h1, s1, s2, s3⟩ := J5_toString (f := f) w hBd (by rw [wl]; omega)
    have isc : isC h B 18 = true := by
      obtain ⟨⟨k2, q1⟩, _⟩ := hBd
      unfold isC; rw [q1]; rfl
    have r1 := s3.at w hr id
    rw [e', bd_some, if_pos rfl, gd_of isc, s1, bd2_some, re_wd s3.wf r1, bd_some]
    have m2 := re_md s3.wf r1 (reC FL NL x p q num ln la tk h.1)
    have c2 := cm_cs_s h1 r (reC FL NL x p q num ln la tk h.1)
    have S2 := s2.mod m2 s3.wf (kf0.mod s3).kok (fun z hz => by
      have e9 : z = r := hz
      subst e9
      exact ⟨(s3.wf.1 _ _ r1).1, fun fs hh => (by rw [r1] at hh; cases hh), fun c f hh => (by rw [r1] at hh; cases hh)⟩)
    have T2 := (T.mod s3).mod m2
    have kf2 := (kf0.mod s3).mod m2
    generalize cs h1 r (reC FL NL x p q num ln la tk h.1) = h2 at m2 c2 S2 T2 kf2 ⊢
    rw [T2.1 5 (by decide), bd_some, re_tk m2.wf c2, bd_some, stp_n (fun hh => hc ⟨hh.1, of_decide_eq_true hh.2⟩)]
    have m3 := re_md m2.wf c2 (reC FL NL x p q num ln la (.ref (t 5)) h.1)
    refine ⟨_, h.1, rfl, cm_cs_s _ _ _, S2.mod m3 m2.wf kf2.kok (fun z hz => by
      have e9 : z = r := hz
      subst e9
      exact ⟨(m2.wf.1 _ _ c2).1, fun fs hh => (by rw [c2] at hh; cases hh), fun c f hh => (by rw [c2] at hh; cases hh)⟩), ?_⟩
    refine (((M.tr (s3.mono (T := (· = r)) (fun _ _ hh => hh.elim) (Nat.le_refl _) (Nat.le_refl _)) (fun _ _ => id)).tr m2 (fun _ _ => id)).tr m3 (fun _ _ => id)).up (by omega) ?_
    rw [wl]
    rcases hc2 with hc2 | hc2 <;> omega
  induction k with
  | zero =>
    intro p m h V c hp hm hq w kf0 T C hr hBd hV h8 hc2 M
    obtain ⟨m, rfl⟩ : ∃ z, m = z + 1 := ⟨m - 1, by omega⟩
    exact stop p m h V c hq (by omega) w kf0 T C hr hBd hV h8 hc2 M (fun hh => by omega)
  | succ k ih =>
    intro p m h V c hp hm hq w kf0 T C hr hBd hV h8 hc2 M
    obtain ⟨m, rfl⟩ : ∃ z, m = z + 1 := ⟨m - 1, by omega⟩
    by_cases hc : 97 ≤ b p ∧ b p ≤ 122
    · obtain ⟨e0, he0, M⟩ := M
      have n5 : n ≤ 500 := by obtain ⟨_, _, _, _, _, _, _, a5, _⟩ := C; exact a5
      have hb : p < n → b p < 256 := fun hh => by obtain ⟨_, _, _, _, _, _, _, _, a6⟩ := C; exact (a6 p hh).1
      have hlt : p < n := by omega
      have i2 : oI h 4 2 r = some (ni p) := oI_c hr rfl
      have wl : (word b (1, q, p)).length = p - q := word_len b (1, q, p)
      have isc : isC h B 18 = true := by
        obtain ⟨⟨k2, q1⟩, _⟩ := hBd
        unfold isC; rw [q1]; rfl
      have e := isIn_b (f := f) (b := b) (n := n) (z := p) hb (lo := 97) (hi := 122) (by decide) (by decide)
      rw [if_pos (show p < n ∧ (97 ≤ b p ∧ b p ≤ 122) from ⟨hlt, hc⟩)] at e
      have e' : m_X0_isIn f (Int32.toInt64 (if p < n then ni (b p) else -1)) (97 : Int64) (122 : Int64) = some 1 := e
      obtain ⟨h1, V1, c1, n1, a1, a2, a3, a4, a5, a6, a7⟩ := J5_append (f := f) w hBd (by rw [wl]; omega) h8 (x := b p) (by omega)
      have hrV : r ≠ V := by omega
      have hrB' : r ≠ B := by omega
      have r1 := a3.at w hr (fun hs => by rcases hs with hs | hs; exact hrB' hs; exact hrV hs)
      rw [m_X4_advance_95, i2, bd_some, gd_of (isC_re hr), X4_byteAt C hr (by omega), bd2_some]
      unfold m_X4_advance_103 m_X4_advance_125 m_X4_advance_129
      rw [e', bd_some, if_neg (by decide), i2, bd_some, gd_of (isC_re hr), X4_byteAt C hr (by omega), bd2_some, if_pos hlt, gd_of isc, (ch_and (b p) (by omega)).2.1, a1, bd2_some]
      have i2' : oI h1 4 2 r = some (ni p) := oI_c r1 rfl
      rw [i2', bd_some, ni_succ, re_at a3.wf r1, bd_some]
      have m2 := re_md a3.wf r1 (reC FL NL x (p + 1) q num ln la tk wd)
      have M1 : Mod (· = r) (2 + (p - q) + 1) (e0 + n1) h0 h1 := M.tr (a3.mono (T := bS B V) (fun _ _ => id) (Nat.le_refl _) (Nat.le_refl _)) (fun z hz hh => by
        rcases hh with hh | hh
        · omega
        · omega)
      have C1 : cTp h1 x b n := C0.re M1 w0 hr0
      have B1 : isB (cs h1 r (reC FL NL x (p + 1) q num ln la tk wd)) B V1 c1 (word b (1, q, p) ++ [b p]) := by
        obtain ⟨⟨k2, q1⟩, ⟨g, q2, q3⟩, q4⟩ := a2
        exact ⟨⟨k2, m2.at a3.wf q1 (fun e9 => hrB' e9.symm)⟩, ⟨g, m2.at a3.wf q2 (fun e9 => by
          have e9' : V1 = r := e9
          rcases a5 with a5 | a5
          · omega
          · have := (w.1 _ _ hr).2; omega), q3⟩, q4⟩
      have M2 : Mod (· = r) (2 + (p + 1 - q)) (e0 + n1) h0 (cs h1 r (reC FL NL x (p + 1) q num ln la tk wd)) := by
        exact (M1.tr m2 (fun _ _ => id)).up (by omega) (by omega)
      obtain ⟨h', wd', z1', z2', z3', z4'⟩ := ih (p + 1) m _ V1 c1 (by omega) (by omega) (by omega) m2.wf ((kf0.mod a3).mod m2) ((T.mod a3).mod m2) (C1.re m2 a3.wf r1) (cm_cs_s _ _ _) (by rw [word_snoc hq]; exact B1) (by
        rcases a5 with a5 | a5
        · omega
        · have := M.ge; omega) a7 (by
        rcases a6 with a6 | a6
        · rcases hc2 with hc2 | hc2 <;> omega
        · rw [wl] at a6; omega) ⟨e0 + n1, by omega, M2⟩
      refine ⟨h', wd', z1', ?_, ?_, ?_⟩
      · rw [stp_y hlt (decide_eq_true hc)]; exact z2'
      · rw [stp_y hlt (decide_eq_true hc)]; exact z3'
      · rw [stp_y hlt (decide_eq_true hc)]; exact z4'
    · exact stop p m h V c hq (by omega) w kf0 T C hr hBd hV h8 hc2 M (fun hh => hc hh.2)
/-- from the piece's first place on -/
theorem X4_a39 {f : Nat} (hf : 501 < f) {h : CH} (w : wfh h) (kf0 : kf h) {t : Nat → Nat} (T : Tk h t) {x : Nat} {b : Nat → Nat} {n : Nat} (C : cTp h x b n) {r FL NL p q : Nat} {num : Int32} {ln : Nat} {la : Int32} {tk : Value} {wd : Nat} (hr : cm h r = some (reC FL NL x p q num ln la tk wd)) (hp : p ≤ n) : ∃ h', m_X4_advance_39 f h r = some h' ∧ cRe h' r FL NL x ln la t b (nxk b n p) ∧ Mod (· = r) (5 * ((nxk b n p).2.2 - p)) (29 * ((nxk b n p).2.2 - p)) h h' := by
  have n5 : n ≤ 500 := by obtain ⟨_, _, _, _, _, _, _, a5, _⟩ := C; exact a5
  have hb : p < n → b p < 256 := fun hh => by obtain ⟨_, _, _, _, _, _, _, _, a6⟩ := C; exact (a6 p hh).1
  have i2 : oI h 4 2 r = some (ni p) := oI_c hr rfl
  unfold m_X4_advance_39
  rw [i2, bd_some, re_fr w hr, bd_some]
  have m1 := re_md w hr (reC FL NL x p p num ln la tk wd)
  have c1 := cm_cs_s h r (reC FL NL x p p num ln la tk wd)
  have C1 := C.re m1 w hr
  have T1 := T.mod m1
  have kf1 := kf0.mod m1
  generalize cs h r (reC FL NL x p p num ln la tk wd) = h1 at m1 c1 C1 T1 kf1 ⊢
  have i2' : oI h1 4 2 r = some (ni p) := oI_c c1 rfl
  rw [i2', bd_some, gd_of (isC_re c1), X4_byteAt C1 c1 (by omega), bd2_some]
  unfold m_X4_advance_55 nxk
  by_cases h0 : n ≤ p
  · rw [if_pos h0, if_neg (show ¬ p < n by omega), if_neg (fun hh => hh rfl), T1.1 2 (by decide), bd_some, re_tk m1.wf c1, bd_some]
    have m2 := re_md m1.wf c1 (reC FL NL x p p num ln la (.ref (t 2)) wd)
    exact ⟨_, rfl, ⟨num, wd, cm_cs_s _ _ _, fun h => (by cases h), fun h => (by cases h)⟩, (m1.tr m2 (fun _ _ => id)).up (by omega) (by omega)⟩
  · have hlt : p < n := by omega
    have hbp := hb hlt
    rw [if_neg h0, if_pos hlt, if_pos (show ¬ ni (b p) = (-1 : Int32) from fun e => by
      have e2 : (ni (b p)).toInt = (-1 : Int32).toInt := by rw [e]
      rw [ni_toInt (by omega)] at e2
      have : (-1 : Int32).toInt = -1 := rfl
      omega)]
    have e97 := isIn_n (f := f) (c := b p) (lo := 97) (hi := 122) (by omega) (by decide) (by decide)
    have e48 := isIn_n (f := f) (c := b p) (lo := 48) (hi := 57) (by omega) (by decide) (by decide)
    by_cases k1 : 97 ≤ b p ∧ b p ≤ 122
    · rw [if_pos k1] at e97
      have e97' : m_X0_isIn f (Int32.toInt64 (ni (b p))) (97 : Int64) (122 : Int64) = some 1 := e97
      rw [e97', bd_some, if_neg (by decide), if_pos (show isLet (b p) = true from decide_eq_true k1), nmv_eq, nmv_eq]
      unfold m_X4_advance_88 m_X4_advance_94
      obtain ⟨h2, s1, s2, s3⟩ := J5_new (f := f) m1.wf
      rw [s1, bd_some]
      have hs := (m1.wf.1 _ _ c1).2
      obtain ⟨h3, wd', z1', z2', z3', z4'⟩ := X4_a95 (f := f) (x := x) (b := b) (n := n) (r := r) (FL := FL) (NL := NL) (q := p) (num := num) (ln := ln) (la := la) (tk := tk) (wd := wd) (t := t) (h0 := h1) m1.wf C1 c1 (B := h1.1) (Nat.le_refl _) hs (n - p) p f h2 (h1.1 + 1) 8 (by omega) (by omega) (Nat.le_refl _) s3.wf (kf1.mod s3) (T1.mod s3) (C1.re (s3.mono (T := (· = r)) (fun _ _ hh => hh.elim) (Nat.le_refl _) (Nat.le_refl _)) m1.wf c1) (s3.at m1.wf c1 id) (by
        have e : word b (1, p, p) = [] := by unfold word; show (List.range (p - p)).map _ = []; rw [Nat.sub_self]; rfl
        rw [e]; exact s2) (by omega) (Nat.le_refl _) (.inl rfl) ⟨12, by omega, (s3.mono (T := (· = r)) (fun _ _ hh => hh.elim) (Nat.le_refl _) (Nat.le_refl _)).up (by omega) (by omega)⟩
      have hst : p < stp isLet b n p := by rw [stp_y hlt (decide_eq_true k1)]; exact stp_ge
      refine ⟨h3, z1', ⟨num, wd', z2', fun _ => z3', fun h => (by cases h)⟩, ?_⟩
      show Mod (· = r) (5 * (stp isLet b n p - p)) (29 * (stp isLet b n p - p)) h h3
      exact (m1.tr z4' (fun _ _ => id)).up (by omega) (by omega)
    · rw [if_neg k1] at e97
      have e97' : m_X0_isIn f (Int32.toInt64 (ni (b p))) (97 : Int64) (122 : Int64) = some 0 := e97
      rw [e97', bd_some, if_pos rfl, if_neg (show ¬ isLet (b p) = true from fun hh => k1 (of_decide_eq_true hh))]
      by_cases k2 : 48 ≤ b p ∧ b p ≤ 57
      · rw [if_pos k2] at e48
        have e48' : m_X0_isIn f (Int32.toInt64 (ni (b p))) (48 : Int64) (57 : Int64) = some 1 := e48
        rw [e48', bd_some, if_neg (by decide), if_pos (show isDig (b p) = true from decide_eq_true k2), re_num m1.wf c1, bd_some]
        have m2 := re_md m1.wf c1 (reC FL NL x p p 0 ln la tk wd)
        obtain ⟨h3, z1', z2', z3'⟩ := X4_a180 (f := f) (x := x) (b := b) (n := n) (r := r) (FL := FL) (NL := NL) (q := p) (ln := ln) (la := la) (tk := tk) (wd := wd) (t := t) (h0 := h1) (n - p) p f _ (by omega) (by omega) (Nat.le_refl _) m2.wf (T1.mod m2) (C1.re m2 m1.wf c1) (by rw [cm_cs_s, Nat.sub_self]; rfl) m2
        refine ⟨h3, z1', ⟨_, wd, z2', fun h => (by cases h), fun _ => rfl⟩, ?_⟩
        exact (m1.tr z3' (fun _ _ => id)).up (by omega) (by omega)
      · rw [if_neg k2] at e48
        have e48' : m_X0_isIn f (Int32.toInt64 (ni (b p))) (48 : Int64) (57 : Int64) = some 0 := e48
        rw [e48', bd_some, if_pos rfl, if_neg (show ¬ isDig (b p) = true from fun hh => k2 (of_decide_eq_true hh))]
        have fin : ∀ v k, v = t (tkC k) → k ≠ 1 → k ≠ 2 → ∃ h', m_X4_advance_281 f h1 r r v = some h' ∧ cRe h' r FL NL x ln la t b (k, p, p + 1) ∧ Mod (· = r) (5 * (p + 1 - p)) (29 * (p + 1 - p)) h h' := fun v k hv hk1 hk2 => by
          unfold m_X4_advance_281
          rw [re_tk m1.wf c1, bd_some]
          have m2 := re_md m1.wf c1 (reC FL NL x p p num ln la (.ref v) wd)
          have c2 := cm_cs_s h1 r (reC FL NL x p p num ln la (.ref v) wd)
          generalize cs h1 r (reC FL NL x p p num ln la (.ref v) wd) = h2 at m2 c2 ⊢
          have i2'' : oI h2 4 2 r = some (ni p) := oI_c c2 rfl
          rw [i2'', bd_some, ni_succ, re_at m2.wf c2, bd_some]
          have m3 := re_md m2.wf c2 (reC FL NL x (p + 1) p num ln la (.ref v) wd)
          refine ⟨_, rfl, ⟨num, wd, by rw [cm_cs_s, hv], fun h => absurd h hk1, fun h => absurd h hk2⟩, ((m1.tr m2 (fun _ _ => id)).tr m3 (fun _ _ => id)).up (by omega) (by omega)⟩
        by_cases k3 : b p = 59
        · rw [if_neg (fun hh => hh (by rw [k3]; rfl)), if_pos k3, T1.1 4 (by decide), bd_some]
          exact fin _ 3 rfl (by decide) (by decide)
        · rw [if_pos (show ¬ ni (b p) = (59 : Int32) from fun e => k3 ((ni_inj (by omega) (by decide)).mp (show ni (b p) = ni 59 from e))), if_neg k3]
          by_cases k4 : b p = 45
          · rw [if_neg (fun hh => hh (by rw [k4]; rfl)), if_pos k4, T1.1 1 (by decide), bd_some]
            exact fin _ 4 rfl (by decide) (by decide)
          · rw [if_pos (show ¬ ni (b p) = (45 : Int32) from fun e => k4 ((ni_inj (by omega) (by decide)).mp (show ni (b p) = ni 45 from e))), if_neg k4, T1.1 0 (by decide), bd_some]
            exact fin _ 5 rfl (by decide) (by decide)
theorem X4_a0 {f : Nat} (hf : 501 < f) {t : Nat → Nat} {x : Nat} {b : Nat → Nat} {n : Nat} {r FL NL q : Nat} {num : Int32} {ln : Nat} {la : Int32} {tk : Value} {wd : Nat} : ∀ k p m h, p + k = n → k < m → wfh h → kf h → Tk h t → cTp h x b n → cm h r = some (reC FL NL x p q num ln la tk wd) → ∃ h', m_X4_advance_0 f m h r = some h' ∧ cRe h' r FL NL x ln la t b (nx b n p) ∧ Mod (· = r) (5 * ((nx b n p).2.2 - p)) (29 * ((nx b n p).2.2 - p)) h h' := by
  intro k
  have stop : ∀ p m h, p ≤ n → wfh h → kf h → Tk h t → cTp h x b n → cm h r = some (reC FL NL x p q num ln la tk wd) → ¬ (p < n ∧ (b p = 32 ∨ b p = 10)) → ∃ h', m_X4_advance_0 f (m + 1) h r = some h' ∧ cRe h' r FL NL x ln la t b (nx b n p) ∧ Mod (· = r) (5 * ((nx b n p).2.2 - p)) (29 * ((nx b n p).2.2 - p)) h h' := fun p m h hp w kf0 T C hr hc => by
    have n5 : n ≤ 500 := by obtain ⟨_, _, _, _, _, _, _, a5, _⟩ := C; exact a5
    have hb : p < n → b p < 256 := fun hh => by obtain ⟨_, _, _, _, _, _, _, _, a6⟩ := C; exact (a6 p hh).1
    have i2 : oI h 4 2 r = some (ni p) := oI_c hr rfl
    have ne : ∀ z, z < 256 → ¬ (p < n ∧ b p = z) → ¬ (if p < n then ni (b p) else (-1 : Int32)) = ni z := fun z hz hn e => by
      by_cases hlt : p < n
      · rw [if_pos hlt] at e
        exact hn ⟨hlt, (ni_inj (by have := hb hlt; omega) (by omega)).mp e⟩
      · rw [if_neg hlt] at e
        have e2 : (-1 : Int32).toInt = (ni z).toInt := by rw [e]
        rw [ni_toInt (by omega)] at e2
        have : (-1 : Int32).toInt = -1 := rfl
        omega
    rw [m_X4_advance_0, i2, bd_some, gd_of (isC_re hr), X4_byteAt C hr (by omega), bd2_some]
    unfold m_X4_advance_8 m_X4_advance_21
    rw [if_neg (show ¬ (if p < n then ni (b p) else (-1 : Int32)) = 32 from ne 32 (by decide) (fun hh => hc ⟨hh.1, .inl hh.2⟩)), i2, bd_some, gd_of (isC_re hr), X4_byteAt C hr (by omega), bd2_some, if_pos (show ¬ (if p < n then ni (b p) else (-1 : Int32)) = 10 from ne 10 (by decide) (fun hh => hc ⟨hh.1, .inr hh.2⟩))]
    unfold nx
    rw [stp_n (fun hh => hc ⟨hh.1, of_decide_eq_true hh.2⟩)]
    exact X4_a39 hf w kf0 T C hr hp
  induction k with
  | zero =>
    intro p m h hp hm w kf0 T C hr
    obtain ⟨m, rfl⟩ : ∃ z, m = z + 1 := ⟨m - 1, by omega⟩
    exact stop p m h (by omega) w kf0 T C hr (fun hh => by omega)
  | succ k ih =>
    intro p m h hp hm w kf0 T C hr
    obtain ⟨m, rfl⟩ : ∃ z, m = z + 1 := ⟨m - 1, by omega⟩
    by_cases hc : b p = 32 ∨ b p = 10
    · have n5 : n ≤ 500 := by obtain ⟨_, _, _, _, _, _, _, a5, _⟩ := C; exact a5
      have hlt : p < n := by omega
      have i2 : oI h 4 2 r = some (ni p) := oI_c hr rfl
      have m1 := re_md w hr (reC FL NL x (p + 1) q num ln la tk wd)
      obtain ⟨h', z1', z2', z3'⟩ := ih (p + 1) m _ (by omega) (by omega) m1.wf (kf0.mod m1) (T.mod m1) (C.re m1 w hr) (cm_cs_s _ _ _)
      have en : nx b n p = nx b n (p + 1) := by unfold nx; rw [stp_y hlt (decide_eq_true hc)]
      have q := (nx_ok (b := b) (n := n) (p := p + 1) (by omega))
      have q2 := q.1.2.1
      have go : m_X4_advance_26 f (m_X4_advance_0 f m) h r = some h' := by
        unfold m_X4_advance_26
        rw [i2, bd_some, ni_succ, re_at w hr, bd_some]; exact z1'
      refine ⟨h', ?_, by rw [en]; exact z2', by rw [en]; exact (m1.tr z3' (fun _ _ => id)).up (by omega) (by omega)⟩
      rw [m_X4_advance_0, i2, bd_some, gd_of (isC_re hr), X4_byteAt C hr (by omega), bd2_some]
      unfold m_X4_advance_8 m_X4_advance_21
      rw [if_pos hlt]
      by_cases h32 : b p = 32
      · rw [if_pos (show ni (b p) = (32 : Int32) by rw [h32]; rfl)]; exact go
      · have h10 : b p = 10 := by omega
        rw [h10, if_neg (by decide), i2, bd_some, gd_of (isC_re hr), X4_byteAt C hr (by omega), bd2_some, if_pos hlt, h10, if_neg (fun hh => hh rfl)]; exact go
    · exact stop p m h (by omega) w kf0 T C hr (fun hh => hc hh.2)
theorem X4_advance {f : Nat} (hf : 501 < f) {h : CH} (w : wfh h) (kf0 : kf h) {t : Nat → Nat} (T : Tk h t) {x : Nat} {b : Nat → Nat} {n : Nat} (C : cTp h x b n) {r FL NL p q : Nat} {num : Int32} {ln : Nat} {la : Int32} {tk : Value} {wd : Nat} (hr : cm h r = some (reC FL NL x p q num ln la tk wd)) (hp : p ≤ n) : ∃ h', m_X4_advance f h r = some h' ∧ cRe h' r FL NL x ln la t b (nx b n p) ∧ Mod (· = r) (5 * ((nx b n p).2.2 - p)) (29 * ((nx b n p).2.2 - p)) h h' := by
  have n5 : n ≤ 500 := by obtain ⟨_, _, _, _, _, _, _, a5, _⟩ := C; exact a5
  exact X4_a0 hf (n - p) p f h (by omega) (by omega) w kf0 T C hr
