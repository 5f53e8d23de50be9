/-! reading: the component's rows -/
set_option maxRecDepth 100000
/-- new rows, all cells from lo on -/
def nwO (lo : Nat) (R : RA) : Prop := lo ≤ R.1 ∧ lo ≤ R.2.1 ∧ ∀ i, i < 3 → lo ≤ R.2.2 i
theorem isR.cg {h : CH} {R : RA} {m m' : Mx} (H : isR h R m) (e : ∀ i j, i < 3 → j < 3 → m i j = m' i j) : isR h R m' := H.congr e
theorem X6_new {f : Nat} {h : CH} (w : wfh h) : ∃ R h', m_X6_init f (cn h 1 (.inl (6, [.null]))) h.1 = some h' ∧ isOw h' h.1 R (fun _ _ => 0) ∧ Ext 6 14 h h' ∧ nwO h.1 R := by
  have e1 : Ext 1 1 h (cn h 1 (.inl (6, [.null]))) := Mod.cn w
  have c1 := cm_cn_s h 1 (.inl (6, [.null]))
  have hs : (cn h 1 (.inl (6, [.null]))).1 = h.1 + 1 := rfl
  generalize cn h 1 (.inl (6, [.null])) = h1 at e1 c1 hs ⊢
  unfold m_X6_init m_X6_init_8 m_X6_init_12
  obtain ⟨h2, a1, a2, a3, a4⟩ := X2_new (f := f) e1.wf
  rw [nmv_eq, nmv_eq, a1, bd_some]
  have c2 := a3.at e1.wf c1 id
  rw [pF_c c2 a3.wf (by simp), bd_some]
  have m3 : Mod (· = h.1) 0 0 h2 _ := Mod.cs (e := .inl (6, [Value.null].set 0 (.ref h1.1))) a3.wf c2 rfl
  refine ⟨nwR h1, _, rfl, ⟨by rw [cm_cs_s]; rfl, a2.mod m3 a3.wf (fun e => ?_) (fun e => ?_) (fun i hi e => ?_)⟩, ?_, ?_⟩
  · have e' : h1.1 = h.1 := e; omega
  · have e' : h1.1 + 1 = h.1 := e; omega
  · have e' : h1.1 + 1 + 1 + i = h.1 := e; omega
  · exact (Ext.trn (e1.tr a3 (fun _ _ => id)) m3 (fun q hq => by have e' : q = h.1 := hq; omega)).up (by omega) (by omega)
  · exact ⟨by show h.1 ≤ h1.1; omega, by show h.1 ≤ h1.1 + 1; omega, fun i _ => by show h.1 ≤ h1.1 + 1 + 1 + i; omega⟩
theorem isOw.re {k n : Nat} {h h1 : CH} {r : Nat} {fs : List Value} (m : Mod (· = r) k n h h1) (w : wfh h) (hr : cm h r = some (.inl (4, fs))) {a : Nat} {R : RA} {M : Mi} (H : isOw h a R M) : isOw h1 a R M := by
  have ne : ∀ {q : Nat} {e : AC}, cm h q = some e → (∀ fs, e ≠ .inl (4, fs)) → ¬ (fun z => z = r) q := fun {q e} hq hn e9 => by
    have e' : q = r := e9
    rw [e', hr] at hq
    cases hq; exact hn _ rfl
  exact ⟨m.at w H.1 (ne H.1 (fun fs hh => by cases hh)), H.2.mod m w (ne H.2.1 (fun fs hh => by cases hh)) (ne H.2.2.1 (fun fs hh => by cases hh)) (fun i hi => ne (H.2.2.2.1 i hi) (fun fs hh => by cases hh))⟩
def RsL (h : CH) (r FL NL x ln : Nat) (t : Nat → Nat) (b : Nat → Nat) (n : Nat) (s : Lx) (m : Option ((Nat ⊕ Nat) × CH)) (lo : Nat) : Rs (It × Lx) → Prop
  | .inl e => Bad m h r e (5 * (n - s.2.2) + 20) (29 * (n - s.2.2) + 60)
  | .inr (it, s1) => ∃ a h' la' R, m = some (.inl a, h') ∧ isOw h' a R (lsM it.1) ∧ it.2 = none ∧ lo ≤ a ∧ nwO lo R ∧ RS h' r FL NL x ln la' t b n s1 ∧ Mod (· = r) (5 * (s1.2.2 - s.2.2) + 10) (29 * (s1.2.2 - s.2.2) + 40) h h'
theorem lsM_snoc {vs : List Int} {v : Int} {k : Nat} (hl : vs.length = k) (hk : k < 9) : ∀ i j, i < 3 → j < 3 → mset (lM (lsM vs)) (k / 3) (k % 3) (li v) i j = lM (lsM (vs ++ [v])) i j := fun i j hi hj => by
  unfold mset lM lsM
  show (if i = k / 3 ∧ j = k % 3 then li v else li (vs.getD (3 * i + j) 0)) = li ((vs ++ [v]).getD (3 * i + j) 0)
  rw [getD_app, hl]
  by_cases e : i = k / 3 ∧ j = k % 3
  · rw [if_pos e, if_neg (by omega), if_pos (by omega)]
  · rw [if_neg e]
    by_cases e2 : 3 * i + j < k
    · rw [if_pos e2]
    · rw [if_neg e2, if_neg (by omega), List.getD_eq_getElem?_getD, List.getElem?_eq_none (by omega)]; rfl
theorem X4_l10 {f : Nat} (hf : 501 < f) {r FL NL x ln : Nat} {t : Nat → Nat} {b : Nat → Nat} {n : Nat} {h0 : CH} {lo p0 : Nat} (hlo : h0.1 ≤ lo) {a : Nat} {R : RA} (ha : lo ≤ a) (hR : nwO lo R) : ∀ j k M h s vs l la, k + j = 9 → j < M → RS h r FL NL x ln la t b n s → (j = 0 → la = ni l) → isOw h a R (lsM vs) → vs.length = k → (∀ v, v ∈ vs → v.natAbs ≤ 6) → p0 ≤ s.2.2 → Mod (· = r) (5 * (s.2.2 - p0) + 10) (29 * (s.2.2 - p0) + 40) h0 h → (match pLatC (pNums b n 6 j s vs l) with | .inl e => Bad (m_X4_lattice_10 f M h r a (ni k)) h0 r e (5 * (n - p0) + 20) (29 * (n - p0) + 60) | .inr (it, s1) => ∃ h' la', m_X4_lattice_10 f M h r a (ni k) = some (.inl a, h') ∧ isOw h' a R (lsM it.1) ∧ it.2 = none ∧ RS h' r FL NL x ln la' t b n s1 ∧ Mod (· = r) (5 * (s1.2.2 - p0) + 10) (29 * (s1.2.2 - p0) + 40) h0 h') := by
  intro j
  induction j with
  | zero =>
    intro k M h s vs l la hk hM H hla O hl hv hp Md
    obtain ⟨M, rfl⟩ : ∃ z, M = z + 1 := ⟨M - 1, by omega⟩
    have : k = 9 := by omega
    subst this
    have hla := hla rfl
    subst hla
    have b1 := H.2.2.2.2.2.2.2.1
    have e10 : m_X4_lattice_10 f (M + 1) h r a (ni 9) = m_X4_lattice_44 f h r a := by
      rw [m_X4_lattice_10, if_pos (show (9 : Int32) ≤ ni 9 from lekk 9)]
    rw [e10]
    have dle : (dtf (lsM vs)).natAbs < 2 ^ 63 := by
      have q : ∀ i j, i < 3 → j < 3 → (lsM vs i j).natAbs ≤ 6 := fun i j _ _ => getD_le hv _
      have mb : ∀ a b c d : Int, a.natAbs ≤ 6 → b.natAbs ≤ 6 → c.natAbs ≤ 6 → d.natAbs ≤ 6 → (a * b - c * d).natAbs ≤ 72 := fun a b c d h1 h2 h3 h4 => by
        have e1 : (a * b).natAbs ≤ 6 * 6 := by rw [Int.natAbs_mul]; exact Nat.mul_le_mul h1 h2
        have e2 : (c * d).natAbs ≤ 6 * 6 := by rw [Int.natAbs_mul]; exact Nat.mul_le_mul h3 h4
        omega
      have pb : ∀ a b : Int, a.natAbs ≤ 6 → b.natAbs ≤ 72 → (a * b).natAbs ≤ 6 * 72 := fun a b h1 h2 => by rw [Int.natAbs_mul]; exact Nat.mul_le_mul h1 h2
      unfold dtf mnr
      have x0 := pb _ _ (q 0 0 (by decide) (by decide)) (mb _ _ _ _ (q 1 1 (by decide) (by decide)) (q 2 2 (by decide) (by decide)) (q 1 2 (by decide) (by decide)) (q 2 1 (by decide) (by decide)))
      have x1 := pb _ _ (q 0 1 (by decide) (by decide)) (mb _ _ _ _ (q 1 2 (by decide) (by decide)) (q 2 0 (by decide) (by decide)) (q 1 0 (by decide) (by decide)) (q 2 2 (by decide) (by decide)))
      have x2 := pb _ _ (q 0 2 (by decide) (by decide)) (mb _ _ _ _ (q 1 0 (by decide) (by decide)) (q 2 1 (by decide) (by decide)) (q 1 1 (by decide) (by decide)) (q 2 0 (by decide) (by decide)))
      show (_ + _ + _ : Int).natAbs < 2 ^ 63
      exact Nat.lt_of_le_of_lt (Nat.le_trans (Int.natAbs_add_le _ _) (Nat.add_le_add (Nat.le_trans (Int.natAbs_add_le _ _) (Nat.add_le_add x0 x1)) x2)) (by decide)
    unfold m_X4_lattice_44 m_X4_lattice_51
    have o0 : oR h 6 0 a = some R.1 := oR_c O.1 rfl
    have ii : m_X0_isIn f (li ((dtf (lsM vs)).natAbs : Int)) (1 : Int64) (60 : Int64) = some (if inI ((dtf (lsM vs)).natAbs : Int) 1 60 = true then 1 else 0) := isIn_li (lo := 1) (hi := 60) (rg_nat.mpr (by rw [Int.natAbs_natCast]; exact dle)) (rg_nat.mpr (by decide)) (rg_nat.mpr (by decide))
    rw [o0, bd_some, gd_of (isC_R O.2), X2_determinant O.2, bd2_some, abs_li (rg_nat.mpr dle), bd_some, ii, bd_some]
    rw [show pNums b n 6 0 s vs l = .inr (vs, l, s) from rfl]
    by_cases hd : 1 ≤ (dtf (lsM vs)).natAbs ∧ (dtf (lsM vs)).natAbs ≤ 60
    · rw [pLatC_y hd, show inI ((dtf (lsM vs)).natAbs : Int) 1 60 = true from decide_eq_true (by omega)]
      exact ⟨h, ni l, rfl, O, rfl, H, Md⟩
    · rw [pLatC_n hd, show inI ((dtf (lsM vs)).natAbs : Int) 1 60 = false from decide_eq_false (by omega), niff0, nmv_eq, nmv_eq]
      unfold m_X4_lattice_67 m_X4_lattice_76
      obtain ⟨h', z1', z2', z3'⟩ := X5_new (f := f) H.1 2 l
      have e1 : Ext 1 8 h (cn h 8 (.inl (5, [.null, .null, .null, .null, .null, .int 0, .int 0, .int 0]))) := Mod.cn H.1
      obtain ⟨num, wd, h1, _⟩ := H.2.2.2.2.1
      have o6 : oI (cn h 8 (.inl (5, [.null, .null, .null, .null, .null, .int 0, .int 0, .int 0]))) 4 6 r = some (ni l) := oI_c (e1.at H.1 h1 id) rfl
      have z1'' : m_X5_init f (cn h 8 (.inl (5, [.null, .null, .null, .null, .null, .int 0, .int 0, .int 0]))) h.1 2 (ni l) = some h' := z1'
      rw [o6, bd_some, z1'', bd_some, gd_of z2'.c]
      exact Bad.mk rfl z2' Md z3' (by omega) (by omega)
  | succ j ih =>
    intro k M h s vs l la hk hM H _ O hl hv hp Md
    obtain ⟨M, rfl⟩ : ∃ z, M = z + 1 := ⟨M - 1, by omega⟩
    have k9 : k < 9 := by omega
    have b1 := H.2.2.2.2.2.2.2.1
    have o0 : oR h 6 0 a = some R.1 := oR_c O.1 rfl
    have d3 : ni k / (3 : Int32) = ni (k / 3) := ni_div (q := k) (r := 3) (by omega) (by decide) (by decide)
    have r3 : rmI (ni k) (3 : Int32) = ni (k % 3) := ni_mod (q := k) (r := 3) (by omega) (by decide) (by decide)
    have S := X4_signed (f := f) hf H (most := 6) (by decide)
    have e10 : m_X4_lattice_10 f (M + 1) h r a (ni k) = bx (m_X4_signed f h r 6) (fun r7 h6 => m_X4_lattice_36 f (m_X4_lattice_10 f M) h6 r a (ni k) (R.2.2 (k / 3)) (ni (k % 3)) r7) (fun q8 h6 => gd (isC h6 q8 5) (some (.inr q8, h6))) := by
      rw [m_X4_lattice_10, if_neg (le9 k9), o0, bd_some, oR_R O.2, bd_some, d3, aR_R O.2 (by omega), bd_some, gd_of H.isC, r3]
    rw [e10]
    unfold pNums
    have S' : RsS f h r FL NL x ln la t b n s (m_X4_signed f h r 6) (pSee b n 6 s) := S
    cases hps : pSee b n 6 s with
    | inl e =>
      rw [hps] at S'
      obtain ⟨q, h', z1', z2', z3'⟩ := S'
      rw [z1', bx_r, gd_of z2'.c]
      exact ⟨q, h', rfl, z2', (Md.tr z3' (fun _ _ => id)).up (by omega) (by omega)⟩
    | inr vq =>
      obtain ⟨v, s1⟩ := vq
      rw [hps] at S'
      obtain ⟨v', h1, z1', z2', z6', z3', z4'⟩ := S'
      obtain ⟨num, wd, hr1, _⟩ := H.2.2.2.2.1
      have O1 := O.re z4' H.1 hr1
      have q1 := pSee_ok H.2.2.2.2.2 hps
      have nn := nx_ok (b := b) (n := n) q1.1.2.2.1
      have nn2 := nn.1.2.2.1
      have nn3 := nn.1.2.1
      have nn4 := nn.2
      have qq := q1.1.2.1
      have qe : s.2.2 ≤ s1.2.2 := by
        unfold pSee at hps
        have nq := nx_ok (b := b) (n := n) H.2.2.2.2.2.2.2.1
        have nq2 := nq.1.2.1
        split at hps
        · split at hps
          · cases hps
          · split at hps
            · cases hps
            · cases hps; omega
        · split at hps
          · cases hps
          · split at hps
            · cases hps
            · cases hps; exact Nat.le_refl _
      rw [z1', bx_l]
      unfold m_X4_lattice_36
      rw [toL v', z2', uL_R O1.2 z3'.1 (by omega) (by omega), bd_some, nmv_eq, ni_succ]
      have m5 := stR_mod O1.2 z3'.1 (i := k / 3) (j := k % 3) (by omega) (li v)
      have R5 := stR_is O1.2 z3'.1 (i := k / 3) (j := k % 3) (by omega) (li v)
      generalize stR h1 R (lM (lsM vs)) (k / 3) (k % 3) (li v) = h2 at m5 R5 ⊢
      have nr : ∀ {q : Nat} {e : AC}, cm h1 q = some e → (∀ f, e ≠ .inr (1, 3, .inr (.inl f))) → ¬ rS R q := fun {q e} hq hn ⟨i, hi, e9⟩ => by
        rw [e9, O1.2.2.2.1 i hi] at hq
        cases hq; exact hn _ rfl
      have O2 : isOw h2 a R (lsM (vs ++ [v])) := ⟨m5.at z3'.1 O1.1 (nr O1.1 (fun f hh => by cases hh)), R5.congr (lsM_snoc hl k9)⟩
      have H2 : RS h2 r FL NL x ln (ni s1.2.1) t b n (nx b n s1.2.2) := by
        obtain ⟨w3, k3, T3, C3, ⟨num3, wd3, hr3, hs3, hn3⟩, o3⟩ := z3'
        refine ⟨m5.wf, k3.mod m5, T3.mod m5, C3.mod m5 w3 (fun q hq => ⟨fun fs hh => nr hh (fun f hh => by cases hh) hq, fun c f hh => nr hh (fun f hh => by cases hh) hq⟩), ⟨num3, wd3, m5.at w3 hr3 (nr hr3 (fun f hh => by cases hh)), fun e => (hs3 e).mod m5 w3 k3.kok (fun q hq => ?_), hn3⟩, o3⟩
        refine ⟨?_, fun fs hh => nr hh (fun f hh => by cases hh) hq, fun c f hh => nr hh (fun f hh => by cases hh) hq⟩
        obtain ⟨i, hi, e9⟩ := hq
        rw [e9]; exact (w3.1 _ _ (O1.2.2.2.1 i hi)).1
      have Md2 : Mod (· = r) (5 * ((nx b n s1.2.2).2.2 - p0) + 10) (29 * ((nx b n s1.2.2).2.2 - p0) + 40) h0 h2 := by
        refine ((Md.tr z4' (fun _ _ => id)).tr m5 (fun q hq ⟨i, hi, e9⟩ => ?_)).up (by omega) (by omega)
        have := hR.2.2 i hi
        omega
      exact ih (k + 1) M h2 (nx b n s1.2.2) (vs ++ [v]) s1.2.1 (ni s1.2.1) (by omega) (by omega) H2 (fun _ => rfl) O2 (by rw [List.length_append, hl]; rfl) (fun w hw => by
        rcases List.mem_append.mp hw with hw | hw
        · exact hv w hw
        · rw [List.mem_singleton.mp hw]; exact z6') (by omega) Md2
theorem X4_lattice {f : Nat} (hf : 501 < f) {h : CH} {r FL NL x ln : Nat} {la : Int32} {t : Nat → Nat} {b : Nat → Nat} {n : Nat} {s : Lx} (H : RS h r FL NL x ln la t b n s) : RsL h r FL NL x ln t b n s (m_X4_lattice f h r) h.1 (pLat b n s) := by
  unfold m_X4_lattice m_X4_lattice_3 m_X4_lattice_7
  rw [nmv_eq, nmv_eq]
  obtain ⟨R, h1, a1, a2, a3, a4⟩ := X6_new (f := f) H.1
  rw [a1, bd_some]
  obtain ⟨w, k, T, C, ⟨num, wd, hr, hs, hn⟩, o⟩ := H
  have C1 := C.mod a3 w (fun q hq => hq.elim)
  have hr1 := a3.at w hr id
  have H1 : RS h1 r FL NL x ln la t b n s := ⟨a3.wf, k.mod a3, T.mod a3, C1, ⟨num, wd, hr1, fun e => (hs e).ext a3 w k.kok, hn⟩, o⟩
  have L := X4_l10 (f := f) hf (r := r) (FL := FL) (NL := NL) (x := x) (ln := ln) (t := t) (b := b) (n := n) (h0 := h) (lo := h.1) (p0 := s.2.2) (Nat.le_refl _) (a := h.1) (R := R) (Nat.le_refl _) a4 9 0 f h1 s [] 0 la rfl (by omega) H1 (fun e => by cases e) ⟨a2.1, a2.2.congr (fun i j _ _ => by show (0 : Int64) = li (([] : List Int).getD (3 * i + j) 0); rfl)⟩ rfl (fun v hv => by cases hv) (Nat.le_refl _) ((a3.mono (T := (· = r)) (fun _ _ hh => hh.elim) (Nat.le_refl _) (Nat.le_refl _)).up (by omega) (by omega))
  have L' : (match pLatC (pNums b n 6 9 s [] 0) with | .inl e => Bad (m_X4_lattice_10 f f h1 r h.1 0) h r e (5 * (n - s.2.2) + 20) (29 * (n - s.2.2) + 60) | .inr (it, s1) => ∃ h' la', m_X4_lattice_10 f f h1 r h.1 0 = some (.inl h.1, h') ∧ isOw h' h.1 R (lsM it.1) ∧ it.2 = none ∧ RS h' r FL NL x ln la' t b n s1 ∧ Mod (· = r) (5 * (s1.2.2 - s.2.2) + 10) (29 * (s1.2.2 - s.2.2) + 40) h h') := L
  unfold pLat
  revert L'
  cases pLatC (pNums b n 6 9 s [] 0) with
  | inl e => exact id
  | inr q =>
    obtain ⟨it, s1⟩ := q
    rintro ⟨h', la', y1, y2, y3, y4, y5⟩
    exact ⟨h.1, h', la', R, y1, y2, y3, Nat.le_refl _, a4, y4, y5⟩
