/-! the twin: rows made short, whole -/
set_option maxRecDepth 100000
theorem bfl_n {s : Int × Option (Int × Int)} (h : s.2 = none) : bfl s = 0 := by unfold bfl; rw [h]
theorem bfl_s {s : Int × Option (Int × Int)} {p : Int × Int} (h : s.2 = some p) : bfl s = 1 := by unfold bfl; rw [h]
/-- while rows are made short -/
def SH (u0 : TS) (N : Mi) (c : Nat) (u : TS) : Prop := tR 18 u N ∧ tI u 25 = 0 ∧ tI u 35 = ni c ∧ Fr [18, 21, 22, 23, 24, 25, 35, 36, 37] u0 u
theorem X3_sh12 {f : Nat} (hf : 6 ≤ f) {u0 : TS} {B : Int} (hB : 9 * B < 2 ^ 63) : ∀ (k : Nat) n u N c, k + 1 < n → RB B N → sgm N < k → SH u0 N c u → ∃ u', m_X3_shortens_12 f n u 1 = m_X3_shortens_45 f u' ∧ SH u0 (rdg k N c).1 (rdg k N c).2 u' := by
  intro k
  induction k with
  | zero =>
    intro n u N c _ _ h
    have h0 := sqr_nn N 0
    have h1 := sqr_nn N 1
    have h2 := sqr_nn N 2
    unfold sgm at h; omega
  | succ k ih =>
    intro n u N c hkn hRB hsg H
    obtain ⟨n, rfl⟩ : ∃ z, n = z + 1 := ⟨n - 1, by omega⟩
    obtain ⟨H1, H2, H3, H4⟩ := H
    rw [m_X3_shortens_12, if_neg (by decide)]
    have T0 : TF u (N, []) u := ⟨H1, ⟨H2, fun i st hi => by cases hi⟩, Fr.rf⟩
    obtain ⟨u1, e1, T1⟩ := X3_orders (f := f) (by omega) hB hRB T0
    rw [e1, bd_some]
    obtain ⟨r1, r2, _⟩ := srt_RB hRB
    have i25 : tI u1 25 = 0 := T1.2.1.1
    have i35 : tI u1 35 = ni c := by rw [(T1.2.2 35 (by decide)).1]; exact H3
    have F1 : Fr [18, 21, 22, 23, 24, 25, 35, 36, 37] u0 u1 := H4.tr (T1.2.2.mono (by decide))
    obtain ⟨u2, b1, b2, b3, b4⟩ := X3_betters (f := f) hf hB r1 T1.1 (row := 2) (by decide)
    have b1' : m_X3_betters f u1 2 = _ := b1
    rw [b1', bd2_some]
    have eL : LTw 2 = L9 := rfl
    rw [eL] at b2 b3 ⊢
    have F2 := F1.tr (b4.mono (show ∀ k, k ∈ [18, 35, 36, 37] → k ∈ [18, 21, 22, 23, 24, 25, 35, 36, 37] by decide))
    have j25 : tI u2 25 = 0 := by rw [(b4 25 (by decide)).1]; exact i25
    rcases h9 : (bst (srt N) 2 L9).2 with _ | p
    · rw [h9] at b2
      have b2' : tR 18 u2 (srt N) := b2
      rw [bfl_n h9] at b3
      rw [bfl_n h9, if_neg (fun h => h rfl)]
      have j35 : tI u2 35 = ni c := by rw [b3, i35, Int32.add_zero]
      obtain ⟨u3, d1, d2, d3, d4⟩ := X3_betters (f := f) hf hB r1 b2' (row := 1) (by decide)
      have d1' : m_X3_betters f u2 1 = _ := d1
      rw [d1', bd2_some]
      have eL3 : bst (srt N) 1 (LTw 1) = bst (srt N) 1 L3 := bst_3x (srt N) 1
      rw [eL3] at d2 d3 ⊢
      have F3 := F2.tr (d4.mono (show ∀ k, k ∈ [18, 35, 36, 37] → k ∈ [18, 21, 22, 23, 24, 25, 35, 36, 37] by decide))
      have k25 : tI u3 25 = 0 := by rw [(d4 25 (by decide)).1]; exact j25
      rcases h3 : (bst (srt N) 1 L3).2 with _ | p
      · rw [h3] at d2
        have d2' : tR 18 u3 (srt N) := d2
        rw [bfl_n h3] at d3
        rw [bfl_n h3, if_pos rfl, rdg_e h9 h3]
        unfold m_X3_shortens_41
        obtain ⟨n, rfl⟩ : ∃ z, n = z + 1 := ⟨n - 1, by omega⟩
        rw [m_X3_shortens_12, if_pos rfl]
        exact ⟨u3, rfl, d2', k25, by rw [d3, j35, Int32.add_zero], F3⟩
      · rw [h3] at d2
        have d2' : tR 18 u3 (btr (srt N) 1 p) := d2
        rw [bfl_s h3] at d3
        rw [bfl_s h3, if_neg (by decide), rdg_3 h9 h3]
        unfold m_X3_shortens_36 m_X3_shortens_41
        obtain ⟨s1, s2⟩ := btr_RB1 r1 (bst_some h3).1
        exact ih n u3 _ (c + 1) (by omega) s1 (by omega) ⟨d2', k25, by rw [d3, j35, ni_succ], F3⟩
    · rw [h9] at b2
      have b2' : tR 18 u2 (btr (srt N) 2 p) := b2
      rw [bfl_s h9] at b3
      rw [bfl_s h9, if_pos (by decide), rdg_9 h9]
      unfold m_X3_shortens_36 m_X3_shortens_41
      obtain ⟨s1, s2⟩ := btr_RB2 r1 (bst_some h9).1
      exact ih n u2 _ (c + 1) (by omega) s1 (by omega) ⟨b2', j25, by rw [b3, i35, ni_succ], F2⟩
/-- one row's sign -/
theorem X3_sh54 {f : Nat} (hf : 6 ≤ f) {k47 : TS → Int32 → Option TS} {u0 u : TS} {N : Mi} {i : Nat} (hi : i < 3) (hR : tR 18 u N) (gN : ∀ j, j < 3 → rg (N i j)) (hz : ¬ (N i 0 = 0 ∧ N i 1 = 0 ∧ N i 2 = 0)) : ∃ u', m_X3_shortens_54 f k47 f u (ni i) 0 = k47 u' (ni (i + 1)) ∧ tR 18 u' (ovf N i) ∧ Fr [18] u u' := by
  have tail : ∀ (b : Bool), b = sgl N i → ∃ u', m_X3_shortens_95 f k47 u (ni i) (if b = true then 1 else 0) = k47 u' (ni (i + 1)) ∧ tR 18 u' (ovf N i) ∧ Fr [18] u u' := fun b hb => by
    unfold m_X3_shortens_95
    obtain ⟨u4, p4, e4⟩ := loop3v (fun n v x => m_X3_shortens_100 f k47 n v (ni i) (if b = true then 1 else 0) x) (fun v => k47 v (ni (i + 1))) (fun j v => tR 18 v (upc N (ovf N i) j) ∧ Fr [18] u v)
      (fun n v _ => by rw [m_X3_shortens_100, if_pos le33]; unfold m_X3_shortens_154; rw [nmv_eq, ni_succ])
      (fun n v j hj q => by
        obtain ⟨d1, d2⟩ := q
        have w := tM.one (k := 18) (w := 3) (R := 3) (C := 3) (by decide) (r := i) (N := N) (N' := ovf N i) (u := v) d1 hj (fun a _ ha => ovf_row ha j)
        have ev : tB v 18 (3 * i + j) = li (N i j) := by rw [d1 i j hi hj]; unfold upc; rw [if_neg (by omega)]
        refine ⟨_, ?_, w, d2.tr (Fr.sB (by decide))⟩
        rw [m_X3_shortens_100, if_neg (le3 hj), gd_of (i3x hi hj), gd_of (i3x hi hj)]
        unfold m_X3_shortens_147
        rw [gd_of (i3x hi hj), gd_of (i3x hi hj)]
        simp only [nmv_eq]
        rw [i3c hi hj, ev, li_neg, ni_succ, ovf_self, ← hb]
        cases b with
        | false => simp
        | true => simp)
      (by omega) (n := f) (v := u) ⟨hR.congr (fun a b _ _ => by unfold upc; rw [if_neg (by omega)]), Fr.rf⟩
    have e5 : m_X3_shortens_100 f k47 f u (ni i) (if b = true then 1 else 0) 0 = _ := e4
    exact ⟨u4, e5, p4.1.congr (fun a b _ hb => by unfold upc; rw [if_pos hb]), p4.2⟩
  have sg : ∀ j, j < 3 → ∀ b : Bool, (b = decide (N i j < 0)) → m_X3_shortens_75 f k47 u (ni i) (ni j) = m_X3_shortens_95 f k47 u (ni i) (if b = true then 1 else 0) := fun j hj b hb => by
    unfold m_X3_shortens_75
    rw [gd_of (i3x hi hj), i3c hi hj, hR i j hi hj, li_0]
    subst hb
    by_cases h : 0 ≤ N i j
    · rw [if_pos ((li_le rg_0 (gN j hj)).mpr h), if_neg (by simp; omega)]
    · rw [if_neg (fun e => h ((li_le rg_0 (gN j hj)).mp e)), if_pos (by simp; omega)]
  obtain ⟨n, rfl⟩ : ∃ z, f = z + 6 := ⟨f - 6, by omega⟩
  show ∃ u', m_X3_shortens_54 (n + 6) k47 (n + 5 + 1) u (ni i) (ni 0) = _ ∧ _
  rw [m_X3_shortens_54, gd_of (i3x hi (by decide)), i3c hi (by decide), hR i 0 hi (by decide)]
  by_cases h0 : N i 0 = 0
  · rw [if_neg (fun h => h (by rw [h0]; rfl)), nmv_eq, ni_succ]
    show ∃ u', m_X3_shortens_54 (n + 6) k47 (n + 4 + 1) u (ni i) (ni 1) = _ ∧ _
    rw [m_X3_shortens_54, gd_of (i3x hi (by decide)), i3c hi (by decide), hR i 1 hi (by decide)]
    by_cases h1 : N i 1 = 0
    · rw [if_neg (fun h => h (by rw [h1]; rfl)), nmv_eq, ni_succ]
      show ∃ u', m_X3_shortens_54 (n + 6) k47 (n + 3 + 1) u (ni i) (ni 2) = _ ∧ _
      rw [m_X3_shortens_54, gd_of (i3x hi (by decide)), i3c hi (by decide), hR i 2 hi (by decide)]
      have h2 : N i 2 ≠ 0 := fun e => hz ⟨h0, h1, e⟩
      rw [if_pos (show ¬ li (N i 2) = 0 from fun e => h2 ((li_inj (gN 2 (by decide)) rg_0).mp e)), sg 2 (by decide) _ rfl]
      exact tail _ (by unfold sgl; rw [if_pos h0, if_pos h1])
    · rw [if_pos (show ¬ li (N i 1) = 0 from fun e => h1 ((li_inj (gN 1 (by decide)) rg_0).mp e)), sg 1 (by decide) _ rfl]
      exact tail _ (by unfold sgl; rw [if_pos h0, if_neg h1])
  · rw [if_pos (show ¬ li (N i 0) = 0 from fun e => h0 ((li_inj (gN 0 (by decide)) rg_0).mp e)), sg 0 (by decide) _ rfl]
    exact tail _ (by unfold sgl; rw [if_neg h0])
theorem row_nz {N : Mi} (hz : dtf N ≠ 0) {i : Nat} (hi : i < 3) : ¬ (N i 0 = 0 ∧ N i 1 = 0 ∧ N i 2 = 0) := fun h => hz (by
  obtain ⟨h0, h1, h2⟩ := h
  unfold dtf mnr
  rcases c3 hi with rfl | rfl | rfl
  · simp [h0, h1, h2]
  · simp [h0, h1, h2]
  · simp [h0, h1, h2])
theorem ovf_rg {N : Mi} {i : Nat} (g : ∀ a j, a < 3 → j < 3 → rg (N a j)) : ∀ a j, a < 3 → j < 3 → rg (ovf N i a j) := fun a j ha hj => by
  unfold ovf; split
  · unfold ovrR; split
    · exact rg_neg (g a j ha hj)
    · exact g a j ha hj
  · exact g a j ha hj
theorem X3_shortens {f : Nat} {u : TS} {N : Mi} {B : Int} {k : Nat} (hk : k + 8 < f) (hB : 9 * B < 2 ^ 63) (hRB : RB B N) (hsg : sgm N < k) (hz : dtf N ≠ 0) (hR : tR 18 u N) : ∃ u', m_X3_shortens f u = some u' ∧ tR 18 u' (flp (rdg k N 0).1) ∧ tI u' 35 = ni (rdg k N 0).2 ∧ Fr [18, 21, 22, 23, 24, 25, 35, 36, 37] u u' := by
  have f6 : 6 ≤ f := by omega
  unfold m_X3_shortens
  simp only [nmv_eq]
  have S0 : SH u N 0 (sI (sI u 35 0) 25 0) := ⟨(hR.fr (l := [35]) (Fr.sI (by decide)) (by decide)).fr (l := [25]) (Fr.sI (by decide)) (by decide), by rw [tI_sI, if_pos rfl], by rw [tI_sI, if_neg (by decide), tI_sI, if_pos rfl]; rfl, (Fr.sI (by decide)).tr (Fr.sI (by decide))⟩
  obtain ⟨u1, e1, S1⟩ := X3_sh12 (f := f) f6 (u0 := u) hB k f _ N 0 (by omega) hRB hsg S0
  rw [e1]
  obtain ⟨q1, q2, q3⟩ := rdg_ok k N 0 hRB hsg
  obtain ⟨a1, a2, a3, a4⟩ := S1
  generalize rdg k N 0 = R at *
  have hB0 : B < 2 ^ 63 := by
    have h0 := hRB 0 (by decide)
    have h1 := sqr_nn N 0
    omega
  have g0 : ∀ a j, a < 3 → j < 3 → rg (R.1 a j) := fun a j ha hj => RB_rg q1 hB0 ha hj
  have d0 : dtf R.1 ≠ 0 := fun e => hz (by have := dtf_eqL q2; rw [e] at this; simpa using this)
  have d1 : dtf (ovf R.1 0) ≠ 0 := fun e => d0 (by have := dtf_eqL (ovf_eqL R.1 (i := 0) (by decide)); rw [e] at this; simpa using this)
  have d2 : dtf (ovf (ovf R.1 0) 1) ≠ 0 := fun e => d1 (by have := dtf_eqL (ovf_eqL (ovf R.1 0) (i := 1) (by decide)); rw [e] at this; simpa using this)
  unfold m_X3_shortens_45
  obtain ⟨n, rfl⟩ : ∃ z, f = z + 4 := ⟨f - 4, by omega⟩
  obtain ⟨u2, b1, b2, b3⟩ := X3_sh54 (f := n + 4) f6 (k47 := m_X3_shortens_47 (n + 4) (n + 3)) (u0 := u) (i := 0) (by decide) a1 (fun j hj => g0 0 j (by decide) hj) (row_nz d0 (by decide))
  obtain ⟨u3, c1, c2, c3'⟩ := X3_sh54 (f := n + 4) f6 (k47 := m_X3_shortens_47 (n + 4) (n + 2)) (u0 := u) (i := 1) (by decide) b2 (fun j hj => ovf_rg g0 1 j (by decide) hj) (row_nz d1 (by decide))
  obtain ⟨u4, k1, k2, k3⟩ := X3_sh54 (f := n + 4) f6 (k47 := m_X3_shortens_47 (n + 4) (n + 1)) (u0 := u) (i := 2) (by decide) c2 (fun j hj => ovf_rg (ovf_rg g0) 2 j (by decide) hj) (row_nz d2 (by decide))
  show ∃ u', m_X3_shortens_47 (n + 4) (n + 3 + 1) u1 (ni 0) = some u' ∧ _
  rw [m_X3_shortens_47, if_neg (le3 (by decide))]
  have b1' : m_X3_shortens_54 (n + 4) (m_X3_shortens_47 (n + 4) (n + 3)) (n + 4) u1 (ni 0) 0 = _ := b1
  rw [b1']
  show ∃ u', m_X3_shortens_47 (n + 4) (n + 2 + 1) u2 (ni 1) = some u' ∧ _
  rw [m_X3_shortens_47, if_neg (le3 (by decide)), c1]
  show ∃ u', m_X3_shortens_47 (n + 4) (n + 1 + 1) u3 (ni 2) = some u' ∧ _
  rw [m_X3_shortens_47, if_neg (le3 (by decide)), k1]
  show ∃ u', m_X3_shortens_47 (n + 4) (n + 0 + 1) u4 (ni 3) = some u' ∧ _
  rw [m_X3_shortens_47, if_pos le33]
  have F : Fr [18] u1 u4 := (b3.tr c3').tr k3
  exact ⟨u4, rfl, k2, by rw [(F 35 (by decide)).1]; exact a3, a4.tr (F.mono (by decide))⟩
