/-! cosets: the twin's places -/
set_option maxRecDepth 100000
theorem crs_mnr {N : Mi} {i j : Nat} (hi : i < 3) (hj : j < 3) : crs N i j = mnr N i j := by
  rcases c3 hi with rfl | rfl | rfl <;> rcases c3 hj with rfl | rfl | rfl <;> (simp only [crs, mnr, Nat.reduceAdd, Nat.reduceMod])
def tsm (M : Mi) (p : Nat → Int) (i : Nat) : Nat → Int
  | 0 => 0
  | j + 1 => tsm M p i j + p j * mnr M i j
theorem X3_timesOf {f : Nat} (hf : 4 ≤ f) {u : TS} {M : Mi} {n : Int} (hR : tR 18 u M) (ho : tL u 19 = li n) {p : Nat → Int} {d : Int} {i : Nat} (hi : i < 3) {si : Int} (hs : hvs M n p i = d * dtf M * si) (g1 : rg (hvs M n p i)) (g2 : rg (d * dtf M)) (hz : d * dtf M ≠ 0) : m_X3_timesOf f u (ni i) (li (p 0)) (li (p 1)) (li (p 2)) (li d) = some (li si, u) := by
  unfold m_X3_timesOf
  have ia : (i + 1) % 3 < 3 := Nat.mod_lt _ (by decide)
  have ib : (i + 2) % 3 < 3 := Nat.mod_lt _ (by decide)
  obtain ⟨v2, p2, e2⟩ := loop3v (fun k v y => m_X3_timesOf_6 f k u (ni i) (li (p 0)) (li (p 1)) (li (p 2)) (li d) v y) (fun v => m_X3_timesOf_131 f u (li d) v) (fun j v => v = li (tsm M p i j))
    (fun k v _ => by rw [m_X3_timesOf_6, if_pos le33])
    (fun k v j hj pv => by
      refine ⟨_, ?_, rfl⟩
      have ja : (j + 1) % 3 < 3 := Nat.mod_lt _ (by decide)
      have jb : (j + 2) % 3 < 3 := Nat.mod_lt _ (by decide)
      rw [m_X3_timesOf_6, if_neg (le3 hj)]
      simp only [nmv_eq]
      rw [(rm3 hi).1, (rm3 hi).2, (rm3 hj).1, (rm3 hj).2, gd_of (i3x ia ja), gd_of (i3x ib jb), gd_of (i3x ia jb), gd_of (i3x ib ja), i3c ia ja, i3c ib jb, i3c ia jb, i3c ib ja, hR _ _ ia ja, hR _ _ ib jb, hR _ _ ia jb, hR _ _ ib ja, li_mul, li_mul, li_sub]
      have ec : M ((i + 1) % 3) ((j + 1) % 3) * M ((i + 2) % 3) ((j + 2) % 3) - M ((i + 1) % 3) ((j + 2) % 3) * M ((i + 2) % 3) ((j + 1) % 3) = mnr M i j := crs_mnr hi hj
      rw [ec]
      unfold m_X3_timesOf_119
      simp only [nmv_eq]
      rcases c3 hj with rfl | rfl | rfl
      · rw [if_neg (show ¬ ¬ ni 0 = 0 from fun h => h rfl), pv, li_mul, li_add]; rfl
      · rw [if_pos (show ¬ ni 1 = 0 by decide), if_neg (show ¬ ¬ ni 1 = 1 from fun h => h rfl), pv, li_mul, li_add]; rfl
      · rw [if_pos (show ¬ ni 2 = 0 by decide), if_pos (show ¬ ni 2 = 1 by decide), pv, li_mul, li_add]; rfl)
    hf (v := 0) rfl
  have e2' : m_X3_timesOf_6 f f u (ni i) (li (p 0)) (li (p 1)) (li (p 2)) (li d) 0 0 = _ := e2
  rw [e2', p2]
  unfold m_X3_timesOf_131
  rw [X3_det (f := f) hf hR, bd2_some, ho, li_mul, li_mul]
  have e3 : tsm M p i 3 * n = hvs M n p i := by unfold hvs; simp only [tsm]; grind
  have e4 : dtf M * d = d * dtf M := Int.mul_comm _ _
  rw [e3, e4, gd_of (nzL_li g2 hz), li_div g1 g2, hs, Int.mul_tdiv_cancel_left _ hz]
