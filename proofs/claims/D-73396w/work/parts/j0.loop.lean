/-! the law: its cases -/
set_option maxRecDepth 100000
/-- on to the next call -/
def Nx (m : Option (Int32 × CH)) (k18 : CH → Nat → Nat → Int32 → Option (Int32 × CH)) (h : CH) (A : Nat → Nat) (lo y : Nat) (al : List Nat) (i : Nat) : Prop := ∃ h2, m = k18 h2 (A 23) y (ni (i + 7)) ∧ h2.1 ≤ h.1 + 9300 ∧ h2.2.1 ≤ h.2.1 + 112000 ∧ ∃ b n fk fp ts W acts wy, Inv h2 A lo y al b n fk fp ts W acts wy
theorem Inv.x {h : CH} {A : Nat → Nat} {lo y : Nat} {al : List Nat} {b : Nat → Nat} {n : Nat} {fk fp : Int32} {ts : List It} {W : Nat → Mi} {acts : List Act} {wy : Why} (I : Inv h A lo y al b n fk fp ts W acts wy) : isC h (A 23) 1 = true := by
  obtain ⟨_, ⟨_, _, _, _, ⟨t1, t2, rf, c1, _⟩, _⟩, _⟩ := I
  exact isC_c c1
theorem ixj {i L : Nat} (hi : i + 7 ≤ L) (hL : L ≤ 448) (j : Nat) (hj : j < 7) : ix (ni i + ni j) L = true := by
  rw [show ni i + ni j = ni (i + j) from (Int32.ofNat_add i j).symm]
  exact ix_ni (by omega) (by omega)
theorem ni7 (i : Nat) : ni i + (7 : Int32) = ni (i + 7) := (Int32.ofNat_add i 7).symm
theorem law_feed {f : Nat} (hf : 2 ^ 63 ≤ f) {xs : Nat → Int32} {L : Nat} {k18 : CH → Nat → Nat → Int32 → Option (Int32 × CH)} {h : CH} {A : Nat → Nat} {lo y : Nat} {al : List Nat} {b : Nat → Nat} {n : Nat} {fk fp : Int32} {ts : List It} {W : Nat → Mi} {acts : List Act} {wy : Why} (I : Inv h A lo y al b n fk fp ts W acts wy) {i : Nat} (hi : i + 7 ≤ L) (hL : L ≤ 448) : Nx (m_L_law_224 f xs L k18 h (A 23) y (ni i)) k18 h A lo y al i := by
  have K : Ok (m_X0_feed f h (A 23) (xs (Int32.toNatClampNeg (ni i + (1 : Int32)))) (xs (Int32.toNatClampNeg (ni i + (2 : Int32)))) (xs (Int32.toNatClampNeg (ni i + (3 : Int32)))) (xs (Int32.toNatClampNeg (ni i + (4 : Int32)))) (xs (Int32.toNatClampNeg (ni i + (5 : Int32))))) (fun h1 => m_X3_feed f h1 y (xs (Int32.toNatClampNeg (ni i + (1 : Int32)))) (xs (Int32.toNatClampNeg (ni i + (2 : Int32)))) (xs (Int32.toNatClampNeg (ni i + (3 : Int32)))) (xs (Int32.toNatClampNeg (ni i + (4 : Int32)))) (xs (Int32.toNatClampNeg (ni i + (5 : Int32))))) h A lo y al := ok_feed (f := f) (by omega) I _ _ _ _ _
  obtain ⟨r, h1, h2, a1, a2, a3, a4, a5, a6⟩ := K
  refine ⟨h2, ?_, a4, a5, a6⟩
  have a3' : m_X3_feed f h1 y (xs (Int32.toNatClampNeg (ni i + (1 : Int32)))) (xs (Int32.toNatClampNeg (ni i + (2 : Int32)))) (xs (Int32.toNatClampNeg (ni i + (3 : Int32)))) (xs (Int32.toNatClampNeg (ni i + (4 : Int32)))) (xs (Int32.toNatClampNeg (ni i + (5 : Int32)))) = some (r, h2) := a3
  unfold m_L_law_224
  rw [gd_of (show ix (ni i + (1 : Int32)) L = true from ixj hi hL 1 (by decide)), gd_of (show ix (ni i + (2 : Int32)) L = true from ixj hi hL 2 (by decide)), gd_of (show ix (ni i + (3 : Int32)) L = true from ixj hi hL 3 (by decide)), gd_of (show ix (ni i + (4 : Int32)) L = true from ixj hi hL 4 (by decide)), gd_of (show ix (ni i + (5 : Int32)) L = true from ixj hi hL 5 (by decide)), gd_of I.x, a1, bd2_some]
  unfold m_L_law_253
  rw [gd_of (show ix (ni i + (1 : Int32)) L = true from ixj hi hL 1 (by decide)), gd_of (show ix (ni i + (2 : Int32)) L = true from ixj hi hL 2 (by decide)), gd_of (show ix (ni i + (3 : Int32)) L = true from ixj hi hL 3 (by decide)), gd_of (show ix (ni i + (4 : Int32)) L = true from ixj hi hL 4 (by decide)), gd_of (show ix (ni i + (5 : Int32)) L = true from ixj hi hL 5 (by decide)), gd_of a2, a3', bd2_some]
  unfold m_L_law_282
  rw [if_pos rfl]
  unfold m_L_law_1975
  rw [nmv_eq, ni7]
theorem law_end {f : Nat} (hf : 2 ^ 63 ≤ f) {xs : Nat → Int32} {L : Nat} {k18 : CH → Nat → Nat → Int32 → Option (Int32 × CH)} {h : CH} {A : Nat → Nat} {lo y : Nat} {al : List Nat} {b : Nat → Nat} {n : Nat} {fk fp : Int32} {ts : List It} {W : Nat → Mi} {acts : List Act} {wy : Why} (I : Inv h A lo y al b n fk fp ts W acts wy) {i : Nat} (hi : i + 7 ≤ L) (hL : L ≤ 448) : Nx (m_L_law_287 f xs L k18 h (A 23) y (ni i)) k18 h A lo y al i := by
  have K : Ok (m_X0_end f h (A 23) (xs (Int32.toNatClampNeg (ni i + (1 : Int32))))) (fun h1 => tcr h1 y (fun z => m_X3_end f z (xs (Int32.toNatClampNeg (ni i + (1 : Int32)))))) h A lo y al := ok_end (f := f) I _
  obtain ⟨r, h1, h2, a1, a2, a3, a4, a5, a6⟩ := K
  refine ⟨h2, ?_, a4, a5, a6⟩
  have a3' : tcr h1 y (fun z => m_X3_end f z (xs (Int32.toNatClampNeg (ni i + (1 : Int32))))) = some (r, h2) := a3
  unfold m_L_law_287
  rw [gd_of (show ix (ni i + (1 : Int32)) L = true from ixj hi hL 1 (by decide)), gd_of I.x, a1, bd2_some]
  unfold m_L_law_296
  rw [gd_of (show ix (ni i + (1 : Int32)) L = true from ixj hi hL 1 (by decide)), a3', bd2_some, if_pos rfl]
  unfold m_L_law_1975
  rw [nmv_eq, ni7]
theorem law_lattices {f : Nat} (hf : 2 ^ 63 ≤ f) {xs : Nat → Int32} {L : Nat} {k18 : CH → Nat → Nat → Int32 → Option (Int32 × CH)} {h : CH} {A : Nat → Nat} {lo y : Nat} {al : List Nat} {b : Nat → Nat} {n : Nat} {fk fp : Int32} {ts : List It} {W : Nat → Mi} {acts : List Act} {wy : Why} (I : Inv h A lo y al b n fk fp ts W acts wy) {i : Nat} (hi : i + 7 ≤ L) (hL : L ≤ 448) : Nx (m_L_law_310 f xs L k18 h (A 23) y (ni i)) k18 h A lo y al i := by
  have K : OkX (m_X0_lattices f h (A 23)) (fun h1 => m_X3_lattices f h1 y) h A lo y al := ok_lattices (f := f) (by omega) I
  obtain ⟨r, h1, h2, a1, a2, a3, a4, a5, a6⟩ := K
  refine ⟨h2, ?_, a4, a5, a6⟩
  have a3' : m_X3_lattices f h1 y = some (r, h2) := a3
  unfold m_L_law_310
  rw [gd_of I.x, a1, bx_l]
  unfold m_L_law_314
  rw [gd_of a2, a3', bd2_some]
  unfold m_L_law_318
  rw [if_pos rfl]
  unfold m_L_law_1975
  rw [nmv_eq, ni7]
theorem law_fault {f : Nat} (hf : 2 ^ 63 ≤ f) {xs : Nat → Int32} {L : Nat} {k18 : CH → Nat → Nat → Int32 → Option (Int32 × CH)} {h : CH} {A : Nat → Nat} {lo y : Nat} {al : List Nat} {b : Nat → Nat} {n : Nat} {fk fp : Int32} {ts : List It} {W : Nat → Mi} {acts : List Act} {wy : Why} (I : Inv h A lo y al b n fk fp ts W acts wy) {i : Nat} (hi : i + 7 ≤ L) (hL : L ≤ 448) : Nx (m_L_law_323 f xs L k18 h (A 23) y (ni i)) k18 h A lo y al i := by
  have K : Ok (m_X0_fault f h (A 23) (xs (Int32.toNatClampNeg (ni i + (1 : Int32))))) (fun h1 => tcr h1 y (fun z => m_X3_fault f z (xs (Int32.toNatClampNeg (ni i + (1 : Int32)))))) h A lo y al := ok_fault (f := f) I _
  obtain ⟨r, h1, h2, a1, a2, a3, a4, a5, a6⟩ := K
  refine ⟨h2, ?_, a4, a5, a6⟩
  have a3' : tcr h1 y (fun z => m_X3_fault f z (xs (Int32.toNatClampNeg (ni i + (1 : Int32))))) = some (r, h2) := a3
  unfold m_L_law_323
  rw [gd_of (show ix (ni i + (1 : Int32)) L = true from ixj hi hL 1 (by decide)), gd_of I.x, a1, bd2_some]
  unfold m_L_law_332
  rw [gd_of (show ix (ni i + (1 : Int32)) L = true from ixj hi hL 1 (by decide)), a3', bd2_some, if_pos rfl]
  unfold m_L_law_1975
  rw [nmv_eq, ni7]
theorem law_count {f : Nat} (hf : 2 ^ 63 ≤ f) {xs : Nat → Int32} {L : Nat} {k18 : CH → Nat → Nat → Int32 → Option (Int32 × CH)} {h : CH} {A : Nat → Nat} {lo y : Nat} {al : List Nat} {b : Nat → Nat} {n : Nat} {fk fp : Int32} {ts : List It} {W : Nat → Mi} {acts : List Act} {wy : Why} (I : Inv h A lo y al b n fk fp ts W acts wy) {i : Nat} (hi : i + 7 ≤ L) (hL : L ≤ 448) : Nx (m_L_law_346 f xs L k18 h (A 23) y (ni i)) k18 h A lo y al i := by
  have K : Ok (m_X0_count f h (A 23) (xs (Int32.toNatClampNeg (ni i + (1 : Int32))))) (fun h1 => tcr h1 y (fun z => m_X3_count f z (xs (Int32.toNatClampNeg (ni i + (1 : Int32)))))) h A lo y al := ok_count (f := f) (by omega) I _
  obtain ⟨r, h1, h2, a1, a2, a3, a4, a5, a6⟩ := K
  refine ⟨h2, ?_, a4, a5, a6⟩
  have a3' : tcr h1 y (fun z => m_X3_count f z (xs (Int32.toNatClampNeg (ni i + (1 : Int32))))) = some (r, h2) := a3
  unfold m_L_law_346
  rw [gd_of (show ix (ni i + (1 : Int32)) L = true from ixj hi hL 1 (by decide)), gd_of I.x, a1, bd2_some]
  unfold m_L_law_355
  rw [gd_of (show ix (ni i + (1 : Int32)) L = true from ixj hi hL 1 (by decide)), a3', bd2_some, if_pos rfl]
  unfold m_L_law_1975
  rw [nmv_eq, ni7]
theorem law_row {f : Nat} (hf : 2 ^ 63 ≤ f) {xs : Nat → Int32} {L : Nat} {k18 : CH → Nat → Nat → Int32 → Option (Int32 × CH)} {h : CH} {A : Nat → Nat} {lo y : Nat} {al : List Nat} {b : Nat → Nat} {n : Nat} {fk fp : Int32} {ts : List It} {W : Nat → Mi} {acts : List Act} {wy : Why} (I : Inv h A lo y al b n fk fp ts W acts wy) {i : Nat} (hi : i + 7 ≤ L) (hL : L ≤ 448) : Nx (m_L_law_369 f xs L k18 h (A 23) y (ni i)) k18 h A lo y al i := by
  have K : Ok (m_X0_row f h (A 23) (xs (Int32.toNatClampNeg (ni i + (1 : Int32)))) (xs (Int32.toNatClampNeg (ni i + (2 : Int32)))) (xs (Int32.toNatClampNeg (ni i + (3 : Int32))))) (fun h1 => tcr h1 y (fun z => m_X3_row f z (xs (Int32.toNatClampNeg (ni i + (1 : Int32)))) (xs (Int32.toNatClampNeg (ni i + (2 : Int32)))) (xs (Int32.toNatClampNeg (ni i + (3 : Int32)))))) h A lo y al := ok_QA I (fun u E => q_row hf E _ _ _)
  obtain ⟨r, h1, h2, a1, a2, a3, a4, a5, a6⟩ := K
  refine ⟨h2, ?_, a4, a5, a6⟩
  have a3' : tcr h1 y (fun z => m_X3_row f z (xs (Int32.toNatClampNeg (ni i + (1 : Int32)))) (xs (Int32.toNatClampNeg (ni i + (2 : Int32)))) (xs (Int32.toNatClampNeg (ni i + (3 : Int32))))) = some (r, h2) := a3
  unfold m_L_law_369
  rw [gd_of (show ix (ni i + (1 : Int32)) L = true from ixj hi hL 1 (by decide)), gd_of (show ix (ni i + (2 : Int32)) L = true from ixj hi hL 2 (by decide)), gd_of (show ix (ni i + (3 : Int32)) L = true from ixj hi hL 3 (by decide)), gd_of I.x, a1, bd2_some]
  unfold m_L_law_388
  rw [gd_of (show ix (ni i + (1 : Int32)) L = true from ixj hi hL 1 (by decide)), gd_of (show ix (ni i + (2 : Int32)) L = true from ixj hi hL 2 (by decide)), gd_of (show ix (ni i + (3 : Int32)) L = true from ixj hi hL 3 (by decide)), a3', bd2_some, if_pos rfl]
  unfold m_L_law_1975
  rw [nmv_eq, ni7]
theorem law_over {f : Nat} (hf : 2 ^ 63 ≤ f) {xs : Nat → Int32} {L : Nat} {k18 : CH → Nat → Nat → Int32 → Option (Int32 × CH)} {h : CH} {A : Nat → Nat} {lo y : Nat} {al : List Nat} {b : Nat → Nat} {n : Nat} {fk fp : Int32} {ts : List It} {W : Nat → Mi} {acts : List Act} {wy : Why} (I : Inv h A lo y al b n fk fp ts W acts wy) {i : Nat} (hi : i + 7 ≤ L) (hL : L ≤ 448) : Nx (m_L_law_412 f xs L k18 h (A 23) y (ni i)) k18 h A lo y al i := by
  have K : Ok (m_X0_over f h (A 23) (xs (Int32.toNatClampNeg (ni i + (1 : Int32))))) (fun h1 => tcr h1 y (fun z => m_X3_over f z (xs (Int32.toNatClampNeg (ni i + (1 : Int32)))))) h A lo y al := ok_QA I (fun u E => q_over hf E _)
  obtain ⟨r, h1, h2, a1, a2, a3, a4, a5, a6⟩ := K
  refine ⟨h2, ?_, a4, a5, a6⟩
  have a3' : tcr h1 y (fun z => m_X3_over f z (xs (Int32.toNatClampNeg (ni i + (1 : Int32))))) = some (r, h2) := a3
  unfold m_L_law_412
  rw [gd_of (show ix (ni i + (1 : Int32)) L = true from ixj hi hL 1 (by decide)), gd_of I.x, a1, bd2_some]
  unfold m_L_law_421
  rw [gd_of (show ix (ni i + (1 : Int32)) L = true from ixj hi hL 1 (by decide)), a3', bd2_some, if_pos rfl]
  unfold m_L_law_1975
  rw [nmv_eq, ni7]
theorem law_hermite {f : Nat} (hf : 2 ^ 63 ≤ f) {xs : Nat → Int32} {L : Nat} {k18 : CH → Nat → Nat → Int32 → Option (Int32 × CH)} {h : CH} {A : Nat → Nat} {lo y : Nat} {al : List Nat} {b : Nat → Nat} {n : Nat} {fk fp : Int32} {ts : List It} {W : Nat → Mi} {acts : List Act} {wy : Why} (I : Inv h A lo y al b n fk fp ts W acts wy) {i : Nat} (hi : i + 7 ≤ L) (hL : L ≤ 448) : Nx (m_L_law_435 f xs L k18 h (A 23) y (ni i)) k18 h A lo y al i := by
  have K : Ok (m_X0_hermite f h (A 23) (xs (Int32.toNatClampNeg (ni i + (1 : Int32)))) (xs (Int32.toNatClampNeg (ni i + (2 : Int32)))) (xs (Int32.toNatClampNeg (ni i + (3 : Int32))))) (fun h1 => tcr h1 y (fun z => m_X3_hermite f z (xs (Int32.toNatClampNeg (ni i + (1 : Int32)))) (xs (Int32.toNatClampNeg (ni i + (2 : Int32)))) (xs (Int32.toNatClampNeg (ni i + (3 : Int32)))))) h A lo y al := ok_QA I (fun u E => q_hermite hf E _ _ _)
  obtain ⟨r, h1, h2, a1, a2, a3, a4, a5, a6⟩ := K
  refine ⟨h2, ?_, a4, a5, a6⟩
  have a3' : tcr h1 y (fun z => m_X3_hermite f z (xs (Int32.toNatClampNeg (ni i + (1 : Int32)))) (xs (Int32.toNatClampNeg (ni i + (2 : Int32)))) (xs (Int32.toNatClampNeg (ni i + (3 : Int32))))) = some (r, h2) := a3
  unfold m_L_law_435
  rw [gd_of (show ix (ni i + (1 : Int32)) L = true from ixj hi hL 1 (by decide)), gd_of (show ix (ni i + (2 : Int32)) L = true from ixj hi hL 2 (by decide)), gd_of (show ix (ni i + (3 : Int32)) L = true from ixj hi hL 3 (by decide)), gd_of I.x, a1, bd2_some]
  unfold m_L_law_454
  rw [gd_of (show ix (ni i + (1 : Int32)) L = true from ixj hi hL 1 (by decide)), gd_of (show ix (ni i + (2 : Int32)) L = true from ixj hi hL 2 (by decide)), gd_of (show ix (ni i + (3 : Int32)) L = true from ixj hi hL 3 (by decide)), a3', bd2_some, if_pos rfl]
  unfold m_L_law_1975
  rw [nmv_eq, ni7]
theorem law_steps {f : Nat} (hf : 2 ^ 63 ≤ f) {xs : Nat → Int32} {L : Nat} {k18 : CH → Nat → Nat → Int32 → Option (Int32 × CH)} {h : CH} {A : Nat → Nat} {lo y : Nat} {al : List Nat} {b : Nat → Nat} {n : Nat} {fk fp : Int32} {ts : List It} {W : Nat → Mi} {acts : List Act} {wy : Why} (I : Inv h A lo y al b n fk fp ts W acts wy) {i : Nat} (hi : i + 7 ≤ L) (hL : L ≤ 448) : Nx (m_L_law_479 f xs L k18 h (A 23) y (ni i)) k18 h A lo y al i := by
  have K : Ok (m_X0_steps f h (A 23) (xs (Int32.toNatClampNeg (ni i + (1 : Int32))))) (fun h1 => tcr h1 y (fun z => m_X3_steps f z (xs (Int32.toNatClampNeg (ni i + (1 : Int32)))))) h A lo y al := ok_QA I (fun u E => q_steps hf E _)
  obtain ⟨r, h1, h2, a1, a2, a3, a4, a5, a6⟩ := K
  refine ⟨h2, ?_, a4, a5, a6⟩
  have a3' : tcr h1 y (fun z => m_X3_steps f z (xs (Int32.toNatClampNeg (ni i + (1 : Int32))))) = some (r, h2) := a3
  unfold m_L_law_479
  rw [gd_of (show ix (ni i + (1 : Int32)) L = true from ixj hi hL 1 (by decide)), gd_of I.x, a1, bd2_some]
  unfold m_L_law_488
  rw [gd_of (show ix (ni i + (1 : Int32)) L = true from ixj hi hL 1 (by decide)), a3', bd2_some, if_pos rfl]
  unfold m_L_law_1975
  rw [nmv_eq, ni7]
theorem law_step {f : Nat} (hf : 2 ^ 63 ≤ f) {xs : Nat → Int32} {L : Nat} {k18 : CH → Nat → Nat → Int32 → Option (Int32 × CH)} {h : CH} {A : Nat → Nat} {lo y : Nat} {al : List Nat} {b : Nat → Nat} {n : Nat} {fk fp : Int32} {ts : List It} {W : Nat → Mi} {acts : List Act} {wy : Why} (I : Inv h A lo y al b n fk fp ts W acts wy) {i : Nat} (hi : i + 7 ≤ L) (hL : L ≤ 448) : Nx (m_L_law_502 f xs L k18 h (A 23) y (ni i)) k18 h A lo y al i := by
  have K : Ok (m_X0_step f h (A 23) (xs (Int32.toNatClampNeg (ni i + (1 : Int32)))) (xs (Int32.toNatClampNeg (ni i + (2 : Int32)))) (xs (Int32.toNatClampNeg (ni i + (3 : Int32))))) (fun h1 => tcr h1 y (fun z => m_X3_step_2 f z (xs (Int32.toNatClampNeg (ni i + (1 : Int32)))) (xs (Int32.toNatClampNeg (ni i + (2 : Int32)))) (xs (Int32.toNatClampNeg (ni i + (3 : Int32)))))) h A lo y al := ok_QA I (fun u E => q_step hf E _ _ _)
  obtain ⟨r, h1, h2, a1, a2, a3, a4, a5, a6⟩ := K
  refine ⟨h2, ?_, a4, a5, a6⟩
  have a3' : tcr h1 y (fun z => m_X3_step_2 f z (xs (Int32.toNatClampNeg (ni i + (1 : Int32)))) (xs (Int32.toNatClampNeg (ni i + (2 : Int32)))) (xs (Int32.toNatClampNeg (ni i + (3 : Int32))))) = some (r, h2) := a3
  unfold m_L_law_502
  rw [gd_of (show ix (ni i + (1 : Int32)) L = true from ixj hi hL 1 (by decide)), gd_of (show ix (ni i + (2 : Int32)) L = true from ixj hi hL 2 (by decide)), gd_of (show ix (ni i + (3 : Int32)) L = true from ixj hi hL 3 (by decide)), gd_of I.x, a1, bd2_some]
  unfold m_L_law_521
  rw [gd_of (show ix (ni i + (1 : Int32)) L = true from ixj hi hL 1 (by decide)), gd_of (show ix (ni i + (2 : Int32)) L = true from ixj hi hL 2 (by decide)), gd_of (show ix (ni i + (3 : Int32)) L = true from ixj hi hL 3 (by decide)), a3', bd2_some, if_pos rfl]
  unfold m_L_law_1975
  rw [nmv_eq, ni7]
theorem law_volume {f : Nat} (hf : 2 ^ 63 ≤ f) {xs : Nat → Int32} {L : Nat} {k18 : CH → Nat → Nat → Int32 → Option (Int32 × CH)} {h : CH} {A : Nat → Nat} {lo y : Nat} {al : List Nat} {b : Nat → Nat} {n : Nat} {fk fp : Int32} {ts : List It} {W : Nat → Mi} {acts : List Act} {wy : Why} (I : Inv h A lo y al b n fk fp ts W acts wy) {i : Nat} (hi : i + 7 ≤ L) (hL : L ≤ 448) : Nx (m_L_law_545 f xs L k18 h (A 23) y (ni i)) k18 h A lo y al i := by
  have K : Ok (m_X0_volume f h (A 23) (xs (Int32.toNatClampNeg (ni i + (1 : Int32)))) (xs (Int32.toNatClampNeg (ni i + (2 : Int32))))) (fun h1 => tcr h1 y (fun z => m_X3_volume f z (xs (Int32.toNatClampNeg (ni i + (1 : Int32)))) (xs (Int32.toNatClampNeg (ni i + (2 : Int32)))))) h A lo y al := ok_QA I (fun u E => q_volume hf E _ _)
  obtain ⟨r, h1, h2, a1, a2, a3, a4, a5, a6⟩ := K
  refine ⟨h2, ?_, a4, a5, a6⟩
  have a3' : tcr h1 y (fun z => m_X3_volume f z (xs (Int32.toNatClampNeg (ni i + (1 : Int32)))) (xs (Int32.toNatClampNeg (ni i + (2 : Int32))))) = some (r, h2) := a3
  unfold m_L_law_545
  rw [gd_of (show ix (ni i + (1 : Int32)) L = true from ixj hi hL 1 (by decide)), gd_of (show ix (ni i + (2 : Int32)) L = true from ixj hi hL 2 (by decide)), gd_of I.x, a1, bd2_some]
  unfold m_L_law_559
  rw [gd_of (show ix (ni i + (1 : Int32)) L = true from ixj hi hL 1 (by decide)), gd_of (show ix (ni i + (2 : Int32)) L = true from ixj hi hL 2 (by decide)), a3', bd2_some, if_pos rfl]
  unfold m_L_law_1975
  rw [nmv_eq, ni7]
theorem law_smith {f : Nat} (hf : 2 ^ 63 ≤ f) {xs : Nat → Int32} {L : Nat} {k18 : CH → Nat → Nat → Int32 → Option (Int32 × CH)} {h : CH} {A : Nat → Nat} {lo y : Nat} {al : List Nat} {b : Nat → Nat} {n : Nat} {fk fp : Int32} {ts : List It} {W : Nat → Mi} {acts : List Act} {wy : Why} (I : Inv h A lo y al b n fk fp ts W acts wy) {i : Nat} (hi : i + 7 ≤ L) (hL : L ≤ 448) : Nx (m_L_law_579 f xs L k18 h (A 23) y (ni i)) k18 h A lo y al i := by
  have K : Ok (m_X0_smith f h (A 23) (xs (Int32.toNatClampNeg (ni i + (1 : Int32)))) (xs (Int32.toNatClampNeg (ni i + (2 : Int32))))) (fun h1 => tcr h1 y (fun z => m_X3_smith f z (xs (Int32.toNatClampNeg (ni i + (1 : Int32)))) (xs (Int32.toNatClampNeg (ni i + (2 : Int32)))))) h A lo y al := ok_QA I (fun u E => q_smith hf E _ _)
  obtain ⟨r, h1, h2, a1, a2, a3, a4, a5, a6⟩ := K
  refine ⟨h2, ?_, a4, a5, a6⟩
  have a3' : tcr h1 y (fun z => m_X3_smith f z (xs (Int32.toNatClampNeg (ni i + (1 : Int32)))) (xs (Int32.toNatClampNeg (ni i + (2 : Int32))))) = some (r, h2) := a3
  unfold m_L_law_579
  rw [gd_of (show ix (ni i + (1 : Int32)) L = true from ixj hi hL 1 (by decide)), gd_of (show ix (ni i + (2 : Int32)) L = true from ixj hi hL 2 (by decide)), gd_of I.x, a1, bd2_some]
  unfold m_L_law_593
  rw [gd_of (show ix (ni i + (1 : Int32)) L = true from ixj hi hL 1 (by decide)), gd_of (show ix (ni i + (2 : Int32)) L = true from ixj hi hL 2 (by decide)), a3', bd2_some, if_pos rfl]
  unfold m_L_law_1975
  rw [nmv_eq, ni7]
theorem law_has {f : Nat} (hf : 2 ^ 63 ≤ f) {xs : Nat → Int32} {L : Nat} {k18 : CH → Nat → Nat → Int32 → Option (Int32 × CH)} {h : CH} {A : Nat → Nat} {lo y : Nat} {al : List Nat} {b : Nat → Nat} {n : Nat} {fk fp : Int32} {ts : List It} {W : Nat → Mi} {acts : List Act} {wy : Why} (I : Inv h A lo y al b n fk fp ts W acts wy) {i : Nat} (hi : i + 7 ≤ L) (hL : L ≤ 448) : Nx (m_L_law_613 f xs L k18 h (A 23) y (ni i)) k18 h A lo y al i := by
  have K : Ok (m_X0_has f h (A 23) (xs (Int32.toNatClampNeg (ni i + (1 : Int32)))) (xs (Int32.toNatClampNeg (ni i + (2 : Int32)))) (xs (Int32.toNatClampNeg (ni i + (3 : Int32)))) (xs (Int32.toNatClampNeg (ni i + (4 : Int32)))) (xs (Int32.toNatClampNeg (ni i + (5 : Int32))))) (fun h1 => tcr h1 y (fun z => m_X3_has f z (xs (Int32.toNatClampNeg (ni i + (1 : Int32)))) (xs (Int32.toNatClampNeg (ni i + (2 : Int32)))) (xs (Int32.toNatClampNeg (ni i + (3 : Int32)))) (xs (Int32.toNatClampNeg (ni i + (4 : Int32)))) (xs (Int32.toNatClampNeg (ni i + (5 : Int32)))))) h A lo y al := ok_QA I (fun u E => q_has hf E _ _ _ _ _)
  obtain ⟨r, h1, h2, a1, a2, a3, a4, a5, a6⟩ := K
  refine ⟨h2, ?_, a4, a5, a6⟩
  have a3' : tcr h1 y (fun z => m_X3_has f z (xs (Int32.toNatClampNeg (ni i + (1 : Int32)))) (xs (Int32.toNatClampNeg (ni i + (2 : Int32)))) (xs (Int32.toNatClampNeg (ni i + (3 : Int32)))) (xs (Int32.toNatClampNeg (ni i + (4 : Int32)))) (xs (Int32.toNatClampNeg (ni i + (5 : Int32))))) = some (r, h2) := a3
  unfold m_L_law_613
  rw [gd_of (show ix (ni i + (1 : Int32)) L = true from ixj hi hL 1 (by decide)), gd_of (show ix (ni i + (2 : Int32)) L = true from ixj hi hL 2 (by decide)), gd_of (show ix (ni i + (3 : Int32)) L = true from ixj hi hL 3 (by decide)), gd_of (show ix (ni i + (4 : Int32)) L = true from ixj hi hL 4 (by decide)), gd_of (show ix (ni i + (5 : Int32)) L = true from ixj hi hL 5 (by decide)), gd_of I.x, a1, bd2_some]
  unfold m_L_law_642
  rw [gd_of (show ix (ni i + (1 : Int32)) L = true from ixj hi hL 1 (by decide)), gd_of (show ix (ni i + (2 : Int32)) L = true from ixj hi hL 2 (by decide)), gd_of (show ix (ni i + (3 : Int32)) L = true from ixj hi hL 3 (by decide)), gd_of (show ix (ni i + (4 : Int32)) L = true from ixj hi hL 4 (by decide)), gd_of (show ix (ni i + (5 : Int32)) L = true from ixj hi hL 5 (by decide)), a3', bd2_some, if_pos rfl]
  unfold m_L_law_1975
  rw [nmv_eq, ni7]
theorem law_inside {f : Nat} (hf : 2 ^ 63 ≤ f) {xs : Nat → Int32} {L : Nat} {k18 : CH → Nat → Nat → Int32 → Option (Int32 × CH)} {h : CH} {A : Nat → Nat} {lo y : Nat} {al : List Nat} {b : Nat → Nat} {n : Nat} {fk fp : Int32} {ts : List It} {W : Nat → Mi} {acts : List Act} {wy : Why} (I : Inv h A lo y al b n fk fp ts W acts wy) {i : Nat} (hi : i + 7 ≤ L) (hL : L ≤ 448) : Nx (m_L_law_676 f xs L k18 h (A 23) y (ni i)) k18 h A lo y al i := by
  have K : Ok (m_X0_inside f h (A 23) (xs (Int32.toNatClampNeg (ni i + (1 : Int32)))) (xs (Int32.toNatClampNeg (ni i + (2 : Int32))))) (fun h1 => tcr h1 y (fun z => m_X3_inside f z (xs (Int32.toNatClampNeg (ni i + (1 : Int32)))) (xs (Int32.toNatClampNeg (ni i + (2 : Int32)))))) h A lo y al := ok_QA I (fun u E => q_inside hf E _ _)
  obtain ⟨r, h1, h2, a1, a2, a3, a4, a5, a6⟩ := K
  refine ⟨h2, ?_, a4, a5, a6⟩
  have a3' : tcr h1 y (fun z => m_X3_inside f z (xs (Int32.toNatClampNeg (ni i + (1 : Int32)))) (xs (Int32.toNatClampNeg (ni i + (2 : Int32))))) = some (r, h2) := a3
  unfold m_L_law_676
  rw [gd_of (show ix (ni i + (1 : Int32)) L = true from ixj hi hL 1 (by decide)), gd_of (show ix (ni i + (2 : Int32)) L = true from ixj hi hL 2 (by decide)), gd_of I.x, a1, bd2_some]
  unfold m_L_law_690
  rw [gd_of (show ix (ni i + (1 : Int32)) L = true from ixj hi hL 1 (by decide)), gd_of (show ix (ni i + (2 : Int32)) L = true from ixj hi hL 2 (by decide)), a3', bd2_some, if_pos rfl]
  unfold m_L_law_1975
  rw [nmv_eq, ni7]
theorem law_meetOver {f : Nat} (hf : 2 ^ 63 ≤ f) {xs : Nat → Int32} {L : Nat} {k18 : CH → Nat → Nat → Int32 → Option (Int32 × CH)} {h : CH} {A : Nat → Nat} {lo y : Nat} {al : List Nat} {b : Nat → Nat} {n : Nat} {fk fp : Int32} {ts : List It} {W : Nat → Mi} {acts : List Act} {wy : Why} (I : Inv h A lo y al b n fk fp ts W acts wy) {i : Nat} (hi : i + 7 ≤ L) (hL : L ≤ 448) : Nx (m_L_law_709 f xs L k18 h (A 23) y (ni i)) k18 h A lo y al i := by
  have K : Ok (m_X0_meetOver f h (A 23) (xs (Int32.toNatClampNeg (ni i + (1 : Int32)))) (xs (Int32.toNatClampNeg (ni i + (2 : Int32))))) (fun h1 => tcr h1 y (fun z => m_X3_meetOver f z (xs (Int32.toNatClampNeg (ni i + (1 : Int32)))) (xs (Int32.toNatClampNeg (ni i + (2 : Int32)))))) h A lo y al := ok_QA I (fun u E => q_meetOver hf E _ _)
  obtain ⟨r, h1, h2, a1, a2, a3, a4, a5, a6⟩ := K
  refine ⟨h2, ?_, a4, a5, a6⟩
  have a3' : tcr h1 y (fun z => m_X3_meetOver f z (xs (Int32.toNatClampNeg (ni i + (1 : Int32)))) (xs (Int32.toNatClampNeg (ni i + (2 : Int32))))) = some (r, h2) := a3
  unfold m_L_law_709
  rw [gd_of (show ix (ni i + (1 : Int32)) L = true from ixj hi hL 1 (by decide)), gd_of (show ix (ni i + (2 : Int32)) L = true from ixj hi hL 2 (by decide)), gd_of I.x, a1, bd2_some]
  unfold m_L_law_723
  rw [gd_of (show ix (ni i + (1 : Int32)) L = true from ixj hi hL 1 (by decide)), gd_of (show ix (ni i + (2 : Int32)) L = true from ixj hi hL 2 (by decide)), a3', bd2_some, if_pos rfl]
  unfold m_L_law_1975
  rw [nmv_eq, ni7]
theorem law_meet {f : Nat} (hf : 2 ^ 63 ≤ f) {xs : Nat → Int32} {L : Nat} {k18 : CH → Nat → Nat → Int32 → Option (Int32 × CH)} {h : CH} {A : Nat → Nat} {lo y : Nat} {al : List Nat} {b : Nat → Nat} {n : Nat} {fk fp : Int32} {ts : List It} {W : Nat → Mi} {acts : List Act} {wy : Why} (I : Inv h A lo y al b n fk fp ts W acts wy) {i : Nat} (hi : i + 7 ≤ L) (hL : L ≤ 448) : Nx (m_L_law_742 f xs L k18 h (A 23) y (ni i)) k18 h A lo y al i := by
  have K : Ok (m_X0_meet f h (A 23) (xs (Int32.toNatClampNeg (ni i + (1 : Int32)))) (xs (Int32.toNatClampNeg (ni i + (2 : Int32)))) (xs (Int32.toNatClampNeg (ni i + (3 : Int32)))) (xs (Int32.toNatClampNeg (ni i + (4 : Int32))))) (fun h1 => tcr h1 y (fun z => m_X3_meet f z (xs (Int32.toNatClampNeg (ni i + (1 : Int32)))) (xs (Int32.toNatClampNeg (ni i + (2 : Int32)))) (xs (Int32.toNatClampNeg (ni i + (3 : Int32)))) (xs (Int32.toNatClampNeg (ni i + (4 : Int32)))))) h A lo y al := ok_QA I (fun u E => q_meet hf E _ _ _ _)
  obtain ⟨r, h1, h2, a1, a2, a3, a4, a5, a6⟩ := K
  refine ⟨h2, ?_, a4, a5, a6⟩
  have a3' : tcr h1 y (fun z => m_X3_meet f z (xs (Int32.toNatClampNeg (ni i + (1 : Int32)))) (xs (Int32.toNatClampNeg (ni i + (2 : Int32)))) (xs (Int32.toNatClampNeg (ni i + (3 : Int32)))) (xs (Int32.toNatClampNeg (ni i + (4 : Int32))))) = some (r, h2) := a3
  unfold m_L_law_742
  rw [gd_of (show ix (ni i + (1 : Int32)) L = true from ixj hi hL 1 (by decide)), gd_of (show ix (ni i + (2 : Int32)) L = true from ixj hi hL 2 (by decide)), gd_of (show ix (ni i + (3 : Int32)) L = true from ixj hi hL 3 (by decide)), gd_of (show ix (ni i + (4 : Int32)) L = true from ixj hi hL 4 (by decide)), gd_of I.x, a1, bd2_some]
  unfold m_L_law_766
  rw [gd_of (show ix (ni i + (1 : Int32)) L = true from ixj hi hL 1 (by decide)), gd_of (show ix (ni i + (2 : Int32)) L = true from ixj hi hL 2 (by decide)), gd_of (show ix (ni i + (3 : Int32)) L = true from ixj hi hL 3 (by decide)), gd_of (show ix (ni i + (4 : Int32)) L = true from ixj hi hL 4 (by decide)), a3', bd2_some, if_pos rfl]
  unfold m_L_law_1975
  rw [nmv_eq, ni7]
theorem law_joinOver {f : Nat} (hf : 2 ^ 63 ≤ f) {xs : Nat → Int32} {L : Nat} {k18 : CH → Nat → Nat → Int32 → Option (Int32 × CH)} {h : CH} {A : Nat → Nat} {lo y : Nat} {al : List Nat} {b : Nat → Nat} {n : Nat} {fk fp : Int32} {ts : List It} {W : Nat → Mi} {acts : List Act} {wy : Why} (I : Inv h A lo y al b n fk fp ts W acts wy) {i : Nat} (hi : i + 7 ≤ L) (hL : L ≤ 448) : Nx (m_L_law_796 f xs L k18 h (A 23) y (ni i)) k18 h A lo y al i := by
  have K : Ok (m_X0_joinOver f h (A 23) (xs (Int32.toNatClampNeg (ni i + (1 : Int32)))) (xs (Int32.toNatClampNeg (ni i + (2 : Int32))))) (fun h1 => tcr h1 y (fun z => m_X3_joinOver f z (xs (Int32.toNatClampNeg (ni i + (1 : Int32)))) (xs (Int32.toNatClampNeg (ni i + (2 : Int32)))))) h A lo y al := ok_QA I (fun u E => q_joinOver hf E _ _)
  obtain ⟨r, h1, h2, a1, a2, a3, a4, a5, a6⟩ := K
  refine ⟨h2, ?_, a4, a5, a6⟩
  have a3' : tcr h1 y (fun z => m_X3_joinOver f z (xs (Int32.toNatClampNeg (ni i + (1 : Int32)))) (xs (Int32.toNatClampNeg (ni i + (2 : Int32))))) = some (r, h2) := a3
  unfold m_L_law_796
  rw [gd_of (show ix (ni i + (1 : Int32)) L = true from ixj hi hL 1 (by decide)), gd_of (show ix (ni i + (2 : Int32)) L = true from ixj hi hL 2 (by decide)), gd_of I.x, a1, bd2_some]
  unfold m_L_law_810
  rw [gd_of (show ix (ni i + (1 : Int32)) L = true from ixj hi hL 1 (by decide)), gd_of (show ix (ni i + (2 : Int32)) L = true from ixj hi hL 2 (by decide)), a3', bd2_some, if_pos rfl]
  unfold m_L_law_1975
  rw [nmv_eq, ni7]
theorem law_join {f : Nat} (hf : 2 ^ 63 ≤ f) {xs : Nat → Int32} {L : Nat} {k18 : CH → Nat → Nat → Int32 → Option (Int32 × CH)} {h : CH} {A : Nat → Nat} {lo y : Nat} {al : List Nat} {b : Nat → Nat} {n : Nat} {fk fp : Int32} {ts : List It} {W : Nat → Mi} {acts : List Act} {wy : Why} (I : Inv h A lo y al b n fk fp ts W acts wy) {i : Nat} (hi : i + 7 ≤ L) (hL : L ≤ 448) : Nx (m_L_law_829 f xs L k18 h (A 23) y (ni i)) k18 h A lo y al i := by
  have K : Ok (m_X0_join f h (A 23) (xs (Int32.toNatClampNeg (ni i + (1 : Int32)))) (xs (Int32.toNatClampNeg (ni i + (2 : Int32)))) (xs (Int32.toNatClampNeg (ni i + (3 : Int32)))) (xs (Int32.toNatClampNeg (ni i + (4 : Int32))))) (fun h1 => tcr h1 y (fun z => m_X3_join f z (xs (Int32.toNatClampNeg (ni i + (1 : Int32)))) (xs (Int32.toNatClampNeg (ni i + (2 : Int32)))) (xs (Int32.toNatClampNeg (ni i + (3 : Int32)))) (xs (Int32.toNatClampNeg (ni i + (4 : Int32)))))) h A lo y al := ok_QA I (fun u E => q_join hf E _ _ _ _)
  obtain ⟨r, h1, h2, a1, a2, a3, a4, a5, a6⟩ := K
  refine ⟨h2, ?_, a4, a5, a6⟩
  have a3' : tcr h1 y (fun z => m_X3_join f z (xs (Int32.toNatClampNeg (ni i + (1 : Int32)))) (xs (Int32.toNatClampNeg (ni i + (2 : Int32)))) (xs (Int32.toNatClampNeg (ni i + (3 : Int32)))) (xs (Int32.toNatClampNeg (ni i + (4 : Int32))))) = some (r, h2) := a3
  unfold m_L_law_829
  rw [gd_of (show ix (ni i + (1 : Int32)) L = true from ixj hi hL 1 (by decide)), gd_of (show ix (ni i + (2 : Int32)) L = true from ixj hi hL 2 (by decide)), gd_of (show ix (ni i + (3 : Int32)) L = true from ixj hi hL 3 (by decide)), gd_of (show ix (ni i + (4 : Int32)) L = true from ixj hi hL 4 (by decide)), gd_of I.x, a1, bd2_some]
  unfold m_L_law_853
  rw [gd_of (show ix (ni i + (1 : Int32)) L = true from ixj hi hL 1 (by decide)), gd_of (show ix (ni i + (2 : Int32)) L = true from ixj hi hL 2 (by decide)), gd_of (show ix (ni i + (3 : Int32)) L = true from ixj hi hL 3 (by decide)), gd_of (show ix (ni i + (4 : Int32)) L = true from ixj hi hL 4 (by decide)), a3', bd2_some, if_pos rfl]
  unfold m_L_law_1975
  rw [nmv_eq, ni7]
theorem law_index {f : Nat} (hf : 2 ^ 63 ≤ f) {xs : Nat → Int32} {L : Nat} {k18 : CH → Nat → Nat → Int32 → Option (Int32 × CH)} {h : CH} {A : Nat → Nat} {lo y : Nat} {al : List Nat} {b : Nat → Nat} {n : Nat} {fk fp : Int32} {ts : List It} {W : Nat → Mi} {acts : List Act} {wy : Why} (I : Inv h A lo y al b n fk fp ts W acts wy) {i : Nat} (hi : i + 7 ≤ L) (hL : L ≤ 448) : Nx (m_L_law_883 f xs L k18 h (A 23) y (ni i)) k18 h A lo y al i := by
  have K : Ok (m_X0_index f h (A 23) (xs (Int32.toNatClampNeg (ni i + (1 : Int32)))) (xs (Int32.toNatClampNeg (ni i + (2 : Int32))))) (fun h1 => tcr h1 y (fun z => m_X3_index f z (xs (Int32.toNatClampNeg (ni i + (1 : Int32)))) (xs (Int32.toNatClampNeg (ni i + (2 : Int32)))))) h A lo y al := ok_QA I (fun u E => q_index hf E _ _)
  obtain ⟨r, h1, h2, a1, a2, a3, a4, a5, a6⟩ := K
  refine ⟨h2, ?_, a4, a5, a6⟩
  have a3' : tcr h1 y (fun z => m_X3_index f z (xs (Int32.toNatClampNeg (ni i + (1 : Int32)))) (xs (Int32.toNatClampNeg (ni i + (2 : Int32))))) = some (r, h2) := a3
  unfold m_L_law_883
  rw [gd_of (show ix (ni i + (1 : Int32)) L = true from ixj hi hL 1 (by decide)), gd_of (show ix (ni i + (2 : Int32)) L = true from ixj hi hL 2 (by decide)), gd_of I.x, a1, bd2_some]
  unfold m_L_law_897
  rw [gd_of (show ix (ni i + (1 : Int32)) L = true from ixj hi hL 1 (by decide)), gd_of (show ix (ni i + (2 : Int32)) L = true from ixj hi hL 2 (by decide)), a3', bd2_some, if_pos rfl]
  unfold m_L_law_1975
  rw [nmv_eq, ni7]
theorem law_group {f : Nat} (hf : 2 ^ 63 ≤ f) {xs : Nat → Int32} {L : Nat} {k18 : CH → Nat → Nat → Int32 → Option (Int32 × CH)} {h : CH} {A : Nat → Nat} {lo y : Nat} {al : List Nat} {b : Nat → Nat} {n : Nat} {fk fp : Int32} {ts : List It} {W : Nat → Mi} {acts : List Act} {wy : Why} (I : Inv h A lo y al b n fk fp ts W acts wy) {i : Nat} (hi : i + 7 ≤ L) (hL : L ≤ 448) : Nx (m_L_law_917 f xs L k18 h (A 23) y (ni i)) k18 h A lo y al i := by
  have K : Ok (m_X0_group f h (A 23) (xs (Int32.toNatClampNeg (ni i + (1 : Int32)))) (xs (Int32.toNatClampNeg (ni i + (2 : Int32)))) (xs (Int32.toNatClampNeg (ni i + (3 : Int32))))) (fun h1 => tcr h1 y (fun z => m_X3_group f z (xs (Int32.toNatClampNeg (ni i + (1 : Int32)))) (xs (Int32.toNatClampNeg (ni i + (2 : Int32)))) (xs (Int32.toNatClampNeg (ni i + (3 : Int32)))))) h A lo y al := ok_QA I (fun u E => q_group hf E _ _ _)
  obtain ⟨r, h1, h2, a1, a2, a3, a4, a5, a6⟩ := K
  refine ⟨h2, ?_, a4, a5, a6⟩
  have a3' : tcr h1 y (fun z => m_X3_group f z (xs (Int32.toNatClampNeg (ni i + (1 : Int32)))) (xs (Int32.toNatClampNeg (ni i + (2 : Int32)))) (xs (Int32.toNatClampNeg (ni i + (3 : Int32))))) = some (r, h2) := a3
  unfold m_L_law_917
  rw [gd_of (show ix (ni i + (1 : Int32)) L = true from ixj hi hL 1 (by decide)), gd_of (show ix (ni i + (2 : Int32)) L = true from ixj hi hL 2 (by decide)), gd_of (show ix (ni i + (3 : Int32)) L = true from ixj hi hL 3 (by decide)), gd_of I.x, a1, bd2_some]
  unfold m_L_law_936
  rw [gd_of (show ix (ni i + (1 : Int32)) L = true from ixj hi hL 1 (by decide)), gd_of (show ix (ni i + (2 : Int32)) L = true from ixj hi hL 2 (by decide)), gd_of (show ix (ni i + (3 : Int32)) L = true from ixj hi hL 3 (by decide)), a3', bd2_some, if_pos rfl]
  unfold m_L_law_1975
  rw [nmv_eq, ni7]
theorem law_met {f : Nat} (hf : 2 ^ 63 ≤ f) {xs : Nat → Int32} {L : Nat} {k18 : CH → Nat → Nat → Int32 → Option (Int32 × CH)} {h : CH} {A : Nat → Nat} {lo y : Nat} {al : List Nat} {b : Nat → Nat} {n : Nat} {fk fp : Int32} {ts : List It} {W : Nat → Mi} {acts : List Act} {wy : Why} (I : Inv h A lo y al b n fk fp ts W acts wy) {i : Nat} (hi : i + 7 ≤ L) (hL : L ≤ 448) : Nx (m_L_law_961 f xs L k18 h (A 23) y (ni i)) k18 h A lo y al i := by
  have K : Ok (m_X0_met f h (A 23) (xs (Int32.toNatClampNeg (ni i + (1 : Int32)))) (xs (Int32.toNatClampNeg (ni i + (2 : Int32)))) (xs (Int32.toNatClampNeg (ni i + (3 : Int32)))) (xs (Int32.toNatClampNeg (ni i + (4 : Int32)))) (xs (Int32.toNatClampNeg (ni i + (5 : Int32)))) (xs (Int32.toNatClampNeg (ni i + (6 : Int32))))) (fun h1 => tcr h1 y (fun z => m_X3_met f z (xs (Int32.toNatClampNeg (ni i + (1 : Int32)))) (xs (Int32.toNatClampNeg (ni i + (2 : Int32)))) (xs (Int32.toNatClampNeg (ni i + (3 : Int32)))) (xs (Int32.toNatClampNeg (ni i + (4 : Int32)))) (xs (Int32.toNatClampNeg (ni i + (5 : Int32)))) (xs (Int32.toNatClampNeg (ni i + (6 : Int32)))))) h A lo y al := ok_QA I (fun u E => q_met hf E _ _ _ _ _ _)
  obtain ⟨r, h1, h2, a1, a2, a3, a4, a5, a6⟩ := K
  refine ⟨h2, ?_, a4, a5, a6⟩
  have a3' : tcr h1 y (fun z => m_X3_met f z (xs (Int32.toNatClampNeg (ni i + (1 : Int32)))) (xs (Int32.toNatClampNeg (ni i + (2 : Int32)))) (xs (Int32.toNatClampNeg (ni i + (3 : Int32)))) (xs (Int32.toNatClampNeg (ni i + (4 : Int32)))) (xs (Int32.toNatClampNeg (ni i + (5 : Int32)))) (xs (Int32.toNatClampNeg (ni i + (6 : Int32))))) = some (r, h2) := a3
  unfold m_L_law_961
  rw [gd_of (show ix (ni i + (1 : Int32)) L = true from ixj hi hL 1 (by decide)), gd_of (show ix (ni i + (2 : Int32)) L = true from ixj hi hL 2 (by decide)), gd_of (show ix (ni i + (3 : Int32)) L = true from ixj hi hL 3 (by decide)), gd_of (show ix (ni i + (4 : Int32)) L = true from ixj hi hL 4 (by decide)), gd_of (show ix (ni i + (5 : Int32)) L = true from ixj hi hL 5 (by decide)), gd_of (show ix (ni i + (6 : Int32)) L = true from ixj hi hL 6 (by decide)), gd_of I.x, a1, bd2_some]
  unfold m_L_law_996
  rw [gd_of (show ix (ni i + (1 : Int32)) L = true from ixj hi hL 1 (by decide)), gd_of (show ix (ni i + (2 : Int32)) L = true from ixj hi hL 2 (by decide)), gd_of (show ix (ni i + (3 : Int32)) L = true from ixj hi hL 3 (by decide)), gd_of (show ix (ni i + (4 : Int32)) L = true from ixj hi hL 4 (by decide)), gd_of (show ix (ni i + (5 : Int32)) L = true from ixj hi hL 5 (by decide)), gd_of (show ix (ni i + (6 : Int32)) L = true from ixj hi hL 6 (by decide)), a3', bd2_some, if_pos rfl]
  unfold m_L_law_1975
  rw [nmv_eq, ni7]
theorem law_order {f : Nat} (hf : 2 ^ 63 ≤ f) {xs : Nat → Int32} {L : Nat} {k18 : CH → Nat → Nat → Int32 → Option (Int32 × CH)} {h : CH} {A : Nat → Nat} {lo y : Nat} {al : List Nat} {b : Nat → Nat} {n : Nat} {fk fp : Int32} {ts : List It} {W : Nat → Mi} {acts : List Act} {wy : Why} (I : Inv h A lo y al b n fk fp ts W acts wy) {i : Nat} (hi : i + 7 ≤ L) (hL : L ≤ 448) : Nx (m_L_law_1036 f xs L k18 h (A 23) y (ni i)) k18 h A lo y al i := by
  have K : Ok (m_X0_order f h (A 23) (xs (Int32.toNatClampNeg (ni i + (1 : Int32)))) (xs (Int32.toNatClampNeg (ni i + (2 : Int32)))) (xs (Int32.toNatClampNeg (ni i + (3 : Int32)))) (xs (Int32.toNatClampNeg (ni i + (4 : Int32)))) (xs (Int32.toNatClampNeg (ni i + (5 : Int32)))) (xs (Int32.toNatClampNeg (ni i + (6 : Int32))))) (fun h1 => tcr h1 y (fun z => m_X3_order f z (xs (Int32.toNatClampNeg (ni i + (1 : Int32)))) (xs (Int32.toNatClampNeg (ni i + (2 : Int32)))) (xs (Int32.toNatClampNeg (ni i + (3 : Int32)))) (xs (Int32.toNatClampNeg (ni i + (4 : Int32)))) (xs (Int32.toNatClampNeg (ni i + (5 : Int32)))) (xs (Int32.toNatClampNeg (ni i + (6 : Int32)))))) h A lo y al := ok_QA I (fun u E => q_order hf E _ _ _ _ _ _)
  obtain ⟨r, h1, h2, a1, a2, a3, a4, a5, a6⟩ := K
  refine ⟨h2, ?_, a4, a5, a6⟩
  have a3' : tcr h1 y (fun z => m_X3_order f z (xs (Int32.toNatClampNeg (ni i + (1 : Int32)))) (xs (Int32.toNatClampNeg (ni i + (2 : Int32)))) (xs (Int32.toNatClampNeg (ni i + (3 : Int32)))) (xs (Int32.toNatClampNeg (ni i + (4 : Int32)))) (xs (Int32.toNatClampNeg (ni i + (5 : Int32)))) (xs (Int32.toNatClampNeg (ni i + (6 : Int32))))) = some (r, h2) := a3
  unfold m_L_law_1036
  rw [gd_of (show ix (ni i + (1 : Int32)) L = true from ixj hi hL 1 (by decide)), gd_of (show ix (ni i + (2 : Int32)) L = true from ixj hi hL 2 (by decide)), gd_of (show ix (ni i + (3 : Int32)) L = true from ixj hi hL 3 (by decide)), gd_of (show ix (ni i + (4 : Int32)) L = true from ixj hi hL 4 (by decide)), gd_of (show ix (ni i + (5 : Int32)) L = true from ixj hi hL 5 (by decide)), gd_of (show ix (ni i + (6 : Int32)) L = true from ixj hi hL 6 (by decide)), gd_of I.x, a1, bd2_some]
  unfold m_L_law_1071
  rw [gd_of (show ix (ni i + (1 : Int32)) L = true from ixj hi hL 1 (by decide)), gd_of (show ix (ni i + (2 : Int32)) L = true from ixj hi hL 2 (by decide)), gd_of (show ix (ni i + (3 : Int32)) L = true from ixj hi hL 3 (by decide)), gd_of (show ix (ni i + (4 : Int32)) L = true from ixj hi hL 4 (by decide)), gd_of (show ix (ni i + (5 : Int32)) L = true from ixj hi hL 5 (by decide)), gd_of (show ix (ni i + (6 : Int32)) L = true from ixj hi hL 6 (by decide)), a3', bd2_some, if_pos rfl]
  unfold m_L_law_1975
  rw [nmv_eq, ni7]
theorem law_reduced {f : Nat} (hf : 2 ^ 63 ≤ f) {xs : Nat → Int32} {L : Nat} {k18 : CH → Nat → Nat → Int32 → Option (Int32 × CH)} {h : CH} {A : Nat → Nat} {lo y : Nat} {al : List Nat} {b : Nat → Nat} {n : Nat} {fk fp : Int32} {ts : List It} {W : Nat → Mi} {acts : List Act} {wy : Why} (I : Inv h A lo y al b n fk fp ts W acts wy) {i : Nat} (hi : i + 7 ≤ L) (hL : L ≤ 448) : Nx (m_L_law_1111 f xs L k18 h (A 23) y (ni i)) k18 h A lo y al i := by
  have K : Ok (m_X0_reduced f h (A 23) (xs (Int32.toNatClampNeg (ni i + (1 : Int32)))) (xs (Int32.toNatClampNeg (ni i + (2 : Int32)))) (xs (Int32.toNatClampNeg (ni i + (3 : Int32))))) (fun h1 => tcr h1 y (fun z => m_X3_reduced f z (xs (Int32.toNatClampNeg (ni i + (1 : Int32)))) (xs (Int32.toNatClampNeg (ni i + (2 : Int32)))) (xs (Int32.toNatClampNeg (ni i + (3 : Int32)))))) h A lo y al := ok_QA I (fun u E => q_reduced hf E _ _ _)
  obtain ⟨r, h1, h2, a1, a2, a3, a4, a5, a6⟩ := K
  refine ⟨h2, ?_, a4, a5, a6⟩
  have a3' : tcr h1 y (fun z => m_X3_reduced f z (xs (Int32.toNatClampNeg (ni i + (1 : Int32)))) (xs (Int32.toNatClampNeg (ni i + (2 : Int32)))) (xs (Int32.toNatClampNeg (ni i + (3 : Int32))))) = some (r, h2) := a3
  unfold m_L_law_1111
  rw [gd_of (show ix (ni i + (1 : Int32)) L = true from ixj hi hL 1 (by decide)), gd_of (show ix (ni i + (2 : Int32)) L = true from ixj hi hL 2 (by decide)), gd_of (show ix (ni i + (3 : Int32)) L = true from ixj hi hL 3 (by decide)), gd_of I.x, a1, bd2_some]
  unfold m_L_law_1130
  rw [gd_of (show ix (ni i + (1 : Int32)) L = true from ixj hi hL 1 (by decide)), gd_of (show ix (ni i + (2 : Int32)) L = true from ixj hi hL 2 (by decide)), gd_of (show ix (ni i + (3 : Int32)) L = true from ixj hi hL 3 (by decide)), a3', bd2_some, if_pos rfl]
  unfold m_L_law_1975
  rw [nmv_eq, ni7]
theorem law_bettered {f : Nat} (hf : 2 ^ 63 ≤ f) {xs : Nat → Int32} {L : Nat} {k18 : CH → Nat → Nat → Int32 → Option (Int32 × CH)} {h : CH} {A : Nat → Nat} {lo y : Nat} {al : List Nat} {b : Nat → Nat} {n : Nat} {fk fp : Int32} {ts : List It} {W : Nat → Mi} {acts : List Act} {wy : Why} (I : Inv h A lo y al b n fk fp ts W acts wy) {i : Nat} (hi : i + 7 ≤ L) (hL : L ≤ 448) : Nx (m_L_law_1154 f xs L k18 h (A 23) y (ni i)) k18 h A lo y al i := by
  have K : Ok (m_X0_bettered f h (A 23) (xs (Int32.toNatClampNeg (ni i + (1 : Int32))))) (fun h1 => tcr h1 y (fun z => m_X3_bettered f z (xs (Int32.toNatClampNeg (ni i + (1 : Int32)))))) h A lo y al := ok_QA I (fun u E => q_bettered hf E _)
  obtain ⟨r, h1, h2, a1, a2, a3, a4, a5, a6⟩ := K
  refine ⟨h2, ?_, a4, a5, a6⟩
  have a3' : tcr h1 y (fun z => m_X3_bettered f z (xs (Int32.toNatClampNeg (ni i + (1 : Int32))))) = some (r, h2) := a3
  unfold m_L_law_1154
  rw [gd_of (show ix (ni i + (1 : Int32)) L = true from ixj hi hL 1 (by decide)), gd_of I.x, a1, bd2_some]
  unfold m_L_law_1163
  rw [gd_of (show ix (ni i + (1 : Int32)) L = true from ixj hi hL 1 (by decide)), a3', bd2_some, if_pos rfl]
  unfold m_L_law_1975
  rw [nmv_eq, ni7]
theorem law_length {f : Nat} (hf : 2 ^ 63 ≤ f) {xs : Nat → Int32} {L : Nat} {k18 : CH → Nat → Nat → Int32 → Option (Int32 × CH)} {h : CH} {A : Nat → Nat} {lo y : Nat} {al : List Nat} {b : Nat → Nat} {n : Nat} {fk fp : Int32} {ts : List It} {W : Nat → Mi} {acts : List Act} {wy : Why} (I : Inv h A lo y al b n fk fp ts W acts wy) {i : Nat} (hi : i + 7 ≤ L) (hL : L ≤ 448) : Nx (m_L_law_1177 f xs L k18 h (A 23) y (ni i)) k18 h A lo y al i := by
  have K : Ok (m_X0_length f h (A 23) (xs (Int32.toNatClampNeg (ni i + (1 : Int32)))) (xs (Int32.toNatClampNeg (ni i + (2 : Int32)))) (xs (Int32.toNatClampNeg (ni i + (3 : Int32))))) (fun h1 => tcr h1 y (fun z => m_X3_length f z (xs (Int32.toNatClampNeg (ni i + (1 : Int32)))) (xs (Int32.toNatClampNeg (ni i + (2 : Int32)))) (xs (Int32.toNatClampNeg (ni i + (3 : Int32)))))) h A lo y al := ok_QA I (fun u E => q_length hf E _ _ _)
  obtain ⟨r, h1, h2, a1, a2, a3, a4, a5, a6⟩ := K
  refine ⟨h2, ?_, a4, a5, a6⟩
  have a3' : tcr h1 y (fun z => m_X3_length f z (xs (Int32.toNatClampNeg (ni i + (1 : Int32)))) (xs (Int32.toNatClampNeg (ni i + (2 : Int32)))) (xs (Int32.toNatClampNeg (ni i + (3 : Int32))))) = some (r, h2) := a3
  unfold m_L_law_1177
  rw [gd_of (show ix (ni i + (1 : Int32)) L = true from ixj hi hL 1 (by decide)), gd_of (show ix (ni i + (2 : Int32)) L = true from ixj hi hL 2 (by decide)), gd_of (show ix (ni i + (3 : Int32)) L = true from ixj hi hL 3 (by decide)), gd_of I.x, a1, bd2_some]
  unfold m_L_law_1196
  rw [gd_of (show ix (ni i + (1 : Int32)) L = true from ixj hi hL 1 (by decide)), gd_of (show ix (ni i + (2 : Int32)) L = true from ixj hi hL 2 (by decide)), gd_of (show ix (ni i + (3 : Int32)) L = true from ixj hi hL 3 (by decide)), a3', bd2_some, if_pos rfl]
  unfold m_L_law_1975
  rw [nmv_eq, ni7]
theorem law_kiss {f : Nat} (hf : 2 ^ 63 ≤ f) {xs : Nat → Int32} {L : Nat} {k18 : CH → Nat → Nat → Int32 → Option (Int32 × CH)} {h : CH} {A : Nat → Nat} {lo y : Nat} {al : List Nat} {b : Nat → Nat} {n : Nat} {fk fp : Int32} {ts : List It} {W : Nat → Mi} {acts : List Act} {wy : Why} (I : Inv h A lo y al b n fk fp ts W acts wy) {i : Nat} (hi : i + 7 ≤ L) (hL : L ≤ 448) : Nx (m_L_law_1221 f xs L k18 h (A 23) y (ni i)) k18 h A lo y al i := by
  have K : Ok (m_X0_kiss f h (A 23) (xs (Int32.toNatClampNeg (ni i + (1 : Int32))))) (fun h1 => tcr h1 y (fun z => m_X3_kiss f z (xs (Int32.toNatClampNeg (ni i + (1 : Int32)))))) h A lo y al := ok_QA I (fun u E => q_kiss hf E _)
  obtain ⟨r, h1, h2, a1, a2, a3, a4, a5, a6⟩ := K
  refine ⟨h2, ?_, a4, a5, a6⟩
  have a3' : tcr h1 y (fun z => m_X3_kiss f z (xs (Int32.toNatClampNeg (ni i + (1 : Int32))))) = some (r, h2) := a3
  unfold m_L_law_1221
  rw [gd_of (show ix (ni i + (1 : Int32)) L = true from ixj hi hL 1 (by decide)), gd_of I.x, a1, bd2_some]
  unfold m_L_law_1230
  rw [gd_of (show ix (ni i + (1 : Int32)) L = true from ixj hi hL 1 (by decide)), a3', bd2_some, if_pos rfl]
  unfold m_L_law_1975
  rw [nmv_eq, ni7]
theorem law_meetLength {f : Nat} (hf : 2 ^ 63 ≤ f) {xs : Nat → Int32} {L : Nat} {k18 : CH → Nat → Nat → Int32 → Option (Int32 × CH)} {h : CH} {A : Nat → Nat} {lo y : Nat} {al : List Nat} {b : Nat → Nat} {n : Nat} {fk fp : Int32} {ts : List It} {W : Nat → Mi} {acts : List Act} {wy : Why} (I : Inv h A lo y al b n fk fp ts W acts wy) {i : Nat} (hi : i + 7 ≤ L) (hL : L ≤ 448) : Nx (m_L_law_1244 f xs L k18 h (A 23) y (ni i)) k18 h A lo y al i := by
  have K : Ok (m_X0_meetLength f h (A 23) (xs (Int32.toNatClampNeg (ni i + (1 : Int32)))) (xs (Int32.toNatClampNeg (ni i + (2 : Int32)))) (xs (Int32.toNatClampNeg (ni i + (3 : Int32))))) (fun h1 => tcr h1 y (fun z => m_X3_meetLength f z (xs (Int32.toNatClampNeg (ni i + (1 : Int32)))) (xs (Int32.toNatClampNeg (ni i + (2 : Int32)))) (xs (Int32.toNatClampNeg (ni i + (3 : Int32)))))) h A lo y al := ok_QA I (fun u E => q_meetLength hf E _ _ _)
  obtain ⟨r, h1, h2, a1, a2, a3, a4, a5, a6⟩ := K
  refine ⟨h2, ?_, a4, a5, a6⟩
  have a3' : tcr h1 y (fun z => m_X3_meetLength f z (xs (Int32.toNatClampNeg (ni i + (1 : Int32)))) (xs (Int32.toNatClampNeg (ni i + (2 : Int32)))) (xs (Int32.toNatClampNeg (ni i + (3 : Int32))))) = some (r, h2) := a3
  unfold m_L_law_1244
  rw [gd_of (show ix (ni i + (1 : Int32)) L = true from ixj hi hL 1 (by decide)), gd_of (show ix (ni i + (2 : Int32)) L = true from ixj hi hL 2 (by decide)), gd_of (show ix (ni i + (3 : Int32)) L = true from ixj hi hL 3 (by decide)), gd_of I.x, a1, bd2_some]
  unfold m_L_law_1263
  rw [gd_of (show ix (ni i + (1 : Int32)) L = true from ixj hi hL 1 (by decide)), gd_of (show ix (ni i + (2 : Int32)) L = true from ixj hi hL 2 (by decide)), gd_of (show ix (ni i + (3 : Int32)) L = true from ixj hi hL 3 (by decide)), a3', bd2_some, if_pos rfl]
  unfold m_L_law_1975
  rw [nmv_eq, ni7]
theorem law_area {f : Nat} (hf : 2 ^ 63 ≤ f) {xs : Nat → Int32} {L : Nat} {k18 : CH → Nat → Nat → Int32 → Option (Int32 × CH)} {h : CH} {A : Nat → Nat} {lo y : Nat} {al : List Nat} {b : Nat → Nat} {n : Nat} {fk fp : Int32} {ts : List It} {W : Nat → Mi} {acts : List Act} {wy : Why} (I : Inv h A lo y al b n fk fp ts W acts wy) {i : Nat} (hi : i + 7 ≤ L) (hL : L ≤ 448) : Nx (m_L_law_1288 f xs L k18 h (A 23) y (ni i)) k18 h A lo y al i := by
  have K : Ok (m_X0_area f h (A 23) (xs (Int32.toNatClampNeg (ni i + (1 : Int32)))) (xs (Int32.toNatClampNeg (ni i + (2 : Int32)))) (xs (Int32.toNatClampNeg (ni i + (3 : Int32)))) (xs (Int32.toNatClampNeg (ni i + (4 : Int32)))) (xs (Int32.toNatClampNeg (ni i + (5 : Int32))))) (fun h1 => tcr h1 y (fun z => m_X3_area f z (xs (Int32.toNatClampNeg (ni i + (1 : Int32)))) (xs (Int32.toNatClampNeg (ni i + (2 : Int32)))) (xs (Int32.toNatClampNeg (ni i + (3 : Int32)))) (xs (Int32.toNatClampNeg (ni i + (4 : Int32)))) (xs (Int32.toNatClampNeg (ni i + (5 : Int32)))))) h A lo y al := ok_QM I (fun u E => q_area hf E (Inv_QP I) _ _ _ _ _)
  obtain ⟨r, h1, h2, a1, a2, a3, a4, a5, a6⟩ := K
  refine ⟨h2, ?_, a4, a5, a6⟩
  have a3' : tcr h1 y (fun z => m_X3_area f z (xs (Int32.toNatClampNeg (ni i + (1 : Int32)))) (xs (Int32.toNatClampNeg (ni i + (2 : Int32)))) (xs (Int32.toNatClampNeg (ni i + (3 : Int32)))) (xs (Int32.toNatClampNeg (ni i + (4 : Int32)))) (xs (Int32.toNatClampNeg (ni i + (5 : Int32))))) = some (r, h2) := a3
  unfold m_L_law_1288
  rw [gd_of (show ix (ni i + (1 : Int32)) L = true from ixj hi hL 1 (by decide)), gd_of (show ix (ni i + (2 : Int32)) L = true from ixj hi hL 2 (by decide)), gd_of (show ix (ni i + (3 : Int32)) L = true from ixj hi hL 3 (by decide)), gd_of (show ix (ni i + (4 : Int32)) L = true from ixj hi hL 4 (by decide)), gd_of (show ix (ni i + (5 : Int32)) L = true from ixj hi hL 5 (by decide)), gd_of I.x, a1, bd2_some]
  unfold m_L_law_1317
  rw [gd_of (show ix (ni i + (1 : Int32)) L = true from ixj hi hL 1 (by decide)), gd_of (show ix (ni i + (2 : Int32)) L = true from ixj hi hL 2 (by decide)), gd_of (show ix (ni i + (3 : Int32)) L = true from ixj hi hL 3 (by decide)), gd_of (show ix (ni i + (4 : Int32)) L = true from ixj hi hL 4 (by decide)), gd_of (show ix (ni i + (5 : Int32)) L = true from ixj hi hL 5 (by decide)), a3', bd2_some, if_pos rfl]
  unfold m_L_law_1975
  rw [nmv_eq, ni7]
theorem law_layers {f : Nat} (hf : 2 ^ 63 ≤ f) {xs : Nat → Int32} {L : Nat} {k18 : CH → Nat → Nat → Int32 → Option (Int32 × CH)} {h : CH} {A : Nat → Nat} {lo y : Nat} {al : List Nat} {b : Nat → Nat} {n : Nat} {fk fp : Int32} {ts : List It} {W : Nat → Mi} {acts : List Act} {wy : Why} (I : Inv h A lo y al b n fk fp ts W acts wy) {i : Nat} (hi : i + 7 ≤ L) (hL : L ≤ 448) : Nx (m_L_law_1352 f xs L k18 h (A 23) y (ni i)) k18 h A lo y al i := by
  have K : Ok (m_X0_layers f h (A 23) (xs (Int32.toNatClampNeg (ni i + (1 : Int32)))) (xs (Int32.toNatClampNeg (ni i + (2 : Int32)))) (xs (Int32.toNatClampNeg (ni i + (3 : Int32)))) (xs (Int32.toNatClampNeg (ni i + (4 : Int32)))) (xs (Int32.toNatClampNeg (ni i + (5 : Int32))))) (fun h1 => tcr h1 y (fun z => m_X3_layers f z (xs (Int32.toNatClampNeg (ni i + (1 : Int32)))) (xs (Int32.toNatClampNeg (ni i + (2 : Int32)))) (xs (Int32.toNatClampNeg (ni i + (3 : Int32)))) (xs (Int32.toNatClampNeg (ni i + (4 : Int32)))) (xs (Int32.toNatClampNeg (ni i + (5 : Int32)))))) h A lo y al := ok_QM I (fun u E => q_layers hf E (Inv_QP I) _ _ _ _ _)
  obtain ⟨r, h1, h2, a1, a2, a3, a4, a5, a6⟩ := K
  refine ⟨h2, ?_, a4, a5, a6⟩
  have a3' : tcr h1 y (fun z => m_X3_layers f z (xs (Int32.toNatClampNeg (ni i + (1 : Int32)))) (xs (Int32.toNatClampNeg (ni i + (2 : Int32)))) (xs (Int32.toNatClampNeg (ni i + (3 : Int32)))) (xs (Int32.toNatClampNeg (ni i + (4 : Int32)))) (xs (Int32.toNatClampNeg (ni i + (5 : Int32))))) = some (r, h2) := a3
  unfold m_L_law_1352
  rw [gd_of (show ix (ni i + (1 : Int32)) L = true from ixj hi hL 1 (by decide)), gd_of (show ix (ni i + (2 : Int32)) L = true from ixj hi hL 2 (by decide)), gd_of (show ix (ni i + (3 : Int32)) L = true from ixj hi hL 3 (by decide)), gd_of (show ix (ni i + (4 : Int32)) L = true from ixj hi hL 4 (by decide)), gd_of (show ix (ni i + (5 : Int32)) L = true from ixj hi hL 5 (by decide)), gd_of I.x, a1, bd2_some]
  unfold m_L_law_1381
  rw [gd_of (show ix (ni i + (1 : Int32)) L = true from ixj hi hL 1 (by decide)), gd_of (show ix (ni i + (2 : Int32)) L = true from ixj hi hL 2 (by decide)), gd_of (show ix (ni i + (3 : Int32)) L = true from ixj hi hL 3 (by decide)), gd_of (show ix (ni i + (4 : Int32)) L = true from ixj hi hL 4 (by decide)), gd_of (show ix (ni i + (5 : Int32)) L = true from ixj hi hL 5 (by decide)), a3', bd2_some, if_pos rfl]
  unfold m_L_law_1975
  rw [nmv_eq, ni7]
theorem law_planar {f : Nat} (hf : 2 ^ 63 ≤ f) {xs : Nat → Int32} {L : Nat} {k18 : CH → Nat → Nat → Int32 → Option (Int32 × CH)} {h : CH} {A : Nat → Nat} {lo y : Nat} {al : List Nat} {b : Nat → Nat} {n : Nat} {fk fp : Int32} {ts : List It} {W : Nat → Mi} {acts : List Act} {wy : Why} (I : Inv h A lo y al b n fk fp ts W acts wy) {i : Nat} (hi : i + 7 ≤ L) (hL : L ≤ 448) : Nx (m_L_law_1416 f xs L k18 h (A 23) y (ni i)) k18 h A lo y al i := by
  have K : Ok (m_X0_planar f h (A 23) (xs (Int32.toNatClampNeg (ni i + (1 : Int32)))) (xs (Int32.toNatClampNeg (ni i + (2 : Int32)))) (xs (Int32.toNatClampNeg (ni i + (3 : Int32)))) (xs (Int32.toNatClampNeg (ni i + (4 : Int32)))) (xs (Int32.toNatClampNeg (ni i + (5 : Int32))))) (fun h1 => tcr h1 y (fun z => m_X3_planar f z (xs (Int32.toNatClampNeg (ni i + (1 : Int32)))) (xs (Int32.toNatClampNeg (ni i + (2 : Int32)))) (xs (Int32.toNatClampNeg (ni i + (3 : Int32)))) (xs (Int32.toNatClampNeg (ni i + (4 : Int32)))) (xs (Int32.toNatClampNeg (ni i + (5 : Int32)))))) h A lo y al := ok_QM I (fun u E => q_planar hf E (Inv_QP I) _ _ _ _ _)
  obtain ⟨r, h1, h2, a1, a2, a3, a4, a5, a6⟩ := K
  refine ⟨h2, ?_, a4, a5, a6⟩
  have a3' : tcr h1 y (fun z => m_X3_planar f z (xs (Int32.toNatClampNeg (ni i + (1 : Int32)))) (xs (Int32.toNatClampNeg (ni i + (2 : Int32)))) (xs (Int32.toNatClampNeg (ni i + (3 : Int32)))) (xs (Int32.toNatClampNeg (ni i + (4 : Int32)))) (xs (Int32.toNatClampNeg (ni i + (5 : Int32))))) = some (r, h2) := a3
  unfold m_L_law_1416
  rw [gd_of (show ix (ni i + (1 : Int32)) L = true from ixj hi hL 1 (by decide)), gd_of (show ix (ni i + (2 : Int32)) L = true from ixj hi hL 2 (by decide)), gd_of (show ix (ni i + (3 : Int32)) L = true from ixj hi hL 3 (by decide)), gd_of (show ix (ni i + (4 : Int32)) L = true from ixj hi hL 4 (by decide)), gd_of (show ix (ni i + (5 : Int32)) L = true from ixj hi hL 5 (by decide)), gd_of I.x, a1, bd2_some]
  unfold m_L_law_1445
  rw [gd_of (show ix (ni i + (1 : Int32)) L = true from ixj hi hL 1 (by decide)), gd_of (show ix (ni i + (2 : Int32)) L = true from ixj hi hL 2 (by decide)), gd_of (show ix (ni i + (3 : Int32)) L = true from ixj hi hL 3 (by decide)), gd_of (show ix (ni i + (4 : Int32)) L = true from ixj hi hL 4 (by decide)), gd_of (show ix (ni i + (5 : Int32)) L = true from ixj hi hL 5 (by decide)), a3', bd2_some, if_pos rfl]
  unfold m_L_law_1975
  rw [nmv_eq, ni7]
theorem law_best {f : Nat} (hf : 2 ^ 63 ≤ f) {xs : Nat → Int32} {L : Nat} {k18 : CH → Nat → Nat → Int32 → Option (Int32 × CH)} {h : CH} {A : Nat → Nat} {lo y : Nat} {al : List Nat} {b : Nat → Nat} {n : Nat} {fk fp : Int32} {ts : List It} {W : Nat → Mi} {acts : List Act} {wy : Why} (I : Inv h A lo y al b n fk fp ts W acts wy) {i : Nat} (hi : i + 7 ≤ L) (hL : L ≤ 448) : Nx (m_L_law_1480 f xs L k18 h (A 23) y (ni i)) k18 h A lo y al i := by
  have K : Ok (m_X0_best f h (A 23) (xs (Int32.toNatClampNeg (ni i + (1 : Int32)))) (xs (Int32.toNatClampNeg (ni i + (2 : Int32))))) (fun h1 => tcr h1 y (fun z => m_X3_best f z (xs (Int32.toNatClampNeg (ni i + (1 : Int32)))) (xs (Int32.toNatClampNeg (ni i + (2 : Int32)))))) h A lo y al := ok_QM I (fun u E => q_best hf E (Inv_QP I) _ _)
  obtain ⟨r, h1, h2, a1, a2, a3, a4, a5, a6⟩ := K
  refine ⟨h2, ?_, a4, a5, a6⟩
  have a3' : tcr h1 y (fun z => m_X3_best f z (xs (Int32.toNatClampNeg (ni i + (1 : Int32)))) (xs (Int32.toNatClampNeg (ni i + (2 : Int32))))) = some (r, h2) := a3
  unfold m_L_law_1480
  rw [gd_of (show ix (ni i + (1 : Int32)) L = true from ixj hi hL 1 (by decide)), gd_of (show ix (ni i + (2 : Int32)) L = true from ixj hi hL 2 (by decide)), gd_of I.x, a1, bd2_some]
  unfold m_L_law_1494
  rw [gd_of (show ix (ni i + (1 : Int32)) L = true from ixj hi hL 1 (by decide)), gd_of (show ix (ni i + (2 : Int32)) L = true from ixj hi hL 2 (by decide)), a3', bd2_some, if_pos rfl]
  unfold m_L_law_1975
  rw [nmv_eq, ni7]
theorem law_cosine {f : Nat} (hf : 2 ^ 63 ≤ f) {xs : Nat → Int32} {L : Nat} {k18 : CH → Nat → Nat → Int32 → Option (Int32 × CH)} {h : CH} {A : Nat → Nat} {lo y : Nat} {al : List Nat} {b : Nat → Nat} {n : Nat} {fk fp : Int32} {ts : List It} {W : Nat → Mi} {acts : List Act} {wy : Why} (I : Inv h A lo y al b n fk fp ts W acts wy) {i : Nat} (hi : i + 7 ≤ L) (hL : L ≤ 448) : Nx (m_L_law_1513 f xs L k18 h (A 23) y (ni i)) k18 h A lo y al i := by
  have K : Ok (m_X0_cosine f h (A 23) (xs (Int32.toNatClampNeg (ni i + (1 : Int32)))) (xs (Int32.toNatClampNeg (ni i + (2 : Int32))))) (fun h1 => tcr h1 y (fun z => m_X3_cosine f z (xs (Int32.toNatClampNeg (ni i + (1 : Int32)))) (xs (Int32.toNatClampNeg (ni i + (2 : Int32)))))) h A lo y al := ok_cosine (f := f) (by omega) I _ _
  obtain ⟨r, h1, h2, a1, a2, a3, a4, a5, a6⟩ := K
  refine ⟨h2, ?_, a4, a5, a6⟩
  have a3' : tcr h1 y (fun z => m_X3_cosine f z (xs (Int32.toNatClampNeg (ni i + (1 : Int32)))) (xs (Int32.toNatClampNeg (ni i + (2 : Int32))))) = some (r, h2) := a3
  unfold m_L_law_1513
  rw [gd_of (show ix (ni i + (1 : Int32)) L = true from ixj hi hL 1 (by decide)), gd_of (show ix (ni i + (2 : Int32)) L = true from ixj hi hL 2 (by decide)), gd_of I.x, a1, bd2_some]
  unfold m_L_law_1527
  rw [gd_of (show ix (ni i + (1 : Int32)) L = true from ixj hi hL 1 (by decide)), gd_of (show ix (ni i + (2 : Int32)) L = true from ixj hi hL 2 (by decide)), a3', bd2_some, if_pos rfl]
  unfold m_L_law_1975
  rw [nmv_eq, ni7]
theorem law_coset {f : Nat} (hf : 2 ^ 63 ≤ f) {xs : Nat → Int32} {L : Nat} {k18 : CH → Nat → Nat → Int32 → Option (Int32 × CH)} {h : CH} {A : Nat → Nat} {lo y : Nat} {al : List Nat} {b : Nat → Nat} {n : Nat} {fk fp : Int32} {ts : List It} {W : Nat → Mi} {acts : List Act} {wy : Why} (I : Inv h A lo y al b n fk fp ts W acts wy) {i : Nat} (hi : i + 7 ≤ L) (hL : L ≤ 448) : Nx (m_L_law_1546 f xs L k18 h (A 23) y (ni i)) k18 h A lo y al i := by
  have K : Ok (m_X0_coset f h (A 23) (xs (Int32.toNatClampNeg (ni i + (1 : Int32)))) (xs (Int32.toNatClampNeg (ni i + (2 : Int32)))) (xs (Int32.toNatClampNeg (ni i + (3 : Int32)))) (xs (Int32.toNatClampNeg (ni i + (4 : Int32)))) (xs (Int32.toNatClampNeg (ni i + (5 : Int32)))) (xs (Int32.toNatClampNeg (ni i + (6 : Int32))))) (fun h1 => m_X3_coset f h1 y (xs (Int32.toNatClampNeg (ni i + (1 : Int32)))) (xs (Int32.toNatClampNeg (ni i + (2 : Int32)))) (xs (Int32.toNatClampNeg (ni i + (3 : Int32)))) (xs (Int32.toNatClampNeg (ni i + (4 : Int32)))) (xs (Int32.toNatClampNeg (ni i + (5 : Int32)))) (xs (Int32.toNatClampNeg (ni i + (6 : Int32))))) h A lo y al := ok_coset (f := f) (by omega) I _ _ _ _ _ _
  obtain ⟨r, h1, h2, a1, a2, a3, a4, a5, a6⟩ := K
  refine ⟨h2, ?_, a4, a5, a6⟩
  have a3' : m_X3_coset f h1 y (xs (Int32.toNatClampNeg (ni i + (1 : Int32)))) (xs (Int32.toNatClampNeg (ni i + (2 : Int32)))) (xs (Int32.toNatClampNeg (ni i + (3 : Int32)))) (xs (Int32.toNatClampNeg (ni i + (4 : Int32)))) (xs (Int32.toNatClampNeg (ni i + (5 : Int32)))) (xs (Int32.toNatClampNeg (ni i + (6 : Int32)))) = some (r, h2) := a3
  unfold m_L_law_1546
  rw [gd_of (show ix (ni i + (1 : Int32)) L = true from ixj hi hL 1 (by decide)), gd_of (show ix (ni i + (2 : Int32)) L = true from ixj hi hL 2 (by decide)), gd_of (show ix (ni i + (3 : Int32)) L = true from ixj hi hL 3 (by decide)), gd_of (show ix (ni i + (4 : Int32)) L = true from ixj hi hL 4 (by decide)), gd_of (show ix (ni i + (5 : Int32)) L = true from ixj hi hL 5 (by decide)), gd_of (show ix (ni i + (6 : Int32)) L = true from ixj hi hL 6 (by decide)), gd_of I.x, a1, bd2_some]
  unfold m_L_law_1581
  rw [gd_of (show ix (ni i + (1 : Int32)) L = true from ixj hi hL 1 (by decide)), gd_of (show ix (ni i + (2 : Int32)) L = true from ixj hi hL 2 (by decide)), gd_of (show ix (ni i + (3 : Int32)) L = true from ixj hi hL 3 (by decide)), gd_of (show ix (ni i + (4 : Int32)) L = true from ixj hi hL 4 (by decide)), gd_of (show ix (ni i + (5 : Int32)) L = true from ixj hi hL 5 (by decide)), gd_of (show ix (ni i + (6 : Int32)) L = true from ixj hi hL 6 (by decide)), gd_of a2, a3', bd2_some]
  unfold m_L_law_1616
  rw [if_pos rfl]
  unfold m_L_law_1975
  rw [nmv_eq, ni7]
theorem law_turned {f : Nat} (hf : 2 ^ 63 ≤ f) {xs : Nat → Int32} {L : Nat} {k18 : CH → Nat → Nat → Int32 → Option (Int32 × CH)} {h : CH} {A : Nat → Nat} {lo y : Nat} {al : List Nat} {b : Nat → Nat} {n : Nat} {fk fp : Int32} {ts : List It} {W : Nat → Mi} {acts : List Act} {wy : Why} (I : Inv h A lo y al b n fk fp ts W acts wy) {i : Nat} (hi : i + 7 ≤ L) (hL : L ≤ 448) : Nx (m_L_law_1622 f xs L k18 h (A 23) y (ni i)) k18 h A lo y al i := by
  have K : Ok (m_X0_turned f h (A 23) (xs (Int32.toNatClampNeg (ni i + (1 : Int32)))) (xs (Int32.toNatClampNeg (ni i + (2 : Int32))))) (fun h1 => tcr h1 y (fun z => m_X3_turned f z (xs (Int32.toNatClampNeg (ni i + (1 : Int32)))) (xs (Int32.toNatClampNeg (ni i + (2 : Int32)))))) h A lo y al := ok_turned (f := f) (by omega) I _ _
  obtain ⟨r, h1, h2, a1, a2, a3, a4, a5, a6⟩ := K
  refine ⟨h2, ?_, a4, a5, a6⟩
  have a3' : tcr h1 y (fun z => m_X3_turned f z (xs (Int32.toNatClampNeg (ni i + (1 : Int32)))) (xs (Int32.toNatClampNeg (ni i + (2 : Int32))))) = some (r, h2) := a3
  unfold m_L_law_1622
  rw [gd_of (show ix (ni i + (1 : Int32)) L = true from ixj hi hL 1 (by decide)), gd_of (show ix (ni i + (2 : Int32)) L = true from ixj hi hL 2 (by decide)), gd_of I.x, a1, bd2_some]
  unfold m_L_law_1636
  rw [gd_of (show ix (ni i + (1 : Int32)) L = true from ixj hi hL 1 (by decide)), gd_of (show ix (ni i + (2 : Int32)) L = true from ixj hi hL 2 (by decide)), a3', bd2_some, if_pos rfl]
  unfold m_L_law_1975
  rw [nmv_eq, ni7]
theorem law_turnOf {f : Nat} (hf : 2 ^ 63 ≤ f) {xs : Nat → Int32} {L : Nat} {k18 : CH → Nat → Nat → Int32 → Option (Int32 × CH)} {h : CH} {A : Nat → Nat} {lo y : Nat} {al : List Nat} {b : Nat → Nat} {n : Nat} {fk fp : Int32} {ts : List It} {W : Nat → Mi} {acts : List Act} {wy : Why} (I : Inv h A lo y al b n fk fp ts W acts wy) {i : Nat} (hi : i + 7 ≤ L) (hL : L ≤ 448) : Nx (m_L_law_1655 f xs L k18 h (A 23) y (ni i)) k18 h A lo y al i := by
  have K : Ok (m_X0_turnOf f h (A 23) (xs (Int32.toNatClampNeg (ni i + (1 : Int32)))) (xs (Int32.toNatClampNeg (ni i + (2 : Int32))))) (fun h1 => tcr h1 y (fun z => m_X3_turnOf f z (xs (Int32.toNatClampNeg (ni i + (1 : Int32)))) (xs (Int32.toNatClampNeg (ni i + (2 : Int32)))))) h A lo y al := ok_turnOf (f := f) (by omega) I _ _
  obtain ⟨r, h1, h2, a1, a2, a3, a4, a5, a6⟩ := K
  refine ⟨h2, ?_, a4, a5, a6⟩
  have a3' : tcr h1 y (fun z => m_X3_turnOf f z (xs (Int32.toNatClampNeg (ni i + (1 : Int32)))) (xs (Int32.toNatClampNeg (ni i + (2 : Int32))))) = some (r, h2) := a3
  unfold m_L_law_1655
  rw [gd_of (show ix (ni i + (1 : Int32)) L = true from ixj hi hL 1 (by decide)), gd_of (show ix (ni i + (2 : Int32)) L = true from ixj hi hL 2 (by decide)), gd_of I.x, a1, bd2_some]
  unfold m_L_law_1669
  rw [gd_of (show ix (ni i + (1 : Int32)) L = true from ixj hi hL 1 (by decide)), gd_of (show ix (ni i + (2 : Int32)) L = true from ixj hi hL 2 (by decide)), a3', bd2_some, if_pos rfl]
  unfold m_L_law_1975
  rw [nmv_eq, ni7]
theorem law_symmetries {f : Nat} (hf : 2 ^ 63 ≤ f) {xs : Nat → Int32} {L : Nat} {k18 : CH → Nat → Nat → Int32 → Option (Int32 × CH)} {h : CH} {A : Nat → Nat} {lo y : Nat} {al : List Nat} {b : Nat → Nat} {n : Nat} {fk fp : Int32} {ts : List It} {W : Nat → Mi} {acts : List Act} {wy : Why} (I : Inv h A lo y al b n fk fp ts W acts wy) {i : Nat} (hi : i + 7 ≤ L) (hL : L ≤ 448) : Nx (m_L_law_1688 f xs L k18 h (A 23) y (ni i)) k18 h A lo y al i := by
  have K : Ok (m_X0_symmetries f h (A 23) (xs (Int32.toNatClampNeg (ni i + (1 : Int32))))) (fun h1 => m_X3_symmetries f h1 y (xs (Int32.toNatClampNeg (ni i + (1 : Int32))))) h A lo y al := ok_symmetries (f := f) (by omega) I _
  obtain ⟨r, h1, h2, a1, a2, a3, a4, a5, a6⟩ := K
  refine ⟨h2, ?_, a4, a5, a6⟩
  have a3' : m_X3_symmetries f h1 y (xs (Int32.toNatClampNeg (ni i + (1 : Int32)))) = some (r, h2) := a3
  unfold m_L_law_1688
  rw [gd_of (show ix (ni i + (1 : Int32)) L = true from ixj hi hL 1 (by decide)), gd_of I.x, a1, bd2_some]
  unfold m_L_law_1697
  rw [gd_of (show ix (ni i + (1 : Int32)) L = true from ixj hi hL 1 (by decide)), gd_of a2, a3', bd2_some]
  unfold m_L_law_1706
  rw [if_pos rfl]
  unfold m_L_law_1975
  rw [nmv_eq, ni7]
theorem law_takes {f : Nat} (hf : 2 ^ 63 ≤ f) {xs : Nat → Int32} {L : Nat} {k18 : CH → Nat → Nat → Int32 → Option (Int32 × CH)} {h : CH} {A : Nat → Nat} {lo y : Nat} {al : List Nat} {b : Nat → Nat} {n : Nat} {fk fp : Int32} {ts : List It} {W : Nat → Mi} {acts : List Act} {wy : Why} (I : Inv h A lo y al b n fk fp ts W acts wy) {i : Nat} (hi : i + 7 ≤ L) (hL : L ≤ 448) : Nx (m_L_law_1711 f xs L k18 h (A 23) y (ni i)) k18 h A lo y al i := by
  have K : Ok (m_X0_takes f h (A 23) (xs (Int32.toNatClampNeg (ni i + (1 : Int32)))) (xs (Int32.toNatClampNeg (ni i + (2 : Int32))))) (fun h1 => m_X3_takes f h1 y (xs (Int32.toNatClampNeg (ni i + (1 : Int32)))) (xs (Int32.toNatClampNeg (ni i + (2 : Int32))))) h A lo y al := ok_takes (f := f) (by omega) I _ _
  obtain ⟨r, h1, h2, a1, a2, a3, a4, a5, a6⟩ := K
  refine ⟨h2, ?_, a4, a5, a6⟩
  have a3' : m_X3_takes f h1 y (xs (Int32.toNatClampNeg (ni i + (1 : Int32)))) (xs (Int32.toNatClampNeg (ni i + (2 : Int32)))) = some (r, h2) := a3
  unfold m_L_law_1711
  rw [gd_of (show ix (ni i + (1 : Int32)) L = true from ixj hi hL 1 (by decide)), gd_of (show ix (ni i + (2 : Int32)) L = true from ixj hi hL 2 (by decide)), gd_of I.x, a1, bd2_some]
  unfold m_L_law_1725
  rw [gd_of (show ix (ni i + (1 : Int32)) L = true from ixj hi hL 1 (by decide)), gd_of (show ix (ni i + (2 : Int32)) L = true from ixj hi hL 2 (by decide)), gd_of a2, a3', bd2_some]
  unfold m_L_law_1739
  rw [if_pos rfl]
  unfold m_L_law_1975
  rw [nmv_eq, ni7]
theorem law_add {f : Nat} (hf : 2 ^ 63 ≤ f) {xs : Nat → Int32} {L : Nat} {k18 : CH → Nat → Nat → Int32 → Option (Int32 × CH)} {h : CH} {A : Nat → Nat} {lo y : Nat} {al : List Nat} {b : Nat → Nat} {n : Nat} {fk fp : Int32} {ts : List It} {W : Nat → Mi} {acts : List Act} {wy : Why} (I : Inv h A lo y al b n fk fp ts W acts wy) {i : Nat} (hi : i + 7 ≤ L) (hL : L ≤ 448) : Nx (m_L_law_1744 f xs L k18 h (A 23) y (ni i)) k18 h A lo y al i := by
  have K : Ok (m_X0_add f h (A 23) (xs (Int32.toNatClampNeg (ni i + (1 : Int32)))) (xs (Int32.toNatClampNeg (ni i + (2 : Int32)))) (xs (Int32.toNatClampNeg (ni i + (3 : Int32)))) (xs (Int32.toNatClampNeg (ni i + (4 : Int32))))) (fun h1 => tcr h1 y (fun z => m_X3_add f z (xs (Int32.toNatClampNeg (ni i + (1 : Int32)))) (xs (Int32.toNatClampNeg (ni i + (2 : Int32)))) (xs (Int32.toNatClampNeg (ni i + (3 : Int32)))) (xs (Int32.toNatClampNeg (ni i + (4 : Int32)))))) h A lo y al := ok_add (f := f) (by omega) I _ _ _ _
  obtain ⟨r, h1, h2, a1, a2, a3, a4, a5, a6⟩ := K
  refine ⟨h2, ?_, a4, a5, a6⟩
  have a3' : tcr h1 y (fun z => m_X3_add f z (xs (Int32.toNatClampNeg (ni i + (1 : Int32)))) (xs (Int32.toNatClampNeg (ni i + (2 : Int32)))) (xs (Int32.toNatClampNeg (ni i + (3 : Int32)))) (xs (Int32.toNatClampNeg (ni i + (4 : Int32))))) = some (r, h2) := a3
  unfold m_L_law_1744
  rw [gd_of (show ix (ni i + (1 : Int32)) L = true from ixj hi hL 1 (by decide)), gd_of (show ix (ni i + (2 : Int32)) L = true from ixj hi hL 2 (by decide)), gd_of (show ix (ni i + (3 : Int32)) L = true from ixj hi hL 3 (by decide)), gd_of (show ix (ni i + (4 : Int32)) L = true from ixj hi hL 4 (by decide)), gd_of I.x, a1, bd2_some]
  unfold m_L_law_1768
  rw [gd_of (show ix (ni i + (1 : Int32)) L = true from ixj hi hL 1 (by decide)), gd_of (show ix (ni i + (2 : Int32)) L = true from ixj hi hL 2 (by decide)), gd_of (show ix (ni i + (3 : Int32)) L = true from ixj hi hL 3 (by decide)), gd_of (show ix (ni i + (4 : Int32)) L = true from ixj hi hL 4 (by decide)), a3', bd2_some, if_pos rfl]
  unfold m_L_law_1975
  rw [nmv_eq, ni7]
theorem law_exchange {f : Nat} (hf : 2 ^ 63 ≤ f) {xs : Nat → Int32} {L : Nat} {k18 : CH → Nat → Nat → Int32 → Option (Int32 × CH)} {h : CH} {A : Nat → Nat} {lo y : Nat} {al : List Nat} {b : Nat → Nat} {n : Nat} {fk fp : Int32} {ts : List It} {W : Nat → Mi} {acts : List Act} {wy : Why} (I : Inv h A lo y al b n fk fp ts W acts wy) {i : Nat} (hi : i + 7 ≤ L) (hL : L ≤ 448) : Nx (m_L_law_1797 f xs L k18 h (A 23) y (ni i)) k18 h A lo y al i := by
  have K : Ok (m_X0_exchange f h (A 23) (xs (Int32.toNatClampNeg (ni i + (1 : Int32)))) (xs (Int32.toNatClampNeg (ni i + (2 : Int32)))) (xs (Int32.toNatClampNeg (ni i + (3 : Int32))))) (fun h1 => tcr h1 y (fun z => m_X3_exchange f z (xs (Int32.toNatClampNeg (ni i + (1 : Int32)))) (xs (Int32.toNatClampNeg (ni i + (2 : Int32)))) (xs (Int32.toNatClampNeg (ni i + (3 : Int32)))))) h A lo y al := ok_exchange (f := f) (by omega) I _ _ _
  obtain ⟨r, h1, h2, a1, a2, a3, a4, a5, a6⟩ := K
  refine ⟨h2, ?_, a4, a5, a6⟩
  have a3' : tcr h1 y (fun z => m_X3_exchange f z (xs (Int32.toNatClampNeg (ni i + (1 : Int32)))) (xs (Int32.toNatClampNeg (ni i + (2 : Int32)))) (xs (Int32.toNatClampNeg (ni i + (3 : Int32))))) = some (r, h2) := a3
  unfold m_L_law_1797
  rw [gd_of (show ix (ni i + (1 : Int32)) L = true from ixj hi hL 1 (by decide)), gd_of (show ix (ni i + (2 : Int32)) L = true from ixj hi hL 2 (by decide)), gd_of (show ix (ni i + (3 : Int32)) L = true from ixj hi hL 3 (by decide)), gd_of I.x, a1, bd2_some]
  unfold m_L_law_1816
  rw [gd_of (show ix (ni i + (1 : Int32)) L = true from ixj hi hL 1 (by decide)), gd_of (show ix (ni i + (2 : Int32)) L = true from ixj hi hL 2 (by decide)), gd_of (show ix (ni i + (3 : Int32)) L = true from ixj hi hL 3 (by decide)), a3', bd2_some, if_pos rfl]
  unfold m_L_law_1975
  rw [nmv_eq, ni7]
theorem law_negate {f : Nat} (hf : 2 ^ 63 ≤ f) {xs : Nat → Int32} {L : Nat} {k18 : CH → Nat → Nat → Int32 → Option (Int32 × CH)} {h : CH} {A : Nat → Nat} {lo y : Nat} {al : List Nat} {b : Nat → Nat} {n : Nat} {fk fp : Int32} {ts : List It} {W : Nat → Mi} {acts : List Act} {wy : Why} (I : Inv h A lo y al b n fk fp ts W acts wy) {i : Nat} (hi : i + 7 ≤ L) (hL : L ≤ 448) : Nx (m_L_law_1840 f xs L k18 h (A 23) y (ni i)) k18 h A lo y al i := by
  have K : Ok (m_X0_negate f h (A 23) (xs (Int32.toNatClampNeg (ni i + (1 : Int32)))) (xs (Int32.toNatClampNeg (ni i + (2 : Int32))))) (fun h1 => tcr h1 y (fun z => m_X3_negate f z (xs (Int32.toNatClampNeg (ni i + (1 : Int32)))) (xs (Int32.toNatClampNeg (ni i + (2 : Int32)))))) h A lo y al := ok_negate (f := f) (by omega) I _ _
  obtain ⟨r, h1, h2, a1, a2, a3, a4, a5, a6⟩ := K
  refine ⟨h2, ?_, a4, a5, a6⟩
  have a3' : tcr h1 y (fun z => m_X3_negate f z (xs (Int32.toNatClampNeg (ni i + (1 : Int32)))) (xs (Int32.toNatClampNeg (ni i + (2 : Int32))))) = some (r, h2) := a3
  unfold m_L_law_1840
  rw [gd_of (show ix (ni i + (1 : Int32)) L = true from ixj hi hL 1 (by decide)), gd_of (show ix (ni i + (2 : Int32)) L = true from ixj hi hL 2 (by decide)), gd_of I.x, a1, bd2_some]
  unfold m_L_law_1854
  rw [gd_of (show ix (ni i + (1 : Int32)) L = true from ixj hi hL 1 (by decide)), gd_of (show ix (ni i + (2 : Int32)) L = true from ixj hi hL 2 (by decide)), a3', bd2_some, if_pos rfl]
  unfold m_L_law_1975
  rw [nmv_eq, ni7]
theorem law_put {f : Nat} (hf : 2 ^ 63 ≤ f) {xs : Nat → Int32} {L : Nat} {k18 : CH → Nat → Nat → Int32 → Option (Int32 × CH)} {h : CH} {A : Nat → Nat} {lo y : Nat} {al : List Nat} {b : Nat → Nat} {n : Nat} {fk fp : Int32} {ts : List It} {W : Nat → Mi} {acts : List Act} {wy : Why} (I : Inv h A lo y al b n fk fp ts W acts wy) {i : Nat} (hi : i + 7 ≤ L) (hL : L ≤ 448) : Nx (m_L_law_1873 f xs L k18 h (A 23) y (ni i)) k18 h A lo y al i := by
  have K : OkX (m_X0_put f h (A 23) (xs (Int32.toNatClampNeg (ni i + (1 : Int32)))) (xs (Int32.toNatClampNeg (ni i + (2 : Int32)))) (xs (Int32.toNatClampNeg (ni i + (3 : Int32)))) (xs (Int32.toNatClampNeg (ni i + (4 : Int32))))) (fun h1 => tcr h1 y (fun z => m_X3_put f z (xs (Int32.toNatClampNeg (ni i + (1 : Int32)))) (xs (Int32.toNatClampNeg (ni i + (2 : Int32)))) (xs (Int32.toNatClampNeg (ni i + (3 : Int32)))) (xs (Int32.toNatClampNeg (ni i + (4 : Int32)))))) h A lo y al := ok_put (f := f) (by omega) I _ _ _ _
  obtain ⟨r, h1, h2, a1, a2, a3, a4, a5, a6⟩ := K
  refine ⟨h2, ?_, a4, a5, a6⟩
  have a3' : tcr h1 y (fun z => m_X3_put f z (xs (Int32.toNatClampNeg (ni i + (1 : Int32)))) (xs (Int32.toNatClampNeg (ni i + (2 : Int32)))) (xs (Int32.toNatClampNeg (ni i + (3 : Int32)))) (xs (Int32.toNatClampNeg (ni i + (4 : Int32))))) = some (r, h2) := a3
  unfold m_L_law_1873
  rw [gd_of (show ix (ni i + (1 : Int32)) L = true from ixj hi hL 1 (by decide)), gd_of (show ix (ni i + (2 : Int32)) L = true from ixj hi hL 2 (by decide)), gd_of (show ix (ni i + (3 : Int32)) L = true from ixj hi hL 3 (by decide)), gd_of (show ix (ni i + (4 : Int32)) L = true from ixj hi hL 4 (by decide)), gd_of I.x, a1, bx_l]
  unfold m_L_law_1897
  rw [gd_of (show ix (ni i + (1 : Int32)) L = true from ixj hi hL 1 (by decide)), gd_of (show ix (ni i + (2 : Int32)) L = true from ixj hi hL 2 (by decide)), gd_of (show ix (ni i + (3 : Int32)) L = true from ixj hi hL 3 (by decide)), gd_of (show ix (ni i + (4 : Int32)) L = true from ixj hi hL 4 (by decide)), a3', bd2_some, if_pos rfl]
  unfold m_L_law_1975
  rw [nmv_eq, ni7]
theorem law_why {f : Nat} (hf : 2 ^ 63 ≤ f) {xs : Nat → Int32} {L : Nat} {k18 : CH → Nat → Nat → Int32 → Option (Int32 × CH)} {h : CH} {A : Nat → Nat} {lo y : Nat} {al : List Nat} {b : Nat → Nat} {n : Nat} {fk fp : Int32} {ts : List It} {W : Nat → Mi} {acts : List Act} {wy : Why} (I : Inv h A lo y al b n fk fp ts W acts wy) {i : Nat} (hi : i + 7 ≤ L) (hL : L ≤ 448) : Nx (m_L_law_1926 f xs L k18 h (A 23) y (ni i)) k18 h A lo y al i := by
  have K : Ok (m_X0_why f h (A 23) (xs (Int32.toNatClampNeg (ni i + (1 : Int32))))) (fun h1 => tcr h1 y (fun z => m_X3_why f z (xs (Int32.toNatClampNeg (ni i + (1 : Int32)))))) h A lo y al := ok_why (f := f) I _
  obtain ⟨r, h1, h2, a1, a2, a3, a4, a5, a6⟩ := K
  refine ⟨h2, ?_, a4, a5, a6⟩
  have a3' : tcr h1 y (fun z => m_X3_why f z (xs (Int32.toNatClampNeg (ni i + (1 : Int32))))) = some (r, h2) := a3
  unfold m_L_law_1926
  rw [gd_of (show ix (ni i + (1 : Int32)) L = true from ixj hi hL 1 (by decide)), gd_of I.x, a1, bd2_some]
  unfold m_L_law_1935
  rw [gd_of (show ix (ni i + (1 : Int32)) L = true from ixj hi hL 1 (by decide)), a3', bd2_some, if_pos rfl]
  unfold m_L_law_1975
  rw [nmv_eq, ni7]
theorem law_undo {f : Nat} (hf : 2 ^ 63 ≤ f) {xs : Nat → Int32} {L : Nat} {k18 : CH → Nat → Nat → Int32 → Option (Int32 × CH)} {h : CH} {A : Nat → Nat} {lo y : Nat} {al : List Nat} {b : Nat → Nat} {n : Nat} {fk fp : Int32} {ts : List It} {W : Nat → Mi} {acts : List Act} {wy : Why} (I : Inv h A lo y al b n fk fp ts W acts wy) {i : Nat} (hi : i + 7 ≤ L) (hL : L ≤ 448) : Nx (m_L_law_1949 f xs L k18 h (A 23) y (ni i)) k18 h A lo y al i := by
  have K : Ok (m_X0_undo f h (A 23)) (fun h1 => tcr h1 y (fun z => m_X3_undo f z)) h A lo y al := ok_undo (f := f) (by omega) I
  obtain ⟨r, h1, h2, a1, a2, a3, a4, a5, a6⟩ := K
  refine ⟨h2, ?_, a4, a5, a6⟩
  have a3' : tcr h1 y (fun z => m_X3_undo f z) = some (r, h2) := a3
  unfold m_L_law_1949
  rw [gd_of I.x, a1, bd2_some]
  unfold m_L_law_1953
  rw [a3', bd2_some, if_pos rfl]
  unfold m_L_law_1975
  rw [nmv_eq, ni7]
theorem law_anew {f : Nat} (hf : 2 ^ 63 ≤ f) {xs : Nat → Int32} {L : Nat} {k18 : CH → Nat → Nat → Int32 → Option (Int32 × CH)} {h : CH} {A : Nat → Nat} {lo y : Nat} {al : List Nat} {b : Nat → Nat} {n : Nat} {fk fp : Int32} {ts : List It} {W : Nat → Mi} {acts : List Act} {wy : Why} (I : Inv h A lo y al b n fk fp ts W acts wy) {i : Nat} (hi : i + 7 ≤ L) (hL : L ≤ 448) : Nx (m_L_law_1962 f xs L k18 h (A 23) y (ni i)) k18 h A lo y al i := by
  have K : Ok (m_X0_anew f h (A 23)) (fun h1 => tcr h1 y (fun z => m_X3_anew f z)) h A lo y al := ok_anew (f := f) (by omega) I
  obtain ⟨r, h1, h2, a1, a2, a3, a4, a5, a6⟩ := K
  refine ⟨h2, ?_, a4, a5, a6⟩
  have a3' : tcr h1 y (fun z => m_X3_anew f z) = some (r, h2) := a3
  unfold m_L_law_1962
  rw [gd_of I.x, a1, bd2_some]
  unfold m_L_law_1966
  rw [a3', bd2_some, if_pos rfl]
  unfold m_L_law_1975
  rw [nmv_eq, ni7]
theorem law_18 {f : Nat} (hf : 2 ^ 63 ≤ f) {xs : Nat → Int32} {L m : Nat} {h : CH} {A : Nat → Nat} {lo y : Nat} {al : List Nat} {b : Nat → Nat} {n : Nat} {fk fp : Int32} {ts : List It} {W : Nat → Mi} {acts : List Act} {wy : Why} (I : Inv h A lo y al b n fk fp ts W acts wy) {i : Nat} (hi : i + 7 ≤ L) (hL : L ≤ 448) (hlt : ¬ (Int32.ofNat L) - (7 : Int32) < ni i) : Nx (m_L_law_18 f xs L (m + 1) h (A 23) y (ni i)) (m_L_law_18 f xs L m) h A lo y al i := by
  rw [m_L_law_18, if_neg hlt, gd_of (show ix (ni i) L = true from ix_ni (by omega) (by omega))]
  generalize (xs (Int32.toNatClampNeg (ni i))) &&& (63 : Int32) = v
  by_cases e0 : v = (0 : Int32)
  · rw [if_pos e0]; exact law_feed hf I hi hL
  rw [if_neg e0]
  by_cases e1 : v = (1 : Int32)
  · rw [if_pos e1]; exact law_end hf I hi hL
  rw [if_neg e1]
  by_cases e2 : v = (2 : Int32)
  · rw [if_pos e2]; exact law_lattices hf I hi hL
  rw [if_neg e2]
  by_cases e3 : v = (3 : Int32)
  · rw [if_pos e3]; exact law_fault hf I hi hL
  rw [if_neg e3]
  by_cases e4 : v = (4 : Int32)
  · rw [if_pos e4]; exact law_count hf I hi hL
  rw [if_neg e4]
  by_cases e5 : v = (5 : Int32)
  · rw [if_pos e5]; exact law_row hf I hi hL
  rw [if_neg e5]
  by_cases e6 : v = (6 : Int32)
  · rw [if_pos e6]; exact law_over hf I hi hL
  rw [if_neg e6]
  by_cases e7 : v = (7 : Int32)
  · rw [if_pos e7]; exact law_hermite hf I hi hL
  rw [if_neg e7]
  by_cases e8 : v = (8 : Int32)
  · rw [if_pos e8]; exact law_steps hf I hi hL
  rw [if_neg e8]
  by_cases e9 : v = (9 : Int32)
  · rw [if_pos e9]; exact law_step hf I hi hL
  rw [if_neg e9]
  by_cases e10 : v = (10 : Int32)
  · rw [if_pos e10]; exact law_volume hf I hi hL
  rw [if_neg e10]
  by_cases e11 : v = (11 : Int32)
  · rw [if_pos e11]; exact law_smith hf I hi hL
  rw [if_neg e11]
  by_cases e12 : v = (12 : Int32)
  · rw [if_pos e12]; exact law_has hf I hi hL
  rw [if_neg e12]
  by_cases e13 : v = (13 : Int32)
  · rw [if_pos e13]; exact law_inside hf I hi hL
  rw [if_neg e13]
  by_cases e14 : v = (14 : Int32)
  · rw [if_pos e14]; exact law_meetOver hf I hi hL
  rw [if_neg e14]
  by_cases e15 : v = (15 : Int32)
  · rw [if_pos e15]; exact law_meet hf I hi hL
  rw [if_neg e15]
  by_cases e16 : v = (16 : Int32)
  · rw [if_pos e16]; exact law_joinOver hf I hi hL
  rw [if_neg e16]
  by_cases e17 : v = (17 : Int32)
  · rw [if_pos e17]; exact law_join hf I hi hL
  rw [if_neg e17]
  by_cases e18 : v = (18 : Int32)
  · rw [if_pos e18]; exact law_index hf I hi hL
  rw [if_neg e18]
  by_cases e19 : v = (19 : Int32)
  · rw [if_pos e19]; exact law_group hf I hi hL
  rw [if_neg e19]
  by_cases e20 : v = (20 : Int32)
  · rw [if_pos e20]; exact law_met hf I hi hL
  rw [if_neg e20]
  by_cases e21 : v = (21 : Int32)
  · rw [if_pos e21]; exact law_order hf I hi hL
  rw [if_neg e21]
  by_cases e22 : v = (22 : Int32)
  · rw [if_pos e22]; exact law_reduced hf I hi hL
  rw [if_neg e22]
  by_cases e23 : v = (23 : Int32)
  · rw [if_pos e23]; exact law_bettered hf I hi hL
  rw [if_neg e23]
  by_cases e24 : v = (24 : Int32)
  · rw [if_pos e24]; exact law_length hf I hi hL
  rw [if_neg e24]
  by_cases e25 : v = (25 : Int32)
  · rw [if_pos e25]; exact law_kiss hf I hi hL
  rw [if_neg e25]
  by_cases e26 : v = (26 : Int32)
  · rw [if_pos e26]; exact law_meetLength hf I hi hL
  rw [if_neg e26]
  by_cases e27 : v = (27 : Int32)
  · rw [if_pos e27]; exact law_area hf I hi hL
  rw [if_neg e27]
  by_cases e28 : v = (28 : Int32)
  · rw [if_pos e28]; exact law_layers hf I hi hL
  rw [if_neg e28]
  by_cases e29 : v = (29 : Int32)
  · rw [if_pos e29]; exact law_planar hf I hi hL
  rw [if_neg e29]
  by_cases e30 : v = (30 : Int32)
  · rw [if_pos e30]; exact law_best hf I hi hL
  rw [if_neg e30]
  by_cases e31 : v = (31 : Int32)
  · rw [if_pos e31]; exact law_cosine hf I hi hL
  rw [if_neg e31]
  by_cases e32 : v = (32 : Int32)
  · rw [if_pos e32]; exact law_coset hf I hi hL
  rw [if_neg e32]
  by_cases e33 : v = (33 : Int32)
  · rw [if_pos e33]; exact law_turned hf I hi hL
  rw [if_neg e33]
  by_cases e34 : v = (34 : Int32)
  · rw [if_pos e34]; exact law_turnOf hf I hi hL
  rw [if_neg e34]
  by_cases e35 : v = (35 : Int32)
  · rw [if_pos e35]; exact law_symmetries hf I hi hL
  rw [if_neg e35]
  by_cases e36 : v = (36 : Int32)
  · rw [if_pos e36]; exact law_takes hf I hi hL
  rw [if_neg e36]
  by_cases e37 : v = (37 : Int32)
  · rw [if_pos e37]; exact law_add hf I hi hL
  rw [if_neg e37]
  by_cases e38 : v = (38 : Int32)
  · rw [if_pos e38]; exact law_exchange hf I hi hL
  rw [if_neg e38]
  by_cases e39 : v = (39 : Int32)
  · rw [if_pos e39]; exact law_negate hf I hi hL
  rw [if_neg e39]
  by_cases e40 : v = (40 : Int32)
  · rw [if_pos e40]; exact law_put hf I hi hL
  rw [if_neg e40]
  by_cases e41 : v = (41 : Int32)
  · rw [if_pos e41]; exact law_why hf I hi hL
  rw [if_neg e41]
  by_cases e42 : v = (42 : Int32)
  · rw [if_pos e42]; exact law_undo hf I hi hL
  rw [if_neg e42]
  by_cases e43 : v = (43 : Int32)
  · rw [if_pos e43]; exact law_anew hf I hi hL
  rw [if_neg e43]
  refine ⟨h, ?_, by omega, by omega, b, n, fk, fp, ts, W, acts, wy, I⟩
  unfold m_L_law_1975
  rw [nmv_eq, ni7]
theorem law_loop {f : Nat} (hf : 2 ^ 63 ≤ f) {xs : Nat → Int32} {L : Nat} (hL : L ≤ 448) {A : Nat → Nat} {lo y : Nat} {al : List Nat} : ∀ j i m h, L < i + 7 * (j + 1) → i ≤ 448 → j < m → (∃ b n fk fp ts W acts wy, Inv h A lo y al b n fk fp ts W acts wy) → ∃ u9, m_L_law_18 f xs L m h (A 23) y (ni i) = some (1, u9) ∧ u9.1 ≤ h.1 + 9300 * j ∧ u9.2.1 ≤ h.2.1 + 112000 * j := by
  have cmp : ∀ i, i ≤ 448 → ((Int32.ofNat L) - (7 : Int32) < ni i ↔ L < i + 7) := fun i hi => by
    have e : Int32.ofNat L - (7 : Int32) = Int32.ofInt ((L : Int) - 7) := by
      rw [Int32.ofInt_sub, Int32.ofInt_eq_ofNat]; rfl
    rw [Int32.lt_iff_toInt_lt, e, Int32.toInt_ofInt_of_le (by omega) (by omega), ni_toInt (by omega)]
    omega
  intro j
  induction j with
  | zero =>
    intro i m h h1 h2 h3 _
    obtain ⟨m, rfl⟩ : ∃ z, m = z + 1 := ⟨m - 1, by omega⟩
    rw [m_L_law_18, if_pos ((cmp i h2).mpr (by omega))]
    exact ⟨h, rfl, by omega, by omega⟩
  | succ j ih =>
    intro i m h h1 h2 h3 hI
    obtain ⟨m, rfl⟩ : ∃ z, m = z + 1 := ⟨m - 1, by omega⟩
    by_cases hi : i + 7 ≤ L
    · obtain ⟨b, n, fk, fp, ts, W, acts, wy, I⟩ := hI
      obtain ⟨h2', e, q1, q2, q3⟩ := law_18 (m := m) (xs := xs) hf I hi hL (fun hh => by have := (cmp i h2).mp hh; omega)
      obtain ⟨u9, p1, p2, p3'⟩ := ih (i + 7) m h2' (by omega) (by omega) (by omega) q3
      exact ⟨u9, by rw [e, p1], by omega, by omega⟩
    · rw [m_L_law_18, if_pos ((cmp i h2).mpr (by omega))]
      exact ⟨h, rfl, by omega, by omega⟩
