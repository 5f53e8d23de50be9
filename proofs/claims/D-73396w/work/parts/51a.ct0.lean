/-! walks of the twin's methods with own arrays or Strings (printed by gen/all_ct.py) -/
set_option maxRecDepth 100000
noncomputable section
def m_X3_init_181 (f : Nat) (h : CH) (y0 : Nat) (y1 : Nat) : Option CH := bd (pF h 0 39 y0 (.ref y1)) fun h1 =>
    some h1
theorem mo_X3_init_181 {f : Nat} : ∀ (h : CH) (y0 : Nat) (y1 : Nat) (r : CH), m_X3_init_181 f h y0 y1 = some r → le2 h r := by
  intro h y0 y1 r hm
  rw [m_X3_init_181] at hm
  obtain ⟨h1, eh1, hm⟩ := bdE hm
  have lh1 := pF_le eh1
  cases hm
  exact (lh1.tr le2.rf)
def m_X3_init_174 (f : Nat) (h : CH) (x0 : Nat) (y0 : Nat) (y1 : Nat) : Option CH := bd (pF h 0 38 y0 (.ref y1)) fun h1 =>
    nmv (cn h1 3 (.inr (1, 3, .inr (.inl (fun _ => 0))))) fun h2 =>
    nmv (h1.1 : Nat) fun a3 =>
    m_X3_init_181 f h2 x0 a3
theorem mo_X3_init_174 {f : Nat} : ∀ (h : CH) (x0 : Nat) (y0 : Nat) (y1 : Nat) (r : CH), m_X3_init_174 f h x0 y0 y1 = some r → le2 h r := by
  intro h x0 y0 y1 r hm
  rw [m_X3_init_174] at hm
  obtain ⟨h1, eh1, hm⟩ := bdE hm
  have lh1 := pF_le eh1
  obtain ⟨h2, eh2, hm⟩ := nmE hm
  have lh2 := cn_le eh2
  obtain ⟨a3, ea3, hm⟩ := nmE hm
  exact (lh1.tr (lh2.tr (mo_X3_init_181  h2 x0 a3 _ hm)))
def m_X3_init_167 (f : Nat) (h : CH) (x0 : Nat) (y0 : Nat) (y1 : Nat) : Option CH := bd (pF h 0 37 y0 (.ref y1)) fun h1 =>
    nmv (cn h1 3 (.inr (1, 3, .inr (.inl (fun _ => 0))))) fun h2 =>
    nmv (h1.1 : Nat) fun a3 =>
    m_X3_init_174 f h2 x0 x0 a3
theorem mo_X3_init_167 {f : Nat} : ∀ (h : CH) (x0 : Nat) (y0 : Nat) (y1 : Nat) (r : CH), m_X3_init_167 f h x0 y0 y1 = some r → le2 h r := by
  intro h x0 y0 y1 r hm
  rw [m_X3_init_167] at hm
  obtain ⟨h1, eh1, hm⟩ := bdE hm
  have lh1 := pF_le eh1
  obtain ⟨h2, eh2, hm⟩ := nmE hm
  have lh2 := cn_le eh2
  obtain ⟨a3, ea3, hm⟩ := nmE hm
  exact (lh1.tr (lh2.tr (mo_X3_init_174  h2 x0 x0 a3 _ hm)))
def m_X3_init_160 (f : Nat) (h : CH) (x0 : Nat) (y0 : Nat) (y1 : Nat) : Option CH := bd (pF h 0 36 y0 (.ref y1)) fun h1 =>
    nmv (cn h1 3 (.inr (1, 3, .inr (.inl (fun _ => 0))))) fun h2 =>
    nmv (h1.1 : Nat) fun a3 =>
    m_X3_init_167 f h2 x0 x0 a3
theorem mo_X3_init_160 {f : Nat} : ∀ (h : CH) (x0 : Nat) (y0 : Nat) (y1 : Nat) (r : CH), m_X3_init_160 f h x0 y0 y1 = some r → le2 h r := by
  intro h x0 y0 y1 r hm
  rw [m_X3_init_160] at hm
  obtain ⟨h1, eh1, hm⟩ := bdE hm
  have lh1 := pF_le eh1
  obtain ⟨h2, eh2, hm⟩ := nmE hm
  have lh2 := cn_le eh2
  obtain ⟨a3, ea3, hm⟩ := nmE hm
  exact (lh1.tr (lh2.tr (mo_X3_init_167  h2 x0 x0 a3 _ hm)))
def m_X3_init_153 (f : Nat) (h : CH) (x0 : Nat) (y0 : Nat) (y1 : Nat) : Option CH := bd (pF h 0 34 y0 (.ref y1)) fun h1 =>
    nmv (cn h1 3 (.inr (1, 3, .inr (.inl (fun _ => 0))))) fun h2 =>
    nmv (h1.1 : Nat) fun a3 =>
    m_X3_init_160 f h2 x0 x0 a3
theorem mo_X3_init_153 {f : Nat} : ∀ (h : CH) (x0 : Nat) (y0 : Nat) (y1 : Nat) (r : CH), m_X3_init_153 f h x0 y0 y1 = some r → le2 h r := by
  intro h x0 y0 y1 r hm
  rw [m_X3_init_153] at hm
  obtain ⟨h1, eh1, hm⟩ := bdE hm
  have lh1 := pF_le eh1
  obtain ⟨h2, eh2, hm⟩ := nmE hm
  have lh2 := cn_le eh2
  obtain ⟨a3, ea3, hm⟩ := nmE hm
  exact (lh1.tr (lh2.tr (mo_X3_init_160  h2 x0 x0 a3 _ hm)))
def m_X3_init_145 (f : Nat) (h : CH) (x0 : Nat) (y0 : Nat) (y1 : Nat) : Option CH := bd (pF h 0 33 y0 (.ref y1)) fun h1 =>
    nmv (cn h1 18 (.inr (1, 18, .inr (.inl (fun _ => 0))))) fun h2 =>
    nmv (h1.1 : Nat) fun a3 =>
    m_X3_init_153 f h2 x0 x0 a3
theorem mo_X3_init_145 {f : Nat} : ∀ (h : CH) (x0 : Nat) (y0 : Nat) (y1 : Nat) (r : CH), m_X3_init_145 f h x0 y0 y1 = some r → le2 h r := by
  intro h x0 y0 y1 r hm
  rw [m_X3_init_145] at hm
  obtain ⟨h1, eh1, hm⟩ := bdE hm
  have lh1 := pF_le eh1
  obtain ⟨h2, eh2, hm⟩ := nmE hm
  have lh2 := cn_le eh2
  obtain ⟨a3, ea3, hm⟩ := nmE hm
  exact (lh1.tr (lh2.tr (mo_X3_init_153  h2 x0 x0 a3 _ hm)))
def m_X3_init_137 (f : Nat) (h : CH) (x0 : Nat) (y0 : Nat) (y1 : Nat) : Option CH := bd (pF h 0 32 y0 (.ref y1)) fun h1 =>
    nmv (cn h1 16 (.inr (1, 16, .inr (.inl (fun _ => 0))))) fun h2 =>
    nmv (h1.1 : Nat) fun a3 =>
    m_X3_init_145 f h2 x0 x0 a3
theorem mo_X3_init_137 {f : Nat} : ∀ (h : CH) (x0 : Nat) (y0 : Nat) (y1 : Nat) (r : CH), m_X3_init_137 f h x0 y0 y1 = some r → le2 h r := by
  intro h x0 y0 y1 r hm
  rw [m_X3_init_137] at hm
  obtain ⟨h1, eh1, hm⟩ := bdE hm
  have lh1 := pF_le eh1
  obtain ⟨h2, eh2, hm⟩ := nmE hm
  have lh2 := cn_le eh2
  obtain ⟨a3, ea3, hm⟩ := nmE hm
  exact (lh1.tr (lh2.tr (mo_X3_init_145  h2 x0 x0 a3 _ hm)))
def m_X3_init_129 (f : Nat) (h : CH) (x0 : Nat) (y0 : Nat) (y1 : Nat) : Option CH := bd (pF h 0 29 y0 (.ref y1)) fun h1 =>
    nmv (cn h1 9 (.inr (1, 9, .inr (.inl (fun _ => 0))))) fun h2 =>
    nmv (h1.1 : Nat) fun a3 =>
    m_X3_init_137 f h2 x0 x0 a3
theorem mo_X3_init_129 {f : Nat} : ∀ (h : CH) (x0 : Nat) (y0 : Nat) (y1 : Nat) (r : CH), m_X3_init_129 f h x0 y0 y1 = some r → le2 h r := by
  intro h x0 y0 y1 r hm
  rw [m_X3_init_129] at hm
  obtain ⟨h1, eh1, hm⟩ := bdE hm
  have lh1 := pF_le eh1
  obtain ⟨h2, eh2, hm⟩ := nmE hm
  have lh2 := cn_le eh2
  obtain ⟨a3, ea3, hm⟩ := nmE hm
  exact (lh1.tr (lh2.tr (mo_X3_init_137  h2 x0 x0 a3 _ hm)))
def m_X3_init_121 (f : Nat) (h : CH) (x0 : Nat) (y0 : Nat) (y1 : Nat) : Option CH := bd (pF h 0 27 y0 (.ref y1)) fun h1 =>
    nmv (cn h1 9 (.inr (1, 9, .inr (.inl (fun _ => 0))))) fun h2 =>
    nmv (h1.1 : Nat) fun a3 =>
    m_X3_init_129 f h2 x0 x0 a3
theorem mo_X3_init_121 {f : Nat} : ∀ (h : CH) (x0 : Nat) (y0 : Nat) (y1 : Nat) (r : CH), m_X3_init_121 f h x0 y0 y1 = some r → le2 h r := by
  intro h x0 y0 y1 r hm
  rw [m_X3_init_121] at hm
  obtain ⟨h1, eh1, hm⟩ := bdE hm
  have lh1 := pF_le eh1
  obtain ⟨h2, eh2, hm⟩ := nmE hm
  have lh2 := cn_le eh2
  obtain ⟨a3, ea3, hm⟩ := nmE hm
  exact (lh1.tr (lh2.tr (mo_X3_init_129  h2 x0 x0 a3 _ hm)))
def m_X3_init_113 (f : Nat) (h : CH) (x0 : Nat) (y0 : Nat) (y1 : Nat) : Option CH := bd (pF h 0 26 y0 (.ref y1)) fun h1 =>
    nmv (cn h1 9 (.inr (1, 9, .inr (.inl (fun _ => 0))))) fun h2 =>
    nmv (h1.1 : Nat) fun a3 =>
    m_X3_init_121 f h2 x0 x0 a3
theorem mo_X3_init_113 {f : Nat} : ∀ (h : CH) (x0 : Nat) (y0 : Nat) (y1 : Nat) (r : CH), m_X3_init_113 f h x0 y0 y1 = some r → le2 h r := by
  intro h x0 y0 y1 r hm
  rw [m_X3_init_113] at hm
  obtain ⟨h1, eh1, hm⟩ := bdE hm
  have lh1 := pF_le eh1
  obtain ⟨h2, eh2, hm⟩ := nmE hm
  have lh2 := cn_le eh2
  obtain ⟨a3, ea3, hm⟩ := nmE hm
  exact (lh1.tr (lh2.tr (mo_X3_init_121  h2 x0 x0 a3 _ hm)))
def m_X3_init_106 (f : Nat) (h : CH) (x0 : Nat) (y0 : Nat) (y1 : Nat) : Option CH := bd (pF h 0 24 y0 (.ref y1)) fun h1 =>
    nmv (cn h1 3 (.inr (1, 3, .inr (.inl (fun _ => 0))))) fun h2 =>
    nmv (h1.1 : Nat) fun a3 =>
    m_X3_init_113 f h2 x0 x0 a3
theorem mo_X3_init_106 {f : Nat} : ∀ (h : CH) (x0 : Nat) (y0 : Nat) (y1 : Nat) (r : CH), m_X3_init_106 f h x0 y0 y1 = some r → le2 h r := by
  intro h x0 y0 y1 r hm
  rw [m_X3_init_106] at hm
  obtain ⟨h1, eh1, hm⟩ := bdE hm
  have lh1 := pF_le eh1
  obtain ⟨h2, eh2, hm⟩ := nmE hm
  have lh2 := cn_le eh2
  obtain ⟨a3, ea3, hm⟩ := nmE hm
  exact (lh1.tr (lh2.tr (mo_X3_init_113  h2 x0 x0 a3 _ hm)))
def m_X3_init_97 (f : Nat) (h : CH) (x0 : Nat) (y0 : Nat) (y1 : Nat) : Option CH := bd (pF h 0 23 y0 (.ref y1)) fun h1 =>
    nmv (cn h1 400 (.inr (1, 400, .inr (.inl (fun _ => 0))))) fun h2 =>
    nmv (h1.1 : Nat) fun a3 =>
    m_X3_init_106 f h2 x0 x0 a3
theorem mo_X3_init_97 {f : Nat} : ∀ (h : CH) (x0 : Nat) (y0 : Nat) (y1 : Nat) (r : CH), m_X3_init_97 f h x0 y0 y1 = some r → le2 h r := by
  intro h x0 y0 y1 r hm
  rw [m_X3_init_97] at hm
  obtain ⟨h1, eh1, hm⟩ := bdE hm
  have lh1 := pF_le eh1
  obtain ⟨h2, eh2, hm⟩ := nmE hm
  have lh2 := cn_le eh2
  obtain ⟨a3, ea3, hm⟩ := nmE hm
  exact (lh1.tr (lh2.tr (mo_X3_init_106  h2 x0 x0 a3 _ hm)))
def m_X3_init_88 (f : Nat) (h : CH) (x0 : Nat) (y0 : Nat) (y1 : Nat) : Option CH := bd (pF h 0 22 y0 (.ref y1)) fun h1 =>
    nmv (cn h1 400 (.inr (0, 400, .inl (fun _ => 0)))) fun h2 =>
    nmv (h1.1 : Nat) fun a3 =>
    m_X3_init_97 f h2 x0 x0 a3
theorem mo_X3_init_88 {f : Nat} : ∀ (h : CH) (x0 : Nat) (y0 : Nat) (y1 : Nat) (r : CH), m_X3_init_88 f h x0 y0 y1 = some r → le2 h r := by
  intro h x0 y0 y1 r hm
  rw [m_X3_init_88] at hm
  obtain ⟨h1, eh1, hm⟩ := bdE hm
  have lh1 := pF_le eh1
  obtain ⟨h2, eh2, hm⟩ := nmE hm
  have lh2 := cn_le eh2
  obtain ⟨a3, ea3, hm⟩ := nmE hm
  exact (lh1.tr (lh2.tr (mo_X3_init_97  h2 x0 x0 a3 _ hm)))
def m_X3_init_79 (f : Nat) (h : CH) (x0 : Nat) (y0 : Nat) (y1 : Nat) : Option CH := bd (pF h 0 21 y0 (.ref y1)) fun h1 =>
    nmv (cn h1 400 (.inr (0, 400, .inl (fun _ => 0)))) fun h2 =>
    nmv (h1.1 : Nat) fun a3 =>
    m_X3_init_88 f h2 x0 x0 a3
theorem mo_X3_init_79 {f : Nat} : ∀ (h : CH) (x0 : Nat) (y0 : Nat) (y1 : Nat) (r : CH), m_X3_init_79 f h x0 y0 y1 = some r → le2 h r := by
  intro h x0 y0 y1 r hm
  rw [m_X3_init_79] at hm
  obtain ⟨h1, eh1, hm⟩ := bdE hm
  have lh1 := pF_le eh1
  obtain ⟨h2, eh2, hm⟩ := nmE hm
  have lh2 := cn_le eh2
  obtain ⟨a3, ea3, hm⟩ := nmE hm
  exact (lh1.tr (lh2.tr (mo_X3_init_88  h2 x0 x0 a3 _ hm)))
def m_X3_init_70 (f : Nat) (h : CH) (x0 : Nat) (y0 : Nat) (y1 : Nat) : Option CH := bd (pF h 0 20 y0 (.ref y1)) fun h1 =>
    nmv (cn h1 400 (.inr (0, 400, .inl (fun _ => 0)))) fun h2 =>
    nmv (h1.1 : Nat) fun a3 =>
    m_X3_init_79 f h2 x0 x0 a3
theorem mo_X3_init_70 {f : Nat} : ∀ (h : CH) (x0 : Nat) (y0 : Nat) (y1 : Nat) (r : CH), m_X3_init_70 f h x0 y0 y1 = some r → le2 h r := by
  intro h x0 y0 y1 r hm
  rw [m_X3_init_70] at hm
  obtain ⟨h1, eh1, hm⟩ := bdE hm
  have lh1 := pF_le eh1
  obtain ⟨h2, eh2, hm⟩ := nmE hm
  have lh2 := cn_le eh2
  obtain ⟨a3, ea3, hm⟩ := nmE hm
  exact (lh1.tr (lh2.tr (mo_X3_init_79  h2 x0 x0 a3 _ hm)))
def m_X3_init_62 (f : Nat) (h : CH) (x0 : Nat) (y0 : Nat) (y1 : Nat) : Option CH := bd (pF h 0 18 y0 (.ref y1)) fun h1 =>
    nmv (cn h1 9 (.inr (1, 9, .inr (.inl (fun _ => 0))))) fun h2 =>
    nmv (h1.1 : Nat) fun a3 =>
    m_X3_init_70 f h2 x0 x0 a3
theorem mo_X3_init_62 {f : Nat} : ∀ (h : CH) (x0 : Nat) (y0 : Nat) (y1 : Nat) (r : CH), m_X3_init_62 f h x0 y0 y1 = some r → le2 h r := by
  intro h x0 y0 y1 r hm
  rw [m_X3_init_62] at hm
  obtain ⟨h1, eh1, hm⟩ := bdE hm
  have lh1 := pF_le eh1
  obtain ⟨h2, eh2, hm⟩ := nmE hm
  have lh2 := cn_le eh2
  obtain ⟨a3, ea3, hm⟩ := nmE hm
  exact (lh1.tr (lh2.tr (mo_X3_init_70  h2 x0 x0 a3 _ hm)))
def m_X3_init_54 (f : Nat) (h : CH) (x0 : Nat) (y0 : Nat) (y1 : Nat) : Option CH := bd (pF h 0 17 y0 (.ref y1)) fun h1 =>
    nmv (cn h1 9 (.inr (1, 9, .inr (.inl (fun _ => 0))))) fun h2 =>
    nmv (h1.1 : Nat) fun a3 =>
    m_X3_init_62 f h2 x0 x0 a3
theorem mo_X3_init_54 {f : Nat} : ∀ (h : CH) (x0 : Nat) (y0 : Nat) (y1 : Nat) (r : CH), m_X3_init_54 f h x0 y0 y1 = some r → le2 h r := by
  intro h x0 y0 y1 r hm
  rw [m_X3_init_54] at hm
  obtain ⟨h1, eh1, hm⟩ := bdE hm
  have lh1 := pF_le eh1
  obtain ⟨h2, eh2, hm⟩ := nmE hm
  have lh2 := cn_le eh2
  obtain ⟨a3, ea3, hm⟩ := nmE hm
  exact (lh1.tr (lh2.tr (mo_X3_init_62  h2 x0 x0 a3 _ hm)))
def m_X3_init_47 (f : Nat) (h : CH) (x0 : Nat) (y0 : Nat) (y1 : Nat) : Option CH := bd (pF h 0 16 y0 (.ref y1)) fun h1 =>
    nmv (cn h1 5 (.inr (0, 5, .inl (fun _ => 0)))) fun h2 =>
    nmv (h1.1 : Nat) fun a3 =>
    m_X3_init_54 f h2 x0 x0 a3
theorem mo_X3_init_47 {f : Nat} : ∀ (h : CH) (x0 : Nat) (y0 : Nat) (y1 : Nat) (r : CH), m_X3_init_47 f h x0 y0 y1 = some r → le2 h r := by
  intro h x0 y0 y1 r hm
  rw [m_X3_init_47] at hm
  obtain ⟨h1, eh1, hm⟩ := bdE hm
  have lh1 := pF_le eh1
  obtain ⟨h2, eh2, hm⟩ := nmE hm
  have lh2 := cn_le eh2
  obtain ⟨a3, ea3, hm⟩ := nmE hm
  exact (lh1.tr (lh2.tr (mo_X3_init_54  h2 x0 x0 a3 _ hm)))
def m_X3_init_35 (f : Nat) (h : CH) (x0 : Nat) (y0 : Nat) (y1 : Nat) : Option CH := bd (pF h 0 3 y0 (.ref y1)) fun h1 =>
    bd (pF h1 0 6 x0 (.int (-1 : Int32))) fun h2 =>
    nmv (cn h2 5 (.inr (0, 5, .inl (fun _ => 0)))) fun h3 =>
    nmv (h2.1 : Nat) fun a4 =>
    m_X3_init_47 f h3 x0 x0 a4
theorem mo_X3_init_35 {f : Nat} : ∀ (h : CH) (x0 : Nat) (y0 : Nat) (y1 : Nat) (r : CH), m_X3_init_35 f h x0 y0 y1 = some r → le2 h r := by
  intro h x0 y0 y1 r hm
  rw [m_X3_init_35] at hm
  obtain ⟨h1, eh1, hm⟩ := bdE hm
  have lh1 := pF_le eh1
  obtain ⟨h2, eh2, hm⟩ := bdE hm
  have lh2 := pF_le eh2
  obtain ⟨h3, eh3, hm⟩ := nmE hm
  have lh3 := cn_le eh3
  obtain ⟨a4, ea4, hm⟩ := nmE hm
  exact (lh1.tr (lh2.tr (lh3.tr (mo_X3_init_47  h3 x0 x0 a4 _ hm))))
def m_X3_init_26 (f : Nat) (h : CH) (x0 : Nat) (y0 : Nat) (y1 : Nat) : Option CH := bd (pF h 0 2 y0 (.ref y1)) fun h1 =>
    nmv (cn h1 500 (.inr (0, 500, .inl (fun _ => 0)))) fun h2 =>
    nmv (h1.1 : Nat) fun a3 =>
    m_X3_init_35 f h2 x0 x0 a3
theorem mo_X3_init_26 {f : Nat} : ∀ (h : CH) (x0 : Nat) (y0 : Nat) (y1 : Nat) (r : CH), m_X3_init_26 f h x0 y0 y1 = some r → le2 h r := by
  intro h x0 y0 y1 r hm
  rw [m_X3_init_26] at hm
  obtain ⟨h1, eh1, hm⟩ := bdE hm
  have lh1 := pF_le eh1
  obtain ⟨h2, eh2, hm⟩ := nmE hm
  have lh2 := cn_le eh2
  obtain ⟨a3, ea3, hm⟩ := nmE hm
  exact (lh1.tr (lh2.tr (mo_X3_init_35  h2 x0 x0 a3 _ hm)))
def m_X3_init_17 (f : Nat) (h : CH) (x0 : Nat) (y0 : Nat) (y1 : Nat) : Option CH := bd (pF h 0 1 y0 (.ref y1)) fun h1 =>
    nmv (cn h1 900 (.inr (0, 900, .inl (fun _ => 0)))) fun h2 =>
    nmv (h1.1 : Nat) fun a3 =>
    m_X3_init_26 f h2 x0 x0 a3
theorem mo_X3_init_17 {f : Nat} : ∀ (h : CH) (x0 : Nat) (y0 : Nat) (y1 : Nat) (r : CH), m_X3_init_17 f h x0 y0 y1 = some r → le2 h r := by
  intro h x0 y0 y1 r hm
  rw [m_X3_init_17] at hm
  obtain ⟨h1, eh1, hm⟩ := bdE hm
  have lh1 := pF_le eh1
  obtain ⟨h2, eh2, hm⟩ := nmE hm
  have lh2 := cn_le eh2
  obtain ⟨a3, ea3, hm⟩ := nmE hm
  exact (lh1.tr (lh2.tr (mo_X3_init_26  h2 x0 x0 a3 _ hm)))
def m_X3_init_9 (f : Nat) (h : CH) (x0 : Nat) (y0 : Nat) (y1 : Nat) : Option CH := bd (pF h 0 0 y0 (.ref y1)) fun h1 =>
    nmv (cn h1 73 (.inr (0, 73, .inl (fun _ => 0)))) fun h2 =>
    nmv (h1.1 : Nat) fun a3 =>
    m_X3_init_17 f h2 x0 x0 a3
theorem mo_X3_init_9 {f : Nat} : ∀ (h : CH) (x0 : Nat) (y0 : Nat) (y1 : Nat) (r : CH), m_X3_init_9 f h x0 y0 y1 = some r → le2 h r := by
  intro h x0 y0 y1 r hm
  rw [m_X3_init_9] at hm
  obtain ⟨h1, eh1, hm⟩ := bdE hm
  have lh1 := pF_le eh1
  obtain ⟨h2, eh2, hm⟩ := nmE hm
  have lh2 := cn_le eh2
  obtain ⟨a3, ea3, hm⟩ := nmE hm
  exact (lh1.tr (lh2.tr (mo_X3_init_17  h2 x0 x0 a3 _ hm)))
def m_X3_init (f : Nat) (u : CH) (x0 : Nat) : Option CH := nmv (cn u 73 (.inr (0, 73, .inl (fun _ => 0)))) fun h1 =>
    nmv (u.1 : Nat) fun a2 =>
    m_X3_init_9 f h1 x0 x0 a2
theorem mo_X3_init {f : Nat} {u : CH} {x0 : Nat} {u9 : CH} (hm : m_X3_init f u x0 = some u9) : le2 u u9 := by
  rw [m_X3_init] at hm
  obtain ⟨h1, eh1, hm⟩ := nmE hm
  have lh1 := cn_le eh1
  obtain ⟨a2, ea2, hm⟩ := nmE hm
  exact (lh1.tr (mo_X3_init_9  h1 x0 x0 a2 _ hm))
abbrev rm_X3_init (mc ms : Nat) : Room := { frames := 1, cells := mc, slots := ms, locals := 20 }
theorem cw_X3_init {R : Room} {s : State} {args : Array Value} {own : String} {idx mc ms : Nat} (hts : ∀ w ∈ lw_all, w.before args s = true) (hl : Cond.methodLink own idx yX3_init ∈ lw_all) (hR : 1 + 1 ≤ R.frames ∧ 8 + (1 + 11) + 20 ≤ R.locals) : CallB R s args own idx yX3_init cX3_init 1 none (ws_ yX3_init cX3_init 1 (Option.none : Option Jvm.ClassFile.FieldType)) (rm_X3_init mc ms) mc ms 0 ∧ yX3_init.name = "<init>" ∧ (Cond.instanceMethod yX3_init).before args s = true := cwI 0 hts (lw_meth q1564) rfl rfl rfl (hts _ q125) (hts _ hl) (hts _ q1563) rfl (by decide +kernel) hR
set_option maxHeartbeats 4000000 in
set_option maxRecDepth 100000 in
theorem w_X3_init (l : Launch) {D : va_G} {dA : Nat → ClassId} {A : Nat → Prop} {f : Nat} {u u9 : CH} {x0 : Nat} (hm : m_X3_init f u x0 = some u9) : Met l yX3_init (ws_ yX3_init cX3_init 1 (Option.none : Option Jvm.ClassFile.FieldType)) (rm_X3_init (u9.1 - u.1) (u9.2.1 - u.2.1)) (va_Pc [.ref x0] (CPre D dA A u)) (va_Qv (fun u => u = u9) (CPost D dA A) A) (u9.1 - u.1) (u9.2.1 - u.2.1) A := by
  refine Met.ofW (cc := cX3_init) (maxL := 1) (ret := (Option.none : Option Jvm.ClassFile.FieldType)) (by decide) rfl ?_
  intro p e s m args below meth c s₁ B hml hv
  have hx := B.exec
  have hb := B.bytes
  have hr := B.returns
  have hts := atoms_spec (ws := (ws_ yX3_init cX3_init 1 (Option.none : Option Jvm.ClassFile.FieldType))) B.pre
  have hts : ∀ w ∈ lw_all, w.before args s = true := fun w h => hts w (List.mem_cons_of_mem _ h)
  have hown : s.vm.findClass RX3 = some m.cls := findClass_of_methodNamed B.named
  have hlocks := B.notSynchronized
  have hin : meth.name = "<init>" := (name_of_methodNamed B.named B.method).1
  obtain ⟨hav, hv⟩ := hv
  have C : CX p s m args c cX3_init RX3 D dA := ⟨hx, hb, hown, hts, hv.2⟩
  have hw : CW D dA A s u s.heap [] := hv.1
  have hs0 : s.heap.size = u.1 := hv.1.1
  generalize hQ : MQ below (va_Qv (fun u => u = u9) (CPost D dA A) A) args s (u9.1 - u.1) (u9.2.1 - u.2.1) A = QQ
  have hent := lg_entry_eq m [.ref x0] 1
  rw [← hav] at hent
  rw [hent]
  have hl := lv_entry ([.ref x0]) (n := 1) (Nat.le_of_ble_eq_true rfl)
  generalize (lg_sl ([.ref x0]) ++ List.replicate (1 - (lg_sl ([.ref x0])).length) Slot.unset).toArray = ls at hl ⊢
  have hl : lv_has ls 1 [(0, .ref x0)] := hl
  obtain ⟨cc, ecc⟩ : ∃ z : Nat, z = 0 := ⟨0, rfl⟩
  obtain ⟨ss, ess⟩ : ∃ z : Nat, z = 0 := ⟨0, rfl⟩
  have hcc : cc + u.1 = u.1 := by omega
  have hss : ss + u.2.1 = u.2.1 := by omega
  suffices hgo : W p l e (rm_X3_init (u9.1 - u.1) (u9.2.1 - u.2.1)) s m args below meth c s.heap [] cc ss QQ (F0 m 0 ls []) by rw [ecc, ess] at hgo; exact hgo
  have ⟨pu, qu, _, _⟩ := mo_X3_init hm
  have hB181 : ∀ (h : CH) (y0 : Nat) (y1 : Nat) (cc ss : Nat) (H : Heap) (locs : List Loc) (ls : Array Slot), m_X3_init_181 f h y0 y1 = some u9 → CW D dA A s h H locs → cc + u.1 = h.1 → ss + u.2.1 = h.2.1 → lv_has ls 1 [] → W p l e (rm_X3_init (u9.1 - u.1) (u9.2.1 - u.2.1)) s m args below meth c H locs cc ss QQ (F0 m 181 ls [.ref y1, .ref y0]) := by
    intro h y0 y1 cc ss H locs ls hm hw hcc hss hl
    have hmo := mo_X3_init_181  h y0 y1 _ hm
    have sb_ : h.1 ≤ u9.1 := hmo.1
    have tb_ : h.2.1 ≤ u9.2.1 := hmo.2.1
    rw [m_X3_init_181] at hm
    obtain ⟨h1, eh1, hm⟩ := bdE hm
    refine cg_putF C hw eh1 rfl in_X3 tyX3 tyX3_ok nmX3 (by decide) q1605 rfl hin rfl rfl rfl dX3_init_181 (fun H locs hw => ?_)
    have zh1 := pF_sz eh1
    have eh := ret1 hm
    have ec : cc = u9.1 - u.1 := by rw [← eh]; omega
    have es : ss = u9.2.1 - u.2.1 := by rw [← eh]; omega
    rw [ec, es, ← hQ]
    exact W.vret hx hb hr (fun t ht hW => ⟨⟨h1, rfl, eh, ⟨by rw [ht]; exact hw.1, by rw [ht]; exact hw.2.1⟩⟩, hw.2.2.1.F ht⟩) hw.2.2.1.2.2 dX3_init_184
  have hB174 : ∀ (h : CH) (x0 : Nat) (y0 : Nat) (y1 : Nat) (cc ss : Nat) (H : Heap) (locs : List Loc) (ls : Array Slot), m_X3_init_174 f h x0 y0 y1 = some u9 → CW D dA A s h H locs → cc + u.1 = h.1 → ss + u.2.1 = h.2.1 → lv_has ls 1 [(0, .ref x0)] → W p l e (rm_X3_init (u9.1 - u.1) (u9.2.1 - u.2.1)) s m args below meth c H locs cc ss QQ (F0 m 174 ls [.ref y1, .ref y0]) := by
    intro h x0 y0 y1 cc ss H locs ls hm hw hcc hss hl
    have hmo := mo_X3_init_174  h x0 y0 y1 _ hm
    have sb_ : h.1 ≤ u9.1 := hmo.1
    have tb_ : h.2.1 ≤ u9.2.1 := hmo.2.1
    rw [m_X3_init_174] at hm
    obtain ⟨h1, eh1, hm⟩ := bdE hm
    refine cg_putF C hw eh1 rfl in_X3 tyX3 tyX3_ok nmX3 (by decide) q1604 rfl hin rfl rfl rfl dX3_init_174 (fun H locs hw => ?_)
    have zh1 := pF_sz eh1
    refine lv_aload_n hx hb dX3_init_177 rfl (lv_at hl 0 rfl) ?_
    refine lv_iconst (v := 3) hx hb dX3_init_178 (by decide) ?_
    obtain ⟨h2, eh2, hm⟩ := nmE hm
    obtain ⟨_, _, hmq⟩ := nmE hm
    have hmo := mo_X3_init_181   h2 x0 _ _ hmq
    have sh2 : h2.1 ≤ u9.1 := hmo.1
    have th2 : h2.2.1 ≤ u9.2.1 := hmo.2.1
    have zh2 := cn_sz eh2
    refine cg_newJ (C0 := C) hw (N := 3) (by decide) (by decide) (by decide) (show cc + 1 ≤ u9.1 - u.1 by omega) (show ss + 3 ≤ u9.2.1 - u.2.1 by omega) dX3_init_179 (fun H hw => ?_)
    rw [← eh2] at hw
    refine lv_topr (fun a3 ea3 => ?_)
    have hm := nmK hm ea3
    exact hB181 h2 x0 a3 _ _ _ _ _ hm hw (by omega) (by omega) (lv_sub hl [] rfl)
  have hB167 : ∀ (h : CH) (x0 : Nat) (y0 : Nat) (y1 : Nat) (cc ss : Nat) (H : Heap) (locs : List Loc) (ls : Array Slot), m_X3_init_167 f h x0 y0 y1 = some u9 → CW D dA A s h H locs → cc + u.1 = h.1 → ss + u.2.1 = h.2.1 → lv_has ls 1 [(0, .ref x0)] → W p l e (rm_X3_init (u9.1 - u.1) (u9.2.1 - u.2.1)) s m args below meth c H locs cc ss QQ (F0 m 167 ls [.ref y1, .ref y0]) := by
    intro h x0 y0 y1 cc ss H locs ls hm hw hcc hss hl
    have hmo := mo_X3_init_167  h x0 y0 y1 _ hm
    have sb_ : h.1 ≤ u9.1 := hmo.1
    have tb_ : h.2.1 ≤ u9.2.1 := hmo.2.1
    rw [m_X3_init_167] at hm
    obtain ⟨h1, eh1, hm⟩ := bdE hm
    refine cg_putF C hw eh1 rfl in_X3 tyX3 tyX3_ok nmX3 (by decide) q1603 rfl hin rfl rfl rfl dX3_init_167 (fun H locs hw => ?_)
    have zh1 := pF_sz eh1
    refine lv_aload_n hx hb dX3_init_170 rfl (lv_at hl 0 rfl) ?_
    refine lv_iconst (v := 3) hx hb dX3_init_171 (by decide) ?_
    obtain ⟨h2, eh2, hm⟩ := nmE hm
    obtain ⟨_, _, hmq⟩ := nmE hm
    have hmo := mo_X3_init_174   h2 x0 x0 _ _ hmq
    have sh2 : h2.1 ≤ u9.1 := hmo.1
    have th2 : h2.2.1 ≤ u9.2.1 := hmo.2.1
    have zh2 := cn_sz eh2
    refine cg_newJ (C0 := C) hw (N := 3) (by decide) (by decide) (by decide) (show cc + 1 ≤ u9.1 - u.1 by omega) (show ss + 3 ≤ u9.2.1 - u.2.1 by omega) dX3_init_172 (fun H hw => ?_)
    rw [← eh2] at hw
    refine lv_topr (fun a3 ea3 => ?_)
    have hm := nmK hm ea3
    exact hB174 h2 x0 x0 a3 _ _ _ _ _ hm hw (by omega) (by omega) (lv_sub hl [0] rfl)
  have hB160 : ∀ (h : CH) (x0 : Nat) (y0 : Nat) (y1 : Nat) (cc ss : Nat) (H : Heap) (locs : List Loc) (ls : Array Slot), m_X3_init_160 f h x0 y0 y1 = some u9 → CW D dA A s h H locs → cc + u.1 = h.1 → ss + u.2.1 = h.2.1 → lv_has ls 1 [(0, .ref x0)] → W p l e (rm_X3_init (u9.1 - u.1) (u9.2.1 - u.2.1)) s m args below meth c H locs cc ss QQ (F0 m 160 ls [.ref y1, .ref y0]) := by
    intro h x0 y0 y1 cc ss H locs ls hm hw hcc hss hl
    have hmo := mo_X3_init_160  h x0 y0 y1 _ hm
    have sb_ : h.1 ≤ u9.1 := hmo.1
    have tb_ : h.2.1 ≤ u9.2.1 := hmo.2.1
    rw [m_X3_init_160] at hm
    obtain ⟨h1, eh1, hm⟩ := bdE hm
    refine cg_putF C hw eh1 rfl in_X3 tyX3 tyX3_ok nmX3 (by decide) q1602 rfl hin rfl rfl rfl dX3_init_160 (fun H locs hw => ?_)
    have zh1 := pF_sz eh1
    refine lv_aload_n hx hb dX3_init_163 rfl (lv_at hl 0 rfl) ?_
    refine lv_iconst (v := 3) hx hb dX3_init_164 (by decide) ?_
    obtain ⟨h2, eh2, hm⟩ := nmE hm
    obtain ⟨_, _, hmq⟩ := nmE hm
    have hmo := mo_X3_init_167   h2 x0 x0 _ _ hmq
    have sh2 : h2.1 ≤ u9.1 := hmo.1
    have th2 : h2.2.1 ≤ u9.2.1 := hmo.2.1
    have zh2 := cn_sz eh2
    refine cg_newJ (C0 := C) hw (N := 3) (by decide) (by decide) (by decide) (show cc + 1 ≤ u9.1 - u.1 by omega) (show ss + 3 ≤ u9.2.1 - u.2.1 by omega) dX3_init_165 (fun H hw => ?_)
    rw [← eh2] at hw
    refine lv_topr (fun a3 ea3 => ?_)
    have hm := nmK hm ea3
    exact hB167 h2 x0 x0 a3 _ _ _ _ _ hm hw (by omega) (by omega) (lv_sub hl [0] rfl)
  have hB153 : ∀ (h : CH) (x0 : Nat) (y0 : Nat) (y1 : Nat) (cc ss : Nat) (H : Heap) (locs : List Loc) (ls : Array Slot), m_X3_init_153 f h x0 y0 y1 = some u9 → CW D dA A s h H locs → cc + u.1 = h.1 → ss + u.2.1 = h.2.1 → lv_has ls 1 [(0, .ref x0)] → W p l e (rm_X3_init (u9.1 - u.1) (u9.2.1 - u.2.1)) s m args below meth c H locs cc ss QQ (F0 m 153 ls [.ref y1, .ref y0]) := by
    intro h x0 y0 y1 cc ss H locs ls hm hw hcc hss hl
    have hmo := mo_X3_init_153  h x0 y0 y1 _ hm
    have sb_ : h.1 ≤ u9.1 := hmo.1
    have tb_ : h.2.1 ≤ u9.2.1 := hmo.2.1
    rw [m_X3_init_153] at hm
    obtain ⟨h1, eh1, hm⟩ := bdE hm
    refine cg_putF C hw eh1 rfl in_X3 tyX3 tyX3_ok nmX3 (by decide) q1600 rfl hin rfl rfl rfl dX3_init_153 (fun H locs hw => ?_)
    have zh1 := pF_sz eh1
    refine lv_aload_n hx hb dX3_init_156 rfl (lv_at hl 0 rfl) ?_
    refine lv_iconst (v := 3) hx hb dX3_init_157 (by decide) ?_
    obtain ⟨h2, eh2, hm⟩ := nmE hm
    obtain ⟨_, _, hmq⟩ := nmE hm
    have hmo := mo_X3_init_160   h2 x0 x0 _ _ hmq
    have sh2 : h2.1 ≤ u9.1 := hmo.1
    have th2 : h2.2.1 ≤ u9.2.1 := hmo.2.1
    have zh2 := cn_sz eh2
    refine cg_newJ (C0 := C) hw (N := 3) (by decide) (by decide) (by decide) (show cc + 1 ≤ u9.1 - u.1 by omega) (show ss + 3 ≤ u9.2.1 - u.2.1 by omega) dX3_init_158 (fun H hw => ?_)
    rw [← eh2] at hw
    refine lv_topr (fun a3 ea3 => ?_)
    have hm := nmK hm ea3
    exact hB160 h2 x0 x0 a3 _ _ _ _ _ hm hw (by omega) (by omega) (lv_sub hl [0] rfl)
  have hB145 : ∀ (h : CH) (x0 : Nat) (y0 : Nat) (y1 : Nat) (cc ss : Nat) (H : Heap) (locs : List Loc) (ls : Array Slot), m_X3_init_145 f h x0 y0 y1 = some u9 → CW D dA A s h H locs → cc + u.1 = h.1 → ss + u.2.1 = h.2.1 → lv_has ls 1 [(0, .ref x0)] → W p l e (rm_X3_init (u9.1 - u.1) (u9.2.1 - u.2.1)) s m args below meth c H locs cc ss QQ (F0 m 145 ls [.ref y1, .ref y0]) := by
    intro h x0 y0 y1 cc ss H locs ls hm hw hcc hss hl
    have hmo := mo_X3_init_145  h x0 y0 y1 _ hm
    have sb_ : h.1 ≤ u9.1 := hmo.1
    have tb_ : h.2.1 ≤ u9.2.1 := hmo.2.1
    rw [m_X3_init_145] at hm
    obtain ⟨h1, eh1, hm⟩ := bdE hm
    refine cg_putF C hw eh1 rfl in_X3 tyX3 tyX3_ok nmX3 (by decide) q1599 rfl hin rfl rfl rfl dX3_init_145 (fun H locs hw => ?_)
    have zh1 := pF_sz eh1
    refine lv_aload_n hx hb dX3_init_148 rfl (lv_at hl 0 rfl) ?_
    refine lv_bipush (v := 18) hx hb dX3_init_149 (by decide) ?_
    obtain ⟨h2, eh2, hm⟩ := nmE hm
    obtain ⟨_, _, hmq⟩ := nmE hm
    have hmo := mo_X3_init_153   h2 x0 x0 _ _ hmq
    have sh2 : h2.1 ≤ u9.1 := hmo.1
    have th2 : h2.2.1 ≤ u9.2.1 := hmo.2.1
    have zh2 := cn_sz eh2
    refine cg_newJ (C0 := C) hw (N := 18) (by decide) (by decide) (by decide) (show cc + 1 ≤ u9.1 - u.1 by omega) (show ss + 18 ≤ u9.2.1 - u.2.1 by omega) dX3_init_151 (fun H hw => ?_)
    rw [← eh2] at hw
    refine lv_topr (fun a3 ea3 => ?_)
    have hm := nmK hm ea3
    exact hB153 h2 x0 x0 a3 _ _ _ _ _ hm hw (by omega) (by omega) (lv_sub hl [0] rfl)
  have hB137 : ∀ (h : CH) (x0 : Nat) (y0 : Nat) (y1 : Nat) (cc ss : Nat) (H : Heap) (locs : List Loc) (ls : Array Slot), m_X3_init_137 f h x0 y0 y1 = some u9 → CW D dA A s h H locs → cc + u.1 = h.1 → ss + u.2.1 = h.2.1 → lv_has ls 1 [(0, .ref x0)] → W p l e (rm_X3_init (u9.1 - u.1) (u9.2.1 - u.2.1)) s m args below meth c H locs cc ss QQ (F0 m 137 ls [.ref y1, .ref y0]) := by
    intro h x0 y0 y1 cc ss H locs ls hm hw hcc hss hl
    have hmo := mo_X3_init_137  h x0 y0 y1 _ hm
    have sb_ : h.1 ≤ u9.1 := hmo.1
    have tb_ : h.2.1 ≤ u9.2.1 := hmo.2.1
    rw [m_X3_init_137] at hm
    obtain ⟨h1, eh1, hm⟩ := bdE hm
    refine cg_putF C hw eh1 rfl in_X3 tyX3 tyX3_ok nmX3 (by decide) q1598 rfl hin rfl rfl rfl dX3_init_137 (fun H locs hw => ?_)
    have zh1 := pF_sz eh1
    refine lv_aload_n hx hb dX3_init_140 rfl (lv_at hl 0 rfl) ?_
    refine lv_bipush (v := 16) hx hb dX3_init_141 (by decide) ?_
    obtain ⟨h2, eh2, hm⟩ := nmE hm
    obtain ⟨_, _, hmq⟩ := nmE hm
    have hmo := mo_X3_init_145   h2 x0 x0 _ _ hmq
    have sh2 : h2.1 ≤ u9.1 := hmo.1
    have th2 : h2.2.1 ≤ u9.2.1 := hmo.2.1
    have zh2 := cn_sz eh2
    refine cg_newJ (C0 := C) hw (N := 16) (by decide) (by decide) (by decide) (show cc + 1 ≤ u9.1 - u.1 by omega) (show ss + 16 ≤ u9.2.1 - u.2.1 by omega) dX3_init_143 (fun H hw => ?_)
    rw [← eh2] at hw
    refine lv_topr (fun a3 ea3 => ?_)
    have hm := nmK hm ea3
    exact hB145 h2 x0 x0 a3 _ _ _ _ _ hm hw (by omega) (by omega) (lv_sub hl [0] rfl)
  have hB129 : ∀ (h : CH) (x0 : Nat) (y0 : Nat) (y1 : Nat) (cc ss : Nat) (H : Heap) (locs : List Loc) (ls : Array Slot), m_X3_init_129 f h x0 y0 y1 = some u9 → CW D dA A s h H locs → cc + u.1 = h.1 → ss + u.2.1 = h.2.1 → lv_has ls 1 [(0, .ref x0)] → W p l e (rm_X3_init (u9.1 - u.1) (u9.2.1 - u.2.1)) s m args below meth c H locs cc ss QQ (F0 m 129 ls [.ref y1, .ref y0]) := by
    intro h x0 y0 y1 cc ss H locs ls hm hw hcc hss hl
    have hmo := mo_X3_init_129  h x0 y0 y1 _ hm
    have sb_ : h.1 ≤ u9.1 := hmo.1
    have tb_ : h.2.1 ≤ u9.2.1 := hmo.2.1
    rw [m_X3_init_129] at hm
    obtain ⟨h1, eh1, hm⟩ := bdE hm
    refine cg_putF C hw eh1 rfl in_X3 tyX3 tyX3_ok nmX3 (by decide) q1595 rfl hin rfl rfl rfl dX3_init_129 (fun H locs hw => ?_)
    have zh1 := pF_sz eh1
    refine lv_aload_n hx hb dX3_init_132 rfl (lv_at hl 0 rfl) ?_
    refine lv_bipush (v := 9) hx hb dX3_init_133 (by decide) ?_
    obtain ⟨h2, eh2, hm⟩ := nmE hm
    obtain ⟨_, _, hmq⟩ := nmE hm
    have hmo := mo_X3_init_137   h2 x0 x0 _ _ hmq
    have sh2 : h2.1 ≤ u9.1 := hmo.1
    have th2 : h2.2.1 ≤ u9.2.1 := hmo.2.1
    have zh2 := cn_sz eh2
    refine cg_newJ (C0 := C) hw (N := 9) (by decide) (by decide) (by decide) (show cc + 1 ≤ u9.1 - u.1 by omega) (show ss + 9 ≤ u9.2.1 - u.2.1 by omega) dX3_init_135 (fun H hw => ?_)
    rw [← eh2] at hw
    refine lv_topr (fun a3 ea3 => ?_)
    have hm := nmK hm ea3
    exact hB137 h2 x0 x0 a3 _ _ _ _ _ hm hw (by omega) (by omega) (lv_sub hl [0] rfl)
  have hB121 : ∀ (h : CH) (x0 : Nat) (y0 : Nat) (y1 : Nat) (cc ss : Nat) (H : Heap) (locs : List Loc) (ls : Array Slot), m_X3_init_121 f h x0 y0 y1 = some u9 → CW D dA A s h H locs → cc + u.1 = h.1 → ss + u.2.1 = h.2.1 → lv_has ls 1 [(0, .ref x0)] → W p l e (rm_X3_init (u9.1 - u.1) (u9.2.1 - u.2.1)) s m args below meth c H locs cc ss QQ (F0 m 121 ls [.ref y1, .ref y0]) := by
    intro h x0 y0 y1 cc ss H locs ls hm hw hcc hss hl
    have hmo := mo_X3_init_121  h x0 y0 y1 _ hm
    have sb_ : h.1 ≤ u9.1 := hmo.1
    have tb_ : h.2.1 ≤ u9.2.1 := hmo.2.1
    rw [m_X3_init_121] at hm
    obtain ⟨h1, eh1, hm⟩ := bdE hm
    refine cg_putF C hw eh1 rfl in_X3 tyX3 tyX3_ok nmX3 (by decide) q1593 rfl hin rfl rfl rfl dX3_init_121 (fun H locs hw => ?_)
    have zh1 := pF_sz eh1
    refine lv_aload_n hx hb dX3_init_124 rfl (lv_at hl 0 rfl) ?_
    refine lv_bipush (v := 9) hx hb dX3_init_125 (by decide) ?_
    obtain ⟨h2, eh2, hm⟩ := nmE hm
    obtain ⟨_, _, hmq⟩ := nmE hm
    have hmo := mo_X3_init_129   h2 x0 x0 _ _ hmq
    have sh2 : h2.1 ≤ u9.1 := hmo.1
    have th2 : h2.2.1 ≤ u9.2.1 := hmo.2.1
    have zh2 := cn_sz eh2
    refine cg_newJ (C0 := C) hw (N := 9) (by decide) (by decide) (by decide) (show cc + 1 ≤ u9.1 - u.1 by omega) (show ss + 9 ≤ u9.2.1 - u.2.1 by omega) dX3_init_127 (fun H hw => ?_)
    rw [← eh2] at hw
    refine lv_topr (fun a3 ea3 => ?_)
    have hm := nmK hm ea3
    exact hB129 h2 x0 x0 a3 _ _ _ _ _ hm hw (by omega) (by omega) (lv_sub hl [0] rfl)
  have hB113 : ∀ (h : CH) (x0 : Nat) (y0 : Nat) (y1 : Nat) (cc ss : Nat) (H : Heap) (locs : List Loc) (ls : Array Slot), m_X3_init_113 f h x0 y0 y1 = some u9 → CW D dA A s h H locs → cc + u.1 = h.1 → ss + u.2.1 = h.2.1 → lv_has ls 1 [(0, .ref x0)] → W p l e (rm_X3_init (u9.1 - u.1) (u9.2.1 - u.2.1)) s m args below meth c H locs cc ss QQ (F0 m 113 ls [.ref y1, .ref y0]) := by
    intro h x0 y0 y1 cc ss H locs ls hm hw hcc hss hl
    have hmo := mo_X3_init_113  h x0 y0 y1 _ hm
    have sb_ : h.1 ≤ u9.1 := hmo.1
    have tb_ : h.2.1 ≤ u9.2.1 := hmo.2.1
    rw [m_X3_init_113] at hm
    obtain ⟨h1, eh1, hm⟩ := bdE hm
    refine cg_putF C hw eh1 rfl in_X3 tyX3 tyX3_ok nmX3 (by decide) q1592 rfl hin rfl rfl rfl dX3_init_113 (fun H locs hw => ?_)
    have zh1 := pF_sz eh1
    refine lv_aload_n hx hb dX3_init_116 rfl (lv_at hl 0 rfl) ?_
    refine lv_bipush (v := 9) hx hb dX3_init_117 (by decide) ?_
    obtain ⟨h2, eh2, hm⟩ := nmE hm
    obtain ⟨_, _, hmq⟩ := nmE hm
    have hmo := mo_X3_init_121   h2 x0 x0 _ _ hmq
    have sh2 : h2.1 ≤ u9.1 := hmo.1
    have th2 : h2.2.1 ≤ u9.2.1 := hmo.2.1
    have zh2 := cn_sz eh2
    refine cg_newJ (C0 := C) hw (N := 9) (by decide) (by decide) (by decide) (show cc + 1 ≤ u9.1 - u.1 by omega) (show ss + 9 ≤ u9.2.1 - u.2.1 by omega) dX3_init_119 (fun H hw => ?_)
    rw [← eh2] at hw
    refine lv_topr (fun a3 ea3 => ?_)
    have hm := nmK hm ea3
    exact hB121 h2 x0 x0 a3 _ _ _ _ _ hm hw (by omega) (by omega) (lv_sub hl [0] rfl)
  have hB106 : ∀ (h : CH) (x0 : Nat) (y0 : Nat) (y1 : Nat) (cc ss : Nat) (H : Heap) (locs : List Loc) (ls : Array Slot), m_X3_init_106 f h x0 y0 y1 = some u9 → CW D dA A s h H locs → cc + u.1 = h.1 → ss + u.2.1 = h.2.1 → lv_has ls 1 [(0, .ref x0)] → W p l e (rm_X3_init (u9.1 - u.1) (u9.2.1 - u.2.1)) s m args below meth c H locs cc ss QQ (F0 m 106 ls [.ref y1, .ref y0]) := by
    intro h x0 y0 y1 cc ss H locs ls hm hw hcc hss hl
    have hmo := mo_X3_init_106  h x0 y0 y1 _ hm
    have sb_ : h.1 ≤ u9.1 := hmo.1
    have tb_ : h.2.1 ≤ u9.2.1 := hmo.2.1
    rw [m_X3_init_106] at hm
    obtain ⟨h1, eh1, hm⟩ := bdE hm
    refine cg_putF C hw eh1 rfl in_X3 tyX3 tyX3_ok nmX3 (by decide) q1590 rfl hin rfl rfl rfl dX3_init_106 (fun H locs hw => ?_)
    have zh1 := pF_sz eh1
    refine lv_aload_n hx hb dX3_init_109 rfl (lv_at hl 0 rfl) ?_
    refine lv_iconst (v := 3) hx hb dX3_init_110 (by decide) ?_
    obtain ⟨h2, eh2, hm⟩ := nmE hm
    obtain ⟨_, _, hmq⟩ := nmE hm
    have hmo := mo_X3_init_113   h2 x0 x0 _ _ hmq
    have sh2 : h2.1 ≤ u9.1 := hmo.1
    have th2 : h2.2.1 ≤ u9.2.1 := hmo.2.1
    have zh2 := cn_sz eh2
    refine cg_newJ (C0 := C) hw (N := 3) (by decide) (by decide) (by decide) (show cc + 1 ≤ u9.1 - u.1 by omega) (show ss + 3 ≤ u9.2.1 - u.2.1 by omega) dX3_init_111 (fun H hw => ?_)
    rw [← eh2] at hw
    refine lv_topr (fun a3 ea3 => ?_)
    have hm := nmK hm ea3
    exact hB113 h2 x0 x0 a3 _ _ _ _ _ hm hw (by omega) (by omega) (lv_sub hl [0] rfl)
  have hB97 : ∀ (h : CH) (x0 : Nat) (y0 : Nat) (y1 : Nat) (cc ss : Nat) (H : Heap) (locs : List Loc) (ls : Array Slot), m_X3_init_97 f h x0 y0 y1 = some u9 → CW D dA A s h H locs → cc + u.1 = h.1 → ss + u.2.1 = h.2.1 → lv_has ls 1 [(0, .ref x0)] → W p l e (rm_X3_init (u9.1 - u.1) (u9.2.1 - u.2.1)) s m args below meth c H locs cc ss QQ (F0 m 97 ls [.ref y1, .ref y0]) := by
    intro h x0 y0 y1 cc ss H locs ls hm hw hcc hss hl
    have hmo := mo_X3_init_97  h x0 y0 y1 _ hm
    have sb_ : h.1 ≤ u9.1 := hmo.1
    have tb_ : h.2.1 ≤ u9.2.1 := hmo.2.1
    rw [m_X3_init_97] at hm
    obtain ⟨h1, eh1, hm⟩ := bdE hm
    refine cg_putF C hw eh1 rfl in_X3 tyX3 tyX3_ok nmX3 (by decide) q1589 rfl hin rfl rfl rfl dX3_init_97 (fun H locs hw => ?_)
    have zh1 := pF_sz eh1
    refine lv_aload_n hx hb dX3_init_100 rfl (lv_at hl 0 rfl) ?_
    refine lv_sipush (v := 400) hx hb dX3_init_101 (by decide) ?_
    obtain ⟨h2, eh2, hm⟩ := nmE hm
    obtain ⟨_, _, hmq⟩ := nmE hm
    have hmo := mo_X3_init_106   h2 x0 x0 _ _ hmq
    have sh2 : h2.1 ≤ u9.1 := hmo.1
    have th2 : h2.2.1 ≤ u9.2.1 := hmo.2.1
    have zh2 := cn_sz eh2
    refine cg_newJ (C0 := C) hw (N := 400) (by decide) (by decide) (by decide) (show cc + 1 ≤ u9.1 - u.1 by omega) (show ss + 400 ≤ u9.2.1 - u.2.1 by omega) dX3_init_104 (fun H hw => ?_)
    rw [← eh2] at hw
    refine lv_topr (fun a3 ea3 => ?_)
    have hm := nmK hm ea3
    exact hB106 h2 x0 x0 a3 _ _ _ _ _ hm hw (by omega) (by omega) (lv_sub hl [0] rfl)
  have hB88 : ∀ (h : CH) (x0 : Nat) (y0 : Nat) (y1 : Nat) (cc ss : Nat) (H : Heap) (locs : List Loc) (ls : Array Slot), m_X3_init_88 f h x0 y0 y1 = some u9 → CW D dA A s h H locs → cc + u.1 = h.1 → ss + u.2.1 = h.2.1 → lv_has ls 1 [(0, .ref x0)] → W p l e (rm_X3_init (u9.1 - u.1) (u9.2.1 - u.2.1)) s m args below meth c H locs cc ss QQ (F0 m 88 ls [.ref y1, .ref y0]) := by
    intro h x0 y0 y1 cc ss H locs ls hm hw hcc hss hl
    have hmo := mo_X3_init_88  h x0 y0 y1 _ hm
    have sb_ : h.1 ≤ u9.1 := hmo.1
    have tb_ : h.2.1 ≤ u9.2.1 := hmo.2.1
    rw [m_X3_init_88] at hm
    obtain ⟨h1, eh1, hm⟩ := bdE hm
    refine cg_putF C hw eh1 rfl in_X3 tyX3 tyX3_ok nmX3 (by decide) q1588 rfl hin rfl rfl rfl dX3_init_88 (fun H locs hw => ?_)
    have zh1 := pF_sz eh1
    refine lv_aload_n hx hb dX3_init_91 rfl (lv_at hl 0 rfl) ?_
    refine lv_sipush (v := 400) hx hb dX3_init_92 (by decide) ?_
    obtain ⟨h2, eh2, hm⟩ := nmE hm
    obtain ⟨_, _, hmq⟩ := nmE hm
    have hmo := mo_X3_init_97   h2 x0 x0 _ _ hmq
    have sh2 : h2.1 ≤ u9.1 := hmo.1
    have th2 : h2.2.1 ≤ u9.2.1 := hmo.2.1
    have zh2 := cn_sz eh2
    refine cg_newI (C0 := C) hw (N := 400) (by decide) (by decide) (by decide) (show cc + 1 ≤ u9.1 - u.1 by omega) (show ss + 400 ≤ u9.2.1 - u.2.1 by omega) dX3_init_95 (fun H hw => ?_)
    rw [← eh2] at hw
    refine lv_topr (fun a3 ea3 => ?_)
    have hm := nmK hm ea3
    exact hB97 h2 x0 x0 a3 _ _ _ _ _ hm hw (by omega) (by omega) (lv_sub hl [0] rfl)
  have hB79 : ∀ (h : CH) (x0 : Nat) (y0 : Nat) (y1 : Nat) (cc ss : Nat) (H : Heap) (locs : List Loc) (ls : Array Slot), m_X3_init_79 f h x0 y0 y1 = some u9 → CW D dA A s h H locs → cc + u.1 = h.1 → ss + u.2.1 = h.2.1 → lv_has ls 1 [(0, .ref x0)] → W p l e (rm_X3_init (u9.1 - u.1) (u9.2.1 - u.2.1)) s m args below meth c H locs cc ss QQ (F0 m 79 ls [.ref y1, .ref y0]) := by
    intro h x0 y0 y1 cc ss H locs ls hm hw hcc hss hl
    have hmo := mo_X3_init_79  h x0 y0 y1 _ hm
    have sb_ : h.1 ≤ u9.1 := hmo.1
    have tb_ : h.2.1 ≤ u9.2.1 := hmo.2.1
    rw [m_X3_init_79] at hm
    obtain ⟨h1, eh1, hm⟩ := bdE hm
    refine cg_putF C hw eh1 rfl in_X3 tyX3 tyX3_ok nmX3 (by decide) q1587 rfl hin rfl rfl rfl dX3_init_79 (fun H locs hw => ?_)
    have zh1 := pF_sz eh1
    refine lv_aload_n hx hb dX3_init_82 rfl (lv_at hl 0 rfl) ?_
    refine lv_sipush (v := 400) hx hb dX3_init_83 (by decide) ?_
    obtain ⟨h2, eh2, hm⟩ := nmE hm
    obtain ⟨_, _, hmq⟩ := nmE hm
    have hmo := mo_X3_init_88   h2 x0 x0 _ _ hmq
    have sh2 : h2.1 ≤ u9.1 := hmo.1
    have th2 : h2.2.1 ≤ u9.2.1 := hmo.2.1
    have zh2 := cn_sz eh2
    refine cg_newI (C0 := C) hw (N := 400) (by decide) (by decide) (by decide) (show cc + 1 ≤ u9.1 - u.1 by omega) (show ss + 400 ≤ u9.2.1 - u.2.1 by omega) dX3_init_86 (fun H hw => ?_)
    rw [← eh2] at hw
    refine lv_topr (fun a3 ea3 => ?_)
    have hm := nmK hm ea3
    exact hB88 h2 x0 x0 a3 _ _ _ _ _ hm hw (by omega) (by omega) (lv_sub hl [0] rfl)
  have hB70 : ∀ (h : CH) (x0 : Nat) (y0 : Nat) (y1 : Nat) (cc ss : Nat) (H : Heap) (locs : List Loc) (ls : Array Slot), m_X3_init_70 f h x0 y0 y1 = some u9 → CW D dA A s h H locs → cc + u.1 = h.1 → ss + u.2.1 = h.2.1 → lv_has ls 1 [(0, .ref x0)] → W p l e (rm_X3_init (u9.1 - u.1) (u9.2.1 - u.2.1)) s m args below meth c H locs cc ss QQ (F0 m 70 ls [.ref y1, .ref y0]) := by
    intro h x0 y0 y1 cc ss H locs ls hm hw hcc hss hl
    have hmo := mo_X3_init_70  h x0 y0 y1 _ hm
    have sb_ : h.1 ≤ u9.1 := hmo.1
    have tb_ : h.2.1 ≤ u9.2.1 := hmo.2.1
    rw [m_X3_init_70] at hm
    obtain ⟨h1, eh1, hm⟩ := bdE hm
    refine cg_putF C hw eh1 rfl in_X3 tyX3 tyX3_ok nmX3 (by decide) q1586 rfl hin rfl rfl rfl dX3_init_70 (fun H locs hw => ?_)
    have zh1 := pF_sz eh1
    refine lv_aload_n hx hb dX3_init_73 rfl (lv_at hl 0 rfl) ?_
    refine lv_sipush (v := 400) hx hb dX3_init_74 (by decide) ?_
    obtain ⟨h2, eh2, hm⟩ := nmE hm
    obtain ⟨_, _, hmq⟩ := nmE hm
    have hmo := mo_X3_init_79   h2 x0 x0 _ _ hmq
    have sh2 : h2.1 ≤ u9.1 := hmo.1
    have th2 : h2.2.1 ≤ u9.2.1 := hmo.2.1
    have zh2 := cn_sz eh2
    refine cg_newI (C0 := C) hw (N := 400) (by decide) (by decide) (by decide) (show cc + 1 ≤ u9.1 - u.1 by omega) (show ss + 400 ≤ u9.2.1 - u.2.1 by omega) dX3_init_77 (fun H hw => ?_)
    rw [← eh2] at hw
    refine lv_topr (fun a3 ea3 => ?_)
    have hm := nmK hm ea3
    exact hB79 h2 x0 x0 a3 _ _ _ _ _ hm hw (by omega) (by omega) (lv_sub hl [0] rfl)
  have hB62 : ∀ (h : CH) (x0 : Nat) (y0 : Nat) (y1 : Nat) (cc ss : Nat) (H : Heap) (locs : List Loc) (ls : Array Slot), m_X3_init_62 f h x0 y0 y1 = some u9 → CW D dA A s h H locs → cc + u.1 = h.1 → ss + u.2.1 = h.2.1 → lv_has ls 1 [(0, .ref x0)] → W p l e (rm_X3_init (u9.1 - u.1) (u9.2.1 - u.2.1)) s m args below meth c H locs cc ss QQ (F0 m 62 ls [.ref y1, .ref y0]) := by
    intro h x0 y0 y1 cc ss H locs ls hm hw hcc hss hl
    have hmo := mo_X3_init_62  h x0 y0 y1 _ hm
    have sb_ : h.1 ≤ u9.1 := hmo.1
    have tb_ : h.2.1 ≤ u9.2.1 := hmo.2.1
    rw [m_X3_init_62] at hm
    obtain ⟨h1, eh1, hm⟩ := bdE hm
    refine cg_putF C hw eh1 rfl in_X3 tyX3 tyX3_ok nmX3 (by decide) q1584 rfl hin rfl rfl rfl dX3_init_62 (fun H locs hw => ?_)
    have zh1 := pF_sz eh1
    refine lv_aload_n hx hb dX3_init_65 rfl (lv_at hl 0 rfl) ?_
    refine lv_bipush (v := 9) hx hb dX3_init_66 (by decide) ?_
    obtain ⟨h2, eh2, hm⟩ := nmE hm
    obtain ⟨_, _, hmq⟩ := nmE hm
    have hmo := mo_X3_init_70   h2 x0 x0 _ _ hmq
    have sh2 : h2.1 ≤ u9.1 := hmo.1
    have th2 : h2.2.1 ≤ u9.2.1 := hmo.2.1
    have zh2 := cn_sz eh2
    refine cg_newJ (C0 := C) hw (N := 9) (by decide) (by decide) (by decide) (show cc + 1 ≤ u9.1 - u.1 by omega) (show ss + 9 ≤ u9.2.1 - u.2.1 by omega) dX3_init_68 (fun H hw => ?_)
    rw [← eh2] at hw
    refine lv_topr (fun a3 ea3 => ?_)
    have hm := nmK hm ea3
    exact hB70 h2 x0 x0 a3 _ _ _ _ _ hm hw (by omega) (by omega) (lv_sub hl [0] rfl)
  have hB54 : ∀ (h : CH) (x0 : Nat) (y0 : Nat) (y1 : Nat) (cc ss : Nat) (H : Heap) (locs : List Loc) (ls : Array Slot), m_X3_init_54 f h x0 y0 y1 = some u9 → CW D dA A s h H locs → cc + u.1 = h.1 → ss + u.2.1 = h.2.1 → lv_has ls 1 [(0, .ref x0)] → W p l e (rm_X3_init (u9.1 - u.1) (u9.2.1 - u.2.1)) s m args below meth c H locs cc ss QQ (F0 m 54 ls [.ref y1, .ref y0]) := by
    intro h x0 y0 y1 cc ss H locs ls hm hw hcc hss hl
    have hmo := mo_X3_init_54  h x0 y0 y1 _ hm
    have sb_ : h.1 ≤ u9.1 := hmo.1
    have tb_ : h.2.1 ≤ u9.2.1 := hmo.2.1
    rw [m_X3_init_54] at hm
    obtain ⟨h1, eh1, hm⟩ := bdE hm
    refine cg_putF C hw eh1 rfl in_X3 tyX3 tyX3_ok nmX3 (by decide) q1583 rfl hin rfl rfl rfl dX3_init_54 (fun H locs hw => ?_)
    have zh1 := pF_sz eh1
    refine lv_aload_n hx hb dX3_init_57 rfl (lv_at hl 0 rfl) ?_
    refine lv_bipush (v := 9) hx hb dX3_init_58 (by decide) ?_
    obtain ⟨h2, eh2, hm⟩ := nmE hm
    obtain ⟨_, _, hmq⟩ := nmE hm
    have hmo := mo_X3_init_62   h2 x0 x0 _ _ hmq
    have sh2 : h2.1 ≤ u9.1 := hmo.1
    have th2 : h2.2.1 ≤ u9.2.1 := hmo.2.1
    have zh2 := cn_sz eh2
    refine cg_newJ (C0 := C) hw (N := 9) (by decide) (by decide) (by decide) (show cc + 1 ≤ u9.1 - u.1 by omega) (show ss + 9 ≤ u9.2.1 - u.2.1 by omega) dX3_init_60 (fun H hw => ?_)
    rw [← eh2] at hw
    refine lv_topr (fun a3 ea3 => ?_)
    have hm := nmK hm ea3
    exact hB62 h2 x0 x0 a3 _ _ _ _ _ hm hw (by omega) (by omega) (lv_sub hl [0] rfl)
  have hB47 : ∀ (h : CH) (x0 : Nat) (y0 : Nat) (y1 : Nat) (cc ss : Nat) (H : Heap) (locs : List Loc) (ls : Array Slot), m_X3_init_47 f h x0 y0 y1 = some u9 → CW D dA A s h H locs → cc + u.1 = h.1 → ss + u.2.1 = h.2.1 → lv_has ls 1 [(0, .ref x0)] → W p l e (rm_X3_init (u9.1 - u.1) (u9.2.1 - u.2.1)) s m args below meth c H locs cc ss QQ (F0 m 47 ls [.ref y1, .ref y0]) := by
    intro h x0 y0 y1 cc ss H locs ls hm hw hcc hss hl
    have hmo := mo_X3_init_47  h x0 y0 y1 _ hm
    have sb_ : h.1 ≤ u9.1 := hmo.1
    have tb_ : h.2.1 ≤ u9.2.1 := hmo.2.1
    rw [m_X3_init_47] at hm
    obtain ⟨h1, eh1, hm⟩ := bdE hm
    refine cg_putF C hw eh1 rfl in_X3 tyX3 tyX3_ok nmX3 (by decide) q1582 rfl hin rfl rfl rfl dX3_init_47 (fun H locs hw => ?_)
    have zh1 := pF_sz eh1
    refine lv_aload_n hx hb dX3_init_50 rfl (lv_at hl 0 rfl) ?_
    refine lv_iconst (v := 5) hx hb dX3_init_51 (by decide) ?_
    obtain ⟨h2, eh2, hm⟩ := nmE hm
    obtain ⟨_, _, hmq⟩ := nmE hm
    have hmo := mo_X3_init_54   h2 x0 x0 _ _ hmq
    have sh2 : h2.1 ≤ u9.1 := hmo.1
    have th2 : h2.2.1 ≤ u9.2.1 := hmo.2.1
    have zh2 := cn_sz eh2
    refine cg_newI (C0 := C) hw (N := 5) (by decide) (by decide) (by decide) (show cc + 1 ≤ u9.1 - u.1 by omega) (show ss + 5 ≤ u9.2.1 - u.2.1 by omega) dX3_init_52 (fun H hw => ?_)
    rw [← eh2] at hw
    refine lv_topr (fun a3 ea3 => ?_)
    have hm := nmK hm ea3
    exact hB54 h2 x0 x0 a3 _ _ _ _ _ hm hw (by omega) (by omega) (lv_sub hl [0] rfl)
  have hB35 : ∀ (h : CH) (x0 : Nat) (y0 : Nat) (y1 : Nat) (cc ss : Nat) (H : Heap) (locs : List Loc) (ls : Array Slot), m_X3_init_35 f h x0 y0 y1 = some u9 → CW D dA A s h H locs → cc + u.1 = h.1 → ss + u.2.1 = h.2.1 → lv_has ls 1 [(0, .ref x0)] → W p l e (rm_X3_init (u9.1 - u.1) (u9.2.1 - u.2.1)) s m args below meth c H locs cc ss QQ (F0 m 35 ls [.ref y1, .ref y0]) := by
    intro h x0 y0 y1 cc ss H locs ls hm hw hcc hss hl
    have hmo := mo_X3_init_35  h x0 y0 y1 _ hm
    have sb_ : h.1 ≤ u9.1 := hmo.1
    have tb_ : h.2.1 ≤ u9.2.1 := hmo.2.1
    rw [m_X3_init_35] at hm
    obtain ⟨h1, eh1, hm⟩ := bdE hm
    refine cg_putF C hw eh1 rfl in_X3 tyX3 tyX3_ok nmX3 (by decide) q1569 rfl hin rfl rfl rfl dX3_init_35 (fun H locs hw => ?_)
    have zh1 := pF_sz eh1
    refine lv_aload_n hx hb dX3_init_38 rfl (lv_at hl 0 rfl) ?_
    refine lv_iconst (v := -1) hx hb dX3_init_39 (by decide) ?_
    obtain ⟨h2, eh2, hm⟩ := bdE hm
    refine cg_put C hw eh2 rfl in_X3 tyX3 tyX3_ok nmX3 (by decide) q1572 rfl rfl rfl dX3_init_40 (fun H locs hw => ?_)
    have zh2 := pF_sz eh2
    refine lv_aload_n hx hb dX3_init_43 rfl (lv_at hl 0 rfl) ?_
    refine lv_iconst (v := 5) hx hb dX3_init_44 (by decide) ?_
    obtain ⟨h3, eh3, hm⟩ := nmE hm
    obtain ⟨_, _, hmq⟩ := nmE hm
    have hmo := mo_X3_init_47   h3 x0 x0 _ _ hmq
    have sh3 : h3.1 ≤ u9.1 := hmo.1
    have th3 : h3.2.1 ≤ u9.2.1 := hmo.2.1
    have zh3 := cn_sz eh3
    refine cg_newI (C0 := C) hw (N := 5) (by decide) (by decide) (by decide) (show cc + 1 ≤ u9.1 - u.1 by omega) (show ss + 5 ≤ u9.2.1 - u.2.1 by omega) dX3_init_45 (fun H hw => ?_)
    rw [← eh3] at hw
    refine lv_topr (fun a4 ea4 => ?_)
    have hm := nmK hm ea4
    exact hB47 h3 x0 x0 a4 _ _ _ _ _ hm hw (by omega) (by omega) (lv_sub hl [0] rfl)
  have hB26 : ∀ (h : CH) (x0 : Nat) (y0 : Nat) (y1 : Nat) (cc ss : Nat) (H : Heap) (locs : List Loc) (ls : Array Slot), m_X3_init_26 f h x0 y0 y1 = some u9 → CW D dA A s h H locs → cc + u.1 = h.1 → ss + u.2.1 = h.2.1 → lv_has ls 1 [(0, .ref x0)] → W p l e (rm_X3_init (u9.1 - u.1) (u9.2.1 - u.2.1)) s m args below meth c H locs cc ss QQ (F0 m 26 ls [.ref y1, .ref y0]) := by
    intro h x0 y0 y1 cc ss H locs ls hm hw hcc hss hl
    have hmo := mo_X3_init_26  h x0 y0 y1 _ hm
    have sb_ : h.1 ≤ u9.1 := hmo.1
    have tb_ : h.2.1 ≤ u9.2.1 := hmo.2.1
    rw [m_X3_init_26] at hm
    obtain ⟨h1, eh1, hm⟩ := bdE hm
    refine cg_putF C hw eh1 rfl in_X3 tyX3 tyX3_ok nmX3 (by decide) q1568 rfl hin rfl rfl rfl dX3_init_26 (fun H locs hw => ?_)
    have zh1 := pF_sz eh1
    refine lv_aload_n hx hb dX3_init_29 rfl (lv_at hl 0 rfl) ?_
    refine lv_sipush (v := 500) hx hb dX3_init_30 (by decide) ?_
    obtain ⟨h2, eh2, hm⟩ := nmE hm
    obtain ⟨_, _, hmq⟩ := nmE hm
    have hmo := mo_X3_init_35   h2 x0 x0 _ _ hmq
    have sh2 : h2.1 ≤ u9.1 := hmo.1
    have th2 : h2.2.1 ≤ u9.2.1 := hmo.2.1
    have zh2 := cn_sz eh2
    refine cg_newI (C0 := C) hw (N := 500) (by decide) (by decide) (by decide) (show cc + 1 ≤ u9.1 - u.1 by omega) (show ss + 500 ≤ u9.2.1 - u.2.1 by omega) dX3_init_33 (fun H hw => ?_)
    rw [← eh2] at hw
    refine lv_topr (fun a3 ea3 => ?_)
    have hm := nmK hm ea3
    exact hB35 h2 x0 x0 a3 _ _ _ _ _ hm hw (by omega) (by omega) (lv_sub hl [0] rfl)
  have hB17 : ∀ (h : CH) (x0 : Nat) (y0 : Nat) (y1 : Nat) (cc ss : Nat) (H : Heap) (locs : List Loc) (ls : Array Slot), m_X3_init_17 f h x0 y0 y1 = some u9 → CW D dA A s h H locs → cc + u.1 = h.1 → ss + u.2.1 = h.2.1 → lv_has ls 1 [(0, .ref x0)] → W p l e (rm_X3_init (u9.1 - u.1) (u9.2.1 - u.2.1)) s m args below meth c H locs cc ss QQ (F0 m 17 ls [.ref y1, .ref y0]) := by
    intro h x0 y0 y1 cc ss H locs ls hm hw hcc hss hl
    have hmo := mo_X3_init_17  h x0 y0 y1 _ hm
    have sb_ : h.1 ≤ u9.1 := hmo.1
    have tb_ : h.2.1 ≤ u9.2.1 := hmo.2.1
    rw [m_X3_init_17] at hm
    obtain ⟨h1, eh1, hm⟩ := bdE hm
    refine cg_putF C hw eh1 rfl in_X3 tyX3 tyX3_ok nmX3 (by decide) q1567 rfl hin rfl rfl rfl dX3_init_17 (fun H locs hw => ?_)
    have zh1 := pF_sz eh1
    refine lv_aload_n hx hb dX3_init_20 rfl (lv_at hl 0 rfl) ?_
    refine lv_sipush (v := 900) hx hb dX3_init_21 (by decide) ?_
    obtain ⟨h2, eh2, hm⟩ := nmE hm
    obtain ⟨_, _, hmq⟩ := nmE hm
    have hmo := mo_X3_init_26   h2 x0 x0 _ _ hmq
    have sh2 : h2.1 ≤ u9.1 := hmo.1
    have th2 : h2.2.1 ≤ u9.2.1 := hmo.2.1
    have zh2 := cn_sz eh2
    refine cg_newI (C0 := C) hw (N := 900) (by decide) (by decide) (by decide) (show cc + 1 ≤ u9.1 - u.1 by omega) (show ss + 900 ≤ u9.2.1 - u.2.1 by omega) dX3_init_24 (fun H hw => ?_)
    rw [← eh2] at hw
    refine lv_topr (fun a3 ea3 => ?_)
    have hm := nmK hm ea3
    exact hB26 h2 x0 x0 a3 _ _ _ _ _ hm hw (by omega) (by omega) (lv_sub hl [0] rfl)
  have hB9 : ∀ (h : CH) (x0 : Nat) (y0 : Nat) (y1 : Nat) (cc ss : Nat) (H : Heap) (locs : List Loc) (ls : Array Slot), m_X3_init_9 f h x0 y0 y1 = some u9 → CW D dA A s h H locs → cc + u.1 = h.1 → ss + u.2.1 = h.2.1 → lv_has ls 1 [(0, .ref x0)] → W p l e (rm_X3_init (u9.1 - u.1) (u9.2.1 - u.2.1)) s m args below meth c H locs cc ss QQ (F0 m 9 ls [.ref y1, .ref y0]) := by
    intro h x0 y0 y1 cc ss H locs ls hm hw hcc hss hl
    have hmo := mo_X3_init_9  h x0 y0 y1 _ hm
    have sb_ : h.1 ≤ u9.1 := hmo.1
    have tb_ : h.2.1 ≤ u9.2.1 := hmo.2.1
    rw [m_X3_init_9] at hm
    obtain ⟨h1, eh1, hm⟩ := bdE hm
    refine cg_putF C hw eh1 rfl in_X3 tyX3 tyX3_ok nmX3 (by decide) q1566 rfl hin rfl rfl rfl dX3_init_9 (fun H locs hw => ?_)
    have zh1 := pF_sz eh1
    refine lv_aload_n hx hb dX3_init_12 rfl (lv_at hl 0 rfl) ?_
    refine lv_bipush (v := 73) hx hb dX3_init_13 (by decide) ?_
    obtain ⟨h2, eh2, hm⟩ := nmE hm
    obtain ⟨_, _, hmq⟩ := nmE hm
    have hmo := mo_X3_init_17   h2 x0 x0 _ _ hmq
    have sh2 : h2.1 ≤ u9.1 := hmo.1
    have th2 : h2.2.1 ≤ u9.2.1 := hmo.2.1
    have zh2 := cn_sz eh2
    refine cg_newI (C0 := C) hw (N := 73) (by decide) (by decide) (by decide) (show cc + 1 ≤ u9.1 - u.1 by omega) (show ss + 73 ≤ u9.2.1 - u.2.1 by omega) dX3_init_15 (fun H hw => ?_)
    rw [← eh2] at hw
    refine lv_topr (fun a3 ea3 => ?_)
    have hm := nmK hm ea3
    exact hB17 h2 x0 x0 a3 _ _ _ _ _ hm hw (by omega) (by omega) (lv_sub hl [0] rfl)
  rw [m_X3_init] at hm
  refine lv_aload_n hx hb dX3_init_0 rfl (lv_at hl 0 rfl) ?_
  refine W.objInit hx hb hown (hts _ q1565) (hts _ q161) (hts _ q162) rfl (by rw [hml]; exact hl.1) rfl dX3_init_1 (Nat.le_of_ble_eq_true rfl) (Nat.le_of_ble_eq_true rfl) ?_
  refine W.eq (g2 := F0 m 4 ls []) rfl ?_
  refine lv_aload_n hx hb dX3_init_4 rfl (lv_at hl 0 rfl) ?_
  refine lv_bipush (v := 73) hx hb dX3_init_5 (by decide) ?_
  obtain ⟨h1, eh1, hm⟩ := nmE hm
  obtain ⟨_, _, hmq⟩ := nmE hm
  have hmo := mo_X3_init_9   h1 x0 x0 _ _ hmq
  have sh1 : h1.1 ≤ u9.1 := hmo.1
  have th1 : h1.2.1 ≤ u9.2.1 := hmo.2.1
  have zh1 := cn_sz eh1
  refine cg_newI (C0 := C) hw (N := 73) (by decide) (by decide) (by decide) (show cc + 1 ≤ u9.1 - u.1 by omega) (show ss + 73 ≤ u9.2.1 - u.2.1 by omega) dX3_init_7 (fun H hw => ?_)
  rw [← eh1] at hw
  refine lv_topr (fun a2 ea2 => ?_)
  have hm := nmK hm ea2
  exact hB9 h1 x0 x0 a2 _ _ _ _ _ hm hw (by omega) (by omega) (lv_sub hl [0] rfl)
def m_X3_feed_89 (f : Nat) (h : CH) (x0 : Nat) : Option (Int32 × CH) := bd (oI h 0 4 x0) fun v1 =>
    bd (pF h 0 4 x0 (.int (v1 + (20 : Int32)))) fun h2 =>
    bd (oI h2 0 4 x0) fun v3 =>
    some (v3, h2)
theorem mo_X3_feed_89 {f : Nat} : ∀ (h : CH) (x0 : Nat) (r : (Int32 × CH)), m_X3_feed_89 f h x0 = some r → le2 h r.2 := by
  intro h x0 r hm
  rw [m_X3_feed_89] at hm
  obtain ⟨v1, ev1, hm⟩ := bdE hm
  obtain ⟨h2, eh2, hm⟩ := bdE hm
  have lh2 := pF_le eh2
  obtain ⟨v3, ev3, hm⟩ := bdE hm
  cases hm
  exact (lh2.tr le2.rf)
def m_X3_feed_42 (f : Nat) : Nat → CH → Nat → Nat → Int32 → Option (Int32 × CH)
  | 0, _, _, _, _ => none
  | n42 + 1, h, x0, x6, x7 => if (20 : Int32) ≤ x7 then
    m_X3_feed_89 f h x0
    else bd (oR h 0 3 x0) fun a2 =>
    bd (oI h 0 4 x0) fun v3 =>
    bd (aI h 0 x6 (x7 / (4 : Int32))) fun v4 =>
    bd (uI h 0 a2 (v3 + x7) ((ushI v4 ((24 : Int32) - ((8 : Int32) * (rmI x7 (4 : Int32))))) &&& (255 : Int32))) fun h5 =>
    nmv ((x7 + 1) : Int32) fun v6 =>
    m_X3_feed_42 f n42 h5 x0 x6 v6
theorem mo_X3_feed_42 {f : Nat} : ∀ (n42 : Nat) (h : CH) (x0 : Nat) (x6 : Nat) (x7 : Int32) (r : (Int32 × CH)), m_X3_feed_42 f n42 h x0 x6 x7 = some r → le2 h r.2 := by
  intro n42
  induction n42 with
  | zero => intro h x0 x6 x7 r hm; rw [m_X3_feed_42] at hm; exact noE hm
  | succ n42 ihm =>
    intro h x0 x6 x7 r hm
    rw [m_X3_feed_42] at hm
    by_cases c1 : (20 : Int32) ≤ x7
    · have hm := ifT hm c1
      exact (mo_X3_feed_89  h x0 _ hm)
    · have hm := ifF hm c1
      obtain ⟨a2, ea2, hm⟩ := bdE hm
      obtain ⟨v3, ev3, hm⟩ := bdE hm
      obtain ⟨v4, ev4, hm⟩ := bdE hm
      obtain ⟨h5, eh5, hm⟩ := bdE hm
      have lh5 := uI_le eh5
      obtain ⟨v6, ev6, hm⟩ := nmE hm
      exact (lh5.tr (ihm h5 x0 x6 v6 _ hm))
def m_X3_feed_15 (f : Nat) (h : CH) (x0 : Nat) (x1 : Int32) (x2 : Int32) (x3 : Int32) (x4 : Int32) (x5 : Int32) (y0 : Nat) : Option (Int32 × CH) := bd (uI h 0 y0 (0 : Int32) x1) fun h1 =>
    bd (uI h1 0 y0 (1 : Int32) x2) fun h2 =>
    bd (uI h2 0 y0 (2 : Int32) x3) fun h3 =>
    bd (uI h3 0 y0 (3 : Int32) x4) fun h4 =>
    bd (uI h4 0 y0 (4 : Int32) x5) fun h5 =>
    m_X3_feed_42 f f h5 x0 y0 (0 : Int32)
theorem mo_X3_feed_15 {f : Nat} : ∀ (h : CH) (x0 : Nat) (x1 : Int32) (x2 : Int32) (x3 : Int32) (x4 : Int32) (x5 : Int32) (y0 : Nat) (r : (Int32 × CH)), m_X3_feed_15 f h x0 x1 x2 x3 x4 x5 y0 = some r → le2 h r.2 := by
  intro h x0 x1 x2 x3 x4 x5 y0 r hm
  rw [m_X3_feed_15] at hm
  obtain ⟨h1, eh1, hm⟩ := bdE hm
  have lh1 := uI_le eh1
  obtain ⟨h2, eh2, hm⟩ := bdE hm
  have lh2 := uI_le eh2
  obtain ⟨h3, eh3, hm⟩ := bdE hm
  have lh3 := uI_le eh3
  obtain ⟨h4, eh4, hm⟩ := bdE hm
  have lh4 := uI_le eh4
  obtain ⟨h5, eh5, hm⟩ := bdE hm
  have lh5 := uI_le eh5
  exact (lh1.tr (lh2.tr (lh3.tr (lh4.tr (lh5.tr (mo_X3_feed_42  f h5 x0 y0 (0 : Int32) _ hm))))))
def m_X3_feed (f : Nat) (u : CH) (x0 : Nat) (x1 : Int32) (x2 : Int32) (x3 : Int32) (x4 : Int32) (x5 : Int32) : Option (Int32 × CH) := bd (oI u 0 4 x0) fun v1 =>
    if v1 ≤ (480 : Int32) then
    nmv (cn u 5 (.inr (0, 5, .inl (fun _ => 0)))) fun h3 =>
    nmv (u.1 : Nat) fun a4 =>
    m_X3_feed_15 f h3 x0 x1 x2 x3 x4 x5 a4
    else some ((-1 : Int32), u)
theorem mo_X3_feed {f : Nat} {u : CH} {x0 : Nat} {x1 : Int32} {x2 : Int32} {x3 : Int32} {x4 : Int32} {x5 : Int32} {r0 : Int32} {u9 : CH} (hm : m_X3_feed f u x0 x1 x2 x3 x4 x5 = some (r0, u9)) : le2 u u9 := by
  rw [m_X3_feed] at hm
  obtain ⟨v1, ev1, hm⟩ := bdE hm
  by_cases c2 : v1 ≤ (480 : Int32)
  · have hm := ifT hm c2
    obtain ⟨h3, eh3, hm⟩ := nmE hm
    have lh3 := cn_le eh3
    obtain ⟨a4, ea4, hm⟩ := nmE hm
    exact (lh3.tr (mo_X3_feed_15  h3 x0 x1 x2 x3 x4 x5 a4 _ hm))
  · have hm := ifF hm c2
    cases hm
    exact le2.rf
abbrev rm_X3_feed (mc ms : Nat) : Room := { frames := 0, cells := mc, slots := ms, locals := 0 }
theorem cw_X3_feed {R : Room} {s : State} {args : Array Value} {own : String} {idx mc ms : Nat} (hts : ∀ w ∈ lw_all, w.before args s = true) (hl : Cond.methodLink own idx yX3_feed ∈ lw_all) (hR : 0 + 1 ≤ R.frames ∧ 8 + (8 + 11) + 0 ≤ R.locals) : CallW R s args own RX3 idx yX3_feed cX3_feed 8 (Option.some Jvm.ClassFile.FieldType.int) (ws_ yX3_feed cX3_feed 8 (Option.some Jvm.ClassFile.FieldType.int)) (rm_X3_feed mc ms) mc ms 5 := cwV 5 hts (lw_V hl q1688 q1689 q125 q1690) rfl rfl rfl (by decide +kernel) hR
set_option maxHeartbeats 4000000 in
set_option maxRecDepth 100000 in
theorem w_X3_feed (l : Launch) {D : va_G} {dA : Nat → ClassId} {A : Nat → Prop} {f : Nat} {u u9 : CH} {r0 : Int32} {x0 : Nat} {x1 : Int32} {x2 : Int32} {x3 : Int32} {x4 : Int32} {x5 : Int32} (hm : m_X3_feed f u x0 x1 x2 x3 x4 x5 = some (r0, u9)) : Met l yX3_feed (ws_ yX3_feed cX3_feed 8 (Option.some Jvm.ClassFile.FieldType.int)) (rm_X3_feed (u9.1 - u.1) (u9.2.1 - u.2.1)) (va_Pc [.ref x0, .int x1, .int x2, .int x3, .int x4, .int x5] (CPre D dA A u)) (va_Qi (fun r u => r = r0 ∧ u = u9) (CPost D dA A) A) (u9.1 - u.1) (u9.2.1 - u.2.1) A := by
  refine Met.ofW (cc := cX3_feed) (maxL := 8) (ret := (Option.some Jvm.ClassFile.FieldType.int)) (by decide) rfl ?_
  intro p e s m args below meth c s₁ B hml hv
  have hx := B.exec
  have hb := B.bytes
  have hr := B.returns
  have hts := atoms_spec (ws := (ws_ yX3_feed cX3_feed 8 (Option.some Jvm.ClassFile.FieldType.int))) B.pre
  have hts : ∀ w ∈ lw_all, w.before args s = true := fun w h => hts w (List.mem_cons_of_mem _ h)
  have hown : s.vm.findClass RX3 = some m.cls := findClass_of_methodNamed B.named
  have hlocks := B.notSynchronized
  obtain ⟨hav, hv⟩ := hv
  have C : CX p s m args c cX3_feed RX3 D dA := ⟨hx, hb, hown, hts, hv.2⟩
  have hw : CW D dA A s u s.heap [] := hv.1
  have hs0 : s.heap.size = u.1 := hv.1.1
  generalize hQ : MQ below (va_Qi (fun r u => r = r0 ∧ u = u9) (CPost D dA A) A) args s (u9.1 - u.1) (u9.2.1 - u.2.1) A = QQ
  have hent := lg_entry_eq m [.ref x0, .int x1, .int x2, .int x3, .int x4, .int x5] 8
  rw [← hav] at hent
  rw [hent]
  have hl := lv_entry ([.ref x0, .int x1, .int x2, .int x3, .int x4, .int x5]) (n := 8) (Nat.le_of_ble_eq_true rfl)
  generalize (lg_sl ([.ref x0, .int x1, .int x2, .int x3, .int x4, .int x5]) ++ List.replicate (8 - (lg_sl ([.ref x0, .int x1, .int x2, .int x3, .int x4, .int x5])).length) Slot.unset).toArray = ls at hl ⊢
  have hl : lv_has ls 8 [(0, .ref x0), (1, .int x1), (2, .int x2), (3, .int x3), (4, .int x4), (5, .int x5)] := hl
  obtain ⟨cc, ecc⟩ : ∃ z : Nat, z = 0 := ⟨0, rfl⟩
  obtain ⟨ss, ess⟩ : ∃ z : Nat, z = 0 := ⟨0, rfl⟩
  have hcc : cc + u.1 = u.1 := by omega
  have hss : ss + u.2.1 = u.2.1 := by omega
  suffices hgo : W p l e (rm_X3_feed (u9.1 - u.1) (u9.2.1 - u.2.1)) s m args below meth c s.heap [] cc ss QQ (F0 m 0 ls []) by rw [ecc, ess] at hgo; exact hgo
  have ⟨pu, qu, _, _⟩ := mo_X3_feed hm
  have hB89 : ∀ (h : CH) (x0 : Nat) (cc ss : Nat) (H : Heap) (locs : List Loc) (ls : Array Slot), m_X3_feed_89 f h x0 = some (r0, u9) → CW D dA A s h H locs → cc + u.1 = h.1 → ss + u.2.1 = h.2.1 → lv_has ls 8 [(0, .ref x0)] → W p l e (rm_X3_feed (u9.1 - u.1) (u9.2.1 - u.2.1)) s m args below meth c H locs cc ss QQ (F0 m 89 ls []) := by
    intro h x0 cc ss H locs ls hm hw hcc hss hl
    have hmo := mo_X3_feed_89  h x0 _ hm
    have sb_ : h.1 ≤ u9.1 := hmo.1
    have tb_ : h.2.1 ≤ u9.2.1 := hmo.2.1
    rw [m_X3_feed_89] at hm
    refine lv_aload_n hx hb dX3_feed_89 rfl (lv_at hl 0 rfl) ?_
    refine lv_dup hx hb dX3_feed_90 rfl ?_
    obtain ⟨v1, ev1, hm⟩ := bdE hm
    refine cg_get C hw (oI_E ev1) rfl in_X3 (by decide) q1570 dX3_feed_91 ?_
    refine lv_bipush (v := 20) hx hb dX3_feed_94 (by decide) ?_
    refine lv_iadd hx hb dX3_feed_96 ?_
    obtain ⟨h2, eh2, hm⟩ := bdE hm
    refine cg_put C hw eh2 rfl in_X3 tyX3 tyX3_ok nmX3 (by decide) q1570 rfl rfl rfl dX3_feed_97 (fun H locs hw => ?_)
    have zh2 := pF_sz eh2
    refine lv_aload_n hx hb dX3_feed_100 rfl (lv_at hl 0 rfl) ?_
    obtain ⟨v3, ev3, hm⟩ := bdE hm
    refine cg_get C hw (oI_E ev3) rfl in_X3 (by decide) q1570 dX3_feed_101 ?_
    obtain ⟨er, eh⟩ := retE hm
    have ec : cc = u9.1 - u.1 := by rw [← eh]; omega
    have es : ss = u9.2.1 - u.2.1 := by rw [← eh]; omega
    rw [ec, es, ← hQ]
    exact W.iret (v := v3) hx hb hr (fun t ht hW => ⟨⟨v3, h2, rfl, ⟨er, eh⟩, ⟨by rw [ht]; exact hw.1, by rw [ht]; exact hw.2.1⟩⟩, hw.2.2.1.F ht⟩) hw.2.2.1.2.2 dX3_feed_104
  have hB42 : ∀ (n42 : Nat), ∀ (h : CH) (x0 : Nat) (x6 : Nat) (x7 : Int32) (cc ss : Nat) (H : Heap) (locs : List Loc) (ls : Array Slot), m_X3_feed_42 f n42 h x0 x6 x7 = some (r0, u9) → CW D dA A s h H locs → cc + u.1 = h.1 → ss + u.2.1 = h.2.1 → lv_has ls 8 [(0, .ref x0), (6, .ref x6), (7, .int x7)] → W p l e (rm_X3_feed (u9.1 - u.1) (u9.2.1 - u.2.1)) s m args below meth c H locs cc ss QQ (F0 m 42 ls []) := by
    intro n42
    induction n42 with
    | zero => intro h x0 x6 x7 cc ss H locs ls hm hw hcc hss hl; rw [m_X3_feed_42] at hm; exact noE hm
    | succ n42 ih42 =>
      intro h x0 x6 x7 cc ss H locs ls hm hw hcc hss hl
      have hmo := mo_X3_feed_42  (n42 + 1) h x0 x6 x7 _ hm
      have sb_ : h.1 ≤ u9.1 := hmo.1
      have tb_ : h.2.1 ≤ u9.2.1 := hmo.2.1
      rw [m_X3_feed_42] at hm
      refine lv_iload hx hb dX3_feed_42 (lv_at hl 2 rfl) ?_
      refine lv_bipush (v := 20) hx hb dX3_feed_44 (by decide) ?_
      refine lv_icmp_ge (tgt := 89) hx hb dX3_feed_46 (by decide) (fun c1 => ?_) (fun c1 => ?_)
      · have hm := ifT hm c1
        exact hB89 h x0 _ _ _ _ _ hm hw (by omega) (by omega) (lv_sub hl [0] rfl)
      · have hm := ifF hm c1
        refine lv_aload_n hx hb dX3_feed_49 rfl (lv_at hl 0 rfl) ?_
        obtain ⟨a2, ea2, hm⟩ := bdE hm
        refine cg_get C hw (oR_E ea2) rfl in_X3 (by decide) q1569 dX3_feed_50 ?_
        refine lv_aload_n hx hb dX3_feed_53 rfl (lv_at hl 0 rfl) ?_
        obtain ⟨v3, ev3, hm⟩ := bdE hm
        refine cg_get C hw (oI_E ev3) rfl in_X3 (by decide) q1570 dX3_feed_54 ?_
        refine lv_iload hx hb dX3_feed_57 (lv_at hl 2 rfl) ?_
        refine lv_iadd hx hb dX3_feed_59 ?_
        refine lv_aload hx hb dX3_feed_60 (lv_at hl 1 rfl) ?_
        refine lv_iload hx hb dX3_feed_62 (lv_at hl 2 rfl) ?_
        refine lv_iconst (v := 4) hx hb dX3_feed_64 (by decide) ?_
        refine lv_idiv hx hb dX3_feed_65 (by decide) ?_
        obtain ⟨v4, ev4, hm⟩ := bdE hm
        refine cg_iald C hw ev4 dX3_feed_66 ?_
        refine lv_bipush (v := 24) hx hb dX3_feed_67 (by decide) ?_
        refine lv_bipush (v := 8) hx hb dX3_feed_69 (by decide) ?_
        refine lv_iload hx hb dX3_feed_71 (lv_at hl 2 rfl) ?_
        refine lv_iconst (v := 4) hx hb dX3_feed_73 (by decide) ?_
        refine w_irem hx hb dX3_feed_74 (by decide) ?_
        refine lv_imul hx hb dX3_feed_75 ?_
        refine lv_isub hx hb dX3_feed_76 ?_
        refine lv_iushr (v := ushI v4 ((24 : Int32) - ((8 : Int32) * (rmI x7 (4 : Int32))))) hx hb dX3_feed_77 rfl ?_
        refine lv_sipush (v := 255) hx hb dX3_feed_78 (by decide) ?_
        refine lv_iand hx hb dX3_feed_81 ?_
        obtain ⟨h5, eh5, hm⟩ := bdE hm
        refine cg_iast C hw eh5 dX3_feed_82 (fun H locs hw => ?_)
        have zh5 := uI_sz eh5
        obtain ⟨v6, ev6, hm⟩ := nmE hm
        refine lv_iinc (v := v6) (lv' := [(7, .int v6), (0, .ref x0), (6, .ref x6)]) hx hb dX3_feed_83 hl (k := 2) rfl (by rw [ev6]; rfl) (by decide) rfl (fun ls hl => ?_)
        refine lv_goto (tgt := 42) hx hb dX3_feed_86 (by decide) ?_
        exact ih42 h5 x0 x6 v6 _ _ _ _ _ hm hw (by omega) (by omega) (lv_sub hl [1, 2, 0] rfl)
  have hB15 : ∀ (h : CH) (x0 : Nat) (x1 : Int32) (x2 : Int32) (x3 : Int32) (x4 : Int32) (x5 : Int32) (y0 : Nat) (cc ss : Nat) (H : Heap) (locs : List Loc) (ls : Array Slot), m_X3_feed_15 f h x0 x1 x2 x3 x4 x5 y0 = some (r0, u9) → CW D dA A s h H locs → cc + u.1 = h.1 → ss + u.2.1 = h.2.1 → lv_has ls 8 [(0, .ref x0), (1, .int x1), (2, .int x2), (3, .int x3), (4, .int x4), (5, .int x5)] → W p l e (rm_X3_feed (u9.1 - u.1) (u9.2.1 - u.2.1)) s m args below meth c H locs cc ss QQ (F0 m 15 ls [.ref y0]) := by
    intro h x0 x1 x2 x3 x4 x5 y0 cc ss H locs ls hm hw hcc hss hl
    have hmo := mo_X3_feed_15  h x0 x1 x2 x3 x4 x5 y0 _ hm
    have sb_ : h.1 ≤ u9.1 := hmo.1
    have tb_ : h.2.1 ≤ u9.2.1 := hmo.2.1
    rw [m_X3_feed_15] at hm
    refine lv_dup hx hb dX3_feed_15 rfl ?_
    refine lv_iconst (v := 0) hx hb dX3_feed_16 (by decide) ?_
    refine lv_iload_n hx hb dX3_feed_17 rfl (lv_at hl 1 rfl) ?_
    obtain ⟨h1, eh1, hm⟩ := bdE hm
    refine cg_iast C hw eh1 dX3_feed_18 (fun H locs hw => ?_)
    have zh1 := uI_sz eh1
    refine lv_dup hx hb dX3_feed_19 rfl ?_
    refine lv_iconst (v := 1) hx hb dX3_feed_20 (by decide) ?_
    refine lv_iload_n hx hb dX3_feed_21 rfl (lv_at hl 2 rfl) ?_
    obtain ⟨h2, eh2, hm⟩ := bdE hm
    refine cg_iast C hw eh2 dX3_feed_22 (fun H locs hw => ?_)
    have zh2 := uI_sz eh2
    refine lv_dup hx hb dX3_feed_23 rfl ?_
    refine lv_iconst (v := 2) hx hb dX3_feed_24 (by decide) ?_
    refine lv_iload_n hx hb dX3_feed_25 rfl (lv_at hl 3 rfl) ?_
    obtain ⟨h3, eh3, hm⟩ := bdE hm
    refine cg_iast C hw eh3 dX3_feed_26 (fun H locs hw => ?_)
    have zh3 := uI_sz eh3
    refine lv_dup hx hb dX3_feed_27 rfl ?_
    refine lv_iconst (v := 3) hx hb dX3_feed_28 (by decide) ?_
    refine lv_iload hx hb dX3_feed_29 (lv_at hl 4 rfl) ?_
    obtain ⟨h4, eh4, hm⟩ := bdE hm
    refine cg_iast C hw eh4 dX3_feed_31 (fun H locs hw => ?_)
    have zh4 := uI_sz eh4
    refine lv_dup hx hb dX3_feed_32 rfl ?_
    refine lv_iconst (v := 4) hx hb dX3_feed_33 (by decide) ?_
    refine lv_iload hx hb dX3_feed_34 (lv_at hl 5 rfl) ?_
    obtain ⟨h5, eh5, hm⟩ := bdE hm
    refine cg_iast C hw eh5 dX3_feed_36 (fun H locs hw => ?_)
    have zh5 := uI_sz eh5
    refine lv_astore (lv' := [(6, .ref y0), (0, .ref x0), (1, .int x1), (2, .int x2), (3, .int x3), (4, .int x4), (5, .int x5)]) hx hb dX3_feed_37 hl (by decide) rfl (fun ls hl => ?_)
    refine lv_iconst (v := 0) hx hb dX3_feed_39 (by decide) ?_
    refine lv_istore (lv' := [(7, .int (0 : Int32)), (6, .ref y0), (0, .ref x0), (1, .int x1), (2, .int x2), (3, .int x3), (4, .int x4), (5, .int x5)]) hx hb dX3_feed_40 hl (by decide) rfl (fun ls hl => ?_)
    exact hB42 f h5 x0 y0 (0 : Int32) _ _ _ _ _ hm hw (by omega) (by omega) (lv_sub hl [2, 1, 0] rfl)
  rw [m_X3_feed] at hm
  refine lv_aload_n hx hb dX3_feed_0 rfl (lv_at hl 0 rfl) ?_
  obtain ⟨v1, ev1, hm⟩ := bdE hm
  refine cg_get C hw (oI_E ev1) rfl in_X3 (by decide) q1570 dX3_feed_1 ?_
  refine lv_sipush (v := 480) hx hb dX3_feed_4 (by decide) ?_
  refine lv_icmp_le (tgt := 12) hx hb dX3_feed_7 (by decide) (fun c2 => ?_) (fun c2 => ?_)
  · have hm := ifT hm c2
    refine lv_iconst (v := 5) hx hb dX3_feed_12 (by decide) ?_
    obtain ⟨h3, eh3, hm⟩ := nmE hm
    obtain ⟨_, _, hmq⟩ := nmE hm
    have hmo := mo_X3_feed_15   h3 x0 x1 x2 x3 x4 x5 _ _ hmq
    have sh3 : h3.1 ≤ u9.1 := hmo.1
    have th3 : h3.2.1 ≤ u9.2.1 := hmo.2.1
    have zh3 := cn_sz eh3
    refine cg_newI (C0 := C) hw (N := 5) (by decide) (by decide) (by decide) (show cc + 1 ≤ u9.1 - u.1 by omega) (show ss + 5 ≤ u9.2.1 - u.2.1 by omega) dX3_feed_13 (fun H hw => ?_)
    rw [← eh3] at hw
    refine lv_topr (fun a4 ea4 => ?_)
    have hm := nmK hm ea4
    exact hB15 h3 x0 x1 x2 x3 x4 x5 a4 _ _ _ _ _ hm hw (by omega) (by omega) (lv_sub hl [0, 1, 2, 3, 4, 5] rfl)
  · have hm := ifF hm c2
    refine lv_iconst (v := -1) hx hb dX3_feed_10 (by decide) ?_
    obtain ⟨er, eh⟩ := retE hm
    have ec : cc = u9.1 - u.1 := by rw [← eh]; omega
    have es : ss = u9.2.1 - u.2.1 := by rw [← eh]; omega
    rw [ec, es, ← hQ]
    exact W.iret (v := (-1 : Int32)) hx hb hr (fun t ht hW => ⟨⟨(-1 : Int32), u, rfl, ⟨er, eh⟩, ⟨by rw [ht]; exact hw.1, by rw [ht]; exact hw.2.1⟩⟩, hw.2.2.1.F ht⟩) hw.2.2.1.2.2 dX3_feed_11
def m_X3_coset_197 (f : Nat) (h : CH) (x9 : Int64) : Option (Int64 × CH) := some (x9, h)
theorem mo_X3_coset_197 {f : Nat} : ∀ (h : CH) (x9 : Int64) (r : (Int64 × CH)), m_X3_coset_197 f h x9 = some r → le2 h r.2 := by
  intro h x9 r hm
  rw [m_X3_coset_197] at hm
  cases hm
  exact le2.rf
def m_X3_coset_171 (f : Nat) (k107 : CH → Nat → Nat → Int64 → Int32 → Option (Int64 × CH)) (h : CH) (x0 : Nat) (x8 : Nat) (x9 : Int64) (x11 : Int32) : Option (Int64 × CH) := bd (oR h 0 32 x0) fun a1 =>
    bd (aL h 1 a1 ((4 : Int32) * x11)) fun v2 =>
    bd (aL h 1 x8 x11) fun v3 =>
    nmv (((x9 * v2) + v3) : Int64) fun v4 =>
    nmv ((x11 + 1) : Int32) fun v5 =>
    k107 h x0 x8 v4 v5
theorem mo_X3_coset_171 {f : Nat} {k107 : CH → Nat → Nat → Int64 → Int32 → Option (Int64 × CH)} (hk107 : ∀ (h : CH) (x0 : Nat) (x8 : Nat) (x9 : Int64) (x11 : Int32) (r : (Int64 × CH)), k107 h x0 x8 x9 x11 = some r → le2 h r.2) : ∀ (h : CH) (x0 : Nat) (x8 : Nat) (x9 : Int64) (x11 : Int32) (r : (Int64 × CH)), m_X3_coset_171 f k107 h x0 x8 x9 x11 = some r → le2 h r.2 := by
  intro h x0 x8 x9 x11 r hm
  rw [m_X3_coset_171] at hm
  obtain ⟨a1, ea1, hm⟩ := bdE hm
  obtain ⟨v2, ev2, hm⟩ := bdE hm
  obtain ⟨v3, ev3, hm⟩ := bdE hm
  obtain ⟨v4, ev4, hm⟩ := nmE hm
  obtain ⟨v5, ev5, hm⟩ := nmE hm
  exact (hk107 h x0 x8 v4 v5 _ hm)
def m_X3_coset_136 (f : Nat) (k107 : CH → Nat → Nat → Int64 → Int32 → Option (Int64 × CH)) : Nat → CH → Nat → Nat → Int64 → Int32 → Int64 → Int32 → Option (Int64 × CH)
  | 0, _, _, _, _, _, _, _ => none
  | n136 + 1, h, x0, x8, x9, x11, x12, x14 => if (3 : Int32) ≤ x14 then
    m_X3_coset_171 f k107 h x0 x8 x9 x11
    else bd (aL h 1 x8 x14) fun v2 =>
    bd (oR h 0 32 x0) fun a3 =>
    bd (aL h 1 a3 (((3 : Int32) * x11) + x14)) fun v4 =>
    bd (uL h 1 x8 x14 (v2 - (x12 * v4))) fun h5 =>
    nmv ((x14 + 1) : Int32) fun v6 =>
    m_X3_coset_136 f k107 n136 h5 x0 x8 x9 x11 x12 v6
theorem mo_X3_coset_136 {f : Nat} {k107 : CH → Nat → Nat → Int64 → Int32 → Option (Int64 × CH)} (hk107 : ∀ (h : CH) (x0 : Nat) (x8 : Nat) (x9 : Int64) (x11 : Int32) (r : (Int64 × CH)), k107 h x0 x8 x9 x11 = some r → le2 h r.2) : ∀ (n136 : Nat) (h : CH) (x0 : Nat) (x8 : Nat) (x9 : Int64) (x11 : Int32) (x12 : Int64) (x14 : Int32) (r : (Int64 × CH)), m_X3_coset_136 f k107 n136 h x0 x8 x9 x11 x12 x14 = some r → le2 h r.2 := by
  intro n136
  induction n136 with
  | zero => intro h x0 x8 x9 x11 x12 x14 r hm; rw [m_X3_coset_136] at hm; exact noE hm
  | succ n136 ihm =>
    intro h x0 x8 x9 x11 x12 x14 r hm
    rw [m_X3_coset_136] at hm
    by_cases c1 : (3 : Int32) ≤ x14
    · have hm := ifT hm c1
      exact (mo_X3_coset_171 hk107 h x0 x8 x9 x11 _ hm)
    · have hm := ifF hm c1
      obtain ⟨v2, ev2, hm⟩ := bdE hm
      obtain ⟨a3, ea3, hm⟩ := bdE hm
      obtain ⟨v4, ev4, hm⟩ := bdE hm
      obtain ⟨h5, eh5, hm⟩ := bdE hm
      have lh5 := uL_le eh5
      obtain ⟨v6, ev6, hm⟩ := nmE hm
      exact (lh5.tr (ihm h5 x0 x8 x9 x11 x12 v6 _ hm))
def m_X3_coset_107 (f : Nat) : Nat → CH → Nat → Nat → Int64 → Int32 → Option (Int64 × CH)
  | 0, _, _, _, _, _ => none
  | n107 + 1, h, x0, x8, x9, x11 => if (3 : Int32) ≤ x11 then
    m_X3_coset_197 f h x9
    else bd (aL h 1 x8 x11) fun v2 =>
    bd (oR h 0 32 x0) fun a3 =>
    bd (aL h 1 a3 ((4 : Int32) * x11)) fun v4 =>
    bd (m_J9_floorDiv f v2 v4) fun r5 =>
    m_X3_coset_136 f (m_X3_coset_107 f n107) f h x0 x8 x9 x11 r5 x11
theorem mo_X3_coset_107 {f : Nat} : ∀ (n107 : Nat) (h : CH) (x0 : Nat) (x8 : Nat) (x9 : Int64) (x11 : Int32) (r : (Int64 × CH)), m_X3_coset_107 f n107 h x0 x8 x9 x11 = some r → le2 h r.2 := by
  intro n107
  induction n107 with
  | zero => intro h x0 x8 x9 x11 r hm; rw [m_X3_coset_107] at hm; exact noE hm
  | succ n107 ihm =>
    intro h x0 x8 x9 x11 r hm
    rw [m_X3_coset_107] at hm
    by_cases c1 : (3 : Int32) ≤ x11
    · have hm := ifT hm c1
      exact (mo_X3_coset_197  h x9 _ hm)
    · have hm := ifF hm c1
      obtain ⟨v2, ev2, hm⟩ := bdE hm
      obtain ⟨a3, ea3, hm⟩ := bdE hm
      obtain ⟨v4, ev4, hm⟩ := bdE hm
      obtain ⟨r5, er5, hm⟩ := bdE hm
      exact (mo_X3_coset_136 ihm f h x0 x8 x9 x11 r5 x11 _ hm)
def m_X3_coset_42 (f : Nat) (h : CH) (x0 : Nat) (x3 : Int32) (x4 : Int32) (x5 : Int32) (x6 : Int32) (y0 : Nat) : Option (Int64 × CH) := bd2 (tcr h x0 (fun z => m_X3_timesOf f z (0 : Int32) (Int32.toInt64 x3) (Int32.toInt64 x4) (Int32.toInt64 x5) (Int32.toInt64 x6))) fun r2 h1 =>
    bd (uL h1 1 y0 (0 : Int32) r2) fun h3 =>
    bd2 (tcr h3 x0 (fun z => m_X3_timesOf f z (1 : Int32) (Int32.toInt64 x3) (Int32.toInt64 x4) (Int32.toInt64 x5) (Int32.toInt64 x6))) fun r5 h4 =>
    bd (uL h4 1 y0 (1 : Int32) r5) fun h6 =>
    bd2 (tcr h6 x0 (fun z => m_X3_timesOf f z (2 : Int32) (Int32.toInt64 x3) (Int32.toInt64 x4) (Int32.toInt64 x5) (Int32.toInt64 x6))) fun r8 h7 =>
    bd (uL h7 1 y0 (2 : Int32) r8) fun h9 =>
    m_X3_coset_107 f f h9 x0 y0 (0 : Int64) (0 : Int32)
theorem mo_X3_coset_42 {f : Nat} : ∀ (h : CH) (x0 : Nat) (x3 : Int32) (x4 : Int32) (x5 : Int32) (x6 : Int32) (y0 : Nat) (r : (Int64 × CH)), m_X3_coset_42 f h x0 x3 x4 x5 x6 y0 = some r → le2 h r.2 := by
  intro h x0 x3 x4 x5 x6 y0 r hm
  rw [m_X3_coset_42] at hm
  obtain ⟨r2, h1, er2, hm⟩ := bd2E hm
  have lh1 := tcr_le er2
  obtain ⟨h3, eh3, hm⟩ := bdE hm
  have lh3 := uL_le eh3
  obtain ⟨r5, h4, er5, hm⟩ := bd2E hm
  have lh4 := tcr_le er5
  obtain ⟨h6, eh6, hm⟩ := bdE hm
  have lh6 := uL_le eh6
  obtain ⟨r8, h7, er8, hm⟩ := bd2E hm
  have lh7 := tcr_le er8
  obtain ⟨h9, eh9, hm⟩ := bdE hm
  have lh9 := uL_le eh9
  exact (lh1.tr (lh3.tr (lh4.tr (lh6.tr (lh7.tr (lh9.tr (mo_X3_coset_107  f h9 x0 y0 (0 : Int64) (0 : Int32) _ hm)))))))
def m_X3_coset (f : Nat) (u : CH) (x0 : Nat) (x1 : Int32) (x2 : Int32) (x3 : Int32) (x4 : Int32) (x5 : Int32) (x6 : Int32) : Option (Int64 × CH) := bd2 (tcr u x0 (fun z => m_X3_whyNoPoint f z x1 x2 x3 x4 x5 x6)) fun r2 h1 =>
    if 0 ≤ r2 then
    bd (tcv h1 x0 (fun z => m_X3_laysBoth f z x1 x2)) fun h4 =>
    bd (tcv h4 x0 (fun z => m_X3_tells f z)) fun h5 =>
    bd (tcv h5 x0 (fun z => m_X3_lays f z x1)) fun h6 =>
    nmv (cn h6 3 (.inr (1, 3, .inr (.inl (fun _ => 0))))) fun h7 =>
    nmv (h6.1 : Nat) fun a8 =>
    m_X3_coset_42 f h7 x0 x3 x4 x5 x6 a8
    else some ((Int32.toInt64 r2), h1)
theorem mo_X3_coset {f : Nat} {u : CH} {x0 : Nat} {x1 : Int32} {x2 : Int32} {x3 : Int32} {x4 : Int32} {x5 : Int32} {x6 : Int32} {r0 : Int64} {u9 : CH} (hm : m_X3_coset f u x0 x1 x2 x3 x4 x5 x6 = some (r0, u9)) : le2 u u9 := by
  rw [m_X3_coset] at hm
  obtain ⟨r2, h1, er2, hm⟩ := bd2E hm
  have lh1 := tcr_le er2
  by_cases c3 : 0 ≤ r2
  · have hm := ifT hm c3
    obtain ⟨h4, eh4, hm⟩ := bdE hm
    have lh4 := tcv_le eh4
    obtain ⟨h5, eh5, hm⟩ := bdE hm
    have lh5 := tcv_le eh5
    obtain ⟨h6, eh6, hm⟩ := bdE hm
    have lh6 := tcv_le eh6
    obtain ⟨h7, eh7, hm⟩ := nmE hm
    have lh7 := cn_le eh7
    obtain ⟨a8, ea8, hm⟩ := nmE hm
    exact (lh1.tr (lh4.tr (lh5.tr (lh6.tr (lh7.tr (mo_X3_coset_42  h7 x0 x3 x4 x5 x6 a8 _ hm))))))
  · have hm := ifF hm c3
    cases hm
    exact (lh1.tr le2.rf)
abbrev rm_X3_coset (mc ms : Nat) : Room := { frames := 7, cells := mc, slots := ms, locals := 180 }
theorem cw_X3_coset {R : Room} {s : State} {args : Array Value} {own : String} {idx mc ms : Nat} (hts : ∀ w ∈ lw_all, w.before args s = true) (hl : Cond.methodLink own idx yX3_coset ∈ lw_all) (hR : 7 + 1 ≤ R.frames ∧ 8 + (15 + 11) + 180 ≤ R.locals) : CallW R s args own RX3 idx yX3_coset cX3_coset 15 (Option.some Jvm.ClassFile.FieldType.long) (ws_ yX3_coset cX3_coset 15 (Option.some Jvm.ClassFile.FieldType.long)) (rm_X3_coset mc ms) mc ms 6 := cwV 6 hts (lw_V hl q2003 q2004 q125 q2005) rfl rfl rfl (by decide +kernel) hR
set_option maxHeartbeats 4000000 in
set_option maxRecDepth 100000 in
theorem w_X3_coset (l : Launch) {D : va_G} {dA : Nat → ClassId} {A : Nat → Prop} {f : Nat} {u u9 : CH} {r0 : Int64} {x0 : Nat} {x1 : Int32} {x2 : Int32} {x3 : Int32} {x4 : Int32} {x5 : Int32} {x6 : Int32} (hm : m_X3_coset f u x0 x1 x2 x3 x4 x5 x6 = some (r0, u9)) : Met l yX3_coset (ws_ yX3_coset cX3_coset 15 (Option.some Jvm.ClassFile.FieldType.long)) (rm_X3_coset (u9.1 - u.1) (u9.2.1 - u.2.1)) (va_Pc [.ref x0, .int x1, .int x2, .int x3, .int x4, .int x5, .int x6] (CPre D dA A u)) (va_Ql (fun r u => r = r0 ∧ u = u9) (CPost D dA A) A) (u9.1 - u.1) (u9.2.1 - u.2.1) A := by
  refine Met.ofW (cc := cX3_coset) (maxL := 15) (ret := (Option.some Jvm.ClassFile.FieldType.long)) (by decide) rfl ?_
  intro p e s m args below meth c s₁ B hml hv
  have hx := B.exec
  have hb := B.bytes
  have hr := B.returns
  have hts := atoms_spec (ws := (ws_ yX3_coset cX3_coset 15 (Option.some Jvm.ClassFile.FieldType.long))) B.pre
  have hts : ∀ w ∈ lw_all, w.before args s = true := fun w h => hts w (List.mem_cons_of_mem _ h)
  have hown : s.vm.findClass RX3 = some m.cls := findClass_of_methodNamed B.named
  have hlocks := B.notSynchronized
  obtain ⟨hav, hv⟩ := hv
  have C : CX p s m args c cX3_coset RX3 D dA := ⟨hx, hb, hown, hts, hv.2⟩
  have hw : CW D dA A s u s.heap [] := hv.1
  have hs0 : s.heap.size = u.1 := hv.1.1
  generalize hQ : MQ below (va_Ql (fun r u => r = r0 ∧ u = u9) (CPost D dA A) A) args s (u9.1 - u.1) (u9.2.1 - u.2.1) A = QQ
  have hent := lg_entry_eq m [.ref x0, .int x1, .int x2, .int x3, .int x4, .int x5, .int x6] 15
  rw [← hav] at hent
  rw [hent]
  have hl := lv_entry ([.ref x0, .int x1, .int x2, .int x3, .int x4, .int x5, .int x6]) (n := 15) (Nat.le_of_ble_eq_true rfl)
  generalize (lg_sl ([.ref x0, .int x1, .int x2, .int x3, .int x4, .int x5, .int x6]) ++ List.replicate (15 - (lg_sl ([.ref x0, .int x1, .int x2, .int x3, .int x4, .int x5, .int x6])).length) Slot.unset).toArray = ls at hl ⊢
  have hl : lv_has ls 15 [(0, .ref x0), (1, .int x1), (2, .int x2), (3, .int x3), (4, .int x4), (5, .int x5), (6, .int x6)] := hl
  obtain ⟨cc, ecc⟩ : ∃ z : Nat, z = 0 := ⟨0, rfl⟩
  obtain ⟨ss, ess⟩ : ∃ z : Nat, z = 0 := ⟨0, rfl⟩
  have hcc : cc + u.1 = u.1 := by omega
  have hss : ss + u.2.1 = u.2.1 := by omega
  suffices hgo : W p l e (rm_X3_coset (u9.1 - u.1) (u9.2.1 - u.2.1)) s m args below meth c s.heap [] cc ss QQ (F0 m 0 ls []) by rw [ecc, ess] at hgo; exact hgo
  have ⟨pu, qu, _, _⟩ := mo_X3_coset hm
  have hB197 : ∀ (h : CH) (x9 : Int64) (cc ss : Nat) (H : Heap) (locs : List Loc) (ls : Array Slot), m_X3_coset_197 f h x9 = some (r0, u9) → CW D dA A s h H locs → cc + u.1 = h.1 → ss + u.2.1 = h.2.1 → lv_has ls 15 [(9, .long x9)] → W p l e (rm_X3_coset (u9.1 - u.1) (u9.2.1 - u.2.1)) s m args below meth c H locs cc ss QQ (F0 m 197 ls []) := by
    intro h x9 cc ss H locs ls hm hw hcc hss hl
    have hmo := mo_X3_coset_197  h x9 _ hm
    have sb_ : h.1 ≤ u9.1 := hmo.1
    have tb_ : h.2.1 ≤ u9.2.1 := hmo.2.1
    rw [m_X3_coset_197] at hm
    refine lv_lload hx hb dX3_coset_197 (lv_at hl 0 rfl) ?_
    obtain ⟨er, eh⟩ := retE hm
    have ec : cc = u9.1 - u.1 := by rw [← eh]; omega
    have es : ss = u9.2.1 - u.2.1 := by rw [← eh]; omega
    rw [ec, es, ← hQ]
    exact W.lret (v := x9) hx hb hr (fun t ht hW => ⟨⟨x9, h, rfl, ⟨er, eh⟩, ⟨by rw [ht]; exact hw.1, by rw [ht]; exact hw.2.1⟩⟩, hw.2.2.1.F ht⟩) hw.2.2.1.2.2 dX3_coset_199
  have hB107 : ∀ (n107 : Nat), ∀ (h : CH) (x0 : Nat) (x8 : Nat) (x9 : Int64) (x11 : Int32) (cc ss : Nat) (H : Heap) (locs : List Loc) (ls : Array Slot), m_X3_coset_107 f n107 h x0 x8 x9 x11 = some (r0, u9) → CW D dA A s h H locs → cc + u.1 = h.1 → ss + u.2.1 = h.2.1 → lv_has ls 15 [(0, .ref x0), (8, .ref x8), (9, .long x9), (11, .int x11)] → W p l e (rm_X3_coset (u9.1 - u.1) (u9.2.1 - u.2.1)) s m args below meth c H locs cc ss QQ (F0 m 107 ls []) := by
    intro n107
    induction n107 with
    | zero => intro h x0 x8 x9 x11 cc ss H locs ls hm hw hcc hss hl; rw [m_X3_coset_107] at hm; exact noE hm
    | succ n107 ih107 =>
      have hB171 : ∀ (h : CH) (x0 : Nat) (x8 : Nat) (x9 : Int64) (x11 : Int32) (cc ss : Nat) (H : Heap) (locs : List Loc) (ls : Array Slot), m_X3_coset_171 f (m_X3_coset_107 f n107) h x0 x8 x9 x11 = some (r0, u9) → CW D dA A s h H locs → cc + u.1 = h.1 → ss + u.2.1 = h.2.1 → lv_has ls 15 [(0, .ref x0), (8, .ref x8), (9, .long x9), (11, .int x11)] → W p l e (rm_X3_coset (u9.1 - u.1) (u9.2.1 - u.2.1)) s m args below meth c H locs cc ss QQ (F0 m 171 ls []) := by
        intro h x0 x8 x9 x11 cc ss H locs ls hm hw hcc hss hl
        have hmo := mo_X3_coset_171 (mo_X3_coset_107 n107) h x0 x8 x9 x11 _ hm
        have sb_ : h.1 ≤ u9.1 := hmo.1
        have tb_ : h.2.1 ≤ u9.2.1 := hmo.2.1
        rw [m_X3_coset_171] at hm
        refine lv_lload hx hb dX3_coset_171 (lv_at hl 2 rfl) ?_
        refine lv_aload_n hx hb dX3_coset_173 rfl (lv_at hl 0 rfl) ?_
        obtain ⟨a1, ea1, hm⟩ := bdE hm
        refine cg_get C hw (oR_E ea1) rfl in_X3 (by decide) q1598 dX3_coset_174 ?_
        refine lv_iconst (v := 4) hx hb dX3_coset_177 (by decide) ?_
        refine lv_iload hx hb dX3_coset_178 (lv_at hl 3 rfl) ?_
        refine lv_imul hx hb dX3_coset_180 ?_
        obtain ⟨v2, ev2, hm⟩ := bdE hm
        refine cg_lald C hw ev2 dX3_coset_181 ?_
        refine lv_lmul hx hb dX3_coset_182 ?_
        refine lv_aload hx hb dX3_coset_183 (lv_at hl 1 rfl) ?_
        refine lv_iload hx hb dX3_coset_185 (lv_at hl 3 rfl) ?_
        obtain ⟨v3, ev3, hm⟩ := bdE hm
        refine cg_lald C hw ev3 dX3_coset_187 ?_
        refine lv_ladd hx hb dX3_coset_188 ?_
        refine lv_topl (fun v4 ev4 => ?_)
        have hm := nmK hm ev4
        refine lv_lstore (lv' := [(9, .long v4), (0, .ref x0), (8, .ref x8), (11, .int x11)]) hx hb dX3_coset_189 hl (by decide) rfl (fun ls hl => ?_)
        obtain ⟨v5, ev5, hm⟩ := nmE hm
        refine lv_iinc (v := v5) (lv' := [(11, .int v5), (9, .long v4), (0, .ref x0), (8, .ref x8)]) hx hb dX3_coset_191 hl (k := 3) rfl (by rw [ev5]; rfl) (by decide) rfl (fun ls hl => ?_)
        refine lv_goto (tgt := 107) hx hb dX3_coset_194 (by decide) ?_
        exact ih107 h x0 x8 v4 v5 _ _ _ _ _ hm hw (by omega) (by omega) (lv_sub hl [2, 3, 1, 0] rfl)
      have hB136 : ∀ (n136 : Nat), ∀ (h : CH) (x0 : Nat) (x8 : Nat) (x9 : Int64) (x11 : Int32) (x12 : Int64) (x14 : Int32) (cc ss : Nat) (H : Heap) (locs : List Loc) (ls : Array Slot), m_X3_coset_136 f (m_X3_coset_107 f n107) n136 h x0 x8 x9 x11 x12 x14 = some (r0, u9) → CW D dA A s h H locs → cc + u.1 = h.1 → ss + u.2.1 = h.2.1 → lv_has ls 15 [(0, .ref x0), (8, .ref x8), (9, .long x9), (11, .int x11), (12, .long x12), (14, .int x14)] → W p l e (rm_X3_coset (u9.1 - u.1) (u9.2.1 - u.2.1)) s m args below meth c H locs cc ss QQ (F0 m 136 ls []) := by
        intro n136
        induction n136 with
        | zero => intro h x0 x8 x9 x11 x12 x14 cc ss H locs ls hm hw hcc hss hl; rw [m_X3_coset_136] at hm; exact noE hm
        | succ n136 ih136 =>
          intro h x0 x8 x9 x11 x12 x14 cc ss H locs ls hm hw hcc hss hl
          have hmo := mo_X3_coset_136 (mo_X3_coset_107 n107) (n136 + 1) h x0 x8 x9 x11 x12 x14 _ hm
          have sb_ : h.1 ≤ u9.1 := hmo.1
          have tb_ : h.2.1 ≤ u9.2.1 := hmo.2.1
          rw [m_X3_coset_136] at hm
          refine lv_iload hx hb dX3_coset_136 (lv_at hl 5 rfl) ?_
          refine lv_iconst (v := 3) hx hb dX3_coset_138 (by decide) ?_
          refine lv_icmp_ge (tgt := 171) hx hb dX3_coset_139 (by decide) (fun c1 => ?_) (fun c1 => ?_)
          · have hm := ifT hm c1
            exact hB171 h x0 x8 x9 x11 _ _ _ _ _ hm hw (by omega) (by omega) (lv_sub hl [0, 1, 2, 3] rfl)
          · have hm := ifF hm c1
            refine lv_aload hx hb dX3_coset_142 (lv_at hl 1 rfl) ?_
            refine lv_iload hx hb dX3_coset_144 (lv_at hl 5 rfl) ?_
            refine lv_dup2_11 hx hb dX3_coset_146 rfl rfl ?_
            obtain ⟨v2, ev2, hm⟩ := bdE hm
            refine cg_lald C hw ev2 dX3_coset_147 ?_
            refine lv_lload hx hb dX3_coset_148 (lv_at hl 4 rfl) ?_
            refine lv_aload_n hx hb dX3_coset_150 rfl (lv_at hl 0 rfl) ?_
            obtain ⟨a3, ea3, hm⟩ := bdE hm
            refine cg_get C hw (oR_E ea3) rfl in_X3 (by decide) q1598 dX3_coset_151 ?_
            refine lv_iconst (v := 3) hx hb dX3_coset_154 (by decide) ?_
            refine lv_iload hx hb dX3_coset_155 (lv_at hl 3 rfl) ?_
            refine lv_imul hx hb dX3_coset_157 ?_
            refine lv_iload hx hb dX3_coset_158 (lv_at hl 5 rfl) ?_
            refine lv_iadd hx hb dX3_coset_160 ?_
            obtain ⟨v4, ev4, hm⟩ := bdE hm
            refine cg_lald C hw ev4 dX3_coset_161 ?_
            refine lv_lmul hx hb dX3_coset_162 ?_
            refine lv_lsub hx hb dX3_coset_163 ?_
            obtain ⟨h5, eh5, hm⟩ := bdE hm
            refine cg_last C hw eh5 dX3_coset_164 (fun H locs hw => ?_)
            have zh5 := uL_sz eh5
            obtain ⟨v6, ev6, hm⟩ := nmE hm
            refine lv_iinc (v := v6) (lv' := [(14, .int v6), (0, .ref x0), (8, .ref x8), (9, .long x9), (11, .int x11), (12, .long x12)]) hx hb dX3_coset_165 hl (k := 5) rfl (by rw [ev6]; rfl) (by decide) rfl (fun ls hl => ?_)
            refine lv_goto (tgt := 136) hx hb dX3_coset_168 (by decide) ?_
            exact ih136 h5 x0 x8 x9 x11 x12 v6 _ _ _ _ _ hm hw (by omega) (by omega) (lv_sub hl [1, 2, 3, 4, 5, 0] rfl)
      intro h x0 x8 x9 x11 cc ss H locs ls hm hw hcc hss hl
      have hmo := mo_X3_coset_107  (n107 + 1) h x0 x8 x9 x11 _ hm
      have sb_ : h.1 ≤ u9.1 := hmo.1
      have tb_ : h.2.1 ≤ u9.2.1 := hmo.2.1
      rw [m_X3_coset_107] at hm
      refine lv_iload hx hb dX3_coset_107 (lv_at hl 3 rfl) ?_
      refine lv_iconst (v := 3) hx hb dX3_coset_109 (by decide) ?_
      refine lv_icmp_ge (tgt := 197) hx hb dX3_coset_110 (by decide) (fun c1 => ?_) (fun c1 => ?_)
      · have hm := ifT hm c1
        exact hB197 h x9 _ _ _ _ _ hm hw (by omega) (by omega) (lv_sub hl [2] rfl)
      · have hm := ifF hm c1
        refine lv_aload hx hb dX3_coset_113 (lv_at hl 1 rfl) ?_
        refine lv_iload hx hb dX3_coset_115 (lv_at hl 3 rfl) ?_
        obtain ⟨v2, ev2, hm⟩ := bdE hm
        refine cg_lald C hw ev2 dX3_coset_117 ?_
        refine lv_aload_n hx hb dX3_coset_118 rfl (lv_at hl 0 rfl) ?_
        obtain ⟨a3, ea3, hm⟩ := bdE hm
        refine cg_get C hw (oR_E ea3) rfl in_X3 (by decide) q1598 dX3_coset_119 ?_
        refine lv_iconst (v := 4) hx hb dX3_coset_122 (by decide) ?_
        refine lv_iload hx hb dX3_coset_123 (lv_at hl 3 rfl) ?_
        refine lv_imul hx hb dX3_coset_125 ?_
        obtain ⟨v4, ev4, hm⟩ := bdE hm
        refine cg_lald C hw ev4 dX3_coset_126 ?_
        obtain ⟨r5, er5, hm⟩ := bdE hm
        refine scl (va_runS (As := [.long v2, .long v4]) (rest := []) ⟨hx, hb, hml, hown, hts⟩ (w_J9_floorDiv l er5) (cw_J9_floorDiv hts q1856 ⟨Nat.le_of_ble_eq_true rfl, Nat.le_of_ble_eq_true rfl⟩) (pre_s _) rfl rfl hl.1 rfl (lv_room (Nat.le_of_ble_eq_true rfl)) dX3_coset_127 ⟨show cc + 0 ≤ u9.1 - u.1 by omega, show ss + 0 ≤ u9.2.1 - u.2.1 by omega⟩) ?_
        refine lv_lstore (lv' := [(12, .long r5), (0, .ref x0), (8, .ref x8), (9, .long x9), (11, .int x11)]) hx hb dX3_coset_130 hl (by decide) rfl (fun ls hl => ?_)
        refine lv_iload hx hb dX3_coset_132 (lv_at hl 4 rfl) ?_
        refine lv_istore (lv' := [(14, .int x11), (12, .long r5), (0, .ref x0), (8, .ref x8), (9, .long x9), (11, .int x11)]) hx hb dX3_coset_134 hl (by decide) rfl (fun ls hl => ?_)
        exact hB136 f h x0 x8 x9 x11 r5 x11 _ _ _ _ _ hm hw (by omega) (by omega) (lv_sub hl [2, 3, 4, 5, 1, 0] rfl)
  have hB42 : ∀ (h : CH) (x0 : Nat) (x3 : Int32) (x4 : Int32) (x5 : Int32) (x6 : Int32) (y0 : Nat) (cc ss : Nat) (H : Heap) (locs : List Loc) (ls : Array Slot), m_X3_coset_42 f h x0 x3 x4 x5 x6 y0 = some (r0, u9) → CW D dA A s h H locs → cc + u.1 = h.1 → ss + u.2.1 = h.2.1 → lv_has ls 15 [(0, .ref x0), (3, .int x3), (4, .int x4), (5, .int x5), (6, .int x6)] → W p l e (rm_X3_coset (u9.1 - u.1) (u9.2.1 - u.2.1)) s m args below meth c H locs cc ss QQ (F0 m 42 ls [.ref y0]) := by
    intro h x0 x3 x4 x5 x6 y0 cc ss H locs ls hm hw hcc hss hl
    have hmo := mo_X3_coset_42  h x0 x3 x4 x5 x6 y0 _ hm
    have sb_ : h.1 ≤ u9.1 := hmo.1
    have tb_ : h.2.1 ≤ u9.2.1 := hmo.2.1
    rw [m_X3_coset_42] at hm
    refine lv_dup hx hb dX3_coset_42 rfl ?_
    refine lv_iconst (v := 0) hx hb dX3_coset_43 (by decide) ?_
    refine lv_aload_n hx hb dX3_coset_44 rfl (lv_at hl 0 rfl) ?_
    refine lv_iconst (v := 0) hx hb dX3_coset_45 (by decide) ?_
    refine lv_iload_n hx hb dX3_coset_46 rfl (lv_at hl 1 rfl) ?_
    refine lv_i2l hx hb dX3_coset_47 rfl ?_
    refine lv_iload hx hb dX3_coset_48 (lv_at hl 2 rfl) ?_
    refine lv_i2l hx hb dX3_coset_50 rfl ?_
    refine lv_iload hx hb dX3_coset_51 (lv_at hl 3 rfl) ?_
    refine lv_i2l hx hb dX3_coset_53 rfl ?_
    refine lv_iload hx hb dX3_coset_54 (lv_at hl 4 rfl) ?_
    refine lv_i2l hx hb dX3_coset_56 rfl ?_
    obtain ⟨r2, h1, er2, hm⟩ := bd2E hm
    refine cg_tcl C hw er2 (show cc + s.heap.size = h.1 by rw [hs0]; omega) (fun _ hk hm9 => va_runV (As := [.int (0 : Int32), .long (Int32.toInt64 x3), .long (Int32.toInt64 x4), .long (Int32.toInt64 x5), .long (Int32.toInt64 x6)]) (rest := [.int (0 : Int32), .ref y0, .ref y0]) ⟨hx, hb, hml, hown, hts⟩ (w_X3_timesOf l hm9) (cw_X3_timesOf hts q2006 ⟨Nat.le_of_ble_eq_true rfl, Nat.le_of_ble_eq_true rfl⟩) (tb_pre C hw hk _) rfl rfl hl.1 rfl (lv_room (Nat.le_of_ble_eq_true rfl)) dX3_coset_57 ⟨show cc + 0 ≤ u9.1 - u.1 by omega, show ss + 0 ≤ u9.2.1 - u.2.1 by omega⟩) (fun H locs hw => ?_)
    have zh1 := tcr_sz er2
    obtain ⟨h3, eh3, hm⟩ := bdE hm
    refine cg_last C hw eh3 dX3_coset_60 (fun H locs hw => ?_)
    have zh3 := uL_sz eh3
    refine lv_dup hx hb dX3_coset_61 rfl ?_
    refine lv_iconst (v := 1) hx hb dX3_coset_62 (by decide) ?_
    refine lv_aload_n hx hb dX3_coset_63 rfl (lv_at hl 0 rfl) ?_
    refine lv_iconst (v := 1) hx hb dX3_coset_64 (by decide) ?_
    refine lv_iload_n hx hb dX3_coset_65 rfl (lv_at hl 1 rfl) ?_
    refine lv_i2l hx hb dX3_coset_66 rfl ?_
    refine lv_iload hx hb dX3_coset_67 (lv_at hl 2 rfl) ?_
    refine lv_i2l hx hb dX3_coset_69 rfl ?_
    refine lv_iload hx hb dX3_coset_70 (lv_at hl 3 rfl) ?_
    refine lv_i2l hx hb dX3_coset_72 rfl ?_
    refine lv_iload hx hb dX3_coset_73 (lv_at hl 4 rfl) ?_
    refine lv_i2l hx hb dX3_coset_75 rfl ?_
    obtain ⟨r5, h4, er5, hm⟩ := bd2E hm
    refine cg_tcl C hw er5 (show cc + s.heap.size = h3.1 by rw [hs0]; omega) (fun _ hk hm9 => va_runV (As := [.int (1 : Int32), .long (Int32.toInt64 x3), .long (Int32.toInt64 x4), .long (Int32.toInt64 x5), .long (Int32.toInt64 x6)]) (rest := [.int (1 : Int32), .ref y0, .ref y0]) ⟨hx, hb, hml, hown, hts⟩ (w_X3_timesOf l hm9) (cw_X3_timesOf hts q2006 ⟨Nat.le_of_ble_eq_true rfl, Nat.le_of_ble_eq_true rfl⟩) (tb_pre C hw hk _) rfl rfl hl.1 rfl (lv_room (Nat.le_of_ble_eq_true rfl)) dX3_coset_76 ⟨show cc + 0 ≤ u9.1 - u.1 by omega, show ss + 0 ≤ u9.2.1 - u.2.1 by omega⟩) (fun H locs hw => ?_)
    have zh4 := tcr_sz er5
    obtain ⟨h6, eh6, hm⟩ := bdE hm
    refine cg_last C hw eh6 dX3_coset_79 (fun H locs hw => ?_)
    have zh6 := uL_sz eh6
    refine lv_dup hx hb dX3_coset_80 rfl ?_
    refine lv_iconst (v := 2) hx hb dX3_coset_81 (by decide) ?_
    refine lv_aload_n hx hb dX3_coset_82 rfl (lv_at hl 0 rfl) ?_
    refine lv_iconst (v := 2) hx hb dX3_coset_83 (by decide) ?_
    refine lv_iload_n hx hb dX3_coset_84 rfl (lv_at hl 1 rfl) ?_
    refine lv_i2l hx hb dX3_coset_85 rfl ?_
    refine lv_iload hx hb dX3_coset_86 (lv_at hl 2 rfl) ?_
    refine lv_i2l hx hb dX3_coset_88 rfl ?_
    refine lv_iload hx hb dX3_coset_89 (lv_at hl 3 rfl) ?_
    refine lv_i2l hx hb dX3_coset_91 rfl ?_
    refine lv_iload hx hb dX3_coset_92 (lv_at hl 4 rfl) ?_
    refine lv_i2l hx hb dX3_coset_94 rfl ?_
    obtain ⟨r8, h7, er8, hm⟩ := bd2E hm
    refine cg_tcl C hw er8 (show cc + s.heap.size = h6.1 by rw [hs0]; omega) (fun _ hk hm9 => va_runV (As := [.int (2 : Int32), .long (Int32.toInt64 x3), .long (Int32.toInt64 x4), .long (Int32.toInt64 x5), .long (Int32.toInt64 x6)]) (rest := [.int (2 : Int32), .ref y0, .ref y0]) ⟨hx, hb, hml, hown, hts⟩ (w_X3_timesOf l hm9) (cw_X3_timesOf hts q2006 ⟨Nat.le_of_ble_eq_true rfl, Nat.le_of_ble_eq_true rfl⟩) (tb_pre C hw hk _) rfl rfl hl.1 rfl (lv_room (Nat.le_of_ble_eq_true rfl)) dX3_coset_95 ⟨show cc + 0 ≤ u9.1 - u.1 by omega, show ss + 0 ≤ u9.2.1 - u.2.1 by omega⟩) (fun H locs hw => ?_)
    have zh7 := tcr_sz er8
    obtain ⟨h9, eh9, hm⟩ := bdE hm
    refine cg_last C hw eh9 dX3_coset_98 (fun H locs hw => ?_)
    have zh9 := uL_sz eh9
    refine lv_astore (lv' := [(8, .ref y0), (0, .ref x0), (3, .int x3), (4, .int x4), (5, .int x5), (6, .int x6)]) hx hb dX3_coset_99 hl (by decide) rfl (fun ls hl => ?_)
    refine lv_lconst (v := 0) hx hb dX3_coset_101 (by decide) ?_
    refine lv_lstore (lv' := [(9, .long (0 : Int64)), (8, .ref y0), (0, .ref x0), (3, .int x3), (4, .int x4), (5, .int x5), (6, .int x6)]) hx hb dX3_coset_102 hl (by decide) rfl (fun ls hl => ?_)
    refine lv_iconst (v := 0) hx hb dX3_coset_104 (by decide) ?_
    refine lv_istore (lv' := [(11, .int (0 : Int32)), (9, .long (0 : Int64)), (8, .ref y0), (0, .ref x0), (3, .int x3), (4, .int x4), (5, .int x5), (6, .int x6)]) hx hb dX3_coset_105 hl (by decide) rfl (fun ls hl => ?_)
    exact hB107 f h9 x0 y0 (0 : Int64) (0 : Int32) _ _ _ _ _ hm hw (by omega) (by omega) (lv_sub hl [3, 2, 1, 0] rfl)
  rw [m_X3_coset] at hm
  refine lv_aload_n hx hb dX3_coset_0 rfl (lv_at hl 0 rfl) ?_
  refine lv_iload_n hx hb dX3_coset_1 rfl (lv_at hl 1 rfl) ?_
  refine lv_iload_n hx hb dX3_coset_2 rfl (lv_at hl 2 rfl) ?_
  refine lv_iload_n hx hb dX3_coset_3 rfl (lv_at hl 3 rfl) ?_
  refine lv_iload hx hb dX3_coset_4 (lv_at hl 4 rfl) ?_
  refine lv_iload hx hb dX3_coset_6 (lv_at hl 5 rfl) ?_
  refine lv_iload hx hb dX3_coset_8 (lv_at hl 6 rfl) ?_
  obtain ⟨r2, h1, er2, hm⟩ := bd2E hm
  refine cg_tci C hw er2 (show cc + s.heap.size = u.1 by rw [hs0]; omega) (fun _ hk hm9 => va_runV (As := [.int x1, .int x2, .int x3, .int x4, .int x5, .int x6]) (rest := []) ⟨hx, hb, hml, hown, hts⟩ (w_X3_whyNoPoint l hm9) (cw_X3_whyNoPoint hts q1990 ⟨Nat.le_of_ble_eq_true rfl, Nat.le_of_ble_eq_true rfl⟩) (tb_pre C hw hk _) rfl rfl hl.1 rfl (lv_room (Nat.le_of_ble_eq_true rfl)) dX3_coset_10 ⟨show cc + 0 ≤ u9.1 - u.1 by omega, show ss + 0 ≤ u9.2.1 - u.2.1 by omega⟩) (fun H locs hw => ?_)
  have zh1 := tcr_sz er2
  refine lv_istore (lv' := [(7, .int r2), (0, .ref x0), (1, .int x1), (2, .int x2), (3, .int x3), (4, .int x4), (5, .int x5), (6, .int x6)]) hx hb dX3_coset_13 hl (by decide) rfl (fun ls hl => ?_)
  refine lv_iload hx hb dX3_coset_15 (lv_at hl 0 rfl) ?_
  refine lv_if_ge (tgt := 24) hx hb dX3_coset_17 (by decide) (fun c3 => ?_) (fun c3 => ?_)
  · have hm := ifT hm c3
    refine lv_aload_n hx hb dX3_coset_24 rfl (lv_at hl 1 rfl) ?_
    refine lv_iload_n hx hb dX3_coset_25 rfl (lv_at hl 2 rfl) ?_
    refine lv_iload_n hx hb dX3_coset_26 rfl (lv_at hl 3 rfl) ?_
    obtain ⟨h4, eh4, hm⟩ := bdE hm
    refine cg_tcv C hw eh4 (show cc + s.heap.size = h1.1 by rw [hs0]; omega) (fun _ hk hm9 => va_runV (As := [.int x1, .int x2]) (rest := []) ⟨hx, hb, hml, hown, hts⟩ (w_X3_laysBoth l hm9) (cw_X3_laysBoth hts q1913 ⟨Nat.le_of_ble_eq_true rfl, Nat.le_of_ble_eq_true rfl⟩) (tb_pre C hw hk _) rfl rfl hl.1 rfl (lv_room (Nat.le_of_ble_eq_true rfl)) dX3_coset_27 ⟨show cc + 0 ≤ u9.1 - u.1 by omega, show ss + 0 ≤ u9.2.1 - u.2.1 by omega⟩) (fun H locs hw => ?_)
    have zh4 := tcv_sz eh4
    refine lv_aload_n hx hb dX3_coset_30 rfl (lv_at hl 1 rfl) ?_
    obtain ⟨h5, eh5, hm⟩ := bdE hm
    refine cg_tcv C hw eh5 (show cc + s.heap.size = h4.1 by rw [hs0]; omega) (fun _ hk hm9 => va_runV (As := []) (rest := []) ⟨hx, hb, hml, hown, hts⟩ (w_X3_tells l hm9) (cw_X3_tells hts q1933 ⟨Nat.le_of_ble_eq_true rfl, Nat.le_of_ble_eq_true rfl⟩) (tb_pre C hw hk _) rfl rfl hl.1 rfl (lv_room (Nat.le_of_ble_eq_true rfl)) dX3_coset_31 ⟨show cc + 0 ≤ u9.1 - u.1 by omega, show ss + 0 ≤ u9.2.1 - u.2.1 by omega⟩) (fun H locs hw => ?_)
    have zh5 := tcv_sz eh5
    refine lv_aload_n hx hb dX3_coset_34 rfl (lv_at hl 1 rfl) ?_
    refine lv_iload_n hx hb dX3_coset_35 rfl (lv_at hl 2 rfl) ?_
    obtain ⟨h6, eh6, hm⟩ := bdE hm
    refine cg_tcv C hw eh6 (show cc + s.heap.size = h5.1 by rw [hs0]; omega) (fun _ hk hm9 => va_runV (As := [.int x1]) (rest := []) ⟨hx, hb, hml, hown, hts⟩ (w_X3_lays l hm9) (cw_X3_lays hts q1804 ⟨Nat.le_of_ble_eq_true rfl, Nat.le_of_ble_eq_true rfl⟩) (tb_pre C hw hk _) rfl rfl hl.1 rfl (lv_room (Nat.le_of_ble_eq_true rfl)) dX3_coset_36 ⟨show cc + 0 ≤ u9.1 - u.1 by omega, show ss + 0 ≤ u9.2.1 - u.2.1 by omega⟩) (fun H locs hw => ?_)
    have zh6 := tcv_sz eh6
    refine lv_iconst (v := 3) hx hb dX3_coset_39 (by decide) ?_
    obtain ⟨h7, eh7, hm⟩ := nmE hm
    obtain ⟨_, _, hmq⟩ := nmE hm
    have hmo := mo_X3_coset_42   h7 x0 x3 x4 x5 x6 _ _ hmq
    have sh7 : h7.1 ≤ u9.1 := hmo.1
    have th7 : h7.2.1 ≤ u9.2.1 := hmo.2.1
    have zh7 := cn_sz eh7
    refine cg_newJ (C0 := C) hw (N := 3) (by decide) (by decide) (by decide) (show cc + 1 ≤ u9.1 - u.1 by omega) (show ss + 3 ≤ u9.2.1 - u.2.1 by omega) dX3_coset_40 (fun H hw => ?_)
    rw [← eh7] at hw
    refine lv_topr (fun a8 ea8 => ?_)
    have hm := nmK hm ea8
    exact hB42 h7 x0 x3 x4 x5 x6 a8 _ _ _ _ _ hm hw (by omega) (by omega) (lv_sub hl [1, 4, 5, 6, 7] rfl)
  · have hm := ifF hm c3
    refine lv_iload hx hb dX3_coset_20 (lv_at hl 0 rfl) ?_
    refine lv_i2l hx hb dX3_coset_22 rfl ?_
    obtain ⟨er, eh⟩ := retE hm
    have ec : cc = u9.1 - u.1 := by rw [← eh]; omega
    have es : ss = u9.2.1 - u.2.1 := by rw [← eh]; omega
    rw [ec, es, ← hQ]
    exact W.lret (v := (Int32.toInt64 r2)) hx hb hr (fun t ht hW => ⟨⟨(Int32.toInt64 r2), h1, rfl, ⟨er, eh⟩, ⟨by rw [ht]; exact hw.1, by rw [ht]; exact hw.2.1⟩⟩, hw.2.2.1.F ht⟩) hw.2.2.1.2.2 dX3_coset_23
def m_J6_checkIndex_8 (f : Nat) (h : CH) (y0 : Int32) : Option CH := some h
theorem mo_J6_checkIndex_8 {f : Nat} : ∀ (h : CH) (y0 : Int32) (r : CH), m_J6_checkIndex_8 f h y0 = some r → le2 h r := by
  intro h y0 r hm
  rw [m_J6_checkIndex_8] at hm
  cases hm
  exact le2.rf
def m_J6_checkIndex (f : Nat) (u : CH) (x0 : Int32) (x1 : Int32) : Option CH := if sR u 10 = none then
    bd2 (m_J12_checkIndex_N2 f u x0 x1) fun r3 h2 =>
    m_J6_checkIndex_8 f h2 r3
    else bd (sR u 10) fun a4 =>
    bd2 (m_J12_checkIndex f u x0 x1 a4) fun r6 h5 =>
    m_J6_checkIndex_8 f h5 r6
theorem mo_J6_checkIndex {f : Nat} {u : CH} {x0 : Int32} {x1 : Int32} {u9 : CH} (hm : m_J6_checkIndex f u x0 x1 = some u9) : le2 u u9 := by
  rw [m_J6_checkIndex] at hm
  by_cases c1 : sR u 10 = none
  · have hm := ifT hm c1
    obtain ⟨r3, h2, er3, hm⟩ := bd2E hm
    have lh2 := mo_J12_checkIndex_N2 er3
    exact (lh2.tr (mo_J6_checkIndex_8  h2 r3 _ hm))
  · have hm := ifF hm c1
    obtain ⟨a4, ea4, hm⟩ := bdE hm
    obtain ⟨r6, h5, er6, hm⟩ := bd2E hm
    have lh5 := mo_J12_checkIndex er6
    exact (lh5.tr (mo_J6_checkIndex_8  h5 r6 _ hm))
abbrev rm_J6_checkIndex (mc ms : Nat) : Room := { frames := 1, cells := mc, slots := ms, locals := 22 }
theorem cw_J6_checkIndex {R : Room} {s : State} {args : Array Value} {own : String} {idx mc ms : Nat} (hts : ∀ w ∈ lw_all, w.before args s = true) (hl : Cond.methodLink own idx yJ6_checkIndex ∈ lw_all) (hR : 1 + 1 ≤ R.frames ∧ 8 + (2 + 11) + 22 ≤ R.locals) : CallB R s args own idx yJ6_checkIndex cJ6_checkIndex 2 (Option.none : Option Jvm.ClassFile.FieldType) (ws_ yJ6_checkIndex cJ6_checkIndex 2 (Option.none : Option Jvm.ClassFile.FieldType)) (rm_J6_checkIndex mc ms) mc ms 2 ∧ (Cond.static yJ6_checkIndex).before args s = true := va_cwS 2 hts (lw_S hl q485 q131 q486) rfl rfl rfl (by decide +kernel) hR
set_option maxHeartbeats 4000000 in
set_option maxRecDepth 100000 in
theorem w_J6_checkIndex (l : Launch) {D : va_G} {dA : Nat → ClassId} {A : Nat → Prop} {f : Nat} {u u9 : CH} {x0 : Int32} {x1 : Int32} (hm : m_J6_checkIndex f u x0 x1 = some u9) : Met l yJ6_checkIndex (ws_ yJ6_checkIndex cJ6_checkIndex 2 (Option.none : Option Jvm.ClassFile.FieldType)) (rm_J6_checkIndex (u9.1 - u.1) (u9.2.1 - u.2.1)) (va_Pc [.int x0, .int x1] (CPre D dA A u)) (va_Qv (fun u => u = u9) (CPost D dA A) A) (u9.1 - u.1) (u9.2.1 - u.2.1) A := by
  refine metOfWF (cc := cJ6_checkIndex) (maxL := 2) (ret := (Option.none : Option Jvm.ClassFile.FieldType)) (by decide +kernel) rfl ?_
  intro p e s m args below meth c s₁ B hml hv
  have hx := B.exec
  have hb := B.bytes
  have hr := B.returns
  have hts := atoms_spec (ws := (ws_ yJ6_checkIndex cJ6_checkIndex 2 (Option.none : Option Jvm.ClassFile.FieldType))) B.pre
  have hts : ∀ w ∈ lw_all, w.before args s = true := fun w h => hts w (List.mem_cons_of_mem _ h)
  have hown : s.vm.findClass RJ6 = some m.cls := findClass_of_methodNamed B.named
  have hlocks := B.notSynchronized
  obtain ⟨hav, hv⟩ := hv
  have C : CX p s m args c cJ6_checkIndex RJ6 D dA := ⟨hx, hb, hown, hts, hv.2⟩
  have hw : CW D dA A s u s.heap [] := hv.1
  have hs0 : s.heap.size = u.1 := hv.1.1
  generalize hQ : MQ below (va_Qv (fun u => u = u9) (CPost D dA A) A) args s (u9.1 - u.1) (u9.2.1 - u.2.1) A = QQ
  have hent := lg_entry_eq m [.int x0, .int x1] 2
  rw [← hav] at hent
  rw [hent]
  have hl := lv_entry ([.int x0, .int x1]) (n := 2) (Nat.le_of_ble_eq_true rfl)
  generalize (lg_sl ([.int x0, .int x1]) ++ List.replicate (2 - (lg_sl ([.int x0, .int x1])).length) Slot.unset).toArray = ls at hl ⊢
  have hl : lv_has ls 2 [(0, .int x0), (1, .int x1)] := hl
  obtain ⟨cc, ecc⟩ : ∃ z : Nat, z = 0 := ⟨0, rfl⟩
  obtain ⟨ss, ess⟩ : ∃ z : Nat, z = 0 := ⟨0, rfl⟩
  have hcc : cc + u.1 = u.1 := by omega
  have hss : ss + u.2.1 = u.2.1 := by omega
  suffices hgo : W p l e (rm_J6_checkIndex (u9.1 - u.1) (u9.2.1 - u.2.1)) s m args below meth c s.heap [] cc ss QQ (F0 m 0 ls []) by rw [ecc, ess] at hgo; exact hgo
  have ⟨pu, qu, _, _⟩ := mo_J6_checkIndex hm
  have hB8 : ∀ (h : CH) (y0 : Int32) (cc ss : Nat) (H : Heap) (locs : List Loc) (ls : Array Slot), m_J6_checkIndex_8 f h y0 = some u9 → CW D dA A s h H locs → cc + u.1 = h.1 → ss + u.2.1 = h.2.1 → lv_has ls 2 [] → W p l e (rm_J6_checkIndex (u9.1 - u.1) (u9.2.1 - u.2.1)) s m args below meth c H locs cc ss QQ (F0 m 8 ls [.int y0]) := by
    intro h y0 cc ss H locs ls hm hw hcc hss hl
    have hmo := mo_J6_checkIndex_8  h y0 _ hm
    have sb_ : h.1 ≤ u9.1 := hmo.1
    have tb_ : h.2.1 ≤ u9.2.1 := hmo.2.1
    rw [m_J6_checkIndex_8] at hm
    refine lv_pop hx hb dJ6_checkIndex_8 rfl ?_
    have eh := ret1 hm
    have ec : cc = u9.1 - u.1 := by rw [← eh]; omega
    have es : ss = u9.2.1 - u.2.1 := by rw [← eh]; omega
    rw [ec, es, ← hQ]
    exact W.vret hx hb hr (fun t ht hW => ⟨⟨h, rfl, eh, ⟨by rw [ht]; exact hw.1, by rw [ht]; exact hw.2.1⟩⟩, hw.2.2.1.F ht⟩) hw.2.2.1.2.2 dJ6_checkIndex_9
  rw [m_J6_checkIndex] at hm
  refine lv_iload_n hx hb dJ6_checkIndex_0 rfl (lv_at hl 0 rfl) ?_
  refine lv_iload_n hx hb dJ6_checkIndex_1 rfl (lv_at hl 1 rfl) ?_
  by_cases c1 : sR u 10 = none
  · have hm := ifT hm c1
    refine cg_getsQ C hw (i := 10) rfl q464 dJ6_checkIndex_2 ?_
    rw [c1]
    obtain ⟨r3, h2, er3, hm⟩ := bd2E hm
    have lh2 := mo_J12_checkIndex_N2 er3
    have ph2 : u.1 ≤ h2.1 := lh2.1
    have qh2 : u.2.1 ≤ h2.2.1 := lh2.2.1
    have hmo := mo_J6_checkIndex_8   h2 r3 _ hm
    have sh2 : h2.1 ≤ u9.1 := hmo.1
    have th2 : h2.2.1 ≤ u9.2.1 := hmo.2.1
    refine cg_calli hw lh2 (va_runS (As := [.int x0, .int x1, .null]) (rest := []) ⟨hx, hb, hml, hown, hts⟩ (w_J12_checkIndex_N2 l er3) (cw_J12_checkIndex_N2 hts q487 ⟨Nat.le_of_ble_eq_true rfl, Nat.le_of_ble_eq_true rfl⟩) (cg_preS C hw _) rfl rfl hl.1 rfl (lv_room (Nat.le_of_ble_eq_true rfl)) dJ6_checkIndex_5 ⟨show cc + (h2.1 - u.1) ≤ u9.1 - u.1 by omega, show ss + (h2.2.1 - u.2.1) ≤ u9.2.1 - u.2.1 by omega⟩) (fun H locs hw => ?_)
    exact hB8 h2 r3 _ _ _ _ _ hm hw (by omega) (by omega) (lv_sub hl [] rfl)
  · have hm := ifF hm c1
    obtain ⟨a4, ea4, hm⟩ := bdE hm
    refine cg_gets C hw (i := 10) ea4 rfl q464 dJ6_checkIndex_2 ?_
    obtain ⟨r6, h5, er6, hm⟩ := bd2E hm
    have lh5 := mo_J12_checkIndex er6
    have ph5 : u.1 ≤ h5.1 := lh5.1
    have qh5 : u.2.1 ≤ h5.2.1 := lh5.2.1
    have hmo := mo_J6_checkIndex_8   h5 r6 _ hm
    have sh5 : h5.1 ≤ u9.1 := hmo.1
    have th5 : h5.2.1 ≤ u9.2.1 := hmo.2.1
    refine cg_calli hw lh5 (va_runS (As := [.int x0, .int x1, .ref a4]) (rest := []) ⟨hx, hb, hml, hown, hts⟩ (w_J12_checkIndex l er6) (cw_J12_checkIndex hts q487 ⟨Nat.le_of_ble_eq_true rfl, Nat.le_of_ble_eq_true rfl⟩) (cg_preS C hw _) rfl rfl hl.1 rfl (lv_room (Nat.le_of_ble_eq_true rfl)) dJ6_checkIndex_5 ⟨show cc + (h5.1 - u.1) ≤ u9.1 - u.1 by omega, show ss + (h5.2.1 - u.2.1) ≤ u9.2.1 - u.2.1 by omega⟩) (fun H locs hw => ?_)
    exact hB8 h5 r6 _ _ _ _ _ hm hw (by omega) (by omega) (lv_sub hl [] rfl)
def m_J11_charAt_6 (f : Nat) (h : CH) (x0 : Nat) (x1 : Int32) : Option (Int32 × CH) := bd (aI h 2 x0 x1) fun v1 =>
    gd (cb (UInt32.toInt32 (Int32.toUInt32 (v1 &&& (255 : Int32)) % 65536))) <|
    some ((UInt32.toInt32 (Int32.toUInt32 (v1 &&& (255 : Int32)) % 65536)), h)
theorem mo_J11_charAt_6 {f : Nat} : ∀ (h : CH) (x0 : Nat) (x1 : Int32) (r : (Int32 × CH)), m_J11_charAt_6 f h x0 x1 = some r → le2 h r.2 := by
  intro h x0 x1 r hm
  rw [m_J11_charAt_6] at hm
  obtain ⟨v1, ev1, hm⟩ := bdE hm
  obtain ⟨g2, hm⟩ := gdE hm
  cases hm
  exact le2.rf
def m_J11_charAt (f : Nat) (u : CH) (x0 : Nat) (x1 : Int32) : Option (Int32 × CH) := bd (aN u 2 x0) fun n1 =>
    bd (m_J6_checkIndex f u x1 (Int32.ofNat n1)) fun h2 =>
    m_J11_charAt_6 f h2 x0 x1
theorem mo_J11_charAt {f : Nat} {u : CH} {x0 : Nat} {x1 : Int32} {r0 : Int32} {u9 : CH} (hm : m_J11_charAt f u x0 x1 = some (r0, u9)) : le2 u u9 := by
  rw [m_J11_charAt] at hm
  obtain ⟨n1, en1, hm⟩ := bdE hm
  obtain ⟨h2, eh2, hm⟩ := bdE hm
  have lh2 := mo_J6_checkIndex eh2
  exact (lh2.tr (mo_J11_charAt_6  h2 x0 x1 _ hm))
abbrev rm_J11_charAt (mc ms : Nat) : Room := { frames := 2, cells := mc, slots := ms, locals := 43 }
theorem cw_J11_charAt {R : Room} {s : State} {args : Array Value} {own : String} {idx mc ms : Nat} (hts : ∀ w ∈ lw_all, w.before args s = true) (hl : Cond.methodLink own idx yJ11_charAt ∈ lw_all) (hR : 2 + 1 ≤ R.frames ∧ 8 + (2 + 11) + 43 ≤ R.locals) : CallB R s args own idx yJ11_charAt cJ11_charAt 2 (Option.some Jvm.ClassFile.FieldType.char) (ws_ yJ11_charAt cJ11_charAt 2 (Option.some Jvm.ClassFile.FieldType.char)) (rm_J11_charAt mc ms) mc ms 2 ∧ (Cond.static yJ11_charAt).before args s = true := va_cwS 2 hts (lw_S hl q1727 q137 q1728) rfl rfl rfl (by decide +kernel) hR
set_option maxHeartbeats 4000000 in
set_option maxRecDepth 100000 in
theorem w_J11_charAt (l : Launch) {D : va_G} {dA : Nat → ClassId} {A : Nat → Prop} {f : Nat} {u u9 : CH} {r0 : Int32} {x0 : Nat} {x1 : Int32} (hm : m_J11_charAt f u x0 x1 = some (r0, u9)) : Met l yJ11_charAt (ws_ yJ11_charAt cJ11_charAt 2 (Option.some Jvm.ClassFile.FieldType.char)) (rm_J11_charAt (u9.1 - u.1) (u9.2.1 - u.2.1)) (va_Pc [.ref x0, .int x1] (CPre D dA A u)) (va_Qi (fun r u => r = r0 ∧ u = u9) (CPost D dA A) A) (u9.1 - u.1) (u9.2.1 - u.2.1) A := by
  refine metOfWF (cc := cJ11_charAt) (maxL := 2) (ret := (Option.some Jvm.ClassFile.FieldType.char)) (by decide +kernel) rfl ?_
  intro p e s m args below meth c s₁ B hml hv
  have hx := B.exec
  have hb := B.bytes
  have hr := B.returns
  have hts := atoms_spec (ws := (ws_ yJ11_charAt cJ11_charAt 2 (Option.some Jvm.ClassFile.FieldType.char))) B.pre
  have hts : ∀ w ∈ lw_all, w.before args s = true := fun w h => hts w (List.mem_cons_of_mem _ h)
  have hown : s.vm.findClass RJ11 = some m.cls := findClass_of_methodNamed B.named
  have hlocks := B.notSynchronized
  obtain ⟨hav, hv⟩ := hv
  have C : CX p s m args c cJ11_charAt RJ11 D dA := ⟨hx, hb, hown, hts, hv.2⟩
  have hw : CW D dA A s u s.heap [] := hv.1
  have hs0 : s.heap.size = u.1 := hv.1.1
  generalize hQ : MQ below (va_Qi (fun r u => r = r0 ∧ u = u9) (CPost D dA A) A) args s (u9.1 - u.1) (u9.2.1 - u.2.1) A = QQ
  have hent := lg_entry_eq m [.ref x0, .int x1] 2
  rw [← hav] at hent
  rw [hent]
  have hl := lv_entry ([.ref x0, .int x1]) (n := 2) (Nat.le_of_ble_eq_true rfl)
  generalize (lg_sl ([.ref x0, .int x1]) ++ List.replicate (2 - (lg_sl ([.ref x0, .int x1])).length) Slot.unset).toArray = ls at hl ⊢
  have hl : lv_has ls 2 [(0, .ref x0), (1, .int x1)] := hl
  obtain ⟨cc, ecc⟩ : ∃ z : Nat, z = 0 := ⟨0, rfl⟩
  obtain ⟨ss, ess⟩ : ∃ z : Nat, z = 0 := ⟨0, rfl⟩
  have hcc : cc + u.1 = u.1 := by omega
  have hss : ss + u.2.1 = u.2.1 := by omega
  suffices hgo : W p l e (rm_J11_charAt (u9.1 - u.1) (u9.2.1 - u.2.1)) s m args below meth c s.heap [] cc ss QQ (F0 m 0 ls []) by rw [ecc, ess] at hgo; exact hgo
  have ⟨pu, qu, _, _⟩ := mo_J11_charAt hm
  have hB6 : ∀ (h : CH) (x0 : Nat) (x1 : Int32) (cc ss : Nat) (H : Heap) (locs : List Loc) (ls : Array Slot), m_J11_charAt_6 f h x0 x1 = some (r0, u9) → CW D dA A s h H locs → cc + u.1 = h.1 → ss + u.2.1 = h.2.1 → lv_has ls 2 [(0, .ref x0), (1, .int x1)] → W p l e (rm_J11_charAt (u9.1 - u.1) (u9.2.1 - u.2.1)) s m args below meth c H locs cc ss QQ (F0 m 6 ls []) := by
    intro h x0 x1 cc ss H locs ls hm hw hcc hss hl
    have hmo := mo_J11_charAt_6  h x0 x1 _ hm
    have sb_ : h.1 ≤ u9.1 := hmo.1
    have tb_ : h.2.1 ≤ u9.2.1 := hmo.2.1
    rw [m_J11_charAt_6] at hm
    refine lv_aload_n hx hb dJ11_charAt_6 rfl (lv_at hl 0 rfl) ?_
    refine lv_iload_n hx hb dJ11_charAt_7 rfl (lv_at hl 1 rfl) ?_
    obtain ⟨v1, ev1, hm⟩ := bdE hm
    refine cg_bald C hw ev1 dJ11_charAt_8 ?_
    refine lv_sipush (v := 255) hx hb dJ11_charAt_9 (by decide) ?_
    refine lv_iand hx hb dJ11_charAt_12 ?_
    refine lv_i2c hx hb dJ11_charAt_13 rfl ?_
    obtain ⟨g2, hm⟩ := gdE hm
    obtain ⟨er, eh⟩ := retE hm
    have ec : cc = u9.1 - u.1 := by rw [← eh]; omega
    have es : ss = u9.2.1 - u.2.1 := by rw [← eh]; omega
    rw [ec, es, ← hQ]
    exact W.zret (v := (UInt32.toInt32 (Int32.toUInt32 (v1 &&& (255 : Int32)) % 65536))) hx hb hr (cb_nar g2) (fun t ht hW => ⟨⟨(UInt32.toInt32 (Int32.toUInt32 (v1 &&& (255 : Int32)) % 65536)), h, rfl, ⟨er, eh⟩, ⟨by rw [ht]; exact hw.1, by rw [ht]; exact hw.2.1⟩⟩, hw.2.2.1.F ht⟩) hw.2.2.1.2.2 dJ11_charAt_14
  rw [m_J11_charAt] at hm
  refine lv_iload_n hx hb dJ11_charAt_0 rfl (lv_at hl 1 rfl) ?_
  refine lv_aload_n hx hb dJ11_charAt_1 rfl (lv_at hl 0 rfl) ?_
  obtain ⟨n1, en1, hm⟩ := bdE hm
  refine cg_alen C hw (ty := .byte) rfl en1 dJ11_charAt_2 ?_
  obtain ⟨h2, eh2, hm⟩ := bdE hm
  have lh2 := mo_J6_checkIndex eh2
  have ph2 : u.1 ≤ h2.1 := lh2.1
  have qh2 : u.2.1 ≤ h2.2.1 := lh2.2.1
  have hmo := mo_J11_charAt_6   h2 x0 x1 _ hm
  have sh2 : h2.1 ≤ u9.1 := hmo.1
  have th2 : h2.2.1 ≤ u9.2.1 := hmo.2.1
  refine cg_callv hw lh2 (va_runS (As := [.int x1, .int (Int32.ofNat n1)]) (rest := []) ⟨hx, hb, hml, hown, hts⟩ (w_J6_checkIndex l eh2) (cw_J6_checkIndex hts q1729 ⟨Nat.le_of_ble_eq_true rfl, Nat.le_of_ble_eq_true rfl⟩) (cg_preS C hw _) rfl rfl hl.1 rfl (lv_room (Nat.le_of_ble_eq_true rfl)) dJ11_charAt_3 ⟨show cc + (h2.1 - u.1) ≤ u9.1 - u.1 by omega, show ss + (h2.2.1 - u.2.1) ≤ u9.2.1 - u.2.1 by omega⟩) (fun H locs hw => ?_)
  exact hB6 h2 x0 x1 _ _ _ _ _ hm hw (by omega) (by omega) (lv_sub hl [0, 1] rfl)
def m_J6_isLatin1_18 (f : Nat) (h : CH) (y0 : Int32) : Option (Int32 × CH) := gd (zb y0) <|
    some (y0, h)
theorem mo_J6_isLatin1_18 {f : Nat} : ∀ (h : CH) (y0 : Int32) (r : (Int32 × CH)), m_J6_isLatin1_18 f h y0 = some r → le2 h r.2 := by
  intro h y0 r hm
  rw [m_J6_isLatin1_18] at hm
  obtain ⟨g1, hm⟩ := gdE hm
  cases hm
  exact le2.rf
def m_J6_isLatin1_17 (f : Nat) (h : CH) : Option (Int32 × CH) := m_J6_isLatin1_18 f h (0 : Int32)
theorem mo_J6_isLatin1_17 {f : Nat} : ∀ (h : CH) (r : (Int32 × CH)), m_J6_isLatin1_17 f h = some r → le2 h r.2 := by
  intro h r hm
  rw [m_J6_isLatin1_17] at hm
  exact (mo_J6_isLatin1_18  h (0 : Int32) _ hm)
def m_J6_isLatin1 (f : Nat) (u : CH) (x0 : Nat) : Option (Int32 × CH) := if (1 : Int32) = 0 then
    m_J6_isLatin1_17 f u
    else bd (oI u 19 1 x0) fun v2 =>
    if ¬ v2 = 0 then
    m_J6_isLatin1_17 f u
    else m_J6_isLatin1_18 f u (1 : Int32)
theorem mo_J6_isLatin1 {f : Nat} {u : CH} {x0 : Nat} {r0 : Int32} {u9 : CH} (hm : m_J6_isLatin1 f u x0 = some (r0, u9)) : le2 u u9 := by
  rw [m_J6_isLatin1] at hm
  by_cases c1 : (1 : Int32) = 0
  · have hm := ifT hm c1
    exact (mo_J6_isLatin1_17  u _ hm)
  · have hm := ifF hm c1
    obtain ⟨v2, ev2, hm⟩ := bdE hm
    by_cases c3 : ¬ v2 = 0
    · have hm := ifT hm c3
      exact (mo_J6_isLatin1_17  u _ hm)
    · have hm := ifF hm c3
      exact (mo_J6_isLatin1_18  u (1 : Int32) _ hm)
abbrev rm_J6_isLatin1 (mc ms : Nat) : Room := { frames := 0, cells := mc, slots := ms, locals := 0 }
theorem cw_J6_isLatin1 {R : Room} {s : State} {args : Array Value} {own : String} {idx mc ms : Nat} (hts : ∀ w ∈ lw_all, w.before args s = true) (hl : Cond.methodLink own idx yJ6_isLatin1 ∈ lw_all) (hR : 0 + 1 ≤ R.frames ∧ 8 + (1 + 11) + 0 ≤ R.locals) : CallW R s args own RJ6 idx yJ6_isLatin1 cJ6_isLatin1 1 (Option.some Jvm.ClassFile.FieldType.boolean) (ws_ yJ6_isLatin1 cJ6_isLatin1 1 (Option.some Jvm.ClassFile.FieldType.boolean)) (rm_J6_isLatin1 mc ms) mc ms 0 := cwV 0 hts (lw_V hl q1723 q1724 q131 q1725) rfl rfl rfl (by decide +kernel) hR
set_option maxHeartbeats 4000000 in
set_option maxRecDepth 100000 in
theorem w_J6_isLatin1 (l : Launch) {D : va_G} {dA : Nat → ClassId} {A : Nat → Prop} {f : Nat} {u u9 : CH} {r0 : Int32} {x0 : Nat} (hm : m_J6_isLatin1 f u x0 = some (r0, u9)) : Met l yJ6_isLatin1 (ws_ yJ6_isLatin1 cJ6_isLatin1 1 (Option.some Jvm.ClassFile.FieldType.boolean)) (rm_J6_isLatin1 (u9.1 - u.1) (u9.2.1 - u.2.1)) (va_Pc [.ref x0] (CPre D dA A u)) (va_Qi (fun r u => r = r0 ∧ u = u9) (CPost D dA A) A) (u9.1 - u.1) (u9.2.1 - u.2.1) A := by
  refine metOfWF (cc := cJ6_isLatin1) (maxL := 1) (ret := (Option.some Jvm.ClassFile.FieldType.boolean)) (by decide +kernel) rfl ?_
  intro p e s m args below meth c s₁ B hml hv
  have hx := B.exec
  have hb := B.bytes
  have hr := B.returns
  have hts := atoms_spec (ws := (ws_ yJ6_isLatin1 cJ6_isLatin1 1 (Option.some Jvm.ClassFile.FieldType.boolean))) B.pre
  have hts : ∀ w ∈ lw_all, w.before args s = true := fun w h => hts w (List.mem_cons_of_mem _ h)
  have hown : s.vm.findClass RJ6 = some m.cls := findClass_of_methodNamed B.named
  have hlocks := B.notSynchronized
  obtain ⟨hav, hv⟩ := hv
  have C : CX p s m args c cJ6_isLatin1 RJ6 D dA := ⟨hx, hb, hown, hts, hv.2⟩
  have hw : CW D dA A s u s.heap [] := hv.1
  have hs0 : s.heap.size = u.1 := hv.1.1
  generalize hQ : MQ below (va_Qi (fun r u => r = r0 ∧ u = u9) (CPost D dA A) A) args s (u9.1 - u.1) (u9.2.1 - u.2.1) A = QQ
  have hent := lg_entry_eq m [.ref x0] 1
  rw [← hav] at hent
  rw [hent]
  have hl := lv_entry ([.ref x0]) (n := 1) (Nat.le_of_ble_eq_true rfl)
  generalize (lg_sl ([.ref x0]) ++ List.replicate (1 - (lg_sl ([.ref x0])).length) Slot.unset).toArray = ls at hl ⊢
  have hl : lv_has ls 1 [(0, .ref x0)] := hl
  obtain ⟨cc, ecc⟩ : ∃ z : Nat, z = 0 := ⟨0, rfl⟩
  obtain ⟨ss, ess⟩ : ∃ z : Nat, z = 0 := ⟨0, rfl⟩
  have hcc : cc + u.1 = u.1 := by omega
  have hss : ss + u.2.1 = u.2.1 := by omega
  suffices hgo : W p l e (rm_J6_isLatin1 (u9.1 - u.1) (u9.2.1 - u.2.1)) s m args below meth c s.heap [] cc ss QQ (F0 m 0 ls []) by rw [ecc, ess] at hgo; exact hgo
  have ⟨pu, qu, _, _⟩ := mo_J6_isLatin1 hm
  have hB18 : ∀ (h : CH) (y0 : Int32) (cc ss : Nat) (H : Heap) (locs : List Loc) (ls : Array Slot), m_J6_isLatin1_18 f h y0 = some (r0, u9) → CW D dA A s h H locs → cc + u.1 = h.1 → ss + u.2.1 = h.2.1 → lv_has ls 1 [] → W p l e (rm_J6_isLatin1 (u9.1 - u.1) (u9.2.1 - u.2.1)) s m args below meth c H locs cc ss QQ (F0 m 18 ls [.int y0]) := by
    intro h y0 cc ss H locs ls hm hw hcc hss hl
    have hmo := mo_J6_isLatin1_18  h y0 _ hm
    have sb_ : h.1 ≤ u9.1 := hmo.1
    have tb_ : h.2.1 ≤ u9.2.1 := hmo.2.1
    rw [m_J6_isLatin1_18] at hm
    obtain ⟨g1, hm⟩ := gdE hm
    obtain ⟨er, eh⟩ := retE hm
    have ec : cc = u9.1 - u.1 := by rw [← eh]; omega
    have es : ss = u9.2.1 - u.2.1 := by rw [← eh]; omega
    rw [ec, es, ← hQ]
    exact W.zret (v := y0) hx hb hr (zb_nar g1) (fun t ht hW => ⟨⟨y0, h, rfl, ⟨er, eh⟩, ⟨by rw [ht]; exact hw.1, by rw [ht]; exact hw.2.1⟩⟩, hw.2.2.1.F ht⟩) hw.2.2.1.2.2 dJ6_isLatin1_18
  have hB17 : ∀ (h : CH) (cc ss : Nat) (H : Heap) (locs : List Loc) (ls : Array Slot), m_J6_isLatin1_17 f h = some (r0, u9) → CW D dA A s h H locs → cc + u.1 = h.1 → ss + u.2.1 = h.2.1 → lv_has ls 1 [] → W p l e (rm_J6_isLatin1 (u9.1 - u.1) (u9.2.1 - u.2.1)) s m args below meth c H locs cc ss QQ (F0 m 17 ls []) := by
    intro h cc ss H locs ls hm hw hcc hss hl
    have hmo := mo_J6_isLatin1_17  h _ hm
    have sb_ : h.1 ≤ u9.1 := hmo.1
    have tb_ : h.2.1 ≤ u9.2.1 := hmo.2.1
    rw [m_J6_isLatin1_17] at hm
    refine lv_iconst (v := 0) hx hb dJ6_isLatin1_17 (by decide) ?_
    exact hB18 h (0 : Int32) _ _ _ _ _ hm hw (by omega) (by omega) (lv_sub hl [] rfl)
  rw [m_J6_isLatin1] at hm
  refine cg_getsI C hw (i := 0) rfl q526 dJ6_isLatin1_0 ?_
  refine lv_if_eq (tgt := 17) hx hb dJ6_isLatin1_3 (by decide) (fun c1 => ?_) (fun c1 => ?_)
  · have hm := ifT hm c1
    exact hB17 u _ _ _ _ _ hm hw (by omega) (by omega) (lv_sub hl [] rfl)
  · have hm := ifF hm c1
    refine lv_aload_n hx hb dJ6_isLatin1_6 rfl (lv_at hl 0 rfl) ?_
    obtain ⟨v2, ev2, hm⟩ := bdE hm
    refine cg_get C hw (oI_E ev2) rfl in_J6 (by decide) q541 dJ6_isLatin1_7 ?_
    refine lv_if_ne (tgt := 17) hx hb dJ6_isLatin1_10 (by decide) (fun c3 => ?_) (fun c3 => ?_)
    · have hm := ifT hm c3
      exact hB17 u _ _ _ _ _ hm hw (by omega) (by omega) (lv_sub hl [] rfl)
    · have hm := ifT' hm c3
      refine lv_iconst (v := 1) hx hb dJ6_isLatin1_13 (by decide) ?_
      refine lv_goto (tgt := 18) hx hb dJ6_isLatin1_14 (by decide) ?_
      exact hB18 u (1 : Int32) _ _ _ _ _ hm hw (by omega) (by omega) (lv_sub hl [] rfl)
def m_J6_charAt_15 (f : Nat) (h : CH) (y0 : Int32) : Option (Int32 × CH) := gd (cb y0) <|
    some (y0, h)
theorem mo_J6_charAt_15 {f : Nat} : ∀ (h : CH) (y0 : Int32) (r : (Int32 × CH)), m_J6_charAt_15 f h y0 = some r → le2 h r.2 := by
  intro h y0 r hm
  rw [m_J6_charAt_15] at hm
  obtain ⟨g1, hm⟩ := gdE hm
  cases hm
  exact le2.rf
def m_J6_charAt_4 (f : Nat) (h : CH) (x0 : Nat) (x1 : Int32) (y0 : Int32) : Option (Int32 × CH) := if y0 = 0 then
    bd (oR h 19 0 x0) fun a2 =>
    none
    else bd (oR h 19 0 x0) fun a3 =>
    bd2 (m_J11_charAt f h a3 x1) fun r5 h4 =>
    m_J6_charAt_15 f h4 r5
theorem mo_J6_charAt_4 {f : Nat} : ∀ (h : CH) (x0 : Nat) (x1 : Int32) (y0 : Int32) (r : (Int32 × CH)), m_J6_charAt_4 f h x0 x1 y0 = some r → le2 h r.2 := by
  intro h x0 x1 y0 r hm
  rw [m_J6_charAt_4] at hm
  by_cases c1 : y0 = 0
  · have hm := ifT hm c1
    obtain ⟨a2, ea2, hm⟩ := bdE hm
    exact noE hm
  · have hm := ifF hm c1
    obtain ⟨a3, ea3, hm⟩ := bdE hm
    obtain ⟨r5, h4, er5, hm⟩ := bd2E hm
    have lh4 := mo_J11_charAt er5
    exact (lh4.tr (mo_J6_charAt_15  h4 r5 _ hm))
def m_J6_charAt (f : Nat) (u : CH) (x0 : Nat) (x1 : Int32) : Option (Int32 × CH) := gd (isC u x0 19) <|
    bd2 (m_J6_isLatin1 f u x0) fun r3 h2 =>
    m_J6_charAt_4 f h2 x0 x1 r3
theorem mo_J6_charAt {f : Nat} {u : CH} {x0 : Nat} {x1 : Int32} {r0 : Int32} {u9 : CH} (hm : m_J6_charAt f u x0 x1 = some (r0, u9)) : le2 u u9 := by
  rw [m_J6_charAt] at hm
  obtain ⟨g1, hm⟩ := gdE hm
  obtain ⟨r3, h2, er3, hm⟩ := bd2E hm
  have lh2 := mo_J6_isLatin1 er3
  exact (lh2.tr (mo_J6_charAt_4  h2 x0 x1 r3 _ hm))
abbrev rm_J6_charAt (mc ms : Nat) : Room := { frames := 3, cells := mc, slots := ms, locals := 64 }
theorem cw_J6_charAt {R : Room} {s : State} {args : Array Value} {own : String} {idx mc ms : Nat} (hts : ∀ w ∈ lw_all, w.before args s = true) (hl : Cond.methodLink own idx yJ6_charAt ∈ lw_all) (hR : 3 + 1 ≤ R.frames ∧ 8 + (2 + 11) + 64 ≤ R.locals) : CallW R s args own RJ6 idx yJ6_charAt cJ6_charAt 2 (Option.some Jvm.ClassFile.FieldType.char) (ws_ yJ6_charAt cJ6_charAt 2 (Option.some Jvm.ClassFile.FieldType.char)) (rm_J6_charAt mc ms) mc ms 1 := cwV 1 hts (lw_V hl q1719 q1720 q131 q1721) rfl rfl rfl (by decide +kernel) hR
set_option maxHeartbeats 4000000 in
set_option maxRecDepth 100000 in
theorem w_J6_charAt (l : Launch) {D : va_G} {dA : Nat → ClassId} {A : Nat → Prop} {f : Nat} {u u9 : CH} {r0 : Int32} {x0 : Nat} {x1 : Int32} (hm : m_J6_charAt f u x0 x1 = some (r0, u9)) : Met l yJ6_charAt (ws_ yJ6_charAt cJ6_charAt 2 (Option.some Jvm.ClassFile.FieldType.char)) (rm_J6_charAt (u9.1 - u.1) (u9.2.1 - u.2.1)) (va_Pc [.ref x0, .int x1] (CPre D dA A u)) (va_Qi (fun r u => r = r0 ∧ u = u9) (CPost D dA A) A) (u9.1 - u.1) (u9.2.1 - u.2.1) A := by
  refine metOfWF (cc := cJ6_charAt) (maxL := 2) (ret := (Option.some Jvm.ClassFile.FieldType.char)) (by decide +kernel) rfl ?_
  intro p e s m args below meth c s₁ B hml hv
  have hx := B.exec
  have hb := B.bytes
  have hr := B.returns
  have hts := atoms_spec (ws := (ws_ yJ6_charAt cJ6_charAt 2 (Option.some Jvm.ClassFile.FieldType.char))) B.pre
  have hts : ∀ w ∈ lw_all, w.before args s = true := fun w h => hts w (List.mem_cons_of_mem _ h)
  have hown : s.vm.findClass RJ6 = some m.cls := findClass_of_methodNamed B.named
  have hlocks := B.notSynchronized
  obtain ⟨hav, hv⟩ := hv
  have C : CX p s m args c cJ6_charAt RJ6 D dA := ⟨hx, hb, hown, hts, hv.2⟩
  have hw : CW D dA A s u s.heap [] := hv.1
  have hs0 : s.heap.size = u.1 := hv.1.1
  generalize hQ : MQ below (va_Qi (fun r u => r = r0 ∧ u = u9) (CPost D dA A) A) args s (u9.1 - u.1) (u9.2.1 - u.2.1) A = QQ
  have hent := lg_entry_eq m [.ref x0, .int x1] 2
  rw [← hav] at hent
  rw [hent]
  have hl := lv_entry ([.ref x0, .int x1]) (n := 2) (Nat.le_of_ble_eq_true rfl)
  generalize (lg_sl ([.ref x0, .int x1]) ++ List.replicate (2 - (lg_sl ([.ref x0, .int x1])).length) Slot.unset).toArray = ls at hl ⊢
  have hl : lv_has ls 2 [(0, .ref x0), (1, .int x1)] := hl
  obtain ⟨cc, ecc⟩ : ∃ z : Nat, z = 0 := ⟨0, rfl⟩
  obtain ⟨ss, ess⟩ : ∃ z : Nat, z = 0 := ⟨0, rfl⟩
  have hcc : cc + u.1 = u.1 := by omega
  have hss : ss + u.2.1 = u.2.1 := by omega
  suffices hgo : W p l e (rm_J6_charAt (u9.1 - u.1) (u9.2.1 - u.2.1)) s m args below meth c s.heap [] cc ss QQ (F0 m 0 ls []) by rw [ecc, ess] at hgo; exact hgo
  have ⟨pu, qu, _, _⟩ := mo_J6_charAt hm
  have hB15 : ∀ (h : CH) (y0 : Int32) (cc ss : Nat) (H : Heap) (locs : List Loc) (ls : Array Slot), m_J6_charAt_15 f h y0 = some (r0, u9) → CW D dA A s h H locs → cc + u.1 = h.1 → ss + u.2.1 = h.2.1 → lv_has ls 2 [] → W p l e (rm_J6_charAt (u9.1 - u.1) (u9.2.1 - u.2.1)) s m args below meth c H locs cc ss QQ (F0 m 15 ls [.int y0]) := by
    intro h y0 cc ss H locs ls hm hw hcc hss hl
    have hmo := mo_J6_charAt_15  h y0 _ hm
    have sb_ : h.1 ≤ u9.1 := hmo.1
    have tb_ : h.2.1 ≤ u9.2.1 := hmo.2.1
    rw [m_J6_charAt_15] at hm
    obtain ⟨g1, hm⟩ := gdE hm
    obtain ⟨er, eh⟩ := retE hm
    have ec : cc = u9.1 - u.1 := by rw [← eh]; omega
    have es : ss = u9.2.1 - u.2.1 := by rw [← eh]; omega
    rw [ec, es, ← hQ]
    exact W.zret (v := y0) hx hb hr (cb_nar g1) (fun t ht hW => ⟨⟨y0, h, rfl, ⟨er, eh⟩, ⟨by rw [ht]; exact hw.1, by rw [ht]; exact hw.2.1⟩⟩, hw.2.2.1.F ht⟩) hw.2.2.1.2.2 dJ6_charAt_15
  have hB4 : ∀ (h : CH) (x0 : Nat) (x1 : Int32) (y0 : Int32) (cc ss : Nat) (H : Heap) (locs : List Loc) (ls : Array Slot), m_J6_charAt_4 f h x0 x1 y0 = some (r0, u9) → CW D dA A s h H locs → cc + u.1 = h.1 → ss + u.2.1 = h.2.1 → lv_has ls 2 [(0, .ref x0), (1, .int x1)] → W p l e (rm_J6_charAt (u9.1 - u.1) (u9.2.1 - u.2.1)) s m args below meth c H locs cc ss QQ (F0 m 4 ls [.int y0]) := by
    intro h x0 x1 y0 cc ss H locs ls hm hw hcc hss hl
    have hmo := mo_J6_charAt_4  h x0 x1 y0 _ hm
    have sb_ : h.1 ≤ u9.1 := hmo.1
    have tb_ : h.2.1 ≤ u9.2.1 := hmo.2.1
    rw [m_J6_charAt_4] at hm
    refine lv_if_eq (tgt := 16) hx hb dJ6_charAt_4 (by decide) (fun c1 => ?_) (fun c1 => ?_)
    · have hm := ifT hm c1
      refine lv_aload_n hx hb dJ6_charAt_16 rfl (lv_at hl 0 rfl) ?_
      obtain ⟨a2, ea2, hm⟩ := bdE hm
      refine cg_get C hw (oR_E ea2) rfl in_J6 (by decide) q540 dJ6_charAt_17 ?_
      refine lv_iload_n hx hb dJ6_charAt_20 rfl (lv_at hl 1 rfl) ?_
      exact noE hm
    · have hm := ifF hm c1
      refine lv_aload_n hx hb dJ6_charAt_7 rfl (lv_at hl 0 rfl) ?_
      obtain ⟨a3, ea3, hm⟩ := bdE hm
      refine cg_get C hw (oR_E ea3) rfl in_J6 (by decide) q540 dJ6_charAt_8 ?_
      refine lv_iload_n hx hb dJ6_charAt_11 rfl (lv_at hl 1 rfl) ?_
      obtain ⟨r5, h4, er5, hm⟩ := bd2E hm
      have lh4 := mo_J11_charAt er5
      have ph4 : h.1 ≤ h4.1 := lh4.1
      have qh4 : h.2.1 ≤ h4.2.1 := lh4.2.1
      have hmo := mo_J6_charAt_15   h4 r5 _ hm
      have sh4 : h4.1 ≤ u9.1 := hmo.1
      have th4 : h4.2.1 ≤ u9.2.1 := hmo.2.1
      refine cg_calli hw lh4 (va_runS (As := [.ref a3, .int x1]) (rest := []) ⟨hx, hb, hml, hown, hts⟩ (w_J11_charAt l er5) (cw_J11_charAt hts q1726 ⟨Nat.le_of_ble_eq_true rfl, Nat.le_of_ble_eq_true rfl⟩) (cg_preS C hw _) rfl rfl hl.1 rfl (lv_room (Nat.le_of_ble_eq_true rfl)) dJ6_charAt_12 ⟨show cc + (h4.1 - h.1) ≤ u9.1 - u.1 by omega, show ss + (h4.2.1 - h.2.1) ≤ u9.2.1 - u.2.1 by omega⟩) (fun H locs hw => ?_)
      exact hB15 h4 r5 _ _ _ _ _ hm hw (by omega) (by omega) (lv_sub hl [] rfl)
  rw [m_J6_charAt] at hm
  refine lv_aload_n hx hb dJ6_charAt_0 rfl (lv_at hl 0 rfl) ?_
  obtain ⟨g1, hm⟩ := gdE hm
  obtain ⟨r3, h2, er3, hm⟩ := bd2E hm
  have lh2 := mo_J6_isLatin1 er3
  have ph2 : u.1 ≤ h2.1 := lh2.1
  have qh2 : u.2.1 ≤ h2.2.1 := lh2.2.1
  have hmo := mo_J6_charAt_4   h2 x0 x1 r3 _ hm
  have sh2 : h2.1 ≤ u9.1 := hmo.1
  have th2 : h2.2.1 ≤ u9.2.1 := hmo.2.1
  refine cg_calli hw lh2 (va_runV (As := []) (rest := []) ⟨hx, hb, hml, hown, hts⟩ (w_J6_isLatin1 l er3) (cw_J6_isLatin1 hts q1722 ⟨Nat.le_of_ble_eq_true rfl, Nat.le_of_ble_eq_true rfl⟩) (cg_preV C hw g1 rfl _) rfl rfl hl.1 rfl (lv_room (Nat.le_of_ble_eq_true rfl)) dJ6_charAt_1 ⟨show cc + (h2.1 - u.1) ≤ u9.1 - u.1 by omega, show ss + (h2.2.1 - u.2.1) ≤ u9.2.1 - u.2.1 by omega⟩) (fun H locs hw => ?_)
  exact hB4 h2 x0 x1 r3 _ _ _ _ _ hm hw (by omega) (by omega) (lv_sub hl [0, 1] rfl)
def m_X3_isWord_75 (f : Nat) (h : CH) (x2 : Int32) : Option (Int32 × CH) := gd (zb x2) <|
    some (x2, h)
theorem mo_X3_isWord_75 {f : Nat} : ∀ (h : CH) (x2 : Int32) (r : (Int32 × CH)), m_X3_isWord_75 f h x2 = some r → le2 h r.2 := by
  intro h x2 r hm
  rw [m_X3_isWord_75] at hm
  obtain ⟨g1, hm⟩ := gdE hm
  cases hm
  exact le2.rf
def m_X3_isWord_68 (f : Nat) (k32 : CH → Nat → Nat → Int32 → Int32 → Option (Int32 × CH)) (h : CH) (x0 : Nat) (x1 : Nat) (x3 : Int32) (y0 : Int32) : Option (Int32 × CH) := nmv ((x3 + 1) : Int32) fun v1 =>
    k32 h x0 x1 y0 v1
theorem mo_X3_isWord_68 {f : Nat} {k32 : CH → Nat → Nat → Int32 → Int32 → Option (Int32 × CH)} (hk32 : ∀ (h : CH) (x0 : Nat) (x1 : Nat) (x2 : Int32) (x3 : Int32) (r : (Int32 × CH)), k32 h x0 x1 x2 x3 = some r → le2 h r.2) : ∀ (h : CH) (x0 : Nat) (x1 : Nat) (x3 : Int32) (y0 : Int32) (r : (Int32 × CH)), m_X3_isWord_68 f k32 h x0 x1 x3 y0 = some r → le2 h r.2 := by
  intro h x0 x1 x3 y0 r hm
  rw [m_X3_isWord_68] at hm
  obtain ⟨v1, ev1, hm⟩ := nmE hm
  exact (hk32 h x0 x1 y0 v1 _ hm)
def m_X3_isWord_60 (f : Nat) (k32 : CH → Nat → Nat → Int32 → Int32 → Option (Int32 × CH)) (h : CH) (x0 : Nat) (x1 : Nat) (x3 : Int32) (y0 : Int32) (y1 : Int32) : Option (Int32 × CH) := if ¬ y0 = y1 then
    m_X3_isWord_68 f k32 h x0 x1 x3 (0 : Int32)
    else m_X3_isWord_68 f k32 h x0 x1 x3 (1 : Int32)
theorem mo_X3_isWord_60 {f : Nat} {k32 : CH → Nat → Nat → Int32 → Int32 → Option (Int32 × CH)} (hk32 : ∀ (h : CH) (x0 : Nat) (x1 : Nat) (x2 : Int32) (x3 : Int32) (r : (Int32 × CH)), k32 h x0 x1 x2 x3 = some r → le2 h r.2) : ∀ (h : CH) (x0 : Nat) (x1 : Nat) (x3 : Int32) (y0 : Int32) (y1 : Int32) (r : (Int32 × CH)), m_X3_isWord_60 f k32 h x0 x1 x3 y0 y1 = some r → le2 h r.2 := by
  intro h x0 x1 x3 y0 y1 r hm
  rw [m_X3_isWord_60] at hm
  by_cases c1 : ¬ y0 = y1
  · have hm := ifT hm c1
    exact (mo_X3_isWord_68 hk32 h x0 x1 x3 (0 : Int32) _ hm)
  · have hm := ifF hm c1
    exact (mo_X3_isWord_68 hk32 h x0 x1 x3 (1 : Int32) _ hm)
def m_X3_isWord_37 (f : Nat) (k32 : CH → Nat → Nat → Int32 → Int32 → Option (Int32 × CH)) (h : CH) (x0 : Nat) (x1 : Nat) (x2 : Int32) (x3 : Int32) (y0 : Int32) (y1 : Int32) : Option (Int32 × CH) := if y1 ≤ y0 then
    m_X3_isWord_75 f h x2
    else if x2 = 0 then
    m_X3_isWord_75 f h x2
    else bd (oR h 0 3 x0) fun a3 =>
    bd (oI h 0 12 x0) fun v4 =>
    bd (aI h 0 a3 (v4 + x3)) fun v5 =>
    gd (isC h x1 19) <|
    bd2 (m_J6_charAt f h x1 x3) fun r8 h7 =>
    m_X3_isWord_60 f k32 h7 x0 x1 x3 v5 r8
theorem mo_X3_isWord_37 {f : Nat} {k32 : CH → Nat → Nat → Int32 → Int32 → Option (Int32 × CH)} (hk32 : ∀ (h : CH) (x0 : Nat) (x1 : Nat) (x2 : Int32) (x3 : Int32) (r : (Int32 × CH)), k32 h x0 x1 x2 x3 = some r → le2 h r.2) : ∀ (h : CH) (x0 : Nat) (x1 : Nat) (x2 : Int32) (x3 : Int32) (y0 : Int32) (y1 : Int32) (r : (Int32 × CH)), m_X3_isWord_37 f k32 h x0 x1 x2 x3 y0 y1 = some r → le2 h r.2 := by
  intro h x0 x1 x2 x3 y0 y1 r hm
  rw [m_X3_isWord_37] at hm
  by_cases c1 : y1 ≤ y0
  · have hm := ifT hm c1
    exact (mo_X3_isWord_75  h x2 _ hm)
  · have hm := ifF hm c1
    by_cases c2 : x2 = 0
    · have hm := ifT hm c2
      exact (mo_X3_isWord_75  h x2 _ hm)
    · have hm := ifF hm c2
      obtain ⟨a3, ea3, hm⟩ := bdE hm
      obtain ⟨v4, ev4, hm⟩ := bdE hm
      obtain ⟨v5, ev5, hm⟩ := bdE hm
      obtain ⟨g6, hm⟩ := gdE hm
      obtain ⟨r8, h7, er8, hm⟩ := bd2E hm
      have lh7 := mo_J6_charAt er8
      exact (lh7.tr (mo_X3_isWord_60 hk32 h7 x0 x1 x3 v5 r8 _ hm))
def m_X3_isWord_32 (f : Nat) : Nat → CH → Nat → Nat → Int32 → Int32 → Option (Int32 × CH)
  | 0, _, _, _, _, _ => none
  | n32 + 1, h, x0, x1, x2, x3 => gd (isC h x1 19) <|
    bd2 (m_J6_length f h x1) fun r3 h2 =>
    m_X3_isWord_37 f (m_X3_isWord_32 f n32) h2 x0 x1 x2 x3 x3 r3
theorem mo_X3_isWord_32 {f : Nat} : ∀ (n32 : Nat) (h : CH) (x0 : Nat) (x1 : Nat) (x2 : Int32) (x3 : Int32) (r : (Int32 × CH)), m_X3_isWord_32 f n32 h x0 x1 x2 x3 = some r → le2 h r.2 := by
  intro n32
  induction n32 with
  | zero => intro h x0 x1 x2 x3 r hm; rw [m_X3_isWord_32] at hm; exact noE hm
  | succ n32 ihm =>
    intro h x0 x1 x2 x3 r hm
    rw [m_X3_isWord_32] at hm
    obtain ⟨g1, hm⟩ := gdE hm
    obtain ⟨r3, h2, er3, hm⟩ := bd2E hm
    have lh2 := mo_J6_length er3
    exact (lh2.tr (mo_X3_isWord_37 ihm h2 x0 x1 x2 x3 x3 r3 _ hm))
def m_X3_isWord_29 (f : Nat) (h : CH) (x0 : Nat) (x1 : Nat) (y0 : Int32) : Option (Int32 × CH) := m_X3_isWord_32 f f h x0 x1 y0 (0 : Int32)
theorem mo_X3_isWord_29 {f : Nat} : ∀ (h : CH) (x0 : Nat) (x1 : Nat) (y0 : Int32) (r : (Int32 × CH)), m_X3_isWord_29 f h x0 x1 y0 = some r → le2 h r.2 := by
  intro h x0 x1 y0 r hm
  rw [m_X3_isWord_29] at hm
  exact (mo_X3_isWord_32  f h x0 x1 y0 (0 : Int32) _ hm)
def m_X3_isWord_28 (f : Nat) (h : CH) (x0 : Nat) (x1 : Nat) : Option (Int32 × CH) := m_X3_isWord_29 f h x0 x1 (0 : Int32)
theorem mo_X3_isWord_28 {f : Nat} : ∀ (h : CH) (x0 : Nat) (x1 : Nat) (r : (Int32 × CH)), m_X3_isWord_28 f h x0 x1 = some r → le2 h r.2 := by
  intro h x0 x1 r hm
  rw [m_X3_isWord_28] at hm
  exact (mo_X3_isWord_29  h x0 x1 (0 : Int32) _ hm)
def m_X3_isWord_21 (f : Nat) (h : CH) (x0 : Nat) (x1 : Nat) (y0 : Int32) (y1 : Int32) : Option (Int32 × CH) := if ¬ y0 = y1 then
    m_X3_isWord_28 f h x0 x1
    else m_X3_isWord_29 f h x0 x1 (1 : Int32)
theorem mo_X3_isWord_21 {f : Nat} : ∀ (h : CH) (x0 : Nat) (x1 : Nat) (y0 : Int32) (y1 : Int32) (r : (Int32 × CH)), m_X3_isWord_21 f h x0 x1 y0 y1 = some r → le2 h r.2 := by
  intro h x0 x1 y0 y1 r hm
  rw [m_X3_isWord_21] at hm
  by_cases c1 : ¬ y0 = y1
  · have hm := ifT hm c1
    exact (mo_X3_isWord_28  h x0 x1 _ hm)
  · have hm := ifF hm c1
    exact (mo_X3_isWord_29  h x0 x1 (1 : Int32) _ hm)
def m_X3_isWord (f : Nat) (u : CH) (x0 : Nat) (x1 : Nat) : Option (Int32 × CH) := bd (oI u 0 13 x0) fun v1 =>
    if ¬ v1 = (1 : Int32) then
    m_X3_isWord_28 f u x0 x1
    else bd (oI u 0 11 x0) fun v3 =>
    bd (oI u 0 12 x0) fun v4 =>
    gd (isC u x1 19) <|
    bd2 (m_J6_length f u x1) fun r7 h6 =>
    m_X3_isWord_21 f h6 x0 x1 (v3 - v4) r7
theorem mo_X3_isWord {f : Nat} {u : CH} {x0 : Nat} {x1 : Nat} {r0 : Int32} {u9 : CH} (hm : m_X3_isWord f u x0 x1 = some (r0, u9)) : le2 u u9 := by
  rw [m_X3_isWord] at hm
  obtain ⟨v1, ev1, hm⟩ := bdE hm
  by_cases c2 : ¬ v1 = (1 : Int32)
  · have hm := ifT hm c2
    exact (mo_X3_isWord_28  u x0 x1 _ hm)
  · have hm := ifF hm c2
    obtain ⟨v3, ev3, hm⟩ := bdE hm
    obtain ⟨v4, ev4, hm⟩ := bdE hm
    obtain ⟨g5, hm⟩ := gdE hm
    obtain ⟨r7, h6, er7, hm⟩ := bd2E hm
    have lh6 := mo_J6_length er7
    exact (lh6.tr (mo_X3_isWord_21  h6 x0 x1 (v3 - v4) r7 _ hm))
abbrev rm_X3_isWord (mc ms : Nat) : Room := { frames := 4, cells := mc, slots := ms, locals := 85 }
theorem cw_X3_isWord {R : Room} {s : State} {args : Array Value} {own : String} {idx mc ms : Nat} (hts : ∀ w ∈ lw_all, w.before args s = true) (hl : Cond.methodLink own idx yX3_isWord ∈ lw_all) (hR : 4 + 1 ≤ R.frames ∧ 8 + (4 + 11) + 85 ≤ R.locals) : CallW R s args own RX3 idx yX3_isWord cX3_isWord 4 (Option.some Jvm.ClassFile.FieldType.boolean) (ws_ yX3_isWord cX3_isWord 4 (Option.some Jvm.ClassFile.FieldType.boolean)) (rm_X3_isWord mc ms) mc ms 1 := cwV 1 hts (lw_V hl q1715 qs56 q125 q1716) rfl rfl rfl (by decide +kernel) hR
set_option maxHeartbeats 4000000 in
set_option maxRecDepth 100000 in
theorem w_X3_isWord (l : Launch) {D : va_G} {dA : Nat → ClassId} {A : Nat → Prop} {f : Nat} {u u9 : CH} {r0 : Int32} {x0 : Nat} {x1 : Nat} (hm : m_X3_isWord f u x0 x1 = some (r0, u9)) : Met l yX3_isWord (ws_ yX3_isWord cX3_isWord 4 (Option.some Jvm.ClassFile.FieldType.boolean)) (rm_X3_isWord (u9.1 - u.1) (u9.2.1 - u.2.1)) (va_Pc [.ref x0, .ref x1] (CPre D dA A u)) (va_Qi (fun r u => r = r0 ∧ u = u9) (CPost D dA A) A) (u9.1 - u.1) (u9.2.1 - u.2.1) A := by
  refine Met.ofW (cc := cX3_isWord) (maxL := 4) (ret := (Option.some Jvm.ClassFile.FieldType.boolean)) (by decide) rfl ?_
  intro p e s m args below meth c s₁ B hml hv
  have hx := B.exec
  have hb := B.bytes
  have hr := B.returns
  have hts := atoms_spec (ws := (ws_ yX3_isWord cX3_isWord 4 (Option.some Jvm.ClassFile.FieldType.boolean))) B.pre
  have hts : ∀ w ∈ lw_all, w.before args s = true := fun w h => hts w (List.mem_cons_of_mem _ h)
  have hown : s.vm.findClass RX3 = some m.cls := findClass_of_methodNamed B.named
  have hlocks := B.notSynchronized
  obtain ⟨hav, hv⟩ := hv
  have C : CX p s m args c cX3_isWord RX3 D dA := ⟨hx, hb, hown, hts, hv.2⟩
  have hw : CW D dA A s u s.heap [] := hv.1
  have hs0 : s.heap.size = u.1 := hv.1.1
  generalize hQ : MQ below (va_Qi (fun r u => r = r0 ∧ u = u9) (CPost D dA A) A) args s (u9.1 - u.1) (u9.2.1 - u.2.1) A = QQ
  have hent := lg_entry_eq m [.ref x0, .ref x1] 4
  rw [← hav] at hent
  rw [hent]
  have hl := lv_entry ([.ref x0, .ref x1]) (n := 4) (Nat.le_of_ble_eq_true rfl)
  generalize (lg_sl ([.ref x0, .ref x1]) ++ List.replicate (4 - (lg_sl ([.ref x0, .ref x1])).length) Slot.unset).toArray = ls at hl ⊢
  have hl : lv_has ls 4 [(0, .ref x0), (1, .ref x1)] := hl
  obtain ⟨cc, ecc⟩ : ∃ z : Nat, z = 0 := ⟨0, rfl⟩
  obtain ⟨ss, ess⟩ : ∃ z : Nat, z = 0 := ⟨0, rfl⟩
  have hcc : cc + u.1 = u.1 := by omega
  have hss : ss + u.2.1 = u.2.1 := by omega
  suffices hgo : W p l e (rm_X3_isWord (u9.1 - u.1) (u9.2.1 - u.2.1)) s m args below meth c s.heap [] cc ss QQ (F0 m 0 ls []) by rw [ecc, ess] at hgo; exact hgo
  have ⟨pu, qu, _, _⟩ := mo_X3_isWord hm
  have hB75 : ∀ (h : CH) (x2 : Int32) (cc ss : Nat) (H : Heap) (locs : List Loc) (ls : Array Slot), m_X3_isWord_75 f h x2 = some (r0, u9) → CW D dA A s h H locs → cc + u.1 = h.1 → ss + u.2.1 = h.2.1 → lv_has ls 4 [(2, .int x2)] → W p l e (rm_X3_isWord (u9.1 - u.1) (u9.2.1 - u.2.1)) s m args below meth c H locs cc ss QQ (F0 m 75 ls []) := by
    intro h x2 cc ss H locs ls hm hw hcc hss hl
    have hmo := mo_X3_isWord_75  h x2 _ hm
    have sb_ : h.1 ≤ u9.1 := hmo.1
    have tb_ : h.2.1 ≤ u9.2.1 := hmo.2.1
    rw [m_X3_isWord_75] at hm
    refine lv_iload_n hx hb dX3_isWord_75 rfl (lv_at hl 0 rfl) ?_
    obtain ⟨g1, hm⟩ := gdE hm
    obtain ⟨er, eh⟩ := retE hm
    have ec : cc = u9.1 - u.1 := by rw [← eh]; omega
    have es : ss = u9.2.1 - u.2.1 := by rw [← eh]; omega
    rw [ec, es, ← hQ]
    exact W.zret (v := x2) hx hb hr (zb_nar g1) (fun t ht hW => ⟨⟨x2, h, rfl, ⟨er, eh⟩, ⟨by rw [ht]; exact hw.1, by rw [ht]; exact hw.2.1⟩⟩, hw.2.2.1.F ht⟩) hw.2.2.1.2.2 dX3_isWord_76
  have hB32 : ∀ (n32 : Nat), ∀ (h : CH) (x0 : Nat) (x1 : Nat) (x2 : Int32) (x3 : Int32) (cc ss : Nat) (H : Heap) (locs : List Loc) (ls : Array Slot), m_X3_isWord_32 f n32 h x0 x1 x2 x3 = some (r0, u9) → CW D dA A s h H locs → cc + u.1 = h.1 → ss + u.2.1 = h.2.1 → lv_has ls 4 [(0, .ref x0), (1, .ref x1), (2, .int x2), (3, .int x3)] → W p l e (rm_X3_isWord (u9.1 - u.1) (u9.2.1 - u.2.1)) s m args below meth c H locs cc ss QQ (F0 m 32 ls []) := by
    intro n32
    induction n32 with
    | zero => intro h x0 x1 x2 x3 cc ss H locs ls hm hw hcc hss hl; rw [m_X3_isWord_32] at hm; exact noE hm
    | succ n32 ih32 =>
      have hB68 : ∀ (h : CH) (x0 : Nat) (x1 : Nat) (x3 : Int32) (y0 : Int32) (cc ss : Nat) (H : Heap) (locs : List Loc) (ls : Array Slot), m_X3_isWord_68 f (m_X3_isWord_32 f n32) h x0 x1 x3 y0 = some (r0, u9) → CW D dA A s h H locs → cc + u.1 = h.1 → ss + u.2.1 = h.2.1 → lv_has ls 4 [(0, .ref x0), (1, .ref x1), (3, .int x3)] → W p l e (rm_X3_isWord (u9.1 - u.1) (u9.2.1 - u.2.1)) s m args below meth c H locs cc ss QQ (F0 m 68 ls [.int y0]) := by
        intro h x0 x1 x3 y0 cc ss H locs ls hm hw hcc hss hl
        have hmo := mo_X3_isWord_68 (mo_X3_isWord_32 n32) h x0 x1 x3 y0 _ hm
        have sb_ : h.1 ≤ u9.1 := hmo.1
        have tb_ : h.2.1 ≤ u9.2.1 := hmo.2.1
        rw [m_X3_isWord_68] at hm
        refine lv_istore_n (lv' := [(2, .int y0), (0, .ref x0), (1, .ref x1), (3, .int x3)]) hx hb dX3_isWord_68 rfl hl (by decide) rfl (fun ls hl => ?_)
        obtain ⟨v1, ev1, hm⟩ := nmE hm
        refine lv_iinc (v := v1) (lv' := [(3, .int v1), (2, .int y0), (0, .ref x0), (1, .ref x1)]) hx hb dX3_isWord_69 hl (k := 3) rfl (by rw [ev1]; rfl) (by decide) rfl (fun ls hl => ?_)
        refine lv_goto (tgt := 32) hx hb dX3_isWord_72 (by decide) ?_
        exact ih32 h x0 x1 y0 v1 _ _ _ _ _ hm hw (by omega) (by omega) (lv_sub hl [2, 3, 1, 0] rfl)
      have hB60 : ∀ (h : CH) (x0 : Nat) (x1 : Nat) (x3 : Int32) (y0 : Int32) (y1 : Int32) (cc ss : Nat) (H : Heap) (locs : List Loc) (ls : Array Slot), m_X3_isWord_60 f (m_X3_isWord_32 f n32) h x0 x1 x3 y0 y1 = some (r0, u9) → CW D dA A s h H locs → cc + u.1 = h.1 → ss + u.2.1 = h.2.1 → lv_has ls 4 [(0, .ref x0), (1, .ref x1), (3, .int x3)] → W p l e (rm_X3_isWord (u9.1 - u.1) (u9.2.1 - u.2.1)) s m args below meth c H locs cc ss QQ (F0 m 60 ls [.int y1, .int y0]) := by
        intro h x0 x1 x3 y0 y1 cc ss H locs ls hm hw hcc hss hl
        have hmo := mo_X3_isWord_60 (mo_X3_isWord_32 n32) h x0 x1 x3 y0 y1 _ hm
        have sb_ : h.1 ≤ u9.1 := hmo.1
        have tb_ : h.2.1 ≤ u9.2.1 := hmo.2.1
        rw [m_X3_isWord_60] at hm
        refine lv_icmp_ne (tgt := 67) hx hb dX3_isWord_60 (by decide) (fun c1 => ?_) (fun c1 => ?_)
        · have hm := ifT hm c1
          refine lv_iconst (v := 0) hx hb dX3_isWord_67 (by decide) ?_
          exact hB68 h x0 x1 x3 (0 : Int32) _ _ _ _ _ hm hw (by omega) (by omega) (lv_sub hl [0, 1, 2] rfl)
        · have hm := ifT' hm c1
          refine lv_iconst (v := 1) hx hb dX3_isWord_63 (by decide) ?_
          refine lv_goto (tgt := 68) hx hb dX3_isWord_64 (by decide) ?_
          exact hB68 h x0 x1 x3 (1 : Int32) _ _ _ _ _ hm hw (by omega) (by omega) (lv_sub hl [0, 1, 2] rfl)
      have hB37 : ∀ (h : CH) (x0 : Nat) (x1 : Nat) (x2 : Int32) (x3 : Int32) (y0 : Int32) (y1 : Int32) (cc ss : Nat) (H : Heap) (locs : List Loc) (ls : Array Slot), m_X3_isWord_37 f (m_X3_isWord_32 f n32) h x0 x1 x2 x3 y0 y1 = some (r0, u9) → CW D dA A s h H locs → cc + u.1 = h.1 → ss + u.2.1 = h.2.1 → lv_has ls 4 [(0, .ref x0), (1, .ref x1), (2, .int x2), (3, .int x3)] → W p l e (rm_X3_isWord (u9.1 - u.1) (u9.2.1 - u.2.1)) s m args below meth c H locs cc ss QQ (F0 m 37 ls [.int y1, .int y0]) := by
        intro h x0 x1 x2 x3 y0 y1 cc ss H locs ls hm hw hcc hss hl
        have hmo := mo_X3_isWord_37 (mo_X3_isWord_32 n32) h x0 x1 x2 x3 y0 y1 _ hm
        have sb_ : h.1 ≤ u9.1 := hmo.1
        have tb_ : h.2.1 ≤ u9.2.1 := hmo.2.1
        rw [m_X3_isWord_37] at hm
        refine lv_icmp_ge (tgt := 75) hx hb dX3_isWord_37 (by decide) (fun c1 => ?_) (fun c1 => ?_)
        · have hm := ifT hm c1
          exact hB75 h x2 _ _ _ _ _ hm hw (by omega) (by omega) (lv_sub hl [2] rfl)
        · have hm := ifF hm c1
          refine lv_iload_n hx hb dX3_isWord_40 rfl (lv_at hl 2 rfl) ?_
          refine lv_if_eq (tgt := 75) hx hb dX3_isWord_41 (by decide) (fun c2 => ?_) (fun c2 => ?_)
          · have hm := ifT hm c2
            exact hB75 h x2 _ _ _ _ _ hm hw (by omega) (by omega) (lv_sub hl [2] rfl)
          · have hm := ifF hm c2
            refine lv_aload_n hx hb dX3_isWord_44 rfl (lv_at hl 0 rfl) ?_
            obtain ⟨a3, ea3, hm⟩ := bdE hm
            refine cg_get C hw (oR_E ea3) rfl in_X3 (by decide) q1569 dX3_isWord_45 ?_
            refine lv_aload_n hx hb dX3_isWord_48 rfl (lv_at hl 0 rfl) ?_
            obtain ⟨v4, ev4, hm⟩ := bdE hm
            refine cg_get C hw (oI_E ev4) rfl in_X3 (by decide) q1578 dX3_isWord_49 ?_
            refine lv_iload_n hx hb dX3_isWord_52 rfl (lv_at hl 3 rfl) ?_
            refine lv_iadd hx hb dX3_isWord_53 ?_
            obtain ⟨v5, ev5, hm⟩ := bdE hm
            refine cg_iald C hw ev5 dX3_isWord_54 ?_
            refine lv_aload_n hx hb dX3_isWord_55 rfl (lv_at hl 1 rfl) ?_
            refine lv_iload_n hx hb dX3_isWord_56 rfl (lv_at hl 3 rfl) ?_
            obtain ⟨g6, hm⟩ := gdE hm
            obtain ⟨r8, h7, er8, hm⟩ := bd2E hm
            have lh7 := mo_J6_charAt er8
            have ph7 : h.1 ≤ h7.1 := lh7.1
            have qh7 : h.2.1 ≤ h7.2.1 := lh7.2.1
            have hmo := mo_X3_isWord_60 (mo_X3_isWord_32 n32)  h7 x0 x1 x3 v5 r8 _ hm
            have sh7 : h7.1 ≤ u9.1 := hmo.1
            have th7 : h7.2.1 ≤ u9.2.1 := hmo.2.1
            refine cg_calli hw lh7 (va_runV (As := [.int x3]) (rest := [.int v5]) ⟨hx, hb, hml, hown, hts⟩ (w_J6_charAt l er8) (cw_J6_charAt hts q1718 ⟨Nat.le_of_ble_eq_true rfl, Nat.le_of_ble_eq_true rfl⟩) (cg_preV C hw g6 rfl _) rfl rfl hl.1 rfl (lv_room (Nat.le_of_ble_eq_true rfl)) dX3_isWord_57 ⟨show cc + (h7.1 - h.1) ≤ u9.1 - u.1 by omega, show ss + (h7.2.1 - h.2.1) ≤ u9.2.1 - u.2.1 by omega⟩) (fun H locs hw => ?_)
            exact hB60 h7 x0 x1 x3 v5 r8 _ _ _ _ _ hm hw (by omega) (by omega) (lv_sub hl [0, 1, 3] rfl)
      intro h x0 x1 x2 x3 cc ss H locs ls hm hw hcc hss hl
      have hmo := mo_X3_isWord_32  (n32 + 1) h x0 x1 x2 x3 _ hm
      have sb_ : h.1 ≤ u9.1 := hmo.1
      have tb_ : h.2.1 ≤ u9.2.1 := hmo.2.1
      rw [m_X3_isWord_32] at hm
      refine lv_iload_n hx hb dX3_isWord_32 rfl (lv_at hl 3 rfl) ?_
      refine lv_aload_n hx hb dX3_isWord_33 rfl (lv_at hl 1 rfl) ?_
      obtain ⟨g1, hm⟩ := gdE hm
      obtain ⟨r3, h2, er3, hm⟩ := bd2E hm
      have lh2 := mo_J6_length er3
      have ph2 : h.1 ≤ h2.1 := lh2.1
      have qh2 : h.2.1 ≤ h2.2.1 := lh2.2.1
      have hmo := mo_X3_isWord_37 (mo_X3_isWord_32 n32)  h2 x0 x1 x2 x3 x3 r3 _ hm
      have sh2 : h2.1 ≤ u9.1 := hmo.1
      have th2 : h2.2.1 ≤ u9.2.1 := hmo.2.1
      refine cg_calli hw lh2 (va_runV (As := []) (rest := [.int x3]) ⟨hx, hb, hml, hown, hts⟩ (w_J6_length l er3) (cw_J6_length hts q1717 ⟨Nat.le_of_ble_eq_true rfl, Nat.le_of_ble_eq_true rfl⟩) (cg_preV C hw g1 rfl _) rfl rfl hl.1 rfl (lv_room (Nat.le_of_ble_eq_true rfl)) dX3_isWord_34 ⟨show cc + (h2.1 - h.1) ≤ u9.1 - u.1 by omega, show ss + (h2.2.1 - h.2.1) ≤ u9.2.1 - u.2.1 by omega⟩) (fun H locs hw => ?_)
      exact hB37 h2 x0 x1 x2 x3 x3 r3 _ _ _ _ _ hm hw (by omega) (by omega) (lv_sub hl [0, 1, 2, 3] rfl)
  have hB29 : ∀ (h : CH) (x0 : Nat) (x1 : Nat) (y0 : Int32) (cc ss : Nat) (H : Heap) (locs : List Loc) (ls : Array Slot), m_X3_isWord_29 f h x0 x1 y0 = some (r0, u9) → CW D dA A s h H locs → cc + u.1 = h.1 → ss + u.2.1 = h.2.1 → lv_has ls 4 [(0, .ref x0), (1, .ref x1)] → W p l e (rm_X3_isWord (u9.1 - u.1) (u9.2.1 - u.2.1)) s m args below meth c H locs cc ss QQ (F0 m 29 ls [.int y0]) := by
    intro h x0 x1 y0 cc ss H locs ls hm hw hcc hss hl
    have hmo := mo_X3_isWord_29  h x0 x1 y0 _ hm
    have sb_ : h.1 ≤ u9.1 := hmo.1
    have tb_ : h.2.1 ≤ u9.2.1 := hmo.2.1
    rw [m_X3_isWord_29] at hm
    refine lv_istore_n (lv' := [(2, .int y0), (0, .ref x0), (1, .ref x1)]) hx hb dX3_isWord_29 rfl hl (by decide) rfl (fun ls hl => ?_)
    refine lv_iconst (v := 0) hx hb dX3_isWord_30 (by decide) ?_
    refine lv_istore_n (lv' := [(3, .int (0 : Int32)), (2, .int y0), (0, .ref x0), (1, .ref x1)]) hx hb dX3_isWord_31 rfl hl (by decide) rfl (fun ls hl => ?_)
    exact hB32 f h x0 x1 y0 (0 : Int32) _ _ _ _ _ hm hw (by omega) (by omega) (lv_sub hl [2, 3, 1, 0] rfl)
  have hB28 : ∀ (h : CH) (x0 : Nat) (x1 : Nat) (cc ss : Nat) (H : Heap) (locs : List Loc) (ls : Array Slot), m_X3_isWord_28 f h x0 x1 = some (r0, u9) → CW D dA A s h H locs → cc + u.1 = h.1 → ss + u.2.1 = h.2.1 → lv_has ls 4 [(0, .ref x0), (1, .ref x1)] → W p l e (rm_X3_isWord (u9.1 - u.1) (u9.2.1 - u.2.1)) s m args below meth c H locs cc ss QQ (F0 m 28 ls []) := by
    intro h x0 x1 cc ss H locs ls hm hw hcc hss hl
    have hmo := mo_X3_isWord_28  h x0 x1 _ hm
    have sb_ : h.1 ≤ u9.1 := hmo.1
    have tb_ : h.2.1 ≤ u9.2.1 := hmo.2.1
    rw [m_X3_isWord_28] at hm
    refine lv_iconst (v := 0) hx hb dX3_isWord_28 (by decide) ?_
    exact hB29 h x0 x1 (0 : Int32) _ _ _ _ _ hm hw (by omega) (by omega) (lv_sub hl [0, 1] rfl)
  have hB21 : ∀ (h : CH) (x0 : Nat) (x1 : Nat) (y0 : Int32) (y1 : Int32) (cc ss : Nat) (H : Heap) (locs : List Loc) (ls : Array Slot), m_X3_isWord_21 f h x0 x1 y0 y1 = some (r0, u9) → CW D dA A s h H locs → cc + u.1 = h.1 → ss + u.2.1 = h.2.1 → lv_has ls 4 [(0, .ref x0), (1, .ref x1)] → W p l e (rm_X3_isWord (u9.1 - u.1) (u9.2.1 - u.2.1)) s m args below meth c H locs cc ss QQ (F0 m 21 ls [.int y1, .int y0]) := by
    intro h x0 x1 y0 y1 cc ss H locs ls hm hw hcc hss hl
    have hmo := mo_X3_isWord_21  h x0 x1 y0 y1 _ hm
    have sb_ : h.1 ≤ u9.1 := hmo.1
    have tb_ : h.2.1 ≤ u9.2.1 := hmo.2.1
    rw [m_X3_isWord_21] at hm
    refine lv_icmp_ne (tgt := 28) hx hb dX3_isWord_21 (by decide) (fun c1 => ?_) (fun c1 => ?_)
    · have hm := ifT hm c1
      exact hB28 h x0 x1 _ _ _ _ _ hm hw (by omega) (by omega) (lv_sub hl [0, 1] rfl)
    · have hm := ifT' hm c1
      refine lv_iconst (v := 1) hx hb dX3_isWord_24 (by decide) ?_
      refine lv_goto (tgt := 29) hx hb dX3_isWord_25 (by decide) ?_
      exact hB29 h x0 x1 (1 : Int32) _ _ _ _ _ hm hw (by omega) (by omega) (lv_sub hl [0, 1] rfl)
  rw [m_X3_isWord] at hm
  refine lv_aload_n hx hb dX3_isWord_0 rfl (lv_at hl 0 rfl) ?_
  obtain ⟨v1, ev1, hm⟩ := bdE hm
  refine cg_get C hw (oI_E ev1) rfl in_X3 (by decide) q1579 dX3_isWord_1 ?_
  refine lv_iconst (v := 1) hx hb dX3_isWord_4 (by decide) ?_
  refine lv_icmp_ne (tgt := 28) hx hb dX3_isWord_5 (by decide) (fun c2 => ?_) (fun c2 => ?_)
  · have hm := ifT hm c2
    exact hB28 u x0 x1 _ _ _ _ _ hm hw (by omega) (by omega) (lv_sub hl [0, 1] rfl)
  · have hm := ifT' hm c2
    refine lv_aload_n hx hb dX3_isWord_8 rfl (lv_at hl 0 rfl) ?_
    obtain ⟨v3, ev3, hm⟩ := bdE hm
    refine cg_get C hw (oI_E ev3) rfl in_X3 (by decide) q1577 dX3_isWord_9 ?_
    refine lv_aload_n hx hb dX3_isWord_12 rfl (lv_at hl 0 rfl) ?_
    obtain ⟨v4, ev4, hm⟩ := bdE hm
    refine cg_get C hw (oI_E ev4) rfl in_X3 (by decide) q1578 dX3_isWord_13 ?_
    refine lv_isub hx hb dX3_isWord_16 ?_
    refine lv_aload_n hx hb dX3_isWord_17 rfl (lv_at hl 1 rfl) ?_
    obtain ⟨g5, hm⟩ := gdE hm
    obtain ⟨r7, h6, er7, hm⟩ := bd2E hm
    have lh6 := mo_J6_length er7
    have ph6 : u.1 ≤ h6.1 := lh6.1
    have qh6 : u.2.1 ≤ h6.2.1 := lh6.2.1
    have hmo := mo_X3_isWord_21   h6 x0 x1 (v3 - v4) r7 _ hm
    have sh6 : h6.1 ≤ u9.1 := hmo.1
    have th6 : h6.2.1 ≤ u9.2.1 := hmo.2.1
    refine cg_calli hw lh6 (va_runV (As := []) (rest := [.int (v3 - v4)]) ⟨hx, hb, hml, hown, hts⟩ (w_J6_length l er7) (cw_J6_length hts q1717 ⟨Nat.le_of_ble_eq_true rfl, Nat.le_of_ble_eq_true rfl⟩) (cg_preV C hw g5 rfl _) rfl rfl hl.1 rfl (lv_room (Nat.le_of_ble_eq_true rfl)) dX3_isWord_18 ⟨show cc + (h6.1 - u.1) ≤ u9.1 - u.1 by omega, show ss + (h6.2.1 - u.2.1) ≤ u9.2.1 - u.2.1 by omega⟩) (fun H locs hw => ?_)
    exact hB21 h6 x0 x1 (v3 - v4) r7 _ _ _ _ _ hm hw (by omega) (by omega) (lv_sub hl [0, 1] rfl)
def m_X3_isKept_41 (f : Nat) (h : CH) (y0 : Int32) : Option (Int32 × CH) := gd (zb y0) <|
    some (y0, h)
theorem mo_X3_isKept_41 {f : Nat} : ∀ (h : CH) (y0 : Int32) (r : (Int32 × CH)), m_X3_isKept_41 f h y0 = some r → le2 h r.2 := by
  intro h y0 r hm
  rw [m_X3_isKept_41] at hm
  obtain ⟨g1, hm⟩ := gdE hm
  cases hm
  exact le2.rf
def m_X3_isKept_36 (f : Nat) (h : CH) : Option (Int32 × CH) := m_X3_isKept_41 f h (1 : Int32)
theorem mo_X3_isKept_36 {f : Nat} : ∀ (h : CH) (r : (Int32 × CH)), m_X3_isKept_36 f h = some r → le2 h r.2 := by
  intro h r hm
  rw [m_X3_isKept_36] at hm
  exact (mo_X3_isKept_41  h (1 : Int32) _ hm)
def m_X3_isKept_33 (f : Nat) (h : CH) (y0 : Int32) : Option (Int32 × CH) := if y0 = 0 then
    m_X3_isKept_41 f h (0 : Int32)
    else m_X3_isKept_36 f h
theorem mo_X3_isKept_33 {f : Nat} : ∀ (h : CH) (y0 : Int32) (r : (Int32 × CH)), m_X3_isKept_33 f h y0 = some r → le2 h r.2 := by
  intro h y0 r hm
  rw [m_X3_isKept_33] at hm
  by_cases c1 : y0 = 0
  · have hm := ifT hm c1
    exact (mo_X3_isKept_41  h (0 : Int32) _ hm)
  · have hm := ifF hm c1
    exact (mo_X3_isKept_36  h _ hm)
def m_X3_isKept_24 (f : Nat) (h : CH) (x0 : Nat) (y0 : Int32) : Option (Int32 × CH) := if ¬ y0 = 0 then
    m_X3_isKept_36 f h
    else bd (sR h (20 + 9)) fun a2 =>
    gd (isC h x0 0) <|
    bd2 (m_X3_isWord f h x0 a2) fun r5 h4 =>
    m_X3_isKept_33 f h4 r5
theorem mo_X3_isKept_24 {f : Nat} : ∀ (h : CH) (x0 : Nat) (y0 : Int32) (r : (Int32 × CH)), m_X3_isKept_24 f h x0 y0 = some r → le2 h r.2 := by
  intro h x0 y0 r hm
  rw [m_X3_isKept_24] at hm
  by_cases c1 : ¬ y0 = 0
  · have hm := ifT hm c1
    exact (mo_X3_isKept_36  h _ hm)
  · have hm := ifF hm c1
    obtain ⟨a2, ea2, hm⟩ := bdE hm
    obtain ⟨g3, hm⟩ := gdE hm
    obtain ⟨r5, h4, er5, hm⟩ := bd2E hm
    have lh4 := mo_X3_isWord er5
    exact (lh4.tr (mo_X3_isKept_33  h4 r5 _ hm))
def m_X3_isKept_15 (f : Nat) (h : CH) (x0 : Nat) (y0 : Int32) : Option (Int32 × CH) := if ¬ y0 = 0 then
    m_X3_isKept_36 f h
    else bd (sR h (20 + 8)) fun a2 =>
    gd (isC h x0 0) <|
    bd2 (m_X3_isWord f h x0 a2) fun r5 h4 =>
    m_X3_isKept_24 f h4 x0 r5
theorem mo_X3_isKept_15 {f : Nat} : ∀ (h : CH) (x0 : Nat) (y0 : Int32) (r : (Int32 × CH)), m_X3_isKept_15 f h x0 y0 = some r → le2 h r.2 := by
  intro h x0 y0 r hm
  rw [m_X3_isKept_15] at hm
  by_cases c1 : ¬ y0 = 0
  · have hm := ifT hm c1
    exact (mo_X3_isKept_36  h _ hm)
  · have hm := ifF hm c1
    obtain ⟨a2, ea2, hm⟩ := bdE hm
    obtain ⟨g3, hm⟩ := gdE hm
    obtain ⟨r5, h4, er5, hm⟩ := bd2E hm
    have lh4 := mo_X3_isWord er5
    exact (lh4.tr (mo_X3_isKept_24  h4 x0 r5 _ hm))
def m_X3_isKept_6 (f : Nat) (h : CH) (x0 : Nat) (y0 : Int32) : Option (Int32 × CH) := if ¬ y0 = 0 then
    m_X3_isKept_36 f h
    else bd (sR h (20 + 7)) fun a2 =>
    gd (isC h x0 0) <|
    bd2 (m_X3_isWord f h x0 a2) fun r5 h4 =>
    m_X3_isKept_15 f h4 x0 r5
theorem mo_X3_isKept_6 {f : Nat} : ∀ (h : CH) (x0 : Nat) (y0 : Int32) (r : (Int32 × CH)), m_X3_isKept_6 f h x0 y0 = some r → le2 h r.2 := by
  intro h x0 y0 r hm
  rw [m_X3_isKept_6] at hm
  by_cases c1 : ¬ y0 = 0
  · have hm := ifT hm c1
    exact (mo_X3_isKept_36  h _ hm)
  · have hm := ifF hm c1
    obtain ⟨a2, ea2, hm⟩ := bdE hm
    obtain ⟨g3, hm⟩ := gdE hm
    obtain ⟨r5, h4, er5, hm⟩ := bd2E hm
    have lh4 := mo_X3_isWord er5
    exact (lh4.tr (mo_X3_isKept_15  h4 x0 r5 _ hm))
def m_X3_isKept (f : Nat) (u : CH) (x0 : Nat) : Option (Int32 × CH) := bd (sR u (20 + 6)) fun a1 =>
    gd (isC u x0 0) <|
    bd2 (m_X3_isWord f u x0 a1) fun r4 h3 =>
    m_X3_isKept_6 f h3 x0 r4
theorem mo_X3_isKept {f : Nat} {u : CH} {x0 : Nat} {r0 : Int32} {u9 : CH} (hm : m_X3_isKept f u x0 = some (r0, u9)) : le2 u u9 := by
  rw [m_X3_isKept] at hm
  obtain ⟨a1, ea1, hm⟩ := bdE hm
  obtain ⟨g2, hm⟩ := gdE hm
  obtain ⟨r4, h3, er4, hm⟩ := bd2E hm
  have lh3 := mo_X3_isWord er4
  exact (lh3.tr (mo_X3_isKept_6  h3 x0 r4 _ hm))
abbrev rm_X3_isKept (mc ms : Nat) : Room := { frames := 5, cells := mc, slots := ms, locals := 108 }
theorem cw_X3_isKept {R : Room} {s : State} {args : Array Value} {own : String} {idx mc ms : Nat} (hts : ∀ w ∈ lw_all, w.before args s = true) (hl : Cond.methodLink own idx yX3_isKept ∈ lw_all) (hR : 5 + 1 ≤ R.frames ∧ 8 + (1 + 11) + 108 ≤ R.locals) : CallW R s args own RX3 idx yX3_isKept cX3_isKept 1 (Option.some Jvm.ClassFile.FieldType.boolean) (ws_ yX3_isKept cX3_isKept 1 (Option.some Jvm.ClassFile.FieldType.boolean)) (rm_X3_isKept mc ms) mc ms 0 := cwV 0 hts (lw_V hl q1751 qs61 q125 q1752) rfl rfl rfl (by decide +kernel) hR
set_option maxHeartbeats 4000000 in
set_option maxRecDepth 100000 in
theorem w_X3_isKept (l : Launch) {D : va_G} {dA : Nat → ClassId} {A : Nat → Prop} {f : Nat} {u u9 : CH} {r0 : Int32} {x0 : Nat} (hm : m_X3_isKept f u x0 = some (r0, u9)) : Met l yX3_isKept (ws_ yX3_isKept cX3_isKept 1 (Option.some Jvm.ClassFile.FieldType.boolean)) (rm_X3_isKept (u9.1 - u.1) (u9.2.1 - u.2.1)) (va_Pc [.ref x0] (CPre D dA A u)) (va_Qi (fun r u => r = r0 ∧ u = u9) (CPost D dA A) A) (u9.1 - u.1) (u9.2.1 - u.2.1) A := by
  refine Met.ofW (cc := cX3_isKept) (maxL := 1) (ret := (Option.some Jvm.ClassFile.FieldType.boolean)) (by decide) rfl ?_
  intro p e s m args below meth c s₁ B hml hv
  have hx := B.exec
  have hb := B.bytes
  have hr := B.returns
  have hts := atoms_spec (ws := (ws_ yX3_isKept cX3_isKept 1 (Option.some Jvm.ClassFile.FieldType.boolean))) B.pre
  have hts : ∀ w ∈ lw_all, w.before args s = true := fun w h => hts w (List.mem_cons_of_mem _ h)
  have hown : s.vm.findClass RX3 = some m.cls := findClass_of_methodNamed B.named
  have hlocks := B.notSynchronized
  obtain ⟨hav, hv⟩ := hv
  have C : CX p s m args c cX3_isKept RX3 D dA := ⟨hx, hb, hown, hts, hv.2⟩
  have hw : CW D dA A s u s.heap [] := hv.1
  have hs0 : s.heap.size = u.1 := hv.1.1
  generalize hQ : MQ below (va_Qi (fun r u => r = r0 ∧ u = u9) (CPost D dA A) A) args s (u9.1 - u.1) (u9.2.1 - u.2.1) A = QQ
  have hent := lg_entry_eq m [.ref x0] 1
  rw [← hav] at hent
  rw [hent]
  have hl := lv_entry ([.ref x0]) (n := 1) (Nat.le_of_ble_eq_true rfl)
  generalize (lg_sl ([.ref x0]) ++ List.replicate (1 - (lg_sl ([.ref x0])).length) Slot.unset).toArray = ls at hl ⊢
  have hl : lv_has ls 1 [(0, .ref x0)] := hl
  obtain ⟨cc, ecc⟩ : ∃ z : Nat, z = 0 := ⟨0, rfl⟩
  obtain ⟨ss, ess⟩ : ∃ z : Nat, z = 0 := ⟨0, rfl⟩
  have hcc : cc + u.1 = u.1 := by omega
  have hss : ss + u.2.1 = u.2.1 := by omega
  suffices hgo : W p l e (rm_X3_isKept (u9.1 - u.1) (u9.2.1 - u.2.1)) s m args below meth c s.heap [] cc ss QQ (F0 m 0 ls []) by rw [ecc, ess] at hgo; exact hgo
  have ⟨pu, qu, _, _⟩ := mo_X3_isKept hm
  have hB41 : ∀ (h : CH) (y0 : Int32) (cc ss : Nat) (H : Heap) (locs : List Loc) (ls : Array Slot), m_X3_isKept_41 f h y0 = some (r0, u9) → CW D dA A s h H locs → cc + u.1 = h.1 → ss + u.2.1 = h.2.1 → lv_has ls 1 [] → W p l e (rm_X3_isKept (u9.1 - u.1) (u9.2.1 - u.2.1)) s m args below meth c H locs cc ss QQ (F0 m 41 ls [.int y0]) := by
    intro h y0 cc ss H locs ls hm hw hcc hss hl
    have hmo := mo_X3_isKept_41  h y0 _ hm
    have sb_ : h.1 ≤ u9.1 := hmo.1
    have tb_ : h.2.1 ≤ u9.2.1 := hmo.2.1
    rw [m_X3_isKept_41] at hm
    obtain ⟨g1, hm⟩ := gdE hm
    obtain ⟨er, eh⟩ := retE hm
    have ec : cc = u9.1 - u.1 := by rw [← eh]; omega
    have es : ss = u9.2.1 - u.2.1 := by rw [← eh]; omega
    rw [ec, es, ← hQ]
    exact W.zret (v := y0) hx hb hr (zb_nar g1) (fun t ht hW => ⟨⟨y0, h, rfl, ⟨er, eh⟩, ⟨by rw [ht]; exact hw.1, by rw [ht]; exact hw.2.1⟩⟩, hw.2.2.1.F ht⟩) hw.2.2.1.2.2 dX3_isKept_41
  have hB36 : ∀ (h : CH) (cc ss : Nat) (H : Heap) (locs : List Loc) (ls : Array Slot), m_X3_isKept_36 f h = some (r0, u9) → CW D dA A s h H locs → cc + u.1 = h.1 → ss + u.2.1 = h.2.1 → lv_has ls 1 [] → W p l e (rm_X3_isKept (u9.1 - u.1) (u9.2.1 - u.2.1)) s m args below meth c H locs cc ss QQ (F0 m 36 ls []) := by
    intro h cc ss H locs ls hm hw hcc hss hl
    have hmo := mo_X3_isKept_36  h _ hm
    have sb_ : h.1 ≤ u9.1 := hmo.1
    have tb_ : h.2.1 ≤ u9.2.1 := hmo.2.1
    rw [m_X3_isKept_36] at hm
    refine lv_iconst (v := 1) hx hb dX3_isKept_36 (by decide) ?_
    refine lv_goto (tgt := 41) hx hb dX3_isKept_37 (by decide) ?_
    exact hB41 h (1 : Int32) _ _ _ _ _ hm hw (by omega) (by omega) (lv_sub hl [] rfl)
  have hB33 : ∀ (h : CH) (y0 : Int32) (cc ss : Nat) (H : Heap) (locs : List Loc) (ls : Array Slot), m_X3_isKept_33 f h y0 = some (r0, u9) → CW D dA A s h H locs → cc + u.1 = h.1 → ss + u.2.1 = h.2.1 → lv_has ls 1 [] → W p l e (rm_X3_isKept (u9.1 - u.1) (u9.2.1 - u.2.1)) s m args below meth c H locs cc ss QQ (F0 m 33 ls [.int y0]) := by
    intro h y0 cc ss H locs ls hm hw hcc hss hl
    have hmo := mo_X3_isKept_33  h y0 _ hm
    have sb_ : h.1 ≤ u9.1 := hmo.1
    have tb_ : h.2.1 ≤ u9.2.1 := hmo.2.1
    rw [m_X3_isKept_33] at hm
    refine lv_if_eq (tgt := 40) hx hb dX3_isKept_33 (by decide) (fun c1 => ?_) (fun c1 => ?_)
    · have hm := ifT hm c1
      refine lv_iconst (v := 0) hx hb dX3_isKept_40 (by decide) ?_
      exact hB41 h (0 : Int32) _ _ _ _ _ hm hw (by omega) (by omega) (lv_sub hl [] rfl)
    · have hm := ifF hm c1
      exact hB36 h _ _ _ _ _ hm hw (by omega) (by omega) (lv_sub hl [] rfl)
  have hB24 : ∀ (h : CH) (x0 : Nat) (y0 : Int32) (cc ss : Nat) (H : Heap) (locs : List Loc) (ls : Array Slot), m_X3_isKept_24 f h x0 y0 = some (r0, u9) → CW D dA A s h H locs → cc + u.1 = h.1 → ss + u.2.1 = h.2.1 → lv_has ls 1 [(0, .ref x0)] → W p l e (rm_X3_isKept (u9.1 - u.1) (u9.2.1 - u.2.1)) s m args below meth c H locs cc ss QQ (F0 m 24 ls [.int y0]) := by
    intro h x0 y0 cc ss H locs ls hm hw hcc hss hl
    have hmo := mo_X3_isKept_24  h x0 y0 _ hm
    have sb_ : h.1 ≤ u9.1 := hmo.1
    have tb_ : h.2.1 ≤ u9.2.1 := hmo.2.1
    rw [m_X3_isKept_24] at hm
    refine lv_if_ne (tgt := 36) hx hb dX3_isKept_24 (by decide) (fun c1 => ?_) (fun c1 => ?_)
    · have hm := ifT hm c1
      exact hB36 h _ _ _ _ _ hm hw (by omega) (by omega) (lv_sub hl [] rfl)
    · have hm := ifT' hm c1
      refine lv_aload_n hx hb dX3_isKept_27 rfl (lv_at hl 0 rfl) ?_
      obtain ⟨a2, ea2, hm⟩ := bdE hm
      refine cg_ldcs C hw (i := 9) ea2 rfl dX3_isKept_28 ?_
      obtain ⟨g3, hm⟩ := gdE hm
      obtain ⟨r5, h4, er5, hm⟩ := bd2E hm
      have lh4 := mo_X3_isWord er5
      have ph4 : h.1 ≤ h4.1 := lh4.1
      have qh4 : h.2.1 ≤ h4.2.1 := lh4.2.1
      have hmo := mo_X3_isKept_33   h4 r5 _ hm
      have sh4 : h4.1 ≤ u9.1 := hmo.1
      have th4 : h4.2.1 ≤ u9.2.1 := hmo.2.1
      refine cg_calli hw lh4 (va_runV (As := [.ref a2]) (rest := []) ⟨hx, hb, hml, hown, hts⟩ (w_X3_isWord l er5) (cw_X3_isWord hts q1713 ⟨Nat.le_of_ble_eq_true rfl, Nat.le_of_ble_eq_true rfl⟩) (cg_preV C hw g3 rfl _) rfl rfl hl.1 rfl (lv_room (Nat.le_of_ble_eq_true rfl)) dX3_isKept_30 ⟨show cc + (h4.1 - h.1) ≤ u9.1 - u.1 by omega, show ss + (h4.2.1 - h.2.1) ≤ u9.2.1 - u.2.1 by omega⟩) (fun H locs hw => ?_)
      exact hB33 h4 r5 _ _ _ _ _ hm hw (by omega) (by omega) (lv_sub hl [] rfl)
  have hB15 : ∀ (h : CH) (x0 : Nat) (y0 : Int32) (cc ss : Nat) (H : Heap) (locs : List Loc) (ls : Array Slot), m_X3_isKept_15 f h x0 y0 = some (r0, u9) → CW D dA A s h H locs → cc + u.1 = h.1 → ss + u.2.1 = h.2.1 → lv_has ls 1 [(0, .ref x0)] → W p l e (rm_X3_isKept (u9.1 - u.1) (u9.2.1 - u.2.1)) s m args below meth c H locs cc ss QQ (F0 m 15 ls [.int y0]) := by
    intro h x0 y0 cc ss H locs ls hm hw hcc hss hl
    have hmo := mo_X3_isKept_15  h x0 y0 _ hm
    have sb_ : h.1 ≤ u9.1 := hmo.1
    have tb_ : h.2.1 ≤ u9.2.1 := hmo.2.1
    rw [m_X3_isKept_15] at hm
    refine lv_if_ne (tgt := 36) hx hb dX3_isKept_15 (by decide) (fun c1 => ?_) (fun c1 => ?_)
    · have hm := ifT hm c1
      exact hB36 h _ _ _ _ _ hm hw (by omega) (by omega) (lv_sub hl [] rfl)
    · have hm := ifT' hm c1
      refine lv_aload_n hx hb dX3_isKept_18 rfl (lv_at hl 0 rfl) ?_
      obtain ⟨a2, ea2, hm⟩ := bdE hm
      refine cg_ldcs C hw (i := 8) ea2 rfl dX3_isKept_19 ?_
      obtain ⟨g3, hm⟩ := gdE hm
      obtain ⟨r5, h4, er5, hm⟩ := bd2E hm
      have lh4 := mo_X3_isWord er5
      have ph4 : h.1 ≤ h4.1 := lh4.1
      have qh4 : h.2.1 ≤ h4.2.1 := lh4.2.1
      have hmo := mo_X3_isKept_24   h4 x0 r5 _ hm
      have sh4 : h4.1 ≤ u9.1 := hmo.1
      have th4 : h4.2.1 ≤ u9.2.1 := hmo.2.1
      refine cg_calli hw lh4 (va_runV (As := [.ref a2]) (rest := []) ⟨hx, hb, hml, hown, hts⟩ (w_X3_isWord l er5) (cw_X3_isWord hts q1713 ⟨Nat.le_of_ble_eq_true rfl, Nat.le_of_ble_eq_true rfl⟩) (cg_preV C hw g3 rfl _) rfl rfl hl.1 rfl (lv_room (Nat.le_of_ble_eq_true rfl)) dX3_isKept_21 ⟨show cc + (h4.1 - h.1) ≤ u9.1 - u.1 by omega, show ss + (h4.2.1 - h.2.1) ≤ u9.2.1 - u.2.1 by omega⟩) (fun H locs hw => ?_)
      exact hB24 h4 x0 r5 _ _ _ _ _ hm hw (by omega) (by omega) (lv_sub hl [0] rfl)
  have hB6 : ∀ (h : CH) (x0 : Nat) (y0 : Int32) (cc ss : Nat) (H : Heap) (locs : List Loc) (ls : Array Slot), m_X3_isKept_6 f h x0 y0 = some (r0, u9) → CW D dA A s h H locs → cc + u.1 = h.1 → ss + u.2.1 = h.2.1 → lv_has ls 1 [(0, .ref x0)] → W p l e (rm_X3_isKept (u9.1 - u.1) (u9.2.1 - u.2.1)) s m args below meth c H locs cc ss QQ (F0 m 6 ls [.int y0]) := by
    intro h x0 y0 cc ss H locs ls hm hw hcc hss hl
    have hmo := mo_X3_isKept_6  h x0 y0 _ hm
    have sb_ : h.1 ≤ u9.1 := hmo.1
    have tb_ : h.2.1 ≤ u9.2.1 := hmo.2.1
    rw [m_X3_isKept_6] at hm
    refine lv_if_ne (tgt := 36) hx hb dX3_isKept_6 (by decide) (fun c1 => ?_) (fun c1 => ?_)
    · have hm := ifT hm c1
      exact hB36 h _ _ _ _ _ hm hw (by omega) (by omega) (lv_sub hl [] rfl)
    · have hm := ifT' hm c1
      refine lv_aload_n hx hb dX3_isKept_9 rfl (lv_at hl 0 rfl) ?_
      obtain ⟨a2, ea2, hm⟩ := bdE hm
      refine cg_ldcs C hw (i := 7) ea2 rfl dX3_isKept_10 ?_
      obtain ⟨g3, hm⟩ := gdE hm
      obtain ⟨r5, h4, er5, hm⟩ := bd2E hm
      have lh4 := mo_X3_isWord er5
      have ph4 : h.1 ≤ h4.1 := lh4.1
      have qh4 : h.2.1 ≤ h4.2.1 := lh4.2.1
      have hmo := mo_X3_isKept_15   h4 x0 r5 _ hm
      have sh4 : h4.1 ≤ u9.1 := hmo.1
      have th4 : h4.2.1 ≤ u9.2.1 := hmo.2.1
      refine cg_calli hw lh4 (va_runV (As := [.ref a2]) (rest := []) ⟨hx, hb, hml, hown, hts⟩ (w_X3_isWord l er5) (cw_X3_isWord hts q1713 ⟨Nat.le_of_ble_eq_true rfl, Nat.le_of_ble_eq_true rfl⟩) (cg_preV C hw g3 rfl _) rfl rfl hl.1 rfl (lv_room (Nat.le_of_ble_eq_true rfl)) dX3_isKept_12 ⟨show cc + (h4.1 - h.1) ≤ u9.1 - u.1 by omega, show ss + (h4.2.1 - h.2.1) ≤ u9.2.1 - u.2.1 by omega⟩) (fun H locs hw => ?_)
      exact hB15 h4 x0 r5 _ _ _ _ _ hm hw (by omega) (by omega) (lv_sub hl [0] rfl)
  rw [m_X3_isKept] at hm
  refine lv_aload_n hx hb dX3_isKept_0 rfl (lv_at hl 0 rfl) ?_
  obtain ⟨a1, ea1, hm⟩ := bdE hm
  refine cg_ldcs C hw (i := 6) ea1 rfl dX3_isKept_1 ?_
  obtain ⟨g2, hm⟩ := gdE hm
  obtain ⟨r4, h3, er4, hm⟩ := bd2E hm
  have lh3 := mo_X3_isWord er4
  have ph3 : u.1 ≤ h3.1 := lh3.1
  have qh3 : u.2.1 ≤ h3.2.1 := lh3.2.1
  have hmo := mo_X3_isKept_6   h3 x0 r4 _ hm
  have sh3 : h3.1 ≤ u9.1 := hmo.1
  have th3 : h3.2.1 ≤ u9.2.1 := hmo.2.1
  refine cg_calli hw lh3 (va_runV (As := [.ref a1]) (rest := []) ⟨hx, hb, hml, hown, hts⟩ (w_X3_isWord l er4) (cw_X3_isWord hts q1713 ⟨Nat.le_of_ble_eq_true rfl, Nat.le_of_ble_eq_true rfl⟩) (cg_preV C hw g2 rfl _) rfl rfl hl.1 rfl (lv_room (Nat.le_of_ble_eq_true rfl)) dX3_isKept_3 ⟨show cc + (h3.1 - u.1) ≤ u9.1 - u.1 by omega, show ss + (h3.2.1 - u.2.1) ≤ u9.2.1 - u.2.1 by omega⟩) (fun H locs hw => ?_)
  exact hB6 h3 x0 r4 _ _ _ _ _ hm hw (by omega) (by omega) (lv_sub hl [0] rfl)
def m_X3_readsName_132 (f : Nat) (h : CH) (y0 : Nat) (y1 : Int32) : Option CH := bd (tcv h y0 (fun z => m_X3_passes f z y1)) fun h1 =>
    some h1
theorem mo_X3_readsName_132 {f : Nat} : ∀ (h : CH) (y0 : Nat) (y1 : Int32) (r : CH), m_X3_readsName_132 f h y0 y1 = some r → le2 h r := by
  intro h y0 y1 r hm
  rw [m_X3_readsName_132] at hm
  obtain ⟨h1, eh1, hm⟩ := bdE hm
  have lh1 := tcv_le eh1
  cases hm
  exact (lh1.tr le2.rf)
def m_X3_readsName_127 (f : Nat) (h : CH) (y0 : Nat) : Option CH := m_X3_readsName_132 f h y0 (1 : Int32)
theorem mo_X3_readsName_127 {f : Nat} : ∀ (h : CH) (y0 : Nat) (r : CH), m_X3_readsName_127 f h y0 = some r → le2 h r := by
  intro h y0 r hm
  rw [m_X3_readsName_127] at hm
  exact (mo_X3_readsName_132  h y0 (1 : Int32) _ hm)
def m_X3_readsName_111 (f : Nat) (h : CH) (x0 : Nat) : Option CH := bd (oI h 0 15 x0) fun v1 =>
    if ¬ v1 = 0 then
    m_X3_readsName_127 f h x0
    else bd (oI h 0 13 x0) fun v3 =>
    if ¬ v3 = (1 : Int32) then
    m_X3_readsName_132 f h x0 (0 : Int32)
    else m_X3_readsName_127 f h x0
theorem mo_X3_readsName_111 {f : Nat} : ∀ (h : CH) (x0 : Nat) (r : CH), m_X3_readsName_111 f h x0 = some r → le2 h r := by
  intro h x0 r hm
  rw [m_X3_readsName_111] at hm
  obtain ⟨v1, ev1, hm⟩ := bdE hm
  by_cases c2 : ¬ v1 = 0
  · have hm := ifT hm c2
    exact (mo_X3_readsName_127  h x0 _ hm)
  · have hm := ifF hm c2
    obtain ⟨v3, ev3, hm⟩ := bdE hm
    by_cases c4 : ¬ v3 = (1 : Int32)
    · have hm := ifT hm c4
      exact (mo_X3_readsName_132  h x0 (0 : Int32) _ hm)
    · have hm := ifF hm c4
      exact (mo_X3_readsName_127  h x0 _ hm)
def m_X3_readsName_69 (f : Nat) (h : CH) (x0 : Nat) : Option CH := bd (oI h 0 15 x0) fun v1 =>
    if ¬ v1 = 0 then
    m_X3_readsName_111 f h x0
    else bd (oR h 0 16 x0) fun a3 =>
    bd (oR h 0 0 x0) fun a4 =>
    bd (aI h 0 a4 (0 : Int32)) fun v5 =>
    bd (oI h 0 12 x0) fun v6 =>
    bd (uI h 0 a3 v5 v6) fun h7 =>
    bd (oR h7 0 17 x0) fun a8 =>
    bd (oR h7 0 0 x0) fun a9 =>
    bd (aI h7 0 a9 (0 : Int32)) fun v10 =>
    bd (oI h7 0 11 x0) fun v11 =>
    bd (oI h7 0 12 x0) fun v12 =>
    bd (uI h7 0 a8 v10 (v11 - v12)) fun h13 =>
    m_X3_readsName_111 f h13 x0
theorem mo_X3_readsName_69 {f : Nat} : ∀ (h : CH) (x0 : Nat) (r : CH), m_X3_readsName_69 f h x0 = some r → le2 h r := by
  intro h x0 r hm
  rw [m_X3_readsName_69] at hm
  obtain ⟨v1, ev1, hm⟩ := bdE hm
  by_cases c2 : ¬ v1 = 0
  · have hm := ifT hm c2
    exact (mo_X3_readsName_111  h x0 _ hm)
  · have hm := ifF hm c2
    obtain ⟨a3, ea3, hm⟩ := bdE hm
    obtain ⟨a4, ea4, hm⟩ := bdE hm
    obtain ⟨v5, ev5, hm⟩ := bdE hm
    obtain ⟨v6, ev6, hm⟩ := bdE hm
    obtain ⟨h7, eh7, hm⟩ := bdE hm
    have lh7 := uI_le eh7
    obtain ⟨a8, ea8, hm⟩ := bdE hm
    obtain ⟨a9, ea9, hm⟩ := bdE hm
    obtain ⟨v10, ev10, hm⟩ := bdE hm
    obtain ⟨v11, ev11, hm⟩ := bdE hm
    obtain ⟨v12, ev12, hm⟩ := bdE hm
    obtain ⟨h13, eh13, hm⟩ := bdE hm
    have lh13 := uI_le eh13
    exact (lh7.tr (lh13.tr (mo_X3_readsName_111  h13 x0 _ hm)))
def m_X3_readsName_64 (f : Nat) (h : CH) (x0 : Nat) : Option CH := bd (tcv h x0 (fun z => m_X3_faults f z (2 : Int32))) fun h1 =>
    m_X3_readsName_69 f h1 x0
theorem mo_X3_readsName_64 {f : Nat} : ∀ (h : CH) (x0 : Nat) (r : CH), m_X3_readsName_64 f h x0 = some r → le2 h r := by
  intro h x0 r hm
  rw [m_X3_readsName_64] at hm
  obtain ⟨h1, eh1, hm⟩ := bdE hm
  have lh1 := tcv_le eh1
  exact (lh1.tr (mo_X3_readsName_69  h1 x0 _ hm))
def m_X3_readsName_53 (f : Nat) (h : CH) (x0 : Nat) (y0 : Int32) : Option CH := if ¬ y0 = 0 then
    m_X3_readsName_64 f h x0
    else bd2 (tcr h x0 (fun z => m_X3_named f z)) fun r3 h2 =>
    if r3 = (-1 : Int32) then
    m_X3_readsName_69 f h2 x0
    else m_X3_readsName_64 f h2 x0
theorem mo_X3_readsName_53 {f : Nat} : ∀ (h : CH) (x0 : Nat) (y0 : Int32) (r : CH), m_X3_readsName_53 f h x0 y0 = some r → le2 h r := by
  intro h x0 y0 r hm
  rw [m_X3_readsName_53] at hm
  by_cases c1 : ¬ y0 = 0
  · have hm := ifT hm c1
    exact (mo_X3_readsName_64  h x0 _ hm)
  · have hm := ifF hm c1
    obtain ⟨r3, h2, er3, hm⟩ := bd2E hm
    have lh2 := tcr_le er3
    by_cases c4 : r3 = (-1 : Int32)
    · have hm := ifT hm c4
      exact (lh2.tr (mo_X3_readsName_69  h2 x0 _ hm))
    · have hm := ifF hm c4
      exact (lh2.tr (mo_X3_readsName_64  h2 x0 _ hm))
def m_X3_readsName_15 (f : Nat) (h : CH) (x0 : Nat) : Option CH := bd (tcv h x0 (fun z => m_X3_passes f z (1 : Int32))) fun h1 =>
    bd (oI h1 0 15 x0) fun v2 =>
    if ¬ v2 = 0 then
    m_X3_readsName_69 f h1 x0
    else bd (oI h1 0 13 x0) fun v4 =>
    if ¬ v4 = (1 : Int32) then
    m_X3_readsName_69 f h1 x0
    else bd (oI h1 0 11 x0) fun v6 =>
    bd (oI h1 0 12 x0) fun v7 =>
    if (6 : Int32) < (v6 - v7) then
    m_X3_readsName_64 f h1 x0
    else gd (isC h1 x0 0) <|
    bd2 (m_X3_isKept f h1 x0) fun r11 h10 =>
    m_X3_readsName_53 f h10 x0 r11
theorem mo_X3_readsName_15 {f : Nat} : ∀ (h : CH) (x0 : Nat) (r : CH), m_X3_readsName_15 f h x0 = some r → le2 h r := by
  intro h x0 r hm
  rw [m_X3_readsName_15] at hm
  obtain ⟨h1, eh1, hm⟩ := bdE hm
  have lh1 := tcv_le eh1
  obtain ⟨v2, ev2, hm⟩ := bdE hm
  by_cases c3 : ¬ v2 = 0
  · have hm := ifT hm c3
    exact (lh1.tr (mo_X3_readsName_69  h1 x0 _ hm))
  · have hm := ifF hm c3
    obtain ⟨v4, ev4, hm⟩ := bdE hm
    by_cases c5 : ¬ v4 = (1 : Int32)
    · have hm := ifT hm c5
      exact (lh1.tr (mo_X3_readsName_69  h1 x0 _ hm))
    · have hm := ifF hm c5
      obtain ⟨v6, ev6, hm⟩ := bdE hm
      obtain ⟨v7, ev7, hm⟩ := bdE hm
      by_cases c8 : (6 : Int32) < (v6 - v7)
      · have hm := ifT hm c8
        exact (lh1.tr (mo_X3_readsName_64  h1 x0 _ hm))
      · have hm := ifF hm c8
        obtain ⟨g9, hm⟩ := gdE hm
        obtain ⟨r11, h10, er11, hm⟩ := bd2E hm
        have lh10 := mo_X3_isKept er11
        exact (lh1.tr (lh10.tr (mo_X3_readsName_53  h10 x0 r11 _ hm)))
def m_X3_readsName (f : Nat) (u : CH) (x0 : Nat) : Option CH := bd (oR u 0 0 x0) fun a1 =>
    bd (aI u 0 a1 (0 : Int32)) fun v2 =>
    if ¬ v2 = (5 : Int32) then
    m_X3_readsName_15 f u x0
    else bd (tcv u x0 (fun z => m_X3_faults f z (3 : Int32))) fun h4 =>
    m_X3_readsName_15 f h4 x0
theorem mo_X3_readsName {f : Nat} {u : CH} {x0 : Nat} {u9 : CH} (hm : m_X3_readsName f u x0 = some u9) : le2 u u9 := by
  rw [m_X3_readsName] at hm
  obtain ⟨a1, ea1, hm⟩ := bdE hm
  obtain ⟨v2, ev2, hm⟩ := bdE hm
  by_cases c3 : ¬ v2 = (5 : Int32)
  · have hm := ifT hm c3
    exact (mo_X3_readsName_15  u x0 _ hm)
  · have hm := ifF hm c3
    obtain ⟨h4, eh4, hm⟩ := bdE hm
    have lh4 := tcv_le eh4
    exact (lh4.tr (mo_X3_readsName_15  h4 x0 _ hm))
abbrev rm_X3_readsName (mc ms : Nat) : Room := { frames := 6, cells := mc, slots := ms, locals := 128 }
theorem cw_X3_readsName {R : Room} {s : State} {args : Array Value} {own : String} {idx mc ms : Nat} (hts : ∀ w ∈ lw_all, w.before args s = true) (hl : Cond.methodLink own idx yX3_readsName ∈ lw_all) (hR : 6 + 1 ≤ R.frames ∧ 8 + (1 + 11) + 128 ≤ R.locals) : CallW R s args own RX3 idx yX3_readsName cX3_readsName 1 (Option.none : Option Jvm.ClassFile.FieldType) (ws_ yX3_readsName cX3_readsName 1 (Option.none : Option Jvm.ClassFile.FieldType)) (rm_X3_readsName mc ms) mc ms 0 := cwV 0 hts (lw_V hl q1739 qs58 q125 q1740) rfl rfl rfl (by decide +kernel) hR
set_option maxHeartbeats 4000000 in
set_option maxRecDepth 100000 in
theorem w_X3_readsName (l : Launch) {D : va_G} {dA : Nat → ClassId} {A : Nat → Prop} {f : Nat} {u u9 : CH} {x0 : Nat} (hm : m_X3_readsName f u x0 = some u9) : Met l yX3_readsName (ws_ yX3_readsName cX3_readsName 1 (Option.none : Option Jvm.ClassFile.FieldType)) (rm_X3_readsName (u9.1 - u.1) (u9.2.1 - u.2.1)) (va_Pc [.ref x0] (CPre D dA A u)) (va_Qv (fun u => u = u9) (CPost D dA A) A) (u9.1 - u.1) (u9.2.1 - u.2.1) A := by
  refine Met.ofW (cc := cX3_readsName) (maxL := 1) (ret := (Option.none : Option Jvm.ClassFile.FieldType)) (by decide) rfl ?_
  intro p e s m args below meth c s₁ B hml hv
  have hx := B.exec
  have hb := B.bytes
  have hr := B.returns
  have hts := atoms_spec (ws := (ws_ yX3_readsName cX3_readsName 1 (Option.none : Option Jvm.ClassFile.FieldType))) B.pre
  have hts : ∀ w ∈ lw_all, w.before args s = true := fun w h => hts w (List.mem_cons_of_mem _ h)
  have hown : s.vm.findClass RX3 = some m.cls := findClass_of_methodNamed B.named
  have hlocks := B.notSynchronized
  obtain ⟨hav, hv⟩ := hv
  have C : CX p s m args c cX3_readsName RX3 D dA := ⟨hx, hb, hown, hts, hv.2⟩
  have hw : CW D dA A s u s.heap [] := hv.1
  have hs0 : s.heap.size = u.1 := hv.1.1
  generalize hQ : MQ below (va_Qv (fun u => u = u9) (CPost D dA A) A) args s (u9.1 - u.1) (u9.2.1 - u.2.1) A = QQ
  have hent := lg_entry_eq m [.ref x0] 1
  rw [← hav] at hent
  rw [hent]
  have hl := lv_entry ([.ref x0]) (n := 1) (Nat.le_of_ble_eq_true rfl)
  generalize (lg_sl ([.ref x0]) ++ List.replicate (1 - (lg_sl ([.ref x0])).length) Slot.unset).toArray = ls at hl ⊢
  have hl : lv_has ls 1 [(0, .ref x0)] := hl
  obtain ⟨cc, ecc⟩ : ∃ z : Nat, z = 0 := ⟨0, rfl⟩
  obtain ⟨ss, ess⟩ : ∃ z : Nat, z = 0 := ⟨0, rfl⟩
  have hcc : cc + u.1 = u.1 := by omega
  have hss : ss + u.2.1 = u.2.1 := by omega
  suffices hgo : W p l e (rm_X3_readsName (u9.1 - u.1) (u9.2.1 - u.2.1)) s m args below meth c s.heap [] cc ss QQ (F0 m 0 ls []) by rw [ecc, ess] at hgo; exact hgo
  have ⟨pu, qu, _, _⟩ := mo_X3_readsName hm
  have hB132 : ∀ (h : CH) (y0 : Nat) (y1 : Int32) (cc ss : Nat) (H : Heap) (locs : List Loc) (ls : Array Slot), m_X3_readsName_132 f h y0 y1 = some u9 → CW D dA A s h H locs → cc + u.1 = h.1 → ss + u.2.1 = h.2.1 → lv_has ls 1 [] → W p l e (rm_X3_readsName (u9.1 - u.1) (u9.2.1 - u.2.1)) s m args below meth c H locs cc ss QQ (F0 m 132 ls [.int y1, .ref y0]) := by
    intro h y0 y1 cc ss H locs ls hm hw hcc hss hl
    have hmo := mo_X3_readsName_132  h y0 y1 _ hm
    have sb_ : h.1 ≤ u9.1 := hmo.1
    have tb_ : h.2.1 ≤ u9.2.1 := hmo.2.1
    rw [m_X3_readsName_132] at hm
    obtain ⟨h1, eh1, hm⟩ := bdE hm
    refine cg_tcv C hw eh1 (show cc + s.heap.size = h.1 by rw [hs0]; omega) (fun _ hk hm9 => va_runV (As := [.int y1]) (rest := []) ⟨hx, hb, hml, hown, hts⟩ (w_X3_passes l hm9) (cw_X3_passes hts q1745 ⟨Nat.le_of_ble_eq_true rfl, Nat.le_of_ble_eq_true rfl⟩) (tb_pre C hw hk _) rfl rfl hl.1 rfl (lv_room (Nat.le_of_ble_eq_true rfl)) dX3_readsName_132 ⟨show cc + 0 ≤ u9.1 - u.1 by omega, show ss + 0 ≤ u9.2.1 - u.2.1 by omega⟩) (fun H locs hw => ?_)
    have zh1 := tcv_sz eh1
    have eh := ret1 hm
    have ec : cc = u9.1 - u.1 := by rw [← eh]; omega
    have es : ss = u9.2.1 - u.2.1 := by rw [← eh]; omega
    rw [ec, es, ← hQ]
    exact W.vret hx hb hr (fun t ht hW => ⟨⟨h1, rfl, eh, ⟨by rw [ht]; exact hw.1, by rw [ht]; exact hw.2.1⟩⟩, hw.2.2.1.F ht⟩) hw.2.2.1.2.2 dX3_readsName_135
  have hB127 : ∀ (h : CH) (y0 : Nat) (cc ss : Nat) (H : Heap) (locs : List Loc) (ls : Array Slot), m_X3_readsName_127 f h y0 = some u9 → CW D dA A s h H locs → cc + u.1 = h.1 → ss + u.2.1 = h.2.1 → lv_has ls 1 [] → W p l e (rm_X3_readsName (u9.1 - u.1) (u9.2.1 - u.2.1)) s m args below meth c H locs cc ss QQ (F0 m 127 ls [.ref y0]) := by
    intro h y0 cc ss H locs ls hm hw hcc hss hl
    have hmo := mo_X3_readsName_127  h y0 _ hm
    have sb_ : h.1 ≤ u9.1 := hmo.1
    have tb_ : h.2.1 ≤ u9.2.1 := hmo.2.1
    rw [m_X3_readsName_127] at hm
    refine lv_iconst (v := 1) hx hb dX3_readsName_127 (by decide) ?_
    refine lv_goto (tgt := 132) hx hb dX3_readsName_128 (by decide) ?_
    exact hB132 h y0 (1 : Int32) _ _ _ _ _ hm hw (by omega) (by omega) (lv_sub hl [] rfl)
  have hB111 : ∀ (h : CH) (x0 : Nat) (cc ss : Nat) (H : Heap) (locs : List Loc) (ls : Array Slot), m_X3_readsName_111 f h x0 = some u9 → CW D dA A s h H locs → cc + u.1 = h.1 → ss + u.2.1 = h.2.1 → lv_has ls 1 [(0, .ref x0)] → W p l e (rm_X3_readsName (u9.1 - u.1) (u9.2.1 - u.2.1)) s m args below meth c H locs cc ss QQ (F0 m 111 ls []) := by
    intro h x0 cc ss H locs ls hm hw hcc hss hl
    have hmo := mo_X3_readsName_111  h x0 _ hm
    have sb_ : h.1 ≤ u9.1 := hmo.1
    have tb_ : h.2.1 ≤ u9.2.1 := hmo.2.1
    rw [m_X3_readsName_111] at hm
    refine lv_aload_n hx hb dX3_readsName_111 rfl (lv_at hl 0 rfl) ?_
    refine lv_aload_n hx hb dX3_readsName_112 rfl (lv_at hl 0 rfl) ?_
    obtain ⟨v1, ev1, hm⟩ := bdE hm
    refine cg_get C hw (oI_E ev1) rfl in_X3 (by decide) q1581 dX3_readsName_113 ?_
    refine lv_if_ne (tgt := 127) hx hb dX3_readsName_116 (by decide) (fun c2 => ?_) (fun c2 => ?_)
    · have hm := ifT hm c2
      exact hB127 h x0 _ _ _ _ _ hm hw (by omega) (by omega) (lv_sub hl [] rfl)
    · have hm := ifT' hm c2
      refine lv_aload_n hx hb dX3_readsName_119 rfl (lv_at hl 0 rfl) ?_
      obtain ⟨v3, ev3, hm⟩ := bdE hm
      refine cg_get C hw (oI_E ev3) rfl in_X3 (by decide) q1579 dX3_readsName_120 ?_
      refine lv_iconst (v := 1) hx hb dX3_readsName_123 (by decide) ?_
      refine lv_icmp_ne (tgt := 131) hx hb dX3_readsName_124 (by decide) (fun c4 => ?_) (fun c4 => ?_)
      · have hm := ifT hm c4
        refine lv_iconst (v := 0) hx hb dX3_readsName_131 (by decide) ?_
        exact hB132 h x0 (0 : Int32) _ _ _ _ _ hm hw (by omega) (by omega) (lv_sub hl [] rfl)
      · have hm := ifT' hm c4
        exact hB127 h x0 _ _ _ _ _ hm hw (by omega) (by omega) (lv_sub hl [] rfl)
  have hB69 : ∀ (h : CH) (x0 : Nat) (cc ss : Nat) (H : Heap) (locs : List Loc) (ls : Array Slot), m_X3_readsName_69 f h x0 = some u9 → CW D dA A s h H locs → cc + u.1 = h.1 → ss + u.2.1 = h.2.1 → lv_has ls 1 [(0, .ref x0)] → W p l e (rm_X3_readsName (u9.1 - u.1) (u9.2.1 - u.2.1)) s m args below meth c H locs cc ss QQ (F0 m 69 ls []) := by
    intro h x0 cc ss H locs ls hm hw hcc hss hl
    have hmo := mo_X3_readsName_69  h x0 _ hm
    have sb_ : h.1 ≤ u9.1 := hmo.1
    have tb_ : h.2.1 ≤ u9.2.1 := hmo.2.1
    rw [m_X3_readsName_69] at hm
    refine lv_aload_n hx hb dX3_readsName_69 rfl (lv_at hl 0 rfl) ?_
    obtain ⟨v1, ev1, hm⟩ := bdE hm
    refine cg_get C hw (oI_E ev1) rfl in_X3 (by decide) q1581 dX3_readsName_70 ?_
    refine lv_if_ne (tgt := 111) hx hb dX3_readsName_73 (by decide) (fun c2 => ?_) (fun c2 => ?_)
    · have hm := ifT hm c2
      exact hB111 h x0 _ _ _ _ _ hm hw (by omega) (by omega) (lv_sub hl [0] rfl)
    · have hm := ifT' hm c2
      refine lv_aload_n hx hb dX3_readsName_76 rfl (lv_at hl 0 rfl) ?_
      obtain ⟨a3, ea3, hm⟩ := bdE hm
      refine cg_get C hw (oR_E ea3) rfl in_X3 (by decide) q1582 dX3_readsName_77 ?_
      refine lv_aload_n hx hb dX3_readsName_80 rfl (lv_at hl 0 rfl) ?_
      obtain ⟨a4, ea4, hm⟩ := bdE hm
      refine cg_get C hw (oR_E ea4) rfl in_X3 (by decide) q1566 dX3_readsName_81 ?_
      refine lv_iconst (v := 0) hx hb dX3_readsName_84 (by decide) ?_
      obtain ⟨v5, ev5, hm⟩ := bdE hm
      refine cg_iald C hw ev5 dX3_readsName_85 ?_
      refine lv_aload_n hx hb dX3_readsName_86 rfl (lv_at hl 0 rfl) ?_
      obtain ⟨v6, ev6, hm⟩ := bdE hm
      refine cg_get C hw (oI_E ev6) rfl in_X3 (by decide) q1578 dX3_readsName_87 ?_
      obtain ⟨h7, eh7, hm⟩ := bdE hm
      refine cg_iast C hw eh7 dX3_readsName_90 (fun H locs hw => ?_)
      have zh7 := uI_sz eh7
      refine lv_aload_n hx hb dX3_readsName_91 rfl (lv_at hl 0 rfl) ?_
      obtain ⟨a8, ea8, hm⟩ := bdE hm
      refine cg_get C hw (oR_E ea8) rfl in_X3 (by decide) q1583 dX3_readsName_92 ?_
      refine lv_aload_n hx hb dX3_readsName_95 rfl (lv_at hl 0 rfl) ?_
      obtain ⟨a9, ea9, hm⟩ := bdE hm
      refine cg_get C hw (oR_E ea9) rfl in_X3 (by decide) q1566 dX3_readsName_96 ?_
      refine lv_iconst (v := 0) hx hb dX3_readsName_99 (by decide) ?_
      obtain ⟨v10, ev10, hm⟩ := bdE hm
      refine cg_iald C hw ev10 dX3_readsName_100 ?_
      refine lv_aload_n hx hb dX3_readsName_101 rfl (lv_at hl 0 rfl) ?_
      obtain ⟨v11, ev11, hm⟩ := bdE hm
      refine cg_get C hw (oI_E ev11) rfl in_X3 (by decide) q1577 dX3_readsName_102 ?_
      refine lv_aload_n hx hb dX3_readsName_105 rfl (lv_at hl 0 rfl) ?_
      obtain ⟨v12, ev12, hm⟩ := bdE hm
      refine cg_get C hw (oI_E ev12) rfl in_X3 (by decide) q1578 dX3_readsName_106 ?_
      refine lv_isub hx hb dX3_readsName_109 ?_
      obtain ⟨h13, eh13, hm⟩ := bdE hm
      refine cg_iast C hw eh13 dX3_readsName_110 (fun H locs hw => ?_)
      have zh13 := uI_sz eh13
      exact hB111 h13 x0 _ _ _ _ _ hm hw (by omega) (by omega) (lv_sub hl [0] rfl)
  have hB64 : ∀ (h : CH) (x0 : Nat) (cc ss : Nat) (H : Heap) (locs : List Loc) (ls : Array Slot), m_X3_readsName_64 f h x0 = some u9 → CW D dA A s h H locs → cc + u.1 = h.1 → ss + u.2.1 = h.2.1 → lv_has ls 1 [(0, .ref x0)] → W p l e (rm_X3_readsName (u9.1 - u.1) (u9.2.1 - u.2.1)) s m args below meth c H locs cc ss QQ (F0 m 64 ls []) := by
    intro h x0 cc ss H locs ls hm hw hcc hss hl
    have hmo := mo_X3_readsName_64  h x0 _ hm
    have sb_ : h.1 ≤ u9.1 := hmo.1
    have tb_ : h.2.1 ≤ u9.2.1 := hmo.2.1
    rw [m_X3_readsName_64] at hm
    refine lv_aload_n hx hb dX3_readsName_64 rfl (lv_at hl 0 rfl) ?_
    refine lv_iconst (v := 2) hx hb dX3_readsName_65 (by decide) ?_
    obtain ⟨h1, eh1, hm⟩ := bdE hm
    refine cg_tcv C hw eh1 (show cc + s.heap.size = h.1 by rw [hs0]; omega) (fun _ hk hm9 => va_runV (As := [.int (2 : Int32)]) (rest := []) ⟨hx, hb, hml, hown, hts⟩ (w_X3_faults l hm9) (cw_X3_faults hts q1741 ⟨Nat.le_of_ble_eq_true rfl, Nat.le_of_ble_eq_true rfl⟩) (tb_pre C hw hk _) rfl rfl hl.1 rfl (lv_room (Nat.le_of_ble_eq_true rfl)) dX3_readsName_66 ⟨show cc + 0 ≤ u9.1 - u.1 by omega, show ss + 0 ≤ u9.2.1 - u.2.1 by omega⟩) (fun H locs hw => ?_)
    have zh1 := tcv_sz eh1
    exact hB69 h1 x0 _ _ _ _ _ hm hw (by omega) (by omega) (lv_sub hl [0] rfl)
  have hB53 : ∀ (h : CH) (x0 : Nat) (y0 : Int32) (cc ss : Nat) (H : Heap) (locs : List Loc) (ls : Array Slot), m_X3_readsName_53 f h x0 y0 = some u9 → CW D dA A s h H locs → cc + u.1 = h.1 → ss + u.2.1 = h.2.1 → lv_has ls 1 [(0, .ref x0)] → W p l e (rm_X3_readsName (u9.1 - u.1) (u9.2.1 - u.2.1)) s m args below meth c H locs cc ss QQ (F0 m 53 ls [.int y0]) := by
    intro h x0 y0 cc ss H locs ls hm hw hcc hss hl
    have hmo := mo_X3_readsName_53  h x0 y0 _ hm
    have sb_ : h.1 ≤ u9.1 := hmo.1
    have tb_ : h.2.1 ≤ u9.2.1 := hmo.2.1
    rw [m_X3_readsName_53] at hm
    refine lv_if_ne (tgt := 64) hx hb dX3_readsName_53 (by decide) (fun c1 => ?_) (fun c1 => ?_)
    · have hm := ifT hm c1
      exact hB64 h x0 _ _ _ _ _ hm hw (by omega) (by omega) (lv_sub hl [0] rfl)
    · have hm := ifT' hm c1
      refine lv_aload_n hx hb dX3_readsName_56 rfl (lv_at hl 0 rfl) ?_
      obtain ⟨r3, h2, er3, hm⟩ := bd2E hm
      refine cg_tci C hw er3 (show cc + s.heap.size = h.1 by rw [hs0]; omega) (fun _ hk hm9 => va_runV (As := []) (rest := []) ⟨hx, hb, hml, hown, hts⟩ (w_X3_named l hm9) (cw_X3_named hts q1756 ⟨Nat.le_of_ble_eq_true rfl, Nat.le_of_ble_eq_true rfl⟩) (tb_pre C hw hk _) rfl rfl hl.1 rfl (lv_room (Nat.le_of_ble_eq_true rfl)) dX3_readsName_57 ⟨show cc + 0 ≤ u9.1 - u.1 by omega, show ss + 0 ≤ u9.2.1 - u.2.1 by omega⟩) (fun H locs hw => ?_)
      have zh2 := tcr_sz er3
      refine lv_iconst (v := -1) hx hb dX3_readsName_60 (by decide) ?_
      refine lv_icmp_eq (tgt := 69) hx hb dX3_readsName_61 (by decide) (fun c4 => ?_) (fun c4 => ?_)
      · have hm := ifT hm c4
        exact hB69 h2 x0 _ _ _ _ _ hm hw (by omega) (by omega) (lv_sub hl [0] rfl)
      · have hm := ifF hm c4
        exact hB64 h2 x0 _ _ _ _ _ hm hw (by omega) (by omega) (lv_sub hl [0] rfl)
  have hB15 : ∀ (h : CH) (x0 : Nat) (cc ss : Nat) (H : Heap) (locs : List Loc) (ls : Array Slot), m_X3_readsName_15 f h x0 = some u9 → CW D dA A s h H locs → cc + u.1 = h.1 → ss + u.2.1 = h.2.1 → lv_has ls 1 [(0, .ref x0)] → W p l e (rm_X3_readsName (u9.1 - u.1) (u9.2.1 - u.2.1)) s m args below meth c H locs cc ss QQ (F0 m 15 ls []) := by
    intro h x0 cc ss H locs ls hm hw hcc hss hl
    have hmo := mo_X3_readsName_15  h x0 _ hm
    have sb_ : h.1 ≤ u9.1 := hmo.1
    have tb_ : h.2.1 ≤ u9.2.1 := hmo.2.1
    rw [m_X3_readsName_15] at hm
    refine lv_aload_n hx hb dX3_readsName_15 rfl (lv_at hl 0 rfl) ?_
    refine lv_iconst (v := 1) hx hb dX3_readsName_16 (by decide) ?_
    obtain ⟨h1, eh1, hm⟩ := bdE hm
    refine cg_tcv C hw eh1 (show cc + s.heap.size = h.1 by rw [hs0]; omega) (fun _ hk hm9 => va_runV (As := [.int (1 : Int32)]) (rest := []) ⟨hx, hb, hml, hown, hts⟩ (w_X3_passes l hm9) (cw_X3_passes hts q1745 ⟨Nat.le_of_ble_eq_true rfl, Nat.le_of_ble_eq_true rfl⟩) (tb_pre C hw hk _) rfl rfl hl.1 rfl (lv_room (Nat.le_of_ble_eq_true rfl)) dX3_readsName_17 ⟨show cc + 0 ≤ u9.1 - u.1 by omega, show ss + 0 ≤ u9.2.1 - u.2.1 by omega⟩) (fun H locs hw => ?_)
    have zh1 := tcv_sz eh1
    refine lv_aload_n hx hb dX3_readsName_20 rfl (lv_at hl 0 rfl) ?_
    obtain ⟨v2, ev2, hm⟩ := bdE hm
    refine cg_get C hw (oI_E ev2) rfl in_X3 (by decide) q1581 dX3_readsName_21 ?_
    refine lv_if_ne (tgt := 69) hx hb dX3_readsName_24 (by decide) (fun c3 => ?_) (fun c3 => ?_)
    · have hm := ifT hm c3
      exact hB69 h1 x0 _ _ _ _ _ hm hw (by omega) (by omega) (lv_sub hl [0] rfl)
    · have hm := ifT' hm c3
      refine lv_aload_n hx hb dX3_readsName_27 rfl (lv_at hl 0 rfl) ?_
      obtain ⟨v4, ev4, hm⟩ := bdE hm
      refine cg_get C hw (oI_E ev4) rfl in_X3 (by decide) q1579 dX3_readsName_28 ?_
      refine lv_iconst (v := 1) hx hb dX3_readsName_31 (by decide) ?_
      refine lv_icmp_ne (tgt := 69) hx hb dX3_readsName_32 (by decide) (fun c5 => ?_) (fun c5 => ?_)
      · have hm := ifT hm c5
        exact hB69 h1 x0 _ _ _ _ _ hm hw (by omega) (by omega) (lv_sub hl [0] rfl)
      · have hm := ifT' hm c5
        refine lv_aload_n hx hb dX3_readsName_35 rfl (lv_at hl 0 rfl) ?_
        obtain ⟨v6, ev6, hm⟩ := bdE hm
        refine cg_get C hw (oI_E ev6) rfl in_X3 (by decide) q1577 dX3_readsName_36 ?_
        refine lv_aload_n hx hb dX3_readsName_39 rfl (lv_at hl 0 rfl) ?_
        obtain ⟨v7, ev7, hm⟩ := bdE hm
        refine cg_get C hw (oI_E ev7) rfl in_X3 (by decide) q1578 dX3_readsName_40 ?_
        refine lv_isub hx hb dX3_readsName_43 ?_
        refine lv_bipush (v := 6) hx hb dX3_readsName_44 (by decide) ?_
        refine lv_icmp_gt (tgt := 64) hx hb dX3_readsName_46 (by decide) (fun c8 => ?_) (fun c8 => ?_)
        · have hm := ifT hm c8
          exact hB64 h1 x0 _ _ _ _ _ hm hw (by omega) (by omega) (lv_sub hl [0] rfl)
        · have hm := ifF hm c8
          refine lv_aload_n hx hb dX3_readsName_49 rfl (lv_at hl 0 rfl) ?_
          obtain ⟨g9, hm⟩ := gdE hm
          obtain ⟨r11, h10, er11, hm⟩ := bd2E hm
          have lh10 := mo_X3_isKept er11
          have ph10 : h1.1 ≤ h10.1 := lh10.1
          have qh10 : h1.2.1 ≤ h10.2.1 := lh10.2.1
          have hmo := mo_X3_readsName_53   h10 x0 r11 _ hm
          have sh10 : h10.1 ≤ u9.1 := hmo.1
          have th10 : h10.2.1 ≤ u9.2.1 := hmo.2.1
          refine cg_calli hw lh10 (va_runV (As := []) (rest := []) ⟨hx, hb, hml, hown, hts⟩ (w_X3_isKept l er11) (cw_X3_isKept hts q1749 ⟨Nat.le_of_ble_eq_true rfl, Nat.le_of_ble_eq_true rfl⟩) (cg_preV C hw g9 rfl _) rfl rfl hl.1 rfl (lv_room (Nat.le_of_ble_eq_true rfl)) dX3_readsName_50 ⟨show cc + (h10.1 - h1.1) ≤ u9.1 - u.1 by omega, show ss + (h10.2.1 - h1.2.1) ≤ u9.2.1 - u.2.1 by omega⟩) (fun H locs hw => ?_)
          exact hB53 h10 x0 r11 _ _ _ _ _ hm hw (by omega) (by omega) (lv_sub hl [0] rfl)
  rw [m_X3_readsName] at hm
  refine lv_aload_n hx hb dX3_readsName_0 rfl (lv_at hl 0 rfl) ?_
  obtain ⟨a1, ea1, hm⟩ := bdE hm
  refine cg_get C hw (oR_E ea1) rfl in_X3 (by decide) q1566 dX3_readsName_1 ?_
  refine lv_iconst (v := 0) hx hb dX3_readsName_4 (by decide) ?_
  obtain ⟨v2, ev2, hm⟩ := bdE hm
  refine cg_iald C hw ev2 dX3_readsName_5 ?_
  refine lv_iconst (v := 5) hx hb dX3_readsName_6 (by decide) ?_
  refine lv_icmp_ne (tgt := 15) hx hb dX3_readsName_7 (by decide) (fun c3 => ?_) (fun c3 => ?_)
  · have hm := ifT hm c3
    exact hB15 u x0 _ _ _ _ _ hm hw (by omega) (by omega) (lv_sub hl [0] rfl)
  · have hm := ifT' hm c3
    refine lv_aload_n hx hb dX3_readsName_10 rfl (lv_at hl 0 rfl) ?_
    refine lv_iconst (v := 3) hx hb dX3_readsName_11 (by decide) ?_
    obtain ⟨h4, eh4, hm⟩ := bdE hm
    refine cg_tcv C hw eh4 (show cc + s.heap.size = u.1 by rw [hs0]; omega) (fun _ hk hm9 => va_runV (As := [.int (3 : Int32)]) (rest := []) ⟨hx, hb, hml, hown, hts⟩ (w_X3_faults l hm9) (cw_X3_faults hts q1741 ⟨Nat.le_of_ble_eq_true rfl, Nat.le_of_ble_eq_true rfl⟩) (tb_pre C hw hk _) rfl rfl hl.1 rfl (lv_room (Nat.le_of_ble_eq_true rfl)) dX3_readsName_12 ⟨show cc + 0 ≤ u9.1 - u.1 by omega, show ss + 0 ≤ u9.2.1 - u.2.1 by omega⟩) (fun H locs hw => ?_)
    have zh4 := tcv_sz eh4
    exact hB15 h4 x0 _ _ _ _ _ hm hw (by omega) (by omega) (lv_sub hl [0] rfl)
end
