/-! plain law: the abstract memory's algebra: a whole row set (m_sI), reads over updates, small ints as nI -/
def m_sI (μ : fw_M) (p : Nat) (f : Nat → Int32) : fw_M := ((fun q => if q = p then f else μ.1 q), μ.2)
def m_sL (μ : fw_M) (p : Nat) (f : Nat → Int64) : fw_M := (μ.1, (fun q => if q = p then f else μ.2.1 q), μ.2.2)
def m_sP (μ : fw_M) (p : Nat) (f : Nat → Nat) : fw_M := (μ.1, μ.2.1, (fun q => if q = p then f else μ.2.2.1 q), μ.2.2.2)
def ml_u {α : Type} (f : Nat → α) (k : Nat) (x : α) : Nat → α := fun j => if j = k then x else f j
theorem ml_us {α : Type} {f : Nat → α} {k : Nat} {x : α} : ml_u f k x k = x := if_pos rfl
theorem ml_un {α : Type} {f : Nat → α} {k j : Nat} {x : α} (h : j ≠ k) : ml_u f k x j = f j := if_neg h
theorem ml_uI {μ : fw_M} {p i : Nat} {v : Int32} : m_uI μ p i v = m_sI μ p (ml_u (m_I μ p) i v) := by
  unfold m_uI m_sI fw_up ml_u m_I
  refine congrArg (fun x => (x, μ.2)) ?_
  funext q j
  by_cases h : q = p
  · subst h
    by_cases h2 : j = i <;> simp [h2]
  · simp [h]
theorem ml_uL {μ : fw_M} {p i : Nat} {v : Int64} : m_uL μ p i v = m_sL μ p (ml_u (m_L μ p) i v) := by
  unfold m_uL m_sL fw_up ml_u m_L
  refine congrArg (fun x => (μ.1, x, μ.2.2)) ?_
  funext q j
  by_cases h : q = p
  · subst h
    by_cases h2 : j = i <;> simp [h2]
  · simp [h]
theorem ml_uP {μ : fw_M} {p i : Nat} {v : Nat} : m_uP μ p i v = m_sP μ p (ml_u (m_P μ p) i v) := by
  unfold m_uP m_sP fw_up ml_u m_P
  refine congrArg (fun x => (μ.1, μ.2.1, x, μ.2.2.2)) ?_
  funext q j
  by_cases h : q = p
  · subst h
    by_cases h2 : j = i <;> simp [h2]
  · simp [h]
def ml_c (f g : Nat → Int32) (sp dp n : Nat) : Nat → Int32 := fun j => if dp ≤ j ∧ j < dp + n then f (sp + (j - dp)) else g j
theorem ml_cp {μ : fw_M} {p sp q dp n : Nat} : m_cp μ p sp q dp n = m_sI μ q (ml_c (m_I μ p) (m_I μ q) sp dp n) := by
  unfold m_cp m_sI ml_c m_I
  refine congrArg (fun x => (x, μ.2)) ?_
  funext r j
  by_cases h : r = q
  · subst h; simp
  · simp [h]
-- reads
theorem ml_Is {μ : fw_M} {p : Nat} {f : Nat → Int32} : m_I (m_sI μ p f) p = f := by
  funext j
  show (if p = p then f else μ.1 p) j = f j
  rw [if_pos rfl]
theorem ml_In {μ : fw_M} {p q : Nat} {f : Nat → Int32} (h : q ≠ p) : m_I (m_sI μ p f) q = m_I μ q := by
  funext j
  show (if q = p then f else μ.1 q) j = μ.1 q j
  rw [if_neg h]
theorem ml_Ls {μ : fw_M} {p : Nat} {f : Nat → Int64} : m_L (m_sL μ p f) p = f := by
  funext j
  show (if p = p then f else μ.2.1 p) j = f j
  rw [if_pos rfl]
theorem ml_Ln {μ : fw_M} {p q : Nat} {f : Nat → Int64} (h : q ≠ p) : m_L (m_sL μ p f) q = m_L μ q := by
  funext j
  show (if q = p then f else μ.2.1 q) j = μ.2.1 q j
  rw [if_neg h]
theorem ml_Ps {μ : fw_M} {p : Nat} {f : Nat → Nat} : m_P (m_sP μ p f) p = f := by
  funext j
  show (if p = p then f else μ.2.2.1 p) j = f j
  rw [if_pos rfl]
theorem ml_Pn {μ : fw_M} {p q : Nat} {f : Nat → Nat} (h : q ≠ p) : m_P (m_sP μ p f) q = m_P μ q := by
  funext j
  show (if q = p then f else μ.2.2.1 q) j = μ.2.2.1 q j
  rw [if_neg h]
theorem ml_IL {μ : fw_M} {p : Nat} {f : Nat → Int64} : m_I (m_sL μ p f) = m_I μ := rfl
theorem ml_IP {μ : fw_M} {p : Nat} {f : Nat → Nat} : m_I (m_sP μ p f) = m_I μ := rfl
theorem ml_LI {μ : fw_M} {p : Nat} {f : Nat → Int32} : m_L (m_sI μ p f) = m_L μ := rfl
theorem ml_LP {μ : fw_M} {p : Nat} {f : Nat → Nat} : m_L (m_sP μ p f) = m_L μ := rfl
theorem ml_PI {μ : fw_M} {p : Nat} {f : Nat → Int32} : m_P (m_sI μ p f) = m_P μ := rfl
theorem ml_PL {μ : fw_M} {p : Nat} {f : Nat → Int64} : m_P (m_sL μ p f) = m_P μ := rfl
theorem ml_KI {μ : fw_M} {p : Nat} {f : Nat → Int32} : m_K (m_sI μ p f) = m_K μ := rfl
theorem ml_KL {μ : fw_M} {p : Nat} {f : Nat → Int64} : m_K (m_sL μ p f) = m_K μ := rfl
theorem ml_KP {μ : fw_M} {p : Nat} {f : Nat → Nat} : m_K (m_sP μ p f) = m_K μ := rfl
theorem ml_NI {μ : fw_M} {p : Nat} {f : Nat → Int32} : m_N (m_sI μ p f) = m_N μ := rfl
theorem ml_NL {μ : fw_M} {p : Nat} {f : Nat → Int64} : m_N (m_sL μ p f) = m_N μ := rfl
theorem ml_NP {μ : fw_M} {p : Nat} {f : Nat → Nat} : m_N (m_sP μ p f) = m_N μ := rfl
theorem ml_SI {μ : fw_M} {p : Nat} {f : Nat → Int32} : m_S (m_sI μ p f) = m_S μ := rfl
theorem ml_SL {μ : fw_M} {p : Nat} {f : Nat → Int64} : m_S (m_sL μ p f) = m_S μ := rfl
theorem ml_SP {μ : fw_M} {p : Nat} {f : Nat → Nat} : m_S (m_sP μ p f) = m_S μ := rfl
theorem ml_xI {μ : fw_M} {p : Nat} {f : Nat → Int32} : m_x (m_sI μ p f) = m_x μ := rfl
theorem ml_xL {μ : fw_M} {p : Nat} {f : Nat → Int64} : m_x (m_sL μ p f) = m_x μ := rfl
theorem ml_xP {μ : fw_M} {p : Nat} {f : Nat → Nat} : m_x (m_sP μ p f) = m_x μ := rfl
-- new cells
theorem ml_aI {μ : fw_M} {k n q : Nat} (h : q < m_x μ) : m_I (m_al μ k n) q = m_I μ q := by
  funext j
  show (if q = μ.2.2.2.2 then (0 : Int32) else μ.1 q j) = μ.1 q j
  exact if_neg (Nat.ne_of_lt h)
theorem ml_aL {μ : fw_M} {k n q : Nat} (h : q < m_x μ) : m_L (m_al μ k n) q = m_L μ q := by
  funext j
  show (if q = μ.2.2.2.2 then (0 : Int64) else μ.2.1 q j) = μ.2.1 q j
  exact if_neg (Nat.ne_of_lt h)
theorem ml_aP {μ : fw_M} {k n q : Nat} (h : q < m_x μ) : m_P (m_al μ k n) q = m_P μ q := by
  funext j
  show (if q = μ.2.2.2.2 then 0 else μ.2.2.1 q j) = μ.2.2.1 q j
  exact if_neg (Nat.ne_of_lt h)
theorem ml_aS {μ : fw_M} {k n q : Nat} (h : q < m_x μ) : m_S (m_al μ k n) q = m_S μ q := by
  show (if q = μ.2.2.2.2 then (k, n) else μ.2.2.2.1 q) = μ.2.2.2.1 q
  exact if_neg (Nat.ne_of_lt h)
theorem ml_aI0 {μ : fw_M} {k n : Nat} : m_I (m_al μ k n) (m_x μ) = fun _ => 0 := by
  funext j
  show (if μ.2.2.2.2 = μ.2.2.2.2 then (0 : Int32) else _) = 0
  rw [if_pos rfl]
theorem ml_aL0 {μ : fw_M} {k n : Nat} : m_L (m_al μ k n) (m_x μ) = fun _ => 0 := by
  funext j
  show (if μ.2.2.2.2 = μ.2.2.2.2 then (0 : Int64) else _) = 0
  rw [if_pos rfl]
theorem ml_aP0 {μ : fw_M} {k n : Nat} : m_P (m_al μ k n) (m_x μ) = fun _ => 0 := by
  funext j
  show (if μ.2.2.2.2 = μ.2.2.2.2 then 0 else _) = 0
  rw [if_pos rfl]
theorem ml_aS0 {μ : fw_M} {k n : Nat} : m_S (m_al μ k n) (m_x μ) = (k, n) := by
  show (if μ.2.2.2.2 = μ.2.2.2.2 then (k, n) else _) = (k, n)
  rw [if_pos rfl]
theorem ml_ax {μ : fw_M} {k n : Nat} : m_x (m_al μ k n) = m_x μ + 1 := rfl
theorem ml_KS {μ : fw_M} {p k n : Nat} (h : m_S μ p = (k, n)) : m_K μ p = k := congrArg Prod.fst h
theorem ml_NS {μ : fw_M} {p k n : Nat} (h : m_S μ p = (k, n)) : m_N μ p = n := congrArg Prod.snd h
-- the judgement's small steps
theorem ml_ii {c : Prop} {d1 : Decidable c} {A B : Prop} (ht : c → A) (hf : ¬ c → B) : @ite _ c d1 A B := by
  by_cases h : c
  · rw [if_pos h]; exact ht h
  · rw [if_neg h]; exact hf h
theorem ml_e {α : Sort _} {a : α} {P : α → Prop} (h : P a) : ∀ x, x = a → P x := fun x hx => hx ▸ h
/-- a truth as the machine has it -/
def ml_b (c : Bool) : Int32 := if c = true then 1 else 0
