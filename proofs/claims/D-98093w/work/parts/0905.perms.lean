/-! plain law: called, the plain part -/
def fac : Nat → Nat
  | 0 => 1
  | m + 1 => (m + 1) * fac m
theorem fac_pos : ∀ m, 0 < fac m := by
  intro m
  induction m with
  | zero => decide
  | succ m ih => exact Nat.mul_pos (Nat.succ_pos m) ih
theorem fac_le : ∀ m, m ≤ 6 → fac m ≤ 720 := by decide
def fl (P : Nat → Bool) (c : Nat → Nat) : Nat → List Nat
  | 0 => []
  | n + 1 => fl P c n ++ (if P n = true then [c n] else [])
theorem fl_len {P : Nat → Bool} {c : Nat → Nat} : ∀ n, (fl P c n).length = ctN P n := by
  intro n
  induction n with
  | zero => rfl
  | succ n ih =>
    show (fl P c n ++ (if P n = true then [c n] else [])).length = ctN P n + (if P n = true then 1 else 0)
    rw [List.length_append, ih]
    split <;> rfl
theorem ct_mono {P : Nat → Bool} {e : Nat} : ∀ {n : Nat}, e ≤ n → ctN P e ≤ ctN P n := by
  intro n
  induction n with
  | zero => intro h; rw [Nat.le_zero.mp h]; exact Nat.le_refl _
  | succ n ih =>
    intro h
    by_cases q : e = n + 1
    · rw [q]; exact Nat.le_refl _
    · exact Nat.le_trans (ih (by omega)) (Nat.le_add_right _ _)
theorem ct_lt {P : Nat → Bool} {e n : Nat} (h : e < n) (p : P e = true) : ctN P e < ctN P n := by
  have := ct_mono (P := P) (e := e + 1) (n := n) h
  have e1 : ctN P (e + 1) = ctN P e + (if P e = true then 1 else 0) := rfl
  rw [e1, if_pos p] at this
  omega
theorem ct_le {P : Nat → Bool} : ∀ n, ctN P n ≤ n := by
  intro n
  induction n with
  | zero => exact Nat.le_refl _
  | succ n ih =>
    show ctN P n + (if P n = true then 1 else 0) ≤ _
    split <;> omega
theorem ct_cong {P P' : Nat → Bool} : ∀ {n : Nat}, (∀ j, j < n → P j = P' j) → ctN P n = ctN P' n := by
  intro n
  induction n with
  | zero => intro _; rfl
  | succ n ih =>
    intro h
    show ctN P n + (if P n = true then 1 else 0) = ctN P' n + (if P' n = true then 1 else 0)
    rw [ih fun j hj => h j (by omega), h n (by omega)]
theorem fl_cong {P P' : Nat → Bool} {c : Nat → Nat} : ∀ {n : Nat}, (∀ j, j < n → P j = P' j) → fl P c n = fl P' c n := by
  intro n
  induction n with
  | zero => intro _; rfl
  | succ n ih =>
    intro h
    show fl P c n ++ (if P n = true then [c n] else []) = fl P' c n ++ (if P' n = true then [c n] else [])
    rw [ih fun j hj => h j (by omega), h n (by omega)]
theorem fl_get {P : Nat → Bool} {c : Nat → Nat} {e : Nat} : ∀ {n : Nat}, e < n → P e = true → (fl P c n).getD (ctN P e) 0 = c e := by
  intro n
  induction n with
  | zero => intro h; exact absurd h (Nat.not_lt_zero _)
  | succ n ih =>
    intro h p
    show (fl P c n ++ (if P n = true then [c n] else [])).getD (ctN P e) 0 = c e
    by_cases q : e = n
    · subst q
      rw [if_pos p, ← fl_len (c := c) e]
      exact gd_eq _ _
    · rw [gd_lt _ _ _ (by rw [fl_len]; exact ct_lt (by omega) p)]
      exact ih (by omega) p
theorem er_lt : ∀ (l r : List Nat) (j : Nat), j < l.length → (l ++ r).eraseIdx j = l.eraseIdx j ++ r := by
  intro l
  induction l with
  | nil => intro r j h; exact absurd h (Nat.not_lt_zero _)
  | cons x l ih =>
    intro r j h
    cases j with
    | zero => rfl
    | succ j =>
      show x :: (l ++ r).eraseIdx j = x :: (l.eraseIdx j ++ r)
      rw [ih r j (Nat.lt_of_succ_lt_succ h)]
theorem er_eq : ∀ (l : List Nat) (x : Nat), (l ++ [x]).eraseIdx l.length = l := by
  intro l
  induction l with
  | nil => intro x; rfl
  | cons y l ih =>
    intro x
    show y :: (l ++ [x]).eraseIdx l.length = y :: l
    rw [ih]
theorem fl_er {P : Nat → Bool} {c : Nat → Nat} {e : Nat} : ∀ {n : Nat}, e < n → P e = true → (fl P c n).eraseIdx (ctN P e) = fl (fun j => P j && decide (j ≠ e)) c n := by
  intro n
  induction n with
  | zero => intro h; exact absurd h (Nat.not_lt_zero _)
  | succ n ih =>
    intro h p
    show (fl P c n ++ (if P n = true then [c n] else [])).eraseIdx (ctN P e) = fl (fun j => P j && decide (j ≠ e)) c n ++ (if (P n && decide (n ≠ e)) = true then [c n] else [])
    by_cases q : e = n
    · subst q
      rw [if_pos p, ← fl_len (c := c) e, er_eq, if_neg (by simp), List.append_nil]
      refine fl_cong fun j hj => ?_
      rw [decide_eq_true (show j ≠ e by omega), Bool.and_true]
    · rw [er_lt _ _ _ (by rw [fl_len]; exact ct_lt (by omega) p), ih (by omega) p, decide_eq_true (show n ≠ e by omega), Bool.and_true]
theorem fl_ex {P : Nat → Bool} {k : Nat} : ∀ {n : Nat}, k < ctN P n → ∃ e, e < n ∧ P e = true ∧ ctN P e = k := by
  intro n
  induction n with
  | zero => intro h; exact absurd h (Nat.not_lt_zero _)
  | succ n ih =>
    intro h
    have e1 : ctN P (n + 1) = ctN P n + (if P n = true then 1 else 0) := rfl
    rw [e1] at h
    by_cases q : k < ctN P n
    · obtain ⟨e, h1, h2, h3⟩ := ih q
      exact ⟨e, by omega, h2, h3⟩
    · by_cases p : P n = true
      · rw [if_pos p] at h
        exact ⟨n, by omega, p, by omega⟩
      · rw [if_neg p] at h
        omega
theorem fl_self {l : List Nat} : ∀ {k : Nat}, k ≤ l.length → fl (fun _ => true) (fun j => l.getD j 0) k = l.take k := by
  intro k
  induction k with
  | zero => intro _; rfl
  | succ k ih =>
    intro h
    show fl _ _ k ++ [l.getD k 0] = _
    rw [ih (by omega), List.take_succ, List.getD_eq_getElem?_getD, List.getElem?_eq_getElem (by omega)]
    rfl
section PM
variable {β : Type} (f : List Nat → β → β)
def pmF : Nat → List Nat → List Nat → β → β
  | 0, _, pre, b => f pre b
  | m + 1, l, pre, b => faN (fun i b => pmF m (l.eraseIdx i) (pre ++ [l.getD i 0]) b) b (m + 1)
def pmL : Nat → List Nat → Nat → List Nat
  | 0, _, _ => []
  | m + 1, l, y => l.getD (y / fac m) 0 :: pmL m (l.eraseIdx (y / fac m)) (y % fac m)
theorem pm_eq : ∀ (m : Nat) (l pre : List Nat) (b : β), pmF f m l pre b = faN (fun y b => f (pre ++ pmL m l y) b) b (fac m) := by
  intro m
  induction m with
  | zero =>
    intro l pre b
    show f pre b = f (pre ++ []) b
    rw [List.append_nil]
  | succ m ih =>
    intro l pre b
    show faN _ b (m + 1) = faN _ b ((m + 1) * fac m)
    rw [faN_mul]
    refine faN_cong fun d hd x => ?_
    rw [ih]
    refine faN_cong fun j hj y => ?_
    have e : pmL (m + 1) l (d * fac m + j) = l.getD d 0 :: pmL m (l.eraseIdx d) j := by
      show l.getD ((d * fac m + j) / fac m) 0 :: pmL m (l.eraseIdx ((d * fac m + j) / fac m)) ((d * fac m + j) % fac m) = _
      rw [show (d * fac m + j) / fac m = d by rw [Nat.mul_comm, Nat.mul_add_div (fac_pos m), Nat.div_eq_of_lt hj, Nat.add_zero], Nat.mul_add_mod_self_right, Nat.mod_eq_of_lt hj]
    rw [e, List.append_assoc]
    rfl
theorem pmL_len : ∀ m l y, (pmL m l y).length = m := by
  intro m
  induction m with
  | zero => intro _ _; rfl
  | succ m ih =>
    intro l y
    show (pmL m _ _).length + 1 = m + 1
    rw [ih]
theorem fa_P {P : Nat → Bool} {g : Nat → β → β} {b : β} : ∀ n, faN (fun e x => if P e = true then g (ctN P e) x else x) b n = faN g b (ctN P n) := by
  intro n
  induction n with
  | zero => rfl
  | succ n ih =>
    show (if P n = true then _ else _) = faN g b (ctN P n + (if P n = true then 1 else 0))
    by_cases p : P n = true
    · rw [if_pos p, if_pos p, ih]; rfl
    · rw [if_neg p, if_neg p, ih]; rfl
end PM
def bP (s e : Nat) : Bool := decide (s / 2 ^ e % 2 = 1)
theorem bP_pc {s : Nat} : ∀ n, pcN s n = ctN (bP s) n := by
  intro n
  induction n with
  | zero => rfl
  | succ n ih =>
    show pcN s n + (if s / 2 ^ n % 2 = 1 then 1 else 0) = ctN (bP s) n + (if decide (s / 2 ^ n % 2 = 1) = true then 1 else 0)
    rw [ih]
    simp only [decide_eq_true_eq]
theorem bP_0 {n : Nat} : ctN (bP 0) n = 0 := by
  induction n with
  | zero => rfl
  | succ n ih =>
    show ctN (bP 0) n + (if decide (0 / 2 ^ n % 2 = 1) = true then 1 else 0) = 0
    rw [ih, Nat.zero_div]
    rfl
theorem bP_z : ∀ n, n < 10 → ∀ s, s < 2 ^ n → ctN (bP s) n = 0 → s = 0 := by decide +kernel
set_option maxRecDepth 100000 in
theorem cl_S : ∀ s, s < 512 → ∀ e, e < 9 → s / 2 ^ e % 2 = 1 → (nI s &&& (((1 : Int32) <<< (nI e &&& 31)) ^^^ (-1 : Int32))) = nI (s - 2 ^ e) := by decide +kernel
set_option maxRecDepth 100000 in
theorem cl_b : ∀ s, s < 512 → ∀ e, e < 9 → s / 2 ^ e % 2 = 1 → ∀ j, j < 9 → bP (s - 2 ^ e) j = (bP s j && decide (j ≠ e)) := by decide +kernel
set_option maxRecDepth 100000 in
theorem or_u : ∀ u, u < 64 → ∀ e, e < 6 → u / 2 ^ e % 2 = 0 → (nI u ||| ((1 : Int32) <<< (nI e &&& 31))) = nI (u + 2 ^ e) ∧ u + 2 ^ e < 64 := by decide +kernel
def bU (u e : Nat) : Bool := decide (u / 2 ^ e % 2 = 0)
set_option maxRecDepth 100000 in
theorem or_b : ∀ u, u < 64 → ∀ e, e < 6 → u / 2 ^ e % 2 = 0 → ∀ j, j < 6 → bU (u + 2 ^ e) j = (bU u j && decide (j ≠ e)) := by decide +kernel
def absI (x : Int32) : Int32 := if 0 ≤ x then x else -x
theorem s_abs {x : Int32} {μ : fw_M} {Q : Int32 → fw_M → Prop} : p_J0_abs x μ Q = Q (absI x) μ := by
  unfold p_J0_abs absI
  split <;> rfl
theorem m_size {x : Int32} {μ : fw_M} {Q : Int32 → fw_M → Prop} : p_X5_size x μ Q = Q (absI x) μ := s_abs
theorem ng_k : ∀ k, k < 2000 → k ≠ 0 → ¬ 0 ≤ -nI k := by decide +kernel
theorem tl_abs {n : Nat} {w : WW} (ok : okW n w) : ∃ k, k < 2000 ∧ absI (tlW w) = nI k := by
  have b0 := ok.1 0 (by decide)
  have b1 := ok.1 1 (by decide)
  have b2 := ok.1 2 (by decide)
  have b3 := ok.1 3 (by decide)
  have e : tlW w = nI (w.1 0 + w.1 1) - nI (w.1 2 + w.1 3) := by
    unfold tlW
    rw [← nI_add, ← nI_add, Int32.sub_eq_add_neg, Int32.sub_eq_add_neg, Int32.sub_eq_add_neg, Int32.neg_add, Int32.sub_eq_add_neg, Int32.add_assoc]
  rw [e]
  have ha : w.1 0 + w.1 1 ≤ 1998 := by omega
  have hb : w.1 2 + w.1 3 ≤ 1998 := by omega
  generalize w.1 0 + w.1 1 = a at ha ⊢
  generalize w.1 2 + w.1 3 = b at hb ⊢
  by_cases c : b ≤ a
  · rw [pk_sub c]
    refine ⟨a - b, by omega, ?_⟩
    unfold absI
    rw [if_pos (show (0 : Int32) ≤ nI (a - b) from nI_le (a := 0) (Nat.zero_le _) (by omega))]
  · rw [show nI a - nI b = -(nI b - nI a) by rw [Int32.neg_sub], pk_sub (by omega)]
    refine ⟨b - a, by omega, ?_⟩
    unfold absI
    rw [if_neg (ng_k _ (by omega) (by omega)), Int32.neg_neg]
abbrev CB : Type := Option (Int32 × List Nat)
def cubt (t : Int32) (b : CB) : Bool := match b with
  | none => true
  | some x => decide (absI t < absI x.1)
def eaL (lv : LV) (hun sto wh : Nat → Nat) (kd : Nat) : WW → List Nat → WW
  | w, [] => w
  | w, e :: es => eaL lv hun sto wh kd (eatN lv hun sto wh w e kd) es
theorem eaL_app {lv : LV} {hun sto wh : Nat → Nat} {kd e : Nat} : ∀ (l : List Nat) (w : WW), eaL lv hun sto wh kd w (l ++ [e]) = eatN lv hun sto wh (eaL lv hun sto wh kd w l) e kd := by
  intro l
  induction l with
  | nil => intro w; rfl
  | cons x l ih => intro w; exact ih _
def cuF (lv : LV) (hun sto wh : Nat → Nat) (kd : Nat) (w0 : WW) (pre : List Nat) (b : CB) : CB := if cubt (tlW (eaL lv hun sto wh kd w0 pre)) b = true then some (tlW (eaL lv hun sto wh kd w0 pre), pre) else b
theorem cu_some {lv : LV} {hun sto wh : Nat → Nat} {kd : Nat} {w0 : WW} {g : Nat → List Nat} : ∀ k, 0 < k → (faN (fun y b => cuF lv hun sto wh kd w0 (g y) b) none k).isSome = true := by
  intro k
  induction k with
  | zero => intro h; exact absurd h (Nat.not_lt_zero _)
  | succ k ih =>
    intro _
    show (cuF lv hun sto wh kd w0 (g k) (faN (fun y b => cuF lv hun sto wh kd w0 (g y) b) none k)).isSome = true
    by_cases h : 0 < k
    · have := ih h
      unfold cuF
      split
      · rfl
      · exact this
    · have : k = 0 := by omega
      subst this
      rfl
