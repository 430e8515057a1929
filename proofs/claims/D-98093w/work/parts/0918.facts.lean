/-! plain law: text, what a reading gives -/
def rf (kd : Nat) (l : List Tok) (y : List PO × List Tok) : Prop := y.2.length < l.length ∧ y.1.length ≤ l.length - y.2.length ∧ ∃ p, gd kd p y.1 ∧ 2 * p ≤ l.length - y.2.length + 1
def goodP (kd : Nat) (one : List Tok → PX) : Prop := ∀ l y, one l = .ok y → rf kd l y
theorem thenP_ok {α : Type} {a : PX} {g : List PO → List Tok → Except (Nat × Nat) α} {z : α} (h : thenP a g = .ok z) : ∃ y, a = .ok y ∧ g y.1 y.2 = .ok z := by
  cases a with
  | error e => cases h
  | ok y => exact ⟨y, rfl, h⟩
def okF (f : Nat → Nat → Option Int32) : Prop := ∀ s t o, f s t = some o → iv_okO (o, 0) ∧ o ≠ 400 ∧ o ≠ 401 ∧ o ≠ 402 ∧ o ≠ 405
theorem fP_ok : okF fP := by
  intro s t o h
  unfold fP at h
  by_cases c : s = 3 ∧ (t = 42 ∨ t = 47)
  · rw [if_pos c] at h
    cases h
    rcases c.2 with rfl | rfl
    · exact ⟨by unfold iv_okO; decide, by decide, by decide, by decide, by decide⟩
    · exact ⟨by unfold iv_okO; decide, by decide, by decide, by decide, by decide⟩
  · rw [if_neg c] at h; cases h
theorem fS_ok : okF fS := by
  intro s t o h
  unfold fS at h
  by_cases c : s = 3 ∧ (t = 43 ∨ t = 45)
  · rw [if_pos c] at h
    cases h
    rcases c.2 with rfl | rfl
    · exact ⟨by unfold iv_okO; decide, by decide, by decide, by decide, by decide⟩
    · exact ⟨by unfold iv_okO; decide, by decide, by decide, by decide, by decide⟩
  · rw [if_neg c] at h; cases h
theorem fA_ok : okF fA := by
  intro s t o h
  unfold fA at h
  by_cases c : s = 1 ∧ t = 8
  · rw [if_pos c] at h
    cases h
    exact ⟨by unfold iv_okO; decide, by decide, by decide, by decide, by decide⟩
  · rw [if_neg c] at h; cases h
theorem fO_ok : okF fO := by
  intro s t o h
  unfold fO at h
  by_cases c : s = 1 ∧ t = 7
  · rw [if_pos c] at h
    cases h
    exact ⟨by unfold iv_okO; decide, by decide, by decide, by decide, by decide⟩
  · rw [if_neg c] at h; cases h
theorem rf_bi {kd : Nat} {l0 l r r2 : List Tok} {x : Tok} {a c : List PO} (h1 : rf kd l0 (a, x :: r)) (h2 : rf kd r (c, r2)) {o : Int32} (ho : iv_okO (o, 0) ∧ o ≠ 400 ∧ o ≠ 401 ∧ o ≠ 402 ∧ o ≠ 405) : rf kd l0 (a ++ c ++ [(o, 0)], r2) := by
  obtain ⟨a1, a2, p, a3, a4⟩ := h1
  obtain ⟨b1, b2, q, b3, b4⟩ := h2
  dsimp only [List.length_cons] at a1 a2 a4 b1 b2 b4
  refine ⟨?_, ?_, p + q, (gd_bi a3 b3 ho.1 ho.2.1 ho.2.2.1 ho.2.2.2.1 ho.2.2.2.2).1, ?_⟩
  · show r2.length < l0.length
    omega
  · show (a ++ c ++ [(o, 0)]).length ≤ l0.length - r2.length
    rw [List.length_append, List.length_append]
    show a.length + c.length + 1 ≤ _
    omega
  · show 2 * (p + q) ≤ l0.length - r2.length + 1
    omega
theorem loop_good {kd : Nat} {one : List Tok → PX} {f : Nat → Nat → Option Int32} (g : goodP kd one) (hf : okF f) {l0 : List Tok} {y : List PO × List Tok} : ∀ (k : Nat) (acc : List PO) (l : List Tok), rf kd l0 (acc, l) → loopP one f k acc l = .ok y → rf kd l0 y := by
  intro k
  induction k with
  | zero => intro acc l h e; cases e; exact h
  | succ k ih =>
    intro acc l h e
    cases l with
    | nil => cases e; exact h
    | cons x r =>
      have e1 : loopP one f (k + 1) acc (x :: r) = (match f x.1 x.2.1 with | none => .ok (acc, x :: r) | some o => thenP (one r) fun os r2 => loopP one f k (acc ++ os ++ [(o, 0)]) r2) := rfl
      rw [e1] at e
      cases hfx : f x.1 x.2.1 with
      | none => rw [hfx] at e; cases e; exact h
      | some o =>
        rw [hfx] at e
        obtain ⟨z, z1, z2⟩ := thenP_ok e
        exact ih _ _ (rf_bi (l := l0) h (g r z z1) (hf _ _ _ hfx)) z2
theorem ser_good {kd : Nat} {one : List Tok → PX} {f : Nat → Nat → Option Int32} (g : goodP kd one) (hf : okF f) : goodP kd (serP one f) := by
  intro l y e
  obtain ⟨z, z1, z2⟩ := thenP_ok e
  exact loop_good g hf _ _ _ (g l z z1) z2
theorem sum_good {kd : Nat} {one : List Tok → PX} (g : goodP kd one) : goodP kd (sumP one) := ser_good (ser_good g fP_ok) fS_ok
theorem rf_more {kd : Nat} {l r : List Tok} {y : List PO × List Tok} {x : Tok} (h : rf kd r y) {r2 : List Tok} (e : y.2 = x :: r2 ∨ y.2 = r2) {z : Tok} (hl : l = z :: r) : rf kd l (y.1, r2) := by
  obtain ⟨a1, a2, p, a3, a4⟩ := h
  subst hl
  have : r2.length ≤ y.2.length := by rcases e with e | e <;> rw [e] <;> simp
  refine ⟨?_, ?_, p, a3, ?_⟩
  · show r2.length < r.length + 1
    omega
  · show y.1.length ≤ r.length + 1 - r2.length
    omega
  · show 2 * p ≤ r.length + 1 - r2.length + 1
    omega
theorem rf_un {kd : Nat} {r : List Tok} {y : List PO × List Tok} (h : rf kd r y) {o : Int32} (ho : o = 402 ∨ o = 405) {z : Tok} : rf kd (z :: r) (y.1 ++ [(o, 0)], y.2) := by
  obtain ⟨a1, a2, p, a3, a4⟩ := h
  refine ⟨?_, ?_, p, (gd_un a3 ho).1, ?_⟩
  · show y.2.length < r.length + 1
    omega
  · show (y.1 ++ [(o, 0)]).length ≤ r.length + 1 - y.2.length
    rw [List.length_append]
    show y.1.length + 1 ≤ _
    omega
  · show 2 * p ≤ r.length + 1 - y.2.length + 1
    omega
theorem isT_c {l : List Tok} {s t : Nat} (h : isT l s t = true) : ∃ pl r, l = (s, t, pl) :: r := by
  cases l with
  | nil => cases h
  | cons x r =>
    unfold isT at h
    rw [Bool.and_eq_true, decide_eq_true_eq, decide_eq_true_eq] at h
    obtain ⟨a, b, c⟩ := x
    obtain ⟨rfl, rfl⟩ := h
    exact ⟨c, r, rfl⟩
theorem one_good {kd : Nat} (hk : kd ≤ 2) {sub : Option (List Tok → PX)} (g : ∀ one, sub = some one → goodP kd one) : goodP kd (oneP kd sub) := by
  intro l y e
  cases l with
  | nil => cases e
  | cons x r =>
    simp only [oneP] at e
    by_cases c1 : x.1 = 2
    · rw [if_pos c1] at e
      by_cases c2 : x.2.1 ≤ 9999
      · rw [if_pos c2] at e
        cases e
        refine ⟨Nat.lt_succ_self _, ?_, 1, (gd_num c2).1, ?_⟩
        · show 1 ≤ r.length + 1 - r.length
          omega
        · show 2 * 1 ≤ r.length + 1 - r.length + 1
          omega
      · rw [if_neg c2] at e; cases e
    rw [if_neg c1] at e
    by_cases c3 : x.1 = 1 ∧ 12 ≤ x.2.1
    · rw [if_pos c3] at e
      by_cases c2 : mayN (x.2.1 - 12) kd = true
      · rw [if_pos c2] at e
        cases e
        refine ⟨Nat.lt_succ_self _, ?_, 1, (gd_name hk c2).1, ?_⟩
        · show 1 ≤ r.length + 1 - r.length
          omega
        · show 2 * 1 ≤ r.length + 1 - r.length + 1
          omega
      · rw [if_neg c2] at e; cases e
    rw [if_neg c3] at e
    by_cases c4 : x.1 = 3 ∧ x.2.1 = 40
    · rw [if_pos c4] at e
      cases hs : sub with
      | none => rw [hs] at e; cases e
      | some one =>
        rw [hs] at e
        obtain ⟨z, z1, z2⟩ := thenP_ok e
        by_cases c5 : isT z.2 3 41 = true
        · rw [if_pos c5] at z2
          cases z2
          obtain ⟨pl, r3, h3⟩ := isT_c c5
          rw [h3]
          exact rf_more (sum_good (g one hs) r z z1) (Or.inl h3) rfl
        · rw [if_neg c5] at z2; cases z2
    rw [if_neg c4] at e
    by_cases c6 : x.1 = 3 ∧ x.2.1 = 45
    · rw [if_pos c6] at e
      cases hs : sub with
      | none => rw [hs] at e; cases e
      | some one =>
        rw [hs] at e
        obtain ⟨z, z1, z2⟩ := thenP_ok e
        cases z2
        exact rf_un (g one hs r z z1) (Or.inl rfl)
    · rw [if_neg c6] at e; cases e
theorem pOne_good {kd : Nat} (hk : kd ≤ 2) : ∀ d, goodP kd (pOne kd d) := by
  intro d
  induction d with
  | zero => exact one_good hk fun one h => by cases h
  | succ d ih => exact one_good hk fun one h => by cases h; exact ih
/-- 0 or 1 -/
def bo (os : List PO) : Prop := ∀ v, Fo os v = 0 ∨ Fo os v = 1
def goodB (kd : Nat) (one : List Tok → PX) : Prop := ∀ l y, one l = .ok y → rf kd l y ∧ bo y.1
theorem cmp_op {t : Nat} (h : t = 60 ∨ t = 62 ∨ t = 61 ∨ t = 35 ∨ t = 300 ∨ t = 301) : (iv_okO (nI t, 0) ∧ nI t ≠ 400 ∧ nI t ≠ 401 ∧ nI t ≠ 402 ∧ nI t ≠ 405) ∧ ∀ x y, iv_op (nI t) x y = 0 ∨ iv_op (nI t) x y = 1 := by
  have two : ∀ c : Prop, ∀ _ : Decidable c, (if c then (1 : Int64) else 0) = 0 ∨ (if c then (1 : Int64) else 0) = 1 := fun c _ => by
    by_cases q : c
    · rw [if_pos q]; exact Or.inr rfl
    · rw [if_neg q]; exact Or.inl rfl
  have two' : ∀ c : Prop, ∀ _ : Decidable c, (if c then (0 : Int64) else 1) = 0 ∨ (if c then (0 : Int64) else 1) = 1 := fun c _ => by
    by_cases q : c
    · rw [if_pos q]; exact Or.inl rfl
    · rw [if_neg q]; exact Or.inr rfl
  rcases h with rfl | rfl | rfl | rfl | rfl | rfl <;> refine ⟨⟨by unfold iv_okO; decide, by decide, by decide, by decide, by decide⟩, fun x y => ?_⟩
  · exact two _ _
  · exact two _ _
  · exact two _ _
  · exact two' _ _
  · exact two' _ _
  · exact two' _ _
theorem isCmp_c {s t : Nat} (h : isCmp s t = true) : s = 3 ∧ (t = 60 ∨ t = 62 ∨ t = 61 ∨ t = 35 ∨ t = 300 ∨ t = 301) := by
  unfold isCmp at h
  simp only [Bool.and_eq_true, Bool.or_eq_true, decide_eq_true_eq] at h
  refine ⟨h.1, ?_⟩
  omega
theorem ask_good {kd : Nat} {one : List Tok → PX} {sub : Option (List Tok → PX)} (g1 : goodP kd one) (g : ∀ ask, sub = some ask → goodB kd ask) : goodB kd (askP one sub) := by
  intro l y e
  unfold askP at e
  by_cases c : isT l 1 9 = true
  · rw [if_pos c] at e
    obtain ⟨pl, r, rfl⟩ := isT_c c
    cases hs : sub with
    | none => rw [hs] at e; cases e
    | some ask =>
      rw [hs] at e
      obtain ⟨z, z1, z2⟩ := thenP_ok e
      cases z2
      obtain ⟨h1, h2⟩ := g ask hs r z z1
      refine ⟨rf_un h1 (Or.inr rfl), fun v => ?_⟩
      obtain ⟨-, -, p, h3, -⟩ := h1
      rw [(gd_un h3 (Or.inr rfl)).2, if_neg (by decide)]
      rcases h2 v with h | h
      · rw [h]; exact Or.inr rfl
      · rw [h]; exact Or.inl rfl
  · rw [if_neg c] at e
    obtain ⟨z, z1, z2⟩ := thenP_ok e
    have h1 := sum_good g1 l z z1
    obtain ⟨za, zr⟩ := z
    cases zr with
    | nil => cases z2
    | cons x r3 =>
      dsimp only at z2
      by_cases cc : isCmp x.1 x.2.1 = true
      · rw [if_pos cc] at z2
        obtain ⟨u, u1, u2⟩ := thenP_ok z2
        cases u2
        have h2 := sum_good g1 r3 u u1
        obtain ⟨co, cb⟩ := cmp_op (isCmp_c cc).2
        refine ⟨rf_bi (l := l) h1 h2 co, fun v => ?_⟩
        obtain ⟨-, -, p, h3, -⟩ := h1
        obtain ⟨-, -, q, h4, -⟩ := h2
        rw [(gd_bi h3 h4 co.1 co.2.1 co.2.2.1 co.2.2.2.1 co.2.2.2.2).2]
        exact cb _ _
      · rw [if_neg cc] at z2; cases z2
theorem pAsk_good {kd : Nat} (hk : kd ≤ 2) : ∀ d, goodB kd (pAsk kd d) := by
  intro d
  induction d with
  | zero => exact ask_good (pOne_good hk 0) fun one h => by cases h
  | succ d ih => exact ask_good (pOne_good hk _) fun one h => by cases h; exact ih
theorem loop_goodB {kd : Nat} {one : List Tok → PX} {f : Nat → Nat → Option Int32} (g : goodB kd one) (hf : okF f) (hb : ∀ s t o, f s t = some o → ∀ x y, (x = 0 ∨ x = 1) → (y = 0 ∨ y = 1) → iv_op o x y = 0 ∨ iv_op o x y = 1) {l0 : List Tok} {y : List PO × List Tok} : ∀ (k : Nat) (acc : List PO) (l : List Tok), rf kd l0 (acc, l) → bo acc → loopP one f k acc l = .ok y → rf kd l0 y ∧ bo y.1 := by
  intro k
  induction k with
  | zero => intro acc l h b e; cases e; exact ⟨h, b⟩
  | succ k ih =>
    intro acc l h b e
    cases l with
    | nil => cases e; exact ⟨h, b⟩
    | cons x r =>
      have e1 : loopP one f (k + 1) acc (x :: r) = (match f x.1 x.2.1 with | none => .ok (acc, x :: r) | some o => thenP (one r) fun os r2 => loopP one f k (acc ++ os ++ [(o, 0)]) r2) := rfl
      rw [e1] at e
      cases hfx : f x.1 x.2.1 with
      | none => rw [hfx] at e; cases e; exact ⟨h, b⟩
      | some o =>
        rw [hfx] at e
        obtain ⟨z, z1, z2⟩ := thenP_ok e
        obtain ⟨g1, g2⟩ := g r z z1
        have co := hf _ _ _ hfx
        refine ih _ _ (rf_bi (l := l0) h g1 co) (fun v => ?_) z2
        obtain ⟨-, -, p, h3, -⟩ := h
        obtain ⟨-, -, q, h4, -⟩ := g1
        rw [(gd_bi h3 h4 co.1 co.2.1 co.2.2.1 co.2.2.2.1 co.2.2.2.2).2]
        exact hb _ _ _ hfx _ _ (b v) (g2 v)
theorem ser_goodB {kd : Nat} {one : List Tok → PX} {f : Nat → Nat → Option Int32} (g : goodB kd one) (hf : okF f) (hb : ∀ s t o, f s t = some o → ∀ x y, (x = 0 ∨ x = 1) → (y = 0 ∨ y = 1) → iv_op o x y = 0 ∨ iv_op o x y = 1) : goodB kd (serP one f) := by
  intro l y e
  obtain ⟨z, z1, z2⟩ := thenP_ok e
  obtain ⟨g1, g2⟩ := g l z z1
  exact loop_goodB g hf hb _ _ _ g1 g2 z2
theorem either_good {kd : Nat} (hk : kd ≤ 2) : goodB kd (eitherP kd) := by
  refine ser_goodB (ser_goodB (pAsk_good hk 8) fA_ok fun s t o h x y hx hy => ?_) fO_ok fun s t o h x y hx hy => ?_
  · unfold fA at h
    by_cases c : s = 1 ∧ t = 8
    · rw [if_pos c] at h
      cases h
      rcases hx with rfl | rfl <;> rcases hy with rfl | rfl <;> decide
    · rw [if_neg c] at h; cases h
  · unfold fO at h
    by_cases c : s = 1 ∧ t = 7
    · rw [if_pos c] at h
      cases h
      rcases hx with rfl | rfl <;> rcases hy with rfl | rfl <;> decide
    · rw [if_neg c] at h; cases h
