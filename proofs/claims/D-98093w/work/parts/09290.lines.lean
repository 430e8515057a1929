/-! plain law: text, the machine: a clause that is a line -/
section LI
variable {b : Nat → Nat} {N : Nat} {ν0 ν : fw_M} {l : List Tok} {st : Nat} {fr ws : List (Nat × Nat)} {os : List PO} {cl : List CE} {nc kd op : Nat}
/-- a fault is told in a clause under way -/
def er2 (ν0 : fw_M) (e : Nat × Nat) (nc kd : Nat) (ν : fw_M) : Prop := er ν0 e ν ∧ m_I ν 411 28 = nI nc ∧ m_I ν 411 29 = nI kd
theorem mc_errs2 (h : mc b N ν0 ν l st fr ws os cl nc kd op) {x : Tok} {r : List Tok} (hl : l = x :: r) {e : Nat} (he : 1 ≤ e ∧ e < 10) {Q : fw_M → Prop} (hQ : ∀ ν', er2 ν0 (e, x.2.2) nc kd ν' → Q ν') : p_X5_errs 411 (nI e) ν Q := by
  obtain ⟨-, -, a', T⟩ := mc_mT h hl
  have h28 := h.2.2.2.2.2.2.2.2.1.1
  have h29 := h.2.2.2.2.2.2.2.2.2.1.1
  unfold p_X5_errs
  rw [if_pos h.2.2.1]
  simp only [forall_eq, ml_uI]
  refine hQ _ ⟨⟨(h.2.1.tr (eqD.sI fun j hj => ml_un fun q => hj (Or.inl ⟨rfl, by omega, by omega⟩))).tr (eqD.sI fun j hj => ml_un fun q => hj (Or.inl ⟨rfl, by omega, by omega⟩)), ?_, ?_, ?_, he⟩, ?_, ?_⟩
  · exact (eqD.sI (D := fun _ _ => True) fun j hj => absurd trivial hj).sk ((eqD.sI (D := fun _ _ => True) fun j hj => absurd trivial hj).sk (mc_sk h))
  · rw [ml_Is, ml_un (by decide), ml_Is, ml_us]
  · rw [ml_Is, ml_us, ml_Is, ml_un (by decide)]
    exact T.2.2.2.2.2.1
  · rw [ml_Is, ml_un (by decide), ml_Is, ml_un (by decide)]; exact h28
  · rw [ml_Is, ml_un (by decide), ml_Is, ml_un (by decide)]; exact h29
theorem er2.n0 {e : Nat × Nat} (h : er2 ν0 e nc kd ν) : ¬ m_I ν 411 18 = 0 := by
  rw [h.1.2.2.1]
  have := h.1.2.2.2.2
  exact nI_ne0 (by omega) (by omega)
theorem er2.errs {e : Nat × Nat} (h : er2 ν0 e nc kd ν) {f : Int32} {Q : fw_M → Prop} (hQ : Q ν) : p_X5_errs 411 f ν Q := by
  unfold p_X5_errs
  rw [if_neg h.n0]
  exact hQ
theorem er2.number {e : Nat × Nat} (h : er2 ν0 e nc kd ν) {lo hi : Int32} {Q : Int32 → fw_M → Prop} (hQ : Q lo ν) : p_X5_number 411 lo hi ν Q := by
  have := h.1.2.2.2.2
  unfold p_X5_number p_X5_number_L15
  rw [h.1.2.2.1, if_pos (show (0 : Int32) < nI e.1 from nI_lt (a := 0) (by omega) (by omega))]
  exact h.errs hQ
theorem er2.wants {e : Nat × Nat} (h : er2 ν0 e nc kd ν) {w : Int32} {Q : fw_M → Prop} (hQ : Q ν) : p_X5_wants 411 w ν Q := by
  unfold p_X5_wants p_X5_wants_L20
  rw [if_neg h.n0, if_neg h.n0]
  exact hQ
theorem er2.over {e : Nat × Nat} (h : er2 ν0 e nc kd ν) {Q : fw_M → Prop} (hQ : er ν0 e ν → Q ν) : p_X5_clause_L283 411 ν Q := by
  unfold p_X5_clause_L283 p_X5_clause_L304
  rw [if_neg h.n0, if_neg h.n0]
  exact hQ h.1
theorem mc_number (h : mc b N ν0 ν l st fr ws os cl nc kd op) {x : Tok} {r : List Tok} (hl : l = x :: r) {lo hi : Nat} (hh : hi < 1000) {Q : Int32 → fw_M → Prop} (h1 : x.1 = 2 → lo ≤ x.2.1 → x.2.1 ≤ hi → ∀ ν', mc b N ν0 ν' r st fr ws os cl nc kd op → Q (nI x.2.1) ν') (h2 : x.1 = 2 → ¬ (lo ≤ x.2.1 ∧ x.2.1 ≤ hi) → ∀ ν', er2 ν0 (2, x.2.2) nc kd ν' → Q (nI lo) ν') (h3 : x.1 ≠ 2 → ∀ ν', er2 ν0 (1, x.2.2) nc kd ν' → Q (nI lo) ν') (hlo : lo ≤ hi) : p_X5_number 411 (nI lo) (nI hi) ν Q := by
  obtain ⟨t4, -, a', T⟩ := mc_mT h hl
  unfold p_X5_number p_X5_number_L15
  rw [h.2.2.1, if_neg (by decide)]
  by_cases c : x.1 = 2
  · obtain ⟨v, v1, v2, v3⟩ := T.2.2.2.2.1 c
    rw [if_pos (show m_I ν 411 16 = 2 by rw [T.1 (by omega), c]; rfl), v2, m_in]
    have iv := in_n (c := v) (lo := lo) (hi := hi) v1 (by omega) (by omega)
    by_cases d : lo ≤ x.2.1 ∧ x.2.1 ≤ hi
    · have vx : v = x.2.1 := by omega
      rw [if_pos (iv.mpr (by omega)), if_neg (by decide)]
      rintro _ rfl
      refine mc_next h hl (by omega) fun ν' h' => ?_
      rw [v2, vx]
      exact h1 c d.1 d.2 ν' h'
    · rw [if_neg (fun q => d (by have := iv.mp q; omega)), if_pos rfl]
      exact mc_errs2 h hl (e := 2) (by decide) fun ν' h' => h2 c d ν' h'
  · have n2 : ¬ m_I ν 411 16 = 2 := by
      by_cases q : x.1 = 4
      · rcases T.2.1 q with e | ⟨e, -⟩ <;> rw [e] <;> decide
      · rw [T.1 (by omega)]; exact fun e => c ((nI_eq (b := 2) (by omega) (by decide)).mp e)
    rw [if_neg n2]
    exact mc_errs2 h hl (e := 1) (by decide) fun ν' h' => h3 c ν' h'
end LI
