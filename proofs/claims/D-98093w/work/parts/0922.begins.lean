/-! plain law: text, the machine: runs of steps; where a number is wanted -/
abbrev LB (Q : Int32 → fw_M → Prop) (k : fw_M → Prop) (a : fw_M) : Prop := p_X5_text_L74b 411 (fun μ => k μ) a Q
def go (Q : Int32 → fw_M → Prop) (T U : fw_M → Prop) : Prop := ∃ n, ∀ j ν, T ν → (∀ ν', U ν' → fw_iter (LB Q) j ν') → fw_iter (LB Q) (n + j) ν
theorem go_rf {Q : Int32 → fw_M → Prop} {T : fw_M → Prop} : go Q T T := ⟨0, fun j ν h k => by rw [Nat.zero_add]; exact k ν h⟩
theorem go_tr {Q : Int32 → fw_M → Prop} {T U V : fw_M → Prop} (h : go Q T U) (g : go Q U V) : go Q T V := by
  obtain ⟨n, h⟩ := h
  obtain ⟨m, g⟩ := g
  exact ⟨n + m, fun j ν t k => by rw [Nat.add_assoc]; exact h (m + j) ν t fun ν' u => g j ν' u k⟩
theorem go_1 {Q : Int32 → fw_M → Prop} {T U : fw_M → Prop} (h : ∀ ν (K : fw_M → Prop), T ν → (∀ ν', U ν' → K ν') → LB Q K ν) : go Q T U := by
  refine ⟨1, fun j ν t k => ?_⟩
  rw [Nat.add_comm]
  exact h ν _ t k
section GO
variable {b : Nat → Nat} {N : Nat} {ν0 ν : fw_M} {l : List Tok} {st : Nat} {fr ws : List (Nat × Nat)} {os : List PO} {cl : List CE} {nc kd op : Nat} {Q : Int32 → fw_M → Prop} {K : fw_M → Prop}
theorem lb_0 (h : mc b N ν0 ν l 0 fr ws os cl nc kd op) (H : p_X5_asks 411 ν fun μ => K μ) : LB Q K ν := by
  have h27 := h.2.2.2.2.1.1
  show p_X5_text_L74b 411 (fun μ => K μ) ν Q
  unfold p_X5_text_L74b p_X5_text_L96
  rw [if_pos h.2.2.1, h27, if_neg (show ¬ nI 0 = 4 by decide), if_pos (show nI 0 = 0 from rfl)]
  exact H
theorem lb_1 (h : mc b N ν0 ν l 1 fr ws os cl nc kd op) (H : p_X5_begins 411 ν fun μ => K μ) : LB Q K ν := by
  have h27 := h.2.2.2.2.1.1
  show p_X5_text_L74b 411 (fun μ => K μ) ν Q
  unfold p_X5_text_L74b p_X5_text_L96
  rw [if_pos h.2.2.1, h27, if_neg (show ¬ nI 1 = 4 by decide), if_neg (show ¬ nI 1 = 0 by decide), if_pos (show nI 1 = 1 from rfl)]
  exact H
theorem lb_2 (h : mc b N ν0 ν l 2 fr ws os cl nc kd op) (H : p_X5_goesOn 411 ν fun μ => K μ) : LB Q K ν := by
  have h27 := h.2.2.2.2.1.1
  show p_X5_text_L74b 411 (fun μ => K μ) ν Q
  unfold p_X5_text_L74b p_X5_text_L96
  rw [if_pos h.2.2.1, h27, if_neg (show ¬ nI 2 = 4 by decide), if_neg (show ¬ nI 2 = 0 by decide), if_neg (show ¬ nI 2 = 1 by decide), if_pos (show nI 2 = 2 from rfl)]
  exact H
theorem lb_3 (h : mc b N ν0 ν l 3 fr ws os cl nc kd op) (H : p_X5_asksOn 411 ν fun μ => K μ) : LB Q K ν := by
  have h27 := h.2.2.2.2.1.1
  show p_X5_text_L74b 411 (fun μ => K μ) ν Q
  unfold p_X5_text_L74b p_X5_text_L96
  rw [if_pos h.2.2.1, h27, if_neg (show ¬ nI 3 = 4 by decide), if_neg (show ¬ nI 3 = 0 by decide), if_neg (show ¬ nI 3 = 1 by decide), if_neg (show ¬ nI 3 = 2 by decide), if_pos (show nI 3 = 3 from rfl)]
  exact H
theorem lb_4 (h : mc b N ν0 ν l 4 fr ws os cl nc kd op) {x : Tok} {r : List Tok} (hl : l = x :: r) (hx : x.1 ≠ 0) (H : p_X5_clause 411 ν fun μ => K μ) : LB Q K ν := by
  have h27 := h.2.2.2.2.1.1
  obtain ⟨t4, -, a', T⟩ := mc_mT h hl
  have h16 : ¬ m_I ν 411 16 = 0 := by
    by_cases q : x.1 = 4
    · rcases T.2.1 q with e | ⟨e, -⟩ <;> rw [e] <;> decide
    · rw [T.1 (by omega)]
      exact nI_ne0 (by omega) (by omega)
  show p_X5_text_L74b 411 (fun μ => K μ) ν Q
  unfold p_X5_text_L74b p_X5_text_L96
  rw [if_pos h.2.2.1, h27, if_pos (show nI 4 = 4 from rfl), if_neg h16, if_neg (show ¬ nI 4 = 0 by decide), if_neg (show ¬ nI 4 = 1 by decide), if_neg (show ¬ nI 4 = 2 by decide), if_neg (show ¬ nI 4 = 3 by decide)]
  exact H
abbrev rep (k : Nat) (f : Nat) : List (Nat × Nat) := List.replicate k (f, 0)
abbrev repO (k : Nat) (o : Int32) : List PO := List.replicate k (o, 0)
theorem repO_1 {k : Nat} {o : Int32} {os : List PO} : os ++ [(o, 0)] ++ repO k o = os ++ repO (k + 1) o := by
  rw [List.append_assoc]
  rfl
/-- what waits for a number's end on top is worked off -/
theorem mc_oneOver {y : Nat × Nat} {r0 : List (Nat × Nat)} (hy : y.1 ≠ 7) {k : Nat} (hk : k ≤ op) (hb : (rep k 7 ++ y :: r0).length < 40) (ho : os.length + k ≤ 400) (h : mc b N ν0 ν l st (rep k 7 ++ y :: r0) ws os cl nc kd op) {Q : fw_M → Prop} (hQ : ∀ ν', mc b N ν0 ν' l 2 (y :: r0) ws (os ++ repO k 402) cl nc kd (op - k) → Q ν') : p_X5_oneIsOver 411 ν Q := by
  unfold p_X5_oneIsOver p_X5_oneIsOver_L0
  refine lp_to k (fun i x => mc b N ν0 x l st (rep (k - i) 7 ++ y :: r0) ws (os ++ repO i 402) cl nc kd (op - i)) (fun i x hi hx K hK => ?_) (fun x hx K => ?_) (by rw [show repO 0 402 = [] from rfl, List.append_nil]; exact h)
  · obtain ⟨m, hm⟩ : ∃ m, k - i = m + 1 := ⟨k - i - 1, by omega⟩
    have e1 : rep (m + 1) 7 ++ y :: r0 = (7, 0) :: (rep m 7 ++ y :: r0) := rfl
    rw [hm, e1] at hx
    have hlen : (rep m 7 ++ y :: r0).length < 39 := by
      rw [List.length_append, List.length_replicate] at hb ⊢
      omega
    have h20 := hx.2.2.2.2.2.2.2.2.2.2.1
    have h21 : m_I x 411 21 = nI ((rep m 7 ++ y :: r0).length + 1) := hx.2.2.2.2.2.1.1
    show p_X5_oneIsOver_L0b 411 (fun μ => K μ) x Q
    unfold p_X5_oneIsOver_L0b
    refine mc_top hx rfl (by omega) ?_
    rw [if_pos (show nI 7 = 7 from rfl)]
    simp only [forall_eq, ml_uI, h21, show (nI ((rep m 7 ++ y :: r0).length + 1) - 1 : Int32) = nI (rep m 7 ++ y :: r0).length from pk_sub (b := 1) (by omega)]
    have p1 := mc_pop hx (x := (7, 0)) rfl
    have h20' := p1.2.2.2.2.2.2.2.2.2.2.1
    rw [h20', show (nI (op - i) - 1 : Int32) = nI (op - i - 1) from pk_sub (b := 1) (by omega)]
    have op8 := h.2.2.2.2.2.2.2.2.2.2.2
    refine mc_emits (mc_op p1 (s := op - i - 1) (by omega)) (by rw [List.length_append, List.length_replicate]; omega) fun ν' h' => hK ν' ?_
    rw [show k - (i + 1) = m by omega, show op - (i + 1) = op - i - 1 by omega, show os ++ repO (i + 1) 402 = os ++ repO i 402 ++ [(402, 0)] by rw [List.append_assoc, ← List.replicate_succ']]
    exact h'
  · rw [Nat.sub_self, show rep 0 7 ++ y :: r0 = y :: r0 from rfl] at hx
    have hlen : r0.length < 40 := by
      rw [List.length_append, List.length_cons] at hb
      omega
    have y10 := hx.2.2.2.2.2.1.2.2.1
    show p_X5_oneIsOver_L0b 411 (fun μ => K μ) x Q
    unfold p_X5_oneIsOver_L0b
    refine mc_top hx rfl hlen ?_
    rw [if_neg (show ¬ nI y.1 = 7 from fun e => hy ((nI_eq (b := 7) (by omega) (by decide)).mp e))]
    simp only [forall_eq, ml_uI]
    exact hQ _ (mc_st hx (s := 2) (by decide))
theorem mW_12 : ∀ t, t < 24 → (12 ≤ t → mW t = t) ∧ (t < 12 → mW t < 12) := by decide
theorem may_c : ∀ n, n < 12 → ((8 : Int32) ≤ nI n ↔ 8 ≤ n) ∧ ((4 : Int32) ≤ nI n ↔ 4 ≤ n) ∧ (nI n ≤ 6 ↔ n ≤ 6) := by decide
theorem mc_may {n : Nat} (hn : n < 12) (hk : kd ≤ 2) {μ : fw_M} {Q : Int32 → fw_M → Prop} : p_X5_mayName (nI n) (nI kd) μ Q = Q (if mayN n kd = true then 1 else 0) μ := by
  obtain ⟨c8, c4, c6⟩ := may_c n hn
  unfold p_X5_mayName
  have hkd : kd = 0 ∨ kd = 1 ∨ kd = 2 := by omega
  rcases hkd with rfl | rfl | rfl
  · have e : mayN n 0 = decide (n < 8) := rfl
    rw [if_pos (show nI 0 = 0 from rfl), e]
    by_cases c : n < 8
    · rw [if_neg (show ¬ (8 : Int32) ≤ nI n from fun h => by have := c8.mp h; omega), decide_eq_true c, if_pos rfl]
    · rw [if_pos (c8.mpr (by omega)), decide_eq_false c, if_neg Bool.false_ne_true]
  · have e : mayN n 1 = decide (n < 4) := rfl
    rw [if_neg (show ¬ nI 1 = 0 by decide), if_pos (show nI 1 = 1 from rfl), e]
    by_cases c : n < 4
    · rw [if_neg (show ¬ (4 : Int32) ≤ nI n from fun h => by have := c4.mp h; omega), decide_eq_true c, if_pos rfl]
    · rw [if_pos (c4.mpr (by omega)), decide_eq_false c, if_neg Bool.false_ne_true]
  · have e : mayN n 2 = (decide (6 < n) && decide (n < 12)) := rfl
    rw [if_neg (show ¬ nI 2 = 0 by decide), if_neg (show ¬ nI 2 = 1 by decide), e, decide_eq_true hn, Bool.and_true]
    by_cases c : 6 < n
    · rw [if_neg (show ¬ nI n ≤ 6 from fun h => by have := c6.mp h; omega), decide_eq_true c, if_pos rfl]
    · rw [if_pos (c6.mpr (by omega)), decide_eq_false c, if_neg Bool.false_ne_true]
/-- a number or a name -/
theorem g_leaf {x : Tok} {r : List Tok} {y : Nat × Nat} {r0 : List (Nat × Nat)} (hy : y.1 ≠ 7) {k : Nat} (hk : k ≤ op) (hb : (rep k 7 ++ y :: r0).length < 40) (ho : os.length + 1 + k ≤ 400) (hkd : kd ≤ 2) {o : PO}
    (hx : (x.1 = 2 ∧ x.2.1 ≤ 9999 ∧ o = (400, nI x.2.1)) ∨ (x.1 = 1 ∧ 12 ≤ x.2.1 ∧ mayN (x.2.1 - 12) kd = true ∧ o = (401, nI (x.2.1 - 12)))) :
    go Q (fun ν => mc b N ν0 ν (x :: r) 1 (rep k 7 ++ y :: r0) ws os cl nc kd op) (fun ν => mc b N ν0 ν r 2 (y :: r0) ws (os ++ [o] ++ repO k 402) cl nc kd (op - k)) := by
  refine go_1 fun ν K h hK => lb_1 h ?_
  obtain ⟨t4, -, a', T⟩ := mc_mT h rfl
  have x0 : x.1 ≠ 0 := by omega
  unfold p_X5_begins
  rcases hx with ⟨h1, h2, rfl⟩ | ⟨h1, h2, h3, rfl⟩
  · obtain ⟨v, v1, v2, v3⟩ := T.2.2.2.2.1 h1
    have vt : v = x.2.1 := by omega
    rw [vt] at v2
    have h162 : m_I ν 411 16 = 2 := by rw [T.1 (by omega), h1]; rfl
    rw [if_pos h162, v2, if_pos (show nI x.2.1 ≤ 9999 from nI_le (b := 9999) h2 (by decide))]
    exact mc_emits h (by omega) fun ν1 h1 => mc_next h1 rfl x0 fun ν2 h2 => mc_oneOver hy hk hb (by rw [List.length_append]; show os.length + 1 + k ≤ 400; omega) h2 fun ν3 h3 => hK ν3 h3
  · obtain ⟨t24, h17⟩ := T.2.2.1 h1
    have m12 := (mW_12 _ t24).1 h2
    have h29 := h.2.2.2.2.2.2.2.2.2.1.1
    rw [m12] at h17
    have h161 : m_I ν 411 16 = 1 := by rw [T.1 (by omega), h1]; rfl
    rw [if_neg (show ¬ m_I ν 411 16 = 2 by rw [h161]; decide), if_pos h161, h17, if_neg (show ¬ nI x.2.1 ≤ 11 from nI_ge (a := 11) (b := x.2.1) (by omega) (by omega))]
    rintro _ rfl
    rw [show (nI x.2.1 - 11 - 1 : Int32) = nI (x.2.1 - 12) by rw [show (nI x.2.1 - 11 : Int32) = nI (x.2.1 - 11) from pk_sub (b := 11) (by omega), show (nI (x.2.1 - 11) - 1 : Int32) = nI (x.2.1 - 11 - 1) from pk_sub (b := 1) (by omega)]; congr 1, h29, mc_may (by omega) hkd, if_pos h3, if_neg (by decide)]
    exact mc_emits h (by omega) fun ν1 h1 => mc_next h1 rfl x0 fun ν2 h2 => mc_oneOver hy hk hb (by rw [List.length_append]; show os.length + 1 + k ≤ 400; omega) h2 fun ν3 h3 => hK ν3 h3
end GO
