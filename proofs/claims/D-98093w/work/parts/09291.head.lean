/-! plain law: text, the machine: a clause's head, whole -/
section HD
variable {b : Nat → Nat} {N : Nat} {ν0 ν : fw_M} {l : List Tok} {os : List PO} {cl : List CE} {nc kd op : Nat} {Q : Int32 → fw_M → Prop} {K : fw_M → Prop}
theorem er.l73 {e : Nat × Nat} (h : er ν0 e ν) {Q : fw_M → Prop} (hQ : Q ν) : p_X5_clause_L73 411 ν Q := by
  have := h.2.2.2.2
  unfold p_X5_clause_L73
  rw [h.2.2.1, if_neg (nI_nle (by omega) (by omega))]
  exact hQ
/-- no head -/
theorem g_noHead {x : Tok} {r : List Tok} (hx : x.1 ≠ 0) (h1 : ¬ (x.1 = 1 ∧ x.2.1 < 7)) {fr ws : List (Nat × Nat)} :
    go Q (fun ν => mc b N ν0 ν (x :: r) 4 fr ws os cl nc kd op) (er ν0 (1, x.2.2)) := by
  refine go_1 fun ν K h hK => lb_4 h rfl hx ?_
  obtain ⟨t4, -, a', T⟩ := mc_mT h rfl
  have err : p_X5_clause_L17 411 ν fun μ => K μ := by
    unfold p_X5_clause_L17
    exact mc_errs h rfl (e := 1) (by decide) fun ν' h' => hK ν' h'
  unfold p_X5_clause
  by_cases c : x.1 = 1
  · obtain ⟨t24, h17⟩ := T.2.2.1 c
    have m7 := (mW_7 _ t24).2 (by omega)
    have m24 := mW_lt _ t24
    rw [if_pos (show m_I ν 411 16 = 1 by rw [T.1 (by omega), c]; rfl), h17, if_neg (show ¬ nI (mW x.2.1) ≤ 6 from nI_ge (a := 6) (b := mW x.2.1) (by omega) (by omega))]
    exact err
  · have n1 : ¬ m_I ν 411 16 = 1 := by
      by_cases q : x.1 = 4
      · rcases T.2.1 q with e | ⟨e, -⟩ <;> rw [e] <;> decide
      · rw [T.1 (by omega)]; exact fun e => c ((nI_eq (b := 1) (by omega) (by decide)).mp e)
    rw [if_neg n1]
    exact err
/-- a head: told before, too many, or the clause goes on -/
theorem lb_head {x : Tok} {r : List Tok} (hx : x.1 = 1 ∧ x.2.1 < 7) {fr ws : List (Nat × Nat)} (hn : nc = cl.length) (h24 : nc ≤ 24) (hcl : ∀ i, i < nc → (cl.getD i (0, 0, 0, 0)).1 < 7) (h : mc b N ν0 ν (x :: r) 4 fr ws os cl nc kd op) (H4 : x.2.1 ≤ 2 → tolds cl x.2.1 nc = true → ∀ ν', er ν0 (4, x.2.2) ν' → K ν') (H6 : ¬ (x.2.1 ≤ 2 ∧ tolds cl x.2.1 nc = true) → nc = 24 → ∀ ν', er ν0 (6, x.2.2) ν' → K ν') (H : ¬ (x.2.1 ≤ 2 ∧ tolds cl x.2.1 nc = true) → nc < 24 → ∀ ν', mc b N ν0 ν' (x :: r) 4 fr ws os cl nc x.2.1 op → p_X5_clause_L73 411 ν' fun μ => K μ) : LB Q K ν := by
  refine lb_4 h rfl (by omega) ?_
  obtain ⟨t4, -, a', T⟩ := mc_mT h rfl
  obtain ⟨t24, h17⟩ := T.2.2.1 hx.1
  rw [(mW_7 _ t24).1 hx.2] at h17
  have h28 := h.2.2.2.2.2.2.2.2.1.1
  unfold p_X5_clause
  rw [if_pos (show m_I ν 411 16 = 1 by rw [T.1 (by omega), hx.1]; rfl), h17, if_pos (show nI x.2.1 ≤ 6 from nI_le (b := 6) (by omega) (by decide))]
  rintro μ3 rfl
  rw [ml_uI]
  have hk := mc_kd h (s := x.2.1) hx.2
  have h29 := hk.2.2.2.2.2.2.2.2.2.1.1
  have L58 : ¬ (x.2.1 ≤ 2 ∧ tolds cl x.2.1 nc = true) → p_X5_clause_L58 411 (m_sI ν 411 (ml_u (m_I ν 411) 29 (nI x.2.1))) fun μ => K μ := by
    intro hno
    have k28 := hk.2.2.2.2.2.2.2.2.1.1
    unfold p_X5_clause_L58
    rw [k28]
    by_cases c : nc = 24
    · rw [c, if_pos (show nI 24 = 24 from rfl)]
      exact mc_errs hk rfl (e := 6) (by decide) fun ν' h' => h'.l73 (H6 hno c ν' h')
    · rw [if_neg (show ¬ nI nc = 24 from fun e => c ((nI_eq (b := 24) (by omega) (by decide)).mp e))]
      exact H hno (by omega) _ hk
  rw [h29]
  by_cases c : 2 < x.2.1
  · rw [if_pos (show (2 : Int32) < nI x.2.1 from nI_lt (a := 2) c (by omega))]
    exact L58 fun q => by omega
  · rw [if_neg (show ¬ (2 : Int32) < nI x.2.1 from nI_nlt (a := 2) (b := x.2.1) (by omega) (by omega))]
    refine mc_wasTold hk hn h24 hcl hx.2 ?_
    by_cases d : tolds cl x.2.1 nc = true
    · rw [if_pos d, if_neg (by decide)]
      exact mc_errs hk rfl (e := 4) (by decide) fun ν' h' => h'.l73 (H4 (by omega) d ν' h')
    · rw [if_neg d, if_pos rfl]
      exact L58 fun q => d q.2
end HD
