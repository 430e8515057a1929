/-! plain law: text, the machine: a clause opens -/
section OP
variable {b : Nat → Nat} {N : Nat} {ν0 ν : fw_M} {l : List Tok} {os : List PO} {cl : List CE} {nc kd op : Nat} {Q : Int32 → fw_M → Prop} {K : fw_M → Prop}
theorem mc_73 {x : Tok} {r : List Tok} (hx : x.1 ≠ 0) {fr ws : List (Nat × Nat)} (hn : nc = cl.length) (h24 : nc < 24) (h : mc b N ν0 ν (x :: r) 4 fr ws os cl nc kd op) {Q : fw_M → Prop} (H : ∀ ν', mc b N ν0 ν' r 4 fr ws os (cl ++ [(kd, os.length, -1, -1)]) nc kd op → (if 2 < kd then (if kd = 6 then p_X5_number 411 1 40 ν' (fun v21 μ22 => p_X5_clause_L220 411 428 (nI nc) v21 μ22 Q) else if kd = 5 then p_X5_clause_L217 411 428 (nI nc) 411 0 1 ν' Q else p_X5_clause_L217 411 428 (nI nc) 411 0 8 ν' Q) else (if kd = 2 then p_X5_clause_L153 411 411 2 ν' Q else p_X5_clause_L153 411 411 1 ν' Q))) : p_X5_clause_L73 411 ν Q := by
  have gs := mc_sk h
  have h18 := h.2.2.1
  have h28 := h.2.2.2.2.2.2.2.2.1.1
  have h29 := h.2.2.2.2.2.2.2.2.2.1.1
  have h34 := h.2.2.2.2.2.2.2.1.1
  have kd7 := h.2.2.2.2.2.2.2.2.2.1.2
  unfold p_X5_clause_L73
  rw [h18, if_pos (show (0 : Int32) ≤ 0 by decide)]
  simp (disch := omega) only [sk_p411_0 gs, sk_p411_1 gs, sk_p411_2 gs, sk_p411_6 gs, sk_p411_7 gs, sk_p411_8 gs, sk_p411_9 gs, sk_p411_10 gs, sk_p411_11 gs, sk_p411_12 gs, sk_p411_22 gs, sk_p411_23 gs, sk_p411_25 gs, sk_p411_26 gs, sk_p411_30 gs, sk_p411_31 gs, sk_p411_32 gs, sk_p411_33 gs, sk_p411_35 gs, sk_p411_36 gs, sk_p411_37 gs, sk_p411_38 gs, sk_p411_39 gs, sk_p411_40 gs, sk_p411_42 gs, sk_p411_43 gs, sk_p411_44 gs, sk_p411_45 gs, sk_p411_46 gs, sk_k411 gs, sk_n411 gs, sk_k426 gs, sk_n426 gs, sk_k427 gs, sk_n427 gs, sk_k428 gs, sk_n428 gs, sk_k429 gs, sk_n429 gs, h28, h29, h34, nI_clamp, vp_t, true_and, forall_eq, ml_uI, ml_KI, ml_PI, ml_NI, ml_SI, ml_xI, ml_Is, ml_In, ml_us, ml_un, ml_cp, ml_ss]
  refine mc_new h hn h24 (Q := fun μ => p_X5_nextToken 411 μ _) fun ν1 h1 => mc_next h1 rfl hx fun ν2 h2 => ?_
  have gs2 := mc_sk h2
  have k28 := h2.2.2.2.2.2.2.2.2.1.1
  have k29 := h2.2.2.2.2.2.2.2.2.2.1.1
  have H2 := H ν2 h2
  simp only [k28, k29, sk_p411_0 gs2, sk_p411_1 gs2, sk_p411_2 gs2, sk_p411_6 gs2, sk_p411_7 gs2, sk_p411_8 gs2, sk_p411_9 gs2, sk_p411_10 gs2, sk_p411_11 gs2, sk_p411_12 gs2, sk_p411_22 gs2, sk_p411_23 gs2, sk_p411_25 gs2, sk_p411_26 gs2, sk_p411_30 gs2, sk_p411_31 gs2, sk_p411_32 gs2, sk_p411_33 gs2, sk_p411_35 gs2, sk_p411_36 gs2, sk_p411_37 gs2, sk_p411_38 gs2, sk_p411_39 gs2, sk_p411_40 gs2, sk_p411_42 gs2, sk_p411_43 gs2, sk_p411_44 gs2, sk_p411_45 gs2, sk_p411_46 gs2, sk_k411 gs2, sk_n411 gs2, sk_k428 gs2, sk_n428 gs2]
  by_cases c2 : 2 < kd
  · rw [if_pos c2] at H2
    rw [if_pos (show (2 : Int32) < nI kd from nI_lt (a := 2) c2 (by omega))]
    by_cases c6 : kd = 6
    · rw [if_pos c6] at H2
      rw [if_pos (show nI kd = 6 by rw [c6]; rfl)]
      exact H2
    · rw [if_neg c6] at H2
      rw [if_neg (show ¬ nI kd = 6 from fun e => c6 ((nI_eq (b := 6) (by omega) (by decide)).mp e))]
      by_cases c5 : kd = 5
      · rw [if_pos c5] at H2
        rw [if_pos (show nI kd = 5 by rw [c5]; rfl)]
        exact H2
      · rw [if_neg c5] at H2
        rw [if_neg (show ¬ nI kd = 5 from fun e => c5 ((nI_eq (b := 5) (by omega) (by decide)).mp e))]
        exact H2
  · rw [if_neg c2] at H2
    rw [if_neg (show ¬ (2 : Int32) < nI kd from nI_nlt (a := 2) (b := kd) (by omega) (by omega))]
    by_cases c : kd = 2
    · rw [if_pos c] at H2
      rw [if_pos (show nI kd = 2 by rw [c]; rfl)]
      exact H2
    · rw [if_neg c] at H2
      rw [if_neg (show ¬ nI kd = 2 from fun e => c ((nI_eq (b := 2) (by omega) (by decide)).mp e))]
      exact H2
theorem mc_153 {fr ws : List (Nat × Nat)} {f : Nat} (hf : f = 1 ∨ f = 2) (hb : fr.length < 40) (h : mc b N ν0 ν l 4 fr ws os cl nc kd op) {Q : fw_M → Prop} (hQ : ∀ ν', mc b N ν0 ν' l (if kd = 2 then 0 else 1) ((f, 0) :: fr) ws os cl nc kd op → Q ν') : p_X5_clause_L153 411 411 (nI f) ν Q := by
  unfold p_X5_clause_L153
  refine ⟨sk_k411 (mc_sk h), mc_push h (by omega) hb fun ν1 h1 => ?_⟩
  have k29 := h1.2.2.2.2.2.2.2.2.2.1
  rw [k29.1]
  by_cases c : kd = 2
  · rw [if_pos c] at hQ
    rw [if_pos (show nI kd = 2 by rw [c]; rfl)]
    simp only [forall_eq, ml_uI, show (0 : Int32) = nI 0 from rfl]
    exact hQ _ (mc_st h1 (s := 0) (by decide))
  · rw [if_neg c] at hQ
    rw [if_neg (show ¬ nI kd = 2 from fun e => c ((nI_eq (b := 2) (by omega) (by decide)).mp e))]
    simp only [forall_eq, ml_uI]
    exact hQ _ (mc_st h1 (s := 1) (by decide))
/-- a clause of a sum or of an asking opens -/
theorem g_opens {x : Tok} {r : List Tok} (hx : x.1 = 1 ∧ x.2.1 ≤ 2) (hn : nc = cl.length) (h24 : nc < 24) (hcl : ∀ i, i < nc → (cl.getD i (0, 0, 0, 0)).1 < 7) (hno : tolds cl x.2.1 nc = false) :
    go Q (fun ν => mc b N ν0 ν (x :: r) 4 [] [] os cl nc kd op) (fun ν => mc b N ν0 ν r (if x.2.1 = 2 then 0 else 1) [(if x.2.1 = 2 then 2 else 1, 0)] [] os (cl ++ [(x.2.1, os.length, -1, -1)]) nc x.2.1 op) := by
  refine go_1 fun ν K h hK => lb_head ⟨hx.1, by omega⟩ hn (by omega) hcl h (fun _ q => by rw [hno] at q; cases q) (fun _ q => by omega) fun _ _ ν1 h1 => mc_73 (by omega) hn h24 h1 fun ν2 h2 => ?_
  rw [if_neg (by omega)]
  by_cases c : x.2.1 = 2
  · rw [if_pos c] at hK ⊢
    rw [if_pos c] at hK
    exact mc_153 (f := 2) (Or.inr rfl) (by decide) h2 fun ν3 h3 => hK ν3 (by rw [if_pos c] at h3; exact h3)
  · rw [if_neg c] at hK ⊢
    rw [if_neg c] at hK
    exact mc_153 (f := 1) (Or.inl rfl) (by decide) h2 fun ν3 h3 => hK ν3 (by rw [if_neg c] at h3; exact h3)
end OP
