/-! plain law: text, the machine: a clause's head -/
section CH
variable {b : Nat → Nat} {N : Nat} {ν0 ν : fw_M} {l : List Tok} {st : Nat} {fr ws : List (Nat × Nat)} {os : List PO} {cl : List CE} {nc kd op : Nat} {Q : Int32 → fw_M → Prop} {K : fw_M → Prop}
theorem mW_7 : ∀ t, t < 24 → (t < 7 → mW t = t) ∧ (7 ≤ t → 7 ≤ mW t) := by decide
def tolds (cl : List CE) (t : Nat) : Nat → Bool
  | 0 => false
  | i + 1 => tolds cl t i || decide ((cl.getD i (0, 0, 0, 0)).1 = t)
theorem mc_wasTold (h : mc b N ν0 ν l st fr ws os cl nc kd op) (hn : nc = cl.length) (h24 : nc ≤ 24) (hcl : ∀ i, i < nc → (cl.getD i (0, 0, 0, 0)).1 < 7) {t : Nat} (ht : t < 7) {Q : Int32 → fw_M → Prop} (hQ : Q (if tolds cl t nc = true then 1 else 0) ν) : p_X5_wasTold 411 (nI t) ν Q := by
  have gs := mc_sk h
  obtain ⟨-, -, -, -, -, -, -, -, h9, -, -⟩ := h
  unfold p_X5_wasTold p_X5_wasTold_L4
  refine lp_fn nc (fun i => ((if tolds cl t i = true then 1 else 0), nI i, ν)) (fun _ => True) (fun i hi _ K hK => ?_) (fun _ K => ?_) rfl trivial
  · have hK := hK trivial
    have e : tolds cl t (i + 1) = (tolds cl t i || decide ((cl.getD i (0, 0, 0, 0)).1 = t)) := rfl
    obtain ⟨w1, -⟩ := h9.2 i (by omega)
    have cw := hcl i hi
    show p_X5_wasTold_L4b 411 (nI t) (fun i2 i3 μ => K (i2, i3, μ)) (if tolds cl t i = true then 1 else 0) (nI i) ν Q
    unfold p_X5_wasTold_L4b
    rw [h9.1, if_neg (nI_ge hi (by omega))]
    by_cases c : tolds cl t i = true
    · rw [e, c, Bool.true_or] at hK
      rw [if_pos c, if_neg (by decide)]
      unfold p_X5_wasTold_L26
      simp only [forall_eq, nI_1]
      exact hK
    · rw [if_neg c, if_pos rfl]
      have c' : tolds cl t i = false := eq_false_of_ne_true c
      rw [e, c', Bool.false_or] at hK
      simp (disch := omega) only [sk_p411_0 gs, sk_p411_1 gs, sk_p411_2 gs, sk_p411_6 gs, sk_p411_7 gs, sk_p411_8 gs, sk_p411_9 gs, sk_p411_10 gs, sk_p411_11 gs, sk_p411_12 gs, sk_p411_22 gs, sk_p411_23 gs, sk_p411_25 gs, sk_p411_26 gs, sk_p411_30 gs, sk_p411_31 gs, sk_p411_32 gs, sk_p411_33 gs, sk_p411_35 gs, sk_p411_36 gs, sk_p411_37 gs, sk_p411_38 gs, sk_p411_39 gs, sk_p411_40 gs, sk_p411_42 gs, sk_p411_43 gs, sk_p411_44 gs, sk_p411_45 gs, sk_p411_46 gs, sk_k411 gs, sk_n411 gs, sk_k426 gs, sk_n426 gs, nI_clamp, vp_t, true_and, w1]
      by_cases d : (cl.getD i (0, 0, 0, 0)).1 = t
      · rw [decide_eq_true d] at hK
        rw [d, if_pos rfl]
        unfold p_X5_wasTold_L26
        simp only [forall_eq, nI_1]
        exact hK
      · rw [decide_eq_false d] at hK
        rw [if_neg (fun q => d ((nI_eq (by omega) (by omega)).mp q))]
        simp only [forall_eq, nI_1]
        exact hK
  · show p_X5_wasTold_L4b 411 (nI t) (fun i2 i3 μ => K (i2, i3, μ)) (if tolds cl t nc = true then 1 else 0) (nI nc) ν Q
    unfold p_X5_wasTold_L4b
    rw [h9.1, if_pos (nI_le (Nat.le_refl _) (by omega))]
    refine ⟨?_, hQ⟩
    by_cases c : tolds cl t nc = true
    · rw [if_pos c]; exact Or.inr rfl
    · rw [if_neg c]; exact Or.inl rfl
theorem mc_new (h : mc b N ν0 ν l st fr ws os cl nc kd op) (hn : nc = cl.length) (h24 : nc < 24) {Q : fw_M → Prop} (hQ : ∀ ν', mc b N ν0 ν' l st fr ws os (cl ++ [(kd, os.length, -1, -1)]) nc kd op → Q ν') : Q (m_sI (m_sI (m_sI (m_sI ν 426 (ml_u (m_I ν 426) nc (nI kd))) 427 (ml_u (m_I ν 427) nc (nI os.length))) 428 (ml_u (m_I ν 428) nc (-1))) 429 (ml_u (m_I ν 429) nc (-1))) := by
  obtain ⟨h1, h2, h3, h4, h5, h6, h7, h8, h9, h10, h11⟩ := id h
  have g : eqD (fun p j => 426 ≤ p ∧ p ≤ 429 ∧ j = nc) ν (m_sI (m_sI (m_sI (m_sI ν 426 (ml_u (m_I ν 426) nc (nI kd))) 427 (ml_u (m_I ν 427) nc (nI os.length))) 428 (ml_u (m_I ν 428) nc (-1))) 429 (ml_u (m_I ν 429) nc (-1))) := by
    refine (((eqD.sI fun j hj => ml_un fun e => hj ⟨by decide, by decide, e⟩).tr (eqD.sI fun j hj => ?_)).tr (eqD.sI fun j hj => ?_)).tr (eqD.sI fun j hj => ?_)
    · rw [ml_un fun e => hj ⟨by decide, by decide, e⟩, ml_In (by decide)]
    · rw [ml_un fun e => hj ⟨by decide, by decide, e⟩, ml_In (by decide), ml_In (by decide)]
    · rw [ml_un fun e => hj ⟨by decide, by decide, e⟩, ml_In (by decide), ml_In (by decide), ml_In (by decide)]
  refine hQ _ (mc_set h g (fun p j q => by unfold DT; omega) (mc_t h4 g fun p j q => by omega) ⟨mc_1 h5.1 g (by omega), h5.2⟩ (mc_f h6 g fun p j q => by omega) (mc_w h7 g fun p j q => by omega) (mc_o h8 g fun p j q => by omega) ⟨mc_1 h9.1 g (by omega), fun i hi => ?_⟩ ⟨mc_1 h10.1 g (by omega), h10.2⟩ ⟨mc_1 h11.1 g (by omega), h11.2⟩)
  rw [List.length_append] at hi
  have hi' : i < cl.length + 1 := hi
  by_cases e : i = nc
  · subst e
    rw [hn, gx_eq]
    refine ⟨?_, ?_, ?_, ?_⟩
    · rw [ml_In (by decide), ml_In (by decide), ml_In (by decide), ml_Is, ml_us]
    · rw [ml_In (by decide), ml_In (by decide), ml_Is, ml_us]
    · rw [ml_In (by decide), ml_Is, ml_us]
    · rw [ml_Is, ml_us]
  · rw [gx_lt _ _ _ (by omega), g.2.2.2 426 i (by omega), g.2.2.2 427 i (by omega), g.2.2.2 428 i (by omega), g.2.2.2 429 i (by omega)]
    exact h9.2 i (by omega)
end CH
