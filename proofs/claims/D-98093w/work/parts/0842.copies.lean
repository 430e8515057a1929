/-! plain law: the reference's copy of all, there and back -/
theorem m_cp1 {μ : fw_M} (h0 : m_P μ 411 0 = 412) (h1 : m_P μ 411 1 = 413) (k0 : m_K μ 412 = 100) (n0 : m_N μ 412 = 11120) (k1 : m_K μ 413 = 100) (n1 : m_N μ 413 = 11120) {Q : fw_M → Prop}
    (hQ : Q (m_sI μ 413 (fun j => if j < 11120 then m_I μ 412 j else m_I μ 413 j))) : p_X5_copies 411 1 μ Q := by
  unfold p_X5_copies
  refine r_X5_copies_L2 (I := fun i ν => ∃ k, k ≤ 11120 ∧ i = nI k ∧ ν = m_sI μ 413 (fun j => if j < k then m_I μ 412 j else m_I μ 413 j)) (v := fun i _ => 11120 - i.toNatClampNeg) ?_ 0 μ ⟨0, by omega, rfl, ?_⟩
  · intro k i ν hI hk
    obtain ⟨c, hc, rfl, rfl⟩ := hI
    unfold p_X5_copies_L2b
    by_cases e : c = 11120
    · rw [if_pos (show (11120 : Int32) ≤ nI c from nI_le (a := 11120) (by omega) (by omega))]
      subst e
      exact hQ
    · rw [if_neg (show ¬ (11120 : Int32) ≤ nI c from nI_ge (b := 11120) (by omega) (by decide)), if_neg (show ¬ (1 : Int32) = 0 by decide)]
      have v : vp_in (nI c) 11120 := vp_in_nI (by omega) (by decide)
      simp only [ml_PI, ml_KI, ml_NI, h0, h1, k0, n0, k1, n1, v, true_and, forall_eq]
      refine hk _ _ ⟨c + 1, by omega, nI_1 c, ?_⟩ ?_
      · rw [ml_uI, nI_clamp (by omega), ml_Is, ml_In (by decide)]
        unfold m_sI
        refine congrArg (fun x => (x, μ.2)) ?_
        funext q
        by_cases hq : q = 413
        · simp only [if_pos hq]
          funext j
          unfold ml_u
          by_cases hj : j = c
          · rw [if_pos hj, if_pos (by omega), hj]
          · rw [if_neg hj]
            dsimp only
            by_cases hj2 : j < c
            · rw [if_pos hj2, if_pos (by omega)]
            · rw [if_neg hj2, if_neg (by omega)]
        · simp only [if_neg hq]
      · rw [nI_1, nI_clamp (by omega), nI_clamp (by omega)]
        omega
  · unfold m_sI
    refine Prod.ext ?_ rfl
    funext q
    by_cases hq : q = 413
    · simp only [if_pos hq]
      funext j
      rw [if_neg (by omega), hq]
      rfl
    · simp only [if_neg hq]
theorem m_cp0 {μ : fw_M} (h0 : m_P μ 411 0 = 412) (h1 : m_P μ 411 1 = 413) (k0 : m_K μ 412 = 100) (n0 : m_N μ 412 = 11120) (k1 : m_K μ 413 = 100) (n1 : m_N μ 413 = 11120) {Q : fw_M → Prop}
    (hQ : Q (m_sI μ 412 (fun j => if j < 11120 then m_I μ 413 j else m_I μ 412 j))) : p_X5_copies 411 0 μ Q := by
  unfold p_X5_copies
  refine r_X5_copies_L2 (I := fun i ν => ∃ k, k ≤ 11120 ∧ i = nI k ∧ ν = m_sI μ 412 (fun j => if j < k then m_I μ 413 j else m_I μ 412 j)) (v := fun i _ => 11120 - i.toNatClampNeg) ?_ 0 μ ⟨0, by omega, rfl, ?_⟩
  · intro k i ν hI hk
    obtain ⟨c, hc, rfl, rfl⟩ := hI
    unfold p_X5_copies_L2b
    by_cases e : c = 11120
    · rw [if_pos (show (11120 : Int32) ≤ nI c from nI_le (a := 11120) (by omega) (by omega))]
      subst e
      exact hQ
    · rw [if_neg (show ¬ (11120 : Int32) ≤ nI c from nI_ge (b := 11120) (by omega) (by decide)), if_pos rfl]
      have v : vp_in (nI c) 11120 := vp_in_nI (by omega) (by decide)
      simp only [ml_PI, ml_KI, ml_NI, h0, h1, k0, n0, k1, n1, v, true_and, forall_eq]
      refine hk _ _ ⟨c + 1, by omega, nI_1 c, ?_⟩ ?_
      · rw [ml_uI, nI_clamp (by omega), ml_Is, ml_In (by decide)]
        unfold m_sI
        refine congrArg (fun x => (x, μ.2)) ?_
        funext q
        by_cases hq : q = 412
        · simp only [if_pos hq]
          funext j
          unfold ml_u
          by_cases hj : j = c
          · rw [if_pos hj, if_pos (by omega), hj]
          · rw [if_neg hj]
            dsimp only
            by_cases hj2 : j < c
            · rw [if_pos hj2, if_pos (by omega)]
            · rw [if_neg hj2, if_neg (by omega)]
        · simp only [if_neg hq]
      · rw [nI_1, nI_clamp (by omega), nI_clamp (by omega)]
        omega
  · unfold m_sI
    refine Prod.ext ?_ rfl
    funext q
    by_cases hq : q = 412
    · simp only [if_pos hq]
      funext j
      rw [if_neg (by omega), hq]
      rfl
    · simp only [if_neg hq]
