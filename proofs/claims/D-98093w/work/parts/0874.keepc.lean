/-! plain law: what keeps a court -/
theorem kp_C {μ μ' : fw_M} {c : Nat} {a : Nat → Int32} {n tx st te tl ns nd : Nat} (h : iv_C μ c a n tx st te tl ns nd) (hs : ∀ k, k < 30 → c + 7 ≤ m_P μ (c + 6) k ∧ m_P μ (c + 6) k < c + 37)
    (hI : ∀ p, c ≤ p → p < c + 163 → m_I μ' p = m_I μ p) (hP : m_P μ' (c + 6) = m_P μ (c + 6)) : iv_C μ' c a n tx st te tl ns nd := by
  obtain ⟨hb, hE, hA, h2, hh, hrow, hrec, ⟨N, NS, ND, hst, hmono⟩, hte, htl, hte2, htl2⟩ := h
  have b1 : ns ≤ 60 := hrow.2.2.2.2.2.2.2.2.1
  have b2 : nd ≤ 30 := hrow.2.2.2.2.2.2.2.2.2.1
  obtain ⟨q1, q2, q3, q4, q5⟩ := hb
  have rec9 : ∀ a b : Nat, a ≤ ns → b ≤ nd → ∀ mr : Nat → Int32, iv_rec a b (fun i => m_I μ (c + 38 + i)) (fun i => m_I μ (c + 99 + i)) mr → iv_rec a b (fun i => m_I μ' (c + 38 + i)) (fun i => m_I μ' (c + 99 + i)) mr := by
    intro a b ha hb mr hr
    refine ⟨fun i hi j hj => ?_, fun i hi j hj => ?_⟩
    · show m_I μ' (c + 38 + i) j = _
      rw [hI (c + 38 + i) (by omega) (by omega)]
      exact hr.1 i hi j hj
    · show m_I μ' (c + 99 + i) j = _
      rw [hI (c + 99 + i) (by omega) (by omega)]
      exact hr.2 i hi j hj
  unfold iv_C
  rw [hI c (by omega) (by omega), hI (c + 1) (by omega) (by omega), hI (c + 2) (by omega) (by omega), hI (c + 3) (by omega) (by omega), hI (c + 4) (by omega) (by omega), hI (c + 5) (by omega) (by omega), hP]
  refine ⟨⟨q1, q2, q3, q4, q5⟩, hE, hA, h2, hh, hrow, rec9 ns nd (Nat.le_refl _) (Nat.le_refl _) _ hrec, ⟨N, NS, ND, fun k hk => ?_, hmono⟩, fun i hi j hj => ?_, fun i hi j hj => ?_, fun i hi => ?_, fun i hi => ?_⟩
  · obtain ⟨k1, k2, k3, k4, k5, k6⟩ := hst k hk
    have hk3 := hs k (by omega)
    refine ⟨k1, k2, k3, k4, ?_, rec9 _ _ k3 k4 _ k6⟩
    show iv_row _ _ _ (m_I μ' (m_P μ (c + 6) k)) _
    rw [hI _ (by omega) (by omega)]
    exact k5
  · show m_I μ' (c + 130 + i) j = _
    rw [hI (c + 130 + i) (by omega) (by omega)]
    exact hte i hi j hj
  · show m_I μ' (c + 143 + i) j = _
    rw [hI (c + 143 + i) (by omega) (by omega)]
    exact htl i hi j hj
  · show (∃ x, x ≤ 40 ∧ m_I μ' (c + 130 + i) 0 = nI x - 20) ∧ inB (m_I μ' (c + 130 + i) 1) (-1) 1
    rw [hI (c + 130 + i) (by omega) (by omega)]
    exact hte2 i hi
  · show (∃ x, x < 9 ∧ m_I μ' (c + 143 + i) 0 = nI x) ∧ ∃ x, 1 ≤ x ∧ x ≤ 999 ∧ m_I μ' (c + 143 + i) 1 = nI x
    rw [hI (c + 143 + i) (by omega) (by omega)]
    exact htl2 i hi
