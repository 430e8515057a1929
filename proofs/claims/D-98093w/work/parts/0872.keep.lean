/-! plain law: what keeps the texts' laws -/
/-- nothing changes at the trees' places, nor in the reference's rows of texts, nor in the class's row of laws -/
def kp_tr (μ μ' : fw_M) : Prop := sk_m μ' ∧ m_x μ ≤ m_x μ' ∧ m_P μ' 391 = m_P μ 391 ∧ (∀ p, 441 ≤ p → p < m_x μ → m_S μ' p = m_S μ p ∧ m_I μ' p = m_I μ p ∧ m_P μ' p = m_P μ p) ∧ ∀ q, 415 ≤ q → q ≤ 421 → m_I μ' q = m_I μ q
theorem kp_sumX {μ μ' : fw_M} {r d : Nat} {F : (Nat → Int32) → Int64} (h : iv_S μ r d F) (g : iv_ext μ μ') : iv_S μ' r d F := h.ext g
theorem kp_law {μ μ' : fw_M} {t : Nat} (h : iv_law μ t) (g : kp_tr μ μ') (gx : iv_ext μ μ') : iv_law μ' t := by
  obtain ⟨l, sp, lp, cl, h1, h2, h3, h4, h5, h6, h7, h8, h9, h10, h11, h12, h13, h14, h15, hs, hg, hl⟩ := h
  obtain ⟨g1, g2, g3, g4, g5⟩ := g
  obtain ⟨a1, a2, a3⟩ := g4 l h2 h3
  obtain ⟨b1, b2, b3⟩ := g4 sp h6 h7
  obtain ⟨c1, c2, c3⟩ := g4 lp h10 h11
  have e15 := g5 415 (by decide) (by decide)
  have e16 := g5 416 (by decide) (by decide)
  have e17 := g5 417 (by decide) (by decide)
  have e18 := g5 418 (by decide) (by decide)
  have e19 := g5 419 (by decide) (by decide)
  have e20 := g5 420 (by decide) (by decide)
  have e21 := g5 421 (by decide) (by decide)
  refine ⟨l, sp, lp, cl, by rw [g3]; exact h1, h2, by omega, a1.trans h4, by rw [a3]; exact h5, h6, by omega, b1.trans h8, by rw [a3]; exact h9, h10, by omega, c1.trans h12, h13, by rw [a2]; exact h14, by rw [e15]; exact h15, ?_, ?_, ?_⟩
  · intro q hq
    rw [b3, e16, e17, e20, e21]
    rcases hs q hq with h | ⟨k, fr, d, os, F, f1, f2, f3, f4, f5, f6, f7, f8, f9, fd, f10⟩
    · exact Or.inl h
    · exact Or.inr ⟨k, fr, d, os, F, f1, f2, f3, f4, f5, f6, f7, f8, f9, fd, f10.ext gx⟩
  · rw [a3, e16, e17, e20, e21]
    rcases hg with h | ⟨k, fr, d, os, F, f1, f2, f3, f4, f5, f6, f7, f8, f9, fd, f10⟩
    · exact Or.inl h
    · exact Or.inr ⟨k, fr, d, os, F, f1, f2, f3, f4, f5, f6, f7, f8, f9, fd, f10.ext gx⟩
  · intro k hk
    rw [c3, e16, e18, e19]
    rcases hl k hk with h | ⟨f1, f2, f3⟩
    · exact Or.inl h
    · obtain ⟨d1, d2, d3⟩ := g4 _ f1 f2
      refine Or.inr ⟨f1, by omega, ?_⟩
      rw [show m_K μ' (m_P μ lp k) = m_K μ (m_P μ lp k) from congrArg Prod.fst d1, d2]
      exact f3
/-- changes below the trees alone -/
theorem kp_low {μ μ' : fw_M} (h : sk_m μ') (hx : m_x μ' = m_x μ) (h0 : ∀ p, 441 ≤ p → m_S μ' p = m_S μ p ∧ m_I μ' p = m_I μ p ∧ m_P μ' p = m_P μ p) : iv_ext μ μ' := ⟨h, Nat.le_of_eq hx.symm, fun p h1 _ _ _ => h0 p h1⟩
