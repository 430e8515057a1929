/-! plain law: leaves, and the operations that rest on them alone -/
theorem e10 : ((1 : Int32) = 0) = False := eq_false (by decide)
theorem e00 : ((0 : Int32) = 0) = True := eq_true rfl
theorem s_in {a b c : Int32} {μ : fw_M} {Q : Int32 → fw_M → Prop} : p_X0_in a b c μ Q = if inB a b c then Q 1 μ else Q 0 μ := by
  unfold p_X0_in
  by_cases h : a < b
  · rw [if_pos h, if_neg (fun q => q.1 h)]
  by_cases g : c < a
  · rw [if_neg h, if_pos g, if_neg (fun q => q.2 g)]
  rw [if_neg h, if_neg g, if_pos ⟨h, g⟩]
theorem m_in {a b c : Int32} {μ : fw_M} {Q : Int32 → fw_M → Prop} : p_X5_in a b c μ Q = if inB a b c then Q 1 μ else Q 0 μ := by
  unfold p_X5_in
  by_cases h : a < b
  · simp only [if_pos h, if_neg (show ¬ inB a b c from fun q => q.1 h)]
  by_cases g : c < a
  · simp only [if_neg h, if_pos g, if_neg (show ¬ inB a b c from fun q => q.2 g)]
  simp only [if_neg h, if_neg g, if_pos (show inB a b c from ⟨h, g⟩)]
theorem iv_scr.rf {L : Nat} {xs : Nat → Int32} {z : Nat → Nat} {μ : fw_M} (h : iv_inv L xs z μ) : iv_scr μ μ := ⟨rfl, rfl, sk_k64 h.1, sk_k411 h.1⟩
/-- an operation that changes nothing -/
theorem op_ro {α : Type} {A B : fw_M → (α → fw_M → Prop) → Prop} (h : ∀ (L : Nat) (xs : Nat → Int32) (z : Nat → Nat) (μ : fw_M), iv_inv L xs z μ → ∃ v : α, (∀ Q : α → fw_M → Prop, Q v μ → A μ Q) ∧ ∀ Q : α → fw_M → Prop, Q v μ → B μ Q) : iv_op2 A B := by
  intro L xs z μ hI Qs H
  obtain ⟨v, ha, hb⟩ := h L xs z μ hI
  exact ha Qs (H v μ (iv_scr.rf hI) fun Qm hQ => hb Qm (hQ μ hI (iv_scr.rf hI)))
theorem op_fault (a0 : Int32) : iv_op2 (α := Int32) (fun μ Q => p_X0_fault 64 a0 μ Q) (fun μ Q => p_X5_fault 411 a0 μ Q) := by
  refine op_ro fun L xs z μ hI => ?_
  obtain ⟨-, -, -, n, tx, st, te, tl, ns, nd, n', tx', st', te', tl', ns', nd', tp, -, -, -, -, -, -, -, -, f1, f2⟩ := hI
  by_cases c : a0 = 0
  · exact ⟨m_I μ 64 7, fun Q h => by unfold p_X0_fault; rw [if_pos c]; exact h, fun Q h => by unfold p_X5_fault; rw [if_pos c, ← f1]; exact h⟩
  by_cases d : a0 = 1
  · exact ⟨m_I μ 64 8, fun Q h => by unfold p_X0_fault; rw [if_neg c, if_pos d]; exact h, fun Q h => by unfold p_X5_fault; rw [if_neg c, if_pos d, ← f2]; exact h⟩
  · exact ⟨-1, fun Q h => by unfold p_X0_fault; rw [if_neg c, if_neg d]; exact h, fun Q h => by unfold p_X5_fault; rw [if_neg c, if_neg d]; exact h⟩
