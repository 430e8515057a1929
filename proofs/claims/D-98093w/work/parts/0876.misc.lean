/-! plain law: operations on the objects' own ints -/
/-- changes in the ints of the two objects alone -/
theorem kp_inv {L : Nat} {xs : Nat → Int32} {z : Nat → Nat} {μ μ' : fw_M} (hI : iv_inv L xs z μ) (hS : m_S μ' = m_S μ) (hP : m_P μ' = m_P μ) (hx : m_x μ' = m_x μ) (h : ∀ p, p ≠ 64 → p ≠ 411 → p ≠ 397 → p ≠ 414 → m_I μ' p = m_I μ p) (ht : ∀ tp, iv_tape μ tp → ∃ tp', iv_tape μ' tp') : iv_inv L xs z μ' := by
  obtain ⟨hs, ho, h3, n, tx, st, te, tl, ns, nd, n', tx', st', te', tl', ns', nd', tp, hC, hC', hT, hTp⟩ := hI
  have hs' : sk_m μ' := by
    unfold sk_m at hs ⊢
    rw [hS, hP, hx]
    exact hs
  obtain ⟨tp', ht'⟩ := ht tp hTp
  have gx : iv_ext μ μ' := ⟨hs', Nat.le_of_eq hx.symm, fun p p1 _ _ _ => ⟨by rw [hS], h p (by omega) (by omega) (by omega) (by omega), by rw [hP]⟩⟩
  refine ⟨hs', fun p hp => ?_, by rw [h 392 (by decide) (by decide) (by decide) (by decide)]; exact h3, n, tx, st, te, tl, ns, nd, n', tx', st', te', tl', ns', nd', tp', ?_, ?_, fun t ht => kp_law (hT t ht) ⟨hs', Nat.le_of_eq hx.symm, by rw [hP], fun p p1 _ => ⟨by rw [hS], h p (by omega) (by omega) (by omega) (by omega), by rw [hP]⟩, fun q q1 q2 => h q (by omega) (by omega) (by omega) (by omega)⟩ gx, ht'⟩
  · obtain ⟨a1, a2, a3⟩ := ho p hp
    exact ⟨by rw [hS]; exact a1, by rw [h p (by omega) (by omega) (by omega) (by omega)]; exact a2, by rw [hP]; exact a3⟩
  · rw [h 412 (by decide) (by decide) (by decide) (by decide)]
    exact kp_C hC (fun k hk => sk_s65 hs hk) (fun p p1 p2 => h p (by omega) (by omega) (by omega) (by omega)) (by rw [hP])
  · rw [h 413 (by decide) (by decide) (by decide) (by decide)]
    exact kp_C hC' (fun k hk => sk_s228 hs hk) (fun p p1 p2 => h p (by omega) (by omega) (by omega) (by omega)) (by rw [hP])
theorem op_end (a0 : Int32) : iv_op2 (α := Int32) (fun μ Q => p_X0_end 64 a0 μ Q) (fun μ Q => p_X5_end 411 a0 μ Q) := by
  intro L xs z μ hI Qs H
  obtain ⟨hs, -, -, n, tx, st, te, tl, ns, nd, n', tx', st', te', tl', ns', nd', tp, -, -, -, t0, t1, t2, t3, t4, t5, t6⟩ := id hI
  have k1 := sk_k64 hs
  have k2 := sk_k411 hs
  by_cases c : inB a0 0 (nI tp)
  · obtain ⟨k, -, h2, rfl⟩ := inB_nI (lo := 0) (hi := tp) c (by decide) (by omega)
    have a : p_X0_end 64 (nI k) μ Qs = Qs (nI k) (m_sI μ 64 (ml_u (m_I μ 64) 6 (nI k))) := by
      simp only [p_X0_end, s_in, t1, if_pos c, e10, if_false, forall_eq, ml_uI]
    show p_X0_end 64 (nI k) μ Qs
    rw [a]
    refine H _ _ ⟨rfl, ml_In (by decide), k1, k2⟩ (fun Qm hQ => ?_)
    have e : m_I (m_sI μ 64 (ml_u (m_I μ 64) 6 (nI k))) 411 = m_I μ 411 := ml_In (by decide)
    have b : p_X5_end 411 (nI k) (m_sI μ 64 (ml_u (m_I μ 64) 6 (nI k))) Qm = Qm (nI k) (m_sI (m_sI μ 64 (ml_u (m_I μ 64) 6 (nI k))) 411 (ml_u (m_I μ 411) 3 (nI k))) := by
      simp only [p_X5_end, m_in, e, t2, if_pos c, e10, if_false, forall_eq, ml_uI]
    show p_X5_end 411 (nI k) _ Qm
    rw [b]
    refine hQ _ (kp_inv hI rfl rfl rfl (fun p p1 p2 _ _ => by rw [ml_In p2, ml_In p1]) (fun tp9 ht => ⟨k, ?_⟩)) ⟨rfl, by rw [ml_In (by decide), ml_In (by decide)], k1, k2⟩
    refine ⟨by omega, ?_, ?_, fun i hi => ?_, fun i hi => ?_, ?_, ?_⟩
    · rw [ml_In (by decide), ml_Is]; exact ml_us
    · rw [ml_Is]; exact ml_us
    · rw [ml_In (by decide), ml_In (by decide), ml_In (by decide), ml_In (by decide)]; exact t3 i (by omega)
    · rw [ml_In (by decide), ml_In (by decide)]; exact t4 i hi
    · rw [ml_In (by decide), ml_Is, ml_Is, ml_un (by decide), ml_un (by decide)]; exact t5
    · rw [ml_In (by decide), ml_Is, ml_Is, ml_un (by decide), ml_un (by decide)]; exact t6
  · have a : p_X0_end 64 a0 μ Qs = Qs (-1) μ := by
      simp only [p_X0_end, s_in, t1, if_neg c, e00, if_true]
    show p_X0_end 64 a0 μ Qs
    rw [a]
    refine H _ _ (iv_scr.rf hI) (fun Qm hQ => ?_)
    have b : p_X5_end 411 a0 μ Qm = Qm (-1) μ := by
      simp only [p_X5_end, m_in, t2, if_neg c, e00, if_true]
    show p_X5_end 411 a0 μ Qm
    rw [b]
    exact hQ _ hI (iv_scr.rf hI)
