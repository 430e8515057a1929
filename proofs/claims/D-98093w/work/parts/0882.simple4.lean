/-! plain law: tested, tell -/
theorem inB_20 {a : Int32} (h : inB a (-20) 20) : ∃ x, x ≤ 40 ∧ a = nI x - 20 := by
  obtain ⟨h1, h2⟩ := h
  have e1 : (-20 : Int32).toInt = -20 := by decide
  have e2 : (20 : Int32).toInt = 20 := by decide
  rw [Int32.lt_iff_toInt_lt, e1] at h1
  rw [Int32.lt_iff_toInt_lt, e2] at h2
  refine ⟨(a.toInt + 20).toNat, by omega, ?_⟩
  have e : (nI (a.toInt + 20).toNat - 20).toInt = ((a.toInt + 20).toNat : Int) - 20 := pk_sub_toInt (b := 20) (by omega) (by decide)
  rw [← Int32.toInt_inj, e]
  omega
theorem op_tested (a0 a1 : Int32) : iv_op2 (α := Int32) (fun μ Q => p_X0_tested 64 a0 a1 μ Q) (fun μ Q => p_X5_tested 411 a0 a1 μ Q) := by
  intro L xs z μ hI Qs H
  have hs := hI.1
  obtain ⟨-, -, -, n, tx, st, te, tl, ns, nd, n', tx', st', te', tl', ns', nd', tp, hC, -⟩ := id hI
  obtain ⟨⟨q1, q2, q3, q4, q5⟩, ⟨E0, E1, E2, E3, E4, E5⟩, ⟨A0, A1, A3, A4, A5⟩, -⟩ := id hC
  by_cases c1 : inB a0 (-20) 20
  rotate_left
  · have a : p_X0_tested 64 a0 a1 μ Qs = Qs (-1) μ := by simp only [p_X0_tested, s_in, if_neg c1, e00, if_true]
    show p_X0_tested 64 a0 a1 μ Qs
    rw [a]
    refine H _ _ (iv_scr.rf hI) (fun Qm hQ => ?_)
    have b : p_X5_tested 411 a0 a1 μ Qm = Qm (-1) μ := by simp only [p_X5_tested, m_in, if_neg c1, e00, if_true]
    show p_X5_tested 411 a0 a1 μ Qm
    rw [b]
    exact hQ _ hI (iv_scr.rf hI)
  by_cases c2 : inB a1 (-1) 1
  rotate_left
  · have a : p_X0_tested 64 a0 a1 μ Qs = Qs (-1) μ := by simp only [p_X0_tested, s_in, if_pos c1, if_neg c2, e10, e00, if_true, if_false]
    show p_X0_tested 64 a0 a1 μ Qs
    rw [a]
    refine H _ _ (iv_scr.rf hI) (fun Qm hQ => ?_)
    have b : p_X5_tested 411 a0 a1 μ Qm = Qm (-1) μ := by simp only [p_X5_tested, m_in, if_pos c1, if_neg c2, e10, e00, if_true, if_false]
    show p_X5_tested 411 a0 a1 μ Qm
    rw [b]
    exact hQ _ hI (iv_scr.rf hI)
  by_cases c3 : te = 12
  · subst c3
    have a : p_X0_tested 64 a0 a1 μ Qs = Qs (-1) μ := by
      simp only [p_X0_tested, s_in, if_pos c1, if_pos c2, e10, if_false, sk_p64_0 hs, sk_p64_1 hs, sk_p64_2 hs, sk_p64_3 hs, sk_p64_4 hs, sk_p64_5 hs, sk_p64_9 hs, sk_p64_10 hs, sk_p64_11 hs, sk_p65_6 hs, sk_p65_7 hs, sk_p65_8 hs, sk_p65_9 hs, sk_p65_10 hs, sk_p65_11 hs, sk_p65_12 hs, sk_p65_13 hs, sk_p65_14 hs, sk_p65_15 hs, sk_k64 hs, sk_n64 hs, sk_k65 hs, sk_n65 hs, true_and, E4]
      exact if_pos rfl
    show p_X0_tested 64 a0 a1 μ Qs
    rw [a]
    refine H _ _ (iv_scr.rf hI) (fun Qm hQ => ?_)
    have b : p_X5_tested 411 a0 a1 μ Qm = Qm (-1) μ := by
      simp only [p_X5_tested, m_in, if_pos c1, if_pos c2, e10, if_false, sk_p411_0 hs, sk_p411_1 hs, sk_p411_2 hs, sk_p411_6 hs, sk_p411_7 hs, sk_p411_8 hs, sk_p411_9 hs, sk_p411_10 hs, sk_p411_11 hs, sk_p411_12 hs, sk_p411_22 hs, sk_p411_23 hs, sk_p411_25 hs, sk_p411_26 hs, sk_p411_30 hs, sk_p411_31 hs, sk_p411_32 hs, sk_p411_33 hs, sk_p411_35 hs, sk_p411_36 hs, sk_p411_37 hs, sk_p411_38 hs, sk_p411_39 hs, sk_p411_40 hs, sk_p411_42 hs, sk_p411_43 hs, sk_p411_44 hs, sk_p411_45 hs, sk_p411_46 hs, sk_k411 hs, sk_n411 hs, sk_k412 hs, sk_n412 hs, cl4, vp4_11120, true_and, A4]
      exact if_pos rfl
    show p_X5_tested 411 a0 a1 μ Qm
    rw [b]
    exact hQ _ hI (iv_scr.rf hI)
  have q := sk_q195 hs (p := 195 + te) (by omega) (by omega)
  have c4 : ¬ nI te = 12 := fun h => c3 ((nI_eq (b := 12) (by omega) (by decide)).mp h)
  have a : p_X0_tested 64 a0 a1 μ Qs = Qs (nI (te + 1)) (m_sI (m_sI μ (195 + te) (ml_u (ml_u (m_I μ (195 + te)) 0 a0) 1 a1)) 65 (ml_u (m_I μ 65) 4 (nI (te + 1)))) := by
    simp only [p_X0_tested, s_in, if_pos c1, if_pos c2, e10, if_false, sk_p64_0 hs, sk_p64_1 hs, sk_p64_2 hs, sk_p64_3 hs, sk_p64_4 hs, sk_p64_5 hs, sk_p64_9 hs, sk_p64_10 hs, sk_p64_11 hs, sk_p65_6 hs, sk_p65_7 hs, sk_p65_8 hs, sk_p65_9 hs, sk_p65_10 hs, sk_p65_11 hs, sk_p65_12 hs, sk_p65_13 hs, sk_p65_14 hs, sk_p65_15 hs, sk_k64 hs, sk_n64 hs, sk_k65 hs, sk_n65 hs, true_and, E4, if_neg c4]
    simp (disch := omega) only [li_0, li_1, li_2, li_3, li_4, li_5, li_6, li_7, li_8, li_9, li_10, li_11, li_12, li_13, li_14, li_15, li_19, li_20, li_21, li_22, li_23, li_24, li_25, li_26, li_29, li_30, li_39, li_40, li_48, li_57, li_60, li_64, li_65, li_90, li_97, li_99, li_100, li_101, li_110, li_111, li_112, li_113, li_114, li_122, li_123, li_132, li_133, li_181, li_255, li_264, li_300, li_301, li_355, li_373, li_374, li_400, li_401, li_402, li_405, li_406, li_407, li_408, li_464, li_470, li_999, li_1600, li_9999, li_10765, li_30029, li_ofN, pk_mul, nI_add, nI_clamp, vp_t, nI_leI, nI_ltI, nI_eq, ml_uI, ml_KI, ml_PI, ml_NI, ml_SI, ml_xI, ml_Is, ml_In, ml_us, ml_un, ml_cp, ml_ss, sk_p64_0 hs, sk_p64_1 hs, sk_p64_2 hs, sk_p64_3 hs, sk_p64_4 hs, sk_p64_5 hs, sk_p64_9 hs, sk_p64_10 hs, sk_p64_11 hs, sk_p65_6 hs, sk_p65_7 hs, sk_p65_8 hs, sk_p65_9 hs, sk_p65_10 hs, sk_p65_11 hs, sk_p65_12 hs, sk_p65_13 hs, sk_p65_14 hs, sk_p65_15 hs, sk_k64 hs, sk_n64 hs, sk_k65 hs, sk_n65 hs, sk_k194 hs, sk_n194 hs, q.1, q.2, sk_r194 hs, E4, true_and, forall_eq]
  show p_X0_tested 64 a0 a1 μ Qs
  rw [a]
  refine H _ _ ⟨rfl, by rw [ml_In (by decide), ml_In (by omega)], sk_k64 hs, sk_k411 hs⟩ (fun Qm hQ => ?_)
  have g1 : ∀ p, p ≠ 195 + te → p ≠ 65 → m_I (m_sI (m_sI μ (195 + te) (ml_u (ml_u (m_I μ (195 + te)) 0 a0) 1 a1)) 65 (ml_u (m_I μ 65) 4 (nI (te + 1)))) p = m_I μ p := fun p p1 p2 => by rw [ml_In p2, ml_In p1]
  have g2 : m_I (m_sI (m_sI μ (195 + te) (ml_u (ml_u (m_I μ (195 + te)) 0 a0) 1 a1)) 65 (ml_u (m_I μ 65) 4 (nI (te + 1)))) 65 = ml_u (m_I μ 65) 4 (nI (te + 1)) := ml_Is
  have g3 : m_I (m_sI (m_sI μ (195 + te) (ml_u (ml_u (m_I μ (195 + te)) 0 a0) 1 a1)) 65 (ml_u (m_I μ 65) 4 (nI (te + 1)))) (195 + te) = ml_u (ml_u (m_I μ (195 + te)) 0 a0) 1 a1 := by rw [ml_In (by omega), ml_Is]
  have gs : sk_m (m_sI (m_sI μ (195 + te) (ml_u (ml_u (m_I μ (195 + te)) 0 a0) 1 a1)) 65 (ml_u (m_I μ 65) 4 (nI (te + 1)))) := sk_m.I (sk_m.I hs)
  have gS : m_S (m_sI (m_sI μ (195 + te) (ml_u (ml_u (m_I μ (195 + te)) 0 a0) 1 a1)) 65 (ml_u (m_I μ 65) 4 (nI (te + 1)))) = m_S μ := rfl
  have gP : m_P (m_sI (m_sI μ (195 + te) (ml_u (ml_u (m_I μ (195 + te)) 0 a0) 1 a1)) 65 (ml_u (m_I μ 65) 4 (nI (te + 1)))) = m_P μ := rfl
  have gx : m_x (m_sI (m_sI μ (195 + te) (ml_u (ml_u (m_I μ (195 + te)) 0 a0) 1 a1)) 65 (ml_u (m_I μ 65) 4 (nI (te + 1)))) = m_x μ := rfl
  generalize (m_sI (m_sI μ (195 + te) (ml_u (ml_u (m_I μ (195 + te)) 0 a0) 1 a1)) 65 (ml_u (m_I μ 65) 4 (nI (te + 1)))) = ν at g1 g2 g3 gs gS gP gx ⊢
  have w412 : m_I ν 412 = m_I μ 412 := g1 412 (by omega) (by decide)
  have A4' : m_I ν 412 4 = nI te := by rw [w412]; exact A4
  have b : p_X5_tested 411 a0 a1 ν Qm = Qm (nI (te + 1)) (m_sI ν 412 (ml_u (ml_u (ml_u (m_I ν 412) (40 + 2 * te) a0) (40 + 2 * te + 1) a1) 4 (nI (te + 1)))) := by
    simp only [p_X5_tested, m_in, if_pos c1, if_pos c2, e10, if_false, sk_p411_0 gs, sk_p411_1 gs, sk_p411_2 gs, sk_p411_6 gs, sk_p411_7 gs, sk_p411_8 gs, sk_p411_9 gs, sk_p411_10 gs, sk_p411_11 gs, sk_p411_12 gs, sk_p411_22 gs, sk_p411_23 gs, sk_p411_25 gs, sk_p411_26 gs, sk_p411_30 gs, sk_p411_31 gs, sk_p411_32 gs, sk_p411_33 gs, sk_p411_35 gs, sk_p411_36 gs, sk_p411_37 gs, sk_p411_38 gs, sk_p411_39 gs, sk_p411_40 gs, sk_p411_42 gs, sk_p411_43 gs, sk_p411_44 gs, sk_p411_45 gs, sk_p411_46 gs, sk_k411 gs, sk_n411 gs, sk_k412 gs, sk_n412 gs, cl4, vp4_11120, true_and, A4', if_neg c4]
    simp (disch := omega) only [li_0, li_1, li_2, li_3, li_4, li_5, li_6, li_7, li_8, li_9, li_10, li_11, li_12, li_13, li_14, li_15, li_19, li_20, li_21, li_22, li_23, li_24, li_25, li_26, li_29, li_30, li_39, li_40, li_48, li_57, li_60, li_64, li_65, li_90, li_97, li_99, li_100, li_101, li_110, li_111, li_112, li_113, li_114, li_122, li_123, li_132, li_133, li_181, li_255, li_264, li_300, li_301, li_355, li_373, li_374, li_400, li_401, li_402, li_405, li_406, li_407, li_408, li_464, li_470, li_999, li_1600, li_9999, li_10765, li_30029, li_ofN, pk_mul, nI_add, nI_clamp, vp_t, nI_leI, nI_ltI, nI_eq, ml_uI, ml_KI, ml_PI, ml_NI, ml_SI, ml_xI, ml_Is, ml_In, ml_us, ml_un, ml_cp, ml_ss, sk_p411_0 gs, sk_p411_1 gs, sk_p411_2 gs, sk_p411_6 gs, sk_p411_7 gs, sk_p411_8 gs, sk_p411_9 gs, sk_p411_10 gs, sk_p411_11 gs, sk_p411_12 gs, sk_p411_22 gs, sk_p411_23 gs, sk_p411_25 gs, sk_p411_26 gs, sk_p411_30 gs, sk_p411_31 gs, sk_p411_32 gs, sk_p411_33 gs, sk_p411_35 gs, sk_p411_36 gs, sk_p411_37 gs, sk_p411_38 gs, sk_p411_39 gs, sk_p411_40 gs, sk_p411_42 gs, sk_p411_43 gs, sk_p411_44 gs, sk_p411_45 gs, sk_p411_46 gs, sk_k411 gs, sk_n411 gs, sk_k412 gs, sk_n412 gs, A4', true_and, forall_eq]
  show p_X5_tested 411 a0 a1 ν Qm
  rw [b]
  refine hQ _ ?_ ⟨gS ▸ rfl, by rw [ml_In (by decide), g1 1 (by omega) (by decide)], sk_k64 gs, sk_k411 gs⟩
  have e : ∀ p, p ≠ 195 + te → p ≠ 65 → p ≠ 412 → m_I (m_sI ν 412 (ml_u (ml_u (ml_u (m_I ν 412) (40 + 2 * te) a0) (40 + 2 * te + 1) a1) 4 (nI (te + 1)))) p = m_I μ p := fun p p1 p2 p3 => by rw [ml_In p3, g1 p p1 p2]
  refine kp_here hI (sk_m.I gs) gS gx (fun p _ => by show m_P ν p = _; rw [gP]) (fun p p1 p2 p3 p4 => e p (by omega) (by omega) p3) (fun j _ => by rw [e 64 (by omega) (by decide) (by decide)]) (fun j _ => by rw [e 411 (by omega) (by decide) (by decide)]) fun n tx st te9 tl ns nd c9 => ⟨n, st, te + 1, tl, ns, nd, ?_⟩
  obtain ⟨⟨w1, w2, w3, w4, w5⟩, ⟨W0, W1, W2, W3, W4, W5⟩, ⟨B0, B1, B3, B4, B5⟩, B2, -, -, -, -, y1, y2, y3, y4⟩ := id c9
  have et : nI te = nI te9 := E4.symm.trans W4
  have et := (nI_eq (by omega) (by omega)).mp et
  subst et
  have e65 : m_I (m_sI ν 412 (ml_u (ml_u (ml_u (m_I ν 412) (40 + 2 * te) a0) (40 + 2 * te + 1) a1) 4 (nI (te + 1)))) 65 = ml_u (m_I μ 65) 4 (nI (te + 1)) := by rw [ml_In (by decide), g2]
  have ea : m_I (m_sI ν 412 (ml_u (ml_u (ml_u (m_I ν 412) (40 + 2 * te) a0) (40 + 2 * te + 1) a1) 4 (nI (te + 1)))) 412 = ml_u (ml_u (ml_u (m_I μ 412) (40 + 2 * te) a0) (40 + 2 * te + 1) a1) 4 (nI (te + 1)) := by rw [ml_Is, w412]
  have eT : m_I (m_sI ν 412 (ml_u (ml_u (ml_u (m_I ν 412) (40 + 2 * te) a0) (40 + 2 * te + 1) a1) 4 (nI (te + 1)))) (195 + te) = ml_u (ml_u (m_I μ (195 + te)) 0 a0) 1 a1 := by rw [ml_In (by omega), g3]
  rw [ea]
  refine C_sc c9 hs (fun p p1 p2 => e p (by omega) (by omega) (by omega)) (by show m_P ν 71 = _; rw [gP]) ?_ ?_ ?_ ?_ ?_ ?_ ?_ ?_ ?_ ?_ (by omega) w5 (fun i hi => ?_) (fun i hi => ⟨fun j hj => ?_, ?_⟩)
  · rw [e65]; exact ml_un (by decide)
  · rw [e65]; exact ml_un (by decide)
  · rw [e65]; exact ml_un (by decide)
  · rw [e65, ml_un (by decide), ml_un (by decide), ml_un (by omega), ml_un (by omega)]; exact W2
  · rw [e65, ml_us]
  · rw [e65, ml_un (by decide)]; exact W5
  · rw [ml_un (by decide), ml_un (by omega), ml_un (by omega)]; exact B2
  · rw [ml_us]
  · rw [ml_un (by decide), ml_un (by omega), ml_un (by omega)]; exact B5
  · intro j _ j2 _ j3
    rw [ml_un j2, ml_un (by omega), ml_un (by omega)]
  · by_cases ei : i = te
    · subst ei
      rw [eT]
      refine ⟨fun j hj => ?_, ?_, ?_⟩
      · have : j = 0 ∨ j = 1 := by omega
        rcases this with rfl | rfl
        · rw [ml_un (by decide), ml_us, ml_un (by omega), ml_un (by omega), Nat.add_zero, ml_us]
        · rw [ml_us, ml_un (by omega), ml_us]
      · rw [ml_un (by decide), ml_us]; exact inB_20 c1
      · rw [ml_us]; exact c2
    · rw [e _ (by omega) (by omega) (by omega)]
      refine ⟨fun j hj => ?_, y3 i (by omega)⟩
      rw [ml_un (by omega), ml_un (by omega), ml_un (by omega)]
      exact y1 i (by omega) j hj
  · rw [e _ (by omega) (by omega) (by omega), ml_un (by omega), ml_un (by omega), ml_un (by omega)]; exact y2 i hi j hj
  · rw [e _ (by omega) (by omega) (by omega)]; exact y4 i hi
theorem op_tell (a0 a1 : Int32) : iv_op2 (α := Int32) (fun μ Q => p_X0_tell 64 a0 a1 μ Q) (fun μ Q => p_X5_tell 411 a0 a1 μ Q) := by
  intro L xs z μ hI Qs H
  have hs := hI.1
  obtain ⟨-, -, -, n, tx, st, te, tl, ns, nd, n', tx', st', te', tl', ns', nd', tp, hC, -⟩ := id hI
  obtain ⟨⟨q1, q2, q3, q4, q5⟩, ⟨E0, E1, E2, E3, E4, E5⟩, ⟨A0, A1, A3, A4, A5⟩, -⟩ := id hC
  by_cases c0 : a0 = -1
  · have a : p_X0_tell 64 a0 a1 μ Qs = Qs 0 (m_sI μ 65 (ml_u (m_I μ 65) 5 0)) := by
      unfold p_X0_tell
      rw [if_pos c0]
      simp only [sk_p64_0 hs, sk_p64_1 hs, sk_p64_2 hs, sk_p64_3 hs, sk_p64_4 hs, sk_p64_5 hs, sk_p64_9 hs, sk_p64_10 hs, sk_p64_11 hs, sk_p65_6 hs, sk_p65_7 hs, sk_p65_8 hs, sk_p65_9 hs, sk_p65_10 hs, sk_p65_11 hs, sk_p65_12 hs, sk_p65_13 hs, sk_p65_14 hs, sk_p65_15 hs, sk_k64 hs, sk_n64 hs, sk_k65 hs, sk_n65 hs, true_and, ml_uI, forall_eq]
    show p_X0_tell 64 a0 a1 μ Qs
    rw [a]
    refine H _ _ ⟨rfl, ml_In (by decide), sk_k64 hs, sk_k411 hs⟩ (fun Qm hQ => ?_)
    have b : p_X5_tell 411 a0 a1 (m_sI μ 65 (ml_u (m_I μ 65) 5 0)) Qm = Qm 0 (m_sI (m_sI μ 65 (ml_u (m_I μ 65) 5 0)) 412 (ml_u (m_I μ 412) 5 0)) := by
      unfold p_X5_tell
      rw [if_pos c0]
      simp (disch := omega) only [sk_p411_0 hs, sk_p411_1 hs, sk_p411_2 hs, sk_p411_6 hs, sk_p411_7 hs, sk_p411_8 hs, sk_p411_9 hs, sk_p411_10 hs, sk_p411_11 hs, sk_p411_12 hs, sk_p411_22 hs, sk_p411_23 hs, sk_p411_25 hs, sk_p411_26 hs, sk_p411_30 hs, sk_p411_31 hs, sk_p411_32 hs, sk_p411_33 hs, sk_p411_35 hs, sk_p411_36 hs, sk_p411_37 hs, sk_p411_38 hs, sk_p411_39 hs, sk_p411_40 hs, sk_p411_42 hs, sk_p411_43 hs, sk_p411_44 hs, sk_p411_45 hs, sk_p411_46 hs, sk_k411 hs, sk_n411 hs, sk_k412 hs, sk_n412 hs, ml_KI, ml_PI, ml_NI, cl5, vp5_11120, true_and, ml_uI, forall_eq, ml_In]
    show p_X5_tell 411 a0 a1 _ Qm
    rw [b]
    refine hQ _ ?_ ⟨rfl, by rw [ml_In (by decide), ml_In (by decide)], sk_k64 hs, sk_k411 hs⟩
    refine kp_here hI (sk_m.I (sk_m.I hs)) rfl rfl (fun _ _ => rfl) (fun p p1 p2 p3 p4 => by rw [ml_In p3, ml_In (by omega)]) (fun j _ => by rw [ml_In (by decide), ml_In (by decide)]) (fun j _ => by rw [ml_In (by decide), ml_In (by decide)]) fun n tx st te tl ns nd c9 => ⟨n, st, te, 0, ns, nd, ?_⟩
    have e : ∀ p, p ≠ 65 → p ≠ 412 → m_I (m_sI (m_sI μ 65 (ml_u (m_I μ 65) 5 0)) 412 (ml_u (m_I μ 412) 5 0)) p = m_I μ p := fun p p1 p2 => by rw [ml_In p2, ml_In p1]
    have e65 : m_I (m_sI (m_sI μ 65 (ml_u (m_I μ 65) 5 0)) 412 (ml_u (m_I μ 412) 5 0)) 65 = ml_u (m_I μ 65) 5 0 := by rw [ml_In (by decide), ml_Is]
    obtain ⟨⟨w1, w2, w3, w4, w5⟩, ⟨W0, W1, W2, W3, W4, W5⟩, ⟨B0, B1, B3, B4, B5⟩, B2, -, -, -, -, y1, y2, y3, y4⟩ := id c9
    refine C_sc c9 hs (fun p p1 p2 => e p (by omega) (by omega)) rfl ?_ ?_ ?_ ?_ ?_ ?_ ?_ ?_ ?_ ?_ w4 (Nat.zero_le _) (fun i hi => ⟨fun j hj => ?_, ?_⟩) (fun i hi => absurd hi (Nat.not_lt_zero _))
    · rw [e65]; exact ml_un (by decide)
    · rw [e65]; exact ml_un (by decide)
    · rw [e65]; exact ml_un (by decide)
    · rw [e65, ml_Is, ml_un (by decide), ml_un (by decide)]; exact W2
    · rw [e65, ml_un (by decide)]; exact W4
    · rw [e65, ml_us]; rfl
    · rw [ml_Is, ml_un (by decide)]; exact B2
    · rw [ml_Is, ml_un (by decide)]; exact B4
    · rw [ml_Is, ml_us]; rfl
    · intro j _ _ j3 _
      rw [ml_Is, ml_un j3]
    · rw [e _ (by omega) (by omega), ml_Is, ml_un (by omega)]; exact y1 i hi j hj
    · rw [e _ (by omega) (by omega)]; exact y3 i hi
  by_cases c1 : inB a0 0 (nI n - 1)
  rotate_left
  · have a : p_X0_tell 64 a0 a1 μ Qs = Qs (-2) μ := by
      unfold p_X0_tell
      rw [if_neg c0]
      simp only [p_X0_isEater, s_in, sk_p64_0 hs, sk_p64_1 hs, sk_p64_2 hs, sk_p64_3 hs, sk_p64_4 hs, sk_p64_5 hs, sk_p64_9 hs, sk_p64_10 hs, sk_p64_11 hs, sk_p65_6 hs, sk_p65_7 hs, sk_p65_8 hs, sk_p65_9 hs, sk_p65_10 hs, sk_p65_11 hs, sk_p65_12 hs, sk_p65_13 hs, sk_p65_14 hs, sk_p65_15 hs, sk_k64 hs, sk_n64 hs, sk_k65 hs, sk_n65 hs, true_and, E0, if_neg c1, e00, if_true, true_or]
    show p_X0_tell 64 a0 a1 μ Qs
    rw [a]
    refine H _ _ (iv_scr.rf hI) (fun Qm hQ => ?_)
    have b : p_X5_tell 411 a0 a1 μ Qm = Qm (-2) μ := by
      unfold p_X5_tell
      rw [if_neg c0]
      simp only [p_X5_isEater, m_in, sk_p411_0 hs, sk_p411_1 hs, sk_p411_2 hs, sk_p411_6 hs, sk_p411_7 hs, sk_p411_8 hs, sk_p411_9 hs, sk_p411_10 hs, sk_p411_11 hs, sk_p411_12 hs, sk_p411_22 hs, sk_p411_23 hs, sk_p411_25 hs, sk_p411_26 hs, sk_p411_30 hs, sk_p411_31 hs, sk_p411_32 hs, sk_p411_33 hs, sk_p411_35 hs, sk_p411_36 hs, sk_p411_37 hs, sk_p411_38 hs, sk_p411_39 hs, sk_p411_40 hs, sk_p411_42 hs, sk_p411_43 hs, sk_p411_44 hs, sk_p411_45 hs, sk_p411_46 hs, sk_k411 hs, sk_n411 hs, sk_k412 hs, sk_n412 hs, cl0, vp0_11120, true_and, A0, if_neg c1, e00, if_true, true_or]
    show p_X5_tell 411 a0 a1 μ Qm
    rw [b]
    exact hQ _ hI (iv_scr.rf hI)
  by_cases c2 : inB a1 1 999
  rotate_left
  · have a : p_X0_tell 64 a0 a1 μ Qs = Qs (-2) μ := by
      unfold p_X0_tell
      rw [if_neg c0]
      simp only [p_X0_isEater, s_in, sk_p64_0 hs, sk_p64_1 hs, sk_p64_2 hs, sk_p64_3 hs, sk_p64_4 hs, sk_p64_5 hs, sk_p64_9 hs, sk_p64_10 hs, sk_p64_11 hs, sk_p65_6 hs, sk_p65_7 hs, sk_p65_8 hs, sk_p65_9 hs, sk_p65_10 hs, sk_p65_11 hs, sk_p65_12 hs, sk_p65_13 hs, sk_p65_14 hs, sk_p65_15 hs, sk_k64 hs, sk_n64 hs, sk_k65 hs, sk_n65 hs, true_and, E0, if_pos c1, if_neg c2, e00, e10, if_true, if_false, or_true]
    show p_X0_tell 64 a0 a1 μ Qs
    rw [a]
    refine H _ _ (iv_scr.rf hI) (fun Qm hQ => ?_)
    have b : p_X5_tell 411 a0 a1 μ Qm = Qm (-2) μ := by
      unfold p_X5_tell
      rw [if_neg c0]
      simp only [p_X5_isEater, m_in, sk_p411_0 hs, sk_p411_1 hs, sk_p411_2 hs, sk_p411_6 hs, sk_p411_7 hs, sk_p411_8 hs, sk_p411_9 hs, sk_p411_10 hs, sk_p411_11 hs, sk_p411_12 hs, sk_p411_22 hs, sk_p411_23 hs, sk_p411_25 hs, sk_p411_26 hs, sk_p411_30 hs, sk_p411_31 hs, sk_p411_32 hs, sk_p411_33 hs, sk_p411_35 hs, sk_p411_36 hs, sk_p411_37 hs, sk_p411_38 hs, sk_p411_39 hs, sk_p411_40 hs, sk_p411_42 hs, sk_p411_43 hs, sk_p411_44 hs, sk_p411_45 hs, sk_p411_46 hs, sk_k411 hs, sk_n411 hs, sk_k412 hs, sk_n412 hs, cl0, vp0_11120, true_and, A0, if_pos c1, if_neg c2, e00, e10, if_true, if_false, or_true]
    show p_X5_tell 411 a0 a1 μ Qm
    rw [b]
    exact hQ _ hI (iv_scr.rf hI)
  by_cases c3 : tl = 20
  · subst c3
    have a : p_X0_tell 64 a0 a1 μ Qs = Qs (-2) μ := by
      unfold p_X0_tell
      rw [if_neg c0]
      simp only [p_X0_isEater, s_in, sk_p64_0 hs, sk_p64_1 hs, sk_p64_2 hs, sk_p64_3 hs, sk_p64_4 hs, sk_p64_5 hs, sk_p64_9 hs, sk_p64_10 hs, sk_p64_11 hs, sk_p65_6 hs, sk_p65_7 hs, sk_p65_8 hs, sk_p65_9 hs, sk_p65_10 hs, sk_p65_11 hs, sk_p65_12 hs, sk_p65_13 hs, sk_p65_14 hs, sk_p65_15 hs, sk_k64 hs, sk_n64 hs, sk_k65 hs, sk_n65 hs, true_and, E0, if_pos c1, if_pos c2, e10, if_false, or_true, E5]
      exact if_pos rfl
    show p_X0_tell 64 a0 a1 μ Qs
    rw [a]
    refine H _ _ (iv_scr.rf hI) (fun Qm hQ => ?_)
    have b : p_X5_tell 411 a0 a1 μ Qm = Qm (-2) μ := by
      unfold p_X5_tell
      rw [if_neg c0]
      simp only [p_X5_isEater, m_in, sk_p411_0 hs, sk_p411_1 hs, sk_p411_2 hs, sk_p411_6 hs, sk_p411_7 hs, sk_p411_8 hs, sk_p411_9 hs, sk_p411_10 hs, sk_p411_11 hs, sk_p411_12 hs, sk_p411_22 hs, sk_p411_23 hs, sk_p411_25 hs, sk_p411_26 hs, sk_p411_30 hs, sk_p411_31 hs, sk_p411_32 hs, sk_p411_33 hs, sk_p411_35 hs, sk_p411_36 hs, sk_p411_37 hs, sk_p411_38 hs, sk_p411_39 hs, sk_p411_40 hs, sk_p411_42 hs, sk_p411_43 hs, sk_p411_44 hs, sk_p411_45 hs, sk_p411_46 hs, sk_k411 hs, sk_n411 hs, sk_k412 hs, sk_n412 hs, cl0, vp0_11120, cl5, vp5_11120, true_and, A0, if_pos c1, if_pos c2, e10, if_false, or_true, A5]
      exact if_pos rfl
    show p_X5_tell 411 a0 a1 μ Qm
    rw [b]
    exact hQ _ hI (iv_scr.rf hI)
  have q := sk_q208 hs (p := 208 + tl) (by omega) (by omega)
  have c4 : ¬ nI tl = 20 := fun h => c3 ((nI_eq (b := 20) (by omega) (by decide)).mp h)
  have a : p_X0_tell 64 a0 a1 μ Qs = Qs (nI (tl + 1)) (m_sI (m_sI μ (208 + tl) (ml_u (ml_u (m_I μ (208 + tl)) 0 a0) 1 a1)) 65 (ml_u (m_I μ 65) 5 (nI (tl + 1)))) := by
    unfold p_X0_tell
    rw [if_neg c0]
    simp only [p_X0_isEater, s_in, if_pos c1, if_pos c2, e10, if_false, sk_p64_0 hs, sk_p64_1 hs, sk_p64_2 hs, sk_p64_3 hs, sk_p64_4 hs, sk_p64_5 hs, sk_p64_9 hs, sk_p64_10 hs, sk_p64_11 hs, sk_p65_6 hs, sk_p65_7 hs, sk_p65_8 hs, sk_p65_9 hs, sk_p65_10 hs, sk_p65_11 hs, sk_p65_12 hs, sk_p65_13 hs, sk_p65_14 hs, sk_p65_15 hs, sk_k64 hs, sk_n64 hs, sk_k65 hs, sk_n65 hs, true_and, or_true, E0, E5, if_neg c4]
    simp (disch := omega) only [li_0, li_1, li_2, li_3, li_4, li_5, li_6, li_7, li_8, li_9, li_10, li_11, li_12, li_13, li_14, li_15, li_19, li_20, li_21, li_22, li_23, li_24, li_25, li_26, li_29, li_30, li_39, li_40, li_48, li_57, li_60, li_64, li_65, li_90, li_97, li_99, li_100, li_101, li_110, li_111, li_112, li_113, li_114, li_122, li_123, li_132, li_133, li_181, li_255, li_264, li_300, li_301, li_355, li_373, li_374, li_400, li_401, li_402, li_405, li_406, li_407, li_408, li_464, li_470, li_999, li_1600, li_9999, li_10765, li_30029, li_ofN, pk_mul, nI_add, nI_clamp, vp_t, nI_leI, nI_ltI, nI_eq, ml_uI, ml_KI, ml_PI, ml_NI, ml_SI, ml_xI, ml_Is, ml_In, ml_us, ml_un, ml_cp, ml_ss, sk_p64_0 hs, sk_p64_1 hs, sk_p64_2 hs, sk_p64_3 hs, sk_p64_4 hs, sk_p64_5 hs, sk_p64_9 hs, sk_p64_10 hs, sk_p64_11 hs, sk_p65_6 hs, sk_p65_7 hs, sk_p65_8 hs, sk_p65_9 hs, sk_p65_10 hs, sk_p65_11 hs, sk_p65_12 hs, sk_p65_13 hs, sk_p65_14 hs, sk_p65_15 hs, sk_k64 hs, sk_n64 hs, sk_k65 hs, sk_n65 hs, sk_k207 hs, sk_n207 hs, q.1, q.2, sk_r207 hs, E5, true_and, forall_eq]
  show p_X0_tell 64 a0 a1 μ Qs
  rw [a]
  refine H _ _ ⟨rfl, by rw [ml_In (by decide), ml_In (by omega)], sk_k64 hs, sk_k411 hs⟩ (fun Qm hQ => ?_)
  have g1 : ∀ p, p ≠ 208 + tl → p ≠ 65 → m_I (m_sI (m_sI μ (208 + tl) (ml_u (ml_u (m_I μ (208 + tl)) 0 a0) 1 a1)) 65 (ml_u (m_I μ 65) 5 (nI (tl + 1)))) p = m_I μ p := fun p p1 p2 => by rw [ml_In p2, ml_In p1]
  have g2 : m_I (m_sI (m_sI μ (208 + tl) (ml_u (ml_u (m_I μ (208 + tl)) 0 a0) 1 a1)) 65 (ml_u (m_I μ 65) 5 (nI (tl + 1)))) 65 = ml_u (m_I μ 65) 5 (nI (tl + 1)) := ml_Is
  have g3 : m_I (m_sI (m_sI μ (208 + tl) (ml_u (ml_u (m_I μ (208 + tl)) 0 a0) 1 a1)) 65 (ml_u (m_I μ 65) 5 (nI (tl + 1)))) (208 + tl) = ml_u (ml_u (m_I μ (208 + tl)) 0 a0) 1 a1 := by rw [ml_In (by omega), ml_Is]
  have gs : sk_m (m_sI (m_sI μ (208 + tl) (ml_u (ml_u (m_I μ (208 + tl)) 0 a0) 1 a1)) 65 (ml_u (m_I μ 65) 5 (nI (tl + 1)))) := sk_m.I (sk_m.I hs)
  have gS : m_S (m_sI (m_sI μ (208 + tl) (ml_u (ml_u (m_I μ (208 + tl)) 0 a0) 1 a1)) 65 (ml_u (m_I μ 65) 5 (nI (tl + 1)))) = m_S μ := rfl
  have gP : m_P (m_sI (m_sI μ (208 + tl) (ml_u (ml_u (m_I μ (208 + tl)) 0 a0) 1 a1)) 65 (ml_u (m_I μ 65) 5 (nI (tl + 1)))) = m_P μ := rfl
  have gx : m_x (m_sI (m_sI μ (208 + tl) (ml_u (ml_u (m_I μ (208 + tl)) 0 a0) 1 a1)) 65 (ml_u (m_I μ 65) 5 (nI (tl + 1)))) = m_x μ := rfl
  generalize (m_sI (m_sI μ (208 + tl) (ml_u (ml_u (m_I μ (208 + tl)) 0 a0) 1 a1)) 65 (ml_u (m_I μ 65) 5 (nI (tl + 1)))) = ν at g1 g2 g3 gs gS gP gx ⊢
  have w412 : m_I ν 412 = m_I μ 412 := g1 412 (by omega) (by decide)
  have A5' : m_I ν 412 5 = nI tl := by rw [w412]; exact A5
  have A0' : m_I ν 412 0 = nI n := by rw [w412]; exact A0
  have b : p_X5_tell 411 a0 a1 ν Qm = Qm (nI (tl + 1)) (m_sI ν 412 (ml_u (ml_u (ml_u (m_I ν 412) (64 + 2 * tl) a0) (64 + 2 * tl + 1) a1) 5 (nI (tl + 1)))) := by
    unfold p_X5_tell
    rw [if_neg c0]
    simp only [p_X5_isEater, m_in, if_pos c1, if_pos c2, e10, if_false, sk_p411_0 gs, sk_p411_1 gs, sk_p411_2 gs, sk_p411_6 gs, sk_p411_7 gs, sk_p411_8 gs, sk_p411_9 gs, sk_p411_10 gs, sk_p411_11 gs, sk_p411_12 gs, sk_p411_22 gs, sk_p411_23 gs, sk_p411_25 gs, sk_p411_26 gs, sk_p411_30 gs, sk_p411_31 gs, sk_p411_32 gs, sk_p411_33 gs, sk_p411_35 gs, sk_p411_36 gs, sk_p411_37 gs, sk_p411_38 gs, sk_p411_39 gs, sk_p411_40 gs, sk_p411_42 gs, sk_p411_43 gs, sk_p411_44 gs, sk_p411_45 gs, sk_p411_46 gs, sk_k411 gs, sk_n411 gs, sk_k412 gs, sk_n412 gs, cl0, vp0_11120, cl5, vp5_11120, true_and, or_true, A0', A5', if_neg c4]
    simp (disch := omega) only [li_0, li_1, li_2, li_3, li_4, li_5, li_6, li_7, li_8, li_9, li_10, li_11, li_12, li_13, li_14, li_15, li_19, li_20, li_21, li_22, li_23, li_24, li_25, li_26, li_29, li_30, li_39, li_40, li_48, li_57, li_60, li_64, li_65, li_90, li_97, li_99, li_100, li_101, li_110, li_111, li_112, li_113, li_114, li_122, li_123, li_132, li_133, li_181, li_255, li_264, li_300, li_301, li_355, li_373, li_374, li_400, li_401, li_402, li_405, li_406, li_407, li_408, li_464, li_470, li_999, li_1600, li_9999, li_10765, li_30029, li_ofN, pk_mul, nI_add, nI_clamp, vp_t, nI_leI, nI_ltI, nI_eq, ml_uI, ml_KI, ml_PI, ml_NI, ml_SI, ml_xI, ml_Is, ml_In, ml_us, ml_un, ml_cp, ml_ss, sk_p411_0 gs, sk_p411_1 gs, sk_p411_2 gs, sk_p411_6 gs, sk_p411_7 gs, sk_p411_8 gs, sk_p411_9 gs, sk_p411_10 gs, sk_p411_11 gs, sk_p411_12 gs, sk_p411_22 gs, sk_p411_23 gs, sk_p411_25 gs, sk_p411_26 gs, sk_p411_30 gs, sk_p411_31 gs, sk_p411_32 gs, sk_p411_33 gs, sk_p411_35 gs, sk_p411_36 gs, sk_p411_37 gs, sk_p411_38 gs, sk_p411_39 gs, sk_p411_40 gs, sk_p411_42 gs, sk_p411_43 gs, sk_p411_44 gs, sk_p411_45 gs, sk_p411_46 gs, sk_k411 gs, sk_n411 gs, sk_k412 gs, sk_n412 gs, A5', true_and, forall_eq]
  show p_X5_tell 411 a0 a1 ν Qm
  rw [b]
  refine hQ _ ?_ ⟨gS ▸ rfl, by rw [ml_In (by decide), g1 1 (by omega) (by decide)], sk_k64 gs, sk_k411 gs⟩
  have e : ∀ p, p ≠ 208 + tl → p ≠ 65 → p ≠ 412 → m_I (m_sI ν 412 (ml_u (ml_u (ml_u (m_I ν 412) (64 + 2 * tl) a0) (64 + 2 * tl + 1) a1) 5 (nI (tl + 1)))) p = m_I μ p := fun p p1 p2 p3 => by rw [ml_In p3, g1 p p1 p2]
  refine kp_here hI (sk_m.I gs) gS gx (fun p _ => by show m_P ν p = _; rw [gP]) (fun p p1 p2 p3 p4 => e p (by omega) (by omega) p3) (fun j _ => by rw [e 64 (by omega) (by decide) (by decide)]) (fun j _ => by rw [e 411 (by omega) (by decide) (by decide)]) fun n9 tx st te tl9 ns nd c9 => ⟨n9, st, te, tl + 1, ns, nd, ?_⟩
  obtain ⟨⟨w1, w2, w3, w4, w5⟩, ⟨W0, W1, W2, W3, W4, W5⟩, ⟨B0, B1, B3, B4, B5⟩, B2, -, -, -, -, y1, y2, y3, y4⟩ := id c9
  have et : nI tl = nI tl9 := E5.symm.trans W5
  have et := (nI_eq (by omega) (by omega)).mp et
  subst et
  have e65 : m_I (m_sI ν 412 (ml_u (ml_u (ml_u (m_I ν 412) (64 + 2 * tl) a0) (64 + 2 * tl + 1) a1) 5 (nI (tl + 1)))) 65 = ml_u (m_I μ 65) 5 (nI (tl + 1)) := by rw [ml_In (by decide), g2]
  have ea : m_I (m_sI ν 412 (ml_u (ml_u (ml_u (m_I ν 412) (64 + 2 * tl) a0) (64 + 2 * tl + 1) a1) 5 (nI (tl + 1)))) 412 = ml_u (ml_u (ml_u (m_I μ 412) (64 + 2 * tl) a0) (64 + 2 * tl + 1) a1) 5 (nI (tl + 1)) := by rw [ml_Is, w412]
  have eT : m_I (m_sI ν 412 (ml_u (ml_u (ml_u (m_I ν 412) (64 + 2 * tl) a0) (64 + 2 * tl + 1) a1) 5 (nI (tl + 1)))) (208 + tl) = ml_u (ml_u (m_I μ (208 + tl)) 0 a0) 1 a1 := by rw [ml_In (by omega), g3]
  rw [ea]
  refine C_sc c9 hs (fun p p1 p2 => e p (by omega) (by omega) (by omega)) (by show m_P ν 71 = _; rw [gP]) ?_ ?_ ?_ ?_ ?_ ?_ ?_ ?_ ?_ ?_ w4 (by omega) (fun i hi => ⟨fun j hj => ?_, ?_⟩) (fun i hi => ?_)
  · rw [e65]; exact ml_un (by decide)
  · rw [e65]; exact ml_un (by decide)
  · rw [e65]; exact ml_un (by decide)
  · rw [e65, ml_un (by decide), ml_un (by decide), ml_un (by omega), ml_un (by omega)]; exact W2
  · rw [e65, ml_un (by decide)]; exact W4
  · rw [e65, ml_us]
  · rw [ml_un (by decide), ml_un (by omega), ml_un (by omega)]; exact B2
  · rw [ml_un (by decide), ml_un (by omega), ml_un (by omega)]; exact B4
  · rw [ml_us]
  · intro j _ _ j2 j3
    rw [ml_un j2, ml_un (by omega), ml_un (by omega)]
  · rw [e _ (by omega) (by omega) (by omega), ml_un (by omega), ml_un (by omega), ml_un (by omega)]; exact y1 i hi j hj
  · rw [e _ (by omega) (by omega) (by omega)]; exact y3 i hi
  · by_cases ei : i = tl
    · subst ei
      rw [eT]
      refine ⟨fun j hj => ?_, ?_, ?_⟩
      · have : j = 0 ∨ j = 1 := by omega
        rcases this with rfl | rfl
        · rw [ml_un (by decide), ml_us, ml_un (by omega), ml_un (by omega), Nat.add_zero, ml_us]
        · rw [ml_us, ml_un (by omega), ml_us]
      · rw [ml_un (by decide), ml_us]
        obtain ⟨k, hk, rfl⟩ := inB_k (by omega) c1
        exact ⟨k, by omega, rfl⟩
      · rw [ml_us]
        obtain ⟨k, k1, k2, rfl⟩ := inB_nI (lo := 1) (hi := 999) c2 (by decide) (by decide)
        exact ⟨k, k1, k2, rfl⟩
    · rw [e _ (by omega) (by omega) (by omega)]
      refine ⟨fun j hj => ?_, y4 i (by omega)⟩
      rw [ml_un (by omega), ml_un (by omega), ml_un (by omega)]
      exact y2 i (by omega) j hj
