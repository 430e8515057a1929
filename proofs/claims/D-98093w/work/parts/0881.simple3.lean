/-! plain law: by, written, dent, tested, tell -/
theorem inB_k {a : Int32} {n : Nat} (hn : n < 2 ^ 30) (h : inB a 0 (nI n - 1)) : ∃ k, k < n ∧ a = nI k := by
  obtain ⟨h1, h2⟩ := h
  obtain ⟨k, hk, rfl⟩ := nI_of h1
  refine ⟨k, ?_, rfl⟩
  have e : (nI n - 1).toInt = (n : Int) - 1 := pk_sub_toInt (b := 1) (by omega) (by decide)
  rw [Int32.lt_iff_toInt_lt, nI_toInt hk, e] at h2
  omega
theorem inB_p {k n : Nat} (hn : n < 2 ^ 30) (h : k < n) : inB (nI k) 0 (nI n - 1) := by
  refine ⟨nI_pos (by omega), ?_⟩
  have e : (nI n - 1).toInt = (n : Int) - 1 := pk_sub_toInt (b := 1) (by omega) (by decide)
  rw [Int32.lt_iff_toInt_lt, nI_toInt (by omega), e]
  omega
theorem C_sc {μ μ' : fw_M} {a a' : Nat → Int32} {n tx st te tl ns nd te2 tl2 : Nat} (h : iv_C μ 65 a n tx st te tl ns nd) (hs : sk_m μ)
    (hI : ∀ p, 65 < p → p < 195 → m_I μ' p = m_I μ p) (hP : m_P μ' 71 = m_P μ 71) (e0 : m_I μ' 65 0 = m_I μ 65 0) (e1 : m_I μ' 65 1 = m_I μ 65 1) (e3 : m_I μ' 65 3 = m_I μ 65 3) (e2 : m_I μ' 65 2 = a' 2) (e4 : m_I μ' 65 4 = nI te2) (e5 : m_I μ' 65 5 = nI tl2)
    (a2 : a' 2 = -1 ∨ ∃ t, t < tx ∧ a' 2 = nI t) (a4 : a' 4 = nI te2) (a5 : a' 5 = nI tl2) (ha : ∀ j, j ≠ 2 → j ≠ 4 → j ≠ 5 → j < 40 ∨ 110 ≤ j → a' j = a j) (b1 : te2 ≤ 12) (b2 : tl2 ≤ 20)
    (ht : ∀ i, i < te2 → (∀ j, j < 2 → m_I μ' (195 + i) j = a' (40 + 2 * i + j)) ∧ (∃ x, x ≤ 40 ∧ m_I μ' (195 + i) 0 = nI x - 20) ∧ inB (m_I μ' (195 + i) 1) (-1) 1)
    (hl : ∀ i, i < tl2 → (∀ j, j < 2 → m_I μ' (208 + i) j = a' (64 + 2 * i + j)) ∧ (∃ x, x < 9 ∧ m_I μ' (208 + i) 0 = nI x) ∧ ∃ x, 1 ≤ x ∧ x ≤ 999 ∧ m_I μ' (208 + i) 1 = nI x) : iv_C μ' 65 a' n tx st te2 tl2 ns nd := by
  obtain ⟨hb, hE, hA, hA2, hh, hr, hrec, ⟨N, NS, ND, hst, hmono⟩, -, -, -, -⟩ := h
  have c1 : ns ≤ 60 := hr.2.2.2.2.2.2.2.2.1
  have c2 : nd ≤ 30 := hr.2.2.2.2.2.2.2.2.2.1
  obtain ⟨q1, q2, q3, q4, q5⟩ := hb
  obtain ⟨E0, E1, E2, E3, E4, E5⟩ := hE
  obtain ⟨A0, A1, A3, A4, A5⟩ := hA
  have sh : iv_sh a' 110 = iv_sh a 110 := funext fun j => ha _ (by omega) (by omega) (by omega) (by omega)
  have shk : ∀ k, iv_sh a' (470 + 355 * k) = iv_sh a (470 + 355 * k) := fun k => funext fun j => ha _ (by omega) (by omega) (by omega) (by omega)
  have hrc : ∀ x y : Nat, x ≤ ns → y ≤ nd → ∀ mr : Nat → Int32, iv_rec x y (fun i => m_I μ (65 + 38 + i)) (fun i => m_I μ (65 + 99 + i)) mr → iv_rec x y (fun i => m_I μ' (65 + 38 + i)) (fun i => m_I μ' (65 + 99 + i)) mr := by
    intro x y hx hy mr hq
    exact rec_cong hq (by omega) (by omega) (fun i hi j hj => by rw [hI _ (by omega) (by omega)]) (fun i hi j hj => by rw [hI _ (by omega) (by omega)]) (fun j _ _ => rfl)
  refine ⟨⟨q1, q2, q3, b1, b2⟩, ⟨e0.trans E0, e1.trans E1, e2, e3.trans E3, e4, e5⟩, ⟨?_, ?_, ?_, a4, a5⟩, a2, fun e he => ?_, ?_, ?_, ⟨N, NS, ND, fun k hk => ?_, hmono⟩, fun i hi => (ht i hi).1, fun i hi => (hl i hi).1, fun i hi => (ht i hi).2, fun i hi => (hl i hi).2⟩
  · rw [ha 0 (by decide) (by decide) (by decide) (by decide)]; exact A0
  · rw [ha 1 (by decide) (by decide) (by decide) (by decide)]; exact A1
  · rw [ha 3 (by decide) (by decide) (by decide) (by decide)]; exact A3
  · show m_I μ' 66 e = _ ∧ m_I μ' 67 e = _ ∧ m_I μ' 68 e = _ ∧ (∃ x, x ≤ 9 ∧ m_I μ' 66 e = nI x) ∧ (∃ x, 1 ≤ x ∧ x ≤ 9 ∧ m_I μ' 67 e = nI x) ∧ ∃ x, x ≤ 99 ∧ m_I μ' 68 e = nI x
    rw [hI 66 (by decide) (by decide), hI 67 (by decide) (by decide), hI 68 (by decide) (by decide), ha (10 + 3 * e) (by omega) (by omega) (by omega) (by omega), ha (11 + 3 * e) (by omega) (by omega) (by omega) (by omega), ha (12 + 3 * e) (by omega) (by omega) (by omega) (by omega)]
    exact hh e he
  · show iv_row _ _ _ (m_I μ' 69) _
    rw [hI 69 (by decide) (by decide), sh]; exact hr
  · rw [sh]; exact hrc _ _ (Nat.le_refl _) (Nat.le_refl _) _ hrec
  · obtain ⟨k1, k2, k3, k4, k5, k6⟩ := hst k hk
    have hk3 := sk_s65 hs (j := k) (by omega)
    refine ⟨k1, ?_, k3, k4, ?_, ?_⟩
    · show m_I μ' 70 k = _
      rw [hI 70 (by decide) (by decide)]; exact k2
    · show iv_row _ _ _ (m_I μ' (m_P μ' 71 k)) _
      rw [hP, hI _ (by omega) (by omega), shk]
      exact k5
    · rw [shk]; exact hrc _ _ k3 k4 _ k6
theorem inB_by {a : Int32} {n : Nat} (hn : n < 2 ^ 30) : inB a (-1) (nI n - 1) ↔ a = -1 ∨ inB a 0 (nI n - 1) := by
  have e : (nI n - 1).toInt = (n : Int) - 1 := pk_sub_toInt (b := 1) (by omega) (by decide)
  have e1 : (-1 : Int32).toInt = -1 := by decide
  have e0 : (0 : Int32).toInt = 0 := by decide
  unfold inB
  simp only [Int32.lt_iff_toInt_lt, e, e1, e0, ← Int32.toInt_inj]
  omega
theorem op_by (a0 : Int32) : iv_op2 (α := Int32) (fun μ Q => p_X0_by 64 a0 μ Q) (fun μ Q => p_X5_by 411 a0 μ Q) := by
  intro L xs z μ hI Qs H
  have hs := hI.1
  obtain ⟨-, -, -, n, tx, st, te, tl, ns, nd, n', tx', st', te', tl', ns', nd', tp, hC, -⟩ := id hI
  obtain ⟨⟨q1, q2, q3, q4, q5⟩, ⟨E0, E1, E2, E3, E4, E5⟩, ⟨A0, A1, A3, A4, A5⟩, -⟩ := id hC
  by_cases c : inB a0 (-1) (nI tx - 1)
  · have a : p_X0_by 64 a0 μ Qs = Qs 1 (m_sI μ 65 (ml_u (m_I μ 65) 2 a0)) := by
      simp (disch := omega) only [p_X0_by, s_in, E1, if_pos c, e10, if_false, sk_p64_0 hs, sk_p64_1 hs, sk_p64_2 hs, sk_p64_3 hs, sk_p64_4 hs, sk_p64_5 hs, sk_p64_9 hs, sk_p64_10 hs, sk_p64_11 hs, sk_p65_6 hs, sk_p65_7 hs, sk_p65_8 hs, sk_p65_9 hs, sk_p65_10 hs, sk_p65_11 hs, sk_p65_12 hs, sk_p65_13 hs, sk_p65_14 hs, sk_p65_15 hs, sk_k64 hs, sk_n64 hs, sk_k65 hs, sk_n65 hs, ml_uI, ml_KI, ml_PI, ml_NI, ml_SI, ml_xI, ml_Is, ml_In, ml_us, ml_un, ml_cp, ml_ss, true_and, forall_eq]
    show p_X0_by 64 a0 μ Qs
    rw [a]
    refine H _ _ ⟨rfl, ml_In (by decide), sk_k64 hs, sk_k411 hs⟩ (fun Qm hQ => ?_)
    have b9 : ∀ ν : fw_M, sk_m ν → p_X5_by_L23 411 a0 ν Qm = Qm 1 (m_sI ν 412 (ml_u (m_I ν 412) 2 a0)) := by
      intro ν hs
      simp (decide := true) (disch := omega) only [p_X5_by_L23, sk_p411_0 hs, sk_p411_1 hs, sk_p411_2 hs, sk_p411_6 hs, sk_p411_7 hs, sk_p411_8 hs, sk_p411_9 hs, sk_p411_10 hs, sk_p411_11 hs, sk_p411_12 hs, sk_p411_22 hs, sk_p411_23 hs, sk_p411_25 hs, sk_p411_26 hs, sk_p411_30 hs, sk_p411_31 hs, sk_p411_32 hs, sk_p411_33 hs, sk_p411_35 hs, sk_p411_36 hs, sk_p411_37 hs, sk_p411_38 hs, sk_p411_39 hs, sk_p411_40 hs, sk_p411_42 hs, sk_p411_43 hs, sk_p411_44 hs, sk_p411_45 hs, sk_p411_46 hs, sk_k411 hs, sk_n411 hs, sk_k412 hs, sk_n412 hs, li_2, nI_clamp, vp_t, ml_uI, true_and, forall_eq]
    have b : p_X5_by 411 a0 (m_sI μ 65 (ml_u (m_I μ 65) 2 a0)) Qm = Qm 1 (m_sI (m_sI μ 65 (ml_u (m_I μ 65) 2 a0)) 412 (ml_u (m_I μ 412) 2 a0)) := by
      unfold p_X5_by
      have b8 := b9 (m_sI μ 65 (ml_u (m_I μ 65) 2 a0)) (sk_m.I hs)
      rw [ml_In (by decide)] at b8
      by_cases c1 : a0 = -1
      · rw [if_pos c1]
        exact b8
      · rw [if_neg c1]
        have c2 : inB a0 0 (nI tx - 1) := ((inB_by (by omega)).mp c).resolve_left c1
        simp (disch := omega) only [m_in, sk_p411_0 hs, sk_p411_1 hs, sk_p411_2 hs, sk_p411_6 hs, sk_p411_7 hs, sk_p411_8 hs, sk_p411_9 hs, sk_p411_10 hs, sk_p411_11 hs, sk_p411_12 hs, sk_p411_22 hs, sk_p411_23 hs, sk_p411_25 hs, sk_p411_26 hs, sk_p411_30 hs, sk_p411_31 hs, sk_p411_32 hs, sk_p411_33 hs, sk_p411_35 hs, sk_p411_36 hs, sk_p411_37 hs, sk_p411_38 hs, sk_p411_39 hs, sk_p411_40 hs, sk_p411_42 hs, sk_p411_43 hs, sk_p411_44 hs, sk_p411_45 hs, sk_p411_46 hs, sk_k411 hs, sk_n411 hs, sk_k412 hs, sk_n412 hs, ml_KI, ml_PI, ml_NI, ml_In, cl1, vp1_11120, A1, if_pos c2, e10, if_false, true_and]
        exact b8
    show p_X5_by 411 a0 _ Qm
    rw [b]
    refine hQ _ ?_ ⟨rfl, by rw [ml_In (by decide), ml_In (by decide)], sk_k64 hs, sk_k411 hs⟩
    refine kp_here hI (sk_m.I (sk_m.I hs)) rfl rfl (fun _ _ => rfl) (fun p p1 p2 p3 p4 => by rw [ml_In p3, ml_In (by omega)]) (fun j _ => by rw [ml_In (by decide), ml_In (by decide)]) (fun j _ => by rw [ml_In (by decide), ml_In (by decide)]) fun n9 tx9 st9 te9 tl9 ns9 nd9 c9 => ⟨n9, st9, te9, tl9, ns9, nd9, ?_⟩
    have e : ∀ p, p ≠ 65 → p ≠ 412 → m_I (m_sI (m_sI μ 65 (ml_u (m_I μ 65) 2 a0)) 412 (ml_u (m_I μ 412) 2 a0)) p = m_I μ p := fun p p1 p2 => by rw [ml_In p2, ml_In p1]
    have e65 : m_I (m_sI (m_sI μ 65 (ml_u (m_I μ 65) 2 a0)) 412 (ml_u (m_I μ 412) 2 a0)) 65 = ml_u (m_I μ 65) 2 a0 := by rw [ml_In (by decide), ml_Is]
    have hD := id c9
    obtain ⟨⟨w1, w2, w3, w4, w5⟩, ⟨W0, W1, W2, W3, W4, W5⟩, ⟨B0, B1, B3, B4, B5⟩, -, -, -, -, -, y1, y2, y3, y4⟩ := id c9
    have et : nI tx = nI tx9 := E1.symm.trans W1
    have et := (nI_eq (by omega) (by omega)).mp et
    refine C_sc c9 hs (fun p p1 p2 => e p (by omega) (by omega)) rfl ?_ ?_ ?_ ?_ ?_ ?_ ?_ ?_ ?_ ?_ w4 w5 (fun i hi => ⟨fun j hj => ?_, ?_⟩) (fun i hi => ⟨fun j hj => ?_, ?_⟩)
    · rw [e65]; exact ml_un (by decide)
    · rw [e65]; exact ml_un (by decide)
    · rw [e65]; exact ml_un (by decide)
    · rw [e65, ml_Is, ml_us, ml_us]
    · rw [e65, ml_un (by decide)]; exact W4
    · rw [e65, ml_un (by decide)]; exact W5
    · rw [ml_Is, ml_us, ← et]
      rcases (inB_by (by omega)).mp c with h | h
      · exact Or.inl h
      · exact Or.inr (inB_k (by omega) h)
    · rw [ml_Is, ml_un (by decide)]; exact B4
    · rw [ml_Is, ml_un (by decide)]; exact B5
    · intro j j1 _ _ _
      rw [ml_Is, ml_un j1]
    · rw [e _ (by omega) (by omega), ml_Is, ml_un (by omega)]; exact y1 i hi j hj
    · rw [e _ (by omega) (by omega)]; exact y3 i hi
    · rw [e _ (by omega) (by omega), ml_Is, ml_un (by omega)]; exact y2 i hi j hj
    · rw [e _ (by omega) (by omega)]; exact y4 i hi
  · have a : p_X0_by 64 a0 μ Qs = Qs 0 μ := by
      simp (disch := omega) only [p_X0_by, s_in, E1, if_neg c, e00, if_true, sk_p64_0 hs, sk_p64_1 hs, sk_p64_2 hs, sk_p64_3 hs, sk_p64_4 hs, sk_p64_5 hs, sk_p64_9 hs, sk_p64_10 hs, sk_p64_11 hs, sk_p65_6 hs, sk_p65_7 hs, sk_p65_8 hs, sk_p65_9 hs, sk_p65_10 hs, sk_p65_11 hs, sk_p65_12 hs, sk_p65_13 hs, sk_p65_14 hs, sk_p65_15 hs, sk_k64 hs, sk_n64 hs, sk_k65 hs, sk_n65 hs, true_and]
    show p_X0_by 64 a0 μ Qs
    rw [a]
    refine H _ _ (iv_scr.rf hI) (fun Qm hQ => ?_)
    have c1 : ¬ a0 = -1 := fun h => c ((inB_by (by omega)).mpr (Or.inl h))
    have c2 : ¬ inB a0 0 (nI tx - 1) := fun h => c ((inB_by (by omega)).mpr (Or.inr h))
    have b : p_X5_by 411 a0 μ Qm = Qm 0 μ := by
      unfold p_X5_by
      rw [if_neg c1]
      simp (disch := omega) only [m_in, sk_p411_0 hs, sk_p411_1 hs, sk_p411_2 hs, sk_p411_6 hs, sk_p411_7 hs, sk_p411_8 hs, sk_p411_9 hs, sk_p411_10 hs, sk_p411_11 hs, sk_p411_12 hs, sk_p411_22 hs, sk_p411_23 hs, sk_p411_25 hs, sk_p411_26 hs, sk_p411_30 hs, sk_p411_31 hs, sk_p411_32 hs, sk_p411_33 hs, sk_p411_35 hs, sk_p411_36 hs, sk_p411_37 hs, sk_p411_38 hs, sk_p411_39 hs, sk_p411_40 hs, sk_p411_42 hs, sk_p411_43 hs, sk_p411_44 hs, sk_p411_45 hs, sk_p411_46 hs, sk_k411 hs, sk_n411 hs, sk_k412 hs, sk_n412 hs, cl1, vp1_11120, A1, if_neg c2, e00, if_true, true_and]
    show p_X5_by 411 a0 μ Qm
    rw [b]
    exact hQ _ hI (iv_scr.rf hI)
theorem op_written (a0 a1 : Int32) : iv_op2 (α := Int32) (fun μ Q => p_X0_written 64 a0 a1 μ Q) (fun μ Q => p_X5_written 411 a0 a1 μ Q) := by
  refine op_ro fun L xs z μ hI => ?_
  obtain ⟨hs, -, -, n, tx, st, te, tl, ns, nd, n', tx', st', te', tl', ns', nd', tp, hC, -⟩ := hI
  obtain ⟨-, -, -, -, -, hR, hrec, -⟩ := hC
  have r5 : m_I μ 69 23 = nI ns := hR.2.2.2.2.1
  have r7 : m_I μ 412 132 = nI ns := hR.2.2.2.2.2.2.1
  have b1 : ns ≤ 60 := hR.2.2.2.2.2.2.2.2.1
  by_cases c : a0 = -1
  · refine ⟨nI ns, fun Q h => ?_, fun Q h => ?_⟩
    · unfold p_X0_written
      rw [if_pos c]
      simp (disch := omega) only [sk_p64_0 hs, sk_p64_1 hs, sk_p64_2 hs, sk_p64_3 hs, sk_p64_4 hs, sk_p64_5 hs, sk_p64_9 hs, sk_p64_10 hs, sk_p64_11 hs, sk_p65_6 hs, sk_p65_7 hs, sk_p65_8 hs, sk_p65_9 hs, sk_p65_10 hs, sk_p65_11 hs, sk_p65_12 hs, sk_p65_13 hs, sk_p65_14 hs, sk_p65_15 hs, sk_k64 hs, sk_n64 hs, sk_k65 hs, sk_n65 hs, sk_k69 hs, sk_n69 hs, cl23, vp23_25, true_and, r5]
      exact h
    · unfold p_X5_written
      rw [if_pos c]
      simp (disch := omega) only [sk_p411_0 hs, sk_p411_1 hs, sk_p411_2 hs, sk_p411_6 hs, sk_p411_7 hs, sk_p411_8 hs, sk_p411_9 hs, sk_p411_10 hs, sk_p411_11 hs, sk_p411_12 hs, sk_p411_22 hs, sk_p411_23 hs, sk_p411_25 hs, sk_p411_26 hs, sk_p411_30 hs, sk_p411_31 hs, sk_p411_32 hs, sk_p411_33 hs, sk_p411_35 hs, sk_p411_36 hs, sk_p411_37 hs, sk_p411_38 hs, sk_p411_39 hs, sk_p411_40 hs, sk_p411_42 hs, sk_p411_43 hs, sk_p411_44 hs, sk_p411_45 hs, sk_p411_46 hs, sk_k411 hs, sk_n411 hs, sk_k412 hs, sk_n412 hs, cl132, vp132_11120, true_and, r7]
      exact h
  by_cases c1 : inB a0 0 (nI ns - 1)
  · by_cases c2 : inB a1 0 3
    · obtain ⟨i, hi, rfl⟩ := inB_k (by omega) c1
      obtain ⟨w, -, hw, rfl⟩ := inB_nI (lo := 0) (hi := 3) c2 (by decide) (by decide)
      have q := sk_q103 hs (p := 103 + i) (by omega) (by omega)
      have e : m_I μ (103 + i) w = m_I μ 412 (133 + 4 * i + w) := by
        have := hrec.1 i hi w (by omega)
        have e2 : 110 + (23 + 4 * i + w) = 133 + 4 * i + w := by omega
        unfold iv_sh at this
        rw [e2] at this
        exact this
      refine ⟨m_I μ 412 (133 + 4 * i + w), fun Q h => ?_, fun Q h => ?_⟩
      · unfold p_X0_written
        rw [if_neg c]
        simp (disch := omega) only [s_in, sk_p64_0 hs, sk_p64_1 hs, sk_p64_2 hs, sk_p64_3 hs, sk_p64_4 hs, sk_p64_5 hs, sk_p64_9 hs, sk_p64_10 hs, sk_p64_11 hs, sk_p65_6 hs, sk_p65_7 hs, sk_p65_8 hs, sk_p65_9 hs, sk_p65_10 hs, sk_p65_11 hs, sk_p65_12 hs, sk_p65_13 hs, sk_p65_14 hs, sk_p65_15 hs, sk_k64 hs, sk_n64 hs, sk_k65 hs, sk_n65 hs, sk_k69 hs, sk_n69 hs, sk_k102 hs, sk_n102 hs, cl23, vp23_25, r5, if_pos c1, if_pos c2, e10, if_false, nI_clamp, vp_t, sk_r102 hs, q.1, q.2, true_and, e]
        exact h
      · unfold p_X5_written
        rw [if_neg c]
        simp (disch := omega) only [m_in, sk_p411_0 hs, sk_p411_1 hs, sk_p411_2 hs, sk_p411_6 hs, sk_p411_7 hs, sk_p411_8 hs, sk_p411_9 hs, sk_p411_10 hs, sk_p411_11 hs, sk_p411_12 hs, sk_p411_22 hs, sk_p411_23 hs, sk_p411_25 hs, sk_p411_26 hs, sk_p411_30 hs, sk_p411_31 hs, sk_p411_32 hs, sk_p411_33 hs, sk_p411_35 hs, sk_p411_36 hs, sk_p411_37 hs, sk_p411_38 hs, sk_p411_39 hs, sk_p411_40 hs, sk_p411_42 hs, sk_p411_43 hs, sk_p411_44 hs, sk_p411_45 hs, sk_p411_46 hs, sk_k411 hs, sk_n411 hs, sk_k412 hs, sk_n412 hs, cl132, vp132_11120, r7, if_pos c1, if_pos c2, e10, if_false, true_and]
        simp (disch := omega) only [li_0, li_1, li_2, li_3, li_4, li_5, li_6, li_7, li_8, li_9, li_10, li_11, li_12, li_13, li_14, li_15, li_19, li_20, li_21, li_22, li_23, li_24, li_25, li_26, li_29, li_30, li_39, li_40, li_48, li_57, li_60, li_64, li_65, li_90, li_97, li_99, li_100, li_101, li_110, li_111, li_112, li_113, li_114, li_122, li_123, li_132, li_133, li_181, li_255, li_264, li_300, li_301, li_355, li_373, li_374, li_400, li_401, li_402, li_405, li_406, li_407, li_408, li_464, li_470, li_999, li_1600, li_9999, li_10765, li_30029, li_ofN, pk_mul, nI_add, nI_clamp, vp_t, nI_leI, nI_ltI, nI_eq, true_and]
        exact h
    · refine ⟨-2, fun Q h => ?_, fun Q h => ?_⟩
      · unfold p_X0_written
        rw [if_neg c]
        simp (disch := omega) only [s_in, sk_p64_0 hs, sk_p64_1 hs, sk_p64_2 hs, sk_p64_3 hs, sk_p64_4 hs, sk_p64_5 hs, sk_p64_9 hs, sk_p64_10 hs, sk_p64_11 hs, sk_p65_6 hs, sk_p65_7 hs, sk_p65_8 hs, sk_p65_9 hs, sk_p65_10 hs, sk_p65_11 hs, sk_p65_12 hs, sk_p65_13 hs, sk_p65_14 hs, sk_p65_15 hs, sk_k64 hs, sk_n64 hs, sk_k65 hs, sk_n65 hs, sk_k69 hs, sk_n69 hs, cl23, vp23_25, r5, if_pos c1, if_neg c2, e10, e00, if_true, if_false, true_and]
        exact h
      · unfold p_X5_written
        rw [if_neg c]
        simp (disch := omega) only [m_in, sk_p411_0 hs, sk_p411_1 hs, sk_p411_2 hs, sk_p411_6 hs, sk_p411_7 hs, sk_p411_8 hs, sk_p411_9 hs, sk_p411_10 hs, sk_p411_11 hs, sk_p411_12 hs, sk_p411_22 hs, sk_p411_23 hs, sk_p411_25 hs, sk_p411_26 hs, sk_p411_30 hs, sk_p411_31 hs, sk_p411_32 hs, sk_p411_33 hs, sk_p411_35 hs, sk_p411_36 hs, sk_p411_37 hs, sk_p411_38 hs, sk_p411_39 hs, sk_p411_40 hs, sk_p411_42 hs, sk_p411_43 hs, sk_p411_44 hs, sk_p411_45 hs, sk_p411_46 hs, sk_k411 hs, sk_n411 hs, sk_k412 hs, sk_n412 hs, cl132, vp132_11120, r7, if_pos c1, if_neg c2, e10, e00, if_true, if_false, true_and]
        exact h
  · refine ⟨-2, fun Q h => ?_, fun Q h => ?_⟩
    · unfold p_X0_written
      rw [if_neg c]
      simp (disch := omega) only [s_in, sk_p64_0 hs, sk_p64_1 hs, sk_p64_2 hs, sk_p64_3 hs, sk_p64_4 hs, sk_p64_5 hs, sk_p64_9 hs, sk_p64_10 hs, sk_p64_11 hs, sk_p65_6 hs, sk_p65_7 hs, sk_p65_8 hs, sk_p65_9 hs, sk_p65_10 hs, sk_p65_11 hs, sk_p65_12 hs, sk_p65_13 hs, sk_p65_14 hs, sk_p65_15 hs, sk_k64 hs, sk_n64 hs, sk_k65 hs, sk_n65 hs, sk_k69 hs, sk_n69 hs, cl23, vp23_25, r5, if_neg c1, e00, if_true, true_and]
      exact h
    · unfold p_X5_written
      rw [if_neg c]
      simp (disch := omega) only [m_in, sk_p411_0 hs, sk_p411_1 hs, sk_p411_2 hs, sk_p411_6 hs, sk_p411_7 hs, sk_p411_8 hs, sk_p411_9 hs, sk_p411_10 hs, sk_p411_11 hs, sk_p411_12 hs, sk_p411_22 hs, sk_p411_23 hs, sk_p411_25 hs, sk_p411_26 hs, sk_p411_30 hs, sk_p411_31 hs, sk_p411_32 hs, sk_p411_33 hs, sk_p411_35 hs, sk_p411_36 hs, sk_p411_37 hs, sk_p411_38 hs, sk_p411_39 hs, sk_p411_40 hs, sk_p411_42 hs, sk_p411_43 hs, sk_p411_44 hs, sk_p411_45 hs, sk_p411_46 hs, sk_k411 hs, sk_n411 hs, sk_k412 hs, sk_n412 hs, cl132, vp132_11120, r7, if_neg c1, e00, if_true, true_and]
      exact h
theorem op_dent (a0 a1 : Int32) : iv_op2 (α := Int32) (fun μ Q => p_X0_dent 64 a0 a1 μ Q) (fun μ Q => p_X5_dent 411 a0 a1 μ Q) := by
  refine op_ro fun L xs z μ hI => ?_
  obtain ⟨hs, -, -, n, tx, st, te, tl, ns, nd, n', tx', st', te', tl', ns', nd', tp, hC, -⟩ := hI
  obtain ⟨-, -, -, -, -, hR, hrec, -⟩ := hC
  have r5 : m_I μ 69 24 = nI nd := hR.2.2.2.2.2.1
  have r7 : m_I μ 412 373 = nI nd := hR.2.2.2.2.2.2.2.1
  have b1 : nd ≤ 30 := hR.2.2.2.2.2.2.2.2.2.1
  by_cases c : a0 = -1
  · refine ⟨nI nd, fun Q h => ?_, fun Q h => ?_⟩
    · unfold p_X0_dent
      rw [if_pos c]
      simp (disch := omega) only [sk_p64_0 hs, sk_p64_1 hs, sk_p64_2 hs, sk_p64_3 hs, sk_p64_4 hs, sk_p64_5 hs, sk_p64_9 hs, sk_p64_10 hs, sk_p64_11 hs, sk_p65_6 hs, sk_p65_7 hs, sk_p65_8 hs, sk_p65_9 hs, sk_p65_10 hs, sk_p65_11 hs, sk_p65_12 hs, sk_p65_13 hs, sk_p65_14 hs, sk_p65_15 hs, sk_k64 hs, sk_n64 hs, sk_k65 hs, sk_n65 hs, sk_k69 hs, sk_n69 hs, cl24, vp24_25, true_and, r5]
      exact h
    · unfold p_X5_dent
      rw [if_pos c]
      simp (disch := omega) only [sk_p411_0 hs, sk_p411_1 hs, sk_p411_2 hs, sk_p411_6 hs, sk_p411_7 hs, sk_p411_8 hs, sk_p411_9 hs, sk_p411_10 hs, sk_p411_11 hs, sk_p411_12 hs, sk_p411_22 hs, sk_p411_23 hs, sk_p411_25 hs, sk_p411_26 hs, sk_p411_30 hs, sk_p411_31 hs, sk_p411_32 hs, sk_p411_33 hs, sk_p411_35 hs, sk_p411_36 hs, sk_p411_37 hs, sk_p411_38 hs, sk_p411_39 hs, sk_p411_40 hs, sk_p411_42 hs, sk_p411_43 hs, sk_p411_44 hs, sk_p411_45 hs, sk_p411_46 hs, sk_k411 hs, sk_n411 hs, sk_k412 hs, sk_n412 hs, cl373, vp373_11120, true_and, r7]
      exact h
  by_cases c1 : inB a0 0 (nI nd - 1)
  · by_cases c2 : inB a1 0 2
    · obtain ⟨i, hi, rfl⟩ := inB_k (by omega) c1
      obtain ⟨w, -, hw, rfl⟩ := inB_nI (lo := 0) (hi := 2) c2 (by decide) (by decide)
      have q := sk_q164 hs (p := 164 + i) (by omega) (by omega)
      have e : m_I μ (164 + i) w = m_I μ 412 (374 + 3 * i + w) := by
        have := hrec.2 i hi w (by omega)
        have e2 : 110 + (264 + 3 * i + w) = 374 + 3 * i + w := by omega
        unfold iv_sh at this
        rw [e2] at this
        exact this
      refine ⟨m_I μ 412 (374 + 3 * i + w), fun Q h => ?_, fun Q h => ?_⟩
      · unfold p_X0_dent
        rw [if_neg c]
        simp (disch := omega) only [s_in, sk_p64_0 hs, sk_p64_1 hs, sk_p64_2 hs, sk_p64_3 hs, sk_p64_4 hs, sk_p64_5 hs, sk_p64_9 hs, sk_p64_10 hs, sk_p64_11 hs, sk_p65_6 hs, sk_p65_7 hs, sk_p65_8 hs, sk_p65_9 hs, sk_p65_10 hs, sk_p65_11 hs, sk_p65_12 hs, sk_p65_13 hs, sk_p65_14 hs, sk_p65_15 hs, sk_k64 hs, sk_n64 hs, sk_k65 hs, sk_n65 hs, sk_k69 hs, sk_n69 hs, sk_k163 hs, sk_n163 hs, cl24, vp24_25, r5, if_pos c1, if_pos c2, e10, if_false, nI_clamp, vp_t, sk_r163 hs, q.1, q.2, true_and, e]
        exact h
      · unfold p_X5_dent
        rw [if_neg c]
        simp (disch := omega) only [m_in, sk_p411_0 hs, sk_p411_1 hs, sk_p411_2 hs, sk_p411_6 hs, sk_p411_7 hs, sk_p411_8 hs, sk_p411_9 hs, sk_p411_10 hs, sk_p411_11 hs, sk_p411_12 hs, sk_p411_22 hs, sk_p411_23 hs, sk_p411_25 hs, sk_p411_26 hs, sk_p411_30 hs, sk_p411_31 hs, sk_p411_32 hs, sk_p411_33 hs, sk_p411_35 hs, sk_p411_36 hs, sk_p411_37 hs, sk_p411_38 hs, sk_p411_39 hs, sk_p411_40 hs, sk_p411_42 hs, sk_p411_43 hs, sk_p411_44 hs, sk_p411_45 hs, sk_p411_46 hs, sk_k411 hs, sk_n411 hs, sk_k412 hs, sk_n412 hs, cl373, vp373_11120, r7, if_pos c1, if_pos c2, e10, if_false, true_and]
        simp (disch := omega) only [li_0, li_1, li_2, li_3, li_4, li_5, li_6, li_7, li_8, li_9, li_10, li_11, li_12, li_13, li_14, li_15, li_19, li_20, li_21, li_22, li_23, li_24, li_25, li_26, li_29, li_30, li_39, li_40, li_48, li_57, li_60, li_64, li_65, li_90, li_97, li_99, li_100, li_101, li_110, li_111, li_112, li_113, li_114, li_122, li_123, li_132, li_133, li_181, li_255, li_264, li_300, li_301, li_355, li_373, li_374, li_400, li_401, li_402, li_405, li_406, li_407, li_408, li_464, li_470, li_999, li_1600, li_9999, li_10765, li_30029, li_ofN, pk_mul, nI_add, nI_clamp, vp_t, nI_leI, nI_ltI, nI_eq, true_and]
        exact h
    · refine ⟨-9999, fun Q h => ?_, fun Q h => ?_⟩
      · unfold p_X0_dent
        rw [if_neg c]
        simp (disch := omega) only [s_in, sk_p64_0 hs, sk_p64_1 hs, sk_p64_2 hs, sk_p64_3 hs, sk_p64_4 hs, sk_p64_5 hs, sk_p64_9 hs, sk_p64_10 hs, sk_p64_11 hs, sk_p65_6 hs, sk_p65_7 hs, sk_p65_8 hs, sk_p65_9 hs, sk_p65_10 hs, sk_p65_11 hs, sk_p65_12 hs, sk_p65_13 hs, sk_p65_14 hs, sk_p65_15 hs, sk_k64 hs, sk_n64 hs, sk_k65 hs, sk_n65 hs, sk_k69 hs, sk_n69 hs, cl24, vp24_25, r5, if_pos c1, if_neg c2, e10, e00, if_true, if_false, true_and]
        exact h
      · unfold p_X5_dent
        rw [if_neg c]
        simp (disch := omega) only [m_in, sk_p411_0 hs, sk_p411_1 hs, sk_p411_2 hs, sk_p411_6 hs, sk_p411_7 hs, sk_p411_8 hs, sk_p411_9 hs, sk_p411_10 hs, sk_p411_11 hs, sk_p411_12 hs, sk_p411_22 hs, sk_p411_23 hs, sk_p411_25 hs, sk_p411_26 hs, sk_p411_30 hs, sk_p411_31 hs, sk_p411_32 hs, sk_p411_33 hs, sk_p411_35 hs, sk_p411_36 hs, sk_p411_37 hs, sk_p411_38 hs, sk_p411_39 hs, sk_p411_40 hs, sk_p411_42 hs, sk_p411_43 hs, sk_p411_44 hs, sk_p411_45 hs, sk_p411_46 hs, sk_k411 hs, sk_n411 hs, sk_k412 hs, sk_n412 hs, cl373, vp373_11120, r7, if_pos c1, if_neg c2, e10, e00, if_true, if_false, true_and]
        exact h
  · refine ⟨-9999, fun Q h => ?_, fun Q h => ?_⟩
    · unfold p_X0_dent
      rw [if_neg c]
      simp (disch := omega) only [s_in, sk_p64_0 hs, sk_p64_1 hs, sk_p64_2 hs, sk_p64_3 hs, sk_p64_4 hs, sk_p64_5 hs, sk_p64_9 hs, sk_p64_10 hs, sk_p64_11 hs, sk_p65_6 hs, sk_p65_7 hs, sk_p65_8 hs, sk_p65_9 hs, sk_p65_10 hs, sk_p65_11 hs, sk_p65_12 hs, sk_p65_13 hs, sk_p65_14 hs, sk_p65_15 hs, sk_k64 hs, sk_n64 hs, sk_k65 hs, sk_n65 hs, sk_k69 hs, sk_n69 hs, cl24, vp24_25, r5, if_neg c1, e00, if_true, true_and]
      exact h
    · unfold p_X5_dent
      rw [if_neg c]
      simp (disch := omega) only [m_in, sk_p411_0 hs, sk_p411_1 hs, sk_p411_2 hs, sk_p411_6 hs, sk_p411_7 hs, sk_p411_8 hs, sk_p411_9 hs, sk_p411_10 hs, sk_p411_11 hs, sk_p411_12 hs, sk_p411_22 hs, sk_p411_23 hs, sk_p411_25 hs, sk_p411_26 hs, sk_p411_30 hs, sk_p411_31 hs, sk_p411_32 hs, sk_p411_33 hs, sk_p411_35 hs, sk_p411_36 hs, sk_p411_37 hs, sk_p411_38 hs, sk_p411_39 hs, sk_p411_40 hs, sk_p411_42 hs, sk_p411_43 hs, sk_p411_44 hs, sk_p411_45 hs, sk_p411_46 hs, sk_k411 hs, sk_n411 hs, sk_k412 hs, sk_n412 hs, cl373, vp373_11120, r7, if_neg c1, e00, if_true, true_and]
      exact h
