/-! plain law: courts that change in a row; simple operations -/
theorem inB_t {x lo hi : Nat} (h1 : lo ≤ x) (h2 : x ≤ hi) (h3 : hi < 2 ^ 31) : inB (nI x) (nI lo) (nI hi) = True :=
  eq_true ⟨nI_nlt h1 (by omega), nI_nlt h2 h3⟩
theorem m_isOne {a : Int32} {μ : fw_M} {Q : Int32 → fw_M → Prop} : p_X5_isOne a μ Q = if inB a 0 1 then Q 1 μ else Q 0 μ := by
  unfold p_X5_isOne p_X5_isOne_L9
  by_cases c : inB a 0 1
  · rw [if_pos c]
    obtain ⟨k, -, k2, rfl⟩ := inB_nI (lo := 0) (hi := 1) c (by decide) (by decide)
    by_cases e : nI k = 0
    · rw [if_pos e]
    · rw [if_neg e]
      have : k = 1 := by
        have : k ≠ 0 := fun q => e (by rw [q]; rfl)
        omega
      subst this
      exact if_pos rfl
  · rw [if_neg c, if_neg (fun e => c (by rw [e]; decide)), if_neg (fun e => c (by rw [e]; decide))]
theorem s_isSide {a : Int32} {μ : fw_M} {Q : Int32 → fw_M → Prop} : p_X0_isSide a μ Q = if inB a 0 1 then Q 1 μ else Q 0 μ := by
  unfold p_X0_isSide
  rw [s_in]
  by_cases c : inB a 0 1
  · rw [if_pos c, if_pos c]; exact propext ⟨fun h => h.2, fun h => ⟨Or.inr rfl, h⟩⟩
  · rw [if_neg c, if_neg c]; exact propext ⟨fun h => h.2, fun h => ⟨Or.inl rfl, h⟩⟩
theorem s_isKind {a : Int32} {μ : fw_M} {Q : Int32 → fw_M → Prop} : p_X0_isKind a μ Q = if inB a 0 1 then Q 1 μ else Q 0 μ := s_isSide
theorem C_row {μ μ' : fw_M} {a a' : Nat → Int32} {n tx st te tl ns nd ns2 nd2 : Nat} (h : iv_C μ 65 a n tx st te tl ns nd) (hs : sk_m μ)
    (hI : ∀ p, 65 ≤ p → p < 228 → p ≠ 69 → ¬ (103 ≤ p ∧ p < 163) → ¬ (164 ≤ p ∧ p < 194) → m_I μ' p = m_I μ p)
    (hsp : ∀ i, i < ns → ∀ j, j < 4 → m_I μ' (103 + i) j = m_I μ (103 + i) j) (hde : ∀ i, i < nd → ∀ j, j < 3 → m_I μ' (164 + i) j = m_I μ (164 + i) j)
    (hP : m_P μ' 71 = m_P μ 71) (h1 : ns ≤ ns2) (h2 : nd ≤ nd2)
    (hrow : iv_row n ns2 nd2 (m_I μ' 69) (iv_sh a' 110)) (hrec : iv_rec ns2 nd2 (fun i => m_I μ' (103 + i)) (fun i => m_I μ' (164 + i)) (iv_sh a' 110))
    (ha : ∀ j, j < 110 ∨ 470 ≤ j → a' j = a j) : iv_C μ' 65 a' n tx st te tl ns2 nd2 := by
  obtain ⟨hb, hE, hA, hA2, hh, hr, -, ⟨N, NS, ND, hst, hmono⟩, hte, htl, hte2, htl2⟩ := h
  have b1 : ns ≤ 60 := hr.2.2.2.2.2.2.2.2.1
  have b2 : nd ≤ 30 := hr.2.2.2.2.2.2.2.2.2.1
  obtain ⟨q1, q2, q3, q4, q5⟩ := hb
  have i0 : m_I μ' 65 = m_I μ 65 := hI 65 (by decide) (by decide) (by decide) (by omega) (by omega)
  have i1 : m_I μ' 66 = m_I μ 66 := hI 66 (by decide) (by decide) (by decide) (by omega) (by omega)
  have i2 : m_I μ' 67 = m_I μ 67 := hI 67 (by decide) (by decide) (by decide) (by omega) (by omega)
  have i3 : m_I μ' 68 = m_I μ 68 := hI 68 (by decide) (by decide) (by decide) (by omega) (by omega)
  have i5 : m_I μ' 70 = m_I μ 70 := hI 70 (by decide) (by decide) (by decide) (by omega) (by omega)
  have sh : ∀ k, iv_sh a' (470 + 355 * k) = iv_sh a (470 + 355 * k) := fun k => funext fun j => ha _ (Or.inr (by omega))
  refine ⟨⟨q1, q2, q3, q4, q5⟩, ?_, ?_, ?_, fun e he => ?_, hrow, hrec, ⟨N, NS, ND, fun k hk => ?_, hmono⟩, fun i hi j hj => ?_, fun i hi j hj => ?_, fun i hi => ?_, fun i hi => ?_⟩
  · rw [i0, ha 2 (Or.inl (by decide))]; exact hE
  · rw [ha 0 (Or.inl (by decide)), ha 1 (Or.inl (by decide)), ha 3 (Or.inl (by decide)), ha 4 (Or.inl (by decide)), ha 5 (Or.inl (by decide))]; exact hA
  · rw [ha 2 (Or.inl (by decide))]; exact hA2
  · show m_I μ' 66 e = _ ∧ m_I μ' 67 e = _ ∧ m_I μ' 68 e = _ ∧ (∃ x, x ≤ 9 ∧ m_I μ' 66 e = nI x) ∧ (∃ x, 1 ≤ x ∧ x ≤ 9 ∧ m_I μ' 67 e = nI x) ∧ ∃ x, x ≤ 99 ∧ m_I μ' 68 e = nI x
    rw [i1, i2, i3, ha (10 + 3 * e) (Or.inl (by omega)), ha (11 + 3 * e) (Or.inl (by omega)), ha (12 + 3 * e) (Or.inl (by omega))]
    exact hh e he
  · obtain ⟨k1, k2, k3, k4, k5, k6⟩ := hst k hk
    have hk3 := sk_s65 hs (j := k) (by omega)
    refine ⟨k1, ?_, by omega, by omega, ?_, ?_⟩
    · show m_I μ' 70 k = _
      rw [i5]; exact k2
    · show iv_row _ _ _ (m_I μ' (m_P μ' 71 k)) _
      rw [hP, hI _ (by omega) (by omega) (by omega) (by omega) (by omega), sh]
      exact k5
    · rw [sh]
      exact rec_cong k6 (by omega) (by omega) (fun i hi j hj => hsp i (by omega) j hj) (fun i hi j hj => hde i (by omega) j hj) (fun j _ _ => rfl)
  · show m_I μ' (195 + i) j = _
    rw [hI (195 + i) (by omega) (by omega) (by omega) (by omega) (by omega), ha _ (Or.inl (by omega))]
    exact hte i hi j hj
  · show m_I μ' (208 + i) j = _
    rw [hI (208 + i) (by omega) (by omega) (by omega) (by omega) (by omega), ha _ (Or.inl (by omega))]
    exact htl i hi j hj
  · show (∃ x, x ≤ 40 ∧ m_I μ' (195 + i) 0 = nI x - 20) ∧ inB (m_I μ' (195 + i) 1) (-1) 1
    rw [hI (195 + i) (by omega) (by omega) (by omega) (by omega) (by omega)]
    exact hte2 i hi
  · show (∃ x, x < 9 ∧ m_I μ' (208 + i) 0 = nI x) ∧ ∃ x, 1 ≤ x ∧ x ≤ 999 ∧ m_I μ' (208 + i) 1 = nI x
    rw [hI (208 + i) (by omega) (by omega) (by omega) (by omega) (by omega)]
    exact htl2 i hi
/-- the pots (and flies' number) of here change -/
theorem kp_pots {L : Nat} {xs : Nat → Int32} {z : Nat → Nat} {μ : fw_M} {f g : Nat → Int32} (hI : iv_inv L xs z μ) (h1 : ∀ k, k < 4 → f k = g (110 + k) ∧ ∃ x, x ≤ 999 ∧ g (110 + k) = nI x) (h2 : f 22 = g 464 ∧ ∃ x, x < 50000 ∧ g 464 = nI x)
    (hf : ∀ j, 4 ≤ j → j < 25 → j ≠ 22 → f j = m_I μ 69 j) (hg : ∀ j, j < 110 ∨ (114 ≤ j ∧ j ≠ 464) → g j = m_I μ 412 j) : iv_inv L xs z (m_sI (m_sI μ 69 f) 412 g) := by
  have hs := hI.1
  refine kp_here hI (sk_m.I (sk_m.I hs)) rfl rfl (fun _ _ => rfl) (fun p p1 p2 p3 p4 => by rw [ml_In p3, ml_In (by omega)]) (fun j _ => by rw [ml_In (by decide), ml_In (by decide)]) (fun j _ => by rw [ml_In (by decide), ml_In (by decide)]) fun n tx st te tl ns nd c => ⟨n, st, te, tl, ns, nd, ?_⟩
  have e69 : m_I (m_sI (m_sI μ 69 f) 412 g) 69 = f := by rw [ml_In (by decide), ml_Is]
  have e : ∀ p, p ≠ 69 → p ≠ 412 → m_I (m_sI (m_sI μ 69 f) 412 g) p = m_I μ p := fun p p1 p2 => by rw [ml_In p2, ml_In p1]
  obtain ⟨hb, -, -, -, -, hr, hrec, -⟩ := id c
  have b1 : ns ≤ 60 := hr.2.2.2.2.2.2.2.2.1
  have b2 : nd ≤ 30 := hr.2.2.2.2.2.2.2.2.2.1
  refine C_row c hs (fun p p1 p2 p3 _ _ => e p p3 (by omega)) (fun i hi j hj => by rw [e _ (by omega) (by omega)]) (fun i hi j hj => by rw [e _ (by omega) (by omega)]) rfl (Nat.le_refl _) (Nat.le_refl _) ?_ ?_ (fun j hj => ?_)
  · rw [e69, ml_Is]
    exact row_pots hb.1 hr h1 h2 hf fun j j1 j2 => hg (110 + j) (Or.inr ⟨by omega, by omega⟩)
  · rw [ml_Is]
    exact rec_cong hrec b1 b2 (fun i hi j hj => by rw [e _ (by omega) (by omega)]) (fun i hi j hj => by rw [e _ (by omega) (by omega)]) fun j j1 j2 => hg (110 + j) (Or.inr ⟨by omega, by omega⟩)
  · rw [ml_Is]
    exact hg j (by omega)
theorem op_pot (a0 a1 a2 : Int32) : iv_op2 (α := Int32) (fun μ Q => p_X0_pot 64 a0 a1 a2 μ Q) (fun μ Q => p_X5_pot 411 a0 a1 a2 μ Q) := by
  intro L xs z μ hI Qs H
  have hs := hI.1
  by_cases c : inB a0 0 1 ∧ inB a1 0 1 ∧ inB a2 0 999
  · obtain ⟨c1, c2, c3⟩ := c
    obtain ⟨s, -, s2, rfl⟩ := inB_nI (lo := 0) (hi := 1) c1 (by decide) (by decide)
    obtain ⟨k, -, k2, rfl⟩ := inB_nI (lo := 0) (hi := 1) c2 (by decide) (by decide)
    obtain ⟨g, -, g2, rfl⟩ := inB_nI (lo := 0) (hi := 999) c3 (by decide) (by decide)
    have a : p_X0_pot 64 (nI s) (nI k) (nI g) μ Qs = Qs (nI 1) (m_sI μ 69 (ml_u (m_I μ 69) (0 + 2 * s + k) (nI g))) := by
      simp (decide := true) (disch := omega) only [p_X0_pot, s_isSide, s_isKind, s_in, inB_t, sk_p64_0 hs, sk_p64_1 hs, sk_p64_2 hs, sk_p64_3 hs, sk_p64_4 hs, sk_p64_5 hs, sk_p64_9 hs, sk_p64_10 hs, sk_p64_11 hs, sk_p65_6 hs, sk_p65_7 hs, sk_p65_8 hs, sk_p65_9 hs, sk_p65_10 hs, sk_p65_11 hs, sk_p65_12 hs, sk_p65_13 hs, sk_p65_14 hs, sk_p65_15 hs, sk_k64 hs, sk_n64 hs, sk_k65 hs, sk_n65 hs, sk_k69 hs, sk_n69 hs, li_0, li_1, li_2, li_3, li_4, li_5, li_6, li_7, li_8, li_9, li_10, li_11, li_12, li_13, li_14, li_15, li_19, li_20, li_21, li_22, li_23, li_24, li_25, li_26, li_29, li_30, li_39, li_40, li_48, li_57, li_60, li_64, li_65, li_90, li_97, li_99, li_100, li_101, li_110, li_111, li_112, li_113, li_114, li_122, li_123, li_132, li_133, li_181, li_255, li_264, li_300, li_301, li_355, li_373, li_374, li_400, li_401, li_402, li_405, li_406, li_407, li_408, li_464, li_470, li_999, li_1600, li_9999, li_10765, li_30029, li_ofN, pk_mul, nI_add, nI_clamp, vp_t, nI_leI, nI_ltI, nI_eq, ml_uI, ml_KI, ml_PI, ml_NI, ml_SI, ml_xI, ml_Is, ml_In, ml_us, ml_un, ml_cp, ml_ss, true_and, and_true, forall_eq, ↓reduceIte, not_false_eq_true, Nat.not_lt_zero, not_true_eq_false]
    show p_X0_pot 64 (nI s) (nI k) (nI g) μ Qs
    rw [a]
    refine H _ _ ⟨rfl, ml_In (by decide), sk_k64 hs, sk_k411 hs⟩ (fun Qm hQ => ?_)
    have b : p_X5_pot 411 (nI s) (nI k) (nI g) (m_sI μ 69 (ml_u (m_I μ 69) (0 + 2 * s + k) (nI g))) Qm = Qm (nI 1) (m_sI (m_sI μ 69 (ml_u (m_I μ 69) (0 + 2 * s + k) (nI g))) 412 (ml_u (m_I μ 412) (110 + 2 * s + k) (nI g))) := by
      simp (decide := true) (disch := omega) only [p_X5_pot, m_isOne, m_in, inB_t, sk_p411_0 hs, sk_p411_1 hs, sk_p411_2 hs, sk_p411_6 hs, sk_p411_7 hs, sk_p411_8 hs, sk_p411_9 hs, sk_p411_10 hs, sk_p411_11 hs, sk_p411_12 hs, sk_p411_22 hs, sk_p411_23 hs, sk_p411_25 hs, sk_p411_26 hs, sk_p411_30 hs, sk_p411_31 hs, sk_p411_32 hs, sk_p411_33 hs, sk_p411_35 hs, sk_p411_36 hs, sk_p411_37 hs, sk_p411_38 hs, sk_p411_39 hs, sk_p411_40 hs, sk_p411_42 hs, sk_p411_43 hs, sk_p411_44 hs, sk_p411_45 hs, sk_p411_46 hs, sk_k411 hs, sk_n411 hs, sk_k412 hs, sk_n412 hs, li_0, li_1, li_2, li_3, li_4, li_5, li_6, li_7, li_8, li_9, li_10, li_11, li_12, li_13, li_14, li_15, li_19, li_20, li_21, li_22, li_23, li_24, li_25, li_26, li_29, li_30, li_39, li_40, li_48, li_57, li_60, li_64, li_65, li_90, li_97, li_99, li_100, li_101, li_110, li_111, li_112, li_113, li_114, li_122, li_123, li_132, li_133, li_181, li_255, li_264, li_300, li_301, li_355, li_373, li_374, li_400, li_401, li_402, li_405, li_406, li_407, li_408, li_464, li_470, li_999, li_1600, li_9999, li_10765, li_30029, li_ofN, pk_mul, nI_add, nI_clamp, vp_t, nI_leI, nI_ltI, nI_eq, ml_uI, ml_KI, ml_PI, ml_NI, ml_SI, ml_xI, ml_Is, ml_In, ml_us, ml_un, ml_cp, ml_ss, true_and, and_true, forall_eq, ↓reduceIte, not_false_eq_true, Nat.not_lt_zero, not_true_eq_false]
    show p_X5_pot 411 (nI s) (nI k) (nI g) _ Qm
    rw [b]
    refine hQ _ ?_ ⟨rfl, by rw [ml_In (by decide), ml_In (by decide)], sk_k64 hs, sk_k411 hs⟩
    obtain ⟨-, -, -, n, tx, st, te, tl, ns, nd, n', tx', st', te', tl', ns', nd', tp, hC, -⟩ := id hI
    obtain ⟨-, -, -, -, -, hr, -⟩ := hC
    refine kp_pots hI (fun j hj => ?_) ?_ (fun j j1 j2 j3 => ml_un (by omega)) (fun j hj => ml_un (by omega))
    · by_cases e : j = 2 * s + k
      · subst e
        rw [show 0 + 2 * s + k = 2 * s + k by omega, ml_us, show 110 + 2 * s + k = 110 + (2 * s + k) by omega, ml_us]
        exact ⟨rfl, g, g2, rfl⟩
      · rw [ml_un (by omega), ml_un (by omega)]
        exact ⟨hr.1 j hj, hr.2.2.2.2.2.2.2.2.2.2.1 j hj⟩
    · rw [ml_un (by omega), ml_un (by omega)]
      exact ⟨hr.2.2.2.1, hr.2.2.2.2.2.2.2.2.2.2.2.2.2.1⟩
  · have a : p_X0_pot 64 a0 a1 a2 μ Qs = Qs 0 μ := by
      simp only [p_X0_pot, s_isSide, s_isKind, s_in]
      by_cases c1 : inB a0 0 1
      · by_cases c2 : inB a1 0 1
        · by_cases c3 : inB a2 0 999
          · exact absurd ⟨c1, c2, c3⟩ c
          · simp only [if_pos c1, if_pos c2, if_neg c3, e10, if_false, if_true]
        · simp only [if_pos c1, if_neg c2, e10, if_false, if_true]
      · simp only [if_neg c1, if_true]
    show p_X0_pot 64 a0 a1 a2 μ Qs
    rw [a]
    refine H _ _ (iv_scr.rf hI) (fun Qm hQ => ?_)
    have b : p_X5_pot 411 a0 a1 a2 μ Qm = Qm 0 μ := by
      simp only [p_X5_pot, m_isOne, m_in]
      by_cases c1 : inB a0 0 1
      · by_cases c2 : inB a1 0 1
        · by_cases c3 : inB a2 0 999
          · exact absurd ⟨c1, c2, c3⟩ c
          · simp only [if_pos c1, if_pos c2, if_neg c3, e10, if_false, if_true]
        · simp only [if_pos c1, if_neg c2, e10, if_false, if_true]
      · simp only [if_neg c1, if_true]
    show p_X5_pot 411 a0 a1 a2 μ Qm
    rw [b]
    exact hQ _ hI (iv_scr.rf hI)
theorem op_seed (a0 : Int32) : iv_op2 (α := Int32) (fun μ Q => p_X0_seed 64 a0 μ Q) (fun μ Q => p_X5_seed 411 a0 μ Q) := by
  intro L xs z μ hI Qs H
  have hs := hI.1
  by_cases c : inB a0 0 9999
  · obtain ⟨s, -, s2, rfl⟩ := inB_nI (lo := 0) (hi := 9999) c (by decide) (by decide)
    have a : p_X0_seed 64 (nI s) μ Qs = Qs (nI 1) (m_sI μ 69 (ml_u (m_I μ 69) 22 (nI (5 * s + 3)))) := by
      simp (decide := true) (disch := omega) only [p_X0_seed, s_in, inB_t, sk_p64_0 hs, sk_p64_1 hs, sk_p64_2 hs, sk_p64_3 hs, sk_p64_4 hs, sk_p64_5 hs, sk_p64_9 hs, sk_p64_10 hs, sk_p64_11 hs, sk_p65_6 hs, sk_p65_7 hs, sk_p65_8 hs, sk_p65_9 hs, sk_p65_10 hs, sk_p65_11 hs, sk_p65_12 hs, sk_p65_13 hs, sk_p65_14 hs, sk_p65_15 hs, sk_k64 hs, sk_n64 hs, sk_k65 hs, sk_n65 hs, sk_k69 hs, sk_n69 hs, li_0, li_1, li_2, li_3, li_4, li_5, li_6, li_7, li_8, li_9, li_10, li_11, li_12, li_13, li_14, li_15, li_19, li_20, li_21, li_22, li_23, li_24, li_25, li_26, li_29, li_30, li_39, li_40, li_48, li_57, li_60, li_64, li_65, li_90, li_97, li_99, li_100, li_101, li_110, li_111, li_112, li_113, li_114, li_122, li_123, li_132, li_133, li_181, li_255, li_264, li_300, li_301, li_355, li_373, li_374, li_400, li_401, li_402, li_405, li_406, li_407, li_408, li_464, li_470, li_999, li_1600, li_9999, li_10765, li_30029, li_ofN, pk_mul, nI_add, nI_clamp, vp_t, nI_leI, nI_ltI, nI_eq, ml_uI, ml_KI, ml_PI, ml_NI, ml_SI, ml_xI, ml_Is, ml_In, ml_us, ml_un, ml_cp, ml_ss, true_and, and_true, forall_eq, ↓reduceIte, not_false_eq_true, Nat.not_lt_zero, not_true_eq_false]
    show p_X0_seed 64 (nI s) μ Qs
    rw [a]
    refine H _ _ ⟨rfl, ml_In (by decide), sk_k64 hs, sk_k411 hs⟩ (fun Qm hQ => ?_)
    have b : p_X5_seed 411 (nI s) (m_sI μ 69 (ml_u (m_I μ 69) 22 (nI (5 * s + 3)))) Qm = Qm (nI 1) (m_sI (m_sI μ 69 (ml_u (m_I μ 69) 22 (nI (5 * s + 3)))) 412 (ml_u (m_I μ 412) 464 (nI (s * 5 + 3)))) := by
      simp (decide := true) (disch := omega) only [p_X5_seed, m_in, inB_t, sk_p411_0 hs, sk_p411_1 hs, sk_p411_2 hs, sk_p411_6 hs, sk_p411_7 hs, sk_p411_8 hs, sk_p411_9 hs, sk_p411_10 hs, sk_p411_11 hs, sk_p411_12 hs, sk_p411_22 hs, sk_p411_23 hs, sk_p411_25 hs, sk_p411_26 hs, sk_p411_30 hs, sk_p411_31 hs, sk_p411_32 hs, sk_p411_33 hs, sk_p411_35 hs, sk_p411_36 hs, sk_p411_37 hs, sk_p411_38 hs, sk_p411_39 hs, sk_p411_40 hs, sk_p411_42 hs, sk_p411_43 hs, sk_p411_44 hs, sk_p411_45 hs, sk_p411_46 hs, sk_k411 hs, sk_n411 hs, sk_k412 hs, sk_n412 hs, li_0, li_1, li_2, li_3, li_4, li_5, li_6, li_7, li_8, li_9, li_10, li_11, li_12, li_13, li_14, li_15, li_19, li_20, li_21, li_22, li_23, li_24, li_25, li_26, li_29, li_30, li_39, li_40, li_48, li_57, li_60, li_64, li_65, li_90, li_97, li_99, li_100, li_101, li_110, li_111, li_112, li_113, li_114, li_122, li_123, li_132, li_133, li_181, li_255, li_264, li_300, li_301, li_355, li_373, li_374, li_400, li_401, li_402, li_405, li_406, li_407, li_408, li_464, li_470, li_999, li_1600, li_9999, li_10765, li_30029, li_ofN, pk_mul, nI_add, nI_clamp, vp_t, nI_leI, nI_ltI, nI_eq, ml_uI, ml_KI, ml_PI, ml_NI, ml_SI, ml_xI, ml_Is, ml_In, ml_us, ml_un, ml_cp, ml_ss, true_and, and_true, forall_eq, ↓reduceIte, not_false_eq_true, Nat.not_lt_zero, not_true_eq_false]
    show p_X5_seed 411 (nI s) _ Qm
    rw [b]
    refine hQ _ ?_ ⟨rfl, by rw [ml_In (by decide), ml_In (by decide)], sk_k64 hs, sk_k411 hs⟩
    obtain ⟨-, -, -, n, tx, st, te, tl, ns, nd, n', tx', st', te', tl', ns', nd', tp, hC, -⟩ := id hI
    obtain ⟨-, -, -, -, -, hr, -⟩ := hC
    refine kp_pots hI (fun j hj => ?_) ?_ (fun j j1 j2 j3 => ml_un (by omega)) (fun j hj => ml_un (by omega))
    · rw [ml_un (by omega), ml_un (by omega)]
      exact ⟨hr.1 j hj, hr.2.2.2.2.2.2.2.2.2.2.1 j hj⟩
    · rw [ml_us, ml_us]
      exact ⟨by rw [Nat.mul_comm], s * 5 + 3, by omega, rfl⟩
  · have a : p_X0_seed 64 a0 μ Qs = Qs 0 μ := by
      simp only [p_X0_seed, s_in]
      simp only [if_neg c, if_true]
    show p_X0_seed 64 a0 μ Qs
    rw [a]
    refine H _ _ (iv_scr.rf hI) (fun Qm hQ => ?_)
    have b : p_X5_seed 411 a0 μ Qm = Qm 0 μ := by
      simp only [p_X5_seed, m_in]
      simp only [if_neg c, if_true]
    show p_X5_seed 411 a0 μ Qm
    rw [b]
    exact hQ _ hI (iv_scr.rf hI)
