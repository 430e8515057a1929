/-! plain law: simple operations -/
theorem cl0 : (0 : Int32).toNatClampNeg = 0 := rfl
theorem vp0_25 : vp_in (0 : Int32) 25 = True := eq_true (vp_in_nI (n := 0) (by decide) (by decide))
theorem vp0_11120 : vp_in (0 : Int32) 11120 = True := eq_true (vp_in_nI (n := 0) (by decide) (by decide))
theorem cl1 : (1 : Int32).toNatClampNeg = 1 := rfl
theorem vp1_25 : vp_in (1 : Int32) 25 = True := eq_true (vp_in_nI (n := 1) (by decide) (by decide))
theorem vp1_11120 : vp_in (1 : Int32) 11120 = True := eq_true (vp_in_nI (n := 1) (by decide) (by decide))
theorem cl2 : (2 : Int32).toNatClampNeg = 2 := rfl
theorem vp2_25 : vp_in (2 : Int32) 25 = True := eq_true (vp_in_nI (n := 2) (by decide) (by decide))
theorem vp2_11120 : vp_in (2 : Int32) 11120 = True := eq_true (vp_in_nI (n := 2) (by decide) (by decide))
theorem cl3 : (3 : Int32).toNatClampNeg = 3 := rfl
theorem vp3_25 : vp_in (3 : Int32) 25 = True := eq_true (vp_in_nI (n := 3) (by decide) (by decide))
theorem vp3_11120 : vp_in (3 : Int32) 11120 = True := eq_true (vp_in_nI (n := 3) (by decide) (by decide))
theorem cl4 : (4 : Int32).toNatClampNeg = 4 := rfl
theorem vp4_25 : vp_in (4 : Int32) 25 = True := eq_true (vp_in_nI (n := 4) (by decide) (by decide))
theorem vp4_11120 : vp_in (4 : Int32) 11120 = True := eq_true (vp_in_nI (n := 4) (by decide) (by decide))
theorem cl5 : (5 : Int32).toNatClampNeg = 5 := rfl
theorem vp5_25 : vp_in (5 : Int32) 25 = True := eq_true (vp_in_nI (n := 5) (by decide) (by decide))
theorem vp5_11120 : vp_in (5 : Int32) 11120 = True := eq_true (vp_in_nI (n := 5) (by decide) (by decide))
theorem cl6 : (6 : Int32).toNatClampNeg = 6 := rfl
theorem vp6_25 : vp_in (6 : Int32) 25 = True := eq_true (vp_in_nI (n := 6) (by decide) (by decide))
theorem vp6_11120 : vp_in (6 : Int32) 11120 = True := eq_true (vp_in_nI (n := 6) (by decide) (by decide))
theorem cl7 : (7 : Int32).toNatClampNeg = 7 := rfl
theorem vp7_25 : vp_in (7 : Int32) 25 = True := eq_true (vp_in_nI (n := 7) (by decide) (by decide))
theorem vp7_11120 : vp_in (7 : Int32) 11120 = True := eq_true (vp_in_nI (n := 7) (by decide) (by decide))
theorem cl8 : (8 : Int32).toNatClampNeg = 8 := rfl
theorem vp8_25 : vp_in (8 : Int32) 25 = True := eq_true (vp_in_nI (n := 8) (by decide) (by decide))
theorem vp8_11120 : vp_in (8 : Int32) 11120 = True := eq_true (vp_in_nI (n := 8) (by decide) (by decide))
theorem cl9 : (9 : Int32).toNatClampNeg = 9 := rfl
theorem vp9_25 : vp_in (9 : Int32) 25 = True := eq_true (vp_in_nI (n := 9) (by decide) (by decide))
theorem vp9_11120 : vp_in (9 : Int32) 11120 = True := eq_true (vp_in_nI (n := 9) (by decide) (by decide))
theorem cl10 : (10 : Int32).toNatClampNeg = 10 := rfl
theorem vp10_25 : vp_in (10 : Int32) 25 = True := eq_true (vp_in_nI (n := 10) (by decide) (by decide))
theorem vp10_11120 : vp_in (10 : Int32) 11120 = True := eq_true (vp_in_nI (n := 10) (by decide) (by decide))
theorem cl11 : (11 : Int32).toNatClampNeg = 11 := rfl
theorem vp11_25 : vp_in (11 : Int32) 25 = True := eq_true (vp_in_nI (n := 11) (by decide) (by decide))
theorem vp11_11120 : vp_in (11 : Int32) 11120 = True := eq_true (vp_in_nI (n := 11) (by decide) (by decide))
theorem cl12 : (12 : Int32).toNatClampNeg = 12 := rfl
theorem vp12_25 : vp_in (12 : Int32) 25 = True := eq_true (vp_in_nI (n := 12) (by decide) (by decide))
theorem vp12_11120 : vp_in (12 : Int32) 11120 = True := eq_true (vp_in_nI (n := 12) (by decide) (by decide))
theorem cl13 : (13 : Int32).toNatClampNeg = 13 := rfl
theorem vp13_25 : vp_in (13 : Int32) 25 = True := eq_true (vp_in_nI (n := 13) (by decide) (by decide))
theorem vp13_11120 : vp_in (13 : Int32) 11120 = True := eq_true (vp_in_nI (n := 13) (by decide) (by decide))
theorem cl14 : (14 : Int32).toNatClampNeg = 14 := rfl
theorem vp14_25 : vp_in (14 : Int32) 25 = True := eq_true (vp_in_nI (n := 14) (by decide) (by decide))
theorem vp14_11120 : vp_in (14 : Int32) 11120 = True := eq_true (vp_in_nI (n := 14) (by decide) (by decide))
theorem cl15 : (15 : Int32).toNatClampNeg = 15 := rfl
theorem vp15_25 : vp_in (15 : Int32) 25 = True := eq_true (vp_in_nI (n := 15) (by decide) (by decide))
theorem vp15_11120 : vp_in (15 : Int32) 11120 = True := eq_true (vp_in_nI (n := 15) (by decide) (by decide))
theorem cl16 : (16 : Int32).toNatClampNeg = 16 := rfl
theorem vp16_25 : vp_in (16 : Int32) 25 = True := eq_true (vp_in_nI (n := 16) (by decide) (by decide))
theorem vp16_11120 : vp_in (16 : Int32) 11120 = True := eq_true (vp_in_nI (n := 16) (by decide) (by decide))
theorem cl17 : (17 : Int32).toNatClampNeg = 17 := rfl
theorem vp17_25 : vp_in (17 : Int32) 25 = True := eq_true (vp_in_nI (n := 17) (by decide) (by decide))
theorem vp17_11120 : vp_in (17 : Int32) 11120 = True := eq_true (vp_in_nI (n := 17) (by decide) (by decide))
theorem cl18 : (18 : Int32).toNatClampNeg = 18 := rfl
theorem vp18_25 : vp_in (18 : Int32) 25 = True := eq_true (vp_in_nI (n := 18) (by decide) (by decide))
theorem vp18_11120 : vp_in (18 : Int32) 11120 = True := eq_true (vp_in_nI (n := 18) (by decide) (by decide))
theorem cl19 : (19 : Int32).toNatClampNeg = 19 := rfl
theorem vp19_25 : vp_in (19 : Int32) 25 = True := eq_true (vp_in_nI (n := 19) (by decide) (by decide))
theorem vp19_11120 : vp_in (19 : Int32) 11120 = True := eq_true (vp_in_nI (n := 19) (by decide) (by decide))
theorem cl20 : (20 : Int32).toNatClampNeg = 20 := rfl
theorem vp20_25 : vp_in (20 : Int32) 25 = True := eq_true (vp_in_nI (n := 20) (by decide) (by decide))
theorem vp20_11120 : vp_in (20 : Int32) 11120 = True := eq_true (vp_in_nI (n := 20) (by decide) (by decide))
theorem cl21 : (21 : Int32).toNatClampNeg = 21 := rfl
theorem vp21_25 : vp_in (21 : Int32) 25 = True := eq_true (vp_in_nI (n := 21) (by decide) (by decide))
theorem vp21_11120 : vp_in (21 : Int32) 11120 = True := eq_true (vp_in_nI (n := 21) (by decide) (by decide))
theorem cl22 : (22 : Int32).toNatClampNeg = 22 := rfl
theorem vp22_25 : vp_in (22 : Int32) 25 = True := eq_true (vp_in_nI (n := 22) (by decide) (by decide))
theorem vp22_11120 : vp_in (22 : Int32) 11120 = True := eq_true (vp_in_nI (n := 22) (by decide) (by decide))
theorem cl23 : (23 : Int32).toNatClampNeg = 23 := rfl
theorem vp23_25 : vp_in (23 : Int32) 25 = True := eq_true (vp_in_nI (n := 23) (by decide) (by decide))
theorem vp23_11120 : vp_in (23 : Int32) 11120 = True := eq_true (vp_in_nI (n := 23) (by decide) (by decide))
theorem cl24 : (24 : Int32).toNatClampNeg = 24 := rfl
theorem vp24_25 : vp_in (24 : Int32) 25 = True := eq_true (vp_in_nI (n := 24) (by decide) (by decide))
theorem vp24_11120 : vp_in (24 : Int32) 11120 = True := eq_true (vp_in_nI (n := 24) (by decide) (by decide))
theorem cl25 : (25 : Int32).toNatClampNeg = 25 := rfl
theorem vp25_11120 : vp_in (25 : Int32) 11120 = True := eq_true (vp_in_nI (n := 25) (by decide) (by decide))
theorem cl110 : (110 : Int32).toNatClampNeg = 110 := rfl
theorem vp110_11120 : vp_in (110 : Int32) 11120 = True := eq_true (vp_in_nI (n := 110) (by decide) (by decide))
theorem cl111 : (111 : Int32).toNatClampNeg = 111 := rfl
theorem vp111_11120 : vp_in (111 : Int32) 11120 = True := eq_true (vp_in_nI (n := 111) (by decide) (by decide))
theorem cl112 : (112 : Int32).toNatClampNeg = 112 := rfl
theorem vp112_11120 : vp_in (112 : Int32) 11120 = True := eq_true (vp_in_nI (n := 112) (by decide) (by decide))
theorem cl113 : (113 : Int32).toNatClampNeg = 113 := rfl
theorem vp113_11120 : vp_in (113 : Int32) 11120 = True := eq_true (vp_in_nI (n := 113) (by decide) (by decide))
theorem cl132 : (132 : Int32).toNatClampNeg = 132 := rfl
theorem vp132_11120 : vp_in (132 : Int32) 11120 = True := eq_true (vp_in_nI (n := 132) (by decide) (by decide))
theorem cl373 : (373 : Int32).toNatClampNeg = 373 := rfl
theorem vp373_11120 : vp_in (373 : Int32) 11120 = True := eq_true (vp_in_nI (n := 373) (by decide) (by decide))
theorem cl464 : (464 : Int32).toNatClampNeg = 464 := rfl
theorem vp464_11120 : vp_in (464 : Int32) 11120 = True := eq_true (vp_in_nI (n := 464) (by decide) (by decide))
/-- a number between two small ones -/
theorem inB_nI {a : Int32} {lo hi : Nat} (h : inB a (nI lo) (nI hi)) (hlo : lo < 2 ^ 31) (hhi : hi < 2 ^ 31) : ∃ k, lo ≤ k ∧ k ≤ hi ∧ a = nI k := by
  obtain ⟨h1, h2⟩ := h
  rw [Int32.lt_iff_toInt_lt, nI_toInt hlo] at h1
  rw [Int32.lt_iff_toInt_lt, nI_toInt hhi] at h2
  obtain ⟨j, hj, e⟩ := nI_of (x := a) (by rw [Int32.lt_iff_toInt_lt, Int32.toInt_zero]; omega)
  subst e
  rw [nI_toInt hj] at h1 h2
  exact ⟨j, by omega, by omega, rfl⟩
theorem op_about (a0 : Int32) : iv_op2 (α := Int32) (fun μ Q => p_X0_about 64 a0 μ Q) (fun μ Q => p_X5_about 411 a0 μ Q) := by
  refine op_ro fun L xs z μ hI => ?_
  obtain ⟨hs, -, -, n, tx, st, te, tl, ns, nd, n', tx', st', te', tl', ns', nd', tp, hC, -, -, -, T1, T2, -⟩ := hI
  obtain ⟨-, ⟨E0, E1, E2, E3, E4, E5⟩, ⟨A0, A1, A3, A4, A5⟩, -, -, hR, -⟩ := hC
  obtain ⟨r1, -, -, r4, r5, r6, r7, r8, -⟩ := hR
  have p0 : m_I μ 69 0 = m_I μ 412 110 := r1 0 (by decide)
  have p1 : m_I μ 69 1 = m_I μ 412 111 := r1 1 (by decide)
  have p2 : m_I μ 69 2 = m_I μ 412 112 := r1 2 (by decide)
  have p3 : m_I μ 69 3 = m_I μ 412 113 := r1 3 (by decide)
  have r4 : m_I μ 69 22 = m_I μ 412 464 := r4
  have r6 : m_I μ 69 24 = nI nd := r6
  have r8 : m_I μ 412 373 = nI nd := r8
  have S : ∀ v : Int32, (∀ Q : Int32 → fw_M → Prop, Q v μ → p_X0_about 64 a0 μ Q) → (∀ Q : Int32 → fw_M → Prop, Q v μ → p_X5_about 411 a0 μ Q) → ∃ v : Int32, (∀ Q : Int32 → fw_M → Prop, Q v μ → p_X0_about 64 a0 μ Q) ∧ (∀ Q : Int32 → fw_M → Prop, Q v μ → p_X5_about 411 a0 μ Q) := fun v a b => ⟨v, a, b⟩
  by_cases g : inB a0 10 13
  · obtain ⟨k, k1, k2, rfl⟩ := inB_nI (lo := 10) (hi := 13) g (by decide) (by decide)
    have nk : ∀ j : Nat, j < 10 → ¬ (nI k : Int32) = nI j := fun j hj e => by
      have := (nI_eq (a := k) (b := j) (by omega) (by omega)).mp e
      omega
    have i1 : (0 : Int32) + nI k - 10 = nI (k - 10) := by rw [show (0 : Int32) + nI k = nI (0 + k) from nI_add 0 k]; rw [Nat.zero_add]; exact pk_sub (b := 10) (by omega)
    have i2 : (110 : Int32) + nI k - 10 = nI (100 + k) := by rw [show (110 : Int32) + nI k = nI (110 + k) from nI_add 110 k]; rw [show nI (110 + k) - 10 = nI (110 + k - 10) from pk_sub (b := 10) (by omega)]; congr 1; omega
    have v1 : vp_in (nI (k - 10)) 25 := vp_in_nI (by omega) (by decide)
    have v2 : vp_in (nI (100 + k)) 11120 := vp_in_nI (by omega) (by decide)
    have e : m_I μ 69 (k - 10) = m_I μ 412 (100 + k) := by
      have := r1 (k - 10) (by omega)
      unfold iv_sh at this
      rw [show 110 + (k - 10) = 100 + k by omega] at this
      exact this
    refine S (m_I μ 412 (100 + k)) (fun Q h => ?_) (fun Q h => ?_)
    · simp only [p_X0_about, s_in, if_pos g, e10, if_false, sk_p64_0 hs, sk_k65 hs, sk_p65_9 hs, sk_k69 hs, sk_n69 hs, i1, v1, true_and, nI_clamp (show k - 10 < 2 ^ 31 by omega), e]
      exact h
    · unfold p_X5_about
      rw [if_neg (show ¬ (nI k : Int32) = 0 from nk 0 (by decide)), if_neg (show ¬ (nI k : Int32) = 1 from nk 1 (by decide)), if_neg (show ¬ (nI k : Int32) = 2 from nk 2 (by decide)), if_neg (show ¬ (nI k : Int32) = 3 from nk 3 (by decide)), if_neg (show ¬ (nI k : Int32) = 4 from nk 4 (by decide)), if_neg (show ¬ (nI k : Int32) = 5 from nk 5 (by decide)), if_neg (show ¬ (nI k : Int32) = 6 from nk 6 (by decide)), if_neg (show ¬ (nI k : Int32) = 7 from nk 7 (by decide)), if_neg (show ¬ (nI k : Int32) = 8 from nk 8 (by decide)), if_neg (show ¬ (nI k : Int32) = 9 from nk 9 (by decide))]
      simp only [m_in, if_pos g, e10, if_false, sk_p411_0 hs, sk_k412 hs, sk_n412 hs, i2, v2, true_and, nI_clamp (show 100 + k < 2 ^ 31 by omega)]
      exact h
  by_cases c0 : a0 = 0
  · refine S (nI n) (fun Q h => ?_) (fun Q h => ?_)
    · simp only [p_X0_about, s_in, if_neg g, e00, if_true, if_pos c0, sk_p64_0 hs, sk_k65 hs, sk_p65_9 hs, sk_k69 hs, sk_n69 hs, cl0, vp0_25, vp0_11120, cl1, vp1_25, vp1_11120, cl2, vp2_25, vp2_11120, cl3, vp3_25, vp3_11120, cl4, vp4_25, vp4_11120, cl5, vp5_25, vp5_11120, cl6, vp6_25, vp6_11120, cl7, vp7_25, vp7_11120, cl8, vp8_25, vp8_11120, cl9, vp9_25, vp9_11120, cl10, vp10_25, vp10_11120, cl11, vp11_25, vp11_11120, cl12, vp12_25, vp12_11120, cl13, vp13_25, vp13_11120, cl14, vp14_25, vp14_11120, cl15, vp15_25, vp15_11120, cl16, vp16_25, vp16_11120, cl17, vp17_25, vp17_11120, cl18, vp18_25, vp18_11120, cl19, vp19_25, vp19_11120, cl20, vp20_25, vp20_11120, cl21, vp21_25, vp21_11120, cl22, vp22_25, vp22_11120, cl23, vp23_25, vp23_11120, cl24, vp24_25, vp24_11120, cl25, vp25_11120, cl110, vp110_11120, cl111, vp111_11120, cl112, vp112_11120, cl113, vp113_11120, cl132, vp132_11120, cl373, vp373_11120, cl464, vp464_11120, true_and, E0]
      exact h
    · simp only [p_X5_about, if_pos c0, sk_p411_0 hs, sk_k412 hs, sk_n412 hs, cl0, vp0_25, vp0_11120, cl1, vp1_25, vp1_11120, cl2, vp2_25, vp2_11120, cl3, vp3_25, vp3_11120, cl4, vp4_25, vp4_11120, cl5, vp5_25, vp5_11120, cl6, vp6_25, vp6_11120, cl7, vp7_25, vp7_11120, cl8, vp8_25, vp8_11120, cl9, vp9_25, vp9_11120, cl10, vp10_25, vp10_11120, cl11, vp11_25, vp11_11120, cl12, vp12_25, vp12_11120, cl13, vp13_25, vp13_11120, cl14, vp14_25, vp14_11120, cl15, vp15_25, vp15_11120, cl16, vp16_25, vp16_11120, cl17, vp17_25, vp17_11120, cl18, vp18_25, vp18_11120, cl19, vp19_25, vp19_11120, cl20, vp20_25, vp20_11120, cl21, vp21_25, vp21_11120, cl22, vp22_25, vp22_11120, cl23, vp23_25, vp23_11120, cl24, vp24_25, vp24_11120, cl25, vp25_11120, cl110, vp110_11120, cl111, vp111_11120, cl112, vp112_11120, cl113, vp113_11120, cl132, vp132_11120, cl373, vp373_11120, cl464, vp464_11120, true_and, A0]
      exact h
  by_cases c1 : a0 = 1
  · refine S (m_I μ 412 110 + m_I μ 412 111 - m_I μ 412 112 - m_I μ 412 113 + 10000) (fun Q h => ?_) (fun Q h => ?_)
    · simp only [p_X0_about, s_in, if_neg g, e00, if_true, if_neg c0, if_pos c1, sk_p64_0 hs, sk_k65 hs, sk_p65_9 hs, sk_k69 hs, sk_n69 hs, cl0, vp0_25, vp0_11120, cl1, vp1_25, vp1_11120, cl2, vp2_25, vp2_11120, cl3, vp3_25, vp3_11120, cl4, vp4_25, vp4_11120, cl5, vp5_25, vp5_11120, cl6, vp6_25, vp6_11120, cl7, vp7_25, vp7_11120, cl8, vp8_25, vp8_11120, cl9, vp9_25, vp9_11120, cl10, vp10_25, vp10_11120, cl11, vp11_25, vp11_11120, cl12, vp12_25, vp12_11120, cl13, vp13_25, vp13_11120, cl14, vp14_25, vp14_11120, cl15, vp15_25, vp15_11120, cl16, vp16_25, vp16_11120, cl17, vp17_25, vp17_11120, cl18, vp18_25, vp18_11120, cl19, vp19_25, vp19_11120, cl20, vp20_25, vp20_11120, cl21, vp21_25, vp21_11120, cl22, vp22_25, vp22_11120, cl23, vp23_25, vp23_11120, cl24, vp24_25, vp24_11120, cl25, vp25_11120, cl110, vp110_11120, cl111, vp111_11120, cl112, vp112_11120, cl113, vp113_11120, cl132, vp132_11120, cl373, vp373_11120, cl464, vp464_11120, true_and, p_X0_tiltOf, p0, p1, p2, p3]
      exact h
    · simp only [p_X5_about, if_neg c0, if_pos c1, sk_p411_0 hs, sk_k412 hs, sk_n412 hs, cl0, vp0_25, vp0_11120, cl1, vp1_25, vp1_11120, cl2, vp2_25, vp2_11120, cl3, vp3_25, vp3_11120, cl4, vp4_25, vp4_11120, cl5, vp5_25, vp5_11120, cl6, vp6_25, vp6_11120, cl7, vp7_25, vp7_11120, cl8, vp8_25, vp8_11120, cl9, vp9_25, vp9_11120, cl10, vp10_25, vp10_11120, cl11, vp11_25, vp11_11120, cl12, vp12_25, vp12_11120, cl13, vp13_25, vp13_11120, cl14, vp14_25, vp14_11120, cl15, vp15_25, vp15_11120, cl16, vp16_25, vp16_11120, cl17, vp17_25, vp17_11120, cl18, vp18_25, vp18_11120, cl19, vp19_25, vp19_11120, cl20, vp20_25, vp20_11120, cl21, vp21_25, vp21_11120, cl22, vp22_25, vp22_11120, cl23, vp23_25, vp23_11120, cl24, vp24_25, vp24_11120, cl25, vp25_11120, cl110, vp110_11120, cl111, vp111_11120, cl112, vp112_11120, cl113, vp113_11120, cl132, vp132_11120, cl373, vp373_11120, cl464, vp464_11120, true_and]
      exact h
  by_cases c2 : a0 = 2
  · refine S (nI nd) (fun Q h => ?_) (fun Q h => ?_)
    · simp only [p_X0_about, s_in, if_neg g, e00, if_true, if_neg c0, if_neg c1, if_pos c2, sk_p64_0 hs, sk_k65 hs, sk_p65_9 hs, sk_k69 hs, sk_n69 hs, cl0, vp0_25, vp0_11120, cl1, vp1_25, vp1_11120, cl2, vp2_25, vp2_11120, cl3, vp3_25, vp3_11120, cl4, vp4_25, vp4_11120, cl5, vp5_25, vp5_11120, cl6, vp6_25, vp6_11120, cl7, vp7_25, vp7_11120, cl8, vp8_25, vp8_11120, cl9, vp9_25, vp9_11120, cl10, vp10_25, vp10_11120, cl11, vp11_25, vp11_11120, cl12, vp12_25, vp12_11120, cl13, vp13_25, vp13_11120, cl14, vp14_25, vp14_11120, cl15, vp15_25, vp15_11120, cl16, vp16_25, vp16_11120, cl17, vp17_25, vp17_11120, cl18, vp18_25, vp18_11120, cl19, vp19_25, vp19_11120, cl20, vp20_25, vp20_11120, cl21, vp21_25, vp21_11120, cl22, vp22_25, vp22_11120, cl23, vp23_25, vp23_11120, cl24, vp24_25, vp24_11120, cl25, vp25_11120, cl110, vp110_11120, cl111, vp111_11120, cl112, vp112_11120, cl113, vp113_11120, cl132, vp132_11120, cl373, vp373_11120, cl464, vp464_11120, true_and, r6]
      exact h
    · simp only [p_X5_about, if_neg c0, if_neg c1, if_pos c2, sk_p411_0 hs, sk_k412 hs, sk_n412 hs, cl0, vp0_25, vp0_11120, cl1, vp1_25, vp1_11120, cl2, vp2_25, vp2_11120, cl3, vp3_25, vp3_11120, cl4, vp4_25, vp4_11120, cl5, vp5_25, vp5_11120, cl6, vp6_25, vp6_11120, cl7, vp7_25, vp7_11120, cl8, vp8_25, vp8_11120, cl9, vp9_25, vp9_11120, cl10, vp10_25, vp10_11120, cl11, vp11_25, vp11_11120, cl12, vp12_25, vp12_11120, cl13, vp13_25, vp13_11120, cl14, vp14_25, vp14_11120, cl15, vp15_25, vp15_11120, cl16, vp16_25, vp16_11120, cl17, vp17_25, vp17_11120, cl18, vp18_25, vp18_11120, cl19, vp19_25, vp19_11120, cl20, vp20_25, vp20_11120, cl21, vp21_25, vp21_11120, cl22, vp22_25, vp22_11120, cl23, vp23_25, vp23_11120, cl24, vp24_25, vp24_11120, cl25, vp25_11120, cl110, vp110_11120, cl111, vp111_11120, cl112, vp112_11120, cl113, vp113_11120, cl132, vp132_11120, cl373, vp373_11120, cl464, vp464_11120, true_and, r8]
      exact h
  by_cases c3 : a0 = 3
  · refine S (m_I μ 412 464) (fun Q h => ?_) (fun Q h => ?_)
    · simp only [p_X0_about, s_in, if_neg g, e00, if_true, if_neg c0, if_neg c1, if_neg c2, if_pos c3, sk_p64_0 hs, sk_k65 hs, sk_p65_9 hs, sk_k69 hs, sk_n69 hs, cl0, vp0_25, vp0_11120, cl1, vp1_25, vp1_11120, cl2, vp2_25, vp2_11120, cl3, vp3_25, vp3_11120, cl4, vp4_25, vp4_11120, cl5, vp5_25, vp5_11120, cl6, vp6_25, vp6_11120, cl7, vp7_25, vp7_11120, cl8, vp8_25, vp8_11120, cl9, vp9_25, vp9_11120, cl10, vp10_25, vp10_11120, cl11, vp11_25, vp11_11120, cl12, vp12_25, vp12_11120, cl13, vp13_25, vp13_11120, cl14, vp14_25, vp14_11120, cl15, vp15_25, vp15_11120, cl16, vp16_25, vp16_11120, cl17, vp17_25, vp17_11120, cl18, vp18_25, vp18_11120, cl19, vp19_25, vp19_11120, cl20, vp20_25, vp20_11120, cl21, vp21_25, vp21_11120, cl22, vp22_25, vp22_11120, cl23, vp23_25, vp23_11120, cl24, vp24_25, vp24_11120, cl25, vp25_11120, cl110, vp110_11120, cl111, vp111_11120, cl112, vp112_11120, cl113, vp113_11120, cl132, vp132_11120, cl373, vp373_11120, cl464, vp464_11120, true_and, r4]
      exact h
    · simp only [p_X5_about, if_neg c0, if_neg c1, if_neg c2, if_pos c3, sk_p411_0 hs, sk_k412 hs, sk_n412 hs, cl0, vp0_25, vp0_11120, cl1, vp1_25, vp1_11120, cl2, vp2_25, vp2_11120, cl3, vp3_25, vp3_11120, cl4, vp4_25, vp4_11120, cl5, vp5_25, vp5_11120, cl6, vp6_25, vp6_11120, cl7, vp7_25, vp7_11120, cl8, vp8_25, vp8_11120, cl9, vp9_25, vp9_11120, cl10, vp10_25, vp10_11120, cl11, vp11_25, vp11_11120, cl12, vp12_25, vp12_11120, cl13, vp13_25, vp13_11120, cl14, vp14_25, vp14_11120, cl15, vp15_25, vp15_11120, cl16, vp16_25, vp16_11120, cl17, vp17_25, vp17_11120, cl18, vp18_25, vp18_11120, cl19, vp19_25, vp19_11120, cl20, vp20_25, vp20_11120, cl21, vp21_25, vp21_11120, cl22, vp22_25, vp22_11120, cl23, vp23_25, vp23_11120, cl24, vp24_25, vp24_11120, cl25, vp25_11120, cl110, vp110_11120, cl111, vp111_11120, cl112, vp112_11120, cl113, vp113_11120, cl132, vp132_11120, cl373, vp373_11120, cl464, vp464_11120, true_and]
      exact h
  by_cases c4 : a0 = 4
  · refine S (nI tx) (fun Q h => ?_) (fun Q h => ?_)
    · simp only [p_X0_about, s_in, if_neg g, e00, if_true, if_neg c0, if_neg c1, if_neg c2, if_neg c3, if_pos c4, sk_p64_0 hs, sk_k65 hs, sk_p65_9 hs, sk_k69 hs, sk_n69 hs, cl0, vp0_25, vp0_11120, cl1, vp1_25, vp1_11120, cl2, vp2_25, vp2_11120, cl3, vp3_25, vp3_11120, cl4, vp4_25, vp4_11120, cl5, vp5_25, vp5_11120, cl6, vp6_25, vp6_11120, cl7, vp7_25, vp7_11120, cl8, vp8_25, vp8_11120, cl9, vp9_25, vp9_11120, cl10, vp10_25, vp10_11120, cl11, vp11_25, vp11_11120, cl12, vp12_25, vp12_11120, cl13, vp13_25, vp13_11120, cl14, vp14_25, vp14_11120, cl15, vp15_25, vp15_11120, cl16, vp16_25, vp16_11120, cl17, vp17_25, vp17_11120, cl18, vp18_25, vp18_11120, cl19, vp19_25, vp19_11120, cl20, vp20_25, vp20_11120, cl21, vp21_25, vp21_11120, cl22, vp22_25, vp22_11120, cl23, vp23_25, vp23_11120, cl24, vp24_25, vp24_11120, cl25, vp25_11120, cl110, vp110_11120, cl111, vp111_11120, cl112, vp112_11120, cl113, vp113_11120, cl132, vp132_11120, cl373, vp373_11120, cl464, vp464_11120, true_and, E1]
      exact h
    · simp only [p_X5_about, if_neg c0, if_neg c1, if_neg c2, if_neg c3, if_pos c4, sk_p411_0 hs, sk_k412 hs, sk_n412 hs, cl0, vp0_25, vp0_11120, cl1, vp1_25, vp1_11120, cl2, vp2_25, vp2_11120, cl3, vp3_25, vp3_11120, cl4, vp4_25, vp4_11120, cl5, vp5_25, vp5_11120, cl6, vp6_25, vp6_11120, cl7, vp7_25, vp7_11120, cl8, vp8_25, vp8_11120, cl9, vp9_25, vp9_11120, cl10, vp10_25, vp10_11120, cl11, vp11_25, vp11_11120, cl12, vp12_25, vp12_11120, cl13, vp13_25, vp13_11120, cl14, vp14_25, vp14_11120, cl15, vp15_25, vp15_11120, cl16, vp16_25, vp16_11120, cl17, vp17_25, vp17_11120, cl18, vp18_25, vp18_11120, cl19, vp19_25, vp19_11120, cl20, vp20_25, vp20_11120, cl21, vp21_25, vp21_11120, cl22, vp22_25, vp22_11120, cl23, vp23_25, vp23_11120, cl24, vp24_25, vp24_11120, cl25, vp25_11120, cl110, vp110_11120, cl111, vp111_11120, cl112, vp112_11120, cl113, vp113_11120, cl132, vp132_11120, cl373, vp373_11120, cl464, vp464_11120, true_and, A1]
      exact h
  by_cases c5 : a0 = 5
  · refine S (m_I μ 412 2) (fun Q h => ?_) (fun Q h => ?_)
    · simp only [p_X0_about, s_in, if_neg g, e00, if_true, if_neg c0, if_neg c1, if_neg c2, if_neg c3, if_neg c4, if_pos c5, sk_p64_0 hs, sk_k65 hs, sk_p65_9 hs, sk_k69 hs, sk_n69 hs, cl0, vp0_25, vp0_11120, cl1, vp1_25, vp1_11120, cl2, vp2_25, vp2_11120, cl3, vp3_25, vp3_11120, cl4, vp4_25, vp4_11120, cl5, vp5_25, vp5_11120, cl6, vp6_25, vp6_11120, cl7, vp7_25, vp7_11120, cl8, vp8_25, vp8_11120, cl9, vp9_25, vp9_11120, cl10, vp10_25, vp10_11120, cl11, vp11_25, vp11_11120, cl12, vp12_25, vp12_11120, cl13, vp13_25, vp13_11120, cl14, vp14_25, vp14_11120, cl15, vp15_25, vp15_11120, cl16, vp16_25, vp16_11120, cl17, vp17_25, vp17_11120, cl18, vp18_25, vp18_11120, cl19, vp19_25, vp19_11120, cl20, vp20_25, vp20_11120, cl21, vp21_25, vp21_11120, cl22, vp22_25, vp22_11120, cl23, vp23_25, vp23_11120, cl24, vp24_25, vp24_11120, cl25, vp25_11120, cl110, vp110_11120, cl111, vp111_11120, cl112, vp112_11120, cl113, vp113_11120, cl132, vp132_11120, cl373, vp373_11120, cl464, vp464_11120, true_and, E2]
      exact h
    · simp only [p_X5_about, if_neg c0, if_neg c1, if_neg c2, if_neg c3, if_neg c4, if_pos c5, sk_p411_0 hs, sk_k412 hs, sk_n412 hs, cl0, vp0_25, vp0_11120, cl1, vp1_25, vp1_11120, cl2, vp2_25, vp2_11120, cl3, vp3_25, vp3_11120, cl4, vp4_25, vp4_11120, cl5, vp5_25, vp5_11120, cl6, vp6_25, vp6_11120, cl7, vp7_25, vp7_11120, cl8, vp8_25, vp8_11120, cl9, vp9_25, vp9_11120, cl10, vp10_25, vp10_11120, cl11, vp11_25, vp11_11120, cl12, vp12_25, vp12_11120, cl13, vp13_25, vp13_11120, cl14, vp14_25, vp14_11120, cl15, vp15_25, vp15_11120, cl16, vp16_25, vp16_11120, cl17, vp17_25, vp17_11120, cl18, vp18_25, vp18_11120, cl19, vp19_25, vp19_11120, cl20, vp20_25, vp20_11120, cl21, vp21_25, vp21_11120, cl22, vp22_25, vp22_11120, cl23, vp23_25, vp23_11120, cl24, vp24_25, vp24_11120, cl25, vp25_11120, cl110, vp110_11120, cl111, vp111_11120, cl112, vp112_11120, cl113, vp113_11120, cl132, vp132_11120, cl373, vp373_11120, cl464, vp464_11120, true_and]
      exact h
  by_cases c6 : a0 = 6
  · refine S (nI st) (fun Q h => ?_) (fun Q h => ?_)
    · simp only [p_X0_about, s_in, if_neg g, e00, if_true, if_neg c0, if_neg c1, if_neg c2, if_neg c3, if_neg c4, if_neg c5, if_pos c6, sk_p64_0 hs, sk_k65 hs, sk_p65_9 hs, sk_k69 hs, sk_n69 hs, cl0, vp0_25, vp0_11120, cl1, vp1_25, vp1_11120, cl2, vp2_25, vp2_11120, cl3, vp3_25, vp3_11120, cl4, vp4_25, vp4_11120, cl5, vp5_25, vp5_11120, cl6, vp6_25, vp6_11120, cl7, vp7_25, vp7_11120, cl8, vp8_25, vp8_11120, cl9, vp9_25, vp9_11120, cl10, vp10_25, vp10_11120, cl11, vp11_25, vp11_11120, cl12, vp12_25, vp12_11120, cl13, vp13_25, vp13_11120, cl14, vp14_25, vp14_11120, cl15, vp15_25, vp15_11120, cl16, vp16_25, vp16_11120, cl17, vp17_25, vp17_11120, cl18, vp18_25, vp18_11120, cl19, vp19_25, vp19_11120, cl20, vp20_25, vp20_11120, cl21, vp21_25, vp21_11120, cl22, vp22_25, vp22_11120, cl23, vp23_25, vp23_11120, cl24, vp24_25, vp24_11120, cl25, vp25_11120, cl110, vp110_11120, cl111, vp111_11120, cl112, vp112_11120, cl113, vp113_11120, cl132, vp132_11120, cl373, vp373_11120, cl464, vp464_11120, true_and, E3]
      exact h
    · simp only [p_X5_about, if_neg c0, if_neg c1, if_neg c2, if_neg c3, if_neg c4, if_neg c5, if_pos c6, sk_p411_0 hs, sk_k412 hs, sk_n412 hs, cl0, vp0_25, vp0_11120, cl1, vp1_25, vp1_11120, cl2, vp2_25, vp2_11120, cl3, vp3_25, vp3_11120, cl4, vp4_25, vp4_11120, cl5, vp5_25, vp5_11120, cl6, vp6_25, vp6_11120, cl7, vp7_25, vp7_11120, cl8, vp8_25, vp8_11120, cl9, vp9_25, vp9_11120, cl10, vp10_25, vp10_11120, cl11, vp11_25, vp11_11120, cl12, vp12_25, vp12_11120, cl13, vp13_25, vp13_11120, cl14, vp14_25, vp14_11120, cl15, vp15_25, vp15_11120, cl16, vp16_25, vp16_11120, cl17, vp17_25, vp17_11120, cl18, vp18_25, vp18_11120, cl19, vp19_25, vp19_11120, cl20, vp20_25, vp20_11120, cl21, vp21_25, vp21_11120, cl22, vp22_25, vp22_11120, cl23, vp23_25, vp23_11120, cl24, vp24_25, vp24_11120, cl25, vp25_11120, cl110, vp110_11120, cl111, vp111_11120, cl112, vp112_11120, cl113, vp113_11120, cl132, vp132_11120, cl373, vp373_11120, cl464, vp464_11120, true_and, A3]
      exact h
  by_cases c7 : a0 = 7
  · refine S (nI te) (fun Q h => ?_) (fun Q h => ?_)
    · simp only [p_X0_about, s_in, if_neg g, e00, if_true, if_neg c0, if_neg c1, if_neg c2, if_neg c3, if_neg c4, if_neg c5, if_neg c6, if_pos c7, sk_p64_0 hs, sk_k65 hs, sk_p65_9 hs, sk_k69 hs, sk_n69 hs, cl0, vp0_25, vp0_11120, cl1, vp1_25, vp1_11120, cl2, vp2_25, vp2_11120, cl3, vp3_25, vp3_11120, cl4, vp4_25, vp4_11120, cl5, vp5_25, vp5_11120, cl6, vp6_25, vp6_11120, cl7, vp7_25, vp7_11120, cl8, vp8_25, vp8_11120, cl9, vp9_25, vp9_11120, cl10, vp10_25, vp10_11120, cl11, vp11_25, vp11_11120, cl12, vp12_25, vp12_11120, cl13, vp13_25, vp13_11120, cl14, vp14_25, vp14_11120, cl15, vp15_25, vp15_11120, cl16, vp16_25, vp16_11120, cl17, vp17_25, vp17_11120, cl18, vp18_25, vp18_11120, cl19, vp19_25, vp19_11120, cl20, vp20_25, vp20_11120, cl21, vp21_25, vp21_11120, cl22, vp22_25, vp22_11120, cl23, vp23_25, vp23_11120, cl24, vp24_25, vp24_11120, cl25, vp25_11120, cl110, vp110_11120, cl111, vp111_11120, cl112, vp112_11120, cl113, vp113_11120, cl132, vp132_11120, cl373, vp373_11120, cl464, vp464_11120, true_and, E4]
      exact h
    · simp only [p_X5_about, if_neg c0, if_neg c1, if_neg c2, if_neg c3, if_neg c4, if_neg c5, if_neg c6, if_pos c7, sk_p411_0 hs, sk_k412 hs, sk_n412 hs, cl0, vp0_25, vp0_11120, cl1, vp1_25, vp1_11120, cl2, vp2_25, vp2_11120, cl3, vp3_25, vp3_11120, cl4, vp4_25, vp4_11120, cl5, vp5_25, vp5_11120, cl6, vp6_25, vp6_11120, cl7, vp7_25, vp7_11120, cl8, vp8_25, vp8_11120, cl9, vp9_25, vp9_11120, cl10, vp10_25, vp10_11120, cl11, vp11_25, vp11_11120, cl12, vp12_25, vp12_11120, cl13, vp13_25, vp13_11120, cl14, vp14_25, vp14_11120, cl15, vp15_25, vp15_11120, cl16, vp16_25, vp16_11120, cl17, vp17_25, vp17_11120, cl18, vp18_25, vp18_11120, cl19, vp19_25, vp19_11120, cl20, vp20_25, vp20_11120, cl21, vp21_25, vp21_11120, cl22, vp22_25, vp22_11120, cl23, vp23_25, vp23_11120, cl24, vp24_25, vp24_11120, cl25, vp25_11120, cl110, vp110_11120, cl111, vp111_11120, cl112, vp112_11120, cl113, vp113_11120, cl132, vp132_11120, cl373, vp373_11120, cl464, vp464_11120, true_and, A4]
      exact h
  by_cases c8 : a0 = 8
  · refine S (nI tl) (fun Q h => ?_) (fun Q h => ?_)
    · simp only [p_X0_about, s_in, if_neg g, e00, if_true, if_neg c0, if_neg c1, if_neg c2, if_neg c3, if_neg c4, if_neg c5, if_neg c6, if_neg c7, if_pos c8, sk_p64_0 hs, sk_k65 hs, sk_p65_9 hs, sk_k69 hs, sk_n69 hs, cl0, vp0_25, vp0_11120, cl1, vp1_25, vp1_11120, cl2, vp2_25, vp2_11120, cl3, vp3_25, vp3_11120, cl4, vp4_25, vp4_11120, cl5, vp5_25, vp5_11120, cl6, vp6_25, vp6_11120, cl7, vp7_25, vp7_11120, cl8, vp8_25, vp8_11120, cl9, vp9_25, vp9_11120, cl10, vp10_25, vp10_11120, cl11, vp11_25, vp11_11120, cl12, vp12_25, vp12_11120, cl13, vp13_25, vp13_11120, cl14, vp14_25, vp14_11120, cl15, vp15_25, vp15_11120, cl16, vp16_25, vp16_11120, cl17, vp17_25, vp17_11120, cl18, vp18_25, vp18_11120, cl19, vp19_25, vp19_11120, cl20, vp20_25, vp20_11120, cl21, vp21_25, vp21_11120, cl22, vp22_25, vp22_11120, cl23, vp23_25, vp23_11120, cl24, vp24_25, vp24_11120, cl25, vp25_11120, cl110, vp110_11120, cl111, vp111_11120, cl112, vp112_11120, cl113, vp113_11120, cl132, vp132_11120, cl373, vp373_11120, cl464, vp464_11120, true_and, E5]
      exact h
    · simp only [p_X5_about, if_neg c0, if_neg c1, if_neg c2, if_neg c3, if_neg c4, if_neg c5, if_neg c6, if_neg c7, if_pos c8, sk_p411_0 hs, sk_k412 hs, sk_n412 hs, cl0, vp0_25, vp0_11120, cl1, vp1_25, vp1_11120, cl2, vp2_25, vp2_11120, cl3, vp3_25, vp3_11120, cl4, vp4_25, vp4_11120, cl5, vp5_25, vp5_11120, cl6, vp6_25, vp6_11120, cl7, vp7_25, vp7_11120, cl8, vp8_25, vp8_11120, cl9, vp9_25, vp9_11120, cl10, vp10_25, vp10_11120, cl11, vp11_25, vp11_11120, cl12, vp12_25, vp12_11120, cl13, vp13_25, vp13_11120, cl14, vp14_25, vp14_11120, cl15, vp15_25, vp15_11120, cl16, vp16_25, vp16_11120, cl17, vp17_25, vp17_11120, cl18, vp18_25, vp18_11120, cl19, vp19_25, vp19_11120, cl20, vp20_25, vp20_11120, cl21, vp21_25, vp21_11120, cl22, vp22_25, vp22_11120, cl23, vp23_25, vp23_11120, cl24, vp24_25, vp24_11120, cl25, vp25_11120, cl110, vp110_11120, cl111, vp111_11120, cl112, vp112_11120, cl113, vp113_11120, cl132, vp132_11120, cl373, vp373_11120, cl464, vp464_11120, true_and, A5]
      exact h
  by_cases c9 : a0 = 9
  · refine S (nI tp) (fun Q h => ?_) (fun Q h => ?_)
    · simp only [p_X0_about, s_in, if_neg g, e00, if_true, if_neg c0, if_neg c1, if_neg c2, if_neg c3, if_neg c4, if_neg c5, if_neg c6, if_neg c7, if_neg c8, if_pos c9, sk_p64_0 hs, sk_k65 hs, sk_p65_9 hs, sk_k69 hs, sk_n69 hs, cl0, vp0_25, vp0_11120, cl1, vp1_25, vp1_11120, cl2, vp2_25, vp2_11120, cl3, vp3_25, vp3_11120, cl4, vp4_25, vp4_11120, cl5, vp5_25, vp5_11120, cl6, vp6_25, vp6_11120, cl7, vp7_25, vp7_11120, cl8, vp8_25, vp8_11120, cl9, vp9_25, vp9_11120, cl10, vp10_25, vp10_11120, cl11, vp11_25, vp11_11120, cl12, vp12_25, vp12_11120, cl13, vp13_25, vp13_11120, cl14, vp14_25, vp14_11120, cl15, vp15_25, vp15_11120, cl16, vp16_25, vp16_11120, cl17, vp17_25, vp17_11120, cl18, vp18_25, vp18_11120, cl19, vp19_25, vp19_11120, cl20, vp20_25, vp20_11120, cl21, vp21_25, vp21_11120, cl22, vp22_25, vp22_11120, cl23, vp23_25, vp23_11120, cl24, vp24_25, vp24_11120, cl25, vp25_11120, cl110, vp110_11120, cl111, vp111_11120, cl112, vp112_11120, cl113, vp113_11120, cl132, vp132_11120, cl373, vp373_11120, cl464, vp464_11120, true_and, T1]
      exact h
    · simp only [p_X5_about, if_neg c0, if_neg c1, if_neg c2, if_neg c3, if_neg c4, if_neg c5, if_neg c6, if_neg c7, if_neg c8, if_pos c9, sk_p411_0 hs, sk_k412 hs, sk_n412 hs, cl0, vp0_25, vp0_11120, cl1, vp1_25, vp1_11120, cl2, vp2_25, vp2_11120, cl3, vp3_25, vp3_11120, cl4, vp4_25, vp4_11120, cl5, vp5_25, vp5_11120, cl6, vp6_25, vp6_11120, cl7, vp7_25, vp7_11120, cl8, vp8_25, vp8_11120, cl9, vp9_25, vp9_11120, cl10, vp10_25, vp10_11120, cl11, vp11_25, vp11_11120, cl12, vp12_25, vp12_11120, cl13, vp13_25, vp13_11120, cl14, vp14_25, vp14_11120, cl15, vp15_25, vp15_11120, cl16, vp16_25, vp16_11120, cl17, vp17_25, vp17_11120, cl18, vp18_25, vp18_11120, cl19, vp19_25, vp19_11120, cl20, vp20_25, vp20_11120, cl21, vp21_25, vp21_11120, cl22, vp22_25, vp22_11120, cl23, vp23_25, vp23_11120, cl24, vp24_25, vp24_11120, cl25, vp25_11120, cl110, vp110_11120, cl111, vp111_11120, cl112, vp112_11120, cl113, vp113_11120, cl132, vp132_11120, cl373, vp373_11120, cl464, vp464_11120, true_and, T2]
      exact h
  · refine S (-2) (fun Q h => ?_) (fun Q h => ?_)
    · simp only [p_X0_about, s_in, if_neg g, e00, if_true, if_neg c0, if_neg c1, if_neg c2, if_neg c3, if_neg c4, if_neg c5, if_neg c6, if_neg c7, if_neg c8, if_neg c9, sk_p64_0 hs, sk_k65 hs, sk_p65_9 hs, sk_k69 hs, sk_n69 hs, cl0, vp0_25, vp0_11120, cl1, vp1_25, vp1_11120, cl2, vp2_25, vp2_11120, cl3, vp3_25, vp3_11120, cl4, vp4_25, vp4_11120, cl5, vp5_25, vp5_11120, cl6, vp6_25, vp6_11120, cl7, vp7_25, vp7_11120, cl8, vp8_25, vp8_11120, cl9, vp9_25, vp9_11120, cl10, vp10_25, vp10_11120, cl11, vp11_25, vp11_11120, cl12, vp12_25, vp12_11120, cl13, vp13_25, vp13_11120, cl14, vp14_25, vp14_11120, cl15, vp15_25, vp15_11120, cl16, vp16_25, vp16_11120, cl17, vp17_25, vp17_11120, cl18, vp18_25, vp18_11120, cl19, vp19_25, vp19_11120, cl20, vp20_25, vp20_11120, cl21, vp21_25, vp21_11120, cl22, vp22_25, vp22_11120, cl23, vp23_25, vp23_11120, cl24, vp24_25, vp24_11120, cl25, vp25_11120, cl110, vp110_11120, cl111, vp111_11120, cl112, vp112_11120, cl113, vp113_11120, cl132, vp132_11120, cl373, vp373_11120, cl464, vp464_11120, true_and]
      exact h
    · simp only [p_X5_about, if_neg c0, if_neg c1, if_neg c2, if_neg c3, if_neg c4, if_neg c5, if_neg c6, if_neg c7, if_neg c8, if_neg c9, sk_p411_0 hs, sk_k412 hs, sk_n412 hs, cl0, vp0_25, vp0_11120, cl1, vp1_25, vp1_11120, cl2, vp2_25, vp2_11120, cl3, vp3_25, vp3_11120, cl4, vp4_25, vp4_11120, cl5, vp5_25, vp5_11120, cl6, vp6_25, vp6_11120, cl7, vp7_25, vp7_11120, cl8, vp8_25, vp8_11120, cl9, vp9_25, vp9_11120, cl10, vp10_25, vp10_11120, cl11, vp11_25, vp11_11120, cl12, vp12_25, vp12_11120, cl13, vp13_25, vp13_11120, cl14, vp14_25, vp14_11120, cl15, vp15_25, vp15_11120, cl16, vp16_25, vp16_11120, cl17, vp17_25, vp17_11120, cl18, vp18_25, vp18_11120, cl19, vp19_25, vp19_11120, cl20, vp20_25, vp20_11120, cl21, vp21_25, vp21_11120, cl22, vp22_25, vp22_11120, cl23, vp23_25, vp23_11120, cl24, vp24_25, vp24_11120, cl25, vp25_11120, cl110, vp110_11120, cl111, vp111_11120, cl112, vp112_11120, cl113, vp113_11120, cl132, vp132_11120, cl373, vp373_11120, cl464, vp464_11120, true_and, m_in, if_neg g, e00, if_true]
      exact h
