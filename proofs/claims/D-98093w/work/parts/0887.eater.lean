/-! plain law: eater -/
theorem ml_same {f : Nat → Int32} {k : Nat} {x : Int32} (h : f k = x) : ml_u f k x = f := by
  funext j
  by_cases e : j = k
  · subst e; rw [ml_us, h]
  · exact ml_un e
theorem m_sIsame {μ : fw_M} {p : Nat} {f : Nat → Int32} (h : f = m_I μ p) : m_sI μ p f = μ := by
  subst h
  refine Prod.ext ?_ rfl
  funext q
  show (if q = p then m_I μ p else μ.1 q) = μ.1 q
  by_cases e : q = p
  · subst e; exact if_pos rfl
  · exact if_neg e
theorem C_eater {μ μ' : fw_M} {a a' : Nat → Int32} {n tx st te tl ns nd h s p : Nat} (C : iv_C μ 65 a n tx st te tl ns nd) (hs : sk_m μ) (hn : n < 9) (hh : h ≤ 9) (hs1 : 1 ≤ s) (hs2 : s ≤ 9) (hp : p ≤ 99)
    (hI : ∀ q, 70 ≤ q → q < 228 → m_I μ' q = m_I μ q) (hP : m_P μ' 71 = m_P μ 71) (e65 : m_I μ' 65 = ml_u (m_I μ 65) 0 (nI (n + 1))) (e66 : m_I μ' 66 = ml_u (m_I μ 66) n (nI h)) (e67 : m_I μ' 67 = ml_u (m_I μ 67) n (nI s)) (e68 : m_I μ' 68 = ml_u (m_I μ 68) n (nI p))
    (e69 : m_I μ' 69 = ml_u (ml_u (m_I μ 69) (4 + n) 2) (13 + n) 0) (ea : a' = ml_u (ml_u (ml_u (ml_u a (10 + 3 * n) (nI h)) (10 + 3 * n + 1) (nI s)) (10 + 3 * n + 2) (nI p)) 0 (nI (n + 1))) : iv_C μ' 65 a' (n + 1) tx st te tl ns nd := by
  obtain ⟨hb, hE, hA, hA2, hH, hr, hrec, ⟨N, NS, ND, hst, hmono⟩, hte, htl, hte2, htl2⟩ := C
  have c1 : ns ≤ 60 := hr.2.2.2.2.2.2.2.2.1
  have c2 : nd ≤ 30 := hr.2.2.2.2.2.2.2.2.2.1
  obtain ⟨q1, q2, q3, q4, q5⟩ := hb
  obtain ⟨E0, E1, E2, E3, E4, E5⟩ := hE
  obtain ⟨A0, A1, A3, A4, A5⟩ := hA
  have ha : ∀ j, j ≠ 0 → j ≠ 10 + 3 * n → j ≠ 11 + 3 * n → j ≠ 12 + 3 * n → a' j = a j := by
    intro j j1 j2 j3 j4
    rw [ea, ml_un j1, ml_un (by omega), ml_un (by omega), ml_un j2]
  have sh : iv_sh a' 110 = iv_sh a 110 := funext fun j => ha _ (by omega) (by omega) (by omega) (by omega)
  have shk : ∀ k, iv_sh a' (470 + 355 * k) = iv_sh a (470 + 355 * k) := fun k => funext fun j => ha _ (by omega) (by omega) (by omega) (by omega)
  have hrc : ∀ x y : Nat, x ≤ ns → y ≤ nd → ∀ mr : Nat → Int32, iv_rec x y (fun i => m_I μ (65 + 38 + i)) (fun i => m_I μ (65 + 99 + i)) mr → iv_rec x y (fun i => m_I μ' (65 + 38 + i)) (fun i => m_I μ' (65 + 99 + i)) mr := by
    intro x y hx hy mr hq
    exact rec_cong hq (by omega) (by omega) (fun i hi j hj => by rw [hI _ (by omega) (by omega)]) (fun i hi j hj => by rw [hI _ (by omega) (by omega)]) (fun j _ _ => rfl)
  refine ⟨⟨by omega, q2, q3, q4, q5⟩, ⟨?_, ?_, ?_, ?_, ?_, ?_⟩, ⟨?_, ?_, ?_, ?_, ?_⟩, ?_, fun e he => ?_, ?_, ?_, ⟨N, NS, ND, fun k hk => ?_, hmono⟩, fun i hi j hj => ?_, fun i hi j hj => ?_, fun i hi => ?_, fun i hi => ?_⟩
  · rw [e65, ml_us]
  · rw [e65, ml_un (by decide)]; exact E1
  · rw [e65, ml_un (by decide), ha 2 (by decide) (by omega) (by omega) (by omega)]; exact E2
  · rw [e65, ml_un (by decide)]; exact E3
  · rw [e65, ml_un (by decide)]; exact E4
  · rw [e65, ml_un (by decide)]; exact E5
  · rw [ea, ml_us]
  · rw [ha 1 (by decide) (by omega) (by omega) (by omega)]; exact A1
  · rw [ha 3 (by decide) (by omega) (by omega) (by omega)]; exact A3
  · rw [ha 4 (by decide) (by omega) (by omega) (by omega)]; exact A4
  · rw [ha 5 (by decide) (by omega) (by omega) (by omega)]; exact A5
  · rw [ha 2 (by decide) (by omega) (by omega) (by omega)]; exact hA2
  · show m_I μ' 66 e = _ ∧ m_I μ' 67 e = _ ∧ m_I μ' 68 e = _ ∧ (∃ x, x ≤ 9 ∧ m_I μ' 66 e = nI x) ∧ (∃ x, 1 ≤ x ∧ x ≤ 9 ∧ m_I μ' 67 e = nI x) ∧ ∃ x, x ≤ 99 ∧ m_I μ' 68 e = nI x
    rw [e66, e67, e68]
    by_cases en : e = n
    · subst en
      rw [ml_us, ml_us, ml_us]
      refine ⟨?_, ?_, ?_, ⟨h, hh, rfl⟩, ⟨s, hs1, hs2, rfl⟩, p, hp, rfl⟩
      · rw [ea, ml_un (by omega), ml_un (by omega), ml_un (by omega), ml_us]
      · rw [ea, ml_un (by omega), ml_un (by omega), show 11 + 3 * e = 10 + 3 * e + 1 by omega, ml_us]
      · rw [ea, ml_un (by omega), show 12 + 3 * e = 10 + 3 * e + 2 by omega, ml_us]
    · rw [ml_un en, ml_un en, ml_un en, ha (10 + 3 * e) (by omega) (by omega) (by omega) (by omega), ha (11 + 3 * e) (by omega) (by omega) (by omega) (by omega), ha (12 + 3 * e) (by omega) (by omega) (by omega) (by omega)]
      exact hH e (by omega)
  · show iv_row (n + 1) ns nd (m_I μ' 69) _
    rw [sh, e69]
    obtain ⟨h1, h2, h3, h4, h5, h6, h7, h8, h9, h10, h11, h12, h13, h14, h15⟩ := hr
    obtain ⟨z1, z2⟩ := h3 n (Nat.le_refl _) hn
    refine ⟨fun k hk => ?_, fun e he => ?_, fun e e1 e2 => h3 e (by omega) e2, ?_, ?_, ?_, h7, h8, h9, h10, h11, fun e he => ?_, h13, h14, h15⟩
    · rw [ml_un (by omega), ml_un (by omega)]; exact h1 k hk
    · by_cases en : e = n
      · subst en
        rw [ml_un (by omega), ml_us, ml_us]
        exact ⟨z1.symm, z2.symm⟩
      · rw [ml_un (by omega), ml_un (by omega), ml_un (by omega), ml_un (by omega)]
        exact h2 e (by omega)
    · rw [ml_un (by omega), ml_un (by omega)]; exact h4
    · rw [ml_un (by omega), ml_un (by omega)]; exact h5
    · rw [ml_un (by omega), ml_un (by omega)]; exact h6
    · by_cases en : e = n
      · subst en
        exact ⟨2, Nat.le_refl _, z1⟩
      · exact h12 e (by omega)
  · rw [sh]; exact hrc _ _ (Nat.le_refl _) (Nat.le_refl _) _ hrec
  · obtain ⟨k1, k2, k3, k4, k5, k6⟩ := hst k hk
    have hk3 := sk_s65 hs (j := k) (by omega)
    refine ⟨by omega, ?_, k3, k4, ?_, ?_⟩
    · show m_I μ' 70 k = _
      rw [hI 70 (by decide) (by decide)]; exact k2
    · show iv_row _ _ _ (m_I μ' (m_P μ' 71 k)) _
      rw [hP, hI _ (by omega) (by omega), shk]
      exact k5
    · rw [shk]; exact hrc _ _ k3 k4 _ k6
  · show m_I μ' (195 + i) j = _
    rw [hI _ (by omega) (by omega), ha _ (by omega) (by omega) (by omega) (by omega)]
    exact hte i hi j hj
  · show m_I μ' (208 + i) j = _
    rw [hI _ (by omega) (by omega), ha _ (by omega) (by omega) (by omega) (by omega)]
    exact htl i hi j hj
  · show (∃ x, x ≤ 40 ∧ m_I μ' (195 + i) 0 = nI x - 20) ∧ inB (m_I μ' (195 + i) 1) (-1) 1
    rw [hI _ (by omega) (by omega)]
    exact hte2 i hi
  · show (∃ x, x < 9 ∧ m_I μ' (208 + i) 0 = nI x) ∧ ∃ x, 1 ≤ x ∧ x ≤ 999 ∧ m_I μ' (208 + i) 1 = nI x
    rw [hI _ (by omega) (by omega)]
    exact htl2 i hi
theorem op_eater (a0 a1 a2 : Int32) : iv_op2 (α := Int32) (fun μ Q => p_X0_eater 64 a0 a1 a2 μ Q) (fun μ Q => p_X5_eater 411 a0 a1 a2 μ Q) := by
  intro L xs z μ hI Qs H
  have hs := hI.1
  obtain ⟨-, -, -, n, tx, st, te, tl, ns, nd, n', tx', st', te', tl', ns', nd', tp, hC, -⟩ := id hI
  obtain ⟨⟨q1, q2, q3, q4, q5⟩, ⟨E0, E1, E2, E3, E4, E5⟩, ⟨A0, A1, A3, A4, A5⟩, -, -, -, -, ⟨N, NS, ND, hst, -⟩, -⟩ := id hC
  by_cases c : (inB a0 0 9 ∧ inB a1 1 9 ∧ inB a2 0 99) ∧ n ≠ 9
  rotate_left
  · have a : p_X0_eater 64 a0 a1 a2 μ Qs = Qs (-1) μ := by
      simp only [p_X0_eater, s_in]
      by_cases c1 : inB a0 0 9
      · by_cases c2 : inB a1 1 9
        · by_cases c3 : inB a2 0 99
          · have : n = 9 := Classical.byContradiction fun h => c ⟨⟨c1, c2, c3⟩, h⟩
            subst this
            simp only [if_pos c1, if_pos c2, if_pos c3, e10, if_false, sk_p64_0 hs, sk_p64_1 hs, sk_p64_2 hs, sk_p64_3 hs, sk_p64_4 hs, sk_p64_5 hs, sk_p64_9 hs, sk_p64_10 hs, sk_p64_11 hs, sk_p65_6 hs, sk_p65_7 hs, sk_p65_8 hs, sk_p65_9 hs, sk_p65_10 hs, sk_p65_11 hs, sk_p65_12 hs, sk_p65_13 hs, sk_p65_14 hs, sk_p65_15 hs, sk_k64 hs, sk_n64 hs, sk_k65 hs, sk_n65 hs, true_and, E0]
            exact if_pos rfl
          · simp only [if_pos c1, if_pos c2, if_neg c3, e10, if_false, if_true]
        · simp only [if_pos c1, if_neg c2, e10, if_false, if_true]
      · simp only [if_neg c1, if_true]
    show p_X0_eater 64 a0 a1 a2 μ Qs
    rw [a]
    refine H _ _ (iv_scr.rf hI) (fun Qm hQ => ?_)
    have b : p_X5_eater 411 a0 a1 a2 μ Qm = Qm (-1) μ := by
      simp only [p_X5_eater, m_in, sk_p411_0 hs, sk_p411_1 hs, sk_p411_2 hs, sk_p411_6 hs, sk_p411_7 hs, sk_p411_8 hs, sk_p411_9 hs, sk_p411_10 hs, sk_p411_11 hs, sk_p411_12 hs, sk_p411_22 hs, sk_p411_23 hs, sk_p411_25 hs, sk_p411_26 hs, sk_p411_30 hs, sk_p411_31 hs, sk_p411_32 hs, sk_p411_33 hs, sk_p411_35 hs, sk_p411_36 hs, sk_p411_37 hs, sk_p411_38 hs, sk_p411_39 hs, sk_p411_40 hs, sk_p411_42 hs, sk_p411_43 hs, sk_p411_44 hs, sk_p411_45 hs, sk_p411_46 hs, sk_k411 hs, sk_n411 hs, sk_k412 hs, sk_n412 hs, cl0, vp0_11120, true_and, forall_eq, A0]
      by_cases c1 : inB a0 0 9
      · by_cases c2 : inB a1 1 9
        · by_cases c3 : inB a2 0 99
          · have : n = 9 := Classical.byContradiction fun h => c ⟨⟨c1, c2, c3⟩, h⟩
            subst this
            simp only [if_pos c1, if_pos c2, if_pos c3, e10, if_false]
            exact if_pos rfl
          · simp only [if_pos c1, if_pos c2, if_neg c3, e10, if_false, if_true]
        · simp only [if_pos c1, if_neg c2, e10, if_false, if_true]
      · simp only [if_neg c1, if_true]
    show p_X5_eater 411 a0 a1 a2 μ Qm
    rw [b]
    exact hQ _ hI (iv_scr.rf hI)
  obtain ⟨⟨c1, c2, c3⟩, c9⟩ := c
  have c10 : ¬ nI n = 9 := fun h => c9 ((nI_eq (b := 9) (by omega) (by decide)).mp h)
  obtain ⟨h, -, h2, rfl⟩ := inB_nI (lo := 0) (hi := 9) c1 (by decide) (by decide)
  obtain ⟨s, s1, s2, rfl⟩ := inB_nI (lo := 1) (hi := 9) c2 (by decide) (by decide)
  obtain ⟨p, -, p2, rfl⟩ := inB_nI (lo := 0) (hi := 99) c3 (by decide) (by decide)
  show p_X0_eater 64 (nI h) (nI s) (nI p) μ Qs
  have a : p_X0_eater 64 (nI h) (nI s) (nI p) μ Qs = Qs (nI n) (m_sI (m_sI (m_sI (m_sI (m_sI μ 65 (ml_u (m_I μ 65) 0 (nI (n + 1)))) 66 (ml_u (m_I μ 66) n (nI h))) 67 (ml_u (m_I μ 67) n (nI s))) 68 (ml_u (m_I μ 68) n (nI p))) 69 (ml_u (ml_u (m_I μ 69) (4 + n) 2) (13 + n) 0)) := by
    simp only [p_X0_eater, s_in, if_pos c1, if_pos c2, if_pos c3, e10, if_false, sk_p64_0 hs, sk_p64_1 hs, sk_p64_2 hs, sk_p64_3 hs, sk_p64_4 hs, sk_p64_5 hs, sk_p64_9 hs, sk_p64_10 hs, sk_p64_11 hs, sk_p65_6 hs, sk_p65_7 hs, sk_p65_8 hs, sk_p65_9 hs, sk_p65_10 hs, sk_p65_11 hs, sk_p65_12 hs, sk_p65_13 hs, sk_p65_14 hs, sk_p65_15 hs, sk_k64 hs, sk_n64 hs, sk_k65 hs, sk_n65 hs, true_and, E0, if_neg c10]
    simp (disch := omega) only [li_4, li_13, li_1, nI_add, nI_clamp, vp_t, ml_uI, ml_KI, ml_PI, ml_NI, ml_SI, ml_xI, ml_Is, ml_In, ml_us, ml_un, ml_cp, ml_ss, sk_p64_0 hs, sk_p64_1 hs, sk_p64_2 hs, sk_p64_3 hs, sk_p64_4 hs, sk_p64_5 hs, sk_p64_9 hs, sk_p64_10 hs, sk_p64_11 hs, sk_p65_6 hs, sk_p65_7 hs, sk_p65_8 hs, sk_p65_9 hs, sk_p65_10 hs, sk_p65_11 hs, sk_p65_12 hs, sk_p65_13 hs, sk_p65_14 hs, sk_p65_15 hs, sk_k64 hs, sk_n64 hs, sk_k65 hs, sk_n65 hs, sk_k66 hs, sk_n66 hs, sk_k67 hs, sk_n67 hs, sk_k68 hs, sk_n68 hs, sk_k69 hs, sk_n69 hs, true_and, forall_eq]
  rw [a]
  have g : ∀ q, (q < 65 ∨ 70 ≤ q) → m_I (m_sI (m_sI (m_sI (m_sI (m_sI μ 65 (ml_u (m_I μ 65) 0 (nI (n + 1)))) 66 (ml_u (m_I μ 66) n (nI h))) 67 (ml_u (m_I μ 67) n (nI s))) 68 (ml_u (m_I μ 68) n (nI p))) 69 (ml_u (ml_u (m_I μ 69) (4 + n) 2) (13 + n) 0)) q = m_I μ q := fun q hq => by rw [ml_In (by omega), ml_In (by omega), ml_In (by omega), ml_In (by omega), ml_In (by omega)]
  have g5 : m_I (m_sI (m_sI (m_sI (m_sI (m_sI μ 65 (ml_u (m_I μ 65) 0 (nI (n + 1)))) 66 (ml_u (m_I μ 66) n (nI h))) 67 (ml_u (m_I μ 67) n (nI s))) 68 (ml_u (m_I μ 68) n (nI p))) 69 (ml_u (ml_u (m_I μ 69) (4 + n) 2) (13 + n) 0)) 65 = ml_u (m_I μ 65) 0 (nI (n + 1)) := by rw [ml_In (by decide), ml_In (by decide), ml_In (by decide), ml_In (by decide), ml_Is]
  have g6 : m_I (m_sI (m_sI (m_sI (m_sI (m_sI μ 65 (ml_u (m_I μ 65) 0 (nI (n + 1)))) 66 (ml_u (m_I μ 66) n (nI h))) 67 (ml_u (m_I μ 67) n (nI s))) 68 (ml_u (m_I μ 68) n (nI p))) 69 (ml_u (ml_u (m_I μ 69) (4 + n) 2) (13 + n) 0)) 66 = ml_u (m_I μ 66) n (nI h) := by rw [ml_In (by decide), ml_In (by decide), ml_In (by decide), ml_Is]
  have g7 : m_I (m_sI (m_sI (m_sI (m_sI (m_sI μ 65 (ml_u (m_I μ 65) 0 (nI (n + 1)))) 66 (ml_u (m_I μ 66) n (nI h))) 67 (ml_u (m_I μ 67) n (nI s))) 68 (ml_u (m_I μ 68) n (nI p))) 69 (ml_u (ml_u (m_I μ 69) (4 + n) 2) (13 + n) 0)) 67 = ml_u (m_I μ 67) n (nI s) := by rw [ml_In (by decide), ml_In (by decide), ml_Is]
  have g8 : m_I (m_sI (m_sI (m_sI (m_sI (m_sI μ 65 (ml_u (m_I μ 65) 0 (nI (n + 1)))) 66 (ml_u (m_I μ 66) n (nI h))) 67 (ml_u (m_I μ 67) n (nI s))) 68 (ml_u (m_I μ 68) n (nI p))) 69 (ml_u (ml_u (m_I μ 69) (4 + n) 2) (13 + n) 0)) 68 = ml_u (m_I μ 68) n (nI p) := by rw [ml_In (by decide), ml_Is]
  have g9 : m_I (m_sI (m_sI (m_sI (m_sI (m_sI μ 65 (ml_u (m_I μ 65) 0 (nI (n + 1)))) 66 (ml_u (m_I μ 66) n (nI h))) 67 (ml_u (m_I μ 67) n (nI s))) 68 (ml_u (m_I μ 68) n (nI p))) 69 (ml_u (ml_u (m_I μ 69) (4 + n) 2) (13 + n) 0)) 69 = ml_u (ml_u (m_I μ 69) (4 + n) 2) (13 + n) 0 := ml_Is
  have gs : sk_m (m_sI (m_sI (m_sI (m_sI (m_sI μ 65 (ml_u (m_I μ 65) 0 (nI (n + 1)))) 66 (ml_u (m_I μ 66) n (nI h))) 67 (ml_u (m_I μ 67) n (nI s))) 68 (ml_u (m_I μ 68) n (nI p))) 69 (ml_u (ml_u (m_I μ 69) (4 + n) 2) (13 + n) 0)) := hs
  have gS : m_S (m_sI (m_sI (m_sI (m_sI (m_sI μ 65 (ml_u (m_I μ 65) 0 (nI (n + 1)))) 66 (ml_u (m_I μ 66) n (nI h))) 67 (ml_u (m_I μ 67) n (nI s))) 68 (ml_u (m_I μ 68) n (nI p))) 69 (ml_u (ml_u (m_I μ 69) (4 + n) 2) (13 + n) 0)) = m_S μ := rfl
  have gP : m_P (m_sI (m_sI (m_sI (m_sI (m_sI μ 65 (ml_u (m_I μ 65) 0 (nI (n + 1)))) 66 (ml_u (m_I μ 66) n (nI h))) 67 (ml_u (m_I μ 67) n (nI s))) 68 (ml_u (m_I μ 68) n (nI p))) 69 (ml_u (ml_u (m_I μ 69) (4 + n) 2) (13 + n) 0)) = m_P μ := rfl
  have gx : m_x (m_sI (m_sI (m_sI (m_sI (m_sI μ 65 (ml_u (m_I μ 65) 0 (nI (n + 1)))) 66 (ml_u (m_I μ 66) n (nI h))) 67 (ml_u (m_I μ 67) n (nI s))) 68 (ml_u (m_I μ 68) n (nI p))) 69 (ml_u (ml_u (m_I μ 69) (4 + n) 2) (13 + n) 0)) = m_x μ := rfl
  generalize (m_sI (m_sI (m_sI (m_sI (m_sI μ 65 (ml_u (m_I μ 65) 0 (nI (n + 1)))) 66 (ml_u (m_I μ 66) n (nI h))) 67 (ml_u (m_I μ 67) n (nI s))) 68 (ml_u (m_I μ 68) n (nI p))) 69 (ml_u (ml_u (m_I μ 69) (4 + n) 2) (13 + n) 0)) = ν at g g5 g6 g7 g8 g9 gs gS gP gx ⊢
  refine H _ ν ⟨by rw [gS], g 1 (by omega), sk_k64 gs, sk_k411 gs⟩ (fun Qm hQ => ?_)
  have w : m_I ν 412 = m_I μ 412 := g 412 (by omega)
  have A0' : m_I ν 412 0 = nI n := by rw [w]; exact A0
  show p_X5_eater 411 (nI h) (nI s) (nI p) ν Qm
  simp only [p_X5_eater, m_in, sk_p411_0 gs, sk_p411_1 gs, sk_p411_2 gs, sk_p411_6 gs, sk_p411_7 gs, sk_p411_8 gs, sk_p411_9 gs, sk_p411_10 gs, sk_p411_11 gs, sk_p411_12 gs, sk_p411_22 gs, sk_p411_23 gs, sk_p411_25 gs, sk_p411_26 gs, sk_p411_30 gs, sk_p411_31 gs, sk_p411_32 gs, sk_p411_33 gs, sk_p411_35 gs, sk_p411_36 gs, sk_p411_37 gs, sk_p411_38 gs, sk_p411_39 gs, sk_p411_40 gs, sk_p411_42 gs, sk_p411_43 gs, sk_p411_44 gs, sk_p411_45 gs, sk_p411_46 gs, sk_k411 gs, sk_n411 gs, sk_k412 gs, sk_n412 gs, cl0, vp0_11120, true_and, forall_eq, A0', if_pos c1, if_pos c2, if_pos c3, e10, if_false, if_neg c10]
  simp (disch := omega) only [li_10, li_3, li_1, li_2, pk_mul, nI_add, nI_clamp, vp_t, ml_uI, ml_KI, ml_PI, ml_NI, ml_SI, ml_xI, ml_Is, ml_In, ml_us, ml_un, ml_cp, ml_ss, sk_p411_0 gs, sk_p411_1 gs, sk_p411_2 gs, sk_p411_6 gs, sk_p411_7 gs, sk_p411_8 gs, sk_p411_9 gs, sk_p411_10 gs, sk_p411_11 gs, sk_p411_12 gs, sk_p411_22 gs, sk_p411_23 gs, sk_p411_25 gs, sk_p411_26 gs, sk_p411_30 gs, sk_p411_31 gs, sk_p411_32 gs, sk_p411_33 gs, sk_p411_35 gs, sk_p411_36 gs, sk_p411_37 gs, sk_p411_38 gs, sk_p411_39 gs, sk_p411_40 gs, sk_p411_42 gs, sk_p411_43 gs, sk_p411_44 gs, sk_p411_45 gs, sk_p411_46 gs, sk_k411 gs, sk_n411 gs, sk_k412 gs, sk_n412 gs, true_and, forall_eq, w]
  have st0 : ml_u (ml_u (ml_u (m_I μ 412) (10 + 3 * n) (nI h)) (10 + 3 * n + 1) (nI s)) (10 + 3 * n + 2) (nI p) 0 = nI n := by rw [ml_un (by omega), ml_un (by omega), ml_un (by omega)]; exact A0
  have st3 : ml_u (ml_u (ml_u (m_I μ 412) (10 + 3 * n) (nI h)) (10 + 3 * n + 1) (nI s)) (10 + 3 * n + 2) (nI p) 3 = nI st := by rw [ml_un (by omega), ml_un (by omega), ml_un (by omega)]; exact A3
  have stw : ∀ k, k < st → ml_u (ml_u (ml_u (m_I μ 412) (10 + 3 * n) (nI h)) (10 + 3 * n + 1) (nI s)) (10 + 3 * n + 2) (nI p) (470 + 355 * k + 114 - 110 + n) = 2 := by
    intro k hk
    rw [ml_un (by omega), ml_un (by omega), ml_un (by omega)]
    obtain ⟨k1, k2, k3, k4, k5, k6⟩ := hst k hk
    have := (k5.2.2.1 n (by omega) (by omega)).1
    unfold iv_sh at this
    rw [show 470 + 355 * k + 114 - 110 + n = 470 + 355 * k + (4 + n) by omega]
    exact this
  generalize ef : ml_u (ml_u (ml_u (m_I μ 412) (10 + 3 * n) (nI h)) (10 + 3 * n + 1) (nI s)) (10 + 3 * n + 2) (nI p) = f at st0 st3 stw
  unfold p_X5_eater_L93
  refine lp_fn st (fun k => (nI k, m_sI ν 412 f)) (fun _ => True) (fun k hk _ K hK => ?_) (fun _ K => ?_) rfl trivial
  · show p_X5_eater_L93b 411 (nI n) (fun i2 μ => K (i2, μ)) (nI k) (m_sI ν 412 f) Qm
    have hK := hK trivial
    unfold p_X5_eater_L93b
    simp (disch := omega) only [li_470, li_355, li_114, li_110, li_1, pk_mul, nI_add, pk_sub, nI_clamp, vp_t, cl3, vp3_11120, ml_uI, ml_KI, ml_PI, ml_NI, ml_SI, ml_xI, ml_Is, ml_In, ml_us, ml_un, ml_cp, ml_ss, sk_p411_0 gs, sk_p411_1 gs, sk_p411_2 gs, sk_p411_6 gs, sk_p411_7 gs, sk_p411_8 gs, sk_p411_9 gs, sk_p411_10 gs, sk_p411_11 gs, sk_p411_12 gs, sk_p411_22 gs, sk_p411_23 gs, sk_p411_25 gs, sk_p411_26 gs, sk_p411_30 gs, sk_p411_31 gs, sk_p411_32 gs, sk_p411_33 gs, sk_p411_35 gs, sk_p411_36 gs, sk_p411_37 gs, sk_p411_38 gs, sk_p411_39 gs, sk_p411_40 gs, sk_p411_42 gs, sk_p411_43 gs, sk_p411_44 gs, sk_p411_45 gs, sk_p411_46 gs, sk_k411 gs, sk_n411 gs, sk_k412 gs, sk_n412 gs, true_and, forall_eq, st3, nI_leI, Nat.not_le.mpr hk, if_false]
    rw [ml_same (stw k hk)]
    exact hK
  · show p_X5_eater_L93b 411 (nI n) (fun i2 μ => K (i2, μ)) (nI st) (m_sI ν 412 f) Qm
    unfold p_X5_eater_L93b
    simp (disch := omega) only [cl0, vp0_11120, cl3, vp3_11120, ml_uI, ml_KI, ml_PI, ml_NI, ml_SI, ml_xI, ml_Is, ml_In, ml_us, ml_un, ml_cp, ml_ss, sk_p411_0 gs, sk_p411_1 gs, sk_p411_2 gs, sk_p411_6 gs, sk_p411_7 gs, sk_p411_8 gs, sk_p411_9 gs, sk_p411_10 gs, sk_p411_11 gs, sk_p411_12 gs, sk_p411_22 gs, sk_p411_23 gs, sk_p411_25 gs, sk_p411_26 gs, sk_p411_30 gs, sk_p411_31 gs, sk_p411_32 gs, sk_p411_33 gs, sk_p411_35 gs, sk_p411_36 gs, sk_p411_37 gs, sk_p411_38 gs, sk_p411_39 gs, sk_p411_40 gs, sk_p411_42 gs, sk_p411_43 gs, sk_p411_44 gs, sk_p411_45 gs, sk_p411_46 gs, sk_k411 gs, sk_n411 gs, sk_k412 gs, sk_n412 gs, true_and, forall_eq, st3, st0, nI_leI, Nat.le_refl, if_true, nI_1]
    subst ef
    have e : ∀ q, (q < 65 ∨ 70 ≤ q) → q ≠ 412 → ∀ f, m_I (m_sI ν 412 f) q = m_I μ q := fun q q1 q2 f => by rw [ml_In q2, g q q1]
    refine hQ _ ?_ ⟨by show m_S ν 1 = _; rw [gS], e 1 (by omega) (by decide) _, sk_k64 gs, sk_k411 gs⟩
    refine kp_here hI (sk_m.I gs) gS gx (fun p _ => by show m_P ν p = _; rw [gP]) (fun p p1 p2 p3 p4 => e p (by omega) p3 _) (fun j _ => by rw [e 64 (by omega) (by decide)]) (fun j _ => by rw [e 411 (by omega) (by decide)]) fun n9 tx st te tl ns nd c9 => ⟨n + 1, st, te, tl, ns, nd, ?_⟩
    have et : nI n = nI n9 := E0.symm.trans c9.2.1.1
    have et := (nI_eq (by omega) (by have := c9.1.1; omega)).mp et
    subst et
    refine C_eater c9 hs (by omega) h2 s1 s2 p2 (fun q q1 q2 => e q (by omega) (by omega) _) (by show m_P ν 71 = _; rw [gP]) ?_ ?_ ?_ ?_ ?_ ?_
    · rw [ml_In (by decide)]; exact g5
    · rw [ml_In (by decide)]; exact g6
    · rw [ml_In (by decide)]; exact g7
    · rw [ml_In (by decide)]; exact g8
    · rw [ml_In (by decide)]; exact g9
    · rw [ml_Is]
