/-! plain law: fits, contrary, liars, inWhoseName -/
def hgI (x : Int32) : Int32 := if 0 ≤ x then (if x = 0 then 0 else 1) else -1
theorem s_hangs {a b : Int32} {μ : fw_M} {Q : Int32 → fw_M → Prop} : p_X0_hangs a b μ Q = Q (hgI (a + b)) μ := by
  unfold p_X0_hangs p_J8_compare hgI
  by_cases h : 0 ≤ a + b
  · by_cases g : a + b = 0
    · simp only [if_pos h, if_pos g]
    · simp only [if_pos h, if_neg g]
  · simp only [if_neg h]
theorem m_hangs {a b : Int32} {μ : fw_M} {Q : Int32 → fw_M → Prop} : p_X5_hangs a b μ Q = Q (hgI (a + b)) μ := by
  unfold p_X5_hangs hgI
  have z : (0 : Int32).toInt = 0 := by decide
  by_cases h : 0 ≤ a + b
  · by_cases g : a + b = 0
    · rw [if_pos (by rw [g]; decide), if_pos h, if_pos h, if_pos g]
    · have k : ¬ a + b ≤ 0 := by
        intro q
        apply g
        rw [Int32.le_iff_toInt_le, z] at h q
        rw [← Int32.toInt_inj, z]
        omega
      rw [if_neg k, if_pos h, if_neg g]
  · have k : a + b ≤ 0 := by
      rw [Int32.le_iff_toInt_le, z] at h ⊢
      omega
    rw [if_pos k, if_neg h, if_neg h]
def fitB (T : Nat → Nat → Int32) : Nat → Nat → Bool
  | 0, _ => true
  | k + 1, p => fitB T k p && decide (hgI (T k 0 + nI p) = T k 1)
theorem fitB_cong {T T' : Nat → Nat → Int32} {p : Nat} : ∀ {k : Nat}, (∀ i, i < k → ∀ j, j < 2 → T i j = T' i j) → fitB T k p = fitB T' k p := by
  intro k
  induction k with
  | zero => intro _; rfl
  | succ k ih =>
    intro h
    unfold fitB
    rw [ih fun i hi j hj => h i (by omega) j hj, h k (by omega) 0 (by decide), h k (by omega) 1 (by decide)]
theorem fitB_le {T : Nat → Nat → Int32} {p k : Nat} : ∀ {n : Nat}, k ≤ n → fitB T k p = false → fitB T n p = false := by
  intro n
  induction n with
  | zero => intro h g; rwa [show k = 0 by omega] at g
  | succ n ih =>
    intro h g
    by_cases e : k = n + 1
    · subst e; exact g
    · unfold fitB
      rw [ih (by omega) g, Bool.false_and]
def fitS (T : Nat → Nat → Int32) (te : Nat) : Nat → Int32
  | 0 => 0
  | p + 1 => fitS T te p ||| (if fitB T te p = true then (1 : Int32) <<< (nI p &&& 31) else 0)
section FITS
variable {μ : fw_M} {te : Nat}
theorem s_isFit (hs : sk_m μ) (hte : te ≤ 12) (e4 : m_I μ 65 4 = nI te) {p : Nat} {Q : Int32 → fw_M → Prop} (hQ : Q (if fitB (fun i => m_I μ (195 + i)) te p = true then 1 else 0) μ) : p_X0_isFit 64 (nI p) μ Q := by
  unfold p_X0_isFit p_X0_isFit_L2
  refine lp_fn te (fun k => (nI k, μ)) (fun k => fitB (fun i => m_I μ (195 + i)) k p = true) (fun k hk hf K hK => ?_) (fun hf K => ?_) rfl rfl
  · show p_X0_isFit_L2b 64 (nI p) (fun i2 μ => K (i2, μ)) (nI k) μ Q
    have q := sk_q195 hs (p := 195 + k) (by omega) (by omega)
    unfold p_X0_isFit_L2b
    simp (disch := omega) only [s_hangs, e4, sk_p64_0 hs, sk_p64_1 hs, sk_p64_2 hs, sk_p64_3 hs, sk_p64_4 hs, sk_p64_5 hs, sk_p64_9 hs, sk_p64_10 hs, sk_p64_11 hs, sk_p65_6 hs, sk_p65_7 hs, sk_p65_8 hs, sk_p65_9 hs, sk_p65_10 hs, sk_p65_11 hs, sk_p65_12 hs, sk_p65_13 hs, sk_p65_14 hs, sk_p65_15 hs, sk_k64 hs, sk_n64 hs, sk_k65 hs, sk_n65 hs, sk_k194 hs, sk_n194 hs, sk_r194 hs, q.1, q.2, cl0, cl1, li_0, li_1, nI_clamp, vp_t, true_and, nI_leI, Nat.not_le.mpr hk, if_false, forall_eq, nI_add]
    by_cases c : hgI (m_I μ (195 + k) 0 + nI p) = m_I μ (195 + k) 1
    · rw [if_pos c]
      refine hK ?_
      show (fitB _ k p && decide _) = true
      rw [hf, Bool.true_and]
      exact decide_eq_true c
    · rw [if_neg c]
      have : fitB (fun i => m_I μ (195 + i)) (k + 1) p = false := by
        show (fitB _ k p && decide _) = false
        rw [hf, Bool.true_and]
        exact decide_eq_false c
      rw [fitB_le (n := te) (by omega) this] at hQ
      exact hQ
  · show p_X0_isFit_L2b 64 (nI p) (fun i2 μ => K (i2, μ)) (nI te) μ Q
    unfold p_X0_isFit_L2b
    simp (disch := omega) only [e4, sk_p64_0 hs, sk_p64_1 hs, sk_p64_2 hs, sk_p64_3 hs, sk_p64_4 hs, sk_p64_5 hs, sk_p64_9 hs, sk_p64_10 hs, sk_p64_11 hs, sk_p65_6 hs, sk_p65_7 hs, sk_p65_8 hs, sk_p65_9 hs, sk_p65_10 hs, sk_p65_11 hs, sk_p65_12 hs, sk_p65_13 hs, sk_p65_14 hs, sk_p65_15 hs, sk_k64 hs, sk_n64 hs, sk_k65 hs, sk_n65 hs, true_and, nI_leI, Nat.le_refl, if_true]
    rw [hf] at hQ
    exact hQ
theorem s_fits (hs : sk_m μ) (hte : te ≤ 12) (e4 : m_I μ 65 4 = nI te) {Q : Int32 → fw_M → Prop} (hQ : Q (fitS (fun i => m_I μ (195 + i)) te 10) μ) : p_X0_fits 64 μ Q := by
  unfold p_X0_fits p_X0_fits_L4
  refine lp_fn 10 (fun k => (fitS (fun i => m_I μ (195 + i)) te k, nI k, μ)) (fun _ => True) (fun k hk _ K hK => ?_) (fun _ K => ?_) rfl trivial
  · show p_X0_fits_L4b 64 (fun i1 i2 μ => K (i1, i2, μ)) (fitS (fun i => m_I μ (195 + i)) te k) (nI k) μ Q
    have hK := hK trivial
    unfold p_X0_fits_L4b
    rw [show (10 : Int32) = nI 10 from rfl, if_neg (nI_ge (b := 10) hk (by decide))]
    refine s_isFit hs hte e4 ?_
    show (if _ then _ else _)
    have e : fitS (fun i => m_I μ (195 + i)) te (k + 1) = fitS (fun i => m_I μ (195 + i)) te k ||| (if fitB (fun i => m_I μ (195 + i)) te k = true then (1 : Int32) <<< (nI k &&& 31) else 0) := rfl
    simp only [e, nI_succ] at hK
    by_cases c : fitB (fun i => m_I μ (195 + i)) te k = true
    · rw [if_pos c] at hK ⊢
      rw [if_neg (by decide)]
      simp only [forall_eq]
      exact hK
    · rw [if_neg c] at hK ⊢
      rw [if_pos rfl]
      simp only [forall_eq]
      exact hK
  · show p_X0_fits_L4b 64 (fun i1 i2 μ => K (i1, i2, μ)) (fitS (fun i => m_I μ (195 + i)) te 10) (nI 10) μ Q
    unfold p_X0_fits_L4b
    rw [show (10 : Int32) = nI 10 from rfl, if_pos (nI_le (a := 10) (Nat.le_refl 10) (by decide))]
    exact hQ
theorem m_fits (hs : sk_m μ) (hte : te ≤ 12) (e4 : m_I μ 412 4 = nI te) {Q : Int32 → fw_M → Prop} (hQ : Q (fitS (fun i j => m_I μ 412 (40 + 2 * i + j)) te 10) μ) : p_X5_fits 411 μ Q := by
  unfold p_X5_fits p_X5_fits_L4
  refine lp_fn 10 (fun k => (fitS (fun i j => m_I μ 412 (40 + 2 * i + j)) te k, nI k, μ)) (fun _ => True) (fun k hk _ K hK => ?_) (fun _ K => ?_) rfl trivial
  · show p_X5_fits_L4b 411 (fun i1 i2 μ => K (i1, i2, μ)) (fitS (fun i j => m_I μ 412 (40 + 2 * i + j)) te k) (nI k) μ Q
    have hK := hK trivial
    unfold p_X5_fits_L4b p_X5_fits_L15
    rw [show (10 : Int32) = nI 10 from rfl, if_neg (nI_ge (b := 10) hk (by decide))]
    have e : fitS (fun i j => m_I μ 412 (40 + 2 * i + j)) te (k + 1) = fitS (fun i j => m_I μ 412 (40 + 2 * i + j)) te k ||| (if fitB (fun i j => m_I μ 412 (40 + 2 * i + j)) te k = true then (1 : Int32) <<< (nI k &&& 31) else 0) := rfl
    simp only [e, nI_succ] at hK
    refine lp_fn te (fun j => ((if fitB (fun i j => m_I μ 412 (40 + 2 * i + j)) j k = true then (1 : Int32) else 0), nI j, μ)) (fun _ => True) (fun j hj _ K2 hK2 => ?_) (fun _ K2 => ?_) rfl trivial
    · show p_X5_fits_L15b (fun i1 i2 μ => K (i1, i2, μ)) 411 _ (nI k) (fun i3 i4 μ => K2 (i3, i4, μ)) (if fitB (fun i j => m_I μ 412 (40 + 2 * i + j)) j k = true then (1 : Int32) else 0) (nI j) μ Q
      have hK2 := hK2 trivial
      have e2 : fitB (fun i j => m_I μ 412 (40 + 2 * i + j)) (j + 1) k = (fitB (fun i j => m_I μ 412 (40 + 2 * i + j)) j k && decide (hgI (m_I μ 412 (40 + 2 * j) + nI k) = m_I μ 412 (40 + 2 * j + 1))) := rfl
      simp only [e2, nI_succ] at hK2
      unfold p_X5_fits_L15b
      by_cases c : fitB (fun i j => m_I μ 412 (40 + 2 * i + j)) j k = true
      · simp only [c, Bool.true_and, decide_eq_true_eq] at hK2
        rw [if_pos c]
        simp (disch := omega) only [m_hangs, sk_p411_0 hs, sk_p411_1 hs, sk_p411_2 hs, sk_p411_6 hs, sk_p411_7 hs, sk_p411_8 hs, sk_p411_9 hs, sk_p411_10 hs, sk_p411_11 hs, sk_p411_12 hs, sk_p411_22 hs, sk_p411_23 hs, sk_p411_25 hs, sk_p411_26 hs, sk_p411_30 hs, sk_p411_31 hs, sk_p411_32 hs, sk_p411_33 hs, sk_p411_35 hs, sk_p411_36 hs, sk_p411_37 hs, sk_p411_38 hs, sk_p411_39 hs, sk_p411_40 hs, sk_p411_42 hs, sk_p411_43 hs, sk_p411_44 hs, sk_p411_45 hs, sk_p411_46 hs, sk_k411 hs, sk_n411 hs, sk_k412 hs, sk_n412 hs, cl4, vp4_11120, e4, true_and, nI_leI, Nat.not_le.mpr hj, if_false, e10]
        by_cases d : hgI (m_I μ 412 (40 + 2 * j) + nI k) = m_I μ 412 (40 + 2 * j + 1)
        · rw [if_pos d, nI_1] at hK2
          simp (disch := omega) only [li_40, li_2, li_1, pk_mul, nI_add, nI_clamp, vp_t, true_and, if_pos d, forall_eq]
          exact hK2
        · rw [if_neg d, nI_1] at hK2
          simp (disch := omega) only [li_40, li_2, li_1, pk_mul, nI_add, nI_clamp, vp_t, true_and, if_neg d, forall_eq]
          exact hK2
      · simp only [eq_false_of_ne_true c, Bool.false_and, Bool.false_eq_true, if_false] at hK2
        rw [if_neg c]
        simp (disch := omega) only [sk_p411_0 hs, sk_p411_1 hs, sk_p411_2 hs, sk_p411_6 hs, sk_p411_7 hs, sk_p411_8 hs, sk_p411_9 hs, sk_p411_10 hs, sk_p411_11 hs, sk_p411_12 hs, sk_p411_22 hs, sk_p411_23 hs, sk_p411_25 hs, sk_p411_26 hs, sk_p411_30 hs, sk_p411_31 hs, sk_p411_32 hs, sk_p411_33 hs, sk_p411_35 hs, sk_p411_36 hs, sk_p411_37 hs, sk_p411_38 hs, sk_p411_39 hs, sk_p411_40 hs, sk_p411_42 hs, sk_p411_43 hs, sk_p411_44 hs, sk_p411_45 hs, sk_p411_46 hs, sk_k411 hs, sk_n411 hs, sk_k412 hs, sk_n412 hs, cl4, vp4_11120, e4, true_and, nI_leI, Nat.not_le.mpr hj, if_false, e00, if_true, forall_eq]
        exact hK2
    · show p_X5_fits_L15b (fun i1 i2 μ => K (i1, i2, μ)) 411 _ (nI k) (fun i3 i4 μ => K2 (i3, i4, μ)) (if fitB (fun i j => m_I μ 412 (40 + 2 * i + j)) te k = true then (1 : Int32) else 0) (nI te) μ Q
      unfold p_X5_fits_L15b
      simp (disch := omega) only [sk_p411_0 hs, sk_p411_1 hs, sk_p411_2 hs, sk_p411_6 hs, sk_p411_7 hs, sk_p411_8 hs, sk_p411_9 hs, sk_p411_10 hs, sk_p411_11 hs, sk_p411_12 hs, sk_p411_22 hs, sk_p411_23 hs, sk_p411_25 hs, sk_p411_26 hs, sk_p411_30 hs, sk_p411_31 hs, sk_p411_32 hs, sk_p411_33 hs, sk_p411_35 hs, sk_p411_36 hs, sk_p411_37 hs, sk_p411_38 hs, sk_p411_39 hs, sk_p411_40 hs, sk_p411_42 hs, sk_p411_43 hs, sk_p411_44 hs, sk_p411_45 hs, sk_p411_46 hs, sk_k411 hs, sk_n411 hs, sk_k412 hs, sk_n412 hs, cl4, vp4_11120, e4, true_and, nI_leI, Nat.le_refl, if_true]
      by_cases c : fitB (fun i j => m_I μ 412 (40 + 2 * i + j)) te k = true
      · rw [if_pos c] at hK ⊢
        rw [if_neg (by decide)]
        simp only [forall_eq]
        exact hK
      · rw [if_neg c] at hK ⊢
        rw [if_pos rfl]
        simp only [forall_eq]
        exact hK
  · show p_X5_fits_L4b 411 (fun i1 i2 μ => K (i1, i2, μ)) (fitS (fun i j => m_I μ 412 (40 + 2 * i + j)) te 10) (nI 10) μ Q
    unfold p_X5_fits_L4b
    rw [show (10 : Int32) = nI 10 from rfl, if_pos (nI_le (a := 10) (Nat.le_refl 10) (by decide))]
    exact hQ
end FITS
theorem fitS_cong {T T' : Nat → Nat → Int32} {te : Nat} (h : ∀ i, i < te → ∀ j, j < 2 → T i j = T' i j) : ∀ p, fitS T te p = fitS T' te p := by
  intro p
  induction p with
  | zero => rfl
  | succ p ih =>
    unfold fitS
    rw [ih, fitB_cong h]
theorem op_fits : iv_op2 (α := Int32) (fun μ Q => p_X0_fits 64 μ Q) (fun μ Q => p_X5_fits 411 μ Q) := by
  refine op_ro fun L xs z μ hI => ?_
  obtain ⟨hs, -, -, n, tx, st, te, tl, ns, nd, n', tx', st', te', tl', ns', nd', tp, hC, -⟩ := hI
  obtain ⟨⟨-, -, -, b, -⟩, ⟨-, -, -, -, E4, -⟩, ⟨-, -, -, A4, -⟩, -, -, -, -, -, y1, -⟩ := hC
  refine ⟨fitS (fun i => m_I μ (195 + i)) te 10, fun Q h => s_fits hs b E4 h, fun Q h => m_fits hs b A4 ?_⟩
  rw [fitS_cong (T := fun i => m_I μ (195 + i)) (T' := fun i j => m_I μ 412 (40 + 2 * i + j)) y1] at h
  exact h
