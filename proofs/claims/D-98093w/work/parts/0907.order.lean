/-! plain law: called, the reference's orders -/
theorem m_rows {k : Nat} (hk : k ≤ 6) {μ : fw_M} {Q : Int32 → fw_M → Prop} (hQ : Q (nI (fac k)) μ) : p_X5_rows (nI k) μ Q := by
  unfold p_X5_rows p_X5_rows_L4
  refine lp_fn (k - 1) (fun j => (nI (fac (j + 1)), nI (j + 2), μ)) (fun _ => True) (fun j hj _ K hK => ?_) (fun _ K => ?_) rfl trivial
  · show p_X5_rows_L4b (nI k) (fun i1 i2 μ => K (i1, i2, μ)) (nI (fac (j + 1))) (nI (j + 2)) μ Q
    have hK := hK trivial
    have e : fac (j + 1 + 1) = (j + 2) * fac (j + 1) := rfl
    rw [e, Nat.mul_comm] at hK
    unfold p_X5_rows_L4b
    rw [if_neg (nI_nlt (by omega) (by omega))]
    simp only [pk_mul, nI_1, forall_eq]
    exact hK
  · show p_X5_rows_L4b (nI k) (fun i1 i2 μ => K (i1, i2, μ)) (nI (fac (k - 1 + 1))) (nI (k - 1 + 2)) μ Q
    unfold p_X5_rows_L4b
    rw [if_pos (nI_lt (by omega) (by omega))]
    by_cases z : k = 0
    · subst z; exact hQ
    · rw [show k - 1 + 1 = k by omega]; exact hQ
section MO
variable {l0 : List Nat} {m : Nat}
theorem m_laysOrder {ν : fw_M} (gs : sk_m ν) (hm : m ≤ 6) (hl : l0.length = m) (hb : ∀ j, l0.getD j 0 < 2 ^ 31) (h6 : ∀ j, j < m → m_I ν 436 j = nI (l0.getD j 0)) {y : Nat} (hy : y < fac m) {Q : fw_M → Prop} (hQ : ∀ ν', eqD (fun p _ => p = 437) ν ν' → (∀ j, j < m → m_I ν' 437 j = nI ((pmL m l0 y).getD j 0)) → Q ν') : p_X5_laysOrder 411 (nI m) (nI y) ν Q := by
  unfold p_X5_laysOrder p_X5_laysOrder_L8
  have h0 : (fl (bU 0) (fun j => l0.getD j 0) m) = l0 := by
    have := fl_self (l := l0) (k := m) (by omega)
    rw [List.take_of_length_le (by omega)] at this
    refine Eq.trans (fl_cong fun j _ => ?_) this
    unfold bU
    rw [Nat.zero_div]
    rfl
  refine lp_to m (fun k (x : Int32 × Int32 × Int32 × fw_M) => x.2.2.1 = nI k ∧ eqD (fun p _ => p = 437) ν x.2.2.2 ∧ (∀ j, j < k → m_I x.2.2.2 437 j = nI ((pmL m l0 y).getD j 0)) ∧ ∃ yk u, x.1 = nI yk ∧ x.2.1 = nI u ∧ u < 64 ∧ yk < fac (m - k) ∧ ctN (bU u) m = m - k ∧ (pmL m l0 y).drop k = pmL (m - k) (fl (bU u) (fun j => l0.getD j 0) m) yk) (fun k x hk hx K hK => ?_) (fun x hx K => ?_) ⟨rfl, eqD.rf, fun j hj => absurd hj (Nat.not_lt_zero _), y, 0, rfl, rfl, by decide, hy, by rw [← fl_len (c := fun j => l0.getD j 0) m, h0, hl, Nat.sub_zero], by rw [h0]; rfl⟩
  · obtain ⟨i3, i4, i5, ν1⟩ := x
    obtain ⟨b1, b2, b3, yk, u, b4, b5, b6, b7, b8, b9⟩ := hx
    dsimp only at b1 b2 b3 b4 b5
    subst b1 b4 b5
    show p_X5_laysOrder_L8b 411 (nI m) (fun i3 i4 i5 μ => K (i3, i4, i5, μ)) (nI yk) (nI u) (nI k) ν1 Q
    obtain ⟨q, hq⟩ : ∃ q, m - k = q + 1 := ⟨m - k - 1, by omega⟩
    rw [hq] at b7 b8 b9
    have fq := fac_le q (by omega)
    have fp := fac_pos q
    have f1 : fac (q + 1) = (q + 1) * fac q := rfl
    have f7 := fac_le (q + 1) (by omega)
    have mq : (nI m - 1 - nI k : Int32) = nI q := by
      rw [show (nI m - 1 : Int32) = nI (m - 1) from pk_sub (b := 1) (by omega), pk_sub (by omega)]
      congr 1
      omega
    have nz : ¬ nI (fac q) = 0 := nI_ne0 fp (by omega)
    have dl : yk / fac q < q + 1 := by
      rw [Nat.div_lt_iff_lt_mul fp, ← f1]
      exact b7
    have rl : yk % fac q < fac q := Nat.mod_lt _ fp
    have pe : pmL (q + 1) (fl (bU u) (fun j => l0.getD j 0) m) yk = (fl (bU u) (fun j => l0.getD j 0) m).getD (yk / fac q) 0 :: pmL q ((fl (bU u) (fun j => l0.getD j 0) m).eraseIdx (yk / fac q)) (yk % fac q) := rfl
    rw [pe, gd_drop _ _ (by rw [pmL_len]; exact hk)] at b9
    have dv : nI yk / nI (fac q) = nI (yk / fac q) := pk_div (by omega) fp (by omega)
    have rm : nI yk - nI (yk / fac q) * nI (fac q) = nI (yk % fac q) := by
      rw [← dv]; exact pk_rem (by omega) fp (by omega)
    have hyk : yk % fac q < 720 := by omega
    generalize yk / fac q = d at dl b9 dv rm
    generalize yk % fac q = r at rl b9 rm
    obtain ⟨e, he, ue, ce⟩ := fl_ex (P := bU u) (k := d) (n := m) (by omega)
    rw [← ce, fl_get he ue, fl_er he ue] at b9
    have ue' : u / 2 ^ e % 2 = 0 := of_decide_eq_true ue
    unfold p_X5_laysOrder_L8b
    rw [if_neg (nI_ge hk (by omega)), mq]
    refine m_rows (by omega) ⟨nz, ?_⟩
    rintro _ rfl
    refine m_rows (by omega) ⟨nz, ?_⟩
    rintro _ rfl
    rw [dv, rm]
    have g1 := b2.sk gs
    have fin : k + 1 ≤ m := hk
    unfold p_X5_laysOrder_L42
    refine lp_fn e (fun j => (nI (d - ctN (bU u) j), nI j, ν1)) (fun _ => True) (fun j hj _ K2 hK2 => ?_) (fun _ K2 => ?_) rfl trivial
    · have hK2 := hK2 trivial
      show p_X5_laysOrder_L42b (fun i3 i4 i5 μ => K (i3, i4, i5, μ)) 411 (nI m) (nI r) (nI u) (nI k) (fun i6 i7 μ => K2 (i6, i7, μ)) (nI (d - ctN (bU u) j)) (nI j) ν1 Q
      have cs : ctN (bU u) (j + 1) = ctN (bU u) j + (if bU u j = true then 1 else 0) := rfl
      have cm := ct_mono (P := bU u) (e := j + 1) (n := e) hj
      have u2 : u / 2 ^ j % 2 < 2 := Nat.mod_lt _ (by decide)
      unfold p_X5_laysOrder_L42b
      rw [bt_S u (by omega) j (by omega)]
      by_cases z : u / 2 ^ j % 2 = 0
      · have uj : bU u j = true := decide_eq_true z
        rw [uj, if_pos rfl] at cs
        rw [z, if_neg (show ¬ nI 0 = 1 by decide), if_neg (nI_nle (by omega) (by omega))]
        unfold p_X5_laysOrder_L58
        rw [bt_S u (by omega) j (by omega), z, if_neg (show ¬ nI 0 = 1 by decide)]
        have s1 : (nI (d - ctN (bU u) j) - 1 : Int32) = nI (d - ctN (bU u) (j + 1)) := by
          rw [show (nI (d - ctN (bU u) j) - 1 : Int32) = nI (d - ctN (bU u) j - 1) from pk_sub (b := 1) (by omega), cs]
          congr 1
        simp only [forall_eq, nI_1, s1]
        exact hK2
      · have uj : bU u j = false := decide_eq_false z
        rw [uj, if_neg (by decide), Nat.add_zero] at cs
        rw [cs] at hK2
        rw [show u / 2 ^ j % 2 = 1 by omega, if_pos (show nI 1 = 1 by decide)]
        unfold p_X5_laysOrder_L58
        rw [bt_S u (by omega) j (by omega), show u / 2 ^ j % 2 = 1 by omega, if_pos (show nI 1 = 1 by decide)]
        simp only [forall_eq, nI_1, Int32.sub_zero]
        exact hK2
    · show p_X5_laysOrder_L42b (fun i3 i4 i5 μ => K (i3, i4, i5, μ)) 411 (nI m) (nI r) (nI u) (nI k) (fun i6 i7 μ => K2 (i6, i7, μ)) (nI (d - ctN (bU u) e)) (nI e) ν1 Q
      obtain ⟨o1, o2⟩ := or_u u b6 e (by omega) ue'
      have w6 : m_I ν1 436 e = nI (l0.getD e 0) := (b2.2.2.2 436 e (show ¬ 436 = 437 by decide)).trans (h6 e he)
      unfold p_X5_laysOrder_L42b
      rw [bt_S u (by omega) e (by omega), ue', if_neg (show ¬ nI 0 = 1 by decide), ce, Nat.sub_self, if_pos (show nI 0 ≤ 0 by decide), o1]
      simp (disch := omega) only [sk_p411_0 g1, sk_p411_1 g1, sk_p411_2 g1, sk_p411_6 g1, sk_p411_7 g1, sk_p411_8 g1, sk_p411_9 g1, sk_p411_10 g1, sk_p411_11 g1, sk_p411_12 g1, sk_p411_22 g1, sk_p411_23 g1, sk_p411_25 g1, sk_p411_26 g1, sk_p411_30 g1, sk_p411_31 g1, sk_p411_32 g1, sk_p411_33 g1, sk_p411_35 g1, sk_p411_36 g1, sk_p411_37 g1, sk_p411_38 g1, sk_p411_39 g1, sk_p411_40 g1, sk_p411_42 g1, sk_p411_43 g1, sk_p411_44 g1, sk_p411_45 g1, sk_p411_46 g1, sk_k411 g1, sk_n411 g1, sk_k436 g1, sk_n436 g1, sk_k437 g1, sk_n437 g1, nI_clamp, vp_t, true_and, forall_eq, ml_uI, w6, nI_1]
      have hd : (pmL m l0 y).getD k 0 = l0.getD e 0 := by
        have := congrArg (fun l => l.getD 0 0) b9
        exact this
      have tl : (pmL m l0 y).drop (k + 1) = pmL q (fl (fun j => bU u j && decide (j ≠ e)) (fun j => l0.getD j 0) m) r := by
        have := congrArg List.tail b9
        exact this
      have fe : fl (fun j => bU u j && decide (j ≠ e)) (fun j => l0.getD j 0) m = fl (bU (u + 2 ^ e)) (fun j => l0.getD j 0) m := fl_cong fun j hj => (or_b u b6 e (by omega) ue' j (by omega)).symm
      refine hK _ ⟨rfl, b2.tr (eqD.sI fun j hj => absurd rfl hj), fun j hj => ?_, r, u + 2 ^ e, rfl, rfl, o2, by rw [show m - (k + 1) = q by omega]; exact rl, ?_, by rw [tl, fe, show m - (k + 1) = q by omega]⟩
      · show m_I (m_sI ν1 437 _) 437 j = _
        rw [ml_Is]
        by_cases qq : j = k
        · subst qq; rw [ml_us, hd]
        · rw [ml_un qq]; exact b3 j (by omega)
      · rw [← fl_len (c := fun j => l0.getD j 0) m, ← fe, ← fl_er he ue, List.length_eraseIdx, fl_len, b8, if_pos (by omega)]
        omega
  · obtain ⟨i3, i4, i5, ν1⟩ := x
    obtain ⟨b1, b2, b3, -⟩ := hx
    dsimp only at b1 b2 b3
    subst b1
    show p_X5_laysOrder_L8b 411 (nI m) (fun i3 i4 i5 μ => K (i3, i4, i5, μ)) i3 i4 (nI m) ν1 Q
    unfold p_X5_laysOrder_L8b
    rw [if_pos (nI_le (Nat.le_refl _) (by omega))]
    exact hQ ν1 b2 b3
end MO
