/-! plain law: called, the class -/
/-- the class's best so far -/
def kS (μ : fw_M) (k : Nat) (b : CB) : Prop := m_I μ 64 12 = (match b with | none => 2147483647 | some x => x.1) ∧ ∀ x, b = some x → x.2.length = k ∧ ∀ j, j < k → m_I μ 410 j = nI (x.2.getD j 0)
abbrev DC (k p j : Nat) : Prop := p = 396 ∨ (399 + k < p ∧ p ≤ 408) ∨ p = 410 ∨ (p = 409 ∧ k ≤ j) ∨ (p = 64 ∧ j = 12)
section KS
variable {n : Nat} {hun sto wh : Nat → Nat} {lv : LV} {nd kd : Nat} {w0 : WW}
theorem s_calls (hkd : kd < 2) (hst : ∀ e, e < n → sto e ≤ 9) : ∀ (m k dp : Nat) (μ : fw_M) (s : Nat) (pre : List Nat) (b : CB) (Q : fw_M → Prop), m + k ≤ 6 → m < dp → cxS n hun sto lv μ → rS n wh nd (m_I μ (399 + k)) (eaL lv hun sto wh kd w0 pre) → okW n (eaL lv hun sto wh kd w0 pre) → pre.length = k → (∀ j, j < k → m_I μ 409 j = nI (pre.getD j 0)) → s < 2 ^ n → ctN (bP s) n = m → kS μ (m + k) b →
    (∀ μ', eqD (DC k) μ μ' → kS μ' (m + k) (pmF (cuF lv hun sto wh kd w0) m (fl (bP s) (fun e => e) n) pre b) → Q μ') → p_X0_calls_d dp 64 (nI s) (nI kd) (nI k) μ Q := by
  intro m
  induction m with
  | zero =>
    intro k dp μ s pre b Q hmk hdp c R ok hl hc hs hct hb hQ
    obtain ⟨dp, rfl⟩ : ∃ x, dp = x + 1 := ⟨dp - 1, by omega⟩
    obtain ⟨gs, h9, e0, hE, -⟩ := id c
    rw [Nat.zero_add] at hb hQ
    have s0 := bP_z n (by omega) s hs hct
    subst s0
    have rp : m_P μ 398 k = 399 + k := sk_r398 gs (by omega)
    have q := sk_q399 gs (p := 399 + k) (by omega) (by omega)
    show p_X0_calls _ 64 (nI 0) (nI kd) (nI k) μ Q
    unfold p_X0_calls
    rw [if_pos (show nI 0 = 0 from rfl)]
    have aF : pmF (cuF lv hun sto wh kd w0) 0 (fl (bP 0) (fun e => e) n) pre b = if cubt (tlW (eaL lv hun sto wh kd w0 pre)) b = true then some (tlW (eaL lv hun sto wh kd w0 pre), pre) else b := rfl
    rw [aF] at hQ
    simp (disch := omega) only [sk_p64_0 gs, sk_p64_1 gs, sk_p64_2 gs, sk_p64_3 gs, sk_p64_4 gs, sk_p64_5 gs, sk_p64_9 gs, sk_p64_10 gs, sk_p64_11 gs, sk_k64 gs, sk_n64 gs, sk_k398 gs, sk_n398 gs, nI_clamp, vp_t, true_and, rp, s_tiltOf R q.1 q.2, s_abs]
    obtain ⟨t, ht, ta⟩ := tl_abs ok
    have bt : cubt (tlW (eaL lv hun sto wh kd w0 pre)) b = true ↔ absI (tlW (eaL lv hun sto wh kd w0 pre)) < absI (m_I μ 64 12) := by
      unfold cubt
      rw [hb.1]
      cases b with
      | none =>
        refine ⟨fun _ => ?_, fun _ => rfl⟩
        rw [ta]
        show nI t < absI 2147483647
        rw [show absI 2147483647 = nI 2147483647 by decide]
        exact nI_lt (by omega) (by omega)
      | some x => exact decide_eq_true_iff
    generalize tlW (eaL lv hun sto wh kd w0 pre) = tl at bt hQ
    by_cases c1 : absI tl < absI (m_I μ 64 12)
    · rw [if_pos c1]
      rw [if_pos (bt.mpr c1)] at hQ
      have z0 : (0 : Int32).toNatClampNeg + k ≤ 9 := by show 0 + k ≤ 9; omega
      rintro μ10 rfl
      rw [ml_uI]
      simp (disch := omega) only [ml_KI, ml_NI, ml_PI, sk_p64_0 gs, sk_p64_1 gs, sk_p64_2 gs, sk_p64_3 gs, sk_p64_4 gs, sk_p64_5 gs, sk_p64_9 gs, sk_p64_10 gs, sk_p64_11 gs, sk_k64 gs, sk_n64 gs, sk_k409 gs, sk_n409 gs, sk_k410 gs, sk_n410 gs, nI_clamp]
      refine ⟨trivial, trivial, by decide, by decide, nI_pos (by omega), z0, z0, ?_⟩
      rintro μ18 rfl
      rw [ml_cp]
      refine hQ _ ((eqD.sI fun j hj => ml_un fun q => hj (Or.inr (Or.inr (Or.inr (Or.inr ⟨rfl, q⟩))))).tr (eqD.sI fun j hj => absurd (Or.inr (Or.inr (Or.inl rfl))) hj)) ⟨?_, fun x hx => ?_⟩
      · rw [ml_In (by decide), ml_Is, ml_us]
      · cases hx
        refine ⟨hl, fun j hj => ?_⟩
        rw [ml_Is]
        show (if 0 ≤ j ∧ j < 0 + k then m_I (m_sI μ 64 _) 409 (0 + (j - 0)) else _) = _
        rw [if_pos (by omega), ml_In (by decide), Nat.zero_add, Nat.sub_zero]
        exact hc j hj
    · rw [if_neg c1]
      rw [if_neg (fun q => c1 (bt.mp q))] at hQ
      exact hQ μ eqD.rf hb
  | succ m ih =>
    intro k dp μ s pre b Q hmk hdp c R ok hl hc hs hct hb hQ
    obtain ⟨dp, rfl⟩ : ∃ x, dp = x + 1 := ⟨dp - 1, by omega⟩
    obtain ⟨gs, h9, e0, hE, -⟩ := id c
    have p9 := p2_le n (by omega)
    have sne : s ≠ 0 := by
      rintro rfl
      rw [bP_0] at hct
      omega
    show p_X0_calls _ 64 (nI s) (nI kd) (nI k) μ Q
    unfold p_X0_calls
    rw [if_neg (nI_ne0 (by omega) (by omega))]
    have aF : pmF (cuF lv hun sto wh kd w0) (m + 1) (fl (bP s) (fun e => e) n) pre b = faN (fun i b => pmF (cuF lv hun sto wh kd w0) m ((fl (bP s) (fun e => e) n).eraseIdx i) (pre ++ [(fl (bP s) (fun e => e) n).getD i 0]) b) b (m + 1) := rfl
    rw [aF, ← hct] at hQ
    generalize hF : (fun i b => pmF (cuF lv hun sto wh kd w0) m ((fl (bP s) (fun e => e) n).eraseIdx i) (pre ++ [(fl (bP s) (fun e => e) n).getD i 0]) b) = F at hQ
    rw [hct] at hQ
    unfold p_X0_calls_L55
    refine lp_to n (fun e (a : Int32 × fw_M) => a.1 = nI e ∧ eqD (DC k) μ a.2 ∧ kS a.2 (m + 1 + k) (faN F b (ctN (bP s) e))) (fun e a he hI K hK => ?_) (fun a hI K => ?_) ⟨rfl, eqD.rf, hb⟩
    · obtain ⟨i4, μ1⟩ := a
      obtain ⟨a1, a2, a3⟩ := hI
      dsimp only at a1 a2 a3
      subst a1
      show p_X0_calls_L55b (p_X0_calls_d dp) 64 (nI s) (nI kd) (nI k) (fun i4 μ => K (i4, μ)) (nI e) μ1 Q
      have c2 := c.eq a2 fun p j q => by unfold DC at q; omega
      have g2 := c2.1
      have e0' := c2.2.2.1
      have cs : ctN (bP s) (e + 1) = ctN (bP s) e + (if bP s e = true then 1 else 0) := rfl
      have m2 : s / 2 ^ e % 2 < 2 := Nat.mod_lt _ (by decide)
      unfold p_X0_calls_L55b
      simp (disch := omega) only [sk_p64_0 g2, sk_p64_1 g2, sk_p64_2 g2, sk_p64_3 g2, sk_p64_4 g2, sk_p64_5 g2, sk_p64_9 g2, sk_p64_10 g2, sk_p64_11 g2, sk_p65_6 g2, sk_p65_7 g2, sk_p65_8 g2, sk_p65_9 g2, sk_p65_10 g2, sk_p65_11 g2, sk_p65_12 g2, sk_p65_13 g2, sk_p65_14 g2, sk_p65_15 g2, sk_k64 g2, sk_n64 g2, sk_k65 g2, sk_n65 g2, e0', true_and, nI_leI, Nat.not_le.mpr he, if_false, bt_S s (by omega) e (by omega)]
      by_cases z : s / 2 ^ e % 2 = 1
      rotate_left
      · have pe : bP s e = false := decide_eq_false z
        rw [pe, if_neg (by decide)] at cs
        rw [show s / 2 ^ e % 2 = 0 by omega, if_pos (show nI 0 = 0 from rfl)]
        simp only [forall_eq, nI_1]
        exact hK _ ⟨rfl, a2, by rw [cs]; exact a3⟩
      · have pe : bP s e = true := decide_eq_true z
        rw [pe, if_pos rfl] at cs
        rw [z, if_neg (show ¬ nI 1 = 0 by decide)]
        have rp : m_P μ1 398 k = 399 + k := sk_r398 g2 (by omega)
        have rp1 : m_P μ1 398 (k + 1) = 399 + (k + 1) := sk_r398 g2 (by omega)
        have qk := sk_q399 g2 (p := 399 + k) (by omega) (by omega)
        have qk1 := sk_q399 g2 (p := 399 + (k + 1)) (by omega) (by omega)
        have zz : (0 : Int32).toNatClampNeg + (25 : Int32).toNatClampNeg ≤ 25 := by decide
        have Rk : rS n wh nd (m_I μ1 (399 + k)) (eaL lv hun sto wh kd w0 pre) := by rw [a2.I fun j => by unfold DC; omega]; exact R
        simp (disch := omega) only [sk_p64_0 g2, sk_p64_1 g2, sk_p64_2 g2, sk_p64_3 g2, sk_p64_4 g2, sk_p64_5 g2, sk_p64_9 g2, sk_p64_10 g2, sk_p64_11 g2, sk_k64 g2, sk_n64 g2, sk_k409 g2, sk_n409 g2, nI_clamp, vp_t, true_and, forall_eq, ml_uI]
        have i9 : ∀ j, j < k + 1 → m_I (m_sI μ1 409 (ml_u (m_I μ1 409) k (nI e))) 409 j = nI ((pre ++ [e]).getD j 0) := by
          intro j hj
          rw [ml_Is]
          by_cases q : j = k
          · subst q
            rw [ml_us, ← hl, gd_eq]
          · rw [ml_un q, gd_lt _ _ _ (by omega), a2.2.2.2 409 j (by unfold DC; omega)]
            exact hc j (by omega)
        have d3 : eqD (DC k) μ (m_sI μ1 409 (ml_u (m_I μ1 409) k (nI e))) := a2.tr (eqD.sI fun j hj => ml_un fun q => hj (by unfold DC; omega))
        have R3 : rS n wh nd (m_I (m_sI μ1 409 (ml_u (m_I μ1 409) k (nI e))) (399 + k)) (eaL lv hun sto wh kd w0 pre) := by rw [ml_In (by omega)]; exact Rk
        have b3 : kS (m_sI μ1 409 (ml_u (m_I μ1 409) k (nI e))) (m + 1 + k) (faN F b (ctN (bP s) e)) := by
          refine ⟨?_, fun x hx => ?_⟩
          · rw [ml_In (by decide)]; exact a3.1
          · rw [ml_In (by decide)]; exact a3.2 x hx
        generalize m_sI μ1 409 (ml_u (m_I μ1 409) k (nI e)) = μ3 at i9 d3 R3 b3
        have g3 := d3.sk gs
        have rp : m_P μ3 398 k = 399 + k := sk_r398 g3 (by omega)
        have rp1 : m_P μ3 398 (k + 1) = 399 + (k + 1) := sk_r398 g3 (by omega)
        have qk := sk_q399 g3 (p := 399 + k) (by omega) (by omega)
        have qk1 := sk_q399 g3 (p := 399 + (k + 1)) (by omega) (by omega)
        simp (disch := omega) only [sk_p64_0 g3, sk_p64_1 g3, sk_p64_2 g3, sk_p64_3 g3, sk_p64_4 g3, sk_p64_5 g3, sk_p64_9 g3, sk_p64_10 g3, sk_p64_11 g3, sk_k64 g3, sk_n64 g3, sk_k398 g3, sk_n398 g3, li_1, nI_add, nI_clamp, vp_t, true_and, rp, rp1, qk.1, qk.2, qk1.1, qk1.2, ml_cp, forall_eq]
        refine ⟨by decide, by decide, by decide, zz, zz, ?_⟩
        simp (disch := omega) only [ml_KI, ml_NI, ml_PI, sk_p64_0 g3, sk_p64_1 g3, sk_p64_2 g3, sk_p64_3 g3, sk_p64_4 g3, sk_p64_5 g3, sk_p64_9 g3, sk_p64_10 g3, sk_p64_11 g3, sk_k64 g3, sk_n64 g3, sk_k398 g3, sk_n398 g3, nI_clamp, vp_t, true_and, rp1]
        rw [cl0, show (25 : Int32).toNatClampNeg = 25 from rfl]
        have d4 : eqD (DC k) μ (m_sI μ3 (399 + (k + 1)) (ml_c (m_I μ3 (399 + k)) (m_I μ3 (399 + (k + 1))) 0 0 25)) := d3.tr (eqD.sI fun j hj => absurd (Or.inr (Or.inl ⟨by omega, by omega⟩)) hj)
        have R4 : rS n wh nd (m_I (m_sI μ3 (399 + (k + 1)) (ml_c (m_I μ3 (399 + k)) (m_I μ3 (399 + (k + 1))) 0 0 25)) (399 + (k + 1))) (eaL lv hun sto wh kd w0 pre) := by rw [ml_Is]; exact rS_c R3 h9
        have b4 : kS (m_sI μ3 (399 + (k + 1)) (ml_c (m_I μ3 (399 + k)) (m_I μ3 (399 + (k + 1))) 0 0 25)) (m + 1 + k) (faN F b (ctN (bP s) e)) := by
          refine ⟨?_, fun x hx => ?_⟩
          · rw [ml_In (by omega)]; exact b3.1
          · rw [ml_In (by omega)]; exact b3.2 x hx
        have i9' : ∀ j, j < k + 1 → m_I (m_sI μ3 (399 + (k + 1)) (ml_c (m_I μ3 (399 + k)) (m_I μ3 (399 + (k + 1))) 0 0 25)) 409 j = nI ((pre ++ [e]).getD j 0) := fun j hj => by
          rw [ml_In (by omega)]; exact i9 j hj
        generalize m_sI μ3 (399 + (k + 1)) (ml_c (m_I μ3 (399 + k)) (m_I μ3 (399 + (k + 1))) 0 0 25) = μ4 at d4 R4 b4 i9'
        have c4 := c.eq d4 fun p j q => by unfold DC at q; omega
        have q4 := sk_q399 c4.1 (p := 399 + (k + 1)) (by omega) (by omega)
        refine s_eat c4 R4 ok he hkd q4.1 q4.2 (by omega) (by omega) fun μ5 d5 R5 => ?_
        have d6 : eqD (DC k) μ μ5 := d4.tr (d5.mono fun p j q => by unfold DC; omega)
        have b5 : kS μ5 (m + (k + 1)) (faN F b (ctN (bP s) e)) := by
          rw [show m + (k + 1) = m + 1 + k by omega]
          refine ⟨?_, fun x hx => ?_⟩
          · rw [d5.2.2.2 64 12 (by omega)]; exact b4.1
          · obtain ⟨a1, a2⟩ := b4.2 x hx
            exact ⟨a1, fun j hj => by rw [d5.2.2.2 410 j (by omega)]; exact a2 j hj⟩
        have i9'' : ∀ j, j < k + 1 → m_I μ5 409 j = nI ((pre ++ [e]).getD j 0) := fun j hj => by
          rw [d5.2.2.2 409 j (by omega)]; exact i9' j hj
        have c6 := c.eq d6 fun p j q => by unfold DC at q; omega
        have ok6 := eatN_ok (lv := lv) (hun := hun) (wh := wh) (kind := kd) ok (hst e he)
        rw [← eaL_app] at R5 ok6
        have fs : faN F b (ctN (bP s) e + 1) = pmF (cuF lv hun sto wh kd w0) m (fl (bP (s - 2 ^ e)) (fun e => e) n) (pre ++ [e]) (faN F b (ctN (bP s) e)) := by
          show F (ctN (bP s) e) (faN F b (ctN (bP s) e)) = _
          rw [← hF]
          dsimp only
          rw [fl_get he pe, fl_er he pe]
          congr 1
          exact fl_cong fun j hj => (cl_b s (by omega) e (by omega) z j (by omega)).symm
        have clS := cl_S s (by omega) e (by omega) z
        rw [li_1] at clS
        rw [clS]
        refine ih (k + 1) dp μ5 (s - 2 ^ e) (pre ++ [e]) (faN F b (ctN (bP s) e)) _ (by omega) (by omega) c6 R5 ok6 (by rw [List.length_append, hl]; rfl) i9'' (Nat.lt_of_le_of_lt (Nat.sub_le _ _) hs) ?_ b5 fun μ6 d7 b6 => ?_
        · have e1 := fl_len (P := bP s) (c := fun e => e) n
          have e2 := fl_len (P := bP (s - 2 ^ e)) (c := fun e => e) n
          rw [← e2, fl_cong (P' := fun j => bP s j && decide (j ≠ e)) (fun j hj => cl_b s (by omega) e (by omega) z j (by omega)), ← fl_er he pe, List.length_eraseIdx, e1, hct, if_pos (by rw [← hct]; exact ct_lt he pe)]
          omega
        · refine hK _ ⟨rfl, d6.tr (d7.mono fun p j q => by unfold DC at q ⊢; omega), ?_⟩
          rw [cs, fs, show m + 1 + k = m + (k + 1) by omega]
          exact b6
    · obtain ⟨i4, μ1⟩ := a
      obtain ⟨a1, a2, a3⟩ := hI
      dsimp only at a1 a2 a3
      subst a1
      show p_X0_calls_L55b (p_X0_calls_d dp) 64 (nI s) (nI kd) (nI k) (fun i4 μ => K (i4, μ)) (nI n) μ1 Q
      have g1 := a2.sk gs
      have e0' : m_I μ1 65 0 = nI n := (a2.2.2.2 65 0 (by unfold DC; omega)).trans e0
      unfold p_X0_calls_L55b
      simp (disch := omega) only [sk_p64_0 g1, sk_p64_1 g1, sk_p64_2 g1, sk_p64_3 g1, sk_p64_4 g1, sk_p64_5 g1, sk_p64_9 g1, sk_p64_10 g1, sk_p64_11 g1, sk_p65_6 g1, sk_p65_7 g1, sk_p65_8 g1, sk_p65_9 g1, sk_p65_10 g1, sk_p65_11 g1, sk_p65_12 g1, sk_p65_13 g1, sk_p65_14 g1, sk_p65_15 g1, sk_k64 g1, sk_n64 g1, sk_k65 g1, sk_n65 g1, e0', true_and, nI_leI, Nat.le_refl, if_true]
      rw [hct] at a3
      exact hQ μ1 a2 a3
end KS
