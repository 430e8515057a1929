/-! plain law: called, the operation -/
def okC (n : Nat) (wh : Nat → Nat) (s : Nat) : Prop := ctN (bP s) n ≤ 6 ∧ ∀ e, e < n → bP s e = true → wh e ≠ 2
theorem s_canCall {n nd : Nat} {hun sto wh : Nat → Nat} {lv : LV} {μ : fw_M} {w : WW} (c : cxS n hun sto lv μ) (R : rS n wh nd (m_I μ 69) w) {s : Nat} (h1 : 1 ≤ s) (h2 : s < 2 ^ n) {Q : Int32 → fw_M → Prop} (hy : okC n wh s → Q 1 μ) (hn : ¬ okC n wh s → Q 0 μ) : p_X0_canCall 64 (nI s) μ Q := by
  obtain ⟨gs, h9, e0, hE, -⟩ := id c
  have p9 := p2_le n (by omega)
  have bc : bc5 (bc4 (bc3 (bc2 (bc1 (nI s))))) &&& 63 = nI (ctN (bP s) n) := by rw [bc_e s (by omega), pc_n n (by omega) s h2, bP_pc]
  have cn := ct_le (P := bP s) n
  have ib : inB (nI s) 1 (nI (2 ^ n) - 1) := by
    rw [show (nI (2 ^ n) - 1 : Int32) = nI (2 ^ n - 1) from pk_sub (b := 1) (by omega)]
    exact ⟨show ¬ nI s < nI 1 from nI_nlt (by omega) (by omega), nI_nlt (by omega) (by omega)⟩
  unfold p_X0_canCall
  simp only [sk_p64_0 gs, sk_p64_1 gs, sk_p64_2 gs, sk_p64_3 gs, sk_p64_4 gs, sk_p64_5 gs, sk_p64_9 gs, sk_p64_10 gs, sk_p64_11 gs, sk_p65_6 gs, sk_p65_7 gs, sk_p65_8 gs, sk_p65_9 gs, sk_p65_10 gs, sk_p65_11 gs, sk_p65_12 gs, sk_p65_13 gs, sk_p65_14 gs, sk_p65_15 gs, sk_k64 gs, sk_n64 gs, sk_k65 gs, sk_n65 gs, e0, p2_S n (by omega), s_in, if_pos ib, e10, if_false, true_and]
  refine s_bc ?_
  rw [bc]
  by_cases c6 : ctN (bP s) n ≤ 6
  rotate_left
  · rw [show (6 : Int32) = nI 6 from rfl, if_neg (show ¬ nI (ctN (bP s) n) ≤ nI 6 from by rw [nI_leI (by omega) (by decide)]; omega)]
    exact hn fun h => c6 h.1
  · rw [if_pos (show nI (ctN (bP s) n) ≤ 6 from nI_le (b := 6) (by omega) (by omega))]
    unfold p_X0_canCall_L32
    refine lp_fn n (fun e => (nI e, μ)) (fun e => ∀ j, j < e → bP s j = true → wh j ≠ 2) (fun e he hI K hK => ?_) (fun hI K => ?_) rfl (fun j hj => absurd hj (Nat.not_lt_zero _))
    · show p_X0_canCall_L32b 64 (nI s) (fun i2 μ => K (i2, μ)) (nI e) μ Q
      have nx : (bP s e = true → wh e ≠ 2) → K (nI (e + 1), μ) := fun h => hK fun j hj => by
        by_cases q : j = e
        · subst q; exact h
        · exact hI j (by omega)
      have m2 : s / 2 ^ e % 2 < 2 := Nat.mod_lt _ (by decide)
      have hr := R.2.1 e he
      unfold p_X0_canCall_L32b
      simp (disch := omega) only [sk_p64_0 gs, sk_p64_1 gs, sk_p64_2 gs, sk_p64_3 gs, sk_p64_4 gs, sk_p64_5 gs, sk_p64_9 gs, sk_p64_10 gs, sk_p64_11 gs, sk_p65_6 gs, sk_p65_7 gs, sk_p65_8 gs, sk_p65_9 gs, sk_p65_10 gs, sk_p65_11 gs, sk_p65_12 gs, sk_p65_13 gs, sk_p65_14 gs, sk_p65_15 gs, sk_k64 gs, sk_n64 gs, sk_k65 gs, sk_n65 gs, sk_k69 gs, sk_n69 gs, e0, true_and, nI_leI, Nat.not_le.mpr he, if_false, bt_S s (by omega) e (by omega)]
      by_cases z : s / 2 ^ e % 2 = 1
      · rw [z, if_pos (show nI 1 = 1 by decide)]
        simp (disch := omega) only [li_4, nI_add, nI_clamp, vp_t, true_and, hr.2.1]
        by_cases q : wh e = 2
        · rw [q, if_pos (show nI 2 = 2 by decide)]
          exact hn fun h => h.2 e he (decide_eq_true z) q
        · rw [if_neg (show ¬ nI (wh e) = 2 from fun h => q ((nI_eq (b := 2) (by omega) (by decide)).mp h))]
          simp only [forall_eq, nI_1]
          exact nx fun _ => q
      · rw [show s / 2 ^ e % 2 = 0 by omega, if_neg (show ¬ nI 0 = 1 by decide)]
        simp only [forall_eq, nI_1]
        exact nx fun h => absurd (of_decide_eq_true h) z
    · show p_X0_canCall_L32b 64 (nI s) (fun i2 μ => K (i2, μ)) (nI n) μ Q
      unfold p_X0_canCall_L32b
      simp (disch := omega) only [sk_p64_0 gs, sk_p64_1 gs, sk_p64_2 gs, sk_p64_3 gs, sk_p64_4 gs, sk_p64_5 gs, sk_p64_9 gs, sk_p64_10 gs, sk_p64_11 gs, sk_p65_6 gs, sk_p65_7 gs, sk_p65_8 gs, sk_p65_9 gs, sk_p65_10 gs, sk_p65_11 gs, sk_p65_12 gs, sk_p65_13 gs, sk_p65_14 gs, sk_p65_15 gs, sk_k64 gs, sk_n64 gs, sk_k65 gs, sk_n65 gs, e0, true_and, nI_leI, Nat.le_refl, if_true]
      exact hy ⟨c6, hI⟩
theorem i_one {i : Int32} (h : -1 ≤ i) (h1 : i ≠ -1) : ∃ k, k < 2 ^ 31 ∧ i = nI k := by
  refine i_two ?_ h1 ?_
  · rw [Int32.le_iff_toInt_le] at h ⊢
    have e1 : (-1 : Int32).toInt = -1 := by decide
    have e2 : (-2 : Int32).toInt = -2 := by decide
    omega
  · rintro rfl
    exact absurd h (by decide)
theorem op_called (a0 a1 a2 : Int32) : iv_op2 (α := Int32) (fun μ Q => p_X0_called 64 a0 a1 a2 μ Q) (fun μ Q => p_X5_called 411 a0 a1 a2 μ Q) := by
  refine op_q fun L xs z μ hI => ?_
  obtain ⟨lv, l1, l2, l3⟩ := lv_of hI
  obtain ⟨hs, -, -, n, tx, st, te, tl, ns, nd, n', tx', st', te', tl', ns', nd', tp, C, -⟩ := id hI
  obtain ⟨c, R, ok⟩ := cxS_of hs C l1 l3
  have h9 : n ≤ 9 := c.2.1
  have e0 := c.2.2.1
  have p9 := p2_le n (by omega)
  have p9p : 0 < 2 ^ n := Nat.pow_pos (by decide)
  have p1 : (nI (2 ^ n) - 1 : Int32) = nI (2 ^ n - 1) := pk_sub (b := 1) p9p
  obtain ⟨x1, x2, x3, x4, x5⟩ := cx_a C
  -- the reference's first steps
  have mst : ∀ μ1, qs μ μ1 → ∀ Q : Int32 → fw_M → Prop, (if inB a0 1 (nI (2 ^ n - 1)) then (if inB a1 0 1 then (if -1 ≤ a2 then p_X5_called_L40 411 a0 a1 a2 0 0 μ1 Q else Q (-9999) μ1) else Q (-9999) μ1) else Q (-9999) μ1) → p_X5_called 411 a0 a1 a2 μ1 Q := by
    intro μ1 h1 Q h
    have gs := h1.sk hs
    have w := h1.I (p := 412) (by have := hs.2.1; omega) (by decide) (by decide) (by unfold sc_p; decide)
    have e0' : m_I μ1 412 0 = nI n := by rw [w]; exact C.2.2.1.1
    unfold p_X5_called
    simp only [sk_p411_0 gs, sk_p411_1 gs, sk_p411_2 gs, sk_p411_6 gs, sk_p411_7 gs, sk_p411_8 gs, sk_p411_9 gs, sk_p411_10 gs, sk_p411_11 gs, sk_p411_12 gs, sk_p411_22 gs, sk_p411_23 gs, sk_p411_25 gs, sk_p411_26 gs, sk_p411_30 gs, sk_p411_31 gs, sk_p411_32 gs, sk_p411_33 gs, sk_p411_35 gs, sk_p411_36 gs, sk_p411_37 gs, sk_p411_38 gs, sk_p411_39 gs, sk_p411_40 gs, sk_p411_42 gs, sk_p411_43 gs, sk_p411_44 gs, sk_p411_45 gs, sk_p411_46 gs, sk_k411 gs, sk_n411 gs, sk_k412 gs, sk_n412 gs, cl0, vp0_11120, e0', p2_S n (by omega), p1, m_in, m_isOne, true_and]
    by_cases c1 : inB a0 1 (nI (2 ^ n - 1))
    · by_cases c2 : inB a1 0 1
      · simp only [if_pos c1, if_pos c2, e10, if_false] at h ⊢
        exact h
      · simp only [if_pos c1, if_neg c2, e10, if_false, if_true] at h ⊢
        exact h
    · simp only [if_neg c1, if_true] at h ⊢
      exact h
  by_cases c1 : inB a0 1 (nI (2 ^ n - 1))
  rotate_left
  · refine ⟨-9999, fun Q hQ => ?_, fun μ1 h1 hI1 Q hQ => mst μ1 h1 Q (by rw [if_neg c1]; exact hQ μ1 qs.rf)⟩
    simp only [p_X0_called, p_X0_canCall, sk_p64_0 hs, sk_p64_1 hs, sk_p64_2 hs, sk_p64_3 hs, sk_p64_4 hs, sk_p64_5 hs, sk_p64_9 hs, sk_p64_10 hs, sk_p64_11 hs, sk_p65_6 hs, sk_p65_7 hs, sk_p65_8 hs, sk_p65_9 hs, sk_p65_10 hs, sk_p65_11 hs, sk_p65_12 hs, sk_p65_13 hs, sk_p65_14 hs, sk_p65_15 hs, sk_k64 hs, sk_n64 hs, sk_k65 hs, sk_n65 hs, e0, p2_S n (by omega), p1, s_in, if_neg c1, if_true, true_and]
    exact hQ μ qs.rf
  obtain ⟨s, s1, s2, rfl⟩ := inB_nI (lo := 1) (hi := 2 ^ n - 1) c1 (by omega) (by omega)
  have s3 : s < 2 ^ n := by omega
  obtain ⟨m, hm⟩ : ∃ m, m = ctN (bP s) n := ⟨_, rfl⟩
  have m0 : m ≠ 0 := fun h => by have := bP_z n (by omega) s s3 (by omega); omega
  have m9 : m ≤ n := by rw [hm]; exact ct_le n
  have mm : (nI m - 1 : Int32) = nI (m - 1) := pk_sub (b := 1) (by omega)
  have bc : bc5 (bc4 (bc3 (bc2 (bc1 (nI s))))) &&& 63 = nI m := by rw [bc_e s (by omega), pc_n n (by omega) s s3, bP_pc, hm]
  have i3m : inB a2 (-1) (nI (m - 1)) ↔ -1 ≤ a2 ∧ a2 < nI m := by
    have t1 := nI_toInt (n := m) (by omega)
    have t2 := nI_toInt (n := m - 1) (by omega)
    unfold inB
    have t3 : (-1 : Int32).toInt = -1 := by decide
    rw [Int32.lt_iff_toInt_lt, Int32.lt_iff_toInt_lt, Int32.lt_iff_toInt_lt, Int32.le_iff_toInt_le, t1, t2, t3]
    omega
  -- the reference's walk over who is called
  have m40 : ∀ μ1, qs μ μ1 → ∀ Q : Int32 → fw_M → Prop, (¬ okC n (whA (m_I μ 412)) s → ∀ ν, eqD (fun p _ => p = 436) μ1 ν → Q (-9999) ν) → (okC n (whA (m_I μ 412)) s → ∀ ν, eqD (fun p _ => p = 436) μ1 ν → (∀ j, j < m → m_I ν 436 j = nI ((fl (bP s) (fun e => e) n).getD j 0)) → (if a2 < nI m then p_X5_called_L123 411 a1 a2 (nI m) 0 0 0 ν Q else Q (-9999) ν)) → p_X5_called_L40 411 (nI s) a1 a2 0 0 μ1 Q := by
    intro μ1 h1 Q hn hy
    have gs := h1.sk hs
    have w := h1.I (p := 412) (by have := hs.2.1; omega) (by decide) (by decide) (by unfold sc_p; decide)
    have e0' : m_I μ1 412 0 = nI n := by rw [w]; exact C.2.2.1.1
    unfold p_X5_called_L40
    refine lp_to n (fun e (x : Int32 × Int32 × fw_M) => x.1 = nI (ctN (bP s) e) ∧ x.2.1 = nI e ∧ eqD (fun p _ => p = 436) μ1 x.2.2 ∧ ctN (bP s) e ≤ 6 ∧ (∀ j, j < e → bP s j = true → whA (m_I μ 412) j ≠ 2) ∧ ∀ j, j < ctN (bP s) e → m_I x.2.2 436 j = nI ((fl (bP s) (fun e => e) e).getD j 0)) (fun e x he hx K hK => ?_) (fun x hx K => ?_) ⟨rfl, rfl, eqD.rf, Nat.zero_le _, fun j hj => absurd hj (Nat.not_lt_zero _), fun j hj => absurd hj (Nat.not_lt_zero _)⟩
    · obtain ⟨i4, i5, ν⟩ := x
      obtain ⟨b1, b2, b3, b4, b5, b6⟩ := hx
      dsimp only at b1 b2 b3 b6
      subst b1 b2
      show p_X5_called_L40b 411 (nI s) a1 a2 (fun i4 i5 μ => K (i4, i5, μ)) (nI (ctN (bP s) e)) (nI e) ν Q
      have g1 := b3.sk gs
      have w1 : m_I ν 412 = m_I μ 412 := (b3.I fun j => by decide).trans w
      have m2 : s / 2 ^ e % 2 < 2 := Nat.mod_lt _ (by decide)
      have cs : ctN (bP s) (e + 1) = ctN (bP s) e + (if bP s e = true then 1 else 0) := rfl
      have fs : fl (bP s) (fun e => e) (e + 1) = fl (bP s) (fun e => e) e ++ (if bP s e = true then [e] else []) := rfl
      have hr := (x1 e he).2.2
      have e0'' : m_I μ 412 0 = nI n := C.2.2.1.1
      unfold p_X5_called_L40b
      simp (disch := omega) only [sk_p411_0 g1, sk_p411_1 g1, sk_p411_2 g1, sk_p411_6 g1, sk_p411_7 g1, sk_p411_8 g1, sk_p411_9 g1, sk_p411_10 g1, sk_p411_11 g1, sk_p411_12 g1, sk_p411_22 g1, sk_p411_23 g1, sk_p411_25 g1, sk_p411_26 g1, sk_p411_30 g1, sk_p411_31 g1, sk_p411_32 g1, sk_p411_33 g1, sk_p411_35 g1, sk_p411_36 g1, sk_p411_37 g1, sk_p411_38 g1, sk_p411_39 g1, sk_p411_40 g1, sk_p411_42 g1, sk_p411_43 g1, sk_p411_44 g1, sk_p411_45 g1, sk_p411_46 g1, sk_k411 g1, sk_n411 g1, sk_k412 g1, sk_n412 g1, cl0, vp0_11120, w1, e0'', true_and, nI_leI, Nat.not_le.mpr he, if_false, bt_S s (by omega) e (by omega)]
      by_cases z : s / 2 ^ e % 2 = 1
      · have pe : bP s e = true := decide_eq_true z
        rw [pe, if_pos rfl] at cs fs
        rw [z, if_pos (show nI 1 = 1 by decide)]
        by_cases q6 : ctN (bP s) e = 6
        · rw [q6, if_pos (show nI 6 = 6 by decide)]
          refine hn (fun h => ?_) ν b3
          have := ct_lt (P := bP s) he pe
          have := h.1
          omega
        · rw [if_neg (show ¬ nI (ctN (bP s) e) = 6 from fun h => q6 ((nI_eq (b := 6) (by omega) (by decide)).mp h))]
          simp (disch := omega) only [sk_p411_0 g1, sk_p411_1 g1, sk_p411_2 g1, sk_p411_6 g1, sk_p411_7 g1, sk_p411_8 g1, sk_p411_9 g1, sk_p411_10 g1, sk_p411_11 g1, sk_p411_12 g1, sk_p411_22 g1, sk_p411_23 g1, sk_p411_25 g1, sk_p411_26 g1, sk_p411_30 g1, sk_p411_31 g1, sk_p411_32 g1, sk_p411_33 g1, sk_p411_35 g1, sk_p411_36 g1, sk_p411_37 g1, sk_p411_38 g1, sk_p411_39 g1, sk_p411_40 g1, sk_p411_42 g1, sk_p411_43 g1, sk_p411_44 g1, sk_p411_45 g1, sk_p411_46 g1, sk_k411 g1, sk_n411 g1, sk_k412 g1, sk_n412 g1, sk_k436 g1, sk_n436 g1, li_114, nI_add, nI_clamp, vp_t, true_and, w1, hr.1]
          by_cases q : whA (m_I μ 412) e = 2
          · rw [q, if_pos (show nI 2 = 2 by decide)]
            exact hn (fun h => h.2 e he pe q) ν b3
          · have hr2 := hr.2
            rw [if_neg (show ¬ nI (whA (m_I μ 412) e) = 2 from fun h => q ((nI_eq (b := 2) (by omega) (by decide)).mp h))]
            simp only [forall_eq, nI_1, ml_uI]
            refine hK _ ⟨by rw [cs], rfl, b3.tr (eqD.sI fun j hj => absurd rfl hj), by omega, fun j hj => ?_, fun j hj => ?_⟩
            · by_cases qq : j = e
              · subst qq; exact fun _ => q
              · exact b5 j (by omega)
            · show m_I (m_sI ν 436 _) 436 j = _
              have ll := fl_len (P := bP s) (c := fun e => e) e
              rw [ml_Is, fs]
              by_cases qq : j = ctN (bP s) e
              · subst qq
                rw [ml_us, ← ll, gd_eq]
              · rw [ml_un qq, gd_lt _ _ _ (by omega)]
                exact b6 j (by omega)
      · have pe : bP s e = false := decide_eq_false z
        rw [pe, if_neg (by decide)] at cs fs
        rw [show s / 2 ^ e % 2 = 0 by omega, if_neg (show ¬ nI 0 = 1 by decide)]
        simp only [forall_eq, nI_1]
        refine hK _ ⟨by rw [cs]; rfl, rfl, b3, by omega, fun j hj => ?_, fun j hj => ?_⟩
        · by_cases qq : j = e
          · subst qq; intro h; rw [pe] at h; cases h
          · exact b5 j (by omega)
        · rw [fs, List.append_nil]
          exact b6 j (by omega)
    · obtain ⟨i4, i5, ν⟩ := x
      obtain ⟨b1, b2, b3, b4, b5, b6⟩ := hx
      dsimp only at b1 b2 b3 b6
      subst b1 b2
      show p_X5_called_L40b 411 (nI s) a1 a2 (fun i4 i5 μ => K (i4, i5, μ)) (nI (ctN (bP s) n)) (nI n) ν Q
      have g1 := b3.sk gs
      have w1 : m_I ν 412 = m_I μ 412 := (b3.I fun j => by decide).trans w
      have e0'' : m_I μ 412 0 = nI n := C.2.2.1.1
      rw [← hm] at b4 b6 ⊢
      have := hy ⟨by omega, b5⟩ ν b3 b6
      unfold p_X5_called_L40b
      simp (disch := omega) only [sk_p411_0 g1, sk_p411_1 g1, sk_p411_2 g1, sk_p411_6 g1, sk_p411_7 g1, sk_p411_8 g1, sk_p411_9 g1, sk_p411_10 g1, sk_p411_11 g1, sk_p411_12 g1, sk_p411_22 g1, sk_p411_23 g1, sk_p411_25 g1, sk_p411_26 g1, sk_p411_30 g1, sk_p411_31 g1, sk_p411_32 g1, sk_p411_33 g1, sk_p411_35 g1, sk_p411_36 g1, sk_p411_37 g1, sk_p411_38 g1, sk_p411_39 g1, sk_p411_40 g1, sk_p411_42 g1, sk_p411_43 g1, sk_p411_44 g1, sk_p411_45 g1, sk_p411_46 g1, sk_k411 g1, sk_n411 g1, sk_k412 g1, sk_n412 g1, cl0, vp0_11120, w1, e0'', true_and, nI_leI, Nat.le_refl, if_true]
      exact this
  have q436 : ∀ {a b : fw_M}, eqD (fun p _ => p = 436) a b → qs a b := fun d => d.qs fun p j q => by unfold sc_p; omega
  by_cases g : okC n (whA (m_I μ 412)) s ∧ inB a1 0 1 ∧ inB a2 (-1) (nI (m - 1))
  rotate_left
  · refine ⟨-9999, fun Q hQ => ?_, fun μ1 h1 hI1 Q hQ => mst μ1 h1 Q ?_⟩
    · unfold p_X0_called
      refine s_canCall c R s1 s3 (fun hk => ?_) (fun hk => ?_)
      · rw [if_neg (by decide), s_isKind]
        by_cases c2 : inB a1 0 1
        · rw [if_pos c2, if_neg (by decide)]
          refine s_bc ?_
          have c3 : ¬ inB a2 (-1) (nI (m - 1)) := fun h => g ⟨hk, c2, h⟩
          rw [bc, mm, s_in, if_neg c3, if_pos rfl]
          exact hQ μ qs.rf
        · rw [if_neg c2, if_pos rfl]
          exact hQ μ qs.rf
      · rw [if_pos rfl]
        exact hQ μ qs.rf
    · rw [if_pos c1]
      by_cases c2 : inB a1 0 1
      · rw [if_pos c2]
        by_cases c3 : -1 ≤ a2
        · rw [if_pos c3]
          refine m40 μ1 h1 Q (fun _ ν d => hQ ν (q436 d)) (fun hk ν d _ => ?_)
          rw [if_neg fun h => g ⟨hk, c2, i3m.mpr ⟨c3, h⟩⟩]
          exact hQ ν (q436 d)
        · rw [if_neg c3]
          exact hQ μ1 qs.rf
      · rw [if_neg c2]
        exact hQ μ1 qs.rf
  obtain ⟨hk, c2, c3⟩ := g
  have c34 := i3m.mp c3
  obtain ⟨kd, -, hkd, rfl⟩ := inB_nI (lo := 0) (hi := 1) c2 (by decide) (by decide)
  have hm6 : m ≤ 6 := by rw [hm]; exact hk.1
  have hi : a2 = -1 ∨ ∃ k, k < m ∧ a2 = nI k := by
    by_cases q : a2 = -1
    · exact Or.inl q
    · obtain ⟨k, k1, rfl⟩ := i_one c34.1 q
      exact Or.inr ⟨k, (nI_ltI k1 (by omega)).mp c34.2, rfl⟩
  refine ⟨caV (pmF (cuF lv (hunA (m_I μ 412)) (stoA (m_I μ 412)) (whA (m_I μ 412)) kd (wA (m_I μ 412))) m (fl (bP s) (fun e => e) n) [] none) a2, fun Q hQ => ?_, fun μ1 h1 hI1 Q hQ => mst μ1 h1 Q ?_⟩
  · have rp : m_P μ 398 0 = 399 := sk_r398 hs (by decide)
    have qk := sk_q399 hs (p := 399) (by omega) (by omega)
    have c25 : (25 : Int32).toNatClampNeg = 25 := rfl
    have c0 : (0 : Int32).toNatClampNeg = 0 := rfl
    have v0 : vp_in (0 : Int32) 10 = True := vp_t (n := 0) (by decide) (by decide)
    unfold p_X0_called
    refine s_canCall c R s1 s3 (fun _ => ?_) (fun q => absurd hk q)
    rw [if_neg (by decide), s_isKind, if_pos c2, if_neg (by decide)]
    refine s_bc ?_
    rw [bc, mm, s_in, if_pos c3, if_neg (by decide)]
    simp only [sk_p64_0 hs, sk_p64_1 hs, sk_p64_2 hs, sk_p64_3 hs, sk_p64_4 hs, sk_p64_5 hs, sk_p64_9 hs, sk_p64_10 hs, sk_p64_11 hs, sk_p65_6 hs, sk_p65_7 hs, sk_p65_8 hs, sk_p65_9 hs, sk_p65_10 hs, sk_p65_11 hs, sk_p65_12 hs, sk_p65_13 hs, sk_p65_14 hs, sk_p65_15 hs, sk_k64 hs, sk_n64 hs, sk_k65 hs, sk_n65 hs, sk_k69 hs, sk_n69 hs, sk_k398 hs, sk_n398 hs, c0, c25, rp, qk.1, qk.2, v0, true_and]
    refine ⟨by decide, by decide, by decide, by decide, by decide, ?_⟩
    rintro _ rfl _ rfl
    rw [ml_cp, ml_uI]
    have d0 : eqD (fun p j => p = 396 ∨ (399 ≤ p ∧ p ≤ 410) ∨ (p = 64 ∧ j = 12)) μ (m_sI (m_sI μ 399 (ml_c (m_I μ 69) (m_I μ 399) 0 0 25)) 64 (ml_u (m_I (m_sI μ 399 (ml_c (m_I μ 69) (m_I μ 399) 0 0 25)) 64) 12 2147483647)) := (eqD.sI fun j hj => absurd (Or.inr (Or.inl ⟨by decide, by decide⟩)) hj).tr (eqD.sI fun j hj => ml_un fun q => hj (Or.inr (Or.inr ⟨rfl, q⟩)))
    have R0 : rS n (whA (m_I μ 412)) nd (m_I (m_sI (m_sI μ 399 (ml_c (m_I μ 69) (m_I μ 399) 0 0 25)) 64 (ml_u (m_I (m_sI μ 399 (ml_c (m_I μ 69) (m_I μ 399) 0 0 25)) 64) 12 2147483647)) 399) (wA (m_I μ 412)) := by
      rw [ml_In (by decide), ml_Is]
      exact rS_c R h9
    have i12 : m_I (m_sI (m_sI μ 399 (ml_c (m_I μ 69) (m_I μ 399) 0 0 25)) 64 (ml_u (m_I (m_sI μ 399 (ml_c (m_I μ 69) (m_I μ 399) 0 0 25)) 64) 12 2147483647)) 64 12 = 2147483647 := by
      rw [ml_Is, ml_us]
    generalize m_sI (m_sI μ 399 (ml_c (m_I μ 69) (m_I μ 399) 0 0 25)) 64 (ml_u (m_I (m_sI μ 399 (ml_c (m_I μ 69) (m_I μ 399) 0 0 25)) 64) 12 2147483647) = μ2 at d0 R0 i12
    have c9 := c.eq d0 fun p j q => by omega
    refine ⟨7, by decide, s_calls (nd := nd) (wh := whA (m_I μ 412)) (w0 := wA (m_I μ 412)) (by omega) (fun e he => (x1 e he).2.1.2) m 0 7 μ2 s [] none _ (by omega) (by omega) c9 R0 ok rfl (fun j hj => absurd hj (Nat.not_lt_zero _)) s3 hm.symm ⟨i12, fun x hx => by cases hx⟩ fun ν d B => ?_⟩
    have d1 := d0.tr (d.mono (E := fun p j => p = 396 ∨ (399 ≤ p ∧ p ≤ 410) ∨ (p = 64 ∧ j = 12)) fun p j q => by unfold DC at q; omega)
    have g1 := d1.sk hs
    have := hQ ν (d1.qs fun p j q => by unfold sc_p; omega)
    have som : (pmF (cuF lv (hunA (m_I μ 412)) (stoA (m_I μ 412)) (whA (m_I μ 412)) kd (wA (m_I μ 412))) m (fl (bP s) (fun e => e) n) [] none).isSome = true := by
      rw [pm_eq]
      exact cu_some _ (fac_pos m)
    cases hb : pmF (cuF lv (hunA (m_I μ 412)) (stoA (m_I μ 412)) (whA (m_I μ 412)) kd (wA (m_I μ 412))) m (fl (bP s) (fun e => e) n) [] none with
    | none => rw [hb] at som; cases som
    | some y =>
      rw [hb] at B this
      obtain ⟨B1, B2⟩ := B
      obtain ⟨B3, B4⟩ := B2 y rfl
      dsimp only at B1
      have cv : caV (some y) a2 = if a2 = -1 then y.1 else nI (y.2.getD a2.toNatClampNeg 0) := rfl
      rw [cv] at this
      rcases hi with rfl | ⟨k, hkm, rfl⟩
      · rw [if_pos rfl] at this ⊢
        rw [B1]
        exact this
      · have n1 : ¬ nI k = -1 := nI_nm1 (by omega)
        rw [if_neg n1] at this ⊢
        have hk9 : k < 9 := by omega
        simp (disch := omega) only [sk_p64_0 g1, sk_p64_1 g1, sk_p64_2 g1, sk_p64_3 g1, sk_p64_4 g1, sk_p64_5 g1, sk_p64_9 g1, sk_p64_10 g1, sk_p64_11 g1, sk_k64 g1, sk_n64 g1, sk_k410 g1, sk_n410 g1, nI_clamp, vp_t, true_and] at this ⊢
        rw [B4 k (by omega)]
        exact this
  · rw [if_pos c1, if_pos c2, if_pos c34.1]
    refine m40 μ1 h1 Q (fun q => absurd hk q) (fun _ ν d h6 => ?_)
    rw [if_pos c34.2]
    have gs := h1.sk hs
    have w := h1.I (p := 412) (by have := hs.2.1; omega) (by decide) (by decide) (by unfold sc_p; decide)
    have c9 := (cxM_of gs w C (l2.eq (by rw [w]) fun p p1 p2 => h1.I (by have := hs.2.1; omega) (by omega) (by omega) (by unfold sc_p; omega)) l3).eq d fun p j q => by omega
    have w1 : m_I ν 412 = m_I μ 412 := (d.I fun j => by decide).trans w
    refine m_called C (by omega) hm6 (by rw [fl_len, hm]) (fun x hx => fl_mem n hx) c9 w1 h6 hi fun ν' d' => ?_
    exact hQ ν' ((q436 d).tr (d'.qs fun p j q => by unfold DK at q; unfold sc_p; omega))
