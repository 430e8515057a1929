/-! plain law: acquitted -/
def aqV (bm : Nat → BB) (i : Int32) : Int32 := match ff (fun m => (bm m).isSome) 5 with
  | none => -3
  | some m => match bm m with
    | none => -3
    | some x => if i = -1 then nI m else if i = -2 then nI x.1 else if nI m ≤ i then -3 else nI (x.2.getD i.toNatClampNeg 0)
theorem aq_st {bm : Nat → BB} {i : Int32} {m : Nat} (h : ff (fun m => (bm m).isSome) m = none) {x : Nat × List Nat} (g : bm m = some x) (hm : m < 5) : aqV bm i = if i = -1 then nI m else if i = -2 then nI x.1 else if nI m ≤ i then -3 else nI (x.2.getD i.toNatClampNeg 0) := by
  unfold aqV
  rw [ff_st h (by rw [g]; rfl) hm]
  dsimp only
  rw [g]
theorem aq_no {bm : Nat → BB} {i : Int32} (h : ff (fun m => (bm m).isSome) 5 = none) : aqV bm i = -3 := by
  unfold aqV
  rw [h]
theorem i_two {i : Int32} (h : -2 ≤ i) (h1 : i ≠ -1) (h2 : i ≠ -2) : ∃ k, k < 2 ^ 31 ∧ i = nI k := by
  refine ⟨i.toNatClampNeg, ?_, ?_⟩
  · have := Int32.toInt_lt i
    rw [← Int32.toNat_toInt]
    omega
  · have p : 0 ≤ i.toInt := by
      have a1 : (-2 : Int) ≤ i.toInt := Int32.le_iff_toInt_le.mp h
      have a2 : i.toInt ≠ -1 := fun e => h1 (Int32.toInt_inj.mp e)
      have a3 : i.toInt ≠ -2 := fun e => h2 (Int32.toInt_inj.mp e)
      omega
    refine Int32.toInt_inj.mp ?_
    have lt := Int32.toInt_lt i
    rw [nI_toInt (by rw [← Int32.toNat_toInt]; omega), ← Int32.toNat_toInt]
    omega
theorem op_acquitted (a0 a1 : Int32) : iv_op2 (α := Int32) (fun μ Q => p_X0_acquitted 64 a0 a1 μ Q) (fun μ Q => p_X5_acquitted 411 a0 a1 μ Q) := by
  refine op_q fun L xs z μ hI => ?_
  obtain ⟨lv, l1, l2, l3⟩ := lv_of hI
  obtain ⟨hs, -, -, n, tx, st, te, tl, ns, nd, n', tx', st', te', tl', ns', nd', tp, C, -⟩ := id hI
  obtain ⟨c, R, ok⟩ := cxS_of hs C l1 l3
  by_cases g : inB a0 0 1 ∧ -2 ≤ a1
  rotate_left
  · refine ⟨-3, fun Q hQ => ?_, fun μ1 h1 hI1 Q hQ => ?_⟩
    · simp only [p_X0_acquitted, s_isSide]
      by_cases c1 : inB a0 0 1
      · have c2 : ¬ -2 ≤ a1 := fun h => g ⟨c1, h⟩
        simp only [if_pos c1, if_neg c2, e10, if_false]
        exact hQ μ qs.rf
      · simp only [if_neg c1, if_true]
        exact hQ μ qs.rf
    · simp only [p_X5_acquitted, m_isOne]
      by_cases c1 : inB a0 0 1
      · have c2 : ¬ -2 ≤ a1 := fun h => g ⟨c1, h⟩
        simp only [if_pos c1, if_neg c2, e10, if_false]
        exact hQ μ1 qs.rf
      · simp only [if_neg c1, if_true]
        exact hQ μ1 qs.rf
  obtain ⟨c1, c2⟩ := g
  obtain ⟨side, -, hsd, rfl⟩ := inB_nI (lo := 0) (hi := 1) c1 (by decide) (by decide)
  have h9 : n ≤ 9 := c.2.1
  obtain ⟨bm, hbm⟩ : ∃ bm : Nat → BB, bm = fun m => acF lv (hunA (m_I μ 412)) (stoA (m_I μ 412)) (whA (m_I μ 412)) nd side (2 * n) m (wA (m_I μ 412)) 0 [] none := ⟨_, rfl⟩
  have bme : ∀ m, bm m = acF lv (hunA (m_I μ 412)) (stoA (m_I μ 412)) (whA (m_I μ 412)) nd side (2 * n) m (wA (m_I μ 412)) 0 [] none := fun m => by rw [hbm]
  refine ⟨aqV bm a1, fun Q hQ => ?_, fun μ1 h1 hI1 Q hQ => ?_⟩
  · have rp : m_P μ 398 0 = 399 := sk_r398 hs (by decide)
    have qk := sk_q399 hs (p := 399) (by omega) (by omega)
    have c25 : (25 : Int32).toNatClampNeg = 25 := rfl
    have c0 : (0 : Int32).toNatClampNeg = 0 := rfl
    have v0 : vp_in (0 : Int32) 10 = True := vp_t (n := 0) (by decide) (by decide)
    simp only [p_X0_acquitted, s_isSide, if_pos c1, if_pos c2, e10, if_false, sk_p64_0 hs, sk_p64_1 hs, sk_p64_2 hs, sk_p64_3 hs, sk_p64_4 hs, sk_p64_5 hs, sk_p64_9 hs, sk_p64_10 hs, sk_p64_11 hs, sk_p65_6 hs, sk_p65_7 hs, sk_p65_8 hs, sk_p65_9 hs, sk_p65_10 hs, sk_p65_11 hs, sk_p65_12 hs, sk_p65_13 hs, sk_p65_14 hs, sk_p65_15 hs, sk_k64 hs, sk_n64 hs, sk_k65 hs, sk_n65 hs, sk_k69 hs, sk_n69 hs, sk_k398 hs, sk_n398 hs, c0, c25, rp, qk.1, qk.2, v0, true_and]
    refine ⟨by decide, by decide, by decide, by decide, by decide, ?_⟩
    rintro _ rfl _ rfl
    rw [ml_cp, ml_uI]
    have d0 : eqD (fun p j => p = 396 ∨ (399 ≤ p ∧ p ≤ 410) ∨ (p = 64 ∧ j = 13)) μ (m_sI (m_sI μ 399 (ml_c (m_I μ 69) (m_I μ 399) 0 0 25)) 64 (ml_u (m_I (m_sI μ 399 (ml_c (m_I μ 69) (m_I μ 399) 0 0 25)) 64) 13 2147483647)) := (eqD.sI fun j hj => absurd (Or.inr (Or.inl ⟨by decide, by decide⟩)) hj).tr (eqD.sI fun j hj => ml_un fun q => hj (Or.inr (Or.inr ⟨rfl, q⟩)))
    have R0 : rS n (whA (m_I μ 412)) nd (m_I (m_sI (m_sI μ 399 (ml_c (m_I μ 69) (m_I μ 399) 0 0 25)) 64 (ml_u (m_I (m_sI μ 399 (ml_c (m_I μ 69) (m_I μ 399) 0 0 25)) 64) 13 2147483647)) 399) (wA (m_I μ 412)) := by
      rw [ml_In (by decide), ml_Is]
      exact rS_c R h9
    have i13 : m_I (m_sI (m_sI μ 399 (ml_c (m_I μ 69) (m_I μ 399) 0 0 25)) 64 (ml_u (m_I (m_sI μ 399 (ml_c (m_I μ 69) (m_I μ 399) 0 0 25)) 64) 13 2147483647)) 64 13 = 2147483647 := by
      rw [ml_Is, ml_us]
    generalize m_sI (m_sI μ 399 (ml_c (m_I μ 69) (m_I μ 399) 0 0 25)) 64 (ml_u (m_I (m_sI μ 399 (ml_c (m_I μ 69) (m_I μ 399) 0 0 25)) 64) 13 2147483647) = μ2 at d0 R0 i13
    have fin : ∀ v, v = aqV bm a1 → ∀ ν, eqD (fun p j => p = 396 ∨ (399 ≤ p ∧ p ≤ 410) ∨ (p = 64 ∧ j = 13)) μ ν → Q v ν := by
      rintro _ rfl ν d
      exact hQ ν (d.qs fun p j q => by unfold sc_p; omega)
    unfold p_X0_acquitted_L44
    obtain ⟨N, hN⟩ : ∃ N, N = 5 := ⟨5, rfl⟩
    refine lp_to N (fun m (x : Int32 × fw_M) => x.1 = nI m ∧ eqD (fun p j => p = 396 ∨ (399 ≤ p ∧ p ≤ 410) ∨ (p = 64 ∧ j = 13)) μ x.2 ∧ rS n (whA (m_I μ 412)) nd (m_I x.2 399) (wA (m_I μ 412)) ∧ m_I x.2 64 13 = 2147483647 ∧ ff (fun m => (bm m).isSome) m = none) (fun m x hm hx K hK => ?_) (fun x hx K => ?_) ⟨rfl, d0, R0, i13, rfl⟩
    · obtain ⟨i3, ν⟩ := x
      obtain ⟨b1, b2, b3, b4, b5⟩ := hx
      dsimp only at b1 b2 b3 b4 b5
      subst b1
      show p_X0_acquitted_L44b 64 (nI side) a1 (fun i3 μ => K (i3, μ)) (nI m) ν Q
      unfold p_X0_acquitted_L44b
      rw [show (4 : Int32) = nI 4 from rfl, if_neg (nI_nlt (a := 4) (by omega) (by decide))]
      have c9 := c.eq b2 fun p j q => by omega
      refine ⟨5, by decide, s_acquits (by omega) m 0 5 ν _ 0 [] none _ (by omega) (by omega) c9 b3 ok (by omega) rfl (fun j hj => absurd hj (Nat.not_lt_zero _)) ⟨b4, fun x hx => by cases hx⟩ fun ν1 d1 B => ?_⟩
      rw [← bme m] at B
      have d2 : eqD (fun p j => p = 396 ∨ (399 ≤ p ∧ p ≤ 410) ∨ (p = 64 ∧ j = 13)) μ ν1 := b2.tr (d1.mono fun p j q => by omega)
      have R2 : rS n (whA (m_I μ 412)) nd (m_I ν1 399) (wA (m_I μ 412)) := by rw [d1.I fun j => by omega]; exact b3
      have g1 := d2.sk hs
      obtain ⟨B1, B2⟩ := B
      cases hb : bm m with
      | none =>
        rw [hb] at B1
        dsimp only at B1
        rw [if_pos B1]
        rintro _ rfl
        rw [nI_1]
        exact hK _ ⟨rfl, d2, R2, B1, ff_nx b5 (by rw [hb]; decide)⟩
      | some y =>
        rw [hb] at B1
        dsimp only at B1
        obtain ⟨B3, B4, B5⟩ := B2 y hb
        have y7 : ¬ nI y.1 = 2147483647 := fun e => by
          have := congrArg Int32.toInt e
          rw [nI_toInt (by omega), show (2147483647 : Int32).toInt = 2147483647 by decide] at this
          omega
        have vl := aq_st (i := a1) b5 hb (by omega)
        rw [if_neg (by rw [B1]; exact y7)]
        by_cases e1 : a1 = -1
        · rw [if_pos e1] at vl ⊢
          exact fin _ vl.symm ν1 d2
        · rw [if_neg e1] at vl ⊢
          by_cases e2 : a1 = -2
          · rw [if_pos e2] at vl ⊢
            exact fin _ (by rw [vl, B1]) ν1 d2
          · rw [if_neg e2] at vl ⊢
            obtain ⟨k, hk, rfl⟩ := i_two c2 e1 e2
            by_cases e3 : nI m ≤ nI k
            · rw [if_pos e3] at vl ⊢
              exact fin _ vl.symm ν1 d2
            · rw [if_neg e3] at vl ⊢
              have km : k < m := by
                rw [nI_leI (by omega) hk] at e3
                omega
              have z0 : k < 9 := by omega
              simp (disch := omega) only [sk_p64_0 g1, sk_p64_1 g1, sk_p64_2 g1, sk_p64_3 g1, sk_p64_4 g1, sk_p64_5 g1, sk_p64_9 g1, sk_p64_10 g1, sk_p64_11 g1, sk_k64 g1, sk_n64 g1, sk_k410 g1, sk_n410 g1, nI_clamp, vp_t, true_and]
              refine fin _ ?_ ν1 d2
              rw [vl, nI_clamp hk]
              exact B5 k (by omega)
    · obtain ⟨i3, ν⟩ := x
      obtain ⟨b1, b2, b3, b4, b5⟩ := hx
      dsimp only at b1 b2 b3 b4 b5
      subst b1
      show p_X0_acquitted_L44b 64 (nI side) a1 (fun i3 μ => K (i3, μ)) (nI N) ν Q
      subst hN
      unfold p_X0_acquitted_L44b
      rw [if_pos (show (4 : Int32) < nI 5 by decide)]
      exact fin _ (aq_no b5).symm ν b2
  · simp only [p_X5_acquitted, m_isOne, if_pos c1, if_pos c2, e10, if_false]
    have gs := h1.sk hs
    have w := h1.I (p := 412) (by have := hs.2.1; omega) (by decide) (by decide) (by unfold sc_p; decide)
    have c9 := cxM_of gs w C (l2.eq (by rw [w]) fun p p1 p2 => h1.I (by have := hs.2.1; omega) (by omega) (by omega) (by unfold sc_p; omega)) l3
    have fin : ∀ v, v = aqV bm a1 → ∀ ν, eqD DM μ1 ν → Q v ν := by
      rintro _ rfl ν d
      exact hQ ν (d.qs fun p j q => by unfold DM at q; unfold sc_p; omega)
    unfold p_X5_acquitted_L18
    obtain ⟨N, hN⟩ : ∃ N, N = 5 := ⟨5, rfl⟩
    refine lp_to N (fun m (x : Int32 × fw_M) => x.1 = nI m ∧ eqD DM μ1 x.2 ∧ ff (fun m => (bm m).isSome) m = none) (fun m x hm hx K hK => ?_) (fun x hx K => ?_) ⟨rfl, eqD.rf, rfl⟩
    · obtain ⟨i3, ν⟩ := x
      obtain ⟨b1, b2, b5⟩ := hx
      dsimp only at b1 b2 b5
      subst b1
      show p_X5_acquitted_L18b 411 (nI side) a1 (fun i3 μ => K (i3, μ)) (nI m) ν Q
      unfold p_X5_acquitted_L18b
      rw [show (5 : Int32) = nI 5 from rfl, if_neg (nI_ge (b := 5) (by omega) (by decide))]
      have c8 := c9.eq b2 fun p j q => by unfold DM at q; omega
      have w1 : m_I ν 412 = m_I μ 412 := (b2.I fun j => by unfold DM; omega).trans w
      refine m_acquits C (by omega) (by omega) c8 w1 fun ν1 d1 B => ?_
      rw [← bme m] at B ⊢
      have d2 := b2.tr d1
      have g1 := d2.sk gs
      obtain ⟨B1, B2⟩ := B
      cases hb : bm m with
      | none =>
        rw [if_pos (show (if (none : BB).isSome = true then (1 : Int32) else 0) = 0 by decide)]
        rintro _ rfl
        rw [nI_1]
        exact hK _ ⟨rfl, d2, ff_nx b5 (by rw [hb]; decide)⟩
      | some y =>
        rw [hb] at B1
        dsimp only at B1
        obtain ⟨B3, B4, B5⟩ := B2 y hb
        have vl := aq_st (i := a1) b5 hb (by omega)
        rw [if_neg (show ¬ (if (some y).isSome = true then (1 : Int32) else 0) = 0 by simp)]
        unfold p_X5_acquitted_L38
        rw [show (5 : Int32) = nI 5 from rfl, if_neg (show ¬ nI m = nI 5 from fun e => by have := (nI_eq (by omega) (by decide)).mp e; omega)]
        by_cases e0 : a1 < nI m
        · rw [if_pos e0]
          by_cases e1 : a1 = -1
          · rw [if_pos e1] at vl ⊢
            exact fin _ vl.symm ν1 d2
          · rw [if_neg e1] at vl ⊢
            by_cases e2 : a1 = -2
            · rw [if_pos e2] at vl ⊢
              exact fin _ (by rw [vl, B1]) ν1 d2
            · rw [if_neg e2] at vl ⊢
              obtain ⟨k, hk, rfl⟩ := i_two c2 e1 e2
              have km : k < m := (nI_ltI hk (by omega)).mp e0
              rw [if_neg (nI_ge km (by omega))] at vl
              have z0 : k < 9 := by omega
              simp (disch := omega) only [sk_p411_0 g1, sk_p411_1 g1, sk_p411_2 g1, sk_p411_6 g1, sk_p411_7 g1, sk_p411_8 g1, sk_p411_9 g1, sk_p411_10 g1, sk_p411_11 g1, sk_p411_12 g1, sk_p411_22 g1, sk_p411_23 g1, sk_p411_25 g1, sk_p411_26 g1, sk_p411_30 g1, sk_p411_31 g1, sk_p411_32 g1, sk_p411_33 g1, sk_p411_35 g1, sk_p411_36 g1, sk_p411_37 g1, sk_p411_38 g1, sk_p411_39 g1, sk_p411_40 g1, sk_p411_42 g1, sk_p411_43 g1, sk_p411_44 g1, sk_p411_45 g1, sk_p411_46 g1, sk_k411 g1, sk_n411 g1, sk_k440 g1, sk_n440 g1, nI_clamp, vp_t, true_and]
              refine fin _ ?_ ν1 d2
              rw [vl, nI_clamp hk]
              exact B5 k (by omega)
        · rw [if_neg e0]
          have hm4 : m ≤ 4 := by omega
          have e1 : ¬ a1 = -1 := fun e => e0 (by rw [e]; exact Int32.lt_iff_toInt_lt.mpr (by rw [nI_toInt (by omega), show (-1 : Int32).toInt = -1 by decide]; omega))
          have e2 : ¬ a1 = -2 := fun e => e0 (by rw [e]; exact Int32.lt_iff_toInt_lt.mpr (by rw [nI_toInt (by omega), show (-2 : Int32).toInt = -2 by decide]; omega))
          rw [if_neg e1, if_neg e2] at vl
          obtain ⟨k, hk, rfl⟩ := i_two c2 e1 e2
          have km : ¬ k < m := fun h => e0 ((nI_ltI hk (by omega)).mpr h)
          rw [if_pos (nI_le (by omega) hk)] at vl
          exact fin _ vl.symm ν1 d2
    · obtain ⟨i3, ν⟩ := x
      obtain ⟨b1, b2, b5⟩ := hx
      dsimp only at b1 b2 b5
      subst b1
      show p_X5_acquitted_L18b 411 (nI side) a1 (fun i3 μ => K (i3, μ)) (nI N) ν Q
      subst hN
      unfold p_X5_acquitted_L18b
      rw [if_pos (show (5 : Int32) ≤ nI 5 by decide)]
      unfold p_X5_acquitted_L38
      rw [if_pos (show nI 5 = (5 : Int32) by rfl)]
      exact fin _ (aq_no b5).symm ν b2
