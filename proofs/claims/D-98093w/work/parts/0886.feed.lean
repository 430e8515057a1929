/-! plain law: feed -/
def shI : Nat → Int32
  | 0 => 24
  | 1 => 16
  | 2 => 8
  | 3 => 0
  | _ => -8
def wr (f : Nat → Int32) (t : Nat) (x : Int32) : Nat → Nat → Int32
  | 0 => f
  | k + 1 => ml_u (wr f t x k) (t + k) (((x >>> (shI k &&& 31)).toInt8.toInt32).toInt8.toInt32)
theorem wr_cong {f g : Nat → Int32} {t : Nat} {x : Int32} (h : ∀ i, i < t → f i = g i) : ∀ k i, i < t + k → wr f t x k i = wr g t x k i := by
  intro k
  induction k with
  | zero => intro i hi; exact h i hi
  | succ k ih =>
    intro i hi
    unfold wr
    by_cases e : i = t + k
    · subst e; rw [ml_us, ml_us]
    · rw [ml_un e, ml_un e]
      exact ih i (by omega)
theorem b8_idem (y : Int32) : y.toInt8.toInt32.toInt8.toInt32 = y.toInt8.toInt32 := by
  have := pk_vb y
  rw [vp_nar_byte] at this
  exact this
theorem wr_b8 {f : Nat → Int32} {t : Nat} {x : Int32} (h : ∀ i, i < 300 → (f i).toInt8.toInt32 = f i) : ∀ k i, i < 300 → (wr f t x k i).toInt8.toInt32 = wr f t x k i := by
  intro k
  induction k with
  | zero => exact h
  | succ k ih =>
    intro i hi
    unfold wr
    by_cases e : i = t + k
    · subst e; rw [ml_us, b8_idem, b8_idem]
    · rw [ml_un e]
      exact ih i hi
theorem sh_lt : ∀ k, k < 4 → ¬ shI k < 0 ∧ shI k + (-8) = shI (k + 1) ∧ shI k - 8 = shI (k + 1) := by decide
theorem s_four {μ : fw_M} {t : Nat} {x : Int32} (hs : sk_m μ) (ht : t + 4 ≤ 300) (e6 : m_I μ 64 6 = nI t) {Q : fw_M → Prop} (hQ : ∀ μ', eqD (fun p j => (p = 64 ∧ j = 6) ∨ p = 397) μ μ' → m_I μ' 64 6 = nI (t + 4) → m_I μ' 397 = wr (m_I μ 397) t x 4 → Q μ') : p_X0_four 64 x μ Q := by
  unfold p_X0_four p_X0_four_L3
  refine lp_to 4 (fun k (a : Int32 × fw_M) => a.1 = shI k ∧ eqD (fun p j => (p = 64 ∧ j = 6) ∨ p = 397) μ a.2 ∧ m_I a.2 64 6 = nI (t + k) ∧ m_I a.2 397 = wr (m_I μ 397) t x k) (fun k a hk hI K hK => ?_) (fun a hI K => ?_) ⟨rfl, eqD.rf, e6, rfl⟩
  · obtain ⟨i, ν⟩ := a
    obtain ⟨h1, h2, h3, h4⟩ := hI
    dsimp only at h1 h2 h3 h4
    show p_X0_four_L3b 64 x (fun i2 μ => K (i2, μ)) i ν Q
    have gs := h2.sk hs
    obtain ⟨u1, u2, -⟩ := sh_lt k hk
    rw [h1]
    unfold p_X0_four_L3b
    rw [if_neg u1]
    simp (disch := omega) only [ml_uI, ml_KI, ml_PI, ml_NI, sk_p64_0 gs, sk_p64_1 gs, sk_p64_2 gs, sk_p64_3 gs, sk_p64_4 gs, sk_p64_5 gs, sk_p64_9 gs, sk_p64_10 gs, sk_p64_11 gs, sk_k64 gs, sk_n64 gs, sk_k397 gs, sk_n397 gs, h3, nI_clamp, vp_t, true_and, forall_eq, u2]
    refine hK _ ⟨rfl, ?_, ?_, ?_⟩
    · exact (h2.tr (eqD.sI fun j hj => ml_un fun e => hj (Or.inl ⟨rfl, e⟩))).tr (eqD.sI fun j hj => absurd (Or.inr rfl) hj)
    · show m_I (m_sI (m_sI ν 64 _) 397 _) 64 6 = _
      rw [ml_In (by decide), ml_Is, ml_us, nI_1, Nat.add_assoc]
    · show m_I (m_sI (m_sI ν 64 _) 397 _) 397 = _
      rw [ml_Is, ml_In (by decide), h4]
      rfl
  · obtain ⟨i, ν⟩ := a
    obtain ⟨h1, h2, h3, h4⟩ := hI
    dsimp only at h1 h2 h3 h4
    show p_X0_four_L3b 64 x (fun i2 μ => K (i2, μ)) i ν Q
    rw [h1]
    unfold p_X0_four_L3b
    rw [if_pos (by decide)]
    exact hQ ν h2 h3 h4
theorem m_put {μ : fw_M} {t : Nat} {x : Int32} (hs : sk_m μ) (ht : t + 4 ≤ 300) (e6 : m_I μ 411 3 = nI t) {Q : fw_M → Prop} (hQ : ∀ μ', eqD (fun p j => (p = 411 ∧ j = 3) ∨ p = 414) μ μ' → m_I μ' 411 3 = nI (t + 4) → m_I μ' 414 = wr (m_I μ 414) t x 4 → Q μ') : p_X5_put 411 x μ Q := by
  unfold p_X5_put p_X5_put_L3
  refine lp_to 4 (fun k (a : Int32 × fw_M) => a.1 = shI k ∧ eqD (fun p j => (p = 411 ∧ j = 3) ∨ p = 414) μ a.2 ∧ m_I a.2 411 3 = nI (t + k) ∧ m_I a.2 414 = wr (m_I μ 414) t x k) (fun k a hk hI K hK => ?_) (fun a hI K => ?_) ⟨rfl, eqD.rf, e6, rfl⟩
  · obtain ⟨i, ν⟩ := a
    obtain ⟨h1, h2, h3, h4⟩ := hI
    dsimp only at h1 h2 h3 h4
    show p_X5_put_L3b 411 x (fun i2 μ => K (i2, μ)) i ν Q
    have gs := h2.sk hs
    obtain ⟨u1, -, u2⟩ := sh_lt k hk
    rw [h1]
    unfold p_X5_put_L3b
    rw [if_neg u1]
    simp (disch := omega) only [ml_uI, ml_KI, ml_PI, ml_NI, sk_p411_0 gs, sk_p411_1 gs, sk_p411_2 gs, sk_p411_6 gs, sk_p411_7 gs, sk_p411_8 gs, sk_p411_9 gs, sk_p411_10 gs, sk_p411_11 gs, sk_p411_12 gs, sk_p411_22 gs, sk_p411_23 gs, sk_p411_25 gs, sk_p411_26 gs, sk_p411_30 gs, sk_p411_31 gs, sk_p411_32 gs, sk_p411_33 gs, sk_p411_35 gs, sk_p411_36 gs, sk_p411_37 gs, sk_p411_38 gs, sk_p411_39 gs, sk_p411_40 gs, sk_p411_42 gs, sk_p411_43 gs, sk_p411_44 gs, sk_p411_45 gs, sk_p411_46 gs, sk_k411 gs, sk_n411 gs, sk_k414 gs, sk_n414 gs, h3, nI_clamp, vp_t, true_and, forall_eq, u2]
    refine hK _ ⟨rfl, ?_, ?_, ?_⟩
    · refine (h2.tr (eqD.sI fun j hj => absurd (Or.inr rfl) hj)).tr (eqD.sI fun j hj => ?_)
      rw [ml_un fun e => hj (Or.inl ⟨rfl, e⟩)]
    · show m_I (m_sI (m_sI ν 414 _) 411 _) 411 3 = _
      rw [ml_Is, ml_us, ml_In (by decide), h3, nI_1, Nat.add_assoc]
    · show m_I (m_sI (m_sI ν 414 _) 411 _) 414 = _
      rw [ml_In (by decide), ml_Is, h4]
      rfl
  · obtain ⟨i, ν⟩ := a
    obtain ⟨h1, h2, h3, h4⟩ := hI
    dsimp only at h1 h2 h3 h4
    show p_X5_put_L3b 411 x (fun i2 μ => K (i2, μ)) i ν Q
    rw [h1]
    unfold p_X5_put_L3b
    rw [if_pos (by decide)]
    exact hQ ν h2 h3 h4
def wr5 (f : Nat → Int32) (t : Nat) (a0 a1 a2 a3 a4 : Int32) : Nat → Int32 := wr (wr (wr (wr (wr f t a0 4) (t + 4) a1 4) (t + 8) a2 4) (t + 12) a3 4) (t + 16) a4 4
theorem op_feed (a0 a1 a2 a3 a4 : Int32) : iv_op2 (α := Int32) (fun μ Q => p_X0_feed 64 a0 a1 a2 a3 a4 μ Q) (fun μ Q => p_X5_feed 411 a0 a1 a2 a3 a4 μ Q) := by
  intro L xs z μ hI Qs H
  obtain ⟨hs, -, -, n, tx, st, te, tl, ns, nd, n', tx', st', te', tl', ns', nd', tp, -, -, -, t0, t1, t2, t3, t4, t5, t6⟩ := id hI
  have ec : (nI tp + 20 ≤ 300) ↔ tp + 20 ≤ 300 := by
    rw [li_20, li_300, nI_add]
    exact nI_leI (by omega) (by decide)
  by_cases c : tp + 20 ≤ 300
  · show p_X0_feed 64 a0 a1 a2 a3 a4 μ Qs
    unfold p_X0_feed
    rw [t1, if_pos (ec.mpr c)]
    refine s_four hs (t := tp) (by omega) t1 fun μ1 d1 x1 y1 => ?_
    refine s_four (d1.sk hs) (t := tp + 4) (by omega) x1 fun μ2 d2 x2 y2 => ?_
    refine s_four ((d1.tr d2).sk hs) (t := tp + 8) (by omega) x2 fun μ3 d3 x3 y3 => ?_
    refine s_four (((d1.tr d2).tr d3).sk hs) (t := tp + 12) (by omega) x3 fun μ4 d4 x4 y4 => ?_
    refine s_four ((((d1.tr d2).tr d3).tr d4).sk hs) (t := tp + 16) (by omega) x4 fun μ5 d5 x5 y5 => ?_
    have D := (((d1.tr d2).tr d3).tr d4).tr d5
    have y : m_I μ5 397 = wr5 (m_I μ 397) tp a0 a1 a2 a3 a4 := by rw [y5, y4, y3, y2, y1]; rfl
    have gs := D.sk hs
    rw [x5]
    refine H _ μ5 ⟨by rw [D.1], D.I (by omega), sk_k64 gs, sk_k411 gs⟩ fun Qm hQ => ?_
    have w3 : m_I μ5 411 3 = nI tp := by rw [D.2.2.2 411 3 (by omega)]; exact t2
    have w14 : m_I μ5 414 = m_I μ 414 := D.I (by omega)
    show p_X5_feed 411 a0 a1 a2 a3 a4 μ5 Qm
    unfold p_X5_feed
    rw [w3, if_pos (ec.mpr c)]
    refine m_put gs (t := tp) (by omega) w3 fun ν1 e1 u1 v1 => ?_
    refine m_put (e1.sk gs) (t := tp + 4) (by omega) u1 fun ν2 e2 u2 v2 => ?_
    refine m_put ((e1.tr e2).sk gs) (t := tp + 8) (by omega) u2 fun ν3 e3 u3 v3 => ?_
    refine m_put (((e1.tr e2).tr e3).sk gs) (t := tp + 12) (by omega) u3 fun ν4 e4 u4 v4 => ?_
    refine m_put ((((e1.tr e2).tr e3).tr e4).sk gs) (t := tp + 16) (by omega) u4 fun ν5 e5 u5 v5 => ?_
    have E := (((e1.tr e2).tr e3).tr e4).tr e5
    have v : m_I ν5 414 = wr5 (m_I μ 414) tp a0 a1 a2 a3 a4 := by rw [v5, v4, v3, v2, v1, w14]; rfl
    rw [u5]
    have hs5 := E.sk gs
    refine hQ ν5 (kp_inv hI (E.1.trans D.1) (E.2.1.trans D.2.1) (E.2.2.1.trans D.2.2.1) (fun p p1 p2 p3 p4 => ?_) (fun tp9 _ => ⟨tp + 20, ?_⟩)) ⟨by rw [E.1, D.1], (E.I (by omega)).trans (D.I (by omega)), sk_k64 hs5, sk_k411 hs5⟩
    · exact (E.I (by omega)).trans (D.I (by omega))
    · refine ⟨c, ?_, u5, fun i hi => ?_, fun i hi => ?_, ?_, ?_⟩
      · rw [E.2.2.2 64 6 (by omega)]; exact x5
      · rw [E.I (p := 397) (by omega), y, v]
        unfold wr5
        refine wr_cong (fun i hi => ?_) 4 i (by omega)
        refine wr_cong (fun i hi => ?_) 4 i (by omega)
        refine wr_cong (fun i hi => ?_) 4 i (by omega)
        refine wr_cong (fun i hi => ?_) 4 i (by omega)
        exact wr_cong t3 4 i (by omega)
      · rw [E.I (p := 397) (by omega), y]
        unfold wr5
        exact wr_b8 (wr_b8 (wr_b8 (wr_b8 (wr_b8 t4 4) 4) 4) 4) 4 i hi
      · rw [E.2.2.2 64 7 (by omega), D.2.2.2 64 7 (by omega), E.2.2.2 411 4 (by omega), D.2.2.2 411 4 (by omega)]; exact t5
      · rw [E.2.2.2 64 8 (by omega), D.2.2.2 64 8 (by omega), E.2.2.2 411 5 (by omega), D.2.2.2 411 5 (by omega)]; exact t6
  · show p_X0_feed 64 a0 a1 a2 a3 a4 μ Qs
    unfold p_X0_feed
    rw [t1, if_neg fun h => c (ec.mp h)]
    refine H _ _ (iv_scr.rf hI) (fun Qm hQ => ?_)
    show p_X5_feed 411 a0 a1 a2 a3 a4 μ Qm
    unfold p_X5_feed
    rw [t2, if_neg fun h => c (ec.mp h)]
    exact hQ _ hI (iv_scr.rf hI)
