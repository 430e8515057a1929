/-! plain law: played -/
def clA (lv : LV) (kd one two : Int32) (a : Nat → Int32) : Bool × (Nat → Int32) :=
  if kd = 3 then (decide (¬ (mSit a one two).1 = 0), (mSit a one two).2) else if kd = 4 then (decide (¬ (mSpoon lv a one two).1 = -1), (mSpoon lv a one two).2) else
  if kd = 5 then (decide (¬ (mJudge lv a one).1 = -1), (mJudge lv a one).2) else if kd = 6 then (decide (¬ (mFlies a one).1 = -1), (mFlies a one).2) else (true, a)
theorem flI_2 {a : Nat → Int32} : ∀ k, (flI a k).2 2 = a 2 := by
  intro k
  induction k with
  | zero => rfl
  | succ k ih =>
    show (flA (flI a k).2).2 2 = a 2
    unfold flA
    split
    · dsimp only
      rw [ml_un (by decide)]; exact ih
    · dsimp only
      rw [ml_un (by omega), ml_un (by decide)]; exact ih
theorem clA_2 {lv : LV} {kd one two : Int32} {a : Nat → Int32} : (clA lv kd one two a).2 2 = a 2 := by
  unfold clA
  by_cases c3 : kd = 3
  · rw [if_pos c3]
    show (mSit a one two).2 2 = a 2
    unfold mSit
    split
    · show ml_u _ _ _ 2 = _
      rw [ml_un (by omega), mKeep_lo (by decide) (by decide)]
    · rfl
  rw [if_neg c3]
  by_cases c4 : kd = 4
  · rw [if_pos c4]
    show (mSpoon lv a one two).2 2 = a 2
    unfold mSpoon
    split
    · show mSpU _ _ _ _ _ _ _ _ 2 = _
      unfold mSpU
      rw [ml_un (by omega), ml_un (by omega), ml_un (by omega), ml_un (by omega), ml_un (by omega), ml_un (by omega), ml_un (by omega), mKeep_lo (by decide) (by decide)]
    · rfl
  rw [if_neg c4]
  by_cases c5 : kd = 5
  · rw [if_pos c5]
    show (mJudge lv a one).2 2 = a 2
    unfold mJudge
    split
    · show mJuU _ _ _ _ _ 2 = _
      unfold mJuU
      rw [ml_un (by omega), ml_un (by omega), ml_un (by omega), ml_un (by omega), mKeep_lo (by decide) (by decide)]
    · rfl
  rw [if_neg c5]
  by_cases c6 : kd = 6
  · rw [if_pos c6]
    show (mFlies a one).2 2 = a 2
    unfold mFlies
    split
    · rw [flI_2, mKeep_lo (by decide) (by decide)]
    · rfl
  rw [if_neg c6]
/-- a line of the class is a clause of the reference -/
def lnR (μ : fw_M) (q : Nat) (kd one two : Int32) : Prop :=
  (kd = 3 ∧ m_K μ q = 18 ∧ m_I μ q 0 = one ∧ m_I μ q 1 = two) ∨ (kd = 4 ∧ m_K μ q = 19 ∧ m_I μ q 0 = one ∧ m_I μ q 1 = two) ∨ (kd = 5 ∧ m_K μ q = 16 ∧ m_I μ q 0 = one) ∨ (kd = 6 ∧ m_K μ q = 17 ∧ m_I μ q 0 = one)
theorem mSit_01 {a : Nat → Int32} {x y : Int32} : (mSit a x y).1 = 0 ∨ (mSit a x y).1 = 1 := by
  unfold mSit
  split
  · exact Or.inr rfl
  · exact Or.inl rfl
theorem s_clause {ν : fw_M} {a : Nat → Int32} {n tx st te tl ns nd : Nat} {lv : LV} (hs : sk_m ν) (C : iv_C ν 65 a n tx st te tl ns nd) (l1 : lvS ν lv) (l3 : lvD lv) {q : Nat} {kd one two : Int32} (hq : lnR ν q kd one two) {Q : Int32 → fw_M → Prop} (hQ : ∀ ν1, stepS ν ν1 → (∃ st' ns' nd', iv_C ν1 65 (clA lv kd one two a).2 n tx st' te tl ns' nd') → Q (if (clA lv kd one two a).1 = true then 1 else 0) ν1) : p_Line_done q 64 ν Q := by
  have k64 := sk_k64 hs
  have neg : ∀ {v : Int32} {ν1 : fw_M}, Q (if decide (¬ v = -1) = true then 1 else 0) ν1 → (if v = -1 then Q 0 ν1 else Q 1 ν1) := by
    intro v ν1 h
    by_cases c : v = -1
    · rw [if_pos c]
      rw [decide_eq_false (fun h => h c), if_neg (by decide)] at h
      exact h
    · rw [if_neg c]
      rw [decide_eq_true c, if_pos rfl] at h
      exact h
  unfold p_Line_done
  rcases hq with ⟨rfl, hk, rfl, rfl⟩ | ⟨rfl, hk, rfl, rfl⟩ | ⟨rfl, hk, rfl⟩ | ⟨rfl, hk, rfl⟩
  · rw [if_pos hk]
    unfold p_X17_done
    refine ⟨k64, s_sit hs C _ _ fun ν1 s1 c1 => ⟨mSit_01, ?_⟩⟩
    have := hQ ν1 s1
    unfold clA at this
    rw [if_pos rfl] at this
    have := this c1
    dsimp only at this
    rcases mSit_01 (a := a) (x := m_I ν q 0) (y := m_I ν q 1) with h | h
    · rw [h] at this ⊢
      rw [decide_eq_false (fun h => h rfl), if_neg (by decide)] at this
      exact this
    · rw [h] at this ⊢
      rw [decide_eq_true (by decide), if_pos rfl] at this
      exact this
  · rw [if_neg (by rw [hk]; decide), if_pos hk]
    unfold p_X18_done
    refine ⟨k64, s_spoon hs C l1 l3 _ _ fun ν1 s1 c1 => neg ?_⟩
    have := hQ ν1 s1
    unfold clA at this
    rw [if_neg (by decide), if_pos rfl] at this
    exact this c1
  · rw [if_neg (by rw [hk]; decide), if_neg (by rw [hk]; decide), if_pos hk]
    unfold p_X15_done
    refine ⟨k64, s_judge hs C l1 l3 _ fun ν1 s1 c1 => neg ?_⟩
    have := hQ ν1 s1
    unfold clA at this
    rw [if_neg (by decide), if_neg (by decide), if_pos rfl] at this
    exact this c1
  · rw [if_neg (by rw [hk]; decide), if_neg (by rw [hk]; decide), if_neg (by rw [hk]; decide), if_pos hk]
    unfold p_X16_done
    refine ⟨k64, s_flies hs C _ fun ν1 s1 c1 => neg ?_⟩
    have := hQ ν1 s1
    unfold clA at this
    rw [if_neg (by decide), if_neg (by decide), if_neg (by decide), if_pos rfl] at this
    exact this c1
def sqA (lv : LV) (W O T : Nat → Int32) (a : Nat → Int32) : Nat → (Nat → Int32)
  | 0 => a
  | k + 1 => (clA lv (W k) (O k) (T k) (sqA lv W O T a k)).2
def okA (lv : LV) (W O T : Nat → Int32) (a : Nat → Int32) (k : Nat) : Bool := (clA lv (W k) (O k) (T k) (sqA lv W O T a k)).1
theorem sqA_2 {lv : LV} {W O T : Nat → Int32} {a : Nat → Int32} : ∀ k, sqA lv W O T a k 2 = a 2 := by
  intro k
  induction k with
  | zero => rfl
  | succ k ih => exact clA_2.trans ih
theorem m_clause {μ ν : fw_M} {a : Nat → Int32} {n tx st te tl ns nd : Nat} {lv : LV} (gs : sk_m ν) (w : m_I ν 412 = a) (C : iv_C μ 65 a n tx st te tl ns nd) (l2 : lvM ν lv) (l3 : lvD lv) {t k : Nat} {K : Int32 × fw_M → Prop} (ht : t < 4) (hk : k < 24) {cl : Nat} (hcl : cl ≤ 24) (hkc : k < cl) (h15 : m_I ν 415 t = nI cl) {Q : Int32 → fw_M → Prop}
    (h1 : (clA lv (m_I ν 416 (24 * t + k)) (m_I ν 418 (24 * t + k)) (m_I ν 419 (24 * t + k)) a).1 = true → ∀ ν1, stepM ν ν1 → m_I ν1 412 = (clA lv (m_I ν 416 (24 * t + k)) (m_I ν 418 (24 * t + k)) (m_I ν 419 (24 * t + k)) a).2 → K (nI (k + 1), ν1))
    (h0 : (clA lv (m_I ν 416 (24 * t + k)) (m_I ν 418 (24 * t + k)) (m_I ν 419 (24 * t + k)) a).1 = false → ∀ ν1, stepM ν ν1 → m_I ν1 412 = (clA lv (m_I ν 416 (24 * t + k)) (m_I ν 418 (24 * t + k)) (m_I ν 419 (24 * t + k)) a).2 → Q (nI k) ν1) : p_X5_played_L21b 411 (nI t) (fun i2 μ => K (i2, μ)) (nI k) ν Q := by
  obtain ⟨⟨q1, q2, q3, q4, q5⟩, -, ⟨A0, A1, A3, A4, A5⟩, -⟩ := id C
  have last : ∀ (b : Bool) (ν1 : fw_M), (b = true → K (nI (k + 1), ν1)) → (b = false → Q (nI k) ν1) → p_X5_played_L175 (fun i2 μ => K (i2, μ)) 411 (nI t) (nI k) (if b = true then 1 else 0) ν1 Q := by
    intro b ν1 b1 b0
    unfold p_X5_played_L175
    cases b with
    | true =>
      rw [if_neg (by decide)]
      simp only [forall_eq, nI_1]
      exact b1 rfl
    | false =>
      rw [if_pos (by decide)]
      exact b0 rfl
  have neg : ∀ {v : Int32} {ν1 : fw_M}, (decide (¬ v = -1) = true → K (nI (k + 1), ν1)) → (decide (¬ v = -1) = false → Q (nI k) ν1) → (if v = -1 then p_X5_played_L175 (fun i2 μ => K (i2, μ)) 411 (nI t) (nI k) 0 ν1 Q else p_X5_played_L175 (fun i2 μ => K (i2, μ)) 411 (nI t) (nI k) 1 ν1 Q) := by
    intro v ν1 b1 b0
    by_cases c : v = -1
    · rw [if_pos c]
      exact last false ν1 (fun h => absurd h (by decide)) (fun _ => b0 (decide_eq_false fun h => h c))
    · rw [if_neg c]
      exact last true ν1 (fun _ => b1 (decide_eq_true c)) (fun h => absurd h (by decide))
  unfold p_X5_played_L21b
  simp (disch := omega) only [sk_p411_0 gs, sk_p411_1 gs, sk_p411_2 gs, sk_p411_6 gs, sk_p411_7 gs, sk_p411_8 gs, sk_p411_9 gs, sk_p411_10 gs, sk_p411_11 gs, sk_p411_12 gs, sk_p411_22 gs, sk_p411_23 gs, sk_p411_25 gs, sk_p411_26 gs, sk_p411_30 gs, sk_p411_31 gs, sk_p411_32 gs, sk_p411_33 gs, sk_p411_35 gs, sk_p411_36 gs, sk_p411_37 gs, sk_p411_38 gs, sk_p411_39 gs, sk_p411_40 gs, sk_p411_42 gs, sk_p411_43 gs, sk_p411_44 gs, sk_p411_45 gs, sk_p411_46 gs, sk_k411 gs, sk_n411 gs, sk_k415 gs, sk_n415 gs, sk_k416 gs, sk_n416 gs, sk_k418 gs, sk_n418 gs, sk_k419 gs, sk_n419 gs, h15, nI_clamp, vp_t, true_and, nI_leI, Nat.not_le.mpr hkc, if_false, li_24, pk_mul, nI_add, forall_eq]
  unfold clA at h1 h0
  generalize m_I ν 416 (24 * t + k) = kd at h1 h0
  generalize m_I ν 418 (24 * t + k) = one at h1 h0
  generalize m_I ν 419 (24 * t + k) = two at h1 h0
  by_cases c3 : kd = 3
  · rw [if_pos c3] at h1 h0
    rw [if_pos c3]
    refine m_sit gs w q1 q3 A0 A3 _ _ fun ν1 s1 w1 => ?_
    have := last (decide (¬ (mSit a one two).1 = 0)) ν1 (fun h => h1 h ν1 s1 w1) (fun h => h0 h ν1 s1 w1)
    rcases mSit_01 (a := a) (x := one) (y := two) with h | h
    · rw [h] at this ⊢
      rw [decide_eq_false (fun h => h rfl), if_neg (by decide)] at this
      exact this
    · rw [h] at this ⊢
      rw [decide_eq_true (by decide), if_pos rfl] at this
      exact this
  rw [if_neg c3] at h1 h0
  rw [if_neg c3]
  by_cases c4 : kd = 4
  · rw [if_pos c4] at h1 h0
    rw [if_pos c4]
    exact m_spoon gs w C l2 l3 _ _ fun ν1 s1 w1 => neg (fun h => h1 h ν1 s1 w1) (fun h => h0 h ν1 s1 w1)
  rw [if_neg c4] at h1 h0
  rw [if_neg c4]
  by_cases c5 : kd = 5
  · rw [if_pos c5] at h1 h0
    rw [if_pos c5]
    exact m_judge gs w C l2 l3 _ fun ν1 s1 w1 => neg (fun h => h1 h ν1 s1 w1) (fun h => h0 h ν1 s1 w1)
  rw [if_neg c5] at h1 h0
  rw [if_neg c5]
  by_cases c6 : kd = 6
  · rw [if_pos c6] at h1 h0
    rw [if_pos c6]
    exact m_flies gs w q3 A3 (C_flOk C) _ fun ν1 s1 w1 => neg (fun h => h1 h ν1 s1 w1) (fun h => h0 h ν1 s1 w1)
  rw [if_neg c6] at h1 h0
  rw [if_neg c6]
  exact last true ν (fun h => h1 h ν stepM.rf w) (fun h => absurd h (by decide))
theorem op_played (a0 : Int32) : iv_op2 (α := Int32) (fun μ Q => p_X0_played 64 a0 μ Q) (fun μ Q => p_X5_played 411 a0 μ Q) := by
  intro L xs z μ hI Qs H
  obtain ⟨lv, l1, l2, l3⟩ := lv_of hI
  obtain ⟨hs, -, -, n, tx, st, te, tl, ns, nd, n', tx', st', te', tl', ns', nd', tp, C, -, hT, -⟩ := id hI
  obtain ⟨⟨q1, q2, q3, q4, q5⟩, ⟨E0, E1, E2, E3, E4, E5⟩, ⟨A0, A1, A3, A4, A5⟩, -⟩ := id C
  show p_X0_played 64 a0 μ Qs
  by_cases c : inB a0 0 (nI tx - 1)
  rotate_left
  · simp only [p_X0_played, s_in, sk_p64_0 hs, sk_p64_1 hs, sk_p64_2 hs, sk_p64_3 hs, sk_p64_4 hs, sk_p64_5 hs, sk_p64_9 hs, sk_p64_10 hs, sk_p64_11 hs, sk_p65_6 hs, sk_p65_7 hs, sk_p65_8 hs, sk_p65_9 hs, sk_p65_10 hs, sk_p65_11 hs, sk_p65_12 hs, sk_p65_13 hs, sk_p65_14 hs, sk_p65_15 hs, sk_k64 hs, sk_n64 hs, sk_k65 hs, sk_n65 hs, true_and, E1, if_neg c, e00, if_true]
    refine H _ _ (iv_scr.rf hI) fun Qm hQ => ?_
    show p_X5_played 411 a0 μ Qm
    simp only [p_X5_played, m_in, sk_p411_0 hs, sk_p411_1 hs, sk_p411_2 hs, sk_p411_6 hs, sk_p411_7 hs, sk_p411_8 hs, sk_p411_9 hs, sk_p411_10 hs, sk_p411_11 hs, sk_p411_12 hs, sk_p411_22 hs, sk_p411_23 hs, sk_p411_25 hs, sk_p411_26 hs, sk_p411_30 hs, sk_p411_31 hs, sk_p411_32 hs, sk_p411_33 hs, sk_p411_35 hs, sk_p411_36 hs, sk_p411_37 hs, sk_p411_38 hs, sk_p411_39 hs, sk_p411_40 hs, sk_p411_42 hs, sk_p411_43 hs, sk_p411_44 hs, sk_p411_45 hs, sk_p411_46 hs, sk_k411 hs, sk_n411 hs, sk_k412 hs, sk_n412 hs, cl1, vp1_11120, true_and, A1, if_neg c, e00, if_true]
    exact hQ _ hI (iv_scr.rf hI)
  obtain ⟨t, ht, rfl⟩ := inB_k (by omega) c
  obtain ⟨l, sp, lp, cl, h1, h2, h3, h4, h5, h6, h7, h8, h9, h10, h11, h12, h13, h14, h15, hsm, hg, hl⟩ := hT t (Or.inl ht)
  have eW : ∀ k, (fun k => m_I μ 416 (24 * t + k)) k = m_I μ 416 (24 * t + k) := fun _ => rfl
  have vt : vp_in (nI t) 4 := vp_in_nI (by omega) (by decide)
  simp only [p_X0_played, s_in, sk_p64_0 hs, sk_p64_1 hs, sk_p64_2 hs, sk_p64_3 hs, sk_p64_4 hs, sk_p64_5 hs, sk_p64_9 hs, sk_p64_10 hs, sk_p64_11 hs, sk_p65_6 hs, sk_p65_7 hs, sk_p65_8 hs, sk_p65_9 hs, sk_p65_10 hs, sk_p65_11 hs, sk_p65_12 hs, sk_p65_13 hs, sk_p65_14 hs, sk_p65_15 hs, sk_k64 hs, sk_n64 hs, sk_k65 hs, sk_n65 hs, sk_k391 hs, sk_n391 hs, true_and, E1, if_pos c, e10, if_false, forall_eq, vt]
  rw [nI_clamp (by omega), h1]
  unfold p_X0_played_L29
  -- the two ends
  have fin : ∀ (v : Int32) (b : Nat → Int32) (μ1 : fw_M), stepS μ μ1 → (∃ st ns nd, iv_C μ1 65 b n tx st te tl ns nd) → (∀ Qm : Int32 → fw_M → Prop, (∀ μ2, stepM μ1 μ2 → m_I μ2 412 = b → Qm v μ2) → p_X5_played_L21 411 (nI t) 0 μ1 Qm) → Qs v μ1 := by
    intro v b μ1 s1 c1 hm
    refine H v μ1 ⟨by rw [s1.2.1], s1.2.2.2.2 1 (by decide) (by unfold sc_p; decide), sk_k64 s1.1, sk_k411 s1.1⟩ fun Qm hQ => ?_
    have g1 := s1.1
    have w1 : m_I μ1 412 = m_I μ 412 := s1.2.2.2.2 412 (by decide) (by unfold sc_p; decide)
    show p_X5_played 411 (nI t) μ1 Qm
    simp only [p_X5_played, m_in, sk_p411_0 g1, sk_p411_1 g1, sk_p411_2 g1, sk_p411_6 g1, sk_p411_7 g1, sk_p411_8 g1, sk_p411_9 g1, sk_p411_10 g1, sk_p411_11 g1, sk_p411_12 g1, sk_p411_22 g1, sk_p411_23 g1, sk_p411_25 g1, sk_p411_26 g1, sk_p411_30 g1, sk_p411_31 g1, sk_p411_32 g1, sk_p411_33 g1, sk_p411_35 g1, sk_p411_36 g1, sk_p411_37 g1, sk_p411_38 g1, sk_p411_39 g1, sk_p411_40 g1, sk_p411_42 g1, sk_p411_43 g1, sk_p411_44 g1, sk_p411_45 g1, sk_p411_46 g1, sk_k411 g1, sk_n411 g1, sk_k412 g1, sk_n412 g1, cl1, vp1_11120, true_and, w1, A1, if_pos c, e10, if_false]
    refine hm Qm fun μ2 s2 w2 => ?_
    obtain ⟨x, y⟩ := kp_step hI s1 s2 fun n2 tx2 st2 te2 tl2 ns2 nd2 C2 => by
      obtain ⟨e1, e2, e3, e4, e5⟩ := C_same C C2
      subst e1 e2 e3 e4 e5
      rw [w2]
      exact c1
    exact hQ μ2 x y
  -- the reference's run, with a witness for each row
  have mrun : ∀ (k : Nat) (μ1 : fw_M), stepS μ μ1 → k ≤ cl → (∀ j, j < k → okA lv (fun k => m_I μ 416 (24 * t + k)) (fun k => m_I μ 418 (24 * t + k)) (fun k => m_I μ 419 (24 * t + k)) (m_I μ 412) j = true ∧ ∃ ν st ns nd, iv_C ν 65 (sqA lv (fun k => m_I μ 416 (24 * t + k)) (fun k => m_I μ 418 (24 * t + k)) (fun k => m_I μ 419 (24 * t + k)) (m_I μ 412) j) n tx st te tl ns nd) → ∀ Qm : Int32 → fw_M → Prop,
      (k = cl → ∀ μ2, stepM μ1 μ2 → m_I μ2 412 = sqA lv (fun k => m_I μ 416 (24 * t + k)) (fun k => m_I μ 418 (24 * t + k)) (fun k => m_I μ 419 (24 * t + k)) (m_I μ 412) k → Qm (-1) μ2) →
      (k < cl → okA lv (fun k => m_I μ 416 (24 * t + k)) (fun k => m_I μ 418 (24 * t + k)) (fun k => m_I μ 419 (24 * t + k)) (m_I μ 412) k = false ∧ (∃ ν st ns nd, iv_C ν 65 (sqA lv (fun k => m_I μ 416 (24 * t + k)) (fun k => m_I μ 418 (24 * t + k)) (fun k => m_I μ 419 (24 * t + k)) (m_I μ 412) k) n tx st te tl ns nd) ∧ ∀ μ2, stepM μ1 μ2 → m_I μ2 412 = sqA lv (fun k => m_I μ 416 (24 * t + k)) (fun k => m_I μ 418 (24 * t + k)) (fun k => m_I μ 419 (24 * t + k)) (m_I μ 412) (k + 1) → Qm (nI k) μ2) → p_X5_played_L21 411 (nI t) 0 μ1 Qm := by
    intro k μ1 s1 hk hw Qm hend hbad
    unfold p_X5_played_L21
    have w1 : m_I μ1 412 = m_I μ 412 := s1.2.2.2.2 412 (by decide) (by unfold sc_p; decide)
    have far : ∀ (ν : fw_M), stepM μ1 ν → ∀ p, 415 ≤ p → p ≤ 421 → m_I ν p = m_I μ p := fun ν s p p1 p2 => (s.2.2.2.1 p (by omega) (by omega) (by unfold sc_p; omega)).trans (s1.2.2.2.2 p (by omega) (by unfold sc_p; omega))
    refine lp_to k (fun j (a : Int32 × fw_M) => a.1 = nI j ∧ stepM μ1 a.2 ∧ m_I a.2 412 = sqA lv (fun k => m_I μ 416 (24 * t + k)) (fun k => m_I μ 418 (24 * t + k)) (fun k => m_I μ 419 (24 * t + k)) (m_I μ 412) j) (fun j a hj hI K hK => ?_) (fun a hI K => ?_) ⟨rfl, stepM.rf, w1⟩
    · obtain ⟨i, ν⟩ := a
      obtain ⟨i1, i2, i3⟩ := hI
      dsimp only at i1 i2 i3
      subst i1
      show p_X5_played_L21b 411 (nI t) (fun i2 μ => K (i2, μ)) (nI j) ν Qm
      obtain ⟨ok, ν9, st9, ns9, nd9, C9⟩ := hw j hj
      refine m_clause (i2.sk s1.1) i3 C9 (l2.eq (by rw [i3, sqA_2]) (far ν i2)) l3 (by omega) (by omega) h13 (by omega) (by rw [far ν i2 415 (by decide) (by decide)]; exact h15) (fun hok ν1 s2 w2 => ?_) (fun hok ν1 s2 w2 => ?_)
      · rw [far ν i2 416 (by decide) (by decide), far ν i2 418 (by decide) (by decide), far ν i2 419 (by decide) (by decide)] at w2
        exact hK _ ⟨rfl, i2.tr s2, w2⟩
      · rw [far ν i2 416 (by decide) (by decide), far ν i2 418 (by decide) (by decide), far ν i2 419 (by decide) (by decide)] at hok
        have : okA lv (fun k => m_I μ 416 (24 * t + k)) (fun k => m_I μ 418 (24 * t + k)) (fun k => m_I μ 419 (24 * t + k)) (m_I μ 412) j = false := hok
        rw [ok] at this
        cases this
    · obtain ⟨i, ν⟩ := a
      obtain ⟨i1, i2, i3⟩ := hI
      dsimp only at i1 i2 i3
      subst i1
      show p_X5_played_L21b 411 (nI t) (fun i2 μ => K (i2, μ)) (nI k) ν Qm
      by_cases e : k = cl
      · have gs := i2.sk s1.1
        have h15' : m_I ν 415 t = nI cl := by rw [far ν i2 415 (by decide) (by decide)]; exact h15
        subst e
        unfold p_X5_played_L21b
        simp (disch := omega) only [sk_p411_0 gs, sk_p411_1 gs, sk_p411_2 gs, sk_p411_6 gs, sk_p411_7 gs, sk_p411_8 gs, sk_p411_9 gs, sk_p411_10 gs, sk_p411_11 gs, sk_p411_12 gs, sk_p411_22 gs, sk_p411_23 gs, sk_p411_25 gs, sk_p411_26 gs, sk_p411_30 gs, sk_p411_31 gs, sk_p411_32 gs, sk_p411_33 gs, sk_p411_35 gs, sk_p411_36 gs, sk_p411_37 gs, sk_p411_38 gs, sk_p411_39 gs, sk_p411_40 gs, sk_p411_42 gs, sk_p411_43 gs, sk_p411_44 gs, sk_p411_45 gs, sk_p411_46 gs, sk_k411 gs, sk_n411 gs, sk_k415 gs, sk_n415 gs, h15', nI_clamp, vp_t, true_and, nI_leI, Nat.le_refl, if_true]
        exact hend rfl ν i2 i3
      · obtain ⟨ok, ⟨ν9, st9, ns9, nd9, C9⟩, hq⟩ := hbad (by omega)
        refine m_clause (i2.sk s1.1) i3 C9 (l2.eq (by rw [i3, sqA_2]) (far ν i2)) l3 (by omega) (by omega) h13 (by omega) (by rw [far ν i2 415 (by decide) (by decide)]; exact h15) (fun hok ν1 s2 w2 => ?_) (fun hok ν1 s2 w2 => ?_)
        · rw [far ν i2 416 (by decide) (by decide), far ν i2 418 (by decide) (by decide), far ν i2 419 (by decide) (by decide)] at hok
          have : okA lv (fun k => m_I μ 416 (24 * t + k)) (fun k => m_I μ 418 (24 * t + k)) (fun k => m_I μ 419 (24 * t + k)) (m_I μ 412) k = true := hok
          rw [ok] at this
          cases this
        · rw [far ν i2 416 (by decide) (by decide), far ν i2 418 (by decide) (by decide), far ν i2 419 (by decide) (by decide)] at w2
          exact hq ν1 (i2.tr s2) w2
  refine lp_to cl (fun j (a : Int32 × fw_M) => a.1 = nI j ∧ stepS μ a.2 ∧ (∃ st ns nd, iv_C a.2 65 (sqA lv (fun k => m_I μ 416 (24 * t + k)) (fun k => m_I μ 418 (24 * t + k)) (fun k => m_I μ 419 (24 * t + k)) (m_I μ 412) j) n tx st te tl ns nd) ∧ ∀ i, i < j → okA lv (fun k => m_I μ 416 (24 * t + k)) (fun k => m_I μ 418 (24 * t + k)) (fun k => m_I μ 419 (24 * t + k)) (m_I μ 412) i = true ∧ ∃ ν st ns nd, iv_C ν 65 (sqA lv (fun k => m_I μ 416 (24 * t + k)) (fun k => m_I μ 418 (24 * t + k)) (fun k => m_I μ 419 (24 * t + k)) (m_I μ 412) i) n tx st te tl ns nd) (fun j a hj hI K hK => ?_) (fun a hI K => ?_) ⟨rfl, stepS.rf hs, ⟨st, ns, nd, C⟩, fun i h => absurd h (Nat.not_lt_zero _)⟩
  · obtain ⟨i, ν⟩ := a
    obtain ⟨i1, i2, ⟨st9, ns9, nd9, C9⟩, i4⟩ := hI
    dsimp only at i1 i2 C9 i4
    subst i1
    show p_X0_played_L29b 64 l (fun i2 μ => K (i2, μ)) (nI j) ν Qs
    have i : ∀ p, 441 ≤ p → m_I ν p = m_I μ p := fun p hp => i2.2.2.2.2 p (by omega) (by unfold sc_p; omega)
    have eK : m_K ν = m_K μ := funext fun p => congrArg (fun s : Nat → Nat × Nat => (s p).1) i2.2.1
    have eN : m_N ν = m_N μ := funext fun p => congrArg (fun s : Nat → Nat × Nat => (s p).2) i2.2.1
    have pl : m_P ν l 2 = lp := by rw [i2.2.2.2.1 l (by omega)]; exact h9
    have plp : m_P ν lp = m_P μ lp := i2.2.2.2.1 lp (by omega)
    have il : m_I ν l 3 = nI cl := by rw [i l h2]; exact h14
    unfold p_X0_played_L29b
    simp (disch := omega) only [eK, eN, ml_KS h4, ml_KS h12, ml_NS h12, pl, il, plp, nI_clamp, vp_t, true_and, nI_leI, Nat.not_le.mpr hj, if_false, forall_eq, nI_1]
    rcases hl j hj with ⟨z0, x, x1, x2⟩ | ⟨z1, z2, z3⟩
    · rw [if_pos z0]
      have ec : clA lv (m_I μ 416 (24 * t + j)) (m_I μ 418 (24 * t + j)) (m_I μ 419 (24 * t + j)) (sqA lv (fun k => m_I μ 416 (24 * t + k)) (fun k => m_I μ 418 (24 * t + k)) (fun k => m_I μ 419 (24 * t + k)) (m_I μ 412) j) = (true, sqA lv (fun k => m_I μ 416 (24 * t + k)) (fun k => m_I μ 418 (24 * t + k)) (fun k => m_I μ 419 (24 * t + k)) (m_I μ 412) j) := by
        unfold clA
        have nk : ∀ b : Nat, b < 10 → 2 < b → ¬ m_I μ 416 (24 * t + j) = nI b := fun b hb hb2 h => by
          rw [x2, nI_eq (by omega) (by omega)] at h
          omega
        rw [if_neg (show ¬ m_I μ 416 (24 * t + j) = (3 : Int32) from nk 3 (by decide) (by decide)), if_neg (show ¬ m_I μ 416 (24 * t + j) = (4 : Int32) from nk 4 (by decide) (by decide)), if_neg (show ¬ m_I μ 416 (24 * t + j) = (5 : Int32) from nk 5 (by decide) (by decide)), if_neg (show ¬ m_I μ 416 (24 * t + j) = (6 : Int32) from nk 6 (by decide) (by decide))]
      refine hK _ ⟨rfl, i2, ⟨st9, ns9, nd9, ?_⟩, fun i hi => ?_⟩
      · show iv_C ν 65 (clA lv _ _ _ _).2 n tx st9 te tl ns9 nd9
        rw [ec]; exact C9
      · by_cases e : i = j
        · subst e
          refine ⟨?_, ν, st9, ns9, nd9, C9⟩
          show (clA lv _ _ _ _).1 = true
          rw [ec]
        · exact i4 i (by omega)
    · rw [if_neg (by omega)]
      have ln : lnR ν (m_P μ lp j) (m_I μ 416 (24 * t + j)) (m_I μ 418 (24 * t + j)) (m_I μ 419 (24 * t + j)) := by
        unfold lnR
        rw [eK, i _ z1]
        exact z3
      have l1' := l1.step hs i2 (by rw [C9.2.1.2.2.1, sqA_2]; exact E2.symm)
      refine s_clause i2.1 C9 l1' l3 ln fun ν1 s1 ⟨st8, ns8, nd8, C8⟩ => ?_
      by_cases ok : okA lv (fun k => m_I μ 416 (24 * t + k)) (fun k => m_I μ 418 (24 * t + k)) (fun k => m_I μ 419 (24 * t + k)) (m_I μ 412) j = true
      · have ok' : (clA lv (m_I μ 416 (24 * t + j)) (m_I μ 418 (24 * t + j)) (m_I μ 419 (24 * t + j)) (sqA lv (fun k => m_I μ 416 (24 * t + k)) (fun k => m_I μ 418 (24 * t + k)) (fun k => m_I μ 419 (24 * t + k)) (m_I μ 412) j)).1 = true := ok
        rw [if_pos ok', if_neg (by decide)]
        refine hK _ ⟨rfl, i2.tr s1, ⟨st8, ns8, nd8, C8⟩, fun i hi => ?_⟩
        by_cases e : i = j
        · subst e
          exact ⟨ok, ν, st9, ns9, nd9, C9⟩
        · exact i4 i (by omega)
      · have ok' : ¬ (clA lv (m_I μ 416 (24 * t + j)) (m_I μ 418 (24 * t + j)) (m_I μ 419 (24 * t + j)) (sqA lv (fun k => m_I μ 416 (24 * t + k)) (fun k => m_I μ 418 (24 * t + k)) (fun k => m_I μ 419 (24 * t + k)) (m_I μ 412) j)).1 = true := ok
        rw [if_neg ok', if_pos rfl]
        refine fin (nI j) _ ν1 (i2.tr s1) ⟨st8, ns8, nd8, C8⟩ fun Qm hq => ?_
        exact mrun j ν1 (i2.tr s1) (by omega) i4 Qm (fun e => by omega) fun _ => ⟨eq_false_of_ne_true ok, ⟨ν, st9, ns9, nd9, C9⟩, hq⟩
  · obtain ⟨i, ν⟩ := a
    obtain ⟨i1, i2, i3, i4⟩ := hI
    dsimp only at i1 i2 i3 i4
    subst i1
    show p_X0_played_L29b 64 l (fun i2 μ => K (i2, μ)) (nI cl) ν Qs
    have eK : m_K ν = m_K μ := funext fun p => congrArg (fun s : Nat → Nat × Nat => (s p).1) i2.2.1
    have il : m_I ν l 3 = nI cl := by rw [i2.2.2.2.2 l (by omega) (by unfold sc_p; omega)]; exact h14
    unfold p_X0_played_L29b
    simp (disch := omega) only [eK, ml_KS h4, il, true_and, nI_leI, Nat.le_refl, if_true]
    refine fin (-1) _ ν i2 i3 fun Qm hq => ?_
    exact mrun cl ν i2 (Nat.le_refl _) i4 Qm (fun _ => hq) fun e => by omega
