/-! plain law: contrary, liars, inWhoseName -/
/-- the first that is found -/
def ff (p : Nat → Bool) : Nat → Option Nat
  | 0 => none
  | k + 1 => match ff p k with
    | some x => some x
    | none => if p k = true then some k else none
theorem ff_nx {p : Nat → Bool} {k : Nat} (h : ff p k = none) (g : ¬ p k = true) : ff p (k + 1) = none := by
  show (match ff p k with | some x => some x | none => if p k = true then some k else none) = none
  rw [h]
  exact if_neg g
theorem ff_st {p : Nat → Bool} {k : Nat} (h : ff p k = none) (g : p k = true) : ∀ {n : Nat}, k < n → ff p n = some k := by
  intro n
  induction n with
  | zero => intro q; exact absurd q (Nat.not_lt_zero _)
  | succ n ih =>
    intro q
    by_cases e : k = n
    · subst e
      show (match ff p k with | some x => some x | none => if p k = true then some k else none) = some k
      rw [h]
      exact if_pos g
    · show (match ff p n with | some x => some x | none => if p n = true then some n else none) = some k
      rw [ih (by omega)]
def coM (T : Nat → Nat → Int32) (k e : Nat) : Bool := decide (T e 0 = T k 0 ∧ T e 1 = T k 1 ∧ ¬ T e 2 = T k 2)
def coV (T : Nat → Nat → Int32) (nd : Nat) : Int32 := match ff (fun k => (ff (coM T k) k).isSome) nd with
  | none => -1
  | some k => match ff (coM T k) k with
    | none => -1
    | some e => 30 * nI e + nI k
theorem coV_some {T : Nat → Nat → Int32} {nd k e : Nat} (h1 : ff (fun k => (ff (coM T k) k).isSome) k = none) (h2 : ff (coM T k) e = none) (h3 : coM T k e = true) (hk : k < nd) (he : e < k) : coV T nd = 30 * nI e + nI k := by
  have a := ff_st h2 h3 he
  have b := ff_st h1 (by show (ff (coM T k) k).isSome = true; rw [a]; rfl) hk
  unfold coV
  rw [b]
  show (match ff (coM T k) k with | none => -1 | some e => 30 * nI e + nI k) = _
  rw [a]
theorem coV_none {T : Nat → Nat → Int32} {nd : Nat} (h1 : ff (fun k => (ff (coM T k) k).isSome) nd = none) : coV T nd = -1 := by
  unfold coV
  rw [h1]
theorem s_contrary {μ : fw_M} {nd : Nat} (hs : sk_m μ) (hnd : nd ≤ 30) (e4 : m_I μ 69 24 = nI nd) {Q : Int32 → fw_M → Prop} (hQ : Q (coV (fun i => m_I μ (164 + i)) nd) μ) : p_X0_contrary 64 μ Q := by
  unfold p_X0_contrary p_X0_contrary_L2
  refine lp_fn nd (fun k => (nI k, μ)) (fun k => ff (fun k => (ff (coM (fun i => m_I μ (164 + i)) k) k).isSome) k = none) (fun k hk hf K hK => ?_) (fun hf K => ?_) rfl rfl
  · show p_X0_contrary_L2b 64 (fun i1 μ => K (i1, μ)) (nI k) μ Q
    have qk := sk_q164 hs (p := 164 + k) (by omega) (by omega)
    unfold p_X0_contrary_L2b
    simp (disch := omega) only [e4, cl24, vp24_25, sk_p64_0 hs, sk_p64_1 hs, sk_p64_2 hs, sk_p64_3 hs, sk_p64_4 hs, sk_p64_5 hs, sk_p64_9 hs, sk_p64_10 hs, sk_p64_11 hs, sk_p65_6 hs, sk_p65_7 hs, sk_p65_8 hs, sk_p65_9 hs, sk_p65_10 hs, sk_p65_11 hs, sk_p65_12 hs, sk_p65_13 hs, sk_p65_14 hs, sk_p65_15 hs, sk_k64 hs, sk_n64 hs, sk_k65 hs, sk_n65 hs, sk_k69 hs, sk_n69 hs, sk_k163 hs, sk_n163 hs, sk_r163 hs, nI_clamp, vp_t, true_and, nI_leI, Nat.not_le.mpr hk, if_false, forall_eq]
    unfold p_X0_contrary_L28
    refine lp_fn k (fun e => (nI e, μ)) (fun e => ff (coM (fun i => m_I μ (164 + i)) k) e = none) (fun e he hf2 K2 hK2 => ?_) (fun hf2 K2 => ?_) rfl rfl
    · show p_X0_contrary_L28b (fun i1 μ => K (i1, μ)) 64 (nI k) (164 + k) (fun i3 μ => K2 (i3, μ)) (nI e) μ Q
      have qe := sk_q164 hs (p := 164 + e) (by omega) (by omega)
      have hK3 : ¬ coM (fun i => m_I μ (164 + i)) k e = true → K2 (nI (e + 1), μ) := fun h => hK2 (ff_nx hf2 h)
      unfold p_X0_contrary_L28b
      simp (disch := omega) only [sk_p64_0 hs, sk_p64_1 hs, sk_p64_2 hs, sk_p64_3 hs, sk_p64_4 hs, sk_p64_5 hs, sk_p64_9 hs, sk_p64_10 hs, sk_p64_11 hs, sk_p65_6 hs, sk_p65_7 hs, sk_p65_8 hs, sk_p65_9 hs, sk_p65_10 hs, sk_p65_11 hs, sk_p65_12 hs, sk_p65_13 hs, sk_p65_14 hs, sk_p65_15 hs, sk_k64 hs, sk_n64 hs, sk_k65 hs, sk_n65 hs, sk_k163 hs, sk_n163 hs, sk_r163 hs, qk.1, qk.2, qe.1, qe.2, nI_clamp, vp_t, cl0, cl1, cl2, li_0, li_1, li_2, true_and, nI_leI, Nat.not_le.mpr he, if_false, forall_eq, nI_add]
      by_cases c0 : m_I μ (164 + e) 0 = m_I μ (164 + k) 0
      · rw [if_pos c0]
        by_cases c1 : m_I μ (164 + e) 1 = m_I μ (164 + k) 1
        · rw [if_pos c1]
          by_cases c2 : m_I μ (164 + e) 2 = m_I μ (164 + k) 2
          · rw [if_pos c2]
            exact hK3 fun h => (of_decide_eq_true h).2.2 c2
          · rw [if_neg c2]
            rw [coV_some hf hf2 (decide_eq_true ⟨c0, c1, c2⟩) hk he] at hQ
            exact hQ
        · rw [if_neg c1]
          exact hK3 fun h => c1 (of_decide_eq_true h).2.1
      · rw [if_neg c0]
        exact hK3 fun h => c0 (of_decide_eq_true h).1
    · show p_X0_contrary_L28b (fun i1 μ => K (i1, μ)) 64 (nI k) (164 + k) (fun i3 μ => K2 (i3, μ)) (nI k) μ Q
      unfold p_X0_contrary_L28b
      simp (disch := omega) only [nI_leI, Nat.le_refl, if_true, forall_eq, nI_1]
      refine hK (ff_nx hf ?_)
      show ¬ (ff (coM (fun i => m_I μ (164 + i)) k) k).isSome = true
      rw [hf2]
      decide
  · show p_X0_contrary_L2b 64 (fun i1 μ => K (i1, μ)) (nI nd) μ Q
    unfold p_X0_contrary_L2b
    simp (disch := omega) only [e4, cl24, vp24_25, sk_p64_0 hs, sk_p64_1 hs, sk_p64_2 hs, sk_p64_3 hs, sk_p64_4 hs, sk_p64_5 hs, sk_p64_9 hs, sk_p64_10 hs, sk_p64_11 hs, sk_p65_6 hs, sk_p65_7 hs, sk_p65_8 hs, sk_p65_9 hs, sk_p65_10 hs, sk_p65_11 hs, sk_p65_12 hs, sk_p65_13 hs, sk_p65_14 hs, sk_p65_15 hs, sk_k64 hs, sk_n64 hs, sk_k65 hs, sk_n65 hs, sk_k69 hs, sk_n69 hs, true_and, nI_leI, Nat.le_refl, if_true]
    rw [coV_none hf] at hQ
    exact hQ
theorem m_contrary {μ : fw_M} {nd : Nat} (hs : sk_m μ) (hnd : nd ≤ 30) (e4 : m_I μ 412 373 = nI nd) {Q : Int32 → fw_M → Prop} (hQ : Q (coV (fun i j => m_I μ 412 (374 + 3 * i + j)) nd) μ) : p_X5_contrary 411 μ Q := by
  unfold p_X5_contrary p_X5_contrary_L2
  have z : nd = 0 → coV (fun i j => m_I μ 412 (374 + 3 * i + j)) nd = -1 := fun h => by rw [h]; rfl
  refine lp_fn (nd - 1) (fun k => (nI (k + 1), μ)) (fun k => nd ≠ 0 → ff (fun k => (ff (coM (fun i j => m_I μ 412 (374 + 3 * i + j)) k) k).isSome) (k + 1) = none) (fun k hk hf K hK => ?_) (fun hf K => ?_) rfl (fun _ => rfl)
  · show p_X5_contrary_L2b 411 (fun i1 μ => K (i1, μ)) (nI (k + 1)) μ Q
    have hf := hf (by omega)
    unfold p_X5_contrary_L2b
    simp (disch := omega) only [e4, cl373, vp373_11120, sk_p411_0 hs, sk_p411_1 hs, sk_p411_2 hs, sk_p411_6 hs, sk_p411_7 hs, sk_p411_8 hs, sk_p411_9 hs, sk_p411_10 hs, sk_p411_11 hs, sk_p411_12 hs, sk_p411_22 hs, sk_p411_23 hs, sk_p411_25 hs, sk_p411_26 hs, sk_p411_30 hs, sk_p411_31 hs, sk_p411_32 hs, sk_p411_33 hs, sk_p411_35 hs, sk_p411_36 hs, sk_p411_37 hs, sk_p411_38 hs, sk_p411_39 hs, sk_p411_40 hs, sk_p411_42 hs, sk_p411_43 hs, sk_p411_44 hs, sk_p411_45 hs, sk_p411_46 hs, sk_k411 hs, sk_n411 hs, sk_k412 hs, sk_n412 hs, true_and, nI_leI, Nat.not_le.mpr (show k + 1 < nd by omega), if_false]
    unfold p_X5_contrary_L16
    refine lp_fn (k + 1) (fun e => (nI e, μ)) (fun e => ff (coM (fun i j => m_I μ 412 (374 + 3 * i + j)) (k + 1)) e = none) (fun e he hf2 K2 hK2 => ?_) (fun hf2 K2 => ?_) rfl rfl
    · show p_X5_contrary_L16b (fun i1 μ => K (i1, μ)) 411 (nI (k + 1)) (fun i3 μ => K2 (i3, μ)) (nI e) μ Q
      have hK3 : ¬ coM (fun i j => m_I μ 412 (374 + 3 * i + j)) (k + 1) e = true → K2 (nI (e + 1), μ) := fun h => hK2 (ff_nx hf2 h)
      unfold p_X5_contrary_L16b
      simp (disch := omega) only [sk_p411_0 hs, sk_p411_1 hs, sk_p411_2 hs, sk_p411_6 hs, sk_p411_7 hs, sk_p411_8 hs, sk_p411_9 hs, sk_p411_10 hs, sk_p411_11 hs, sk_p411_12 hs, sk_p411_22 hs, sk_p411_23 hs, sk_p411_25 hs, sk_p411_26 hs, sk_p411_30 hs, sk_p411_31 hs, sk_p411_32 hs, sk_p411_33 hs, sk_p411_35 hs, sk_p411_36 hs, sk_p411_37 hs, sk_p411_38 hs, sk_p411_39 hs, sk_p411_40 hs, sk_p411_42 hs, sk_p411_43 hs, sk_p411_44 hs, sk_p411_45 hs, sk_p411_46 hs, sk_k411 hs, sk_n411 hs, sk_k412 hs, sk_n412 hs, nI_leI, Nat.not_le.mpr he, if_false, forall_eq, li_374, li_3, li_1, li_2, pk_mul, nI_add, nI_clamp, vp_t, true_and]
      by_cases c0 : m_I μ 412 (374 + 3 * e) = m_I μ 412 (374 + 3 * (k + 1))
      · rw [if_pos c0]
        by_cases c1 : m_I μ 412 (374 + 3 * e + 1) = m_I μ 412 (374 + 3 * (k + 1) + 1)
        · rw [if_pos c1]
          by_cases c2 : m_I μ 412 (374 + 3 * e + 2) = m_I μ 412 (374 + 3 * (k + 1) + 2)
          · rw [if_pos c2]
            exact hK3 fun h => (of_decide_eq_true h).2.2 c2
          · rw [if_neg c2]
            rw [coV_some hf hf2 (decide_eq_true ⟨c0, c1, c2⟩) (show k + 1 < nd by omega) he] at hQ
            rw [show (30 : Int32) * nI e + nI (k + 1) = nI (30 * e + (k + 1)) by rw [li_30, pk_mul, nI_add]] at hQ
            simp only [li_30, pk_mul, nI_add]
            exact hQ
        · rw [if_neg c1]
          exact hK3 fun h => c1 (of_decide_eq_true h).2.1
      · rw [if_neg c0]
        exact hK3 fun h => c0 (of_decide_eq_true h).1
    · show p_X5_contrary_L16b (fun i1 μ => K (i1, μ)) 411 (nI (k + 1)) (fun i3 μ => K2 (i3, μ)) (nI (k + 1)) μ Q
      unfold p_X5_contrary_L16b
      simp (disch := omega) only [nI_leI, Nat.le_refl, if_true, forall_eq, nI_1]
      refine hK fun _ => ff_nx hf ?_
      show ¬ (ff (coM (fun i j => m_I μ 412 (374 + 3 * i + j)) (k + 1)) (k + 1)).isSome = true
      rw [hf2]
      decide
  · show p_X5_contrary_L2b 411 (fun i1 μ => K (i1, μ)) (nI (nd - 1 + 1)) μ Q
    unfold p_X5_contrary_L2b
    simp (disch := omega) only [e4, cl373, vp373_11120, sk_p411_0 hs, sk_p411_1 hs, sk_p411_2 hs, sk_p411_6 hs, sk_p411_7 hs, sk_p411_8 hs, sk_p411_9 hs, sk_p411_10 hs, sk_p411_11 hs, sk_p411_12 hs, sk_p411_22 hs, sk_p411_23 hs, sk_p411_25 hs, sk_p411_26 hs, sk_p411_30 hs, sk_p411_31 hs, sk_p411_32 hs, sk_p411_33 hs, sk_p411_35 hs, sk_p411_36 hs, sk_p411_37 hs, sk_p411_38 hs, sk_p411_39 hs, sk_p411_40 hs, sk_p411_42 hs, sk_p411_43 hs, sk_p411_44 hs, sk_p411_45 hs, sk_p411_46 hs, sk_k411 hs, sk_n411 hs, sk_k412 hs, sk_n412 hs, true_and, nI_leI, show nd ≤ nd - 1 + 1 by omega, if_true]
    by_cases h0 : nd = 0
    · rw [z h0] at hQ
      exact hQ
    · have := hf h0
      rw [show nd - 1 + 1 = nd by omega] at this
      rw [coV_none this] at hQ
      exact hQ
theorem ff_cong {p q : Nat → Bool} : ∀ {n : Nat}, (∀ k, k < n → p k = q k) → ff p n = ff q n := by
  intro n
  induction n with
  | zero => intro _; rfl
  | succ n ih =>
    intro h
    show (match ff p n with | some x => some x | none => if p n = true then some n else none) = (match ff q n with | some x => some x | none => if q n = true then some n else none)
    rw [ih fun k hk => h k (by omega), h n (by omega)]
theorem coV_cong {T T' : Nat → Nat → Int32} {nd : Nat} (h : ∀ i, i < nd → ∀ j, j < 3 → T i j = T' i j) : coV T nd = coV T' nd := by
  have m : ∀ k, k < nd → ∀ e, e < nd → coM T k e = coM T' k e := by
    intro k hk e he
    unfold coM
    rw [h k hk 0 (by decide), h k hk 1 (by decide), h k hk 2 (by decide), h e he 0 (by decide), h e he 1 (by decide), h e he 2 (by decide)]
  have f : ∀ k, k < nd → ff (coM T k) k = ff (coM T' k) k := fun k hk => ff_cong fun e he => m k hk e (by omega)
  unfold coV
  rw [ff_cong (p := fun k => (ff (coM T k) k).isSome) (q := fun k => (ff (coM T' k) k).isSome) fun k hk => by show (ff (coM T k) k).isSome = _; rw [f k hk]]
  cases hc : ff (fun k => (ff (coM T' k) k).isSome) nd with
  | none => rfl
  | some k =>
    have hk : k < nd := by
      apply Classical.byContradiction
      intro q
      have lt : ∀ {p : Nat → Bool} {n x : Nat}, ff p n = some x → x < n := by
        intro p n
        induction n with
        | zero => intro x h; cases h
        | succ n ih =>
          intro x h
          cases hn : ff p n with
          | some y =>
            have : (match ff p n with | some x => some x | none => if p n = true then some n else none) = some x := h
            rw [hn] at this
            cases this
            have := ih hn
            omega
          | none =>
            have : (match ff p n with | some x => some x | none => if p n = true then some n else none) = some x := h
            rw [hn] at this
            by_cases c : p n = true
            · simp only [if_pos c] at this
              cases this
              omega
            · simp only [if_neg c] at this
              cases this
      exact q (lt hc)
    show (match ff (coM T k) k with | none => -1 | some e => 30 * nI e + nI k) = (match ff (coM T' k) k with | none => -1 | some e => 30 * nI e + nI k)
    rw [f k hk]
theorem op_contrary : iv_op2 (α := Int32) (fun μ Q => p_X0_contrary 64 μ Q) (fun μ Q => p_X5_contrary 411 μ Q) := by
  refine op_ro fun L xs z μ hI => ?_
  obtain ⟨hs, -, -, n, tx, st, te, tl, ns, nd, n', tx', st', te', tl', ns', nd', tp, hC, -⟩ := hI
  obtain ⟨-, -, -, -, -, hR, hrec, -⟩ := hC
  have b : nd ≤ 30 := hR.2.2.2.2.2.2.2.2.2.1
  refine ⟨coV (fun i => m_I μ (164 + i)) nd, fun Q h => s_contrary hs b hR.2.2.2.2.2.1 h, fun Q h => m_contrary hs b hR.2.2.2.2.2.2.2.1 ?_⟩
  rw [coV_cong (T := fun i => m_I μ (164 + i)) (T' := fun i j => m_I μ 412 (374 + 3 * i + j)) fun i hi j hj => ?_] at h
  · exact h
  · have := hrec.2 i hi j hj
    unfold iv_sh at this
    rw [show 110 + (264 + 3 * i + j) = 374 + 3 * i + j by omega] at this
    exact this
def tlS (T : Nat → Nat → Int32) (e : Nat) : Nat → Int32
  | 0 => 0
  | k + 1 => tlS T e k + (if T k 0 = nI e then T k 1 else 0)
theorem tlS_cong {T T' : Nat → Nat → Int32} {e : Nat} : ∀ {k : Nat}, (∀ i, i < k → ∀ j, j < 2 → T i j = T' i j) → tlS T e k = tlS T' e k := by
  intro k
  induction k with
  | zero => intro _; rfl
  | succ k ih =>
    intro h
    unfold tlS
    rw [ih fun i hi j hj => h i (by omega) j hj, h k (by omega) 0 (by decide), h k (by omega) 1 (by decide)]
theorem tlS_nI {T : Nat → Nat → Int32} {e : Nat} : ∀ {k : Nat}, (∀ i, i < k → ∃ x, x ≤ 999 ∧ T i 1 = nI x) → ∃ t, t ≤ 999 * k ∧ tlS T e k = nI t := by
  intro k
  induction k with
  | zero => intro _; exact ⟨0, by omega, rfl⟩
  | succ k ih =>
    intro h
    obtain ⟨t, t1, t2⟩ := ih fun i hi => h i (by omega)
    unfold tlS
    rw [t2]
    by_cases c : T k 0 = nI e
    · obtain ⟨x, x1, x2⟩ := h k (by omega)
      rw [if_pos c, x2, nI_add]
      exact ⟨t + x, by omega, rfl⟩
    · rw [if_neg c, Int32.add_zero]
      exact ⟨t, by omega, rfl⟩
/-- what was told of e less what it ate -/
def unl (T : Nat → Nat → Int32) (mr : Nat → Int32) (tl ns e : Nat) : Int32 := tlS T e tl - iv_sum mr e ns
section UNL
variable {μ : fw_M} {tl ns n : Nat} {T : Nat → Nat → Int32} {mr : Nat → Int32}
theorem s_unlike (hs : sk_m μ) (htl : tl ≤ 20) (hns : ns ≤ 60) (e5 : m_I μ 65 5 = nI tl) (e23 : m_I μ 69 23 = nI ns) (hT : ∀ i, i < tl → ∀ j, j < 2 → m_I μ (208 + i) j = T i j) (hm : ∀ i, i < ns → ∀ j, j < 4 → m_I μ (103 + i) j = mr (23 + 4 * i + j)) {e : Nat} {Q : Int32 → fw_M → Prop} (hQ : Q (unl T mr tl ns e) μ) : p_X0_unlike 64 (nI e) μ Q := by
  unfold p_X0_unlike p_X0_unlike_L4
  refine lp_fn tl (fun k => (tlS T e k, nI k, μ)) (fun _ => True) (fun k hk _ K hK => ?_) (fun _ K => ?_) rfl trivial
  · show p_X0_unlike_L4b 64 (nI e) (fun i2 i3 μ => K (i2, i3, μ)) (tlS T e k) (nI k) μ Q
    have hK := hK trivial
    have q := sk_q208 hs (p := 208 + k) (by omega) (by omega)
    have e1 : tlS T e (k + 1) = tlS T e k + (if T k 0 = nI e then T k 1 else 0) := rfl
    simp only [e1] at hK
    unfold p_X0_unlike_L4b
    simp (disch := omega) only [e5, sk_p64_0 hs, sk_p64_1 hs, sk_p64_2 hs, sk_p64_3 hs, sk_p64_4 hs, sk_p64_5 hs, sk_p64_9 hs, sk_p64_10 hs, sk_p64_11 hs, sk_p65_6 hs, sk_p65_7 hs, sk_p65_8 hs, sk_p65_9 hs, sk_p65_10 hs, sk_p65_11 hs, sk_p65_12 hs, sk_p65_13 hs, sk_p65_14 hs, sk_p65_15 hs, sk_k64 hs, sk_n64 hs, sk_k65 hs, sk_n65 hs, sk_k207 hs, sk_n207 hs, sk_r207 hs, q.1, q.2, cl0, cl1, li_1, nI_clamp, vp_t, true_and, nI_leI, Nat.not_le.mpr hk, if_false, forall_eq, nI_add]
    have v0 : vp_in (0 : Int32) 2 = True := vp_t (n := 0) (by decide) (by decide)
    simp only [v0, true_and]
    rw [hT k hk 0 (by decide)]
    by_cases c : T k 0 = nI e
    · rw [if_pos c] at hK ⊢
      rw [hT k hk 1 (by decide)]
      exact hK
    · rw [if_neg c] at hK ⊢
      exact hK
  · show p_X0_unlike_L4b 64 (nI e) (fun i2 i3 μ => K (i2, i3, μ)) (tlS T e tl) (nI tl) μ Q
    unfold p_X0_unlike_L4b
    simp (disch := omega) only [e5, sk_p64_0 hs, sk_p64_1 hs, sk_p64_2 hs, sk_p64_3 hs, sk_p64_4 hs, sk_p64_5 hs, sk_p64_9 hs, sk_p64_10 hs, sk_p64_11 hs, sk_p65_6 hs, sk_p65_7 hs, sk_p65_8 hs, sk_p65_9 hs, sk_p65_10 hs, sk_p65_11 hs, sk_p65_12 hs, sk_p65_13 hs, sk_p65_14 hs, sk_p65_15 hs, sk_k64 hs, sk_n64 hs, sk_k65 hs, sk_n65 hs, true_and, nI_leI, Nat.le_refl, if_true]
    unfold p_X0_unlike_L56
    refine lp_fn ns (fun k => (tlS T e tl - iv_sum mr e k, nI k, μ)) (fun _ => True) (fun k hk _ K hK => ?_) (fun _ K => ?_) (by rw [show iv_sum mr e 0 = 0 from rfl, Int32.sub_zero]; rfl) trivial
    · show p_X0_unlike_L56b 64 (nI e) (fun i2 i3 μ => K (i2, i3, μ)) (tlS T e tl - iv_sum mr e k) (nI k) μ Q
      have hK := hK trivial
      have q := sk_q103 hs (p := 103 + k) (by omega) (by omega)
      have e1 : tlS T e tl - iv_sum mr e (k + 1) = tlS T e tl - iv_sum mr e k - (if mr (23 + 4 * k) = nI e then mr (23 + 4 * k + 3) else 0) := by
        rw [Int32.sub_sub]
        rfl
      simp only [e1] at hK
      unfold p_X0_unlike_L56b
      simp (disch := omega) only [e23, cl23, vp23_25, sk_p64_0 hs, sk_p64_1 hs, sk_p64_2 hs, sk_p64_3 hs, sk_p64_4 hs, sk_p64_5 hs, sk_p64_9 hs, sk_p64_10 hs, sk_p64_11 hs, sk_p65_6 hs, sk_p65_7 hs, sk_p65_8 hs, sk_p65_9 hs, sk_p65_10 hs, sk_p65_11 hs, sk_p65_12 hs, sk_p65_13 hs, sk_p65_14 hs, sk_p65_15 hs, sk_k64 hs, sk_n64 hs, sk_k65 hs, sk_n65 hs, sk_k69 hs, sk_n69 hs, sk_k102 hs, sk_n102 hs, sk_r102 hs, q.1, q.2, cl0, cl3, li_1, li_3, nI_clamp, vp_t, true_and, nI_leI, Nat.not_le.mpr hk, if_false, forall_eq, nI_add]
      have v0 : vp_in (0 : Int32) 4 = True := vp_t (n := 0) (by decide) (by decide)
      simp only [v0, true_and]
      rw [hm k hk 0 (by decide), Nat.add_zero]
      by_cases c : mr (23 + 4 * k) = nI e
      · rw [if_pos c] at hK ⊢
        rw [hm k hk 3 (by decide)]
        exact hK
      · rw [if_neg c] at hK ⊢
        exact hK
    · show p_X0_unlike_L56b 64 (nI e) (fun i2 i3 μ => K (i2, i3, μ)) (tlS T e tl - iv_sum mr e ns) (nI ns) μ Q
      unfold p_X0_unlike_L56b
      simp (disch := omega) only [e23, cl23, vp23_25, sk_p64_0 hs, sk_p64_1 hs, sk_p64_2 hs, sk_p64_3 hs, sk_p64_4 hs, sk_p64_5 hs, sk_p64_9 hs, sk_p64_10 hs, sk_p64_11 hs, sk_p65_6 hs, sk_p65_7 hs, sk_p65_8 hs, sk_p65_9 hs, sk_p65_10 hs, sk_p65_11 hs, sk_p65_12 hs, sk_p65_13 hs, sk_p65_14 hs, sk_p65_15 hs, sk_k64 hs, sk_n64 hs, sk_k65 hs, sk_n65 hs, sk_k69 hs, sk_n69 hs, true_and, nI_leI, Nat.le_refl, if_true]
      exact hQ
theorem m_toldMore (hs : sk_m μ) (htl : tl ≤ 20) (e5 : m_I μ 412 5 = nI tl) (hT : ∀ i, i < tl → ∀ j, j < 2 → m_I μ 412 (64 + 2 * i + j) = T i j) {e : Nat} (he : e < 9) (hm : m_I μ 412 (123 + e) = iv_sum mr e ns) {Q : Int32 → fw_M → Prop} (hQ : Q (unl T mr tl ns e) μ) : p_X5_toldMore 411 (nI e) μ Q := by
  unfold p_X5_toldMore
  simp (disch := omega) only [sk_p411_0 hs, sk_p411_1 hs, sk_p411_2 hs, sk_p411_6 hs, sk_p411_7 hs, sk_p411_8 hs, sk_p411_9 hs, sk_p411_10 hs, sk_p411_11 hs, sk_p411_12 hs, sk_p411_22 hs, sk_p411_23 hs, sk_p411_25 hs, sk_p411_26 hs, sk_p411_30 hs, sk_p411_31 hs, sk_p411_32 hs, sk_p411_33 hs, sk_p411_35 hs, sk_p411_36 hs, sk_p411_37 hs, sk_p411_38 hs, sk_p411_39 hs, sk_p411_40 hs, sk_p411_42 hs, sk_p411_43 hs, sk_p411_44 hs, sk_p411_45 hs, sk_p411_46 hs, sk_k411 hs, sk_n411 hs, sk_k412 hs, sk_n412 hs, li_123, nI_add, nI_clamp, vp_t, true_and, forall_eq, hm]
  unfold p_X5_toldMore_L13
  refine lp_fn tl (fun k => (-iv_sum mr e ns + tlS T e k, nI k, μ)) (fun _ => True) (fun k hk _ K hK => ?_) (fun _ K => ?_) (by rw [show tlS T e 0 = 0 from rfl, Int32.add_zero]; rfl) trivial
  · show p_X5_toldMore_L13b 411 (nI e) (fun i2 i3 μ => K (i2, i3, μ)) (-iv_sum mr e ns + tlS T e k) (nI k) μ Q
    have hK := hK trivial
    have e1 : -iv_sum mr e ns + tlS T e (k + 1) = -iv_sum mr e ns + tlS T e k + (if T k 0 = nI e then T k 1 else 0) := by
      rw [Int32.add_assoc]
      rfl
    simp only [e1] at hK
    unfold p_X5_toldMore_L13b
    simp (disch := omega) only [e5, cl5, vp5_11120, sk_p411_0 hs, sk_p411_1 hs, sk_p411_2 hs, sk_p411_6 hs, sk_p411_7 hs, sk_p411_8 hs, sk_p411_9 hs, sk_p411_10 hs, sk_p411_11 hs, sk_p411_12 hs, sk_p411_22 hs, sk_p411_23 hs, sk_p411_25 hs, sk_p411_26 hs, sk_p411_30 hs, sk_p411_31 hs, sk_p411_32 hs, sk_p411_33 hs, sk_p411_35 hs, sk_p411_36 hs, sk_p411_37 hs, sk_p411_38 hs, sk_p411_39 hs, sk_p411_40 hs, sk_p411_42 hs, sk_p411_43 hs, sk_p411_44 hs, sk_p411_45 hs, sk_p411_46 hs, sk_k411 hs, sk_n411 hs, sk_k412 hs, sk_n412 hs, li_64, li_2, li_1, pk_mul, nI_add, nI_clamp, vp_t, true_and, nI_leI, Nat.not_le.mpr hk, if_false, forall_eq]
    have h0 := hT k hk 0 (by decide)
    rw [Nat.add_zero] at h0
    rw [h0, hT k hk 1 (by decide)]
    by_cases c : T k 0 = nI e
    · rw [if_pos c] at hK ⊢
      exact hK
    · rw [if_neg c] at hK ⊢
      exact hK
  · show p_X5_toldMore_L13b 411 (nI e) (fun i2 i3 μ => K (i2, i3, μ)) (-iv_sum mr e ns + tlS T e tl) (nI tl) μ Q
    unfold p_X5_toldMore_L13b
    simp (disch := omega) only [e5, cl5, vp5_11120, sk_p411_0 hs, sk_p411_1 hs, sk_p411_2 hs, sk_p411_6 hs, sk_p411_7 hs, sk_p411_8 hs, sk_p411_9 hs, sk_p411_10 hs, sk_p411_11 hs, sk_p411_12 hs, sk_p411_22 hs, sk_p411_23 hs, sk_p411_25 hs, sk_p411_26 hs, sk_p411_30 hs, sk_p411_31 hs, sk_p411_32 hs, sk_p411_33 hs, sk_p411_35 hs, sk_p411_36 hs, sk_p411_37 hs, sk_p411_38 hs, sk_p411_39 hs, sk_p411_40 hs, sk_p411_42 hs, sk_p411_43 hs, sk_p411_44 hs, sk_p411_45 hs, sk_p411_46 hs, sk_k411 hs, sk_n411 hs, sk_k412 hs, sk_n412 hs, true_and, nI_leI, Nat.le_refl, if_true]
    rw [Int32.add_comm, Int32.add_neg_eq_sub]
    exact hQ
end UNL
def liS (U : Nat → Int32) : Nat → Int32
  | 0 => 0
  | e + 1 => liS U e ||| (if U e = 0 then 0 else (1 : Int32) <<< (nI e &&& 31))
theorem op_liars : iv_op2 (α := Int32) (fun μ Q => p_X0_liars 64 μ Q) (fun μ Q => p_X5_liars 411 μ Q) := by
  refine op_ro fun L xs z μ hI => ?_
  obtain ⟨hs, -, -, n, tx, st, te, tl, ns, nd, n', tx', st', te', tl', ns', nd', tp, hC, -⟩ := hI
  obtain ⟨⟨q1, q2, q3, q4, q5⟩, ⟨E0, E1, E2, E3, E4, E5⟩, ⟨A0, A1, A3, A4, A5⟩, -, -, hR, hrec, -, -, y2, -⟩ := hC
  have b1 : ns ≤ 60 := hR.2.2.2.2.2.2.2.2.1
  have r5 : m_I μ 69 23 = nI ns := hR.2.2.2.2.1
  have hsum : ∀ e, e < 9 → m_I μ 412 (123 + e) = iv_sum (iv_sh (m_I μ 412) 110) e ns := by
    intro e he
    have := hR.2.2.2.2.2.2.2.2.2.2.2.2.2.2 e he
    rw [← this]
    unfold iv_sh
    rw [show 110 + (13 + e) = 123 + e by omega]
  have su : ∀ (e : Nat) (Q : Int32 → fw_M → Prop), Q (unl (fun i j => m_I μ 412 (64 + 2 * i + j)) (iv_sh (m_I μ 412) 110) tl ns e) μ → p_X0_unlike 64 (nI e) μ Q := fun e Q h => s_unlike hs q5 b1 E5 r5 y2 hrec.1 h
  have mu : ∀ (e : Nat) (he : e < 9) (Q : Int32 → fw_M → Prop), Q (unl (fun i j => m_I μ 412 (64 + 2 * i + j)) (iv_sh (m_I μ 412) 110) tl ns e) μ → p_X5_toldMore 411 (nI e) μ Q := fun e he Q h => m_toldMore hs q5 A5 (fun i hi j hj => rfl) he (hsum e he) h
  generalize unl (fun i j => m_I μ 412 (64 + 2 * i + j)) (iv_sh (m_I μ 412) 110) tl ns = U at su mu
  refine ⟨liS U n, fun Q h => ?_, fun Q h => ?_⟩
  · unfold p_X0_liars p_X0_liars_L4
    refine lp_fn n (fun k => (liS U k, nI k, μ)) (fun _ => True) (fun k hk _ K hK => ?_) (fun _ K => ?_) rfl trivial
    · show p_X0_liars_L4b 64 (fun i2 i3 μ => K (i2, i3, μ)) (liS U k) (nI k) μ Q
      have hK := hK trivial
      have e1 : liS U (k + 1) = liS U k ||| (if U k = 0 then 0 else (1 : Int32) <<< (nI k &&& 31)) := rfl
      simp only [e1, nI_succ] at hK
      unfold p_X0_liars_L4b
      simp (disch := omega) only [sk_p64_0 hs, sk_p64_1 hs, sk_p64_2 hs, sk_p64_3 hs, sk_p64_4 hs, sk_p64_5 hs, sk_p64_9 hs, sk_p64_10 hs, sk_p64_11 hs, sk_p65_6 hs, sk_p65_7 hs, sk_p65_8 hs, sk_p65_9 hs, sk_p65_10 hs, sk_p65_11 hs, sk_p65_12 hs, sk_p65_13 hs, sk_p65_14 hs, sk_p65_15 hs, sk_k64 hs, sk_n64 hs, sk_k65 hs, sk_n65 hs, E0, true_and, nI_leI, Nat.not_le.mpr hk, if_false]
      refine su k _ ?_
      by_cases c : U k = 0
      · simp only [if_pos c, forall_eq] at hK ⊢
        exact hK
      · simp only [if_neg c, forall_eq] at hK ⊢
        exact hK
    · show p_X0_liars_L4b 64 (fun i2 i3 μ => K (i2, i3, μ)) (liS U n) (nI n) μ Q
      unfold p_X0_liars_L4b
      simp (disch := omega) only [sk_p64_0 hs, sk_p64_1 hs, sk_p64_2 hs, sk_p64_3 hs, sk_p64_4 hs, sk_p64_5 hs, sk_p64_9 hs, sk_p64_10 hs, sk_p64_11 hs, sk_p65_6 hs, sk_p65_7 hs, sk_p65_8 hs, sk_p65_9 hs, sk_p65_10 hs, sk_p65_11 hs, sk_p65_12 hs, sk_p65_13 hs, sk_p65_14 hs, sk_p65_15 hs, sk_k64 hs, sk_n64 hs, sk_k65 hs, sk_n65 hs, E0, true_and, nI_leI, Nat.le_refl, if_true]
      exact h
  · unfold p_X5_liars p_X5_liars_L4
    refine lp_fn n (fun k => (liS U k, nI k, μ)) (fun _ => True) (fun k hk _ K hK => ?_) (fun _ K => ?_) rfl trivial
    · show p_X5_liars_L4b 411 (fun i2 i3 μ => K (i2, i3, μ)) (liS U k) (nI k) μ Q
      have hK := hK trivial
      have e1 : liS U (k + 1) = liS U k ||| (if U k = 0 then 0 else (1 : Int32) <<< (nI k &&& 31)) := rfl
      simp only [e1, nI_succ] at hK
      unfold p_X5_liars_L4b
      simp (disch := omega) only [sk_p411_0 hs, sk_p411_1 hs, sk_p411_2 hs, sk_p411_6 hs, sk_p411_7 hs, sk_p411_8 hs, sk_p411_9 hs, sk_p411_10 hs, sk_p411_11 hs, sk_p411_12 hs, sk_p411_22 hs, sk_p411_23 hs, sk_p411_25 hs, sk_p411_26 hs, sk_p411_30 hs, sk_p411_31 hs, sk_p411_32 hs, sk_p411_33 hs, sk_p411_35 hs, sk_p411_36 hs, sk_p411_37 hs, sk_p411_38 hs, sk_p411_39 hs, sk_p411_40 hs, sk_p411_42 hs, sk_p411_43 hs, sk_p411_44 hs, sk_p411_45 hs, sk_p411_46 hs, sk_k411 hs, sk_n411 hs, sk_k412 hs, sk_n412 hs, cl0, vp0_11120, A0, true_and, nI_leI, Nat.not_le.mpr hk, if_false]
      refine mu k (by omega) _ ?_
      by_cases c : U k = 0
      · simp only [if_pos c, forall_eq] at hK ⊢
        exact hK
      · simp only [if_neg c, forall_eq] at hK ⊢
        exact hK
    · show p_X5_liars_L4b 411 (fun i2 i3 μ => K (i2, i3, μ)) (liS U n) (nI n) μ Q
      unfold p_X5_liars_L4b
      simp (disch := omega) only [sk_p411_0 hs, sk_p411_1 hs, sk_p411_2 hs, sk_p411_6 hs, sk_p411_7 hs, sk_p411_8 hs, sk_p411_9 hs, sk_p411_10 hs, sk_p411_11 hs, sk_p411_12 hs, sk_p411_22 hs, sk_p411_23 hs, sk_p411_25 hs, sk_p411_26 hs, sk_p411_30 hs, sk_p411_31 hs, sk_p411_32 hs, sk_p411_33 hs, sk_p411_35 hs, sk_p411_36 hs, sk_p411_37 hs, sk_p411_38 hs, sk_p411_39 hs, sk_p411_40 hs, sk_p411_42 hs, sk_p411_43 hs, sk_p411_44 hs, sk_p411_45 hs, sk_p411_46 hs, sk_k411 hs, sk_n411 hs, sk_k412 hs, sk_n412 hs, cl0, vp0_11120, A0, true_and, nI_leI, Nat.le_refl, if_true]
      exact h
theorem op_inWhoseName (a0 : Int32) : iv_op2 (α := Int32) (fun μ Q => p_X0_inWhoseName 64 a0 μ Q) (fun μ Q => p_X5_inWhoseName 411 a0 μ Q) := by
  refine op_ro fun L xs z μ hI => ?_
  obtain ⟨hs, -, -, n, tx, st, te, tl, ns, nd, n', tx', st', te', tl', ns', nd', tp, hC, -⟩ := hI
  obtain ⟨⟨q1, q2, q3, q4, q5⟩, ⟨E0, E1, E2, E3, E4, E5⟩, ⟨A0, A1, A3, A4, A5⟩, -, -, hR, hrec, -, -, y2, -, y4⟩ := hC
  have b1 : ns ≤ 60 := hR.2.2.2.2.2.2.2.2.1
  have r5 : m_I μ 69 23 = nI ns := hR.2.2.2.2.1
  have hsum : ∀ e, e < 9 → m_I μ 412 (123 + e) = iv_sum (iv_sh (m_I μ 412) 110) e ns := by
    intro e he
    have := hR.2.2.2.2.2.2.2.2.2.2.2.2.2.2 e he
    rw [← this]
    unfold iv_sh
    rw [show 110 + (13 + e) = 123 + e by omega]
  have hb : ∀ e, e < 9 → unl (fun i j => m_I μ 412 (64 + 2 * i + j)) (iv_sh (m_I μ 412) 110) tl ns e < 0 → ¬ unl (fun i j => m_I μ 412 (64 + 2 * i + j)) (iv_sh (m_I μ 412) 110) tl ns e = -unl (fun i j => m_I μ 412 (64 + 2 * i + j)) (iv_sh (m_I μ 412) 110) tl ns e := by
    intro e he h0 h1
    obtain ⟨g, g1, g2⟩ := hR.2.2.2.2.2.2.2.2.2.2.2.2.1 e he
    rw [hR.2.2.2.2.2.2.2.2.2.2.2.2.2.2 e he] at g2
    obtain ⟨t, t1, t2⟩ := tlS_nI (T := fun i j => m_I μ 412 (64 + 2 * i + j)) (e := e) (k := tl) fun i hi => by
      obtain ⟨x, x1, x2, x3⟩ := (y4 i hi).2
      exact ⟨x, x2, (y2 i hi 1 (by decide)).symm.trans x3⟩
    unfold unl at h0 h1
    rw [t2, g2] at h0 h1
    have z : (0 : Int32).toInt = 0 := by decide
    have e1 : (nI t - nI g).toInt = (t : Int) - g := pk_sub_toInt (by omega) (by omega)
    have e2 : (nI g - nI t).toInt = (g : Int) - t := pk_sub_toInt (by omega) (by omega)
    rw [Int32.neg_sub, ← Int32.toInt_inj, e1, e2] at h1
    rw [Int32.lt_iff_toInt_lt, e1, z] at h0
    omega
  have su : ∀ (e : Nat) (Q : Int32 → fw_M → Prop), Q (unl (fun i j => m_I μ 412 (64 + 2 * i + j)) (iv_sh (m_I μ 412) 110) tl ns e) μ → p_X0_unlike 64 (nI e) μ Q := fun e Q h => s_unlike hs q5 b1 E5 r5 y2 hrec.1 h
  have mu : ∀ (e : Nat) (he : e < 9) (Q : Int32 → fw_M → Prop), Q (unl (fun i j => m_I μ 412 (64 + 2 * i + j)) (iv_sh (m_I μ 412) 110) tl ns e) μ → p_X5_toldMore 411 (nI e) μ Q := fun e he Q h => m_toldMore hs q5 A5 (fun i hi j hj => rfl) he (hsum e he) h
  generalize unl (fun i j => m_I μ 412 (64 + 2 * i + j)) (iv_sh (m_I μ 412) 110) tl ns = U at su mu hb
  by_cases c : inB a0 0 (nI n - 1)
  rotate_left
  · refine ⟨-1, fun Q h => ?_, fun Q h => ?_⟩
    · simp only [p_X0_inWhoseName, p_X0_isEater, s_in, sk_p64_0 hs, sk_p64_1 hs, sk_p64_2 hs, sk_p64_3 hs, sk_p64_4 hs, sk_p64_5 hs, sk_p64_9 hs, sk_p64_10 hs, sk_p64_11 hs, sk_p65_6 hs, sk_p65_7 hs, sk_p65_8 hs, sk_p65_9 hs, sk_p65_10 hs, sk_p65_11 hs, sk_p65_12 hs, sk_p65_13 hs, sk_p65_14 hs, sk_p65_15 hs, sk_k64 hs, sk_n64 hs, sk_k65 hs, sk_n65 hs, true_and, E0, if_neg c, e00, if_true, true_or]
      exact h
    · simp only [p_X5_inWhoseName, p_X5_isEater, m_in, sk_p411_0 hs, sk_p411_1 hs, sk_p411_2 hs, sk_p411_6 hs, sk_p411_7 hs, sk_p411_8 hs, sk_p411_9 hs, sk_p411_10 hs, sk_p411_11 hs, sk_p411_12 hs, sk_p411_22 hs, sk_p411_23 hs, sk_p411_25 hs, sk_p411_26 hs, sk_p411_30 hs, sk_p411_31 hs, sk_p411_32 hs, sk_p411_33 hs, sk_p411_35 hs, sk_p411_36 hs, sk_p411_37 hs, sk_p411_38 hs, sk_p411_39 hs, sk_p411_40 hs, sk_p411_42 hs, sk_p411_43 hs, sk_p411_44 hs, sk_p411_45 hs, sk_p411_46 hs, sk_k411 hs, sk_n411 hs, sk_k412 hs, sk_n412 hs, cl0, vp0_11120, true_and, A0, if_neg c, e00, if_true, true_or]
      exact h
  obtain ⟨e0, he0, rfl⟩ := inB_k (by omega) c
  by_cases c1 : U e0 < 0
  rotate_left
  · refine ⟨-1, fun Q h => ?_, fun Q h => ?_⟩
    · simp only [p_X0_inWhoseName, p_X0_isEater, s_in, sk_p64_0 hs, sk_p64_1 hs, sk_p64_2 hs, sk_p64_3 hs, sk_p64_4 hs, sk_p64_5 hs, sk_p64_9 hs, sk_p64_10 hs, sk_p64_11 hs, sk_p65_6 hs, sk_p65_7 hs, sk_p65_8 hs, sk_p65_9 hs, sk_p65_10 hs, sk_p65_11 hs, sk_p65_12 hs, sk_p65_13 hs, sk_p65_14 hs, sk_p65_15 hs, sk_k64 hs, sk_n64 hs, sk_k65 hs, sk_n65 hs, true_and, E0, if_pos c, e10, if_false, or_true]
      refine su e0 _ ?_
      rw [if_neg c1]
      exact h
    · simp only [p_X5_inWhoseName, p_X5_isEater, m_in, sk_p411_0 hs, sk_p411_1 hs, sk_p411_2 hs, sk_p411_6 hs, sk_p411_7 hs, sk_p411_8 hs, sk_p411_9 hs, sk_p411_10 hs, sk_p411_11 hs, sk_p411_12 hs, sk_p411_22 hs, sk_p411_23 hs, sk_p411_25 hs, sk_p411_26 hs, sk_p411_30 hs, sk_p411_31 hs, sk_p411_32 hs, sk_p411_33 hs, sk_p411_35 hs, sk_p411_36 hs, sk_p411_37 hs, sk_p411_38 hs, sk_p411_39 hs, sk_p411_40 hs, sk_p411_42 hs, sk_p411_43 hs, sk_p411_44 hs, sk_p411_45 hs, sk_p411_46 hs, sk_k411 hs, sk_n411 hs, sk_k412 hs, sk_n412 hs, cl0, vp0_11120, true_and, A0, if_pos c, e10, if_false, or_true]
      refine mu e0 (by omega) _ ?_
      rw [if_neg c1]
      exact h
  refine ⟨match ff (fun e => decide (U e = -U e0)) n with | none => -1 | some e => nI e, fun Q h => ?_, fun Q h => ?_⟩
  · simp only [p_X0_inWhoseName, p_X0_isEater, s_in, sk_p64_0 hs, sk_p64_1 hs, sk_p64_2 hs, sk_p64_3 hs, sk_p64_4 hs, sk_p64_5 hs, sk_p64_9 hs, sk_p64_10 hs, sk_p64_11 hs, sk_p65_6 hs, sk_p65_7 hs, sk_p65_8 hs, sk_p65_9 hs, sk_p65_10 hs, sk_p65_11 hs, sk_p65_12 hs, sk_p65_13 hs, sk_p65_14 hs, sk_p65_15 hs, sk_k64 hs, sk_n64 hs, sk_k65 hs, sk_n65 hs, true_and, E0, if_pos c, e10, if_false, or_true]
    refine su e0 _ ?_
    rw [if_pos c1]
    unfold p_X0_inWhoseName_L20
    refine lp_fn n (fun k => (nI k, μ)) (fun k => ff (fun e => decide (U e = -U e0)) k = none) (fun k hk hf K hK => ?_) (fun hf K => ?_) rfl rfl
    · show p_X0_inWhoseName_L20b 64 (nI e0) (fun i2 μ => K (i2, μ)) (nI k) μ Q
      unfold p_X0_inWhoseName_L20b
      simp (disch := omega) only [sk_p64_0 hs, sk_p64_1 hs, sk_p64_2 hs, sk_p64_3 hs, sk_p64_4 hs, sk_p64_5 hs, sk_p64_9 hs, sk_p64_10 hs, sk_p64_11 hs, sk_p65_6 hs, sk_p65_7 hs, sk_p65_8 hs, sk_p65_9 hs, sk_p65_10 hs, sk_p65_11 hs, sk_p65_12 hs, sk_p65_13 hs, sk_p65_14 hs, sk_p65_15 hs, sk_k64 hs, sk_n64 hs, sk_k65 hs, sk_n65 hs, E0, true_and, nI_leI, Nat.not_le.mpr hk, if_false]
      refine su k _ (su e0 _ ?_)
      by_cases d : U k = -U e0
      · rw [if_pos d]
        rw [ff_st hf (decide_eq_true d) hk] at h
        exact h
      · rw [if_neg d]
        simp only [forall_eq, nI_1]
        exact hK (ff_nx hf fun q => d (of_decide_eq_true q))
    · show p_X0_inWhoseName_L20b 64 (nI e0) (fun i2 μ => K (i2, μ)) (nI n) μ Q
      unfold p_X0_inWhoseName_L20b
      simp (disch := omega) only [sk_p64_0 hs, sk_p64_1 hs, sk_p64_2 hs, sk_p64_3 hs, sk_p64_4 hs, sk_p64_5 hs, sk_p64_9 hs, sk_p64_10 hs, sk_p64_11 hs, sk_p65_6 hs, sk_p65_7 hs, sk_p65_8 hs, sk_p65_9 hs, sk_p65_10 hs, sk_p65_11 hs, sk_p65_12 hs, sk_p65_13 hs, sk_p65_14 hs, sk_p65_15 hs, sk_k64 hs, sk_n64 hs, sk_k65 hs, sk_n65 hs, E0, true_and, nI_leI, Nat.le_refl, if_true]
      rw [hf] at h
      exact h
  · simp only [p_X5_inWhoseName, p_X5_isEater, m_in, sk_p411_0 hs, sk_p411_1 hs, sk_p411_2 hs, sk_p411_6 hs, sk_p411_7 hs, sk_p411_8 hs, sk_p411_9 hs, sk_p411_10 hs, sk_p411_11 hs, sk_p411_12 hs, sk_p411_22 hs, sk_p411_23 hs, sk_p411_25 hs, sk_p411_26 hs, sk_p411_30 hs, sk_p411_31 hs, sk_p411_32 hs, sk_p411_33 hs, sk_p411_35 hs, sk_p411_36 hs, sk_p411_37 hs, sk_p411_38 hs, sk_p411_39 hs, sk_p411_40 hs, sk_p411_42 hs, sk_p411_43 hs, sk_p411_44 hs, sk_p411_45 hs, sk_p411_46 hs, sk_k411 hs, sk_n411 hs, sk_k412 hs, sk_n412 hs, cl0, vp0_11120, true_and, A0, if_pos c, e10, if_false, or_true]
    refine mu e0 (by omega) _ ?_
    rw [if_pos c1]
    unfold p_X5_inWhoseName_L20
    refine lp_fn n (fun k => (nI k, μ)) (fun k => ff (fun e => decide (U e = -U e0)) k = none) (fun k hk hf K hK => ?_) (fun hf K => ?_) rfl rfl
    · show p_X5_inWhoseName_L20b 411 (nI e0) (fun i2 μ => K (i2, μ)) (nI k) μ Q
      unfold p_X5_inWhoseName_L20b
      simp (disch := omega) only [sk_p411_0 hs, sk_p411_1 hs, sk_p411_2 hs, sk_p411_6 hs, sk_p411_7 hs, sk_p411_8 hs, sk_p411_9 hs, sk_p411_10 hs, sk_p411_11 hs, sk_p411_12 hs, sk_p411_22 hs, sk_p411_23 hs, sk_p411_25 hs, sk_p411_26 hs, sk_p411_30 hs, sk_p411_31 hs, sk_p411_32 hs, sk_p411_33 hs, sk_p411_35 hs, sk_p411_36 hs, sk_p411_37 hs, sk_p411_38 hs, sk_p411_39 hs, sk_p411_40 hs, sk_p411_42 hs, sk_p411_43 hs, sk_p411_44 hs, sk_p411_45 hs, sk_p411_46 hs, sk_k411 hs, sk_n411 hs, sk_k412 hs, sk_n412 hs, cl0, vp0_11120, A0, true_and, nI_leI, Nat.not_le.mpr hk, if_false, nI_eq]
      by_cases ek : k = e0
      · rw [if_pos ek]
        simp only [forall_eq, nI_1]
        refine hK (ff_nx hf fun q => ?_)
        subst ek
        exact hb k (by omega) c1 (of_decide_eq_true q)
      rw [if_neg ek]
      refine mu k (by omega) _ (mu e0 (by omega) _ ?_)
      by_cases d : U k = -U e0
      · rw [if_pos d]
        rw [ff_st hf (decide_eq_true d) hk] at h
        exact h
      · rw [if_neg d]
        simp only [forall_eq, nI_1]
        exact hK (ff_nx hf fun q => d (of_decide_eq_true q))
    · show p_X5_inWhoseName_L20b 411 (nI e0) (fun i2 μ => K (i2, μ)) (nI n) μ Q
      unfold p_X5_inWhoseName_L20b
      simp (disch := omega) only [sk_p411_0 hs, sk_p411_1 hs, sk_p411_2 hs, sk_p411_6 hs, sk_p411_7 hs, sk_p411_8 hs, sk_p411_9 hs, sk_p411_10 hs, sk_p411_11 hs, sk_p411_12 hs, sk_p411_22 hs, sk_p411_23 hs, sk_p411_25 hs, sk_p411_26 hs, sk_p411_30 hs, sk_p411_31 hs, sk_p411_32 hs, sk_p411_33 hs, sk_p411_35 hs, sk_p411_36 hs, sk_p411_37 hs, sk_p411_38 hs, sk_p411_39 hs, sk_p411_40 hs, sk_p411_42 hs, sk_p411_43 hs, sk_p411_44 hs, sk_p411_45 hs, sk_p411_46 hs, sk_k411 hs, sk_n411 hs, sk_k412 hs, sk_n412 hs, cl0, vp0_11120, A0, true_and, nI_leI, Nat.le_refl, if_true]
      rw [hf] at h
      exact h
