/-! plain law: a step is kept -/
theorem ml_PsP {μ : fw_M} {p : Nat} {f g : Nat → Nat} : m_sP (m_sP μ p f) p g = m_sP μ p g := by
  unfold m_sP
  refine congrArg (fun x => (μ.1, μ.2.1, x, μ.2.2.2)) ?_
  funext q
  by_cases h : q = p
  · simp only [if_pos h]
  · simp only [if_neg h]
theorem ml_IPc {μ : fw_M} {p q : Nat} {f : Nat → Int32} {g : Nat → Nat} : m_sP (m_sI μ p f) q g = m_sI (m_sP μ q g) p f := rfl
def k0 (st : Nat) : Nat := if st = 30 then 29 else st
theorem k0_30 : k0 30 = 29 := rfl
theorem k0_lt {st : Nat} (h : st ≤ 30) : k0 st < 30 := by unfold k0; split <;> omega
theorem k0_le {st : Nat} : k0 st ≤ st := by unfold k0; split <;> omega
def keepS (μ : fw_M) (st : Nat) (μ' : fw_M) : Prop :=
  sk_m μ' ∧ m_S μ' = m_S μ ∧ m_x μ' = m_x μ ∧ (∀ p, p ≠ 71 → m_P μ' p = m_P μ p) ∧
  (∀ p, p ≠ 70 → ¬ (72 ≤ p ∧ p < 102) → ∀ j, ¬ (p = 65 ∧ j = 3) → m_I μ' p j = m_I μ p j) ∧ m_I μ' 65 3 = nI (k0 st + 1) ∧
  (∀ k, k < k0 st → m_I μ' 70 k = m_I μ 70 (k + (st - k0 st)) ∧ ∀ j, j < 25 → m_I μ' (m_P μ' 71 k) j = m_I μ (m_P μ 71 (k + (st - k0 st))) j) ∧
  m_I μ' 70 (k0 st) = m_I μ 65 0 ∧ ∀ j, j < 25 → m_I μ' (m_P μ' 71 (k0 st)) j = m_I μ 69 j
theorem s_keep76 {ν : fw_M} {s : Nat} (gs : sk_m ν) (hs : s < 30) (e3 : m_I ν 65 3 = nI s) {Q : fw_M → Prop} (hQ : Q (m_sI (m_sI (m_sI ν (m_P ν 71 s) (ml_c (m_I ν 69) (m_I ν (m_P ν 71 s)) 0 0 25)) 65 (ml_u (m_I ν 65) 3 (nI (s + 1)))) 70 (ml_u (m_I ν 70) s (m_I ν 65 0)))) : p_X1_keep_L76 65 ν Q := by
  have h1 := sk_s65 gs hs
  have h2 := sk_q72 gs h1.1 h1.2
  unfold p_X1_keep_L76 p_X1_over
  simp (decide := true) (disch := omega) only [sk_p65_6 gs, sk_p65_7 gs, sk_p65_8 gs, sk_p65_9 gs, sk_p65_10 gs, sk_p65_11 gs, sk_p65_12 gs, sk_p65_13 gs, sk_p65_14 gs, sk_p65_15 gs, sk_k65 gs, sk_n65 gs, sk_k69 gs, sk_n69 gs, sk_k70 gs, sk_n70 gs, sk_k71 gs, sk_n71 gs, e3, li_0, li_1, li_25, li_ofN, nI_clamp, vp_t, h2.1, h2.2, ml_uI, ml_KI, ml_PI, ml_NI, ml_SI, ml_xI, ml_Is, ml_In, ml_us, ml_un, ml_cp, ml_ss, true_and, forall_eq, nI_ltI, nI_add]
  exact hQ
theorem keep_fin {μ ν : fw_M} {st : Nat} (hst : st ≤ 30) (gs : sk_m ν) (hS : m_S ν = m_S μ) (hx : m_x ν = m_x μ) (hP : ∀ p, p ≠ 71 → m_P ν p = m_P μ p) (hI : ∀ p, p ≠ 70 → ∀ j, ¬ (p = 65 ∧ j = 3) → m_I ν p j = m_I μ p j)
    (hk : ∀ k, k < k0 st → m_P ν 71 k = m_P μ 71 (k + (st - k0 st)) ∧ m_I ν 70 k = m_I μ 70 (k + (st - k0 st))) :
    keepS μ st (m_sI (m_sI (m_sI ν (m_P ν 71 (k0 st)) (ml_c (m_I ν 69) (m_I ν (m_P ν 71 (k0 st))) 0 0 25)) 65 (ml_u (m_I ν 65) 3 (nI (k0 st + 1)))) 70 (ml_u (m_I ν 70) (k0 st) (m_I ν 65 0))) := by
  have lt := k0_lt hst
  have h1 := sk_s65 gs lt
  refine ⟨gs, hS, hx, hP, fun p p1 p2 j pj => ?_, ?_, fun k hk2 => ⟨?_, fun j hj => ?_⟩, ?_, fun j hj => ?_⟩
  · rw [ml_In p1]
    by_cases e : p = 65
    · subst e
      rw [ml_Is, ml_un (fun h => pj ⟨rfl, h⟩)]
      exact hI 65 (by decide) j pj
    · rw [ml_In e, ml_In (by omega)]
      exact hI p p1 j pj
  · rw [ml_In (by decide), ml_Is, ml_us]
  · rw [ml_Is, ml_un (by omega)]
    exact (hk k hk2).2
  · have h3 := sk_s65 gs (j := k) (by omega)
    have h4 : m_P ν 71 k ≠ m_P ν 71 (k0 st) := fun h => by have := sk_t65 gs (by omega) lt h; omega
    show m_I (m_sI _ 70 _) (m_P ν 71 k) j = _
    rw [ml_In (by omega), ml_In (by omega), ml_In h4, hI _ (by omega) j (by omega), (hk k hk2).1]
  · rw [ml_Is, ml_us]
    exact hI 65 (by decide) 0 (by decide)
  · show m_I (m_sI _ 70 _) (m_P ν 71 (k0 st)) j = m_I μ 69 j
    rw [ml_In (by omega), ml_In (by omega), ml_Is]
    show (if 0 ≤ j ∧ j < 0 + 25 then m_I ν 69 (0 + (j - 0)) else _) = _
    rw [if_pos (by omega), Nat.zero_add, Nat.sub_zero]
    exact hI 69 (by decide) j (by omega)
theorem s_keep {μ : fw_M} {st : Nat} (hs : sk_m μ) (hst : st ≤ 30) (e3 : m_I μ 65 3 = nI st) {Q : fw_M → Prop} (hQ : ∀ μ', keepS μ st μ' → Q μ') : p_X1_keep 65 μ Q := by
  unfold p_X1_keep
  by_cases c : st = 30
  rotate_left
  · have c2 : ¬ nI st = 30 := fun h => c ((nI_eq (b := 30) (by omega) (by decide)).mp h)
    have ek : k0 st = st := if_neg c
    rw [e3, if_neg c2]
    have f := keep_fin (μ := μ) (ν := μ) hst hs rfl rfl (fun _ _ => rfl) (fun _ _ _ _ => rfl) (fun k hk => by rw [ek, Nat.sub_self]; exact ⟨rfl, rfl⟩)
    rw [ek] at f
    exact s_keep76 hs (by omega) e3 (hQ _ f)
  · subst c
    rw [e3, if_pos (show nI 30 = 30 from rfl)]
    simp (disch := omega) only [sk_p65_6 hs, sk_p65_7 hs, sk_p65_8 hs, sk_p65_9 hs, sk_p65_10 hs, sk_p65_11 hs, sk_p65_12 hs, sk_p65_13 hs, sk_p65_14 hs, sk_p65_15 hs, sk_k65 hs, sk_n65 hs, sk_k71 hs, sk_n71 hs, cl0, li_0, vp_t, true_and, forall_eq]
    unfold p_X1_keep_L18
    refine lp_to 29 (fun k (a : Int32 × fw_M) => a.1 = nI (k + 1) ∧ m_S a.2 = m_S μ ∧ m_x a.2 = m_x μ ∧ (∀ p, p ≠ 71 → m_P a.2 p = m_P μ p) ∧ (∀ p, p ≠ 70 → m_I a.2 p = m_I μ p) ∧ ∀ j, (j < k → m_P a.2 71 j = m_P μ 71 (j + 1) ∧ m_I a.2 70 j = m_I μ 70 (j + 1)) ∧ (k ≤ j → m_P a.2 71 j = m_P μ 71 j ∧ m_I a.2 70 j = m_I μ 70 j)) (fun k a hk hI K hK => ?_) (fun a hI K => ?_) ⟨rfl, rfl, rfl, fun _ _ => rfl, fun _ _ => rfl, fun j => ⟨fun h => absurd h (Nat.not_lt_zero _), fun _ => ⟨rfl, rfl⟩⟩⟩
    · obtain ⟨i, ν⟩ := a
      obtain ⟨h1, h2, h3, h4, h5, h6⟩ := hI
      dsimp only at h1 h2 h3 h4 h5 h6
      rw [h1]
      show p_X1_keep_L18b 65 (m_P μ 71 0) (fun i2 μ => K (i2, μ)) (nI (k + 1)) ν Q
      have eK : m_K ν = m_K μ := funext fun p => congrArg (fun s : Nat → Nat × Nat => (s p).1) h2
      have eN : m_N ν = m_N μ := funext fun p => congrArg (fun s : Nat → Nat × Nat => (s p).2) h2
      have h7 := sk_s65 hs (j := k + 1) (by omega)
      have h8 := sk_q72 hs h7.1 h7.2
      obtain ⟨g1, g2⟩ := (h6 (k + 1)).2 (by omega)
      have p65 := h4 65 (by decide)
      unfold p_X1_keep_L18b
      rw [show (30 : Int32) = nI 30 from rfl, if_neg (nI_ge (b := 30) (by omega) (by decide))]
      simp (disch := omega) only [li_1, pk_sub, Nat.add_sub_cancel, ml_KI, ml_KP, ml_NI, ml_NP, ml_PI, ml_Pn, ml_uP, ml_uI, ml_IP, eK, eN, p65, sk_p65_6 hs, sk_p65_7 hs, sk_p65_8 hs, sk_p65_9 hs, sk_p65_10 hs, sk_p65_11 hs, sk_p65_12 hs, sk_p65_13 hs, sk_p65_14 hs, sk_p65_15 hs, sk_k65 hs, sk_n65 hs, sk_k70 hs, sk_n70 hs, sk_k71 hs, sk_n71 hs, nI_clamp, vp_t, true_and, forall_eq, g1, g2, h8.1, nI_add]
      refine hK _ ⟨rfl, h2, h3, fun p hp => ?_, fun p hp => ?_, fun j => ⟨fun hj => ?_, fun hj => ?_⟩⟩
      · show m_P (m_sP ν 71 _) p = _
        rw [ml_Pn hp]; exact h4 p hp
      · show m_I (m_sI _ 70 _) p = _
        rw [ml_In hp]; exact h5 p hp
      · show m_P (m_sP ν 71 _) 71 j = _ ∧ m_I (m_sI _ 70 _) 70 j = _
        rw [ml_Ps, ml_Is]
        by_cases e : j = k
        · subst e; rw [ml_us, ml_us]; exact ⟨rfl, rfl⟩
        · rw [ml_un e, ml_un e]; exact (h6 j).1 (by omega)
      · show m_P (m_sP ν 71 _) 71 j = _ ∧ m_I (m_sI _ 70 _) 70 j = _
        rw [ml_Ps, ml_Is, ml_un (by omega), ml_un (by omega)]
        exact (h6 j).2 (by omega)
    · obtain ⟨i, ν⟩ := a
      obtain ⟨h1, h2, h3, h4, h5, h6⟩ := hI
      dsimp only at h1 h2 h3 h4 h5 h6
      rw [h1]
      show p_X1_keep_L18b 65 (m_P μ 71 0) (fun i2 μ => K (i2, μ)) (nI (29 + 1)) ν Q
      have eK : m_K ν = m_K μ := funext fun p => congrArg (fun s : Nat → Nat × Nat => (s p).1) h2
      have eN : m_N ν = m_N μ := funext fun p => congrArg (fun s : Nat → Nat × Nat => (s p).2) h2
      have h7 := sk_s65 hs (j := 0) (by omega)
      have h8 := sk_q72 hs h7.1 h7.2
      have p65 := h4 65 (by decide)
      have i65 := h5 65 (by decide)
      have c29 : (29 : Int32).toNatClampNeg = 29 := rfl
      have v29 : vp_in (29 : Int32) 30 = True := vp_t (n := 29) (by decide) (by decide)
      have s1 : (nI 30 - 1 : Int32) = nI 29 := rfl
      have P' : ∀ j, j < 30 → ml_u (m_P ν 71) 29 (m_P μ 71 0) j = if j = 29 then m_P μ 71 0 else m_P μ 71 (j + 1) := by
        intro j hj
        by_cases e : j = 29
        · subst e; rw [ml_us, if_pos rfl]
        · rw [ml_un e, if_neg e]; exact ((h6 j).1 (by omega)).1
      have gs : sk_m (m_sI (m_sP ν 71 (ml_u (m_P ν 71) 29 (m_P μ 71 0))) 65 (ml_u (m_I μ 65) 3 (nI 29))) := by
        obtain ⟨a1, a2, a3, a4, a5, a6⟩ := hs
        have pn : ∀ p, p ≠ 71 → m_P (m_sP ν 71 (ml_u (m_P ν 71) 29 (m_P μ 71 0))) p = m_P μ p := fun p hp => by rw [ml_Pn hp]; exact h4 p hp
        refine ⟨fun p p1 p2 => ?_, ?_, ?_, ?_, ⟨fun j hj => ?_, fun x y hx hy e => ?_⟩, ?_⟩
        · show m_S ν p = _
          rw [h2]; exact a1 p p1 p2
        · show 441 ≤ m_x ν
          rw [h3]; exact a2
        · rw [ml_PI, pn 64 (by decide), pn 65 (by decide), pn 228 (by decide), pn 392 (by decide), pn 393 (by decide), pn 395 (by decide), pn 411 (by decide)]
          exact a3
        · rw [ml_PI, pn 102 (by decide), pn 163 (by decide), pn 194 (by decide), pn 207 (by decide), pn 265 (by decide), pn 326 (by decide), pn 357 (by decide), pn 370 (by decide), pn 398 (by decide)]
          exact a4
        · rw [ml_PI, ml_Ps, P' j hj]
          split
          · exact a5.1 0 (by decide)
          · exact a5.1 (j + 1) (by omega)
        · rw [ml_PI, ml_Ps, P' x hx, P' y hy] at e
          split at e
          · split at e
            · omega
            · have := a5.2 0 (y + 1) (by omega) (by omega) e
              omega
          · split at e
            · have := a5.2 (x + 1) 0 (by omega) (by omega) e
              omega
            · have := a5.2 (x + 1) (y + 1) (by omega) (by omega) e
              omega
        · rw [ml_PI, pn 234 (by decide)]; exact a6
      unfold p_X1_keep_L18b
      rw [if_pos (show (30 : Int32) ≤ nI (29 + 1) by decide)]
      simp (disch := omega) only [c29, v29, ml_KI, ml_KP, ml_NI, ml_NP, ml_PI, ml_Pn, ml_uP, ml_uI, ml_IP, eK, eN, p65, i65, sk_p65_6 hs, sk_p65_7 hs, sk_p65_8 hs, sk_p65_9 hs, sk_p65_10 hs, sk_p65_11 hs, sk_p65_12 hs, sk_p65_13 hs, sk_p65_14 hs, sk_p65_15 hs, sk_k65 hs, sk_n65 hs, sk_k71 hs, sk_n71 hs, e3, s1, true_and, forall_eq, h8.1]
      refine s_keep76 (s := 29) gs (by decide) (by rw [ml_Is, ml_us]) (hQ _ ?_)
      refine keep_fin (st := 30) (Nat.le_refl _) gs h2 h3 (fun p hp => ?_) (fun p hp j pj => ?_) (fun k hk => ?_)
      · rw [ml_PI, ml_Pn hp]; exact h4 p hp
      · by_cases e : p = 65
        · subst e
          rw [ml_Is, ml_un (fun h => pj ⟨rfl, h⟩)]
        · rw [ml_In e, ml_IP, h5 p hp]
      · rw [k0_30] at hk ⊢
        rw [ml_PI, ml_Ps, ml_In (by decide), ml_IP, P' k (by omega), if_neg (by omega)]
        exact ⟨rfl, ((h6 k).1 hk).2⟩
def mKeep (a : Nat → Int32) (st : Nat) : Nat → Int32 := fun j =>
  if j = 3 then nI (k0 st + 1) else if 470 + 355 * k0 st ≤ j ∧ j < 470 + 355 * k0 st + 355 then a (110 + (j - (470 + 355 * k0 st))) else if st = 30 ∧ 470 ≤ j ∧ j < 10765 then a (j + 355) else a j
theorem mKeep_lo {a : Nat → Int32} {st j : Nat} (h : j ≠ 3) (h2 : j < 470) : mKeep a st j = a j := by
  unfold mKeep
  rw [if_neg h, if_neg (by omega), if_neg (by omega)]
theorem mKeep_3 {a : Nat → Int32} {st : Nat} : mKeep a st 3 = nI (k0 st + 1) := if_pos rfl
theorem mKeep_new {a : Nat → Int32} {st j : Nat} (h : j < 355) : mKeep a st (470 + 355 * k0 st + j) = a (110 + j) := by
  unfold mKeep
  rw [if_neg (by omega), if_pos (by omega)]
  congr 1
  omega
theorem mKeep_old {a : Nat → Int32} {st k j : Nat} (hst : st ≤ 30) (hk : k < k0 st) (h : j < 355) : mKeep a st (470 + 355 * k + j) = a (470 + 355 * (k + (st - k0 st)) + j) := by
  unfold mKeep
  rw [if_neg (by omega), if_neg (by omega)]
  by_cases c : st = 30
  · subst c
    rw [k0_30] at *
    rw [if_pos (by omega)]
    congr 1
    omega
  · have ek : k0 st = st := if_neg c
    rw [ek] at *
    rw [if_neg (by omega), Nat.sub_self, Nat.add_zero]
theorem m_keep {ν : fw_M} {a : Nat → Int32} {st : Nat} (gs : sk_m ν) (w : m_I ν 412 = a) (hst : st ≤ 30) (a3 : a 3 = nI st) {Q : fw_M → Prop} (hQ : Q (m_sI ν 412 (mKeep a st))) : p_X5_keepsStep 411 ν Q := by
  have last : ∀ b : Nat → Int32, b 3 = nI (k0 st) → (∀ j, j ≠ 3 → b j = if st = 30 ∧ 470 ≤ j ∧ j < 10765 then a (j + 355) else a j) → p_X5_keepsStep_L54 411 0 (m_sI ν 412 b) Q := by
    intro b b3 hb
    have lt := k0_lt hst
    unfold p_X5_keepsStep_L54
    refine lp_fn 355 (fun k => (nI k, m_sI ν 412 (fun j => if 470 + 355 * k0 st ≤ j ∧ j < 470 + 355 * k0 st + k then b (110 + (j - (470 + 355 * k0 st))) else b j))) (fun _ => True) (fun k hk _ K hK => ?_) (fun _ K => ?_) ?_ trivial
    · show p_X5_keepsStep_L54b 411 (fun i2 μ => K (i2, μ)) (nI k) (m_sI ν 412 (fun j => if 470 + 355 * k0 st ≤ j ∧ j < 470 + 355 * k0 st + k then b (110 + (j - (470 + 355 * k0 st))) else b j)) Q
      have hK := hK trivial
      unfold p_X5_keepsStep_L54b
      rw [show (355 : Int32) = nI 355 from rfl, if_neg (nI_ge (b := 355) hk (by decide))]
      have e3 : (if 470 + 355 * k0 st ≤ 3 ∧ 3 < 470 + 355 * k0 st + k then b (110 + (3 - (470 + 355 * k0 st))) else b 3) = nI (k0 st) := by rw [if_neg (by omega)]; exact b3
      have e4 : (if 470 + 355 * k0 st ≤ 110 + k ∧ 110 + k < 470 + 355 * k0 st + k then b (110 + (110 + k - (470 + 355 * k0 st))) else b (110 + k)) = b (110 + k) := if_neg (by omega)
      simp (disch := omega) only [li_470, li_355, li_110, li_1, cl3, vp3_11120, ml_KI, ml_NI, ml_PI, ml_Is, sk_p411_0 gs, sk_p411_1 gs, sk_p411_2 gs, sk_p411_6 gs, sk_p411_7 gs, sk_p411_8 gs, sk_p411_9 gs, sk_p411_10 gs, sk_p411_11 gs, sk_p411_12 gs, sk_p411_22 gs, sk_p411_23 gs, sk_p411_25 gs, sk_p411_26 gs, sk_p411_30 gs, sk_p411_31 gs, sk_p411_32 gs, sk_p411_33 gs, sk_p411_35 gs, sk_p411_36 gs, sk_p411_37 gs, sk_p411_38 gs, sk_p411_39 gs, sk_p411_40 gs, sk_p411_42 gs, sk_p411_43 gs, sk_p411_44 gs, sk_p411_45 gs, sk_p411_46 gs, sk_k411 gs, sk_n411 gs, sk_k412 gs, sk_n412 gs, ml_uI, e3, e4, pk_mul, nI_add, nI_clamp, vp_t, true_and, forall_eq, ml_ss]
      have ef : ml_u (fun j => if 470 + 355 * k0 st ≤ j ∧ j < 470 + 355 * k0 st + k then b (110 + (j - (470 + 355 * k0 st))) else b j) (470 + 355 * k0 st + k) (b (110 + k)) = fun j => if 470 + 355 * k0 st ≤ j ∧ j < 470 + 355 * k0 st + (k + 1) then b (110 + (j - (470 + 355 * k0 st))) else b j := by
        funext j
        unfold ml_u
        by_cases e : j = 470 + 355 * k0 st + k
        · rw [if_pos e, if_pos (by omega)]
          congr 1
          omega
        · rw [if_neg e]
          dsimp only
          by_cases e2 : 470 + 355 * k0 st ≤ j ∧ j < 470 + 355 * k0 st + k
          · rw [if_pos e2, if_pos (by omega)]
          · rw [if_neg e2, if_neg (by omega)]
      rw [ef]
      exact hK
    · show p_X5_keepsStep_L54b 411 (fun i2 μ => K (i2, μ)) (nI 355) (m_sI ν 412 (fun j => if 470 + 355 * k0 st ≤ j ∧ j < 470 + 355 * k0 st + 355 then b (110 + (j - (470 + 355 * k0 st))) else b j)) Q
      unfold p_X5_keepsStep_L54b
      rw [if_pos (show (355 : Int32) ≤ nI 355 by decide)]
      have e3 : (if 470 + 355 * k0 st ≤ 3 ∧ 3 < 470 + 355 * k0 st + 355 then b (110 + (3 - (470 + 355 * k0 st))) else b 3) = nI (k0 st) := by rw [if_neg (by omega)]; exact b3
      simp (disch := omega) only [li_1, cl3, vp3_11120, ml_KI, ml_NI, ml_PI, ml_Is, sk_p411_0 gs, sk_p411_1 gs, sk_p411_2 gs, sk_p411_6 gs, sk_p411_7 gs, sk_p411_8 gs, sk_p411_9 gs, sk_p411_10 gs, sk_p411_11 gs, sk_p411_12 gs, sk_p411_22 gs, sk_p411_23 gs, sk_p411_25 gs, sk_p411_26 gs, sk_p411_30 gs, sk_p411_31 gs, sk_p411_32 gs, sk_p411_33 gs, sk_p411_35 gs, sk_p411_36 gs, sk_p411_37 gs, sk_p411_38 gs, sk_p411_39 gs, sk_p411_40 gs, sk_p411_42 gs, sk_p411_43 gs, sk_p411_44 gs, sk_p411_45 gs, sk_p411_46 gs, sk_k411 gs, sk_n411 gs, sk_k412 gs, sk_n412 gs, ml_uI, e3, nI_add, true_and, forall_eq, ml_ss]
      have ef : ml_u (fun j => if 470 + 355 * k0 st ≤ j ∧ j < 470 + 355 * k0 st + 355 then b (110 + (j - (470 + 355 * k0 st))) else b j) 3 (nI (k0 st + 1)) = mKeep a st := by
        funext j
        unfold ml_u mKeep
        by_cases e : j = 3
        · rw [if_pos e, if_pos e]
        · rw [if_neg e, if_neg e]
          dsimp only
          by_cases e2 : 470 + 355 * k0 st ≤ j ∧ j < 470 + 355 * k0 st + 355
          · rw [if_pos e2, if_pos e2, hb _ (by omega), if_neg (by omega)]
          · rw [if_neg e2, if_neg e2, hb j e]
      rw [ef]
      exact hQ
    · refine Prod.ext rfl ?_
      show m_sI ν 412 b = m_sI ν 412 _
      congr 1
      funext j
      exact (if_neg (by omega)).symm
  unfold p_X5_keepsStep
  simp (disch := omega) only [cl3, vp3_11120, sk_p411_0 gs, sk_p411_1 gs, sk_p411_2 gs, sk_p411_6 gs, sk_p411_7 gs, sk_p411_8 gs, sk_p411_9 gs, sk_p411_10 gs, sk_p411_11 gs, sk_p411_12 gs, sk_p411_22 gs, sk_p411_23 gs, sk_p411_25 gs, sk_p411_26 gs, sk_p411_30 gs, sk_p411_31 gs, sk_p411_32 gs, sk_p411_33 gs, sk_p411_35 gs, sk_p411_36 gs, sk_p411_37 gs, sk_p411_38 gs, sk_p411_39 gs, sk_p411_40 gs, sk_p411_42 gs, sk_p411_43 gs, sk_p411_44 gs, sk_p411_45 gs, sk_p411_46 gs, sk_k411 gs, sk_n411 gs, sk_k412 gs, sk_n412 gs, true_and, w, a3]
  by_cases c : st = 30
  rotate_left
  · have c2 : ¬ nI st = 30 := fun h => c ((nI_eq (b := 30) (by omega) (by decide)).mp h)
    have ek : k0 st = st := if_neg c
    rw [if_neg c2]
    have := last a (by rw [ek]; exact a3) (fun j _ => by rw [if_neg (by omega)])
    rw [m_sIsame w.symm] at this
    exact this
  · subst c
    rw [if_pos (show nI 30 = 30 from rfl)]
    unfold p_X5_keepsStep_L15
    refine lp_fn 10295 (fun k => (nI (470 + k), m_sI ν 412 (fun j => if 470 ≤ j ∧ j < 470 + k then a (j + 355) else a j))) (fun _ => True) (fun k hk _ K hK => ?_) (fun _ K => ?_) ?_ trivial
    · show p_X5_keepsStep_L15b 411 (fun i2 μ => K (i2, μ)) (nI (470 + k)) (m_sI ν 412 (fun j => if 470 ≤ j ∧ j < 470 + k then a (j + 355) else a j)) Q
      have hK := hK trivial
      unfold p_X5_keepsStep_L15b
      rw [show (10765 : Int32) = nI 10765 from rfl, if_neg (nI_ge (b := 10765) (by omega) (by decide))]
      have e4 : (if 470 ≤ 470 + k + 355 ∧ 470 + k + 355 < 470 + k then a (470 + k + 355 + 355) else a (470 + k + 355)) = a (470 + k + 355) := if_neg (by omega)
      simp (disch := omega) only [li_355, li_1, ml_KI, ml_NI, ml_PI, ml_Is, sk_p411_0 gs, sk_p411_1 gs, sk_p411_2 gs, sk_p411_6 gs, sk_p411_7 gs, sk_p411_8 gs, sk_p411_9 gs, sk_p411_10 gs, sk_p411_11 gs, sk_p411_12 gs, sk_p411_22 gs, sk_p411_23 gs, sk_p411_25 gs, sk_p411_26 gs, sk_p411_30 gs, sk_p411_31 gs, sk_p411_32 gs, sk_p411_33 gs, sk_p411_35 gs, sk_p411_36 gs, sk_p411_37 gs, sk_p411_38 gs, sk_p411_39 gs, sk_p411_40 gs, sk_p411_42 gs, sk_p411_43 gs, sk_p411_44 gs, sk_p411_45 gs, sk_p411_46 gs, sk_k411 gs, sk_n411 gs, sk_k412 gs, sk_n412 gs, ml_uI, e4, nI_add, nI_clamp, vp_t, true_and, forall_eq, ml_ss]
      have ef : ml_u (fun j => if 470 ≤ j ∧ j < 470 + k then a (j + 355) else a j) (470 + k) (a (470 + k + 355)) = fun j => if 470 ≤ j ∧ j < 470 + (k + 1) then a (j + 355) else a j := by
        funext j
        unfold ml_u
        by_cases e : j = 470 + k
        · rw [if_pos e, if_pos (by omega), e]
        · rw [if_neg e]
          dsimp only
          by_cases e2 : 470 ≤ j ∧ j < 470 + k
          · rw [if_pos e2, if_pos (by omega)]
          · rw [if_neg e2, if_neg (by omega)]
      rw [ef]
      exact hK
    · show p_X5_keepsStep_L15b 411 (fun i2 μ => K (i2, μ)) (nI (470 + 10295)) (m_sI ν 412 (fun j => if 470 ≤ j ∧ j < 470 + 10295 then a (j + 355) else a j)) Q
      unfold p_X5_keepsStep_L15b
      rw [if_pos (show (10765 : Int32) ≤ nI (470 + 10295) by decide)]
      simp (disch := omega) only [cl3, vp3_11120, ml_KI, ml_NI, ml_PI, ml_Is, sk_p411_0 gs, sk_p411_1 gs, sk_p411_2 gs, sk_p411_6 gs, sk_p411_7 gs, sk_p411_8 gs, sk_p411_9 gs, sk_p411_10 gs, sk_p411_11 gs, sk_p411_12 gs, sk_p411_22 gs, sk_p411_23 gs, sk_p411_25 gs, sk_p411_26 gs, sk_p411_30 gs, sk_p411_31 gs, sk_p411_32 gs, sk_p411_33 gs, sk_p411_35 gs, sk_p411_36 gs, sk_p411_37 gs, sk_p411_38 gs, sk_p411_39 gs, sk_p411_40 gs, sk_p411_42 gs, sk_p411_43 gs, sk_p411_44 gs, sk_p411_45 gs, sk_p411_46 gs, sk_k411 gs, sk_n411 gs, sk_k412 gs, sk_n412 gs, ml_uI, true_and, forall_eq, ml_ss]
      refine last _ ml_us fun j hj => ?_
      rw [ml_un hj]
      by_cases e : 470 ≤ j ∧ j < 470 + 10295
      · rw [if_pos e, if_pos (by omega)]
      · rw [if_neg e, if_neg (by omega)]
    · refine Prod.ext rfl ?_
      show ν = m_sI ν 412 _
      refine (m_sIsame ?_).symm
      rw [w]
      funext j
      exact if_neg (by omega)
theorem C_keep {μ μ' : fw_M} {a : Nat → Int32} {n tx st te tl ns nd : Nat} (C : iv_C μ 65 a n tx st te tl ns nd) (hs : sk_m μ) (h : keepS μ st μ') : iv_C μ' 65 (mKeep a st) n tx (k0 st + 1) te tl ns nd := by
  obtain ⟨hb, hE, hA, hA2, hH, hr, hrec, ⟨N, NS, ND, hst, hmono⟩, hte, htl, hte2, htl2⟩ := C
  have c1 : ns ≤ 60 := hr.2.2.2.2.2.2.2.2.1
  have c2 : nd ≤ 30 := hr.2.2.2.2.2.2.2.2.2.1
  obtain ⟨q1, q2, q3, q4, q5⟩ := hb
  obtain ⟨E0, E1, E2, E3, E4, E5⟩ := hE
  obtain ⟨A0, A1, A3, A4, A5⟩ := hA
  obtain ⟨gs, gS, gx, gP, gI, g3, gk, g7, g8⟩ := h
  have lt := k0_lt q3
  have le := k0_le (st := st)
  have i : ∀ p, p ≠ 65 → p ≠ 70 → ¬ (72 ≤ p ∧ p < 102) → m_I μ' p = m_I μ p := fun p p1 p2 p3 => funext fun j => gI p p2 p3 j (by omega)
  have hrc : ∀ x y : Nat, x ≤ ns → y ≤ nd → ∀ mr mr' : Nat → Int32, (∀ j, 23 ≤ j → j < 354 → mr' j = mr j) → iv_rec x y (fun i => m_I μ (65 + 38 + i)) (fun i => m_I μ (65 + 99 + i)) mr → iv_rec x y (fun i => m_I μ' (65 + 38 + i)) (fun i => m_I μ' (65 + 99 + i)) mr' := by
    intro x y hx hy mr mr' hm hq
    exact rec_cong hq (by omega) (by omega) (fun t ht j hj => by rw [i _ (by omega) (by omega) (by omega)]) (fun t ht j hj => by rw [i _ (by omega) (by omega) (by omega)]) hm
  have sh : iv_sh (mKeep a st) 110 = fun j => mKeep a st (110 + j) := rfl
  refine ⟨⟨q1, q2, by omega, q4, q5⟩, ⟨?_, ?_, ?_, g3, ?_, ?_⟩, ⟨?_, ?_, mKeep_3, ?_, ?_⟩, ?_, fun e he => ?_, ?_, ?_, ⟨fun k => if k < k0 st then N (k + (st - k0 st)) else n, fun k => if k < k0 st then NS (k + (st - k0 st)) else ns, fun k => if k < k0 st then ND (k + (st - k0 st)) else nd, fun k hk => ?_, fun j k hjk hk => ?_⟩, fun i2 hi j hj => ?_, fun i2 hi j hj => ?_, fun i2 hi => ?_, fun i2 hi => ?_⟩
  · rw [gI 65 (by decide) (by decide) 0 (by decide)]; exact E0
  · rw [gI 65 (by decide) (by decide) 1 (by decide)]; exact E1
  · rw [gI 65 (by decide) (by decide) 2 (by decide), mKeep_lo (by decide) (by decide)]; exact E2
  · rw [gI 65 (by decide) (by decide) 4 (by decide)]; exact E4
  · rw [gI 65 (by decide) (by decide) 5 (by decide)]; exact E5
  · rw [mKeep_lo (by decide) (by decide)]; exact A0
  · rw [mKeep_lo (by decide) (by decide)]; exact A1
  · rw [mKeep_lo (by decide) (by decide)]; exact A4
  · rw [mKeep_lo (by decide) (by decide)]; exact A5
  · rw [mKeep_lo (by decide) (by decide)]; exact hA2
  · show m_I μ' 66 e = _ ∧ m_I μ' 67 e = _ ∧ m_I μ' 68 e = _ ∧ (∃ x, x ≤ 9 ∧ m_I μ' 66 e = nI x) ∧ (∃ x, 1 ≤ x ∧ x ≤ 9 ∧ m_I μ' 67 e = nI x) ∧ ∃ x, x ≤ 99 ∧ m_I μ' 68 e = nI x
    rw [i 66 (by decide) (by decide) (by decide), i 67 (by decide) (by decide) (by decide), i 68 (by decide) (by decide) (by decide), mKeep_lo (by omega) (by omega), mKeep_lo (by omega) (by omega), mKeep_lo (by omega) (by omega)]
    exact hH e he
  · show iv_row n ns nd (m_I μ' 69) _
    rw [i 69 (by decide) (by decide) (by decide)]
    exact row_cong q1 hr (fun j _ => rfl) fun j hj => mKeep_lo (by omega) (by omega)
  · exact hrc _ _ (Nat.le_refl _) (Nat.le_refl _) _ _ (fun j j1 j2 => mKeep_lo (by omega) (by omega)) hrec
  · by_cases c : k < k0 st
    · simp only [if_pos c]
      obtain ⟨k1, k2, k3, k4, k5, k6⟩ := hst (k + (st - k0 st)) (by omega)
      refine ⟨k1, ?_, k3, k4, ?_, ?_⟩
      · show m_I μ' 70 k = _
        rw [(gk k c).1]; exact k2
      · exact row_cong (by omega) k5 (fun j hj => (gk k c).2 j hj) fun j hj => mKeep_old q3 c hj
      · exact hrc _ _ k3 k4 _ _ (fun j j1 j2 => mKeep_old q3 c (by omega)) k6
    · have ek : k = k0 st := by omega
      simp only [if_neg c]
      subst ek
      refine ⟨Nat.le_refl _, ?_, Nat.le_refl _, Nat.le_refl _, ?_, ?_⟩
      · show m_I μ' 70 (k0 st) = _
        rw [g7]; exact E0
      · exact row_cong q1 hr (fun j hj => g8 j hj) fun j hj => mKeep_new hj
      · exact hrc _ _ (Nat.le_refl _) (Nat.le_refl _) _ _ (fun j j1 j2 => mKeep_new (by omega)) hrec
  · dsimp only
    rw [if_pos (show j < k0 st by omega), if_pos (show j < k0 st by omega), if_pos (show j < k0 st by omega)]
    by_cases c : k < k0 st
    · rw [if_pos c, if_pos c, if_pos c]
      exact hmono _ _ (by omega) (by omega)
    · rw [if_neg c, if_neg c, if_neg c]
      obtain ⟨k1, k2, k3, k4, k5, k6⟩ := hst (j + (st - k0 st)) (by omega)
      exact ⟨k1, k3, k4⟩
  · show m_I μ' (195 + i2) j = _
    rw [i _ (by omega) (by omega) (by omega), mKeep_lo (by omega) (by omega)]
    exact hte i2 hi j hj
  · show m_I μ' (208 + i2) j = _
    rw [i _ (by omega) (by omega) (by omega), mKeep_lo (by omega) (by omega)]
    exact htl i2 hi j hj
  · show (∃ x, x ≤ 40 ∧ m_I μ' (195 + i2) 0 = nI x - 20) ∧ inB (m_I μ' (195 + i2) 1) (-1) 1
    rw [i _ (by omega) (by omega) (by omega)]
    exact hte2 i2 hi
  · show (∃ x, x < 9 ∧ m_I μ' (208 + i2) 0 = nI x) ∧ ∃ x, 1 ≤ x ∧ x ≤ 999 ∧ m_I μ' (208 + i2) 1 = nI x
    rw [i _ (by omega) (by omega) (by omega)]
    exact htl2 i2 hi
