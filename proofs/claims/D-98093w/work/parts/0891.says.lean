/-! plain law: what orders say -/
theorem ml_sLL {μ : fw_M} {p : Nat} {f g : Nat → Int64} : m_sL (m_sL μ p f) p g = m_sL μ p g := by
  unfold m_sL
  refine congrArg (fun x => (μ.1, x, μ.2.2)) ?_
  funext q
  by_cases h : q = p
  · simp only [if_pos h]
  · simp only [if_neg h]
theorem nI_nm1 {t : Nat} (h : t < 2 ^ 31) : ¬ nI t = -1 := by
  intro e
  have := congrArg Int32.toInt e
  rw [nI_toInt h, show (-1 : Int32).toInt = -1 by decide] at this
  omega
theorem m_bound {v : Int64} {μ : fw_M} {Q : Int64 → fw_M → Prop} : p_X5_bound v μ Q = Q (iv_bnd v) μ := by
  unfold p_X5_bound iv_bnd
  by_cases h : (1000000 : Int64) < v
  · rw [if_pos h, if_pos h]
  · rw [if_neg h, if_neg h]
    by_cases g : v < (-1000000 : Int64)
    · rw [if_pos g, if_pos g]
    · rw [if_neg g, if_neg g]
theorem m_worked {o : Int32} {x y : Int64} {μ : fw_M} {Q : Int64 → fw_M → Prop} (hQ : Q (iv_op o x y) μ) : p_X5_worked o x y μ Q := by
  unfold p_X5_worked
  unfold iv_op at hQ
  simp only [m_bound]
  by_cases c35 : o = 35
  · subst c35
    rw [if_pos rfl]
    rw [if_neg (by decide), if_neg (by decide), if_neg (by decide), if_neg (by decide), if_neg (by decide), if_neg (by decide), if_neg (by decide), if_pos rfl] at hQ
    by_cases h : x = y
    · rw [if_pos h] at hQ ⊢; exact hQ
    · rw [if_neg h] at hQ ⊢; exact hQ
  rw [if_neg c35]
  by_cases c42 : o = 42
  · subst c42
    rw [if_pos rfl]
    rw [if_neg (by decide), if_neg (by decide), if_pos rfl] at hQ
    exact hQ
  rw [if_neg c42]
  by_cases c43 : o = 43
  · subst c43
    rw [if_pos rfl] at hQ ⊢
    exact hQ
  rw [if_neg c43] at hQ ⊢
  by_cases c45 : o = 45
  · subst c45
    rw [if_pos rfl] at hQ ⊢
    exact hQ
  rw [if_neg c45] at hQ ⊢
  rw [if_neg c42] at hQ
  by_cases c47 : o = 47
  · subst c47
    rw [if_pos rfl] at hQ ⊢
    by_cases h : y = 0
    · rw [if_pos h] at hQ ⊢; exact hQ
    · rw [if_neg h] at hQ ⊢; exact ⟨h, hQ⟩
  rw [if_neg c47] at hQ ⊢
  by_cases c60 : o = 60
  · subst c60
    rw [if_pos rfl] at hQ ⊢
    by_cases h : x < y
    · rw [if_pos h] at hQ ⊢; exact hQ
    · rw [if_neg h] at hQ ⊢; exact hQ
  rw [if_neg c60] at hQ ⊢
  by_cases c62 : o = 62
  · subst c62
    rw [if_pos rfl] at hQ
    rw [if_neg (by decide), if_pos rfl]
    by_cases h : y < x
    · rw [if_pos h] at hQ ⊢; exact hQ
    · rw [if_neg h] at hQ ⊢; exact hQ
  rw [if_neg c62] at hQ
  by_cases c61 : o = 61
  · subst c61
    rw [if_pos rfl] at hQ ⊢
    by_cases h : x = y
    · rw [if_pos h] at hQ ⊢; exact hQ
    · rw [if_neg h] at hQ ⊢; exact hQ
  rw [if_neg c61, if_neg c35] at hQ
  rw [if_neg c61, if_neg c62]
  by_cases c300 : o = 300
  · subst c300
    rw [if_pos rfl] at hQ ⊢
    by_cases h : y < x
    · rw [if_pos h] at hQ ⊢; exact hQ
    · rw [if_neg h] at hQ ⊢; exact hQ
  rw [if_neg c300] at hQ ⊢
  by_cases c301 : o = 301
  · subst c301
    rw [if_pos rfl] at hQ ⊢
    by_cases h : x < y
    · rw [if_pos h] at hQ ⊢; exact hQ
    · rw [if_neg h] at hQ ⊢; exact hQ
  rw [if_neg c301] at hQ ⊢
  by_cases c406 : o = 406
  · subst c406
    rw [if_pos rfl] at hQ ⊢
    exact hQ
  rw [if_neg c406] at hQ ⊢
  by_cases h : 0 < x + y
  · rw [if_pos h] at hQ ⊢; exact hQ
  · rw [if_neg h] at hQ ⊢; exact hQ
theorem okO_408 {o : Int32 × Int32} (h : iv_okO o) : ¬ o.1 = 408 := by
  intro c
  rcases h with ⟨h, -⟩ | ⟨h, -⟩ | h | h | h | h | h | h | h | h | h | h | h | h | h | h <;> (rw [c] at h; exact absurd h (by decide))
theorem okO_401 {o : Int32 × Int32} (h : iv_okO o) (c : o.1 = 401) : ∃ x, x < 12 ∧ o.2 = nI x := by
  rcases h with ⟨h, -⟩ | ⟨h, g⟩ | h | h | h | h | h | h | h | h | h | h | h | h | h | h
  · rw [c] at h; exact absurd h (by decide)
  · exact g
  all_goals (rw [c] at h; exact absurd h (by decide))
/-- a pile's cells -/
def pil (f : Nat → Int64) : List Int64 → Prop
  | [] => True
  | x :: r => f r.length = x ∧ pil f r
theorem pil_u {f : Nat → Int64} {k : Nat} {x : Int64} : ∀ {st : List Int64}, pil f st → st.length ≤ k → pil (ml_u f k x) st := by
  intro st
  induction st with
  | nil => intro _ _; trivial
  | cons y r ih =>
    intro h hk
    have hk2 : r.length + 1 ≤ k := hk
    exact ⟨(ml_un (by omega)).trans h.1, ih h.2 (by omega)⟩
theorem m_saysOf {ν : fw_M} {fr : Nat} {os : List (Int32 × Int32)} {F : (Nat → Int32) → Int64} (gs : sk_m ν) (hat : iv_at (m_I ν 420) (m_I ν 421) fr os) (hs : iv_says os F) {Q : Int64 → fw_M → Prop} (hQ : ∀ f, Q (F (m_I ν 432)) (m_sL ν 433 f)) : p_X5_saysOf 411 (nI fr) ν Q := by
  obtain ⟨h1, h2, h3⟩ := hat
  unfold p_X5_saysOf p_X5_saysOf_L4
  refine lp_to os.length (fun k (a : Int32 × Int32 × fw_M) => ∃ f st, a.2.2 = m_sL ν 433 f ∧ a.1 = nI (List.length st) ∧ a.2.1 = nI (fr + k) ∧ st = iv_run (m_I ν 432) (os.take k) [] ∧ iv_hok 190 (os.drop k) (List.length st) ∧ pil f st) (fun k a hk hI K hK => ?_) (fun a hI K => ?_) ⟨m_L ν 433, [], ?_, rfl, rfl, rfl, hs.1, trivial⟩
  · obtain ⟨i2, i3, μ⟩ := a
    obtain ⟨f, st, e1, e2, e3, e4, e5, e6⟩ := hI
    dsimp only at e1 e2 e3
    subst e1 e2 e3
    show p_X5_saysOf_L4b 411 (fun i2 i3 μ => K (i2, i3, μ)) (nI (List.length st)) (nI (fr + k)) (m_sL ν 433 f) Q
    obtain ⟨o1, o2, ok⟩ := h2 k hk
    have ed : os.drop k = os[k] :: os.drop (k + 1) := List.drop_eq_getElem_cons hk
    have et : os.take (k + 1) = os.take k ++ [os[k]] := (List.take_append_getElem hk).symm
    have er : iv_run (m_I ν 432) (os.take (k + 1)) [] = iv_do (m_I ν 432) os[k] st := by
      rw [et, e4]
      unfold iv_run
      rw [List.foldl_append]
      rfl
    rw [ed] at e5
    generalize os[k] = o at o1 o2 ok e5 er
    have n408 := okO_408 ok
    obtain ⟨hh, e5⟩ := e5
    have K2 : ∀ (f' : Nat → Int64) (st' : List Int64), iv_do (m_I ν 432) o st = st' → iv_hok 190 (os.drop (k + 1)) (List.length st') → pil f' st' → ∀ i2 i3 μ, μ = m_sL ν 433 f' → i2 = nI (List.length st') → i3 = nI (fr + (k + 1)) → K (i2, i3, μ) := by
      intro f' st' a1 a2 a3 i2 i3 μ a4 a5 a6
      exact hK _ ⟨f', st', a4, a5, a6, by rw [er, a1], a2, a3⟩
    have e13 : nI (fr + k) + 1 = nI (fr + (k + 1)) := by rw [nI_1, Nat.add_assoc]
    unfold p_X5_saysOf_L4b
    simp (disch := omega) only [ml_KL, ml_NL, ml_PL, ml_IL, ml_Ls, sk_p411_0 gs, sk_p411_1 gs, sk_p411_2 gs, sk_p411_6 gs, sk_p411_7 gs, sk_p411_8 gs, sk_p411_9 gs, sk_p411_10 gs, sk_p411_11 gs, sk_p411_12 gs, sk_p411_22 gs, sk_p411_23 gs, sk_p411_25 gs, sk_p411_26 gs, sk_p411_30 gs, sk_p411_31 gs, sk_p411_32 gs, sk_p411_33 gs, sk_p411_35 gs, sk_p411_36 gs, sk_p411_37 gs, sk_p411_38 gs, sk_p411_39 gs, sk_p411_40 gs, sk_p411_42 gs, sk_p411_43 gs, sk_p411_44 gs, sk_p411_45 gs, sk_p411_46 gs, sk_k411 gs, sk_n411 gs, sk_k420 gs, sk_n420 gs, sk_k433 gs, sk_n433 gs, nI_clamp, vp_t, true_and, o1, n408, if_false, forall_eq]
    by_cases c400 : o.1 = 400
    · rw [if_pos (Or.inl c400)] at e5
      have d : iv_do (m_I ν 432) o st = o.2.toInt64 :: st := by unfold iv_do; rw [if_pos c400]
      simp (disch := omega) only [if_pos c400, p_X5_saysOf_L40, p_X5_saysOf_L75, ml_KL, ml_NL, ml_PL, ml_IL, ml_Ls, ml_uL, ml_sLL, sk_p411_0 gs, sk_p411_1 gs, sk_p411_2 gs, sk_p411_6 gs, sk_p411_7 gs, sk_p411_8 gs, sk_p411_9 gs, sk_p411_10 gs, sk_p411_11 gs, sk_p411_12 gs, sk_p411_22 gs, sk_p411_23 gs, sk_p411_25 gs, sk_p411_26 gs, sk_p411_30 gs, sk_p411_31 gs, sk_p411_32 gs, sk_p411_33 gs, sk_p411_35 gs, sk_p411_36 gs, sk_p411_37 gs, sk_p411_38 gs, sk_p411_39 gs, sk_p411_40 gs, sk_p411_42 gs, sk_p411_43 gs, sk_p411_44 gs, sk_p411_45 gs, sk_p411_46 gs, sk_k411 gs, sk_n411 gs, sk_k421 gs, sk_n421 gs, sk_k433 gs, sk_n433 gs, nI_clamp, vp_t, true_and, o2, forall_eq]
      exact K2 _ _ d e5 ⟨ml_us, pil_u e6 (Nat.le_refl _)⟩ _ _ _ rfl (nI_1 _) e13
    rw [if_neg c400]
    by_cases c401 : o.1 = 401
    · rw [if_pos (Or.inr c401)] at e5
      obtain ⟨x, x1, x2⟩ := okO_401 ok c401
      have d : iv_do (m_I ν 432) o st = (m_I ν 432 o.2.toNatClampNeg).toInt64 :: st := by unfold iv_do; rw [if_neg c400, if_pos c401]
      rw [x2, nI_clamp (by omega)] at d
      simp (disch := omega) only [if_pos c401, if_neg c400, p_X5_saysOf_L40, p_X5_saysOf_L75, ml_KL, ml_NL, ml_PL, ml_IL, ml_Ls, ml_uL, ml_sLL, sk_p411_0 gs, sk_p411_1 gs, sk_p411_2 gs, sk_p411_6 gs, sk_p411_7 gs, sk_p411_8 gs, sk_p411_9 gs, sk_p411_10 gs, sk_p411_11 gs, sk_p411_12 gs, sk_p411_22 gs, sk_p411_23 gs, sk_p411_25 gs, sk_p411_26 gs, sk_p411_30 gs, sk_p411_31 gs, sk_p411_32 gs, sk_p411_33 gs, sk_p411_35 gs, sk_p411_36 gs, sk_p411_37 gs, sk_p411_38 gs, sk_p411_39 gs, sk_p411_40 gs, sk_p411_42 gs, sk_p411_43 gs, sk_p411_44 gs, sk_p411_45 gs, sk_p411_46 gs, sk_k411 gs, sk_n411 gs, sk_k421 gs, sk_n421 gs, sk_k432 gs, sk_n432 gs, sk_k433 gs, sk_n433 gs, nI_clamp, vp_t, true_and, o2, x2, forall_eq]
      exact K2 _ _ d e5 ⟨ml_us, pil_u e6 (Nat.le_refl _)⟩ _ _ _ rfl (nI_1 _) e13
    rw [if_neg c401]
    rw [if_neg (by rintro (h | h); exact c400 h; exact c401 h)] at e5
    by_cases c402 : o.1 = 402
    · rw [if_pos (Or.inl c402)] at e5
      match st, e4, hh, e5, e6, er, K2 with
      | [], _, _, e5, _, _, _ => exact absurd e5.1 (by decide)
      | x :: r, _, hh, e5, e6, _, K2 =>
        have d : iv_do (m_I ν 432) o (x :: r) = -x :: r := by unfold iv_do; rw [if_neg c400, if_neg c401]; show (if o.1 = 402 then _ else _) = _; rw [if_pos c402]
        have s1 : nI (List.length (x :: r)) - 1 = nI r.length := nI_pred r.length
        have hl : r.length + 1 ≤ 190 := hh
        rw [if_pos c402]
        simp (disch := omega) only [s1, ml_KL, ml_NL, ml_PL, ml_IL, ml_Ls, ml_uL, ml_sLL, sk_p411_0 gs, sk_p411_1 gs, sk_p411_2 gs, sk_p411_6 gs, sk_p411_7 gs, sk_p411_8 gs, sk_p411_9 gs, sk_p411_10 gs, sk_p411_11 gs, sk_p411_12 gs, sk_p411_22 gs, sk_p411_23 gs, sk_p411_25 gs, sk_p411_26 gs, sk_p411_30 gs, sk_p411_31 gs, sk_p411_32 gs, sk_p411_33 gs, sk_p411_35 gs, sk_p411_36 gs, sk_p411_37 gs, sk_p411_38 gs, sk_p411_39 gs, sk_p411_40 gs, sk_p411_42 gs, sk_p411_43 gs, sk_p411_44 gs, sk_p411_45 gs, sk_p411_46 gs, sk_k411 gs, sk_n411 gs, sk_k433 gs, sk_n433 gs, nI_clamp, vp_t, true_and, forall_eq]
        exact K2 _ _ d e5.2 ⟨by rw [ml_us, e6.1], pil_u e6.2 (Nat.le_refl _)⟩ _ _ _ rfl rfl e13
    rw [if_neg c402]
    by_cases c405 : o.1 = 405
    · rw [if_pos (Or.inr c405)] at e5
      match st, e4, hh, e5, e6, er, K2 with
      | [], _, _, e5, _, _, _ => exact absurd e5.1 (by decide)
      | x :: r, _, hh, e5, e6, _, K2 =>
        have d : iv_do (m_I ν 432) o (x :: r) = (1 - x) :: r := by unfold iv_do; rw [if_neg c400, if_neg c401]; show (if o.1 = 402 then _ else if o.1 = 405 then _ else _) = _; rw [if_neg c402, if_pos c405]
        have s1 : nI (List.length (x :: r)) - 1 = nI r.length := nI_pred r.length
        have hl : r.length + 1 ≤ 190 := hh
        rw [if_pos c405]
        simp (disch := omega) only [s1, ml_KL, ml_NL, ml_PL, ml_IL, ml_Ls, ml_uL, ml_sLL, sk_p411_0 gs, sk_p411_1 gs, sk_p411_2 gs, sk_p411_6 gs, sk_p411_7 gs, sk_p411_8 gs, sk_p411_9 gs, sk_p411_10 gs, sk_p411_11 gs, sk_p411_12 gs, sk_p411_22 gs, sk_p411_23 gs, sk_p411_25 gs, sk_p411_26 gs, sk_p411_30 gs, sk_p411_31 gs, sk_p411_32 gs, sk_p411_33 gs, sk_p411_35 gs, sk_p411_36 gs, sk_p411_37 gs, sk_p411_38 gs, sk_p411_39 gs, sk_p411_40 gs, sk_p411_42 gs, sk_p411_43 gs, sk_p411_44 gs, sk_p411_45 gs, sk_p411_46 gs, sk_k411 gs, sk_n411 gs, sk_k433 gs, sk_n433 gs, nI_clamp, vp_t, true_and, forall_eq]
        exact K2 _ _ d e5.2 ⟨by rw [ml_us, e6.1], pil_u e6.2 (Nat.le_refl _)⟩ _ _ _ rfl rfl e13
    rw [if_neg c405]
    rw [if_neg (by rintro (h | h); exact c402 h; exact c405 h)] at e5
    match st, e4, hh, e5, e6, er, K2 with
    | [], _, _, e5, _, _, _ => exact absurd e5.1 (by decide)
    | [x], _, _, e5, _, _, _ => exact absurd e5.1 (show ¬ 2 ≤ 1 by decide)
    | x :: y :: r, _, hh, e5, e6, _, K2 =>
      have d : iv_do (m_I ν 432) o (x :: y :: r) = iv_op o.1 y x :: r := by
        unfold iv_do; rw [if_neg c400, if_neg c401]; show (if o.1 = 402 then _ else if o.1 = 405 then _ else _) = _; rw [if_neg c402, if_neg c405]
      have s0 : nI (List.length (x :: y :: r)) + (-1) = nI (r.length + 1) := pk_m1 (r.length + 1)
      have s1 : nI (r.length + 1) - 1 = nI r.length := nI_pred r.length
      have hl : r.length + 1 + 1 ≤ 190 := hh
      have p1 : f (r.length + 1) = x := e6.1
      have p2 : f r.length = y := e6.2.1
      simp (disch := omega) only [s0, s1, ml_KL, ml_NL, ml_PL, ml_IL, ml_Ls, sk_p411_0 gs, sk_p411_1 gs, sk_p411_2 gs, sk_p411_6 gs, sk_p411_7 gs, sk_p411_8 gs, sk_p411_9 gs, sk_p411_10 gs, sk_p411_11 gs, sk_p411_12 gs, sk_p411_22 gs, sk_p411_23 gs, sk_p411_25 gs, sk_p411_26 gs, sk_p411_30 gs, sk_p411_31 gs, sk_p411_32 gs, sk_p411_33 gs, sk_p411_35 gs, sk_p411_36 gs, sk_p411_37 gs, sk_p411_38 gs, sk_p411_39 gs, sk_p411_40 gs, sk_p411_42 gs, sk_p411_43 gs, sk_p411_44 gs, sk_p411_45 gs, sk_p411_46 gs, sk_k411 gs, sk_n411 gs, sk_k433 gs, sk_n433 gs, nI_clamp, vp_t, true_and, forall_eq, p1, p2]
      refine m_worked ?_
      simp (disch := omega) only [ml_KL, ml_NL, ml_PL, ml_IL, ml_Ls, ml_uL, ml_sLL, sk_p411_0 gs, sk_p411_1 gs, sk_p411_2 gs, sk_p411_6 gs, sk_p411_7 gs, sk_p411_8 gs, sk_p411_9 gs, sk_p411_10 gs, sk_p411_11 gs, sk_p411_12 gs, sk_p411_22 gs, sk_p411_23 gs, sk_p411_25 gs, sk_p411_26 gs, sk_p411_30 gs, sk_p411_31 gs, sk_p411_32 gs, sk_p411_33 gs, sk_p411_35 gs, sk_p411_36 gs, sk_p411_37 gs, sk_p411_38 gs, sk_p411_39 gs, sk_p411_40 gs, sk_p411_42 gs, sk_p411_43 gs, sk_p411_44 gs, sk_p411_45 gs, sk_p411_46 gs, sk_k411 gs, sk_n411 gs, sk_k433 gs, sk_n433 gs, nI_clamp, vp_t, true_and, forall_eq]
      exact K2 _ _ d e5.2 ⟨ml_us, pil_u e6.2.2 (Nat.le_refl _)⟩ _ _ _ rfl rfl e13
  · obtain ⟨i2, i3, μ⟩ := a
    obtain ⟨f, st, e1, e2, e3, e4, e5, e6⟩ := hI
    dsimp only at e1 e2 e3
    subst e1 e2 e3
    show p_X5_saysOf_L4b 411 (fun i2 i3 μ => K (i2, i3, μ)) (nI (List.length st)) (nI (fr + os.length)) (m_sL ν 433 f) Q
    rw [List.take_length, hs.2 (m_I ν 432) []] at e4
    subst e4
    have p1 : f 0 = F (m_I ν 432) := e6.1
    unfold p_X5_saysOf_L4b
    simp (disch := omega) only [ml_KL, ml_NL, ml_PL, ml_IL, ml_Ls, sk_p411_0 gs, sk_p411_1 gs, sk_p411_2 gs, sk_p411_6 gs, sk_p411_7 gs, sk_p411_8 gs, sk_p411_9 gs, sk_p411_10 gs, sk_p411_11 gs, sk_p411_12 gs, sk_p411_22 gs, sk_p411_23 gs, sk_p411_25 gs, sk_p411_26 gs, sk_p411_30 gs, sk_p411_31 gs, sk_p411_32 gs, sk_p411_33 gs, sk_p411_35 gs, sk_p411_36 gs, sk_p411_37 gs, sk_p411_38 gs, sk_p411_39 gs, sk_p411_40 gs, sk_p411_42 gs, sk_p411_43 gs, sk_p411_44 gs, sk_p411_45 gs, sk_p411_46 gs, sk_k411 gs, sk_n411 gs, sk_k420 gs, sk_n420 gs, sk_k433 gs, sk_n433 gs, nI_clamp, vp_t, li_0, true_and, h3, if_true, p1]
    exact hQ f
  · show ν = m_sL ν 433 (m_L ν 433)
    unfold m_sL
    refine Prod.ext rfl (Prod.ext ?_ rfl)
    funext q
    show ν.2.1 q = if q = 433 then m_L ν 433 else ν.2.1 q
    by_cases h : q = 433
    · rw [if_pos h, h]; rfl
    · rw [if_neg h]
/-- the orders of a kind of clause, in the text that rules -/
def loM (ν : fw_M) (t cl q : Nat) (o : Option ((Nat → Int32) → Int64)) : Prop := match o with
  | none => ∀ k, k < cl → ¬ m_I ν 416 (24 * t + k) = nI q
  | some F => ∃ (k fr : Nat) (os : List (Int32 × Int32)), k < cl ∧ m_I ν 416 (24 * t + k) = nI q ∧ (∀ j, j < cl → m_I ν 416 (24 * t + j) = nI q → j = k) ∧ m_I ν 417 (24 * t + k) = nI fr ∧ iv_at (m_I ν 420) (m_I ν 421) fr os ∧ iv_says os F
def lqM (ν : fw_M) (q : Nat) (o : Option ((Nat → Int32) → Int64)) : Prop := (m_I ν 412 2 = -1 ∧ o = none) ∨ ∃ t cl, t < 4 ∧ cl ≤ 24 ∧ m_I ν 412 2 = nI t ∧ m_I ν 415 t = nI cl ∧ loM ν t cl q o
theorem m_ordersOf {ν : fw_M} {q : Nat} {o : Option ((Nat → Int32) → Int64)} (gs : sk_m ν) (h : lqM ν q o) {Q : Int32 → fw_M → Prop} (h0 : o = none → Q (-1) ν) (h1 : ∀ F fr os, o = some F → fr < 1600 → iv_at (m_I ν 420) (m_I ν 421) fr os → iv_says os F → Q (nI fr) ν) : p_X5_ordersOf 411 (nI q) ν Q := by
  unfold p_X5_ordersOf p_X5_ordersOf_L4
  rcases h with ⟨e, e0⟩ | ⟨t, cl, t1, t2, t3, t4, lo⟩
  · refine lp_to 0 (fun k a => a = ((-1 : Int32), (0 : Int32), ν)) (fun k a hk => absurd hk (Nat.not_lt_zero _)) (fun a ha K => ?_) rfl
    subst ha
    show p_X5_ordersOf_L4b 411 (nI q) (fun i2 i3 μ => K (i2, i3, μ)) (-1) 0 ν Q
    unfold p_X5_ordersOf_L4b
    simp (disch := omega) only [sk_p411_0 gs, sk_p411_1 gs, sk_p411_2 gs, sk_p411_6 gs, sk_p411_7 gs, sk_p411_8 gs, sk_p411_9 gs, sk_p411_10 gs, sk_p411_11 gs, sk_p411_12 gs, sk_p411_22 gs, sk_p411_23 gs, sk_p411_25 gs, sk_p411_26 gs, sk_p411_30 gs, sk_p411_31 gs, sk_p411_32 gs, sk_p411_33 gs, sk_p411_35 gs, sk_p411_36 gs, sk_p411_37 gs, sk_p411_38 gs, sk_p411_39 gs, sk_p411_40 gs, sk_p411_42 gs, sk_p411_43 gs, sk_p411_44 gs, sk_p411_45 gs, sk_p411_46 gs, sk_k411 gs, sk_n411 gs, sk_k412 gs, sk_n412 gs, cl2, vp2_11120, true_and, e, if_true]
    exact h0 e0
  · have nt : ¬ nI t = -1 := nI_nm1 (by omega)
    have nt2 : ¬ nI t = -nI 1 := nt
    have body : ∀ (fo : Nat → Int32), (∀ k, k < cl → fo (k + 1) = if m_I ν 416 (24 * t + k) = nI q then m_I ν 417 (24 * t + k) else fo k) → fo 0 = -1 → Q (fo cl) ν → fw_lp (fun (k : Int32 × Int32 × fw_M → Prop) (a : Int32 × Int32 × fw_M) => p_X5_ordersOf_L4b 411 (nI q) (fun i2 i3 μ => k (i2, i3, μ)) a.1 a.2.1 a.2.2 Q) (-1, 0, ν) := by
      intro fo hf hf0 hQ
      refine lp_fn cl (fun k => (fo k, nI k, ν)) (fun _ => True) (fun k hk _ K hK => ?_) (fun _ K => ?_) (by rw [hf0]; rfl) trivial
      · show p_X5_ordersOf_L4b 411 (nI q) (fun i2 i3 μ => K (i2, i3, μ)) (fo k) (nI k) ν Q
        have hK := hK trivial
        rw [hf k hk] at hK
        unfold p_X5_ordersOf_L4b
        simp (disch := omega) only [sk_p411_0 gs, sk_p411_1 gs, sk_p411_2 gs, sk_p411_6 gs, sk_p411_7 gs, sk_p411_8 gs, sk_p411_9 gs, sk_p411_10 gs, sk_p411_11 gs, sk_p411_12 gs, sk_p411_22 gs, sk_p411_23 gs, sk_p411_25 gs, sk_p411_26 gs, sk_p411_30 gs, sk_p411_31 gs, sk_p411_32 gs, sk_p411_33 gs, sk_p411_35 gs, sk_p411_36 gs, sk_p411_37 gs, sk_p411_38 gs, sk_p411_39 gs, sk_p411_40 gs, sk_p411_42 gs, sk_p411_43 gs, sk_p411_44 gs, sk_p411_45 gs, sk_p411_46 gs, sk_k411 gs, sk_n411 gs, sk_k412 gs, sk_n412 gs, sk_k415 gs, sk_n415 gs, sk_k416 gs, sk_n416 gs, sk_k417 gs, sk_n417 gs, cl2, vp2_11120, true_and, t3, nt, nt2, t4, nI_clamp, vp_t, nI_leI, Nat.not_le.mpr hk, if_false, li_24, pk_mul, nI_add, forall_eq, li_1]
        by_cases c : m_I ν 416 (24 * t + k) = nI q
        · rw [if_pos c] at hK ⊢
          exact hK
        · rw [if_neg c] at hK ⊢
          exact hK
      · show p_X5_ordersOf_L4b 411 (nI q) (fun i2 i3 μ => K (i2, i3, μ)) (fo cl) (nI cl) ν Q
        unfold p_X5_ordersOf_L4b
        simp (disch := omega) only [sk_p411_0 gs, sk_p411_1 gs, sk_p411_2 gs, sk_p411_6 gs, sk_p411_7 gs, sk_p411_8 gs, sk_p411_9 gs, sk_p411_10 gs, sk_p411_11 gs, sk_p411_12 gs, sk_p411_22 gs, sk_p411_23 gs, sk_p411_25 gs, sk_p411_26 gs, sk_p411_30 gs, sk_p411_31 gs, sk_p411_32 gs, sk_p411_33 gs, sk_p411_35 gs, sk_p411_36 gs, sk_p411_37 gs, sk_p411_38 gs, sk_p411_39 gs, sk_p411_40 gs, sk_p411_42 gs, sk_p411_43 gs, sk_p411_44 gs, sk_p411_45 gs, sk_p411_46 gs, sk_k411 gs, sk_n411 gs, sk_k412 gs, sk_n412 gs, sk_k415 gs, sk_n415 gs, cl2, vp2_11120, true_and, t3, nt, nt2, t4, nI_clamp, vp_t, nI_leI, Nat.le_refl, if_false, if_true]
        exact hQ
    cases o with
    | none => exact body (fun _ => -1) (fun k hk => by rw [if_neg (lo k hk)]) rfl (h0 rfl)
    | some F =>
      obtain ⟨k, fr, os, k1, k2, k3, k4, k5, k6⟩ := lo
      have b := k5.1
      refine body (fun j => if k < j then nI fr else -1) (fun j hj => ?_) rfl (by show Q (if k < cl then nI fr else -1) ν; rw [if_pos k1]; exact h1 F fr os rfl (by omega) k5 k6)
      by_cases c : m_I ν 416 (24 * t + j) = nI q
      · have := k3 j hj c
        subst this
        rw [if_pos c, if_pos (Nat.lt_succ_self _), k4]
      · rw [if_neg c]
        have : j ≠ k := fun e => c (by rw [e]; exact k2)
        by_cases e : k < j
        · rw [if_pos (by omega), if_pos e]
        · rw [if_neg (by omega), if_neg e]
