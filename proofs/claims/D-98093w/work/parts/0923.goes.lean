/-! plain law: text, the machine: the other steps -/
section G2
variable {b : Nat → Nat} {N : Nat} {ν0 ν : fw_M} {l : List Tok} {st : Nat} {fr ws : List (Nat × Nat)} {os : List PO} {cl : List CE} {nc kd op : Nat} {Q : Int32 → fw_M → Prop} {K : fw_M → Prop}
/-- a number that is too great, a name that is barred -/
theorem g_leafE {x : Tok} {r : List Tok} (hkd : kd ≤ 2) {e : Nat} (hx : (x.1 = 2 ∧ 9999 < x.2.1 ∧ e = 2) ∨ (x.1 = 1 ∧ 12 ≤ x.2.1 ∧ ¬ mayN (x.2.1 - 12) kd = true ∧ e = 5)) :
    go Q (fun ν => mc b N ν0 ν (x :: r) 1 fr ws os cl nc kd op) (er ν0 (e, x.2.2)) := by
  refine go_1 fun ν K h hK => lb_1 h ?_
  obtain ⟨t4, -, a', T⟩ := mc_mT h rfl
  unfold p_X5_begins
  rcases hx with ⟨h1, h2, rfl⟩ | ⟨h1, h2, h3, rfl⟩
  · obtain ⟨v, v1, v2, v3⟩ := T.2.2.2.2.1 h1
    have h162 : m_I ν 411 16 = 2 := by rw [T.1 (by omega), h1]; rfl
    rw [if_pos h162, v2, if_neg (show ¬ nI v ≤ 9999 from nI_ge (a := 9999) (b := v) (by omega) v1)]
    exact mc_errs h rfl (e := 2) (by decide) fun ν' h' => hK ν' h'
  · obtain ⟨t24, h17⟩ := T.2.2.1 h1
    have m12 := (mW_12 _ t24).1 h2
    have h29 := h.2.2.2.2.2.2.2.2.2.1.1
    rw [m12] at h17
    have h161 : m_I ν 411 16 = 1 := by rw [T.1 (by omega), h1]; rfl
    rw [if_neg (show ¬ m_I ν 411 16 = 2 by rw [h161]; decide), if_pos h161, h17, if_neg (show ¬ nI x.2.1 ≤ 11 from nI_ge (a := 11) (b := x.2.1) (by omega) (by omega))]
    rintro _ rfl
    rw [show (nI x.2.1 - 11 - 1 : Int32) = nI (x.2.1 - 12) by rw [show (nI x.2.1 - 11 : Int32) = nI (x.2.1 - 11) from pk_sub (b := 11) (by omega), show (nI (x.2.1 - 11) - 1 : Int32) = nI (x.2.1 - 11 - 1) from pk_sub (b := 1) (by omega)]; congr 1, h29, mc_may (by omega) hkd, if_neg h3, if_pos rfl]
    exact mc_errs h rfl (e := 5) (by decide) fun ν' h' => hK ν' h'
/-- where a sign is looked for -/
theorem lb_109 {x : Tok} {r : List Tok} (h : mc b N ν0 ν (x :: r) 1 fr ws os cl nc kd op) (h2 : x.1 ≠ 2) (h1 : ¬ (x.1 = 1 ∧ 12 ≤ x.2.1)) (H : p_X5_begins_L109 411 ν fun μ => K μ) : LB Q K ν := by
  refine lb_1 h ?_
  obtain ⟨t4, -, a', T⟩ := mc_mT h rfl
  unfold p_X5_begins
  have n2 : ¬ m_I ν 411 16 = 2 := by
    by_cases q : x.1 = 4
    · rcases T.2.1 q with e | ⟨e, -⟩ <;> rw [e] <;> decide
    · rw [T.1 (by omega)]; exact fun e => h2 ((nI_eq (b := 2) (by omega) (by decide)).mp e)
  rw [if_neg n2]
  by_cases c : x.1 = 1
  · obtain ⟨t24, h17⟩ := T.2.2.1 c
    have m12 := (mW_12 _ t24).2 (by omega)
    rw [if_pos (show m_I ν 411 16 = 1 by rw [T.1 (by omega), c]; rfl), h17, if_pos (show nI (mW x.2.1) ≤ 11 from nI_le (b := 11) (by omega) (by decide))]
    exact H
  · have n1 : ¬ m_I ν 411 16 = 1 := by
      by_cases q : x.1 = 4
      · rcases T.2.1 q with e | ⟨e, -⟩ <;> rw [e] <;> decide
      · rw [T.1 (by omega)]; exact fun e => c ((nI_eq (b := 1) (by omega) (by decide)).mp e)
    rw [if_neg n1]
    exact H
/-- a bracket or a minus opens: t 40 or 45, f 6 or 7 -/
theorem g_open {x : Tok} {r : List Tok} {t f : Nat} (hx : x.1 = 3 ∧ x.2.1 = t) (ht : (t = 40 ∧ f = 6) ∨ (t = 45 ∧ f = 7)) (hb : fr.length < 40) (h8 : op < 8) :
    go Q (fun ν => mc b N ν0 ν (x :: r) 1 fr ws os cl nc kd op) (fun ν => mc b N ν0 ν r 1 ((f, 0) :: fr) ws os cl nc kd (op + 1)) := by
  refine go_1 fun ν K h hK => lb_109 h (by omega) (by omega) ?_
  obtain ⟨t4, -, a', T⟩ := mc_mT h rfl
  unfold p_X5_begins_L109
  rw [show (40 : Int32) = nI 40 from rfl, mT_sign T t4 (by decide) (by decide)]
  rcases ht with ⟨rfl, rfl⟩ | ⟨rfl, rfl⟩
  · rw [if_pos hx, if_neg (by decide)]
    exact mc_opens h rfl (by omega) (f := 6) (by decide) hb (fun e => by omega) fun _ ν' h' => hK ν' h'
  · rw [if_neg (show ¬ (x.1 = 3 ∧ x.2.1 = 40) by omega), if_pos rfl, show (45 : Int32) = nI 45 from rfl, mT_sign T t4 (by decide) (by decide), if_pos hx, if_neg (by decide)]
    exact mc_opens h rfl (by omega) (f := 7) (by decide) hb (fun e => by omega) fun _ ν' h' => hK ν' h'
theorem g_openE {x : Tok} {r : List Tok} {t : Nat} (hx : x.1 = 3 ∧ x.2.1 = t) (ht : t = 40 ∨ t = 45) (hb : fr.length < 40) :
    go Q (fun ν => mc b N ν0 ν (x :: r) 1 fr ws os cl nc kd 8) (er ν0 (3, x.2.2)) := by
  refine go_1 fun ν K h hK => lb_109 h (by omega) (by omega) ?_
  obtain ⟨t4, -, a', T⟩ := mc_mT h rfl
  unfold p_X5_begins_L109
  rw [show (40 : Int32) = nI 40 from rfl, mT_sign T t4 (by decide) (by decide)]
  rcases ht with rfl | rfl
  · rw [if_pos hx, if_neg (by decide)]
    exact mc_opens h rfl (by omega) (f := 6) (by decide) hb (fun _ ν' h' => hK ν' h') fun e => by omega
  · rw [if_neg (show ¬ (x.1 = 3 ∧ x.2.1 = 40) by omega), if_pos rfl, show (45 : Int32) = nI 45 from rfl, mT_sign T t4 (by decide) (by decide), if_pos hx, if_neg (by decide)]
    exact mc_opens h rfl (by omega) (f := 7) (by decide) hb (fun _ ν' h' => hK ν' h') fun e => by omega
theorem g_noOne {x : Tok} {r : List Tok} (h2 : x.1 ≠ 2) (h1 : ¬ (x.1 = 1 ∧ 12 ≤ x.2.1)) (h3 : ¬ (x.1 = 3 ∧ x.2.1 = 40)) (h4 : ¬ (x.1 = 3 ∧ x.2.1 = 45)) :
    go Q (fun ν => mc b N ν0 ν (x :: r) 1 fr ws os cl nc kd op) (er ν0 (1, x.2.2)) := by
  refine go_1 fun ν K h hK => lb_109 h h2 h1 ?_
  obtain ⟨t4, -, a', T⟩ := mc_mT h rfl
  unfold p_X5_begins_L109
  rw [show (40 : Int32) = nI 40 from rfl, mT_sign T t4 (by decide) (by decide), if_neg h3, if_pos rfl, show (45 : Int32) = nI 45 from rfl, mT_sign T t4 (by decide) (by decide), if_neg h4, if_pos rfl]
  exact mc_errs h rfl (e := 1) (by decide) fun ν' h' => hK ν' h'
/-- an asking: not, or the left sum -/
theorem g_not {x : Tok} {r : List Tok} (hx : x.1 = 1 ∧ x.2.1 = 9) (hb : fr.length < 40) (h8 : op < 8) :
    go Q (fun ν => mc b N ν0 ν (x :: r) 0 fr ws os cl nc kd op) (fun ν => mc b N ν0 ν r 0 ((3, 0) :: fr) ws os cl nc kd (op + 1)) := by
  refine go_1 fun ν K h hK => lb_0 h ?_
  obtain ⟨t4, -, a', T⟩ := mc_mT h rfl
  unfold p_X5_asks
  rw [show (11 : Int32) = nI (mW 9) from rfl, mT_word T t4 (by decide), if_pos hx, if_neg (by decide)]
  exact mc_opens h rfl (by omega) (f := 3) (by decide) hb (fun e => by omega) fun _ ν' h' => hK ν' h'
theorem g_notE {x : Tok} {r : List Tok} (hx : x.1 = 1 ∧ x.2.1 = 9) (hb : fr.length < 40) :
    go Q (fun ν => mc b N ν0 ν (x :: r) 0 fr ws os cl nc kd 8) (er ν0 (3, x.2.2)) := by
  refine go_1 fun ν K h hK => lb_0 h ?_
  obtain ⟨t4, -, a', T⟩ := mc_mT h rfl
  unfold p_X5_asks
  rw [show (11 : Int32) = nI (mW 9) from rfl, mT_word T t4 (by decide), if_pos hx, if_neg (by decide)]
  exact mc_opens h rfl (by omega) (f := 3) (by decide) hb (fun _ ν' h' => hK ν' h') fun e => by omega
theorem g_left {x : Tok} {r : List Tok} (hx : ¬ (x.1 = 1 ∧ x.2.1 = 9)) (hb : fr.length < 40) :
    go Q (fun ν => mc b N ν0 ν (x :: r) 0 fr ws os cl nc kd op) (fun ν => mc b N ν0 ν (x :: r) 1 ((4, 0) :: fr) ws os cl nc kd op) := by
  refine go_1 fun ν K h hK => lb_0 h ?_
  obtain ⟨t4, -, a', T⟩ := mc_mT h rfl
  unfold p_X5_asks
  rw [show (11 : Int32) = nI (mW 9) from rfl, mT_word T t4 (by decide), if_neg hx, if_pos rfl]
  refine mc_push h (f := 4) (by decide) hb fun ν' h' => ?_
  simp only [forall_eq, ml_uI]
  exact hK _ (mc_st h' (s := 1) (by decide))
/-- behind a number: an act -/
theorem g_act {x : Tok} {r : List Tok} {t : Nat} (hx : x.1 = 3 ∧ x.2.1 = t) (ht : t = 43 ∨ t = 45 ∨ t = 42 ∨ t = 47) {y : Nat × Nat} {r0 : List (Nat × Nat)} (hf : fr = y :: r0) (hb : fr.length < 40) {P : List (Nat × Nat)} (hP : ∀ x, x ∈ P → x.2 = fr.length ∧ rkN t ≤ rkN x.1) (hw : ∀ x r, ws = x :: r → x.2 = fr.length → rkN x.1 < rkN t) (hl : (P ++ ws).length < 80) (ho : os.length + P.length ≤ 400) :
    go Q (fun ν => mc b N ν0 ν (x :: r) 2 fr (P ++ ws) os cl nc kd op) (fun ν => mc b N ν0 ν r 1 fr ((t, fr.length) :: ws) (os ++ P.map fun x => (nI x.1, 0)) cl nc kd op) := by
  refine go_1 fun ν K h hK => lb_2 h ?_
  obtain ⟨t4, -, a', T⟩ := mc_mT h rfl
  obtain ⟨-, -, h17⟩ := T.2.2.2.1 hx.1
  have hb' : r0.length < 40 := by rw [hf, List.length_cons] at hb; omega
  unfold p_X5_goesOn
  refine mc_top h hf hb' ?_
  have go49 : p_X5_goesOn_L49 411 ν (fun μ => K μ) := by
    unfold p_X5_goesOn_L49
    rw [h17, hx.2]
    refine mc_waits (by omega) hP hw hl ho (by omega) h rfl (by omega) fun ν' h' => ?_
    simp only [forall_eq, ml_uI]
    exact hK _ (mc_st h' (s := 1) (by decide))
  rw [if_pos (show m_I ν 411 16 = 3 by rw [T.1 (by omega), hx.1]; rfl), h17, hx.2]
  rcases ht with rfl | rfl | rfl | rfl
  · rw [if_pos (show nI 43 = 43 from rfl)]; exact go49
  · rw [if_neg (show ¬ nI 45 = 43 by decide), if_pos (show nI 45 = 45 from rfl)]; exact go49
  · rw [if_neg (show ¬ nI 42 = 43 by decide), if_neg (show ¬ nI 42 = 45 by decide), if_pos (show nI 42 = 42 from rfl)]; exact go49
  · rw [if_neg (show ¬ nI 47 = 43 by decide), if_neg (show ¬ nI 47 = 45 by decide), if_neg (show ¬ nI 47 = 42 by decide), if_pos (show nI 47 = 47 from rfl)]; exact go49
/-- behind a number: no act -/
theorem lb_65 {x : Tok} {r : List Tok} {y : Nat × Nat} {r0 : List (Nat × Nat)} (hf : fr = y :: r0) (hb : r0.length < 40) (h : mc b N ν0 ν (x :: r) 2 fr ws os cl nc kd op) (hx : ¬ (x.1 = 3 ∧ (x.2.1 = 43 ∨ x.2.1 = 45 ∨ x.2.1 = 42 ∨ x.2.1 = 47))) (H : p_X5_goesOn_L65 411 (nI y.1) ν fun μ => K μ) : LB Q K ν := by
  refine lb_2 h ?_
  obtain ⟨t4, -, a', T⟩ := mc_mT h rfl
  unfold p_X5_goesOn
  refine mc_top h hf hb ?_
  by_cases c : x.1 = 3
  · obtain ⟨t400, -, h17⟩ := T.2.2.2.1 c
    rw [if_pos (show m_I ν 411 16 = 3 by rw [T.1 (by omega), c]; rfl), h17,
      if_neg (show ¬ nI x.2.1 = 43 from fun e => hx ⟨c, Or.inl ((nI_eq (b := 43) (by omega) (by decide)).mp e)⟩),
      if_neg (show ¬ nI x.2.1 = 45 from fun e => hx ⟨c, Or.inr (Or.inl ((nI_eq (b := 45) (by omega) (by decide)).mp e))⟩),
      if_neg (show ¬ nI x.2.1 = 42 from fun e => hx ⟨c, Or.inr (Or.inr (Or.inl ((nI_eq (b := 42) (by omega) (by decide)).mp e)))⟩),
      if_neg (show ¬ nI x.2.1 = 47 from fun e => hx ⟨c, Or.inr (Or.inr (Or.inr ((nI_eq (b := 47) (by omega) (by decide)).mp e)))⟩)]
    exact H
  · by_cases q : x.1 = 4
    · rcases T.2.1 q with e | ⟨e, e2⟩
      · rw [if_neg (show ¬ m_I ν 411 16 = 3 by rw [e]; decide)]
        exact H
      · rw [if_pos e, e2, if_neg (by decide), if_neg (by decide), if_neg (by decide), if_neg (by decide)]
        exact H
    · rw [if_neg (show ¬ m_I ν 411 16 = 3 by rw [T.1 (by omega)]; exact fun e => c ((nI_eq (b := 3) (by omega) (by decide)).mp e))]
      exact H
end G2
