/-! plain law: text, the machine: behind an asking, a clause's end -/
section G4
variable {b : Nat → Nat} {N : Nat} {ν0 ν : fw_M} {l : List Tok} {st : Nat} {fr ws : List (Nat × Nat)} {os : List PO} {cl : List CE} {nc kd op : Nat} {Q : Int32 → fw_M → Prop} {K : fw_M → Prop}
theorem rk_pos {o : Nat} : 1 ≤ rkN o := by
  unfold rkN
  by_cases a : o = 407
  · rw [if_pos a]; decide
  rw [if_neg a]
  by_cases a2 : o = 406
  · rw [if_pos a2]; decide
  rw [if_neg a2]
  by_cases a3 : o = 43
  · rw [if_pos a3]; decide
  rw [if_neg a3]
  by_cases a4 : o = 45
  · rw [if_pos a4]; decide
  rw [if_neg a4]; decide
theorem mc_over (hf : fr.length < 40) {P : List (Nat × Nat)} (hP : ∀ x, x ∈ P → x.2 = fr.length) (hl : P.length < 80) (ho : os.length + P.length < 400) {x : Tok} {r : List Tok} (hx : x.1 ≠ 0) (h : mc b N ν0 ν (x :: r) st fr P os cl nc kd op) {Q : fw_M → Prop} (hQ : ∀ ν', mc b N ν0 ν' r 4 [] [] (os ++ (P.map fun x => (nI x.1, 0)) ++ [(408, 0)]) cl (nc + 1) kd op → Q ν') : p_X5_clauseIsOver 411 ν Q := by
  unfold p_X5_clauseIsOver
  have h' : mc b N ν0 ν (x :: r) st fr (P ++ []) os cl nc kd op := by rw [List.append_nil]; exact h
  refine mc_works (rk := 1) (by decide) (fun y hy => ⟨hP y hy, rk_pos⟩) (fun _ _ e => by cases e) (by rw [List.append_nil]; exact hl) (by omega) (by omega) h' fun ν1 h1 => ?_
  simp only [forall_eq, ml_uI, show (0 : Int32) = nI 0 from rfl]
  refine mc_emits (mc_nil h1) (by rw [List.length_append, List.length_map]; exact ho) fun ν2 h2 => ?_
  have h28 := h2.2.2.2.2.2.2.2.2.1.1
  rw [h28, nI_1]
  refine mc_next (mc_nc h2 (s := nc + 1)) rfl hx fun ν3 h3 => ?_
  exact hQ _ (mc_st h3 (s := 4) (by decide))
/-- behind an asking: or (t 7, o 407), and (t 8, o 406) -/
theorem g_and {x : Tok} {r : List Tok} {t o : Nat} (hx : x.1 = 1 ∧ x.2.1 = t) (ht : (t = 7 ∧ o = 407) ∨ (t = 8 ∧ o = 406)) (hb : fr.length < 40) {P : List (Nat × Nat)} (hP : ∀ x, x ∈ P → x.2 = fr.length ∧ rkN o ≤ rkN x.1) (hw : ∀ x r, ws = x :: r → x.2 = fr.length → rkN x.1 < rkN o) (hl : (P ++ ws).length < 80) (ho : os.length + P.length ≤ 400) :
    go Q (fun ν => mc b N ν0 ν (x :: r) 3 fr (P ++ ws) os cl nc kd op) (fun ν => mc b N ν0 ν r 0 fr ((o, fr.length) :: ws) (os ++ P.map fun x => (nI x.1, 0)) cl nc kd op) := by
  refine go_1 fun ν K h hK => lb_3 h ?_
  obtain ⟨t4, -, a', T⟩ := mc_mT h rfl
  have m7 : (9 : Int32) = nI (mW 7) := rfl
  have m8 : (10 : Int32) = nI (mW 8) := rfl
  have L37 : p_X5_asksOn_L37 411 411 (nI o) ν fun μ => K μ := by
    unfold p_X5_asksOn_L37
    refine ⟨sk_k411 (mc_sk h), mc_waits (by omega) hP hw hl ho (by omega) h rfl (by omega) fun ν' h' => ?_⟩
    simp only [forall_eq, ml_uI, show (0 : Int32) = nI 0 from rfl]
    exact hK _ (mc_st h' (s := 0) (by decide))
  unfold p_X5_asksOn
  rcases ht with ⟨rfl, rfl⟩ | ⟨rfl, rfl⟩
  · rw [m7, mT_word T t4 (by decide), if_pos hx, if_neg (by decide)]
    unfold p_X5_asksOn_L18
    rw [m7, mT_word T t4 (by decide), if_pos hx, if_neg (by decide)]
    exact L37
  · rw [m7, mT_word T t4 (by decide), if_neg (show ¬ (x.1 = 1 ∧ x.2.1 = 7) by omega), if_pos rfl, m8, mT_word T t4 (by decide), if_pos hx, if_neg (by decide)]
    unfold p_X5_asksOn_L18
    rw [m7, mT_word T t4 (by decide), if_neg (show ¬ (x.1 = 1 ∧ x.2.1 = 7) by omega), if_pos rfl]
    exact L37
theorem lb_top3 {x : Tok} {r : List Tok} (h : mc b N ν0 ν (x :: r) 3 fr ws os cl nc kd op) (h1 : ¬ (x.1 = 1 ∧ x.2.1 = 7)) (h2 : ¬ (x.1 = 1 ∧ x.2.1 = 8)) {r0 : List (Nat × Nat)} (hf : fr = (2, 0) :: r0) (hb : r0.length < 40) (H : (x.1 = 3 ∧ x.2.1 = 59 → p_X5_clauseIsOver 411 ν fun μ => K μ) ∧ (¬ (x.1 = 3 ∧ x.2.1 = 59) → p_X5_asksOn_L72 411 ν fun μ => K μ)) : LB Q K ν := by
  refine lb_3 h ?_
  obtain ⟨t4, -, a', T⟩ := mc_mT h rfl
  unfold p_X5_asksOn
  rw [show (9 : Int32) = nI (mW 7) from rfl, mT_word T t4 (by decide), if_neg h1, if_pos rfl, show (10 : Int32) = nI (mW 8) from rfl, mT_word T t4 (by decide), if_neg h2, if_pos rfl]
  refine mc_top h hf hb ?_
  rw [if_pos (show nI 2 = 2 from rfl), show (59 : Int32) = nI 59 from rfl, mT_sign T t4 (by decide) (by decide)]
  by_cases c : x.1 = 3 ∧ x.2.1 = 59
  · rw [if_pos c, if_neg (by decide)]
    exact H.1 c
  · rw [if_neg c, if_pos rfl]
    exact H.2 c
theorem g_end3 {x : Tok} {r : List Tok} (hx : x.1 = 3 ∧ x.2.1 = 59) {r0 : List (Nat × Nat)} (hb : r0.length < 39) (hP : ∀ x, x ∈ ws → x.2 = r0.length + 1) (hl : ws.length < 80) (ho : os.length + ws.length < 400) :
    go Q (fun ν => mc b N ν0 ν (x :: r) 3 ((2, 0) :: r0) ws os cl nc kd op) (fun ν => mc b N ν0 ν r 4 [] [] (os ++ (ws.map fun x => (nI x.1, 0)) ++ [(408, 0)]) cl (nc + 1) kd op) := by
  refine go_1 fun ν K h hK => lb_top3 h (by omega) (by omega) rfl (by omega) ⟨fun _ => ?_, fun c => absurd hx c⟩
  exact mc_over (fr := (2, 0) :: r0) (by show r0.length + 1 < 40; omega) hP hl ho (by omega) h fun ν' h' => hK ν' h'
theorem g_no3 {x : Tok} {r : List Tok} (h1 : ¬ (x.1 = 1 ∧ x.2.1 = 7)) (h2 : ¬ (x.1 = 1 ∧ x.2.1 = 8)) (h3 : ¬ (x.1 = 3 ∧ x.2.1 = 59)) {r0 : List (Nat × Nat)} (hb : r0.length < 40) :
    go Q (fun ν => mc b N ν0 ν (x :: r) 3 ((2, 0) :: r0) ws os cl nc kd op) (er ν0 (1, x.2.2)) := by
  refine go_1 fun ν K h hK => lb_top3 h h1 h2 rfl hb ⟨fun c => absurd c h3, fun _ => ?_⟩
  unfold p_X5_asksOn_L72
  exact mc_errs h rfl (e := 1) (by decide) fun ν' h' => hK ν' h'
/-- the ; behind a sum -/
theorem g_end2 {x : Tok} {r : List Tok} (hx : x.1 = 3 ∧ x.2.1 = 59) {r0 : List (Nat × Nat)} (hb : r0.length < 39) (hP : ∀ x, x ∈ ws → x.2 = r0.length + 1) (hl : ws.length < 80) (ho : os.length + ws.length < 400) :
    go Q (fun ν => mc b N ν0 ν (x :: r) 2 ((1, 0) :: r0) ws os cl nc kd op) (fun ν => mc b N ν0 ν r 4 [] [] (os ++ (ws.map fun x => (nI x.1, 0)) ++ [(408, 0)]) cl (nc + 1) kd op) := by
  refine go_1 fun ν K h hK => lb_65 rfl (by omega) h (by omega) ?_
  obtain ⟨t4, -, a', T⟩ := mc_mT h rfl
  unfold p_X5_goesOn_L65
  rw [if_neg (show ¬ nI 1 = 6 by decide)]
  unfold p_X5_goesOn_L116
  rw [if_neg (show ¬ nI 1 = 4 by decide)]
  unfold p_X5_goesOn_L181
  rw [if_neg (show ¬ nI 1 = 5 by decide), if_pos (show nI 1 = 1 from rfl), show (59 : Int32) = nI 59 from rfl, mT_sign T t4 (by decide) (by decide), if_pos hx, if_neg (by decide)]
  exact mc_over (fr := (1, 0) :: r0) (by show r0.length + 1 < 40; omega) hP hl ho (by omega) h fun ν' h' => hK ν' h'
end G4
