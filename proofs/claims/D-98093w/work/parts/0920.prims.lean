/-! plain law: text, the machine's small ints -/
section MS
variable {b : Nat → Nat} {N : Nat} {ν0 ν : fw_M} {l : List Tok} {st : Nat} {fr ws : List (Nat × Nat)} {os : List PO} {cl : List CE} {nc kd op : Nat}
theorem mc_st (h : mc b N ν0 ν l st fr ws os cl nc kd op) {s : Nat} (hs : s < 5) : mc b N ν0 (m_sI ν 411 (ml_u (m_I ν 411) 27 (nI s))) l (s) fr ws os cl nc kd op := by
  obtain ⟨h1, h2, h3, h4, h5, h6, h7, h8, h9, h10, h11⟩ := id h
  have g : eqD (fun p i => p = 411 ∧ i = 27) ν (m_sI ν 411 (ml_u (m_I ν 411) 27 (nI s))) := eqD.sI fun i hi => ml_un fun e => hi ⟨rfl, e⟩
  have e : m_I (m_sI ν 411 (ml_u (m_I ν 411) 27 (nI s))) 411 27 = (nI s) := by rw [ml_Is, ml_us]
  exact mc_set h g (fun p i q => by unfold DT; omega) (mc_t h4 g fun p j q => by omega) ⟨e, hs⟩ (mc_f h6 g fun p j q => by omega) (mc_w h7 g fun p j q => by omega) (mc_o h8 g fun p j q => by omega) (mc_c h9 g fun p j q => by omega) ⟨mc_1 h10.1 g (by omega), h10.2⟩ ⟨mc_1 h11.1 g (by omega), h11.2⟩
theorem mc_op (h : mc b N ν0 ν l st fr ws os cl nc kd op) {s : Nat} (hs : s ≤ 8) : mc b N ν0 (m_sI ν 411 (ml_u (m_I ν 411) 20 (nI s))) l st fr ws os cl nc kd (s) := by
  obtain ⟨h1, h2, h3, h4, h5, h6, h7, h8, h9, h10, h11⟩ := id h
  have g : eqD (fun p i => p = 411 ∧ i = 20) ν (m_sI ν 411 (ml_u (m_I ν 411) 20 (nI s))) := eqD.sI fun i hi => ml_un fun e => hi ⟨rfl, e⟩
  have e : m_I (m_sI ν 411 (ml_u (m_I ν 411) 20 (nI s))) 411 20 = (nI s) := by rw [ml_Is, ml_us]
  exact mc_set h g (fun p i q => by unfold DT; omega) (mc_t h4 g fun p j q => by omega) ⟨mc_1 h5.1 g (by omega), h5.2⟩ (mc_f h6 g fun p j q => by omega) (mc_w h7 g fun p j q => by omega) (mc_o h8 g fun p j q => by omega) (mc_c h9 g fun p j q => by omega) ⟨mc_1 h10.1 g (by omega), h10.2⟩ ⟨e, hs⟩
theorem mc_kd (h : mc b N ν0 ν l st fr ws os cl nc kd op) {s : Nat} (hs : s < 7) : mc b N ν0 (m_sI ν 411 (ml_u (m_I ν 411) 29 (nI s))) l st fr ws os cl nc (s) op := by
  obtain ⟨h1, h2, h3, h4, h5, h6, h7, h8, h9, h10, h11⟩ := id h
  have g : eqD (fun p i => p = 411 ∧ i = 29) ν (m_sI ν 411 (ml_u (m_I ν 411) 29 (nI s))) := eqD.sI fun i hi => ml_un fun e => hi ⟨rfl, e⟩
  have e : m_I (m_sI ν 411 (ml_u (m_I ν 411) 29 (nI s))) 411 29 = (nI s) := by rw [ml_Is, ml_us]
  exact mc_set h g (fun p i q => by unfold DT; omega) (mc_t h4 g fun p j q => by omega) ⟨mc_1 h5.1 g (by omega), h5.2⟩ (mc_f h6 g fun p j q => by omega) (mc_w h7 g fun p j q => by omega) (mc_o h8 g fun p j q => by omega) (mc_c h9 g fun p j q => by omega) ⟨e, hs⟩ ⟨mc_1 h11.1 g (by omega), h11.2⟩
theorem mc_nc (h : mc b N ν0 ν l st fr ws os cl nc kd op) {s : Nat} : mc b N ν0 (m_sI ν 411 (ml_u (m_I ν 411) 28 (nI s))) l st fr ws os cl (s) kd op := by
  obtain ⟨h1, h2, h3, h4, h5, h6, h7, h8, h9, h10, h11⟩ := id h
  have g : eqD (fun p i => p = 411 ∧ i = 28) ν (m_sI ν 411 (ml_u (m_I ν 411) 28 (nI s))) := eqD.sI fun i hi => ml_un fun e => hi ⟨rfl, e⟩
  have e : m_I (m_sI ν 411 (ml_u (m_I ν 411) 28 (nI s))) 411 28 = (nI s) := by rw [ml_Is, ml_us]
  exact mc_set h g (fun p i q => by unfold DT; omega) (mc_t h4 g fun p j q => by omega) ⟨mc_1 h5.1 g (by omega), h5.2⟩ (mc_f h6 g fun p j q => by omega) (mc_w h7 g fun p j q => by omega) (mc_o h8 g fun p j q => by omega) ⟨e, fun i hi => by rw [ml_In (by decide), ml_In (by decide), ml_In (by decide), ml_In (by decide)]; exact h9.2 i hi⟩ ⟨mc_1 h10.1 g (by omega), h10.2⟩ ⟨mc_1 h11.1 g (by omega), h11.2⟩
theorem mc_pop (h : mc b N ν0 ν l st fr ws os cl nc kd op) {x : Nat × Nat} {r : List (Nat × Nat)} (hf : fr = x :: r) : mc b N ν0 (m_sI ν 411 (ml_u (m_I ν 411) 21 (nI r.length))) l st (r) ws os cl nc kd op := by
  obtain ⟨h1, h2, h3, h4, h5, h6, h7, h8, h9, h10, h11⟩ := id h
  have g : eqD (fun p i => p = 411 ∧ i = 21) ν (m_sI ν 411 (ml_u (m_I ν 411) 21 (nI r.length))) := eqD.sI fun i hi => ml_un fun e => hi ⟨rfl, e⟩
  have e : m_I (m_sI ν 411 (ml_u (m_I ν 411) 21 (nI r.length))) 411 21 = (nI r.length) := by rw [ml_Is, ml_us]
  exact mc_set h g (fun p i q => by unfold DT; omega) (mc_t h4 g fun p j q => by omega) ⟨mc_1 h5.1 g (by omega), h5.2⟩ ⟨e, by subst hf; exact h6.2.2.2.2.eq (fun i _ => g.2.2.2 422 i (by omega)) fun i _ => g.2.2.2 423 i (by omega)⟩ (mc_w h7 g fun p j q => by omega) (mc_o h8 g fun p j q => by omega) (mc_c h9 g fun p j q => by omega) ⟨mc_1 h10.1 g (by omega), h10.2⟩ ⟨mc_1 h11.1 g (by omega), h11.2⟩
theorem mc_nil (h : mc b N ν0 ν l st fr ws os cl nc kd op)  : mc b N ν0 (m_sI ν 411 (ml_u (m_I ν 411) 21 (nI 0))) l st ([]) ws os cl nc kd op := by
  obtain ⟨h1, h2, h3, h4, h5, h6, h7, h8, h9, h10, h11⟩ := id h
  have g : eqD (fun p i => p = 411 ∧ i = 21) ν (m_sI ν 411 (ml_u (m_I ν 411) 21 (nI 0))) := eqD.sI fun i hi => ml_un fun e => hi ⟨rfl, e⟩
  have e : m_I (m_sI ν 411 (ml_u (m_I ν 411) 21 (nI 0))) 411 21 = (nI 0) := by rw [ml_Is, ml_us]
  exact mc_set h g (fun p i q => by unfold DT; omega) (mc_t h4 g fun p j q => by omega) ⟨mc_1 h5.1 g (by omega), h5.2⟩ ⟨e, trivial⟩ (mc_w h7 g fun p j q => by omega) (mc_o h8 g fun p j q => by omega) (mc_c h9 g fun p j q => by omega) ⟨mc_1 h10.1 g (by omega), h10.2⟩ ⟨mc_1 h11.1 g (by omega), h11.2⟩
theorem mc_wpop (h : mc b N ν0 ν l st fr ws os cl nc kd op) {x : Nat × Nat} {r : List (Nat × Nat)} (hw : ws = x :: r) : mc b N ν0 (m_sI ν 411 (ml_u (m_I ν 411) 24 (nI r.length))) l st fr (r) os cl nc kd op := by
  obtain ⟨h1, h2, h3, h4, h5, h6, h7, h8, h9, h10, h11⟩ := id h
  have g : eqD (fun p i => p = 411 ∧ i = 24) ν (m_sI ν 411 (ml_u (m_I ν 411) 24 (nI r.length))) := eqD.sI fun i hi => ml_un fun e => hi ⟨rfl, e⟩
  have e : m_I (m_sI ν 411 (ml_u (m_I ν 411) 24 (nI r.length))) 411 24 = (nI r.length) := by rw [ml_Is, ml_us]
  exact mc_set h g (fun p i q => by unfold DT; omega) (mc_t h4 g fun p j q => by omega) ⟨mc_1 h5.1 g (by omega), h5.2⟩ (mc_f h6 g fun p j q => by omega) ⟨e, by subst hw; exact h7.2.2.2.2.2.eq fun i _ => ⟨g.2.2.2 424 i (by omega), g.2.2.2 425 i (by omega)⟩⟩ (mc_o h8 g fun p j q => by omega) (mc_c h9 g fun p j q => by omega) ⟨mc_1 h10.1 g (by omega), h10.2⟩ ⟨mc_1 h11.1 g (by omega), h11.2⟩
theorem mc_push (h : mc b N ν0 ν l st fr ws os cl nc kd op) {f : Nat} (hf : f < 10 ∧ f ≠ 5) (hb : fr.length < 40) {Q : fw_M → Prop} (hQ : ∀ ν', mc b N ν0 ν' l st ((f, 0) :: fr) ws os cl nc kd op → Q ν') : p_X5_opensFrame 411 (nI f) ν Q := by
  obtain ⟨h1, h2, h3, h4, h5, h6, h7, h8, h9, h10, h11⟩ := id h
  have gs := mc_sk h
  have h21 := h6.1
  unfold p_X5_opensFrame
  simp (disch := omega) only [sk_p411_0 gs, sk_p411_1 gs, sk_p411_2 gs, sk_p411_6 gs, sk_p411_7 gs, sk_p411_8 gs, sk_p411_9 gs, sk_p411_10 gs, sk_p411_11 gs, sk_p411_12 gs, sk_p411_22 gs, sk_p411_23 gs, sk_p411_25 gs, sk_p411_26 gs, sk_p411_30 gs, sk_p411_31 gs, sk_p411_32 gs, sk_p411_33 gs, sk_p411_35 gs, sk_p411_36 gs, sk_p411_37 gs, sk_p411_38 gs, sk_p411_39 gs, sk_p411_40 gs, sk_p411_42 gs, sk_p411_43 gs, sk_p411_44 gs, sk_p411_45 gs, sk_p411_46 gs, sk_k411 gs, sk_n411 gs, sk_k422 gs, sk_n422 gs, h21, nI_clamp, vp_t, true_and, forall_eq, ml_uI, ml_KI, ml_PI, ml_NI, ml_SI, ml_xI, ml_Is, ml_In, ml_us, ml_un, ml_cp, ml_ss, nI_1]
  have g : eqD (fun p j => (p = 422 ∧ j = fr.length) ∨ (p = 411 ∧ j = 21)) ν (m_sI (m_sI ν 422 (ml_u (m_I ν 422) fr.length (nI f))) 411 (ml_u (m_I ν 411) 21 (nI (fr.length + 1)))) := by
    refine (eqD.sI fun j hj => ml_un fun e => hj (Or.inl ⟨rfl, e⟩)).tr (eqD.sI fun j hj => ?_)
    rw [ml_un fun e => hj (Or.inr ⟨rfl, e⟩), ml_In (by decide)]
  refine hQ _ (mc_set h g (fun p j q => by unfold DT; omega) (mc_t h4 g fun p j q => by omega) ⟨mc_1 h5.1 g (by omega), h5.2⟩ ⟨?_, ?_, hf.1, fun e => absurd e hf.2, ?_⟩ (mc_w h7 g fun p j q => by omega) (mc_o h8 g fun p j q => by omega) (mc_c h9 g fun p j q => by omega) ⟨mc_1 h10.1 g (by omega), h10.2⟩ ⟨mc_1 h11.1 g (by omega), h11.2⟩)
  · rw [ml_Is, ml_us]; rfl
  · rw [ml_In (by decide), ml_Is, ml_us]
  · exact h6.2.eq (fun i hi => g.2.2.2 422 i (by omega)) fun i _ => g.2.2.2 423 i (by omega)
theorem mc_top (h : mc b N ν0 ν l st fr ws os cl nc kd op) {x : Nat × Nat} {r : List (Nat × Nat)} (hf : fr = x :: r) (hb : r.length < 40) {Q : Int32 → fw_M → Prop} (hQ : Q (nI x.1) ν) : p_X5_top 411 ν Q := by
  obtain ⟨h1, h2, h3, h4, h5, h6, h7, h8, h9, h10, h11⟩ := id h
  have gs := mc_sk h
  subst hf
  have h21 : m_I ν 411 21 = nI (r.length + 1) := h6.1
  unfold p_X5_top
  rw [h21, show (nI (r.length + 1) - 1 : Int32) = nI r.length from pk_sub (b := 1) (by omega)]
  simp (disch := omega) only [sk_p411_0 gs, sk_p411_1 gs, sk_p411_2 gs, sk_p411_6 gs, sk_p411_7 gs, sk_p411_8 gs, sk_p411_9 gs, sk_p411_10 gs, sk_p411_11 gs, sk_p411_12 gs, sk_p411_22 gs, sk_p411_23 gs, sk_p411_25 gs, sk_p411_26 gs, sk_p411_30 gs, sk_p411_31 gs, sk_p411_32 gs, sk_p411_33 gs, sk_p411_35 gs, sk_p411_36 gs, sk_p411_37 gs, sk_p411_38 gs, sk_p411_39 gs, sk_p411_40 gs, sk_p411_42 gs, sk_p411_43 gs, sk_p411_44 gs, sk_p411_45 gs, sk_p411_46 gs, sk_k411 gs, sk_n411 gs, sk_k422 gs, sk_n422 gs, nI_clamp, vp_t, true_and, h6.2.1]
  exact hQ
theorem m_rank {o : Nat} {ν : fw_M} {Q : Int32 → fw_M → Prop} : p_X5_rank (nI o) ν Q = Q (if nI o = 407 then 1 else if nI o = 406 then 2 else if nI o = 43 then 3 else if nI o = 45 then 3 else 4) ν := by
  unfold p_X5_rank p_X5_rank_L34
  by_cases a : nI o = 407
  · rw [if_pos a, if_pos a]
  rw [if_neg a, if_neg a]
  by_cases a2 : nI o = 406
  · rw [if_pos a2, if_pos a2]
  rw [if_neg a2, if_neg a2]
  by_cases a3 : nI o = 43
  · rw [if_pos a3, if_pos a3]
  rw [if_neg a3, if_neg a3]
  by_cases a4 : nI o = 45
  · rw [if_pos a4, if_pos a4]
  rw [if_neg a4, if_neg a4]
def rkN (o : Nat) : Nat := if o = 407 then 1 else if o = 406 then 2 else if o = 43 then 3 else if o = 45 then 3 else 4
set_option maxRecDepth 100000 in
theorem rk_all : ∀ o, o < 500 → (if nI o = 407 then (1 : Int32) else if nI o = 406 then 2 else if nI o = 43 then 3 else if nI o = 45 then 3 else 4) = nI (rkN o) := by decide +kernel
theorem rk_eq {o : Nat} (h : o < 500) : (if nI o = 407 then (1 : Int32) else if nI o = 406 then 2 else if nI o = 43 then 3 else if nI o = 45 then 3 else 4) = nI (rkN o) := rk_all o h
/-- the waits P on top are worked off, those below keep -/
theorem mc_works {rk : Nat} (hr : rk < 5) : ∀ {P : List (Nat × Nat)} {ws : List (Nat × Nat)} {os : List PO}, (∀ x, x ∈ P → x.2 = fr.length ∧ rk ≤ rkN x.1) → (∀ x r, ws = x :: r → x.2 = fr.length → rkN x.1 < rk) → (P ++ ws).length < 80 → os.length + P.length ≤ 400 → fr.length < 100 →
    ∀ {ν : fw_M}, mc b N ν0 ν l st fr (P ++ ws) os cl nc kd op → ∀ {Q : fw_M → Prop}, (∀ ν', mc b N ν0 ν' l st fr ws (os ++ P.map fun x => (nI x.1, 0)) cl nc kd op → Q ν') → p_X5_works 411 (nI rk) ν Q := by
  intro P ws os hP hw hb ho hfl ν h Q hQ
  unfold p_X5_works p_X5_works_L0
  -- the count of worked off waits
  refine lp_to P.length (fun k x => mc b N ν0 x l st fr (P.drop k ++ ws) (os ++ (P.take k).map fun x => (nI x.1, 0)) cl nc kd op) (fun k x hk hx K hK => ?_) (fun x hx K => ?_) (by rw [List.take_zero, List.map_nil, List.append_nil, List.drop_zero]; exact h)
  · have gs := mc_sk hx
    obtain ⟨y, hy⟩ : ∃ y, P.drop k = y :: P.drop (k + 1) := ⟨P[k], List.drop_eq_getElem_cons hk⟩
    have tk : P.take (k + 1) = P.take k ++ [y] := by
      have h1 : P[k] = y := by
        have := List.drop_eq_getElem_cons hk
        rw [hy] at this
        exact (List.cons.inj this).1.symm
      rw [List.take_succ, List.getElem?_eq_getElem hk, h1]
      rfl
    have ym : y ∈ P := List.mem_of_mem_drop (i := k) (by rw [hy]; exact List.mem_cons_self ..)
    obtain ⟨y1, y2⟩ := hP y ym
    rw [hy] at hx
    obtain ⟨h1, h2, h3, h4, h5, h6, h7, h8, h9, h10, h11⟩ := id hx
    have len : (P.drop (k + 1) ++ ws).length < 79 := by
      rw [List.length_append, List.length_drop]
      rw [List.length_append] at hb
      omega
    have h24 : m_I x 411 24 = nI ((P.drop (k + 1) ++ ws).length + 1) := h7.1
    obtain ⟨-, w1, w2, w3, w4, w5⟩ := h7
    have w1' : m_I x 424 (P.drop (k + 1) ++ ws).length = nI y.1 := w1
    have w3' : m_I x 425 (P.drop (k + 1) ++ ws).length = nI y.2 := w3
    have h21 := h6.1
    have hx2 : mc b N ν0 (m_sI x 411 (ml_u (m_I x 411) 24 (nI (P.drop (k + 1) ++ ws).length))) l st fr (P.drop (k + 1) ++ ws) (os ++ (P.take k).map fun x => (nI x.1, 0)) cl nc kd op := mc_wpop hx (x := y) rfl
    have tl : ((P.take k).map fun x => ((nI x.1, 0) : PO)).length = k := by
      rw [List.length_map, List.length_take]; omega
    generalize hR : P.drop (k + 1) ++ ws = R at *
    show p_X5_works_L0b 411 (nI rk) (fun μ => K μ) x Q
    unfold p_X5_works_L0b
    rw [h24, if_neg (nI_nle (by omega) (by omega)), show (nI (R.length + 1) - 1 : Int32) = nI R.length from pk_sub (b := 1) (by omega)]
    simp (disch := omega) only [sk_p411_0 gs, sk_p411_1 gs, sk_p411_2 gs, sk_p411_6 gs, sk_p411_7 gs, sk_p411_8 gs, sk_p411_9 gs, sk_p411_10 gs, sk_p411_11 gs, sk_p411_12 gs, sk_p411_22 gs, sk_p411_23 gs, sk_p411_25 gs, sk_p411_26 gs, sk_p411_30 gs, sk_p411_31 gs, sk_p411_32 gs, sk_p411_33 gs, sk_p411_35 gs, sk_p411_36 gs, sk_p411_37 gs, sk_p411_38 gs, sk_p411_39 gs, sk_p411_40 gs, sk_p411_42 gs, sk_p411_43 gs, sk_p411_44 gs, sk_p411_45 gs, sk_p411_46 gs, sk_k411 gs, sk_n411 gs, sk_k424 gs, sk_n424 gs, sk_k425 gs, sk_n425 gs, nI_clamp, vp_t, true_and, w3', y1, h21, if_true, w1', m_rank, rk_eq w2]
    have rk5 : rkN y.1 < 5 := by
      unfold rkN
      by_cases a : y.1 = 407
      · rw [if_pos a]; decide
      rw [if_neg a]
      by_cases a2 : y.1 = 406
      · rw [if_pos a2]; decide
      rw [if_neg a2]
      by_cases a3 : y.1 = 43
      · rw [if_pos a3]; decide
      rw [if_neg a3]
      by_cases a4 : y.1 = 45
      · rw [if_pos a4]; decide
      rw [if_neg a4]; decide
    rw [if_neg (nI_nlt y2 (by omega))]
    have hp : (nI (R.length + 1) - 1 : Int32) = nI R.length := pk_sub (b := 1) (by omega)
    simp (disch := omega) only [forall_eq, h24, hp, ml_uI, ml_KI, ml_PI, ml_NI, ml_SI, ml_xI, ml_Is, ml_In, ml_us, ml_un, ml_cp, ml_ss, sk_p411_0 gs, sk_p411_1 gs, sk_p411_2 gs, sk_p411_6 gs, sk_p411_7 gs, sk_p411_8 gs, sk_p411_9 gs, sk_p411_10 gs, sk_p411_11 gs, sk_p411_12 gs, sk_p411_22 gs, sk_p411_23 gs, sk_p411_25 gs, sk_p411_26 gs, sk_p411_30 gs, sk_p411_31 gs, sk_p411_32 gs, sk_p411_33 gs, sk_p411_35 gs, sk_p411_36 gs, sk_p411_37 gs, sk_p411_38 gs, sk_p411_39 gs, sk_p411_40 gs, sk_p411_42 gs, sk_p411_43 gs, sk_p411_44 gs, sk_p411_45 gs, sk_p411_46 gs, sk_k411 gs, sk_n411 gs, sk_k424 gs, sk_n424 gs, sk_k425 gs, sk_n425 gs, nI_clamp, vp_t, true_and, w1']
    refine mc_emits hx2 (by rw [List.length_append, tl]; omega) fun ν' h' => ?_
    refine hK ν' ?_
    rw [tk, List.map_append, ← List.append_assoc]
    exact h'
  · rw [List.take_length, List.drop_length, List.nil_append] at hx
    have gs := mc_sk hx
    obtain ⟨h1, h2, h3, h4, h5, h6, h7, h8, h9, h10, h11⟩ := id hx
    show p_X5_works_L0b 411 (nI rk) (fun μ => K μ) x Q
    unfold p_X5_works_L0b
    cases hws : ws with
    | nil =>
      have h24 : m_I x 411 24 = nI 0 := by rw [h7.1, hws]; rfl
      rw [h24, if_pos (show nI 0 ≤ 0 by decide)]
      exact hQ x hx
    | cons y R =>
      have h24 : m_I x 411 24 = nI (R.length + 1) := by rw [h7.1, hws]; rfl
      rw [hws] at h7
      obtain ⟨-, w1, w2, w3, w4, w5⟩ := h7
      have h21 := h6.1
      have lR : R.length < 79 := by
        rw [hws, List.length_append, List.length_cons] at hb
        omega
      rw [h24, if_neg (nI_nle (by omega) (by omega)), show (nI (R.length + 1) - 1 : Int32) = nI R.length from pk_sub (b := 1) (by omega)]
      simp (disch := omega) only [sk_p411_0 gs, sk_p411_1 gs, sk_p411_2 gs, sk_p411_6 gs, sk_p411_7 gs, sk_p411_8 gs, sk_p411_9 gs, sk_p411_10 gs, sk_p411_11 gs, sk_p411_12 gs, sk_p411_22 gs, sk_p411_23 gs, sk_p411_25 gs, sk_p411_26 gs, sk_p411_30 gs, sk_p411_31 gs, sk_p411_32 gs, sk_p411_33 gs, sk_p411_35 gs, sk_p411_36 gs, sk_p411_37 gs, sk_p411_38 gs, sk_p411_39 gs, sk_p411_40 gs, sk_p411_42 gs, sk_p411_43 gs, sk_p411_44 gs, sk_p411_45 gs, sk_p411_46 gs, sk_k411 gs, sk_n411 gs, sk_k424 gs, sk_n424 gs, sk_k425 gs, sk_n425 gs, nI_clamp, vp_t, true_and, w3, h21]
      by_cases c : y.2 = fr.length
      · rw [c, if_pos rfl]
        simp (disch := omega) only [sk_p411_0 gs, sk_p411_1 gs, sk_p411_2 gs, sk_p411_6 gs, sk_p411_7 gs, sk_p411_8 gs, sk_p411_9 gs, sk_p411_10 gs, sk_p411_11 gs, sk_p411_12 gs, sk_p411_22 gs, sk_p411_23 gs, sk_p411_25 gs, sk_p411_26 gs, sk_p411_30 gs, sk_p411_31 gs, sk_p411_32 gs, sk_p411_33 gs, sk_p411_35 gs, sk_p411_36 gs, sk_p411_37 gs, sk_p411_38 gs, sk_p411_39 gs, sk_p411_40 gs, sk_p411_42 gs, sk_p411_43 gs, sk_p411_44 gs, sk_p411_45 gs, sk_p411_46 gs, sk_k411 gs, sk_n411 gs, sk_k424 gs, sk_n424 gs, sk_k425 gs, sk_n425 gs, nI_clamp, vp_t, true_and, w1, m_rank, rk_eq w2]
        have := hw y R hws c
        rw [if_pos (nI_lt this (by omega))]
        exact hQ x hx
      · rw [if_neg (fun e => c ((nI_eq (by omega) (by omega)).mp e))]
        exact hQ x hx
end MS
