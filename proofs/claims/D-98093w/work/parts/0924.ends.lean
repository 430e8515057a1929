/-! plain law: text, the machine: what ends -/
section G3
variable {b : Nat → Nat} {N : Nat} {ν0 ν : fw_M} {l : List Tok} {st : Nat} {fr ws : List (Nat × Nat)} {os : List PO} {cl : List CE} {nc kd op : Nat} {Q : Int32 → fw_M → Prop} {K : fw_M → Prop}
def nAct (x : Tok) : Prop := ¬ (x.1 = 3 ∧ (x.2.1 = 43 ∨ x.2.1 = 45 ∨ x.2.1 = 42 ∨ x.2.1 = 47))
/-- a bracket closes -/
theorem g_close {x : Tok} {r : List Tok} (hx : x.1 = 3 ∧ x.2.1 = 41) {y : Nat × Nat} {r0 : List (Nat × Nat)} (hy : y.1 ≠ 7) {k : Nat} (hk : k + 1 ≤ op) (hb : (rep k 7 ++ y :: r0).length < 39) {P : List (Nat × Nat)} (hP : ∀ x, x ∈ P → x.2 = (rep k 7 ++ y :: r0).length + 1 ∧ 3 ≤ rkN x.1) (hw : ∀ x r, ws = x :: r → x.2 = (rep k 7 ++ y :: r0).length + 1 → rkN x.1 < 3) (hl : (P ++ ws).length < 80) (ho : os.length + P.length + k ≤ 400) :
    go Q (fun ν => mc b N ν0 ν (x :: r) 2 ((6, 0) :: (rep k 7 ++ y :: r0)) (P ++ ws) os cl nc kd op) (fun ν => mc b N ν0 ν r 2 (y :: r0) ws (os ++ (P.map fun x => (nI x.1, 0)) ++ repO k 402) cl nc kd (op - 1 - k)) := by
  refine go_1 fun ν K h hK => lb_65 rfl (by omega) h (by omega) ?_
  obtain ⟨t4, -, a', T⟩ := mc_mT h rfl
  unfold p_X5_goesOn_L65
  rw [if_pos (show nI 6 = 6 from rfl), show (41 : Int32) = nI 41 from rfl, mT_sign T t4 (by decide) (by decide), if_pos hx, if_neg (by decide)]
  refine mc_works (rk := 3) (by decide) (fr := (6, 0) :: (rep k 7 ++ y :: r0)) hP hw hl (by omega) (by show (rep k 7 ++ y :: r0).length + 1 < 100; omega) h fun ν1 h1 => ?_
  have h21 : m_I ν1 411 21 = nI ((rep k 7 ++ y :: r0).length + 1) := h1.2.2.2.2.2.1.1
  have p1 := mc_pop h1 (x := (6, 0)) rfl
  have h20 := p1.2.2.2.2.2.2.2.2.2.2
  simp only [forall_eq, ml_uI, h21, show (nI ((rep k 7 ++ y :: r0).length + 1) - 1 : Int32) = nI (rep k 7 ++ y :: r0).length from pk_sub (b := 1) (by omega)]
  rw [h20.1, show (nI op - 1 : Int32) = nI (op - 1) from pk_sub (b := 1) (by omega)]
  refine mc_next (mc_op p1 (s := op - 1) (by omega)) rfl (by omega) fun ν2 h2 => ?_
  exact mc_oneOver hy (by omega) (by omega) (by rw [List.length_append, List.length_map]; omega) h2 fun ν3 h3 => hK ν3 h3
theorem m_asking {t : Nat} (ht : t < 400) {μ : fw_M} {Q : Int32 → fw_M → Prop} : p_X5_isAsking (nI t) μ Q = Q (if isCmp 3 t = true then 1 else 0) μ := by
  have e : ∀ k, k < 400 → (nI t = nI k ↔ t = k) := fun k hk => nI_eq (by omega) (by omega)
  have hc : isCmp 3 t = true ↔ (t = 60 ∨ t = 62 ∨ t = 61 ∨ t = 35 ∨ t = 300 ∨ t = 301) := by
    unfold isCmp
    simp only [decide_true, Bool.true_and, Bool.or_eq_true, decide_eq_true_eq]
    omega
  unfold p_X5_isAsking p_X5_isAsking_L38
  by_cases c : isCmp 3 t = true
  · rw [if_pos c]
    rcases hc.mp c with rfl | rfl | rfl | rfl | rfl | rfl
    · rw [if_pos (show nI 60 = 60 from rfl)]
    · rw [if_neg (show ¬ nI 62 = 60 by decide), if_pos (show nI 62 = 62 from rfl)]
    · rw [if_neg (show ¬ nI 61 = 60 by decide), if_neg (show ¬ nI 61 = 62 by decide), if_pos (show nI 61 = 61 from rfl)]
    · rw [if_neg (show ¬ nI 35 = 60 by decide), if_neg (show ¬ nI 35 = 62 by decide), if_neg (show ¬ nI 35 = 61 by decide), if_pos (show nI 35 = 35 from rfl)]
    · rw [if_neg (show ¬ nI 300 = 60 by decide), if_neg (show ¬ nI 300 = 62 by decide), if_neg (show ¬ nI 300 = 61 by decide), if_neg (show ¬ nI 300 = 35 by decide), if_pos (show nI 300 = 300 from rfl)]
    · rw [if_neg (show ¬ nI 301 = 60 by decide), if_neg (show ¬ nI 301 = 62 by decide), if_neg (show ¬ nI 301 = 61 by decide), if_neg (show ¬ nI 301 = 35 by decide), if_neg (show ¬ nI 301 = 300 by decide), if_pos (show nI 301 = 301 from rfl)]
  · rw [if_neg c]
    have n : ∀ k, (t = k → isCmp 3 t = true) → k < 400 → ¬ nI t = nI k := fun k h hk q => c (h ((e k hk).mp q))
    rw [if_neg (show ¬ nI t = 60 from n 60 (fun h => hc.mpr (by omega)) (by decide)), if_neg (show ¬ nI t = 62 from n 62 (fun h => hc.mpr (by omega)) (by decide)), if_neg (show ¬ nI t = 61 from n 61 (fun h => hc.mpr (by omega)) (by decide)), if_neg (show ¬ nI t = 35 from n 35 (fun h => hc.mpr (by omega)) (by decide)), if_neg (show ¬ nI t = 300 from n 300 (fun h => hc.mpr (by omega)) (by decide)), if_neg (show ¬ nI t = 301 from n 301 (fun h => hc.mpr (by omega)) (by decide))]
/-- the sign of an asking -/
theorem g_cmp {x : Tok} {r : List Tok} (hx : isCmp x.1 x.2.1 = true) {r0 : List (Nat × Nat)} (hb : r0.length < 39) {P : List (Nat × Nat)} (hP : ∀ x, x ∈ P → x.2 = r0.length + 1 ∧ 3 ≤ rkN x.1) (hw : ∀ x r, ws = x :: r → x.2 = r0.length + 1 → rkN x.1 < 3) (hl : (P ++ ws).length < 80) (ho : os.length + P.length ≤ 400) :
    go Q (fun ν => mc b N ν0 ν (x :: r) 2 ((4, 0) :: r0) (P ++ ws) os cl nc kd op) (fun ν => mc b N ν0 ν r 1 ((5, x.2.1) :: r0) ws (os ++ P.map fun x => (nI x.1, 0)) cl nc kd op) := by
  obtain ⟨c3, ct⟩ := isCmp_c hx
  refine go_1 fun ν K h hK => lb_65 rfl (by omega) h (by omega) ?_
  obtain ⟨t4, -, a', T⟩ := mc_mT h rfl
  obtain ⟨t400, t44, h17⟩ := T.2.2.2.1 c3
  have h163 : m_I ν 411 16 = 3 := by rw [T.1 (by omega), c3]; rfl
  unfold p_X5_goesOn_L65
  rw [if_neg (show ¬ nI 4 = 6 by decide)]
  unfold p_X5_goesOn_L116
  rw [if_pos (show nI 4 = 4 from rfl), if_pos h163, h17, m_asking t400, if_pos (show isCmp 3 x.2.1 = true by rw [← c3]; exact hx), if_neg (by decide)]
  refine mc_works (rk := 3) (by decide) (fr := (4, 0) :: r0) hP hw hl ho (by show r0.length + 1 < 100; omega) h fun ν1 h1 => ?_
  have gs := mc_sk h1
  obtain ⟨a1, a2, a3, a4, a5, a6, a7, a8, a9, a10, a11⟩ := id h1
  obtain ⟨-, -, b', T1⟩ := mc_mT h1 rfl
  have h17' := (T1.2.2.2.1 c3).2.2
  have h21 : m_I ν1 411 21 = nI (r0.length + 1) := a6.1
  have hp : (nI (r0.length + 1) - 1 : Int32) = nI r0.length := pk_sub (b := 1) (by omega)
  simp (disch := omega) only [sk_p411_0 gs, sk_p411_1 gs, sk_p411_2 gs, sk_p411_6 gs, sk_p411_7 gs, sk_p411_8 gs, sk_p411_9 gs, sk_p411_10 gs, sk_p411_11 gs, sk_p411_12 gs, sk_p411_22 gs, sk_p411_23 gs, sk_p411_25 gs, sk_p411_26 gs, sk_p411_30 gs, sk_p411_31 gs, sk_p411_32 gs, sk_p411_33 gs, sk_p411_35 gs, sk_p411_36 gs, sk_p411_37 gs, sk_p411_38 gs, sk_p411_39 gs, sk_p411_40 gs, sk_p411_42 gs, sk_p411_43 gs, sk_p411_44 gs, sk_p411_45 gs, sk_p411_46 gs, sk_k411 gs, sk_n411 gs, sk_k422 gs, sk_n422 gs, sk_k423 gs, sk_n423 gs, h21, hp, h17', nI_clamp, vp_t, true_and, forall_eq, ml_uI, ml_KI, ml_PI, ml_NI, ml_SI, ml_xI, ml_Is, ml_In, ml_us, ml_un, ml_cp, ml_ss]
  have g : eqD (fun p j => (p = 423 ∧ j = r0.length + 1) ∨ (p = 422 ∧ j = r0.length)) ν1 (m_sI (m_sI ν1 423 (ml_u (m_I ν1 423) (r0.length + 1) (nI x.2.1))) 422 (ml_u (m_I ν1 422) r0.length 5)) := by
    refine (eqD.sI fun j hj => ml_un fun e => hj (Or.inl ⟨rfl, e⟩)).tr (eqD.sI fun j hj => ?_)
    rw [ml_un fun e => hj (Or.inr ⟨rfl, e⟩), ml_In (by decide)]
  refine mc_next (fr := (5, x.2.1) :: r0) (mc_set h1 g (fun p j q => by unfold DT; omega) (mc_t a4 g fun p j q => by omega) ⟨mc_1 a5.1 g (by omega), a5.2⟩ ⟨?_, ?_, show (5 : Nat) < 10 by decide, fun _ => ⟨t400, ?_⟩, ?_⟩ (mc_w a7 g fun p j q => by omega) (mc_o a8 g fun p j q => by omega) (mc_c a9 g fun p j q => by omega) ⟨mc_1 a10.1 g (by omega), a10.2⟩ ⟨mc_1 a11.1 g (by omega), a11.2⟩) rfl (by omega) fun ν2 h2 => ?_
  · exact mc_1 h21 g (by omega)
  · rw [ml_Is, ml_us]; rfl
  · rw [ml_In (by decide), ml_Is, ml_us]
  · exact a6.2.2.2.2.eq (fun i hi => g.2.2.2 422 i (by omega)) fun i hi => g.2.2.2 423 i (by omega)
  · try simp only [forall_eq, ml_uI]
    exact hK _ (mc_st h2 (s := 1) (by decide))
/-- what waits for an asking's end on top is worked off -/
theorem mc_askOver {y : Nat × Nat} {r0 : List (Nat × Nat)} (hy : y.1 ≠ 3) {k : Nat} (hk : k ≤ op) (hb : (rep k 3 ++ y :: r0).length < 40) (ho : os.length + k ≤ 400) (h : mc b N ν0 ν l st (rep k 3 ++ y :: r0) ws os cl nc kd op) {Q : fw_M → Prop} (hQ : ∀ ν', mc b N ν0 ν' l 3 (y :: r0) ws (os ++ repO k 405) cl nc kd (op - k) → Q ν') : p_X5_askIsOver 411 ν Q := by
  unfold p_X5_askIsOver p_X5_askIsOver_L0
  refine lp_to k (fun i x => mc b N ν0 x l st (rep (k - i) 3 ++ y :: r0) ws (os ++ repO i 405) cl nc kd (op - i)) (fun i x hi hx K hK => ?_) (fun x hx K => ?_) (by rw [show repO 0 405 = [] from rfl, List.append_nil]; exact h)
  · obtain ⟨m, hm⟩ : ∃ m, k - i = m + 1 := ⟨k - i - 1, by omega⟩
    have e1 : rep (m + 1) 3 ++ y :: r0 = (3, 0) :: (rep m 3 ++ y :: r0) := rfl
    rw [hm, e1] at hx
    have hlen : (rep m 3 ++ y :: r0).length < 39 := by
      rw [List.length_append, List.length_replicate] at hb ⊢
      omega
    have h21 : m_I x 411 21 = nI ((rep m 3 ++ y :: r0).length + 1) := hx.2.2.2.2.2.1.1
    show p_X5_askIsOver_L0b 411 (fun μ => K μ) x Q
    unfold p_X5_askIsOver_L0b
    refine mc_top hx rfl (by omega) ?_
    rw [if_pos (show nI 3 = 3 from rfl)]
    simp only [forall_eq, ml_uI, h21, show (nI ((rep m 3 ++ y :: r0).length + 1) - 1 : Int32) = nI (rep m 3 ++ y :: r0).length from pk_sub (b := 1) (by omega)]
    have p1 := mc_pop hx (x := (3, 0)) rfl
    have h20' := p1.2.2.2.2.2.2.2.2.2.2.1
    rw [h20', show (nI (op - i) - 1 : Int32) = nI (op - i - 1) from pk_sub (b := 1) (by omega)]
    have op8 := h.2.2.2.2.2.2.2.2.2.2.2
    refine mc_emits (mc_op p1 (s := op - i - 1) (by omega)) (by rw [List.length_append, List.length_replicate]; omega) fun ν' h' => hK ν' ?_
    rw [show k - (i + 1) = m by omega, show op - (i + 1) = op - i - 1 by omega, show os ++ repO (i + 1) 405 = os ++ repO i 405 ++ [(405, 0)] by rw [List.append_assoc, ← List.replicate_succ']]
    exact h'
  · rw [Nat.sub_self, show rep 0 3 ++ y :: r0 = y :: r0 from rfl] at hx
    have hlen : r0.length < 40 := by
      rw [List.length_append, List.length_cons] at hb
      omega
    have y10 := hx.2.2.2.2.2.1.2.2.1
    show p_X5_askIsOver_L0b 411 (fun μ => K μ) x Q
    unfold p_X5_askIsOver_L0b
    refine mc_top hx rfl hlen ?_
    rw [if_neg (show ¬ nI y.1 = 3 from fun e => hy ((nI_eq (b := 3) (by omega) (by decide)).mp e))]
    simp only [forall_eq, ml_uI]
    exact hQ _ (mc_st hx (s := 3) (by decide))
/-- an asking's right sum is over -/
theorem g_right {x : Tok} {r : List Tok} (hx : nAct x) {y : Nat × Nat} {r0 : List (Nat × Nat)} (hy : y.1 ≠ 3) {k t : Nat} (hk : k ≤ op) (hb : (rep k 3 ++ y :: r0).length < 39) {P : List (Nat × Nat)} (hP : ∀ x, x ∈ P → x.2 = (rep k 3 ++ y :: r0).length + 1 ∧ 3 ≤ rkN x.1) (hw : ∀ x r, ws = x :: r → x.2 = (rep k 3 ++ y :: r0).length + 1 → rkN x.1 < 3) (hl : (P ++ ws).length < 80) (ho : os.length + P.length + 1 + k ≤ 400) :
    go Q (fun ν => mc b N ν0 ν (x :: r) 2 ((5, t) :: (rep k 3 ++ y :: r0)) (P ++ ws) os cl nc kd op) (fun ν => mc b N ν0 ν (x :: r) 3 (y :: r0) ws (os ++ (P.map fun x => (nI x.1, 0)) ++ [(nI t, 0)] ++ repO k 405) cl nc kd (op - k)) := by
  refine go_1 fun ν K h hK => lb_65 rfl (by omega) h hx ?_
  unfold p_X5_goesOn_L65
  rw [if_neg (show ¬ nI 5 = 6 by decide)]
  unfold p_X5_goesOn_L116
  rw [if_neg (show ¬ nI 5 = 4 by decide)]
  unfold p_X5_goesOn_L181
  rw [if_pos (show nI 5 = 5 from rfl)]
  refine mc_works (rk := 3) (by decide) (fr := (5, t) :: (rep k 3 ++ y :: r0)) hP hw hl (by omega) (by show (rep k 3 ++ y :: r0).length + 1 < 100; omega) h fun ν1 h1 => ?_
  have gs := mc_sk h1
  obtain ⟨a1, a2, a3, a4, a5, a6, a7, a8, a9, a10, a11⟩ := id h1
  have h21 : m_I ν1 411 21 = nI ((rep k 3 ++ y :: r0).length + 1) := a6.1
  obtain ⟨q1, q2⟩ := a6.2.2.2.1 rfl
  have p1 := mc_pop h1 (x := (5, t)) rfl
  generalize hR : rep k 3 ++ y :: r0 = R at *
  have hp : (nI (R.length + 1) - 1 : Int32) = nI R.length := pk_sub (b := 1) (by omega)
  have q2' : m_I ν1 423 (R.length + 1) = nI t := q2
  simp (disch := omega) only [sk_p411_0 gs, sk_p411_1 gs, sk_p411_2 gs, sk_p411_6 gs, sk_p411_7 gs, sk_p411_8 gs, sk_p411_9 gs, sk_p411_10 gs, sk_p411_11 gs, sk_p411_12 gs, sk_p411_22 gs, sk_p411_23 gs, sk_p411_25 gs, sk_p411_26 gs, sk_p411_30 gs, sk_p411_31 gs, sk_p411_32 gs, sk_p411_33 gs, sk_p411_35 gs, sk_p411_36 gs, sk_p411_37 gs, sk_p411_38 gs, sk_p411_39 gs, sk_p411_40 gs, sk_p411_42 gs, sk_p411_43 gs, sk_p411_44 gs, sk_p411_45 gs, sk_p411_46 gs, sk_k411 gs, sk_n411 gs, sk_k423 gs, sk_n423 gs, h21, hp, q2', nI_clamp, vp_t, true_and, forall_eq, ml_uI]
  refine mc_emits p1 (by rw [List.length_append, List.length_map]; omega) fun ν2 h2 => ?_
  rw [← hR] at h2 hb
  exact mc_askOver hy hk (by omega) (by rw [List.length_append, List.length_append, List.length_map]; show os.length + P.length + 1 + k ≤ 400; omega) h2 fun ν3 h3 => hK ν3 h3
/-- no way on behind a number -/
theorem g_noGo {x : Tok} {r : List Tok} (hx : nAct x) {y : Nat × Nat} {r0 : List (Nat × Nat)} (hb : r0.length < 40) (hy : y.1 = 6 ∧ ¬ (x.1 = 3 ∧ x.2.1 = 41) ∨ y.1 = 4 ∧ ¬ isCmp x.1 x.2.1 = true ∨ y.1 = 1 ∧ ¬ (x.1 = 3 ∧ x.2.1 = 59)) :
    go Q (fun ν => mc b N ν0 ν (x :: r) 2 (y :: r0) ws os cl nc kd op) (er ν0 (1, x.2.2)) := by
  refine go_1 fun ν K h hK => lb_65 rfl hb h hx ?_
  obtain ⟨t4, -, a', T⟩ := mc_mT h rfl
  have err : p_X5_goesOn_L245 411 ν fun μ => K μ := by
    unfold p_X5_goesOn_L245
    exact mc_errs h rfl (e := 1) (by decide) fun ν' h' => hK ν' h'
  have L181 : ¬ y.1 = 5 → y.1 < 10 → (y.1 = 1 → ¬ (x.1 = 3 ∧ x.2.1 = 59)) → p_X5_goesOn_L181 411 (nI y.1) ν fun μ => K μ := by
    intro h5 h10 h1
    unfold p_X5_goesOn_L181
    rw [if_neg (show ¬ nI y.1 = 5 from fun e => h5 ((nI_eq (b := 5) (by omega) (by decide)).mp e))]
    by_cases c : y.1 = 1
    · rw [c, if_pos (show nI 1 = 1 from rfl), show (59 : Int32) = nI 59 from rfl, mT_sign T t4 (by decide) (by decide), if_neg (h1 c), if_pos rfl]
      exact err
    · rw [if_neg (show ¬ nI y.1 = 1 from fun e => c ((nI_eq (b := 1) (by omega) (by decide)).mp e))]
      exact err
  unfold p_X5_goesOn_L65
  rcases hy with ⟨h1, h2⟩ | ⟨h1, h2⟩ | ⟨h1, h2⟩
  · rw [h1, if_pos (show nI 6 = 6 from rfl), show (41 : Int32) = nI 41 from rfl, mT_sign T t4 (by decide) (by decide), if_neg h2, if_pos rfl]
    unfold p_X5_goesOn_L116
    rw [if_neg (show ¬ nI 6 = 4 by decide), ← h1]
    exact L181 (by omega) (by omega) fun h => by omega
  · rw [h1, if_neg (show ¬ nI 4 = 6 by decide)]
    unfold p_X5_goesOn_L116
    rw [if_pos (show nI 4 = 4 from rfl)]
    have l1 := L181 (by omega) (by omega) fun h => by omega
    rw [h1] at l1
    by_cases c : x.1 = 3
    · obtain ⟨t400, t44, h17⟩ := T.2.2.2.1 c
      rw [c] at h2
      rw [if_pos (show m_I ν 411 16 = 3 by rw [T.1 (by omega), c]; rfl), h17, m_asking t400, if_neg h2, if_pos rfl]
      exact l1
    · by_cases q : x.1 = 4
      · rcases T.2.1 q with e | ⟨e, e2⟩
        · rw [if_neg (show ¬ m_I ν 411 16 = 3 by rw [e]; decide)]
          exact l1
        · rw [if_pos e, e2, show (44 : Int32) = nI 44 from rfl, m_asking (by decide), if_neg (show ¬ isCmp 3 44 = true by decide), if_pos rfl]
          exact l1
      · rw [if_neg (show ¬ m_I ν 411 16 = 3 by rw [T.1 (by omega)]; exact fun e => c ((nI_eq (b := 3) (by omega) (by decide)).mp e))]
        exact l1
  · rw [h1, if_neg (show ¬ nI 1 = 6 by decide)]
    unfold p_X5_goesOn_L116
    rw [if_neg (show ¬ nI 1 = 4 by decide), ← h1]
    exact L181 (by omega) (by omega) fun _ => h2
end G3
