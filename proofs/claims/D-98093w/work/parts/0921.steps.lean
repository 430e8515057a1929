/-! plain law: text, the machine: signs, words, faults, waits -/
theorem mW_inj : ∀ i, i < 24 → ∀ j, j < 24 → mW i = mW j → i = j := by decide +kernel
section SP
variable {b : Nat → Nat} {N : Nat} {ν0 ν : fw_M} {l : List Tok} {st : Nat} {fr ws : List (Nat × Nat)} {os : List PO} {cl : List CE} {nc kd op : Nat}
theorem mc_mT (h : mc b N ν0 ν l st fr ws os cl nc kd op) {x : Tok} {r : List Tok} (hl : l = x :: r) : x.1 ≤ 4 ∧ x.2.2 ≤ N ∧ ∃ a', mT x.1 x.2.1 x.2.2 a' ν := by
  obtain ⟨-, -, -, ⟨s, t, pl, a', r', e, t1, t2, t3, t4, -⟩, -⟩ := h
  rw [hl] at e
  cases e
  exact ⟨t4, t2, a', t1⟩
theorem mT_word {s t pl a' w : Nat} (h : mT s t pl a' ν) (h4 : s ≤ 4) (hw : w < 24) {Q : Int32 → fw_M → Prop} : p_X5_isWord 411 (nI (mW w)) ν Q = Q (if s = 1 ∧ t = w then 1 else 0) ν := by
  obtain ⟨h1, h2, h3, -⟩ := h
  unfold p_X5_isWord
  by_cases c : s = 1
  · obtain ⟨t24, h17⟩ := h3 c
    have m1 := mW_lt t t24
    have m2 := mW_lt w hw
    rw [if_pos (show m_I ν 411 16 = 1 by rw [h1 (by omega), c]; rfl), h17]
    by_cases d : t = w
    · rw [d, if_pos rfl, if_pos ⟨c, rfl⟩]
    · rw [if_neg (fun e => d (mW_inj t t24 w hw ((nI_eq (by omega) (by omega)).mp e))), if_neg (fun e => d e.2)]
  · rw [if_neg (show ¬ (s = 1 ∧ t = w) from fun e => c e.1)]
    by_cases q : s = 4
    · rw [if_neg (show ¬ m_I ν 411 16 = 1 by rcases h2 q with e | ⟨e, -⟩ <;> rw [e] <;> decide)]
    · rw [if_neg (show ¬ m_I ν 411 16 = 1 by rw [h1 (by omega)]; exact fun e => c ((nI_eq (b := 1) (by omega) (by decide)).mp e))]
theorem mT_sign {s t pl a' c : Nat} (h : mT s t pl a' ν) (h4 : s ≤ 4) (hc : c < 400) (h44 : c ≠ 44) {Q : Int32 → fw_M → Prop} : p_X5_isSign 411 (nI c) ν Q = Q (if s = 3 ∧ t = c then 1 else 0) ν := by
  obtain ⟨h1, h2, -, h3, -⟩ := h
  unfold p_X5_isSign
  by_cases d : s = 3
  · obtain ⟨t4, t44, h17⟩ := h3 d
    rw [if_pos (show m_I ν 411 16 = 3 by rw [h1 (by omega), d]; rfl), h17]
    by_cases e : t = c
    · rw [e, if_pos rfl, if_pos ⟨d, rfl⟩]
    · rw [if_neg (fun q => e ((nI_eq (by omega) (by omega)).mp q)), if_neg (fun q => e q.2)]
  · rw [if_neg (show ¬ (s = 3 ∧ t = c) from fun e => d e.1)]
    by_cases q : s = 4
    · rcases h2 q with e | ⟨e, e2⟩
      · rw [if_neg (show ¬ m_I ν 411 16 = 3 by rw [e]; decide)]
      · rw [if_pos e, e2, if_neg (show ¬ (44 : Int32) = nI c from fun e => h44 ((nI_eq (a := 44) (by decide) (by omega)).mp e).symm)]
    · rw [if_neg (show ¬ m_I ν 411 16 = 3 by rw [h1 (by omega)]; exact fun e => d ((nI_eq (b := 3) (by omega) (by decide)).mp e))]
/-- a fault is told -/
def er (ν0 : fw_M) (e : Nat × Nat) (ν : fw_M) : Prop := eqD DT ν0 ν ∧ sk_m ν ∧ m_I ν 411 18 = nI e.1 ∧ m_I ν 411 19 = nI e.2 ∧ 1 ≤ e.1 ∧ e.1 < 10
theorem mc_errs (h : mc b N ν0 ν l st fr ws os cl nc kd op) {x : Tok} {r : List Tok} (hl : l = x :: r) {e : Nat} (he : 1 ≤ e ∧ e < 10) {Q : fw_M → Prop} (hQ : ∀ ν', er ν0 (e, x.2.2) ν' → Q ν') : p_X5_errs 411 (nI e) ν Q := by
  obtain ⟨-, -, a', T⟩ := mc_mT h hl
  unfold p_X5_errs
  rw [if_pos h.2.2.1]
  simp only [forall_eq, ml_uI]
  refine hQ _ ⟨(h.2.1.tr (eqD.sI fun j hj => ml_un fun q => hj (Or.inl ⟨rfl, by omega, by omega⟩))).tr (eqD.sI fun j hj => ml_un fun q => hj (Or.inl ⟨rfl, by omega, by omega⟩)), ?_, ?_, ?_, he⟩
  · exact (eqD.sI (D := fun _ _ => True) fun j hj => absurd trivial hj).sk ((eqD.sI (D := fun _ _ => True) fun j hj => absurd trivial hj).sk (mc_sk h))
  · rw [ml_Is, ml_un (by decide), ml_Is, ml_us]
  · rw [ml_Is, ml_us, ml_Is, ml_un (by decide)]
    exact T.2.2.2.2.2.1
theorem mc_waits {o : Nat} (ho : o < 500) {P : List (Nat × Nat)} (hP : ∀ x, x ∈ P → x.2 = fr.length ∧ rkN o ≤ rkN x.1) (hw : ∀ x r, ws = x :: r → x.2 = fr.length → rkN x.1 < rkN o) (hb : (P ++ ws).length < 80) (hos : os.length + P.length ≤ 400) (hf : fr.length < 100) (h : mc b N ν0 ν l st fr (P ++ ws) os cl nc kd op) {x : Tok} {r : List Tok} (hl : l = x :: r) (hx : x.1 ≠ 0) {Q : fw_M → Prop} (hQ : ∀ ν', mc b N ν0 ν' r st fr ((o, fr.length) :: ws) (os ++ P.map fun x => (nI x.1, 0)) cl nc kd op → Q ν') : p_X5_waitsFor 411 (nI o) ν Q := by
  have rk5 : rkN o < 5 := by
    unfold rkN
    by_cases a : o = 407
    · rw [if_pos a]; decide
    rw [if_neg a]
    by_cases a2 : o = 406
    · rw [if_pos a2]; decide
    rw [if_neg a2]
    by_cases a3 : o = 43
    · rw [if_pos a3]; decide
    rw [if_neg a3]
    by_cases a4 : o = 45
    · rw [if_pos a4]; decide
    rw [if_neg a4]; decide
  unfold p_X5_waitsFor
  rw [m_rank, rk_eq ho]
  refine mc_works rk5 hP hw hb hos hf h fun ν1 h1 => ?_
  have gs := mc_sk h1
  obtain ⟨a1, a2, a3, a4, a5, a6, a7, a8, a9, a10, a11⟩ := id h1
  have h24 := a7.1
  have h21 := a6.1
  have lw : ws.length < 80 := by rw [List.length_append] at hb; omega
  simp (disch := omega) only [sk_p411_0 gs, sk_p411_1 gs, sk_p411_2 gs, sk_p411_6 gs, sk_p411_7 gs, sk_p411_8 gs, sk_p411_9 gs, sk_p411_10 gs, sk_p411_11 gs, sk_p411_12 gs, sk_p411_22 gs, sk_p411_23 gs, sk_p411_25 gs, sk_p411_26 gs, sk_p411_30 gs, sk_p411_31 gs, sk_p411_32 gs, sk_p411_33 gs, sk_p411_35 gs, sk_p411_36 gs, sk_p411_37 gs, sk_p411_38 gs, sk_p411_39 gs, sk_p411_40 gs, sk_p411_42 gs, sk_p411_43 gs, sk_p411_44 gs, sk_p411_45 gs, sk_p411_46 gs, sk_k411 gs, sk_n411 gs, sk_k424 gs, sk_n424 gs, sk_k425 gs, sk_n425 gs, h24, h21, nI_clamp, vp_t, true_and, forall_eq, ml_uI, ml_KI, ml_PI, ml_NI, ml_SI, ml_xI, ml_Is, ml_In, ml_us, ml_un, ml_cp, ml_ss, nI_1]
  have g : eqD (fun p j => ((p = 424 ∨ p = 425) ∧ j = ws.length) ∨ (p = 411 ∧ j = 24)) ν1 (m_sI (m_sI (m_sI ν1 424 (ml_u (m_I ν1 424) ws.length (nI o))) 425 (ml_u (m_I ν1 425) ws.length (nI fr.length))) 411 (ml_u (m_I ν1 411) 24 (nI (ws.length + 1)))) := by
    refine ((eqD.sI fun j hj => ml_un fun e => hj (Or.inl ⟨Or.inl rfl, e⟩)).tr (eqD.sI fun j hj => ?_)).tr (eqD.sI fun j hj => ?_)
    · rw [ml_un fun e => hj (Or.inl ⟨Or.inr rfl, e⟩), ml_In (by decide)]
    · rw [ml_un fun e => hj (Or.inr ⟨rfl, e⟩), ml_In (by decide), ml_In (by decide)]
  refine mc_next (ws := (o, fr.length) :: ws) (mc_set h1 g (fun p j q => by unfold DT; omega) (mc_t a4 g fun p j q => by omega) ⟨mc_1 a5.1 g (by omega), a5.2⟩ (mc_f a6 g fun p j q => by omega) ⟨?_, ?_, ho, ?_, hf, ?_⟩ (mc_o a8 g fun p j q => by omega) (mc_c a9 g fun p j q => by omega) ⟨mc_1 a10.1 g (by omega), a10.2⟩ ⟨mc_1 a11.1 g (by omega), a11.2⟩) hl hx hQ
  · rw [ml_Is, ml_us]; rfl
  · rw [ml_In (by decide), ml_In (by decide), ml_Is, ml_us]
  · rw [ml_In (by decide), ml_Is, ml_us]
  · exact a7.2.eq fun i hi => ⟨g.2.2.2 424 i (by omega), g.2.2.2 425 i (by omega)⟩
theorem mc_opens (h : mc b N ν0 ν l st fr ws os cl nc kd op) {x : Tok} {r : List Tok} (hl : l = x :: r) (hx : x.1 ≠ 0) {f : Nat} (hf : f < 10 ∧ f ≠ 5) (hb : fr.length < 40) {Q : Int32 → fw_M → Prop} (h8 : op = 8 → ∀ ν', er ν0 (3, x.2.2) ν' → Q 0 ν') (hQ : op < 8 → ∀ ν', mc b N ν0 ν' r st ((f, 0) :: fr) ws os cl nc kd (op + 1) → Q 1 ν') : p_X5_opensSign 411 (nI f) ν Q := by
  have h20 := h.2.2.2.2.2.2.2.2.2.2
  unfold p_X5_opensSign
  rw [h20.1]
  by_cases c : op = 8
  · rw [c, if_pos (show nI 8 = 8 by rfl)]
    exact mc_errs h hl (e := 3) (by decide) fun ν' h' => h8 c ν' h'
  · rw [if_neg (show ¬ nI op = 8 from fun e => c ((nI_eq (b := 8) (by omega) (by decide)).mp e))]
    simp only [forall_eq, ml_uI, nI_1]
    refine mc_push (mc_op h (s := op + 1) (by omega)) hf hb fun ν1 h1 => ?_
    exact mc_next h1 hl hx fun ν2 h2 => hQ (by omega) ν2 h2
end SP
