/-! plain law: sit, flies, undo -/
/-- what a step of the class leaves -/
def stepS (μ μ' : fw_M) : Prop := sk_m μ' ∧ m_S μ' = m_S μ ∧ m_x μ' = m_x μ ∧ (∀ p, p ≠ 71 → m_P μ' p = m_P μ p) ∧ ∀ p, p < 65 ∨ 228 ≤ p → ¬ sc_p p → m_I μ' p = m_I μ p
theorem stepS.rf {μ : fw_M} (h : sk_m μ) : stepS μ μ := ⟨h, rfl, rfl, fun _ _ => rfl, fun _ _ _ => rfl⟩
theorem stepS.tr {a b c : fw_M} (h : stepS a b) (g : stepS b c) : stepS a c := ⟨g.1, g.2.1.trans h.2.1, g.2.2.1.trans h.2.2.1, fun p hp => (g.2.2.2.1 p hp).trans (h.2.2.2.1 p hp), fun p p1 p2 => (g.2.2.2.2 p p1 p2).trans (h.2.2.2.2 p p1 p2)⟩
theorem keepS.step {μ μ' : fw_M} {st : Nat} (h : keepS μ st μ') : stepS μ μ' := ⟨h.1, h.2.1, h.2.2.1, h.2.2.2.1, fun p p1 _ => funext fun j => h.2.2.2.2.1 p (by omega) (by omega) j (by omega)⟩
theorem stepS.sI {μ : fw_M} {p : Nat} {f : Nat → Int32} (h : sk_m μ) (h1 : (65 ≤ p ∧ p < 228) ∨ sc_p p) : stepS μ (m_sI μ p f) := ⟨h, rfl, rfl, fun _ _ => rfl, fun q q1 q2 => ml_In fun e => by subst e; rcases h1 with h1 | h1; omega; exact q2 h1⟩
/-- what a step of the reference leaves -/
def stepM (ν ν' : fw_M) : Prop := m_S ν' = m_S ν ∧ m_P ν' = m_P ν ∧ m_x ν' = m_x ν ∧ (∀ p, p ≠ 412 → p ≠ 411 → ¬ sc_p p → m_I ν' p = m_I ν p) ∧ ∀ j, j < 41 → m_I ν' 411 j = m_I ν 411 j
theorem stepM.rf {μ : fw_M} : stepM μ μ := ⟨rfl, rfl, rfl, fun _ _ _ _ => rfl, fun _ _ => rfl⟩
theorem stepM.tr {a b c : fw_M} (h : stepM a b) (g : stepM b c) : stepM a c := ⟨g.1.trans h.1, g.2.1.trans h.2.1, g.2.2.1.trans h.2.2.1, fun p p1 p2 p3 => (g.2.2.2.1 p p1 p2 p3).trans (h.2.2.2.1 p p1 p2 p3), fun j hj => (g.2.2.2.2 j hj).trans (h.2.2.2.2 j hj)⟩
theorem stepM.sI {ν : fw_M} {f : Nat → Int32} : stepM ν (m_sI ν 412 f) := ⟨rfl, rfl, rfl, fun p p1 _ _ => ml_In p1, fun j _ => by rw [ml_In (by decide)]⟩
theorem stepM.sk {a b : fw_M} (h : stepM a b) (hs : sk_m a) : sk_m b := sk_of hs (Nat.le_of_eq h.2.2.1.symm) (fun p _ => by rw [h.1]) (fun p _ => by rw [h.2.1])
/-- what an operation leaves of the invariant, by its steps -/
theorem kp_step {L : Nat} {xs : Nat → Int32} {z : Nat → Nat} {μ μ1 μ2 : fw_M} (hI : iv_inv L xs z μ) (h1 : stepS μ μ1) (h2 : stepM μ1 μ2) (hC : ∀ n tx st te tl ns nd, iv_C μ 65 (m_I μ 412) n tx st te tl ns nd → ∃ st' ns' nd', iv_C μ1 65 (m_I μ2 412) n tx st' te tl ns' nd') : iv_inv L xs z μ2 ∧ iv_scr μ μ2 := by
  have s2 := h2.sk h1.1
  refine ⟨kp_here hI s2 (h2.1.trans h1.2.1) (h2.2.2.1.trans h1.2.2.1) (fun p hp => by rw [h2.2.1]; exact h1.2.2.2.1 p hp) (fun p p1 p2 p3 p4 => (h2.2.2.2.1 p p3 p2 p4).trans (h1.2.2.2.2 p (by omega) p4)) (fun j _ => by rw [h2.2.2.2.1 64 (by decide) (by decide) (by unfold sc_p; decide), h1.2.2.2.2 64 (by decide) (by unfold sc_p; decide)]) (fun j hj => by rw [h2.2.2.2.2 j (by omega), h1.2.2.2.2 411 (by decide) (by unfold sc_p; decide)]) (fun n tx st te tl ns nd c => ?_), ?_⟩
  · obtain ⟨st', ns', nd', c'⟩ := hC _ _ _ _ _ _ _ c
    exact ⟨n, st', te, tl, ns', nd', kp_C c' (fun k hk => sk_s65 h1.1 hk) (fun p p1 p2 => h2.2.2.2.1 p (by omega) (by omega) (by unfold sc_p; omega)) (by rw [h2.2.1])⟩
  · exact ⟨by rw [h2.1, h1.2.1], (h2.2.2.2.1 1 (by decide) (by decide) (by unfold sc_p; decide)).trans (h1.2.2.2.2 1 (by decide) (by unfold sc_p; decide)), sk_k64 s2, sk_k411 s2⟩
theorem op_step {α : Type} {A B : fw_M → (α → fw_M → Prop) → Prop} (h : ∀ (L : Nat) (xs : Nat → Int32) (z : Nat → Nat) (μ : fw_M), iv_inv L xs z μ → ∃ F : α × (Nat → Int32),
    (∀ Q : α → fw_M → Prop, (∀ μ1, stepS μ μ1 → (∀ n tx st te tl ns nd, iv_C μ 65 (m_I μ 412) n tx st te tl ns nd → ∃ st' ns' nd', iv_C μ1 65 F.2 n tx st' te tl ns' nd') → Q F.1 μ1) → A μ Q) ∧
    ∀ μ1, stepS μ μ1 → m_I μ1 412 = m_I μ 412 → ∀ Q : α → fw_M → Prop, (∀ μ2, stepM μ1 μ2 → m_I μ2 412 = F.2 → Q F.1 μ2) → B μ1 Q) : iv_op2 A B := by
  intro L xs z μ hI Qs H
  obtain ⟨F, ha, hb⟩ := h L xs z μ hI
  refine ha Qs fun μ1 h1 hC => H F.1 μ1 ⟨by rw [h1.2.1], h1.2.2.2.2 1 (by decide) (by unfold sc_p; decide), sk_k64 h1.1, sk_k411 h1.1⟩ fun Qm hQ => ?_
  refine hb μ1 h1 (h1.2.2.2.2 412 (by decide) (by unfold sc_p; decide)) Qm fun μ2 h2 e2 => ?_
  obtain ⟨x, y⟩ := kp_step hI h1 h2 fun n tx st te tl ns nd c => by rw [e2]; exact hC n tx st te tl ns nd c
  exact hQ μ2 x y
/-- the numbers of a court are told by its row -/
theorem C_same {μ μ' : fw_M} {a : Nat → Int32} {n tx st te tl ns nd n' tx' st' te' tl' ns' nd' : Nat} (h : iv_C μ 65 a n tx st te tl ns nd) (g : iv_C μ' 65 a n' tx' st' te' tl' ns' nd') : n = n' ∧ tx = tx' ∧ st = st' ∧ te = te' ∧ tl = tl' := by
  obtain ⟨⟨p1, p2, p3, p4, p5⟩, -, ⟨A0, A1, A3, A4, A5⟩, -⟩ := h
  obtain ⟨⟨q1, q2, q3, q4, q5⟩, -, ⟨B0, B1, B3, B4, B5⟩, -⟩ := g
  exact ⟨(nI_eq (by omega) (by omega)).mp (A0.symm.trans B0), (nI_eq (by omega) (by omega)).mp (A1.symm.trans B1), (nI_eq (by omega) (by omega)).mp (A3.symm.trans B3), (nI_eq (by omega) (by omega)).mp (A4.symm.trans B4), (nI_eq (by omega) (by omega)).mp (A5.symm.trans B5)⟩
theorem row_where {n ns nd e s : Nat} {sr mr : Nat → Int32} (hn : n ≤ 9) (h : iv_row n ns nd sr mr) (he : e < n) (hs : s ≤ 2) : iv_row n ns nd (ml_u sr (4 + e) (nI s)) (ml_u mr (4 + e) (nI s)) := by
  obtain ⟨h1, h2, h3, h4, h5, h6, h7, h8, h9, h10, h11, h12, h13, h14, h15⟩ := h
  refine ⟨fun k hk => ?_, fun x hx => ?_, fun x e1 e2 => ?_, ?_, ?_, ?_, ?_, ?_, h9, h10, fun k hk => ?_, fun x hx => ?_, fun x hx => ?_, ?_, fun x hx => ?_⟩
  · rw [ml_un (by omega), ml_un (by omega)]; exact h1 k hk
  · rw [ml_un (show 13 + x ≠ 4 + e by omega), ml_un (show 13 + x ≠ 4 + e by omega)]
    by_cases q : x = e
    · subst q; rw [ml_us, ml_us]; exact ⟨rfl, (h2 x hx).2⟩
    · rw [ml_un (by omega), ml_un (by omega)]; exact h2 x hx
  · rw [ml_un (by omega), ml_un (by omega)]; exact h3 x e1 e2
  · rw [ml_un (by omega), ml_un (by omega)]; exact h4
  · rw [ml_un (by omega)]; exact h5
  · rw [ml_un (by omega)]; exact h6
  · rw [ml_un (by omega)]; exact h7
  · rw [ml_un (by omega)]; exact h8
  · rw [ml_un (by omega)]; exact h11 k hk
  · by_cases q : x = e
    · subst q; rw [ml_us]; exact ⟨s, hs, rfl⟩
    · rw [ml_un (by omega)]; exact h12 x hx
  · rw [ml_un (by omega)]; exact h13 x hx
  · rw [ml_un (by omega)]; exact h14
  · rw [ml_un (by omega), sum_cong (m := mr) fun j j1 j2 => ml_un (by omega)]; exact h15 x hx
/-- the row of here alone changes -/
theorem C_now {μ : fw_M} {a a' f : Nat → Int32} {n tx st te tl ns nd : Nat} (h : iv_C μ 65 a n tx st te tl ns nd) (hs : sk_m μ) (hrow : iv_row n ns nd f (iv_sh a' 110)) (ha : ∀ j, j < 110 ∨ 133 ≤ j → j ≠ 464 → a' j = a j) : iv_C (m_sI μ 69 f) 65 a' n tx st te tl ns nd := by
  obtain ⟨hb, -, -, -, -, hr, hrec, -⟩ := id h
  have b1 : ns ≤ 60 := hr.2.2.2.2.2.2.2.2.1
  have b2 : nd ≤ 30 := hr.2.2.2.2.2.2.2.2.2.1
  refine C_row h hs (fun p p1 p2 p3 _ _ => ml_In p3) (fun i hi j hj => by rw [ml_In (by omega)]) (fun i hi j hj => by rw [ml_In (by omega)]) rfl (Nat.le_refl _) (Nat.le_refl _) ?_ ?_ (fun j hj => ha j (by omega) (by omega))
  · rw [ml_Is]; exact hrow
  · exact rec_cong hrec b1 b2 (fun i hi j hj => by rw [ml_In (by omega)]) (fun i hi j hj => by rw [ml_In (by omega)]) fun j j1 j2 => ha (110 + j) (by omega) (by omega)
def mSit (a : Nat → Int32) (a0 a1 : Int32) : Int32 × (Nat → Int32) := if (inB a0 0 (a 0 - 1) ∧ inB a1 0 2) ∧ ¬ a (114 + a0.toNatClampNeg) = a1 then (1, ml_u (mKeep a (a 3).toNatClampNeg) (114 + a0.toNatClampNeg) a1) else (0, a)
theorem s_sit {μ : fw_M} {a : Nat → Int32} {n tx st te tl ns nd : Nat} (hs : sk_m μ) (C : iv_C μ 65 a n tx st te tl ns nd) (a0 a1 : Int32) {Q : Int32 → fw_M → Prop} (hQ : ∀ μ1, stepS μ μ1 → (∃ st' ns' nd', iv_C μ1 65 (mSit a a0 a1).2 n tx st' te tl ns' nd') → Q (mSit a a0 a1).1 μ1) : p_X0_sit 64 a0 a1 μ Q := by
  obtain ⟨⟨q1, q2, q3, q4, q5⟩, ⟨E0, E1, E2, E3, E4, E5⟩, ⟨A0, A1, A3, A4, A5⟩, -, -, hr, -⟩ := id C
  have no : ¬ ((inB a0 0 (a 0 - 1) ∧ inB a1 0 2) ∧ ¬ a (114 + a0.toNatClampNeg) = a1) → Q 0 μ := fun h => by
    have := hQ μ (stepS.rf hs)
    unfold mSit at this
    rw [if_neg h] at this
    exact this ⟨st, ns, nd, C⟩
  by_cases c1 : inB a0 0 (nI n - 1)
  rotate_left
  · simp only [p_X0_sit, p_X0_isEater, s_in, sk_p64_0 hs, sk_p64_1 hs, sk_p64_2 hs, sk_p64_3 hs, sk_p64_4 hs, sk_p64_5 hs, sk_p64_9 hs, sk_p64_10 hs, sk_p64_11 hs, sk_p65_6 hs, sk_p65_7 hs, sk_p65_8 hs, sk_p65_9 hs, sk_p65_10 hs, sk_p65_11 hs, sk_p65_12 hs, sk_p65_13 hs, sk_p65_14 hs, sk_p65_15 hs, sk_k64 hs, sk_n64 hs, sk_k65 hs, sk_n65 hs, true_and, E0, if_neg c1, e00, if_true, true_or]
    exact no fun h => c1 (by rw [A0] at h; exact h.1.1)
  by_cases c2 : inB a1 0 2
  rotate_left
  · simp only [p_X0_sit, p_X0_isEater, s_in, sk_p64_0 hs, sk_p64_1 hs, sk_p64_2 hs, sk_p64_3 hs, sk_p64_4 hs, sk_p64_5 hs, sk_p64_9 hs, sk_p64_10 hs, sk_p64_11 hs, sk_p65_6 hs, sk_p65_7 hs, sk_p65_8 hs, sk_p65_9 hs, sk_p65_10 hs, sk_p65_11 hs, sk_p65_12 hs, sk_p65_13 hs, sk_p65_14 hs, sk_p65_15 hs, sk_k64 hs, sk_n64 hs, sk_k65 hs, sk_n65 hs, true_and, E0, if_pos c1, if_neg c2, e10, e00, if_true, if_false, or_true]
    exact no fun h => c2 h.1.2
  obtain ⟨e, he, rfl⟩ := inB_k (by omega) c1
  obtain ⟨s, -, s2, rfl⟩ := inB_nI (lo := 0) (hi := 2) c2 (by decide) (by decide)
  have ew : m_I μ 69 (4 + e) = a (114 + e) := by
    have := (hr.2.1 e he).1
    unfold iv_sh at this
    rw [show 110 + (4 + e) = 114 + e by omega] at this
    exact this
  by_cases c3 : a (114 + e) = nI s
  · simp (disch := omega) only [p_X0_sit, p_X0_isEater, s_in, sk_p64_0 hs, sk_p64_1 hs, sk_p64_2 hs, sk_p64_3 hs, sk_p64_4 hs, sk_p64_5 hs, sk_p64_9 hs, sk_p64_10 hs, sk_p64_11 hs, sk_p65_6 hs, sk_p65_7 hs, sk_p65_8 hs, sk_p65_9 hs, sk_p65_10 hs, sk_p65_11 hs, sk_p65_12 hs, sk_p65_13 hs, sk_p65_14 hs, sk_p65_15 hs, sk_k64 hs, sk_n64 hs, sk_k65 hs, sk_n65 hs, sk_k69 hs, sk_n69 hs, true_and, E0, if_pos c1, if_pos c2, e10, if_false, or_true, li_4, nI_add, nI_clamp, vp_t, ew, if_pos c3]
    exact no fun h => h.2 (by rw [nI_clamp (by omega)]; exact c3)
  · have ok : (inB (nI e) 0 (a 0 - 1) ∧ inB (nI s) 0 2) ∧ ¬ a (114 + (nI e).toNatClampNeg) = nI s := ⟨⟨by rw [A0]; exact c1, c2⟩, by rw [nI_clamp (by omega)]; exact c3⟩
    unfold mSit at hQ
    rw [if_pos ok, nI_clamp (by omega), A3, nI_clamp (by omega)] at hQ
    simp (disch := omega) only [p_X0_sit, p_X0_isEater, s_in, sk_p64_0 hs, sk_p64_1 hs, sk_p64_2 hs, sk_p64_3 hs, sk_p64_4 hs, sk_p64_5 hs, sk_p64_9 hs, sk_p64_10 hs, sk_p64_11 hs, sk_p65_6 hs, sk_p65_7 hs, sk_p65_8 hs, sk_p65_9 hs, sk_p65_10 hs, sk_p65_11 hs, sk_p65_12 hs, sk_p65_13 hs, sk_p65_14 hs, sk_p65_15 hs, sk_k64 hs, sk_n64 hs, sk_k65 hs, sk_n65 hs, sk_k69 hs, sk_n69 hs, true_and, E0, if_pos c1, if_pos c2, e10, if_false, or_true, li_4, nI_add, nI_clamp, vp_t, ew, if_neg c3]
    refine s_keep hs q3 E3 fun μ1 k1 => ?_
    have gs := k1.1
    simp (disch := omega) only [sk_p64_0 gs, sk_p64_1 gs, sk_p64_2 gs, sk_p64_3 gs, sk_p64_4 gs, sk_p64_5 gs, sk_p64_9 gs, sk_p64_10 gs, sk_p64_11 gs, sk_p65_6 gs, sk_p65_7 gs, sk_p65_8 gs, sk_p65_9 gs, sk_p65_10 gs, sk_p65_11 gs, sk_p65_12 gs, sk_p65_13 gs, sk_p65_14 gs, sk_p65_15 gs, sk_k64 gs, sk_n64 gs, sk_k65 gs, sk_n65 gs, sk_k69 gs, sk_n69 gs, true_and, vp_t, forall_eq, ml_uI]
    refine hQ _ (k1.step.tr (stepS.sI gs (Or.inl ⟨by decide, by decide⟩))) ⟨k0 st + 1, ns, nd, ?_⟩
    have C1 := C_keep C hs k1
    refine C_now C1 gs ?_ fun j hj _ => ml_un (by omega)
    rw [show 114 + e = 110 + (4 + e) by omega, sh_us]
    exact row_where q1 C1.2.2.2.2.2.1 he s2
theorem m_sit {ν : fw_M} {a : Nat → Int32} {n st : Nat} (gs : sk_m ν) (w : m_I ν 412 = a) (hn : n ≤ 9) (hst : st ≤ 30) (A0 : a 0 = nI n) (A3 : a 3 = nI st) (a0 a1 : Int32) {Q : Int32 → fw_M → Prop} (hQ : ∀ ν', stepM ν ν' → m_I ν' 412 = (mSit a a0 a1).2 → Q (mSit a a0 a1).1 ν') : p_X5_sit 411 a0 a1 ν Q := by
  have no : ¬ ((inB a0 0 (a 0 - 1) ∧ inB a1 0 2) ∧ ¬ a (114 + a0.toNatClampNeg) = a1) → Q 0 ν := fun h => by
    have := hQ ν stepM.rf
    unfold mSit at this
    rw [if_neg h] at this
    exact this w
  have W0 : m_I ν 412 0 = nI n := by rw [w]; exact A0
  by_cases c1 : inB a0 0 (nI n - 1)
  rotate_left
  · simp only [p_X5_sit, p_X5_isEater, m_in, sk_p411_0 gs, sk_p411_1 gs, sk_p411_2 gs, sk_p411_6 gs, sk_p411_7 gs, sk_p411_8 gs, sk_p411_9 gs, sk_p411_10 gs, sk_p411_11 gs, sk_p411_12 gs, sk_p411_22 gs, sk_p411_23 gs, sk_p411_25 gs, sk_p411_26 gs, sk_p411_30 gs, sk_p411_31 gs, sk_p411_32 gs, sk_p411_33 gs, sk_p411_35 gs, sk_p411_36 gs, sk_p411_37 gs, sk_p411_38 gs, sk_p411_39 gs, sk_p411_40 gs, sk_p411_42 gs, sk_p411_43 gs, sk_p411_44 gs, sk_p411_45 gs, sk_p411_46 gs, sk_k411 gs, sk_n411 gs, sk_k412 gs, sk_n412 gs, cl0, vp0_11120, true_and, W0, if_neg c1, e00, if_true, true_or]
    exact no fun h => c1 (by rw [A0] at h; exact h.1.1)
  by_cases c2 : inB a1 0 2
  rotate_left
  · simp only [p_X5_sit, p_X5_isEater, m_in, sk_p411_0 gs, sk_p411_1 gs, sk_p411_2 gs, sk_p411_6 gs, sk_p411_7 gs, sk_p411_8 gs, sk_p411_9 gs, sk_p411_10 gs, sk_p411_11 gs, sk_p411_12 gs, sk_p411_22 gs, sk_p411_23 gs, sk_p411_25 gs, sk_p411_26 gs, sk_p411_30 gs, sk_p411_31 gs, sk_p411_32 gs, sk_p411_33 gs, sk_p411_35 gs, sk_p411_36 gs, sk_p411_37 gs, sk_p411_38 gs, sk_p411_39 gs, sk_p411_40 gs, sk_p411_42 gs, sk_p411_43 gs, sk_p411_44 gs, sk_p411_45 gs, sk_p411_46 gs, sk_k411 gs, sk_n411 gs, sk_k412 gs, sk_n412 gs, cl0, vp0_11120, true_and, W0, if_pos c1, if_neg c2, e10, e00, if_true, if_false, or_true]
    exact no fun h => c2 h.1.2
  obtain ⟨e, he, rfl⟩ := inB_k (by omega) c1
  have c1' : inB (nI e) 0 (a 0 - 1) := by rw [A0]; exact c1
  simp only [p_X5_sit, p_X5_isEater, m_in, sk_p411_0 gs, sk_p411_1 gs, sk_p411_2 gs, sk_p411_6 gs, sk_p411_7 gs, sk_p411_8 gs, sk_p411_9 gs, sk_p411_10 gs, sk_p411_11 gs, sk_p411_12 gs, sk_p411_22 gs, sk_p411_23 gs, sk_p411_25 gs, sk_p411_26 gs, sk_p411_30 gs, sk_p411_31 gs, sk_p411_32 gs, sk_p411_33 gs, sk_p411_35 gs, sk_p411_36 gs, sk_p411_37 gs, sk_p411_38 gs, sk_p411_39 gs, sk_p411_40 gs, sk_p411_42 gs, sk_p411_43 gs, sk_p411_44 gs, sk_p411_45 gs, sk_p411_46 gs, sk_k411 gs, sk_n411 gs, sk_k412 gs, sk_n412 gs, cl0, vp0_11120, true_and, W0, if_pos c1, if_pos c2, e10, if_false, or_true]
  simp (disch := omega) only [li_114, nI_add, nI_clamp, vp_t, true_and, w]
  by_cases c3 : a (114 + e) = a1
  · rw [if_pos c3]
    exact no fun h => h.2 (by rw [nI_clamp (by omega)]; exact c3)
  · rw [if_neg c3]
    have ok : (inB (nI e) 0 (a 0 - 1) ∧ inB a1 0 2) ∧ ¬ a (114 + (nI e).toNatClampNeg) = a1 := ⟨⟨c1', c2⟩, by rw [nI_clamp (by omega)]; exact c3⟩
    unfold mSit at hQ
    rw [if_pos ok, nI_clamp (by omega), A3, nI_clamp (by omega)] at hQ
    refine m_keep gs w hst A3 ?_
    simp (disch := omega) only [ml_KI, ml_PI, ml_NI, sk_p411_0 gs, sk_p411_1 gs, sk_p411_2 gs, sk_p411_6 gs, sk_p411_7 gs, sk_p411_8 gs, sk_p411_9 gs, sk_p411_10 gs, sk_p411_11 gs, sk_p411_12 gs, sk_p411_22 gs, sk_p411_23 gs, sk_p411_25 gs, sk_p411_26 gs, sk_p411_30 gs, sk_p411_31 gs, sk_p411_32 gs, sk_p411_33 gs, sk_p411_35 gs, sk_p411_36 gs, sk_p411_37 gs, sk_p411_38 gs, sk_p411_39 gs, sk_p411_40 gs, sk_p411_42 gs, sk_p411_43 gs, sk_p411_44 gs, sk_p411_45 gs, sk_p411_46 gs, sk_k411 gs, sk_n411 gs, sk_k412 gs, sk_n412 gs, true_and, vp_t, forall_eq, ml_uI, ml_Is, ml_ss]
    exact hQ _ stepM.sI ml_Is
theorem op_sit (a0 a1 : Int32) : iv_op2 (α := Int32) (fun μ Q => p_X0_sit 64 a0 a1 μ Q) (fun μ Q => p_X5_sit 411 a0 a1 μ Q) := by
  refine op_step fun L xs z μ hI => ?_
  obtain ⟨hs, -, -, n, tx, st, te, tl, ns, nd, n', tx', st', te', tl', ns', nd', tp, C, -⟩ := hI
  obtain ⟨⟨q1, q2, q3, q4, q5⟩, -, ⟨A0, A1, A3, A4, A5⟩, -⟩ := id C
  refine ⟨mSit (m_I μ 412) a0 a1, fun Q hQ => s_sit hs C a0 a1 fun μ1 h1 hC => hQ μ1 h1 fun n2 tx2 st2 te2 tl2 ns2 nd2 C2 => ?_, fun μ1 h1 w Q hQ => m_sit h1.1 w q1 q3 A0 A3 a0 a1 hQ⟩
  obtain ⟨e1, e2, e3, e4, e5⟩ := C_same C C2
  subst e1 e2 e3 e4 e5
  exact hC
def flA (a : Nat → Int32) : Int32 × (Nat → Int32) :=
  if a (110 + (a 464).toNatClampNeg % 4) = 0 then (0, ml_u a 464 (nI (((a 464).toNatClampNeg * 181 + 101) % 30029))) else (1, ml_u (ml_u a 464 (nI (((a 464).toNatClampNeg * 181 + 101) % 30029))) (110 + (a 464).toNatClampNeg % 4) (a (110 + (a 464).toNatClampNeg % 4) - 1))
def flI (a : Nat → Int32) : Nat → Int32 × (Nat → Int32)
  | 0 => (0, a)
  | k + 1 => ((flI a k).1 + (flA (flI a k).2).1, (flA (flI a k).2).2)
def mFlies (a : Nat → Int32) (a0 : Int32) : Int32 × (Nat → Int32) := if inB a0 1 40 then flI (mKeep a (a 3).toNatClampNeg) a0.toNatClampNeg else (-1, a)
theorem s_draw {μ : fw_M} {x : Nat} (hs : sk_m μ) (hx : x < 50000) (e : m_I μ 69 22 = nI x) {Q : Int32 → fw_M → Prop} (hQ : Q (nI (x % 4)) (m_sI μ 69 (ml_u (m_I μ 69) 22 (nI ((x * 181 + 101) % 30029))))) : p_X1_draw 65 4 μ Q := by
  unfold p_X1_draw
  have e1 : ((nI x).toInt64 * 181 + 101 - ((nI x).toInt64 * 181 + 101) / 30029 * 30029).toInt32 = nI ((x * 181 + 101) % 30029) := by
    rw [nI_l (by omega), show (181 : Int64) = lN 181 from rfl, show (101 : Int64) = lN 101 from rfl, show (30029 : Int64) = lN 30029 from rfl, lN_mul, lN_add, pk_lRem (by omega) (by decide) (by decide), lN_i]
  have e2 : nI x - nI x / 4 * 4 = nI (x % 4) := pk_rem (d := 4) (by omega) (by decide) (by decide)
  simp (decide := true) (disch := omega) only [sk_p65_6 hs, sk_p65_7 hs, sk_p65_8 hs, sk_p65_9 hs, sk_p65_10 hs, sk_p65_11 hs, sk_p65_12 hs, sk_p65_13 hs, sk_p65_14 hs, sk_p65_15 hs, sk_k65 hs, sk_n65 hs, sk_k69 hs, sk_n69 hs, cl22, vp22_25, true_and, e, e1, e2, forall_eq, ml_uI]
  exact hQ
theorem m_draw {μ : fw_M} {x : Nat} (hs : sk_m μ) (hx : x < 50000) (e : m_I μ 412 464 = nI x) {Q : Int32 → fw_M → Prop} (hQ : Q (nI (x % 4)) (m_sI μ 412 (ml_u (m_I μ 412) 464 (nI ((x * 181 + 101) % 30029))))) : p_X5_draw 411 4 μ Q := by
  unfold p_X5_draw
  have e1 : nI x * 181 + 101 - (nI x * 181 + 101) / 30029 * 30029 = nI ((x * 181 + 101) % 30029) := by
    rw [show (181 : Int32) = nI 181 from rfl, show (101 : Int32) = nI 101 from rfl, show (30029 : Int32) = nI 30029 from rfl, pk_mul, nI_add, pk_rem (by omega) (by decide) (by decide)]
  have e2 : nI x - nI x / 4 * 4 = nI (x % 4) := pk_rem (d := 4) (by omega) (by decide) (by decide)
  simp (decide := true) (disch := omega) only [sk_p411_0 hs, sk_p411_1 hs, sk_p411_2 hs, sk_p411_6 hs, sk_p411_7 hs, sk_p411_8 hs, sk_p411_9 hs, sk_p411_10 hs, sk_p411_11 hs, sk_p411_12 hs, sk_p411_22 hs, sk_p411_23 hs, sk_p411_25 hs, sk_p411_26 hs, sk_p411_30 hs, sk_p411_31 hs, sk_p411_32 hs, sk_p411_33 hs, sk_p411_35 hs, sk_p411_36 hs, sk_p411_37 hs, sk_p411_38 hs, sk_p411_39 hs, sk_p411_40 hs, sk_p411_42 hs, sk_p411_43 hs, sk_p411_44 hs, sk_p411_45 hs, sk_p411_46 hs, sk_k411 hs, sk_n411 hs, sk_k412 hs, sk_n412 hs, cl464, vp464_11120, true_and, e, e1, e2, forall_eq, ml_uI]
  exact hQ
theorem row_fl {n ns nd x p : Nat} {sr a : Nat → Int32} (hn : n ≤ 9) (h : iv_row n ns nd sr (iv_sh a 110)) (hx : x < 50000) (hp : p < 4) {g : Nat} (hg : g ≤ 999) : iv_row n ns nd (ml_u (ml_u sr 22 (nI x)) p (nI g)) (iv_sh (ml_u (ml_u a 464 (nI x)) (110 + p) (nI g)) 110) := by
  refine row_pots hn h (fun k hk => ?_) ?_ (fun j j1 j2 j3 => by rw [ml_un (by omega), ml_un j3]) (fun j j1 j2 => ?_)
  · unfold iv_sh
    by_cases e : k = p
    · subst e; rw [ml_us, ml_us]; exact ⟨rfl, g, hg, rfl⟩
    · rw [ml_un e, ml_un (by omega), ml_un (by omega), ml_un (by omega)]
      exact ⟨h.1 k hk, h.2.2.2.2.2.2.2.2.2.2.1 k hk⟩
  · unfold iv_sh
    rw [ml_un (by omega), ml_us, ml_un (by omega), ml_us]
    exact ⟨rfl, x, hx, rfl⟩
  · unfold iv_sh
    rw [ml_un (by omega), ml_un (by omega)]
theorem row_fl0 {n ns nd x : Nat} {sr a : Nat → Int32} (hn : n ≤ 9) (h : iv_row n ns nd sr (iv_sh a 110)) (hx : x < 50000) : iv_row n ns nd (ml_u sr 22 (nI x)) (iv_sh (ml_u a 464 (nI x)) 110) := by
  refine row_pots hn h (fun k hk => ?_) ?_ (fun j j1 j2 j3 => ml_un j3) (fun j j1 j2 => ?_)
  · unfold iv_sh
    rw [ml_un (by omega), ml_un (by omega)]
    exact ⟨h.1 k hk, h.2.2.2.2.2.2.2.2.2.2.1 k hk⟩
  · unfold iv_sh
    rw [ml_us, ml_us]
    exact ⟨rfl, x, hx, rfl⟩
  · unfold iv_sh
    rw [ml_un (by omega)]
theorem s_flies {μ : fw_M} {a : Nat → Int32} {n tx st te tl ns nd : Nat} (hs : sk_m μ) (C : iv_C μ 65 a n tx st te tl ns nd) (a0 : Int32) {Q : Int32 → fw_M → Prop} (hQ : ∀ μ1, stepS μ μ1 → (∃ st' ns' nd', iv_C μ1 65 (mFlies a a0).2 n tx st' te tl ns' nd') → Q (mFlies a a0).1 μ1) : p_X0_flies 64 a0 μ Q := by
  obtain ⟨⟨q1, q2, q3, q4, q5⟩, ⟨E0, E1, E2, E3, E4, E5⟩, ⟨A0, A1, A3, A4, A5⟩, -, -, hr, -⟩ := id C
  by_cases c1 : inB a0 1 40
  rotate_left
  · have := hQ μ (stepS.rf hs)
    unfold mFlies at this
    rw [if_neg c1] at this
    simp only [p_X0_flies, s_in, if_neg c1, e00, if_true]
    exact this ⟨st, ns, nd, C⟩
  unfold mFlies at hQ
  rw [if_pos c1] at hQ
  obtain ⟨m, m1, m2, rfl⟩ := inB_nI (lo := 1) (hi := 40) c1 (by decide) (by decide)
  rw [nI_clamp (show m < 2 ^ 31 by omega), A3, nI_clamp (show st < 2 ^ 31 by omega)] at hQ
  simp only [p_X0_flies, s_in, if_pos c1, e10, if_false, sk_p64_0 hs, sk_p64_1 hs, sk_p64_2 hs, sk_p64_3 hs, sk_p64_4 hs, sk_p64_5 hs, sk_p64_9 hs, sk_p64_10 hs, sk_p64_11 hs, sk_p65_6 hs, sk_p65_7 hs, sk_p65_8 hs, sk_p65_9 hs, sk_p65_10 hs, sk_p65_11 hs, sk_p65_12 hs, sk_p65_13 hs, sk_p65_14 hs, sk_p65_15 hs, sk_k64 hs, sk_n64 hs, sk_k65 hs, sk_n65 hs, true_and]
  refine s_keep hs q3 E3 fun μ1 k1 => ?_
  have C1 := C_keep C hs k1
  unfold p_X0_flies_L23
  refine lp_to m (fun k (b : Int32 × Int32 × fw_M) => b.1 = (flI (mKeep a st) k).1 ∧ b.2.1 = nI k ∧ stepS μ b.2.2 ∧ iv_C b.2.2 65 (flI (mKeep a st) k).2 n tx (k0 st + 1) te tl ns nd) (fun k b hk hI K hK => ?_) (fun b hI K => ?_) ⟨rfl, rfl, k1.step, C1⟩
  · obtain ⟨i, j, ν⟩ := b
    obtain ⟨h1, h2, h3, h4⟩ := hI
    dsimp only at h1 h2 h3 h4
    show p_X0_flies_L23b 64 (nI m) (fun i2 i3 μ => K (i2, i3, μ)) i j ν Q
    rw [h1, h2]
    have gs := h3.1
    obtain ⟨r1, r2, r3, r4, r5, r6, r7, r8, r9, r10, r11, r12, r13, ⟨x, x1, x2⟩, r15⟩ := id h4.2.2.2.2.2.1
    obtain ⟨g, g1, g2⟩ := r11 (x % 4) (by omega)
    have x3 : (flI (mKeep a st) k).2 464 = nI x := x2
    have g3 : (flI (mKeep a st) k).2 (110 + x % 4) = nI g := g2
    have e22 : m_I ν 69 22 = nI x := r4.trans x2
    have eg : m_I ν 69 (x % 4) = nI g := (r1 (x % 4) (by omega)).trans g2
    have fA : flA (flI (mKeep a st) k).2 = if nI g = 0 then (0, ml_u (flI (mKeep a st) k).2 464 (nI ((x * 181 + 101) % 30029))) else (1, ml_u (ml_u (flI (mKeep a st) k).2 464 (nI ((x * 181 + 101) % 30029))) (110 + x % 4) (nI g - 1)) := by
      unfold flA
      rw [x3, nI_clamp (by omega), g3]
    unfold p_X0_flies_L23b
    rw [if_neg (nI_ge hk (by omega))]
    simp (disch := omega) only [sk_p64_0 gs, sk_p64_1 gs, sk_p64_2 gs, sk_p64_3 gs, sk_p64_4 gs, sk_p64_5 gs, sk_p64_9 gs, sk_p64_10 gs, sk_p64_11 gs, sk_p65_6 gs, sk_p65_7 gs, sk_p65_8 gs, sk_p65_9 gs, sk_p65_10 gs, sk_p65_11 gs, sk_p65_12 gs, sk_p65_13 gs, sk_p65_14 gs, sk_p65_15 gs, sk_k64 gs, sk_n64 gs, sk_k65 gs, sk_n65 gs, true_and]
    refine s_draw gs x1 e22 ?_
    have e0 : (0 : Int32) + nI (x % 4) = nI (x % 4) := by rw [li_0, nI_add, Nat.zero_add]
    simp (disch := omega) only [e0, forall_eq, ml_KI, ml_PI, ml_NI, sk_p64_0 gs, sk_p64_1 gs, sk_p64_2 gs, sk_p64_3 gs, sk_p64_4 gs, sk_p64_5 gs, sk_p64_9 gs, sk_p64_10 gs, sk_p64_11 gs, sk_p65_6 gs, sk_p65_7 gs, sk_p65_8 gs, sk_p65_9 gs, sk_p65_10 gs, sk_p65_11 gs, sk_p65_12 gs, sk_p65_13 gs, sk_p65_14 gs, sk_p65_15 gs, sk_k64 gs, sk_n64 gs, sk_k65 gs, sk_n65 gs, sk_k69 gs, sk_n69 gs, vp_t, nI_clamp, true_and, ml_Is, ml_un, eg, ml_uI, ml_ss, nI_1]
    by_cases cg : nI g = 0
    · rw [if_pos cg] at fA
      rw [if_pos cg]
      refine hK _ ⟨?_, rfl, h3.tr (stepS.sI gs (Or.inl ⟨by decide, by decide⟩)), ?_⟩
      · show _ = (flI (mKeep a st) k).1 + (flA (flI (mKeep a st) k).2).1
        rw [fA]
        exact (Int32.add_zero _).symm
      · show iv_C _ 65 (flA (flI (mKeep a st) k).2).2 n tx (k0 st + 1) te tl ns nd
        rw [fA]
        exact C_now h4 gs (row_fl0 q1 h4.2.2.2.2.2.1 (by omega)) fun j hj j2 => ml_un j2
    · rw [if_neg cg] at fA
      rw [if_neg cg]
      have g0 : 1 ≤ g := by
        apply Classical.byContradiction
        intro h
        exact cg (by rw [show g = 0 by omega]; rfl)
      refine hK _ ⟨?_, rfl, h3.tr (stepS.sI gs (Or.inl ⟨by decide, by decide⟩)), ?_⟩
      · show _ = (flI (mKeep a st) k).1 + (flA (flI (mKeep a st) k).2).1
        rw [fA]
      · show iv_C _ 65 (flA (flI (mKeep a st) k).2).2 n tx (k0 st + 1) te tl ns nd
        rw [fA, show (nI g - 1 : Int32) = nI (g - 1) from pk_sub (b := 1) g0]
        exact C_now h4 gs (row_fl q1 h4.2.2.2.2.2.1 (by omega) (by omega) (by omega)) fun j hj j2 => by
          dsimp only
          rw [ml_un (by omega), ml_un j2]
  · obtain ⟨i, j, ν⟩ := b
    obtain ⟨h1, h2, h3, h4⟩ := hI
    dsimp only at h1 h2 h3 h4
    show p_X0_flies_L23b 64 (nI m) (fun i2 i3 μ => K (i2, i3, μ)) i j ν Q
    rw [h1, h2]
    unfold p_X0_flies_L23b
    rw [if_pos (nI_le (Nat.le_refl m) (by omega))]
    exact hQ ν h3 ⟨_, _, _, h4⟩
/-- all through some flies the numbers stay small -/
def flOk (a : Nat → Int32) : Prop := (∃ x, x < 50000 ∧ a 464 = nI x) ∧ ∀ k, k < 4 → ∃ g, g ≤ 999 ∧ a (110 + k) = nI g
theorem flOk.A {a : Nat → Int32} (h : flOk a) : flOk (flA a).2 := by
  obtain ⟨⟨x, x1, x2⟩, h2⟩ := h
  obtain ⟨g, g1, g2⟩ := h2 (x % 4) (by omega)
  unfold flA
  rw [x2, nI_clamp (by omega), g2]
  by_cases c : nI g = 0
  · rw [if_pos c]
    refine ⟨⟨(x * 181 + 101) % 30029, by omega, by dsimp only; rw [ml_us]⟩, fun k hk => ?_⟩
    dsimp only
    rw [ml_un (by omega)]
    exact h2 k hk
  · rw [if_neg c]
    have g0 : 1 ≤ g := by
      apply Classical.byContradiction
      intro h
      exact c (by rw [show g = 0 by omega]; rfl)
    refine ⟨⟨(x * 181 + 101) % 30029, by omega, ?_⟩, fun k hk => ?_⟩
    · dsimp only
      rw [ml_un (by omega), ml_us]
    · dsimp only
      by_cases e : k = x % 4
      · subst e
        rw [ml_us]
        exact ⟨g - 1, by omega, pk_sub (b := 1) g0⟩
      · rw [ml_un (by omega), ml_un (by omega)]
        exact h2 k hk
theorem flOk.I {a : Nat → Int32} (h : flOk a) : ∀ k, flOk (flI a k).2 := by
  intro k
  induction k with
  | zero => exact h
  | succ k ih => exact ih.A
theorem m_flies {ν : fw_M} {a : Nat → Int32} {st : Nat} (gs : sk_m ν) (w : m_I ν 412 = a) (hst : st ≤ 30) (A3 : a 3 = nI st) (ok : flOk a) (a0 : Int32) {Q : Int32 → fw_M → Prop} (hQ : ∀ ν', stepM ν ν' → m_I ν' 412 = (mFlies a a0).2 → Q (mFlies a a0).1 ν') : p_X5_flies 411 a0 ν Q := by
  by_cases c1 : inB a0 1 40
  rotate_left
  · have := hQ ν stepM.rf
    unfold mFlies at this
    rw [if_neg c1] at this
    simp only [p_X5_flies, m_in, if_neg c1, e00, if_true]
    exact this w
  unfold mFlies at hQ
  rw [if_pos c1] at hQ
  obtain ⟨m, m1, m2, rfl⟩ := inB_nI (lo := 1) (hi := 40) c1 (by decide) (by decide)
  rw [nI_clamp (show m < 2 ^ 31 by omega), A3, nI_clamp (show st < 2 ^ 31 by omega)] at hQ
  simp only [p_X5_flies, m_in, if_pos c1, e10, if_false]
  refine m_keep gs w hst A3 ?_
  have ok1 : flOk (mKeep a st) := by
    obtain ⟨⟨x, x1, x2⟩, h2⟩ := ok
    refine ⟨⟨x, x1, by rw [mKeep_lo (by decide) (by decide)]; exact x2⟩, fun k hk => ?_⟩
    rw [mKeep_lo (by omega) (by omega)]
    exact h2 k hk
  unfold p_X5_flies_L20
  refine lp_fn m (fun k => ((flI (mKeep a st) k).1, nI k, m_sI ν 412 (flI (mKeep a st) k).2)) (fun _ => True) (fun k hk _ K hK => ?_) (fun _ K => ?_) rfl trivial
  · show p_X5_flies_L20b 411 (nI m) (fun i2 i3 μ => K (i2, i3, μ)) (flI (mKeep a st) k).1 (nI k) (m_sI ν 412 (flI (mKeep a st) k).2) Q
    have hK := hK trivial
    obtain ⟨⟨x, x1, x2⟩, ok2⟩ := ok1.I k
    obtain ⟨g, g1, g2⟩ := ok2 (x % 4) (by omega)
    have fA : flA (flI (mKeep a st) k).2 = if nI g = 0 then (0, ml_u (flI (mKeep a st) k).2 464 (nI ((x * 181 + 101) % 30029))) else (1, ml_u (ml_u (flI (mKeep a st) k).2 464 (nI ((x * 181 + 101) % 30029))) (110 + x % 4) (nI g - 1)) := by
      unfold flA
      rw [x2, nI_clamp (by omega), g2]
    have fS : flI (mKeep a st) (k + 1) = ((flI (mKeep a st) k).1 + (flA (flI (mKeep a st) k).2).1, (flA (flI (mKeep a st) k).2).2) := rfl
    rw [fS, fA] at hK
    unfold p_X5_flies_L20b
    rw [if_neg (nI_ge hk (by omega))]
    refine m_draw (x := x) (sk_m.I gs) x1 (by rw [ml_Is]; exact x2) ?_
    simp (disch := omega) only [li_110, nI_add, forall_eq, ml_KI, ml_PI, ml_NI, sk_p411_0 gs, sk_p411_1 gs, sk_p411_2 gs, sk_p411_6 gs, sk_p411_7 gs, sk_p411_8 gs, sk_p411_9 gs, sk_p411_10 gs, sk_p411_11 gs, sk_p411_12 gs, sk_p411_22 gs, sk_p411_23 gs, sk_p411_25 gs, sk_p411_26 gs, sk_p411_30 gs, sk_p411_31 gs, sk_p411_32 gs, sk_p411_33 gs, sk_p411_35 gs, sk_p411_36 gs, sk_p411_37 gs, sk_p411_38 gs, sk_p411_39 gs, sk_p411_40 gs, sk_p411_42 gs, sk_p411_43 gs, sk_p411_44 gs, sk_p411_45 gs, sk_p411_46 gs, sk_k411 gs, sk_n411 gs, sk_k412 gs, sk_n412 gs, vp_t, nI_clamp, true_and, ml_Is, ml_un, g2, ml_uI, ml_ss, nI_1]
    by_cases cg : g = 0
    · subst cg
      rw [if_pos (show nI 0 ≤ 0 by decide)]
      rw [if_pos (show nI 0 = 0 from rfl)] at hK
      dsimp only at hK
      rw [Int32.add_zero] at hK
      exact hK
    · rw [if_neg (nI_nle (by omega) (by omega))]
      rw [if_neg (nI_ne0 (by omega) (by omega))] at hK
      exact hK
  · show p_X5_flies_L20b 411 (nI m) (fun i2 i3 μ => K (i2, i3, μ)) (flI (mKeep a st) m).1 (nI m) (m_sI ν 412 (flI (mKeep a st) m).2) Q
    unfold p_X5_flies_L20b
    rw [if_pos (nI_le (Nat.le_refl m) (by omega))]
    exact hQ _ stepM.sI ml_Is
theorem C_flOk {μ : fw_M} {a : Nat → Int32} {n tx st te tl ns nd : Nat} (C : iv_C μ 65 a n tx st te tl ns nd) : flOk a := by
  obtain ⟨r1, r2, r3, r4, r5, r6, r7, r8, r9, r10, r11, r12, r13, r14, r15⟩ := C.2.2.2.2.2.1
  exact ⟨r14, r11⟩
theorem op_flies (a0 : Int32) : iv_op2 (α := Int32) (fun μ Q => p_X0_flies 64 a0 μ Q) (fun μ Q => p_X5_flies 411 a0 μ Q) := by
  refine op_step fun L xs z μ hI => ?_
  obtain ⟨hs, -, -, n, tx, st, te, tl, ns, nd, n', tx', st', te', tl', ns', nd', tp, C, -⟩ := hI
  obtain ⟨⟨q1, q2, q3, q4, q5⟩, -, ⟨A0, A1, A3, A4, A5⟩, -⟩ := id C
  refine ⟨mFlies (m_I μ 412) a0, fun Q hQ => s_flies hs C a0 fun μ1 h1 hC => hQ μ1 h1 fun n2 tx2 st2 te2 tl2 ns2 nd2 C2 => ?_, fun μ1 h1 w Q hQ => m_flies h1.1 w q3 A3 (C_flOk C) a0 hQ⟩
  obtain ⟨e1, e2, e3, e4, e5⟩ := C_same C C2
  subst e1 e2 e3 e4 e5
  exact hC
