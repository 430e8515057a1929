/-! plain law: tools: loops, small ints, what keeps the invariant -/
theorem lp_to {A : Type} {B : (A → Prop) → A → Prop} (n : Nat) (I : Nat → A → Prop) (hs : ∀ k a, k < n → I k a → ∀ K : A → Prop, (∀ b, I (k + 1) b → K b) → B K a) (hn : ∀ a, I n a → ∀ K : A → Prop, B K a) {a : A} (h0 : I 0 a) : fw_lp B a := by
  have key : ∀ j k a, k + j = n → I k a → fw_iter B (j + 1) a := by
    intro j
    induction j with
    | zero =>
      intro k a e h
      have : k = n := by omega
      subst this
      exact hn a h _
    | succ j ih =>
      intro k a e h
      exact hs k a (by omega) h _ (fun b hb => ih (k + 1) b (by omega) hb)
  exact ⟨n + 1, key n 0 a (by omega) h0⟩
/-- a loop whose state is a function of the count, as long as P holds -/
theorem lp_fn {A : Type} {B : (A → Prop) → A → Prop} (n : Nat) (s : Nat → A) (P : Nat → Prop) (hs : ∀ k, k < n → P k → ∀ K : A → Prop, (P (k + 1) → K (s (k + 1))) → B K (s k)) (hn : P n → ∀ K : A → Prop, B K (s n)) {a : A} (ha : a = s 0) (h0 : P 0) : fw_lp B a :=
  lp_to n (fun k b => P k ∧ b = s k) (fun k b hk h K hK => by
    obtain ⟨h1, rfl⟩ := h
    exact hs k hk h1 K fun h2 => hK _ ⟨h2, rfl⟩) (fun b h K => by
    obtain ⟨h1, rfl⟩ := h
    exact hn h1 K) ⟨h0, ha⟩
theorem li_0 : (0 : Int32) = nI 0 := rfl
theorem li_1 : (1 : Int32) = nI 1 := rfl
theorem li_2 : (2 : Int32) = nI 2 := rfl
theorem li_3 : (3 : Int32) = nI 3 := rfl
theorem li_4 : (4 : Int32) = nI 4 := rfl
theorem li_5 : (5 : Int32) = nI 5 := rfl
theorem li_6 : (6 : Int32) = nI 6 := rfl
theorem li_7 : (7 : Int32) = nI 7 := rfl
theorem li_8 : (8 : Int32) = nI 8 := rfl
theorem li_9 : (9 : Int32) = nI 9 := rfl
theorem li_10 : (10 : Int32) = nI 10 := rfl
theorem li_11 : (11 : Int32) = nI 11 := rfl
theorem li_12 : (12 : Int32) = nI 12 := rfl
theorem li_13 : (13 : Int32) = nI 13 := rfl
theorem li_14 : (14 : Int32) = nI 14 := rfl
theorem li_15 : (15 : Int32) = nI 15 := rfl
theorem li_19 : (19 : Int32) = nI 19 := rfl
theorem li_20 : (20 : Int32) = nI 20 := rfl
theorem li_21 : (21 : Int32) = nI 21 := rfl
theorem li_22 : (22 : Int32) = nI 22 := rfl
theorem li_23 : (23 : Int32) = nI 23 := rfl
theorem li_24 : (24 : Int32) = nI 24 := rfl
theorem li_25 : (25 : Int32) = nI 25 := rfl
theorem li_26 : (26 : Int32) = nI 26 := rfl
theorem li_29 : (29 : Int32) = nI 29 := rfl
theorem li_30 : (30 : Int32) = nI 30 := rfl
theorem li_39 : (39 : Int32) = nI 39 := rfl
theorem li_40 : (40 : Int32) = nI 40 := rfl
theorem li_48 : (48 : Int32) = nI 48 := rfl
theorem li_57 : (57 : Int32) = nI 57 := rfl
theorem li_60 : (60 : Int32) = nI 60 := rfl
theorem li_64 : (64 : Int32) = nI 64 := rfl
theorem li_65 : (65 : Int32) = nI 65 := rfl
theorem li_90 : (90 : Int32) = nI 90 := rfl
theorem li_97 : (97 : Int32) = nI 97 := rfl
theorem li_99 : (99 : Int32) = nI 99 := rfl
theorem li_100 : (100 : Int32) = nI 100 := rfl
theorem li_101 : (101 : Int32) = nI 101 := rfl
theorem li_110 : (110 : Int32) = nI 110 := rfl
theorem li_111 : (111 : Int32) = nI 111 := rfl
theorem li_112 : (112 : Int32) = nI 112 := rfl
theorem li_113 : (113 : Int32) = nI 113 := rfl
theorem li_114 : (114 : Int32) = nI 114 := rfl
theorem li_122 : (122 : Int32) = nI 122 := rfl
theorem li_123 : (123 : Int32) = nI 123 := rfl
theorem li_132 : (132 : Int32) = nI 132 := rfl
theorem li_133 : (133 : Int32) = nI 133 := rfl
theorem li_181 : (181 : Int32) = nI 181 := rfl
theorem li_255 : (255 : Int32) = nI 255 := rfl
theorem li_264 : (264 : Int32) = nI 264 := rfl
theorem li_300 : (300 : Int32) = nI 300 := rfl
theorem li_301 : (301 : Int32) = nI 301 := rfl
theorem li_355 : (355 : Int32) = nI 355 := rfl
theorem li_373 : (373 : Int32) = nI 373 := rfl
theorem li_374 : (374 : Int32) = nI 374 := rfl
theorem li_400 : (400 : Int32) = nI 400 := rfl
theorem li_401 : (401 : Int32) = nI 401 := rfl
theorem li_402 : (402 : Int32) = nI 402 := rfl
theorem li_405 : (405 : Int32) = nI 405 := rfl
theorem li_406 : (406 : Int32) = nI 406 := rfl
theorem li_407 : (407 : Int32) = nI 407 := rfl
theorem li_408 : (408 : Int32) = nI 408 := rfl
theorem li_464 : (464 : Int32) = nI 464 := rfl
theorem li_470 : (470 : Int32) = nI 470 := rfl
theorem li_999 : (999 : Int32) = nI 999 := rfl
theorem li_1600 : (1600 : Int32) = nI 1600 := rfl
theorem li_9999 : (9999 : Int32) = nI 9999 := rfl
theorem li_10765 : (10765 : Int32) = nI 10765 := rfl
theorem li_30029 : (30029 : Int32) = nI 30029 := rfl
theorem ml_ss {μ : fw_M} {p : Nat} {f g : Nat → Int32} : m_sI (m_sI μ p f) p g = m_sI μ p g := by
  unfold m_sI
  refine congrArg (fun x => (x, μ.2)) ?_
  funext q
  by_cases h : q = p
  · simp only [if_pos h]
  · simp only [if_neg h]
theorem li_ofN (n : Nat) : Int32.ofNat n = nI n := rfl
theorem vp_t {n N : Nat} (h : n < N) (hN : N < 2 ^ 31) : vp_in (nI n) N = True := eq_true (vp_in_nI h hN)
/-- places that hold nothing that lasts -/
def sc_p (p : Nat) : Prop := p = 396 ∨ (399 ≤ p ∧ p ≤ 410) ∨ (422 ≤ p ∧ p ≤ 440)
theorem kp_gen {L : Nat} {xs : Nat → Int32} {z : Nat → Nat} {μ μ' : fw_M} (hI : iv_inv L xs z μ) (hs' : sk_m μ') (hS : m_S μ' = m_S μ) (hx : m_x μ' = m_x μ) (hP : ∀ p, p ≠ 71 → m_P μ' p = m_P μ p)
    (h : ∀ p, p < 64 ∨ 391 ≤ p → p ≠ 411 → p ≠ 412 → p ≠ 413 → ¬ sc_p p → m_I μ' p = m_I μ p) (h64 : ∀ j, j < 9 → m_I μ' 64 j = m_I μ 64 j) (h411 : ∀ j, j < 6 → m_I μ' 411 j = m_I μ 411 j)
    (hC : ∀ n tx st te tl ns nd n' tx' st' te' tl' ns' nd', iv_C μ 65 (m_I μ 412) n tx st te tl ns nd → iv_C μ 228 (m_I μ 413) n' tx' st' te' tl' ns' nd' → ∃ n2 tx2 st2 te2 tl2 ns2 nd2 n3 tx3 st3 te3 tl3 ns3 nd3, iv_C μ' 65 (m_I μ' 412) n2 tx2 st2 te2 tl2 ns2 nd2 ∧ iv_C μ' 228 (m_I μ' 413) n3 tx3 st3 te3 tl3 ns3 nd3 ∧ ∀ t, t < tx2 ∨ t < tx3 → t < tx ∨ t < tx') : iv_inv L xs z μ' := by
  obtain ⟨hs, ho, h3, n, tx, st, te, tl, ns, nd, n', tx', st', te', tl', ns', nd', tp, c1, c2, hT, t0, t1, t2, t3, t4, t5, t6⟩ := hI
  obtain ⟨n2, tx2, st2, te2, tl2, ns2, nd2, n3, tx3, st3, te3, tl3, ns3, nd3, d1, d2, d3⟩ := hC _ _ _ _ _ _ _ _ _ _ _ _ _ _ c1 c2
  have hi : ∀ p, 441 ≤ p → m_I μ' p = m_I μ p := fun p hp => h p (Or.inr (by omega)) (by omega) (by omega) (by omega) (by unfold sc_p; omega)
  have gx : iv_ext μ μ' := ⟨hs', Nat.le_of_eq hx.symm, fun p p1 _ _ _ => ⟨by rw [hS], hi p p1, hP p (by omega)⟩⟩
  refine ⟨hs', fun p hp => ?_, by rw [h 392 (Or.inr (by decide)) (by decide) (by decide) (by decide) (by unfold sc_p; decide)]; exact h3, n2, tx2, st2, te2, tl2, ns2, nd2, n3, tx3, st3, te3, tl3, ns3, nd3, tp, d1, d2, fun t ht => ?_, ?_⟩
  · obtain ⟨a1, a2, a3⟩ := ho p hp
    exact ⟨by rw [hS]; exact a1, by rw [h p (Or.inl hp) (by omega) (by omega) (by omega) (by unfold sc_p; omega)]; exact a2, by rw [hP p (by omega)]; exact a3⟩
  · exact kp_law (hT t (d3 t ht)) ⟨hs', Nat.le_of_eq hx.symm, hP 391 (by decide), fun p p1 _ => ⟨by rw [hS], hi p p1, hP p (by omega)⟩, fun q q1 q2 => h q (Or.inr (by omega)) (by omega) (by omega) (by omega) (by unfold sc_p; omega)⟩ gx
  · unfold iv_tape
    rw [h64 6 (by decide), h64 7 (by decide), h64 8 (by decide), h411 3 (by decide), h411 4 (by decide), h411 5 (by decide), h 397 (Or.inr (by decide)) (by decide) (by decide) (by decide) (by unfold sc_p; decide), h 414 (Or.inr (by decide)) (by decide) (by decide) (by decide) (by unfold sc_p; decide)]
    exact ⟨t0, t1, t2, t3, t4, t5, t6⟩
/-- the court of here alone changes -/
theorem kp_here {L : Nat} {xs : Nat → Int32} {z : Nat → Nat} {μ μ' : fw_M} (hI : iv_inv L xs z μ) (hs' : sk_m μ') (hS : m_S μ' = m_S μ) (hx : m_x μ' = m_x μ) (hP : ∀ p, p ≠ 71 → m_P μ' p = m_P μ p)
    (h : ∀ p, p < 64 ∨ 228 ≤ p → p ≠ 411 → p ≠ 412 → ¬ sc_p p → m_I μ' p = m_I μ p) (h64 : ∀ j, j < 9 → m_I μ' 64 j = m_I μ 64 j) (h411 : ∀ j, j < 6 → m_I μ' 411 j = m_I μ 411 j)
    (hC : ∀ n tx st te tl ns nd, iv_C μ 65 (m_I μ 412) n tx st te tl ns nd → ∃ n2 st2 te2 tl2 ns2 nd2, iv_C μ' 65 (m_I μ' 412) n2 tx st2 te2 tl2 ns2 nd2) : iv_inv L xs z μ' := by
  refine kp_gen hI hs' hS hx hP (fun p p1 p2 p3 p4 p5 => h p (by omega) p2 p3 p5) h64 h411 fun n tx st te tl ns nd n' tx' st' te' tl' ns' nd' c1 c2 => ?_
  obtain ⟨n2, st2, te2, tl2, ns2, nd2, d⟩ := hC _ _ _ _ _ _ _ c1
  refine ⟨n2, tx, st2, te2, tl2, ns2, nd2, n', tx', st', te', tl', ns', nd', d, ?_, fun t ht => ht⟩
  rw [h 413 (Or.inr (by decide)) (by decide) (by decide) (by unfold sc_p; decide)]
  exact kp_C c2 (fun k hk => sk_s228 hI.1 hk) (fun p p1 p2 => h p (by omega) (by omega) (by omega) (by unfold sc_p; omega)) (hP 234 (by decide))
/-- nothing that lasts changes -/
theorem kp_scr {L : Nat} {xs : Nat → Int32} {z : Nat → Nat} {μ μ' : fw_M} (hI : iv_inv L xs z μ) (hS : m_S μ' = m_S μ) (hx : m_x μ' = m_x μ) (hP : m_P μ' = m_P μ)
    (h : ∀ p, p ≠ 64 → p ≠ 411 → ¬ sc_p p → m_I μ' p = m_I μ p) (h64 : ∀ j, j < 9 → m_I μ' 64 j = m_I μ 64 j) (h411 : ∀ j, j < 6 → m_I μ' 411 j = m_I μ 411 j) : iv_inv L xs z μ' := by
  have hs' : sk_m μ' := by
    have hs := hI.1
    unfold sk_m at hs ⊢
    rw [hS, hP, hx]
    exact hs
  refine kp_here hI hs' hS hx (fun p _ => by rw [hP]) (fun p p1 p2 p3 p4 => h p (by omega) p2 p4) h64 h411 fun n tx st te tl ns nd c => ⟨n, st, te, tl, ns, nd, ?_⟩
  rw [h 412 (by decide) (by decide) (by unfold sc_p; decide)]
  exact kp_C c (fun k hk => sk_s65 hI.1 hk) (fun p p1 p2 => h p (by omega) (by omega) (by unfold sc_p; omega)) (by rw [hP])
-- rows
theorem sh_un {a : Nat → Int32} {c d : Nat} {v : Int32} (h : c < d) : iv_sh (ml_u a c v) d = iv_sh a d := by
  funext k
  unfold iv_sh
  exact ml_un (by omega)
theorem sh_us {a : Nat → Int32} {c d : Nat} {v : Int32} : iv_sh (ml_u a (d + c) v) d = ml_u (iv_sh a d) c v := by
  funext k
  unfold iv_sh ml_u
  by_cases h : k = c
  · rw [if_pos (by omega), if_pos h]
  · rw [if_neg (by omega), if_neg h]
theorem sum_cong {m m' : Nat → Int32} {e : Nat} : ∀ {ns : Nat}, (∀ j, 23 ≤ j → j < 23 + 4 * ns → m' j = m j) → iv_sum m' e ns = iv_sum m e ns := by
  intro ns
  induction ns with
  | zero => intro _; rfl
  | succ i ih =>
    intro h
    unfold iv_sum
    rw [ih fun j j1 j2 => h j j1 (by omega), h (23 + 4 * i) (by omega) (by omega), h (23 + 4 * i + 3) (by omega) (by omega)]
theorem row_cong {n ns nd : Nat} {sr mr sr' mr' : Nat → Int32} (hn : n ≤ 9) (h : iv_row n ns nd sr mr) (hs : ∀ j, j < 25 → sr' j = sr j) (hm : ∀ j, j < 355 → mr' j = mr j) : iv_row n ns nd sr' mr' := by
  obtain ⟨h1, h2, h3, h4, h5, h6, h7, h8, h9, h10, h11, h12, h13, h14, h15⟩ := h
  refine ⟨fun k hk => ?_, fun e he => ?_, fun e e1 e2 => ?_, ?_, ?_, ?_, ?_, ?_, h9, h10, fun k hk => ?_, fun e he => ?_, fun e he => ?_, ?_, fun e he => ?_⟩
  · rw [hs k (by omega), hm k (by omega)]; exact h1 k hk
  · rw [hs (4 + e) (by omega), hm (4 + e) (by omega), hs (13 + e) (by omega), hm (13 + e) (by omega)]; exact h2 e he
  · rw [hm (4 + e) (by omega), hm (13 + e) (by omega)]; exact h3 e e1 e2
  · rw [hs 22 (by omega), hm 354 (by omega)]; exact h4
  · rw [hs 23 (by omega)]; exact h5
  · rw [hs 24 (by omega)]; exact h6
  · rw [hm 22 (by omega)]; exact h7
  · rw [hm 263 (by omega)]; exact h8
  · rw [hm k (by omega)]; exact h11 k hk
  · rw [hm (4 + e) (by omega)]; exact h12 e he
  · rw [hm (13 + e) (by omega)]; exact h13 e he
  · rw [hm 354 (by omega)]; exact h14
  · rw [hm (13 + e) (by omega), sum_cong (m := mr) fun j j1 j2 => hm j (by omega)]; exact h15 e he
theorem rec_cong {ns nd : Nat} {sp de sp' de' : Nat → Nat → Int32} {mr mr' : Nat → Int32} (h : iv_rec ns nd sp de mr) (h1 : ns ≤ 60) (h2 : nd ≤ 30) (hs : ∀ i, i < ns → ∀ j, j < 4 → sp' i j = sp i j) (hd : ∀ i, i < nd → ∀ j, j < 3 → de' i j = de i j) (hm : ∀ j, 23 ≤ j → j < 354 → mr' j = mr j) : iv_rec ns nd sp' de' mr' := by
  refine ⟨fun i hi j hj => ?_, fun i hi j hj => ?_⟩
  · rw [hs i hi j hj, hm _ (by omega) (by omega)]; exact h.1 i hi j hj
  · rw [hd i hi j hj, hm _ (by omega) (by omega)]; exact h.2 i hi j hj
/-- new pots (and the number of flies) in a row -/
theorem row_pots {n ns nd : Nat} {sr mr sr' mr' : Nat → Int32} (hn : n ≤ 9) (h : iv_row n ns nd sr mr) (h1 : ∀ k, k < 4 → sr' k = mr' k ∧ ∃ g, g ≤ 999 ∧ mr' k = nI g) (h2 : sr' 22 = mr' 354 ∧ ∃ x, x < 50000 ∧ mr' 354 = nI x)
    (hs : ∀ j, 4 ≤ j → j < 25 → j ≠ 22 → sr' j = sr j) (hm : ∀ j, 4 ≤ j → j < 354 → mr' j = mr j) : iv_row n ns nd sr' mr' := by
  obtain ⟨-, g2, g3, -, g5, g6, g7, g8, g9, g10, -, g12, g13, -, g15⟩ := h
  refine ⟨fun k hk => (h1 k hk).1, fun e he => ?_, fun e e1 e2 => ?_, h2.1, ?_, ?_, ?_, ?_, g9, g10, fun k hk => (h1 k hk).2, fun e he => ?_, fun e he => ?_, h2.2, fun e he => ?_⟩
  · rw [hs (4 + e) (by omega) (by omega) (by omega), hm (4 + e) (by omega) (by omega), hs (13 + e) (by omega) (by omega) (by omega), hm (13 + e) (by omega) (by omega)]; exact g2 e he
  · rw [hm (4 + e) (by omega) (by omega), hm (13 + e) (by omega) (by omega)]; exact g3 e e1 e2
  · rw [hs 23 (by omega) (by omega) (by omega)]; exact g5
  · rw [hs 24 (by omega) (by omega) (by omega)]; exact g6
  · rw [hm 22 (by omega) (by omega)]; exact g7
  · rw [hm 263 (by omega) (by omega)]; exact g8
  · rw [hm (4 + e) (by omega) (by omega)]; exact g12 e he
  · rw [hm (13 + e) (by omega) (by omega)]; exact g13 e he
  · rw [hm (13 + e) (by omega) (by omega), sum_cong (m := mr) fun j j1 j2 => hm j (by omega) (by omega)]; exact g15 e he
