/-! plain law: the two constructors -/
set_option maxRecDepth 100000
def in_K (L : Nat) (xs : Nat → Int32) (z : Nat → Nat) (N : Nat) (FI : Nat → Nat → Int32) (FP : Nat → Nat → Nat) (μ : fw_M) : Prop :=
  m_x μ = N ∧ (∀ p, 64 ≤ p → p < N → m_S μ p = sk_S p ∧ m_I μ p = FI p ∧ m_P μ p = FP p) ∧ iv_old L xs z μ ∧ ∀ p, N ≤ p → (FI p = fun _ => 0) ∧ (FP p = fun _ => 0)
section INIT
variable {L : Nat} {xs : Nat → Int32} {z : Nat → Nat} {N : Nat} {FI : Nat → Nat → Int32} {FP : Nat → Nat → Nat} {μ : fw_M}
theorem in_al (h : in_K L xs z N FI FP μ) (k n : Nat) (h64 : 64 ≤ N) (hs : sk_S N = (k, n)) {G : Nat → fw_M → Prop} (N' : Nat) (hN : N + 1 = N') (g : ∀ μ', in_K L xs z N' FI FP μ' → G N μ') : ∀ rn, rn = m_x μ → ∀ μ', μ' = m_al μ k n → G rn μ' := by
  intro rn e μ' e'
  obtain ⟨hx, h1, h2, h3⟩ := h
  subst hN
  rw [e, hx]
  refine g μ' ⟨?_, fun p p1 p2 => ?_, fun p hp => ?_, fun p hp => h3 p (by omega)⟩
  · rw [e', ml_ax, hx]
  · rw [e']
    by_cases q : p = N
    · rw [q]
      have s1 : m_S (m_al μ k n) N = (k, n) := by rw [← hx]; exact ml_aS0
      have s2 : m_I (m_al μ k n) N = fun _ => 0 := by rw [← hx]; exact ml_aI0
      have s3 : m_P (m_al μ k n) N = fun _ => 0 := by rw [← hx]; exact ml_aP0
      exact ⟨s1.trans hs.symm, s2.trans (h3 N (Nat.le_refl _)).1.symm, s3.trans (h3 N (Nat.le_refl _)).2.symm⟩
    · have lt : p < m_x μ := by omega
      rw [ml_aS lt, ml_aI lt, ml_aP lt]
      exact h1 p p1 (by omega)
  · have lt : p < m_x μ := by omega
    rw [e', ml_aS lt, ml_aI lt, ml_aP lt]
    exact h2 p hp
theorem in_uI (h : in_K L xs z N FI FP μ) (p i : Nat) (v : Int32) (hp : 64 ≤ p) (hpN : p < N) {G : fw_M → Prop} (g : ∀ μ', in_K L xs z N (fw_up FI p i v) FP μ' → G μ') : ∀ μ', μ' = m_uI μ p i v → G μ' := by
  intro μ' e
  obtain ⟨hx, h1, h2, h3⟩ := h
  refine g μ' ⟨by rw [e]; exact hx, fun q q1 q2 => ?_, fun q hq => ?_, fun q hq => ⟨?_, (h3 q hq).2⟩⟩
  · obtain ⟨a1, a2, a3⟩ := h1 q q1 q2
    rw [e]
    refine ⟨a1, ?_, a3⟩
    funext j
    show (if q = p ∧ j = i then v else μ.1 q j) = if q = p ∧ j = i then v else FI q j
    rw [show μ.1 q j = FI q j from congrFun a2 j]
  · obtain ⟨a1, a2, a3⟩ := h2 q hq
    rw [e]
    refine ⟨a1, ?_, a3⟩
    rw [ml_uI, ml_In (by omega)]
    exact a2
  · funext j
    show (if q = p ∧ j = i then v else FI q j) = 0
    rw [if_neg (by omega)]
    exact congrFun (h3 q hq).1 j
theorem in_uP (h : in_K L xs z N FI FP μ) (p i v : Nat) (hp : 64 ≤ p) (hpN : p < N) {G : fw_M → Prop} (g : ∀ μ', in_K L xs z N FI (fw_up FP p i v) μ' → G μ') : ∀ μ', μ' = m_uP μ p i v → G μ' := by
  intro μ' e
  obtain ⟨hx, h1, h2, h3⟩ := h
  refine g μ' ⟨by rw [e]; exact hx, fun q q1 q2 => ?_, fun q hq => ?_, fun q hq => ⟨(h3 q hq).1, ?_⟩⟩
  · obtain ⟨a1, a2, a3⟩ := h1 q q1 q2
    rw [e]
    refine ⟨a1, a2, ?_⟩
    funext j
    show (if q = p ∧ j = i then v else μ.2.2.1 q j) = if q = p ∧ j = i then v else FP q j
    rw [show μ.2.2.1 q j = FP q j from congrFun a3 j]
  · obtain ⟨a1, a2, a3⟩ := h2 q hq
    rw [e]
    refine ⟨a1, a2, ?_⟩
    rw [ml_uP, ml_Pn (by omega)]
    exact a3
  · funext j
    show (if q = p ∧ j = i then v else FP q j) = 0
    rw [if_neg (by omega)]
    exact congrFun (h3 q hq).2 j
theorem in_al2 (h : in_K L xs z N FI FP μ) (n m : Nat) (h64 : 64 ≤ N) (hs : ∀ p, p < 1 + n → sk_S (N + p) = if p = 0 then (103, n) else (100, m)) {G : Nat → fw_M → Prop} (N' : Nat) (hN : N + 1 + n = N')
    (g : ∀ μ', in_K L xs z N' FI (fun q j => if q = N then N + 1 + j else if N < q ∧ q ≤ N + n then 0 else FP q j) μ' → G N μ') : ∀ rn, rn = m_x μ → ∀ μ', μ' = m_al2 μ 103 100 n m → G rn μ' := by
  intro rn e μ' e'
  obtain ⟨hx, h1, h2, h3⟩ := h
  have hx' : μ.2.2.2.2 = N := hx
  subst hN
  rw [e, hx]
  refine g μ' ⟨?_, fun p p1 p2 => ?_, fun p hp => ?_, fun p hp => ⟨(h3 p (by omega)).1, ?_⟩⟩
  · rw [e']
    show μ.2.2.2.2 + 1 + n = _
    rw [hx']
  · rw [e']
    refine ⟨?_, ?_, ?_⟩
    · show (if p = μ.2.2.2.2 then (103, n) else if μ.2.2.2.2 < p ∧ p ≤ μ.2.2.2.2 + n then (100, m) else μ.2.2.2.1 p) = _
      rw [hx']
      by_cases c : p < N
      · rw [if_neg (by omega), if_neg (by omega)]
        exact (h1 p p1 c).1
      · have e9 := hs (p - N) (by omega)
        rw [show N + (p - N) = p by omega] at e9
        rw [e9]
        by_cases c2 : p = N
        · rw [if_pos c2, if_pos (by omega)]
        · rw [if_neg c2, if_pos (show N < p ∧ p ≤ N + n by omega), if_neg (show ¬ p - N = 0 by omega)]
    · funext j
      show (if μ.2.2.2.2 ≤ p ∧ p ≤ μ.2.2.2.2 + n then (0 : Int32) else μ.1 p j) = FI p j
      rw [hx']
      by_cases c : p < N
      · rw [if_neg (by omega)]
        exact congrFun (h1 p p1 c).2.1 j
      · rw [if_pos (by omega), (h3 p (by omega)).1]
    · funext j
      show (if p = μ.2.2.2.2 then μ.2.2.2.2 + 1 + j else if μ.2.2.2.2 ≤ p ∧ p ≤ μ.2.2.2.2 + n then 0 else μ.2.2.1 p j) = if p = N then N + 1 + j else if N < p ∧ p ≤ N + n then 0 else FP p j
      rw [hx']
      by_cases c : p < N
      · rw [if_neg (by omega), if_neg (by omega), if_neg (by omega), if_neg (by omega)]
        exact congrFun (h1 p p1 c).2.2 j
      · by_cases c2 : p = N
        · rw [if_pos c2, if_pos c2]
        · rw [if_neg c2, if_neg c2, if_pos (by omega), if_pos (by omega)]
  · rw [e']
    obtain ⟨a1, a2, a3⟩ := h2 p hp
    refine ⟨?_, ?_, ?_⟩
    · show (if p = μ.2.2.2.2 then (103, n) else if μ.2.2.2.2 < p ∧ p ≤ μ.2.2.2.2 + n then (100, m) else μ.2.2.2.1 p) = _
      rw [hx', if_neg (by omega), if_neg (by omega)]
      exact a1
    · funext j
      show (if μ.2.2.2.2 ≤ p ∧ p ≤ μ.2.2.2.2 + n then (0 : Int32) else μ.1 p j) = _
      rw [hx', if_neg (by omega)]
      exact congrFun a2 j
    · funext j
      show (if p = μ.2.2.2.2 then μ.2.2.2.2 + 1 + j else if μ.2.2.2.2 ≤ p ∧ p ≤ μ.2.2.2.2 + n then 0 else μ.2.2.1 p j) = _
      rw [hx', if_neg (by omega), if_neg (by omega)]
      exact congrFun a3 j
  · funext j
    show (if p = N then N + 1 + j else if N < p ∧ p ≤ N + n then 0 else FP p j) = 0
    rw [if_neg (by omega), if_neg (by omega)]
    exact congrFun (h3 p (by omega)).2 j
theorem in_0 : in_K L xs z 64 (fun _ _ => 0) (fun _ _ => 0) (st_M L xs z) := ⟨rfl, fun p h1 h2 => absurd h2 (Nat.not_lt.mpr h1), fun p _ => ⟨rfl, rfl, rfl⟩, fun p _ => ⟨rfl, rfl⟩⟩
theorem in_P (h : in_K L xs z N FI FP μ) (p i q : Nat) (h1 : 64 ≤ p) (h2 : p < N) (e : FP p i = q) : m_P μ p i = q := (congrFun (h.2.1 p h1 h2).2.2 i).trans e
theorem in_S (h : in_K L xs z N FI FP μ) (p k n : Nat) (h1 : 64 ≤ p) (h2 : p < N) (e : sk_S p = (k, n)) : m_K μ p = k ∧ m_N μ p = n := ⟨ml_KS ((h.2.1 p h1 h2).1.trans e), ml_NS ((h.2.1 p h1 h2).1.trans e)⟩
end INIT


theorem in_l268 {L : Nat} {xs : Nat → Int32} {z : Nat → Nat} {FI : Nat → Nat → Int32} {FP : Nat → Nat → Nat} {μ : fw_M} (h : in_K L xs z 441 FI FP μ) (hp0 : FP 411 0 = 412) (hp1 : FP 411 1 = 413) {bc bs : Nat} {Q : fw_M → Prop}
    (g : ∀ μ', in_K L xs z 441 (fun p j => if p = 412 then (if 114 ≤ j ∧ j < 123 then 2 else FI 412 j) else if p = 413 then (if j < 11120 then (if 114 ≤ j ∧ j < 123 then 2 else FI 412 j) else FI 413 j) else FI p j) FP μ' → Q μ') : p_X5_init_L268 411 bc bs 0 μ Q := by
  have e0 := in_P h 411 0 412 (by decide) (by decide) hp0
  have e1 := in_P h 411 1 413 (by decide) (by decide) hp1
  obtain ⟨k0, n0⟩ := in_S h 412 100 11120 (by decide) (by decide) (by decide +kernel)
  obtain ⟨k1, n1⟩ := in_S h 413 100 11120 (by decide) (by decide) (by decide +kernel)
  have e2 := (h.2.1 412 (by decide) (by decide)).2.1
  have e3 := (h.2.1 413 (by decide) (by decide)).2.1
  refine r_X5_init_L268 (I := fun _ _ i ν => ∃ k, k ≤ 9 ∧ i = nI k ∧ ν = m_sI μ 412 (fun j => if 114 ≤ j ∧ j < 114 + k then 2 else FI 412 j)) (v := fun _ _ i _ => 9 - i.toNatClampNeg) ?_ bc bs 0 μ ⟨0, by omega, rfl, ?_⟩
  · intro kk bc bs i ν hI hk
    obtain ⟨c, hc, rfl, rfl⟩ := hI
    unfold p_X5_init_L268b
    by_cases e : c = 9
    · rw [if_pos (show (9 : Int32) ≤ nI c from nI_le (a := 9) (by omega) (by omega))]
      subst e
      refine m_cp1 (μ := m_sI μ 412 (fun j => if 114 ≤ j ∧ j < 114 + 9 then 2 else FI 412 j)) e0 e1 k0 n0 k1 n1 (g _ ?_)
      obtain ⟨a1, a2, a3, a4⟩ := h
      refine ⟨a1, fun p p1 p2 => ?_, fun p hp => ?_, fun p hp => ?_⟩
      · obtain ⟨b1, b2, b3⟩ := a2 p p1 p2
        refine ⟨b1, ?_, b3⟩
        by_cases q1 : p = 413
        · subst q1
          rw [ml_Is, ml_Is, ml_In (by decide), e3]
          rfl
        · rw [ml_In q1]
          by_cases q2 : p = 412
          · subst q2
            rw [ml_Is]
            rfl
          · rw [ml_In q2, b2]
            funext j
            dsimp only
            rw [if_neg q2, if_neg q1]
      · obtain ⟨b1, b2, b3⟩ := a3 p hp
        refine ⟨b1, ?_, b3⟩
        rw [ml_In (by omega), ml_In (by omega)]
        exact b2
      · refine ⟨?_, (a4 p hp).2⟩
        funext j
        dsimp only
        rw [if_neg (by omega), if_neg (by omega)]
        exact congrFun (a4 p hp).1 j
    · rw [if_neg (show ¬ (9 : Int32) ≤ nI c from nI_ge (b := 9) (by omega) (by decide))]
      have v : vp_in (114 + nI c) 11120 := by rw [show (114 : Int32) + nI c = nI (114 + c) from nI_add 114 c]; exact vp_in_nI (by omega) (by decide)
      simp only [ml_PI, ml_KI, ml_NI, e0, k0, n0, v, true_and, forall_eq]
      refine hk _ _ _ _ ⟨c + 1, by omega, nI_1 c, ?_⟩ ?_
      · rw [ml_uI, show (114 : Int32) + nI c = nI (114 + c) from nI_add 114 c, nI_clamp (by omega), ml_Is]
        unfold m_sI
        refine congrArg (fun x => (x, μ.2)) ?_
        funext q
        by_cases hq : q = 412
        · simp only [if_pos hq]
          funext j
          unfold ml_u
          by_cases hj : j = 114 + c
          · rw [if_pos hj, if_pos (by omega)]
          · rw [if_neg hj]
            dsimp only
            by_cases hj2 : 114 ≤ j ∧ j < 114 + c
            · rw [if_pos hj2, if_pos (by omega)]
            · rw [if_neg hj2, if_neg (by omega)]
        · simp only [if_neg hq]
      · rw [nI_1, nI_clamp (by omega), nI_clamp (by omega)]
        omega
  · unfold m_sI
    refine Prod.ext ?_ rfl
    funext q
    by_cases hq : q = 412
    · simp only [if_pos hq]
      funext j
      rw [if_neg (by omega), hq]
      exact congrFun e2 j
    · simp only [if_neg hq]
def in_okP (FP : Nat → Nat → Nat) : Prop := (FP 64 0 = 65 ∧ FP 64 1 = 228 ∧ FP 64 2 = 391 ∧ FP 64 3 = 392 ∧ FP 64 4 = 395 ∧ FP 64 5 = 397 ∧ FP 64 9 = 398 ∧ FP 64 10 = 409 ∧ FP 64 11 = 410 ∧ FP 65 6 = 66 ∧ FP 65 7 = 67 ∧ FP 65 8 = 68 ∧ FP 65 9 = 69 ∧ FP 65 10 = 70 ∧ FP 65 11 = 71 ∧ FP 65 12 = 102 ∧ FP 65 13 = 163 ∧ FP 65 14 = 194 ∧ FP 65 15 = 207 ∧ FP 228 6 = 229 ∧ FP 228 7 = 230 ∧ FP 228 8 = 231 ∧ FP 228 9 = 232 ∧ FP 228 10 = 233 ∧ FP 228 11 = 234 ∧ FP 228 12 = 265 ∧ FP 228 13 = 326 ∧ FP 228 14 = 357 ∧ FP 228 15 = 370 ∧ FP 392 0 = 393 ∧ FP 392 1 = 0 ∧ FP 392 2 = 394 ∧ FP 393 0 = 0 ∧ FP 393 1 = 0 ∧ FP 395 0 = 396 ∧ FP 411 0 = 412 ∧ FP 411 1 = 413 ∧ FP 411 2 = 414 ∧ FP 411 6 = 415 ∧ FP 411 7 = 416 ∧ FP 411 8 = 417 ∧ FP 411 9 = 418 ∧ FP 411 10 = 419 ∧ FP 411 11 = 420 ∧ FP 411 12 = 421 ∧ FP 411 22 = 422 ∧ FP 411 23 = 423 ∧ FP 411 25 = 424 ∧ FP 411 26 = 425 ∧ FP 411 30 = 426 ∧ FP 411 31 = 427 ∧ FP 411 32 = 428 ∧ FP 411 33 = 429 ∧ FP 411 35 = 430 ∧ FP 411 36 = 431 ∧ FP 411 37 = 432 ∧ FP 411 38 = 433 ∧ FP 411 39 = 434 ∧ FP 411 40 = 435 ∧ FP 411 42 = 436 ∧ FP 411 43 = 437 ∧ FP 411 44 = 438 ∧ FP 411 45 = 439 ∧ FP 411 46 = 440) ∧ ((∀ j, j < 60 → FP 102 j = 103 + j) ∧ (∀ j, j < 30 → FP 163 j = 164 + j) ∧ (∀ j, j < 12 → FP 194 j = 195 + j) ∧ (∀ j, j < 20 → FP 207 j = 208 + j) ∧ (∀ j, j < 60 → FP 265 j = 266 + j) ∧ (∀ j, j < 30 → FP 326 j = 327 + j) ∧ (∀ j, j < 12 → FP 357 j = 358 + j) ∧ (∀ j, j < 20 → FP 370 j = 371 + j) ∧ (∀ j, j < 10 → FP 398 j = 399 + j)) ∧ (∀ j, j < 30 → 72 ≤ FP 71 j ∧ FP 71 j < 102) ∧ (∀ i, i < 30 → ∀ j, j < 30 → FP 71 i = FP 71 j → i = j) ∧ (∀ j, j < 30 → 235 ≤ FP 234 j ∧ FP 234 j < 265) ∧ (∀ i, i < 30 → ∀ j, j < 30 → FP 234 i = FP 234 j → i = j)
def in_okI (FI : Nat → Nat → Int32) : Prop := (FI 65 0 = 0 ∧ FI 65 1 = 0 ∧ FI 65 2 = -1 ∧ FI 65 3 = 0 ∧ FI 65 4 = 0 ∧ FI 65 5 = 0 ∧ FI 412 0 = 0 ∧ FI 412 1 = 0 ∧ FI 412 2 = -1 ∧ FI 412 3 = 0 ∧ FI 412 4 = 0 ∧ FI 412 5 = 0 ∧ (∀ k, k < 4 → FI 69 k = FI 412 (110 + k) ∧ FI 412 (110 + k) = 0) ∧ (∀ e, e < 9 → FI 412 (114 + e) = 2 ∧ FI 412 (123 + e) = 0) ∧ FI 69 22 = FI 412 464 ∧ FI 412 464 = 3 ∧ FI 69 23 = 0 ∧ FI 69 24 = 0 ∧ FI 412 132 = 0 ∧ FI 412 373 = 0) ∧ (FI 228 0 = 0 ∧ FI 228 1 = 0 ∧ FI 228 2 = -1 ∧ FI 228 3 = 0 ∧ FI 228 4 = 0 ∧ FI 228 5 = 0 ∧ FI 413 0 = 0 ∧ FI 413 1 = 0 ∧ FI 413 2 = -1 ∧ FI 413 3 = 0 ∧ FI 413 4 = 0 ∧ FI 413 5 = 0 ∧ (∀ k, k < 4 → FI 232 k = FI 413 (110 + k) ∧ FI 413 (110 + k) = 0) ∧ (∀ e, e < 9 → FI 413 (114 + e) = 2 ∧ FI 413 (123 + e) = 0) ∧ FI 232 22 = FI 413 464 ∧ FI 413 464 = 3 ∧ FI 232 23 = 0 ∧ FI 232 24 = 0 ∧ FI 413 132 = 0 ∧ FI 413 373 = 0) ∧ (FI 392 3 = 0 ∧ FI 64 6 = 0 ∧ FI 411 3 = 0 ∧ FI 64 7 = FI 411 4 ∧ FI 64 8 = FI 411 5 ∧ ∀ i, i < 300 → FI 397 i = 0)
theorem in_c0 {E hun sto pri now stE a : Nat → Int32} {stR spoon dent test tell : Nat → Nat → Int32} (h : (E 0 = 0 ∧ E 1 = 0 ∧ E 2 = -1 ∧ E 3 = 0 ∧ E 4 = 0 ∧ E 5 = 0 ∧ a 0 = 0 ∧ a 1 = 0 ∧ a 2 = -1 ∧ a 3 = 0 ∧ a 4 = 0 ∧ a 5 = 0 ∧ (∀ k, k < 4 → now k = a (110 + k) ∧ a (110 + k) = 0) ∧ (∀ e, e < 9 → a (114 + e) = 2 ∧ a (123 + e) = 0) ∧ now 22 = a 464 ∧ a 464 = 3 ∧ now 23 = 0 ∧ now 24 = 0 ∧ a 132 = 0 ∧ a 373 = 0)) : iv_court 0 0 0 0 0 0 0 E hun sto pri now stE stR spoon dent test tell a := by
  obtain ⟨a0, a1, a2, a3, a4, a5, b0, b1, b2, b3, b4, b5, c1, c2, c3, c4, c5, c6, c7, c8⟩ := h
  refine ⟨by decide, ⟨a0, a1, by rw [a2, b2], a3, a4, a5⟩, ⟨b0, b1, b3, b4, b5⟩, Or.inl b2, fun e h => by omega, ?_, ⟨fun i h => by omega, fun i h => by omega⟩, ⟨fun _ => 0, fun _ => 0, fun _ => 0, fun k h => by omega, fun j k h1 h2 => by omega⟩, fun i h => by omega, fun i h => by omega, fun i h => by omega, fun i h => by omega⟩
  refine ⟨fun k hk => (c1 k hk).1, fun e h => by omega, fun e _ he => ?_, c3, c5, c6, c7, c8, by decide, by decide, fun k hk => ⟨0, by decide, (c1 k hk).2⟩, fun e h => by omega, fun e he => ⟨0, by decide, ?_⟩, ⟨3, by decide, c4⟩, fun e he => ?_⟩
  · unfold iv_sh
    rw [show 110 + (4 + e) = 114 + e by omega, show 110 + (13 + e) = 123 + e by omega]
    exact c2 e he
  · unfold iv_sh
    rw [show 110 + (13 + e) = 123 + e by omega]
    exact (c2 e he).2
  · show iv_sh a 110 (13 + e) = 0
    unfold iv_sh
    rw [show 110 + (13 + e) = 123 + e by omega]
    exact (c2 e he).2
theorem in_inv {L : Nat} {xs : Nat → Int32} {z : Nat → Nat} {FI : Nat → Nat → Int32} {FP : Nat → Nat → Nat} {μ : fw_M} (h : in_K L xs z 441 FI FP μ) (hp : in_okP FP) (hi : in_okI FI) : iv_inv L xs z μ := by
  have P : ∀ p, 64 ≤ p → p < 441 → ∀ j, m_P μ p j = FP p j := fun p p1 p2 j => congrFun (h.2.1 p p1 p2).2.2 j
  have I : ∀ p, 64 ≤ p → p < 441 → m_I μ p = FI p := fun p p1 p2 => (h.2.1 p p1 p2).2.1
  obtain ⟨p1, p2, s1, s2, s3, s4⟩ := hp
  obtain ⟨i1, i2, i3, i4, i5, i6, i7, i8⟩ := hi
  refine ⟨⟨fun p q1 q2 => (h.2.1 p q1 q2).1, Nat.le_of_eq h.1.symm, ?_, ?_, ⟨?_, ?_⟩, ?_, ?_⟩, h.2.2.1, ?_, 0, 0, 0, 0, 0, 0, 0, 0, 0, 0, 0, 0, 0, 0, 0, ?_, ?_, fun t ht => by omega, by decide, ?_, ?_, fun i h => by omega, fun i hi => ?_, ?_, ?_⟩
  · refine ⟨(P 64 (by decide) (by decide) 0).trans (p1.1), (P 64 (by decide) (by decide) 1).trans (p1.2.1), (P 64 (by decide) (by decide) 2).trans (p1.2.2.1), (P 64 (by decide) (by decide) 3).trans (p1.2.2.2.1), (P 64 (by decide) (by decide) 4).trans (p1.2.2.2.2.1), (P 64 (by decide) (by decide) 5).trans (p1.2.2.2.2.2.1), (P 64 (by decide) (by decide) 9).trans (p1.2.2.2.2.2.2.1), (P 64 (by decide) (by decide) 10).trans (p1.2.2.2.2.2.2.2.1), (P 64 (by decide) (by decide) 11).trans (p1.2.2.2.2.2.2.2.2.1), (P 65 (by decide) (by decide) 6).trans (p1.2.2.2.2.2.2.2.2.2.1), (P 65 (by decide) (by decide) 7).trans (p1.2.2.2.2.2.2.2.2.2.2.1), (P 65 (by decide) (by decide) 8).trans (p1.2.2.2.2.2.2.2.2.2.2.2.1), (P 65 (by decide) (by decide) 9).trans (p1.2.2.2.2.2.2.2.2.2.2.2.2.1), (P 65 (by decide) (by decide) 10).trans (p1.2.2.2.2.2.2.2.2.2.2.2.2.2.1), (P 65 (by decide) (by decide) 11).trans (p1.2.2.2.2.2.2.2.2.2.2.2.2.2.2.1), (P 65 (by decide) (by decide) 12).trans (p1.2.2.2.2.2.2.2.2.2.2.2.2.2.2.2.1), (P 65 (by decide) (by decide) 13).trans (p1.2.2.2.2.2.2.2.2.2.2.2.2.2.2.2.2.1), (P 65 (by decide) (by decide) 14).trans (p1.2.2.2.2.2.2.2.2.2.2.2.2.2.2.2.2.2.1), (P 65 (by decide) (by decide) 15).trans (p1.2.2.2.2.2.2.2.2.2.2.2.2.2.2.2.2.2.2.1), (P 228 (by decide) (by decide) 6).trans (p1.2.2.2.2.2.2.2.2.2.2.2.2.2.2.2.2.2.2.2.1), (P 228 (by decide) (by decide) 7).trans (p1.2.2.2.2.2.2.2.2.2.2.2.2.2.2.2.2.2.2.2.2.1), (P 228 (by decide) (by decide) 8).trans (p1.2.2.2.2.2.2.2.2.2.2.2.2.2.2.2.2.2.2.2.2.2.1), (P 228 (by decide) (by decide) 9).trans (p1.2.2.2.2.2.2.2.2.2.2.2.2.2.2.2.2.2.2.2.2.2.2.1), (P 228 (by decide) (by decide) 10).trans (p1.2.2.2.2.2.2.2.2.2.2.2.2.2.2.2.2.2.2.2.2.2.2.2.1), (P 228 (by decide) (by decide) 11).trans (p1.2.2.2.2.2.2.2.2.2.2.2.2.2.2.2.2.2.2.2.2.2.2.2.2.1), (P 228 (by decide) (by decide) 12).trans (p1.2.2.2.2.2.2.2.2.2.2.2.2.2.2.2.2.2.2.2.2.2.2.2.2.2.1), (P 228 (by decide) (by decide) 13).trans (p1.2.2.2.2.2.2.2.2.2.2.2.2.2.2.2.2.2.2.2.2.2.2.2.2.2.2.1), (P 228 (by decide) (by decide) 14).trans (p1.2.2.2.2.2.2.2.2.2.2.2.2.2.2.2.2.2.2.2.2.2.2.2.2.2.2.2.1), (P 228 (by decide) (by decide) 15).trans (p1.2.2.2.2.2.2.2.2.2.2.2.2.2.2.2.2.2.2.2.2.2.2.2.2.2.2.2.2.1), (P 392 (by decide) (by decide) 0).trans (p1.2.2.2.2.2.2.2.2.2.2.2.2.2.2.2.2.2.2.2.2.2.2.2.2.2.2.2.2.2.1), (P 392 (by decide) (by decide) 1).trans (p1.2.2.2.2.2.2.2.2.2.2.2.2.2.2.2.2.2.2.2.2.2.2.2.2.2.2.2.2.2.2.1), (P 392 (by decide) (by decide) 2).trans (p1.2.2.2.2.2.2.2.2.2.2.2.2.2.2.2.2.2.2.2.2.2.2.2.2.2.2.2.2.2.2.2.1), (P 393 (by decide) (by decide) 0).trans (p1.2.2.2.2.2.2.2.2.2.2.2.2.2.2.2.2.2.2.2.2.2.2.2.2.2.2.2.2.2.2.2.2.1), (P 393 (by decide) (by decide) 1).trans (p1.2.2.2.2.2.2.2.2.2.2.2.2.2.2.2.2.2.2.2.2.2.2.2.2.2.2.2.2.2.2.2.2.2.1), (P 395 (by decide) (by decide) 0).trans (p1.2.2.2.2.2.2.2.2.2.2.2.2.2.2.2.2.2.2.2.2.2.2.2.2.2.2.2.2.2.2.2.2.2.2.1), (P 411 (by decide) (by decide) 0).trans (p1.2.2.2.2.2.2.2.2.2.2.2.2.2.2.2.2.2.2.2.2.2.2.2.2.2.2.2.2.2.2.2.2.2.2.2.1), (P 411 (by decide) (by decide) 1).trans (p1.2.2.2.2.2.2.2.2.2.2.2.2.2.2.2.2.2.2.2.2.2.2.2.2.2.2.2.2.2.2.2.2.2.2.2.2.1), (P 411 (by decide) (by decide) 2).trans (p1.2.2.2.2.2.2.2.2.2.2.2.2.2.2.2.2.2.2.2.2.2.2.2.2.2.2.2.2.2.2.2.2.2.2.2.2.2.1), (P 411 (by decide) (by decide) 6).trans (p1.2.2.2.2.2.2.2.2.2.2.2.2.2.2.2.2.2.2.2.2.2.2.2.2.2.2.2.2.2.2.2.2.2.2.2.2.2.2.1), (P 411 (by decide) (by decide) 7).trans (p1.2.2.2.2.2.2.2.2.2.2.2.2.2.2.2.2.2.2.2.2.2.2.2.2.2.2.2.2.2.2.2.2.2.2.2.2.2.2.2.1), (P 411 (by decide) (by decide) 8).trans (p1.2.2.2.2.2.2.2.2.2.2.2.2.2.2.2.2.2.2.2.2.2.2.2.2.2.2.2.2.2.2.2.2.2.2.2.2.2.2.2.2.1), (P 411 (by decide) (by decide) 9).trans (p1.2.2.2.2.2.2.2.2.2.2.2.2.2.2.2.2.2.2.2.2.2.2.2.2.2.2.2.2.2.2.2.2.2.2.2.2.2.2.2.2.2.1), (P 411 (by decide) (by decide) 10).trans (p1.2.2.2.2.2.2.2.2.2.2.2.2.2.2.2.2.2.2.2.2.2.2.2.2.2.2.2.2.2.2.2.2.2.2.2.2.2.2.2.2.2.2.1), (P 411 (by decide) (by decide) 11).trans (p1.2.2.2.2.2.2.2.2.2.2.2.2.2.2.2.2.2.2.2.2.2.2.2.2.2.2.2.2.2.2.2.2.2.2.2.2.2.2.2.2.2.2.2.1), (P 411 (by decide) (by decide) 12).trans (p1.2.2.2.2.2.2.2.2.2.2.2.2.2.2.2.2.2.2.2.2.2.2.2.2.2.2.2.2.2.2.2.2.2.2.2.2.2.2.2.2.2.2.2.2.1), (P 411 (by decide) (by decide) 22).trans (p1.2.2.2.2.2.2.2.2.2.2.2.2.2.2.2.2.2.2.2.2.2.2.2.2.2.2.2.2.2.2.2.2.2.2.2.2.2.2.2.2.2.2.2.2.2.1), (P 411 (by decide) (by decide) 23).trans (p1.2.2.2.2.2.2.2.2.2.2.2.2.2.2.2.2.2.2.2.2.2.2.2.2.2.2.2.2.2.2.2.2.2.2.2.2.2.2.2.2.2.2.2.2.2.2.1), (P 411 (by decide) (by decide) 25).trans (p1.2.2.2.2.2.2.2.2.2.2.2.2.2.2.2.2.2.2.2.2.2.2.2.2.2.2.2.2.2.2.2.2.2.2.2.2.2.2.2.2.2.2.2.2.2.2.2.1), (P 411 (by decide) (by decide) 26).trans (p1.2.2.2.2.2.2.2.2.2.2.2.2.2.2.2.2.2.2.2.2.2.2.2.2.2.2.2.2.2.2.2.2.2.2.2.2.2.2.2.2.2.2.2.2.2.2.2.2.1), (P 411 (by decide) (by decide) 30).trans (p1.2.2.2.2.2.2.2.2.2.2.2.2.2.2.2.2.2.2.2.2.2.2.2.2.2.2.2.2.2.2.2.2.2.2.2.2.2.2.2.2.2.2.2.2.2.2.2.2.2.1), (P 411 (by decide) (by decide) 31).trans (p1.2.2.2.2.2.2.2.2.2.2.2.2.2.2.2.2.2.2.2.2.2.2.2.2.2.2.2.2.2.2.2.2.2.2.2.2.2.2.2.2.2.2.2.2.2.2.2.2.2.2.1), (P 411 (by decide) (by decide) 32).trans (p1.2.2.2.2.2.2.2.2.2.2.2.2.2.2.2.2.2.2.2.2.2.2.2.2.2.2.2.2.2.2.2.2.2.2.2.2.2.2.2.2.2.2.2.2.2.2.2.2.2.2.2.1), (P 411 (by decide) (by decide) 33).trans (p1.2.2.2.2.2.2.2.2.2.2.2.2.2.2.2.2.2.2.2.2.2.2.2.2.2.2.2.2.2.2.2.2.2.2.2.2.2.2.2.2.2.2.2.2.2.2.2.2.2.2.2.2.1), (P 411 (by decide) (by decide) 35).trans (p1.2.2.2.2.2.2.2.2.2.2.2.2.2.2.2.2.2.2.2.2.2.2.2.2.2.2.2.2.2.2.2.2.2.2.2.2.2.2.2.2.2.2.2.2.2.2.2.2.2.2.2.2.2.1), (P 411 (by decide) (by decide) 36).trans (p1.2.2.2.2.2.2.2.2.2.2.2.2.2.2.2.2.2.2.2.2.2.2.2.2.2.2.2.2.2.2.2.2.2.2.2.2.2.2.2.2.2.2.2.2.2.2.2.2.2.2.2.2.2.2.1), (P 411 (by decide) (by decide) 37).trans (p1.2.2.2.2.2.2.2.2.2.2.2.2.2.2.2.2.2.2.2.2.2.2.2.2.2.2.2.2.2.2.2.2.2.2.2.2.2.2.2.2.2.2.2.2.2.2.2.2.2.2.2.2.2.2.2.1), (P 411 (by decide) (by decide) 38).trans (p1.2.2.2.2.2.2.2.2.2.2.2.2.2.2.2.2.2.2.2.2.2.2.2.2.2.2.2.2.2.2.2.2.2.2.2.2.2.2.2.2.2.2.2.2.2.2.2.2.2.2.2.2.2.2.2.2.1), (P 411 (by decide) (by decide) 39).trans (p1.2.2.2.2.2.2.2.2.2.2.2.2.2.2.2.2.2.2.2.2.2.2.2.2.2.2.2.2.2.2.2.2.2.2.2.2.2.2.2.2.2.2.2.2.2.2.2.2.2.2.2.2.2.2.2.2.2.1), (P 411 (by decide) (by decide) 40).trans (p1.2.2.2.2.2.2.2.2.2.2.2.2.2.2.2.2.2.2.2.2.2.2.2.2.2.2.2.2.2.2.2.2.2.2.2.2.2.2.2.2.2.2.2.2.2.2.2.2.2.2.2.2.2.2.2.2.2.2.1), (P 411 (by decide) (by decide) 42).trans (p1.2.2.2.2.2.2.2.2.2.2.2.2.2.2.2.2.2.2.2.2.2.2.2.2.2.2.2.2.2.2.2.2.2.2.2.2.2.2.2.2.2.2.2.2.2.2.2.2.2.2.2.2.2.2.2.2.2.2.2.1), (P 411 (by decide) (by decide) 43).trans (p1.2.2.2.2.2.2.2.2.2.2.2.2.2.2.2.2.2.2.2.2.2.2.2.2.2.2.2.2.2.2.2.2.2.2.2.2.2.2.2.2.2.2.2.2.2.2.2.2.2.2.2.2.2.2.2.2.2.2.2.2.1), (P 411 (by decide) (by decide) 44).trans (p1.2.2.2.2.2.2.2.2.2.2.2.2.2.2.2.2.2.2.2.2.2.2.2.2.2.2.2.2.2.2.2.2.2.2.2.2.2.2.2.2.2.2.2.2.2.2.2.2.2.2.2.2.2.2.2.2.2.2.2.2.2.1), (P 411 (by decide) (by decide) 45).trans (p1.2.2.2.2.2.2.2.2.2.2.2.2.2.2.2.2.2.2.2.2.2.2.2.2.2.2.2.2.2.2.2.2.2.2.2.2.2.2.2.2.2.2.2.2.2.2.2.2.2.2.2.2.2.2.2.2.2.2.2.2.2.2.1), (P 411 (by decide) (by decide) 46).trans (p1.2.2.2.2.2.2.2.2.2.2.2.2.2.2.2.2.2.2.2.2.2.2.2.2.2.2.2.2.2.2.2.2.2.2.2.2.2.2.2.2.2.2.2.2.2.2.2.2.2.2.2.2.2.2.2.2.2.2.2.2.2.2.2)⟩
  · refine ⟨fun j hj => (P 102 (by decide) (by decide) j).trans (p2.1 j hj), fun j hj => (P 163 (by decide) (by decide) j).trans (p2.2.1 j hj), fun j hj => (P 194 (by decide) (by decide) j).trans (p2.2.2.1 j hj), fun j hj => (P 207 (by decide) (by decide) j).trans (p2.2.2.2.1 j hj), fun j hj => (P 265 (by decide) (by decide) j).trans (p2.2.2.2.2.1 j hj), fun j hj => (P 326 (by decide) (by decide) j).trans (p2.2.2.2.2.2.1 j hj), fun j hj => (P 357 (by decide) (by decide) j).trans (p2.2.2.2.2.2.2.1 j hj), fun j hj => (P 370 (by decide) (by decide) j).trans (p2.2.2.2.2.2.2.2.1 j hj), fun j hj => (P 398 (by decide) (by decide) j).trans (p2.2.2.2.2.2.2.2.2 j hj)⟩
  · intro j hj
    rw [P 71 (by decide) (by decide)]
    exact s1 j hj
  · intro i j hi hj e
    rw [P 71 (by decide) (by decide), P 71 (by decide) (by decide)] at e
    exact s2 i hi j hj e
  · intro j hj
    rw [P 234 (by decide) (by decide)]
    exact s3 j hj
  · intro i j hi hj e
    rw [P 234 (by decide) (by decide), P 234 (by decide) (by decide)] at e
    exact s4 i hi j hj e
  · rw [I 392 (by decide) (by decide)]
    exact i3
  · unfold iv_C
    refine in_c0 ?_
    rw [I 65 (by decide) (by decide), I 412 (by decide) (by decide), I (65 + 4) (by decide) (by decide)]
    exact i1
  · unfold iv_C
    refine in_c0 ?_
    rw [I 228 (by decide) (by decide), I 413 (by decide) (by decide), I (228 + 4) (by decide) (by decide)]
    exact i2
  · rw [I 64 (by decide) (by decide)]
    exact i4
  · rw [I 411 (by decide) (by decide)]
    exact i5
  · rw [I 397 (by decide) (by decide), i8 i hi]
    rfl
  · rw [I 64 (by decide) (by decide), I 411 (by decide) (by decide)]
    exact i6
  · rw [I 64 (by decide) (by decide), I 411 (by decide) (by decide)]
    exact i7
set_option maxHeartbeats 4000000 in
theorem in_run {L : Nat} {xs : Nat → Int32} {z : Nat → Nat} {Q : Int32 → fw_M → Prop} (g : ∀ μ bc bs, iv_inv L xs z μ → 130000 ≤ bc → 1300000 ≤ bs → p_L_law_L18 1 64 411 bc bs 0 μ Q) : p_L_law 648055 7151938 1 (st_M L xs z) Q := by
  have h := in_0 (L := L) (xs := xs) (z := z)
  unfold p_L_law
  refine ⟨by decide, by decide, ?_⟩
  refine in_al h 1 14 (by decide) (by decide +kernel) 65 rfl (fun μ1 h1 => ?_)
  refine ⟨2000, 30000, by decide, by decide, ?_⟩
  try unfold p_X0_init
  refine ⟨by decide, by decide, ?_⟩
  refine in_al h1 2 16 (by decide) (by decide +kernel) 66 rfl (fun μ2 h2 => ?_)
  refine ⟨200, 3000, by decide, by decide, ?_⟩
  try unfold p_X1_init
  refine in_uI h2 65 2 (-1) (by decide) (by decide) (fun μ3 h3 => ?_)
  refine ⟨by decide, by decide, by decide, by decide, ?_⟩
  refine in_al h3 100 9 (by decide) (by decide +kernel) 67 rfl (fun μ4 h4 => ?_)
  refine in_uP h4 65 6 66 (by decide) (by decide) (fun μ5 h5 => ?_)
  refine ⟨by decide, by decide, by decide, by decide, ?_⟩
  refine in_al h5 100 9 (by decide) (by decide +kernel) 68 rfl (fun μ6 h6 => ?_)
  refine in_uP h6 65 7 67 (by decide) (by decide) (fun μ7 h7 => ?_)
  refine ⟨by decide, by decide, by decide, by decide, ?_⟩
  refine in_al h7 100 9 (by decide) (by decide +kernel) 69 rfl (fun μ8 h8 => ?_)
  refine in_uP h8 65 8 68 (by decide) (by decide) (fun μ9 h9 => ?_)
  refine ⟨by decide, by decide, by decide, by decide, ?_⟩
  refine in_al h9 100 25 (by decide) (by decide +kernel) 70 rfl (fun μ10 h10 => ?_)
  refine in_uP h10 65 9 69 (by decide) (by decide) (fun μ11 h11 => ?_)
  refine ⟨by decide, by decide, by decide, by decide, ?_⟩
  refine in_al h11 100 30 (by decide) (by decide +kernel) 71 rfl (fun μ12 h12 => ?_)
  refine in_uP h12 65 10 70 (by decide) (by decide) (fun μ13 h13 => ?_)
  refine ⟨by decide, by decide, by decide, by decide, by decide, by decide, ?_⟩
  refine in_al2 h13 30 25 (by decide) (by decide +kernel) 102 rfl (fun μ14 h14 => ?_)
  refine in_uP h14 65 11 71 (by decide) (by decide) (fun μ15 h15 => ?_)
  refine ⟨by decide, by decide, by decide, by decide, by decide, by decide, ?_⟩
  refine in_al2 h15 60 4 (by decide) (by decide +kernel) 163 rfl (fun μ16 h16 => ?_)
  refine in_uP h16 65 12 102 (by decide) (by decide) (fun μ17 h17 => ?_)
  refine ⟨by decide, by decide, by decide, by decide, by decide, by decide, ?_⟩
  refine in_al2 h17 30 3 (by decide) (by decide +kernel) 194 rfl (fun μ18 h18 => ?_)
  refine in_uP h18 65 13 163 (by decide) (by decide) (fun μ19 h19 => ?_)
  refine ⟨by decide, by decide, by decide, by decide, by decide, by decide, ?_⟩
  refine in_al2 h19 12 2 (by decide) (by decide +kernel) 207 rfl (fun μ20 h20 => ?_)
  refine in_uP h20 65 14 194 (by decide) (by decide) (fun μ21 h21 => ?_)
  refine ⟨by decide, by decide, by decide, by decide, by decide, by decide, ?_⟩
  refine in_al2 h21 20 2 (by decide) (by decide +kernel) 228 rfl (fun μ22 h22 => ?_)
  refine in_uP h22 65 15 207 (by decide) (by decide) (fun μ23 h23 => ?_)
  rw [in_P h23 65 9 69 (by decide) (by decide) rfl]
  refine ⟨(in_S h23 69 100 25 (by decide) (by decide) (by decide +kernel)).1, by rw [(in_S h23 69 100 25 (by decide) (by decide) (by decide +kernel)).2]; exact vp_in_nI (n := 22) (by decide) (by decide), ?_⟩
  refine in_uI h23 69 22 3 (by decide) (by decide) (fun μ24 h24 => ?_)
  refine in_uP h24 64 0 65 (by decide) (by decide) (fun μ25 h25 => ?_)
  refine ⟨by decide, by decide, ?_⟩
  refine in_al h25 2 16 (by decide) (by decide +kernel) 229 rfl (fun μ26 h26 => ?_)
  refine ⟨200, 3000, by decide, by decide, ?_⟩
  try unfold p_X1_init
  refine in_uI h26 228 2 (-1) (by decide) (by decide) (fun μ27 h27 => ?_)
  refine ⟨by decide, by decide, by decide, by decide, ?_⟩
  refine in_al h27 100 9 (by decide) (by decide +kernel) 230 rfl (fun μ28 h28 => ?_)
  refine in_uP h28 228 6 229 (by decide) (by decide) (fun μ29 h29 => ?_)
  refine ⟨by decide, by decide, by decide, by decide, ?_⟩
  refine in_al h29 100 9 (by decide) (by decide +kernel) 231 rfl (fun μ30 h30 => ?_)
  refine in_uP h30 228 7 230 (by decide) (by decide) (fun μ31 h31 => ?_)
  refine ⟨by decide, by decide, by decide, by decide, ?_⟩
  refine in_al h31 100 9 (by decide) (by decide +kernel) 232 rfl (fun μ32 h32 => ?_)
  refine in_uP h32 228 8 231 (by decide) (by decide) (fun μ33 h33 => ?_)
  refine ⟨by decide, by decide, by decide, by decide, ?_⟩
  refine in_al h33 100 25 (by decide) (by decide +kernel) 233 rfl (fun μ34 h34 => ?_)
  refine in_uP h34 228 9 232 (by decide) (by decide) (fun μ35 h35 => ?_)
  refine ⟨by decide, by decide, by decide, by decide, ?_⟩
  refine in_al h35 100 30 (by decide) (by decide +kernel) 234 rfl (fun μ36 h36 => ?_)
  refine in_uP h36 228 10 233 (by decide) (by decide) (fun μ37 h37 => ?_)
  refine ⟨by decide, by decide, by decide, by decide, by decide, by decide, ?_⟩
  refine in_al2 h37 30 25 (by decide) (by decide +kernel) 265 rfl (fun μ38 h38 => ?_)
  refine in_uP h38 228 11 234 (by decide) (by decide) (fun μ39 h39 => ?_)
  refine ⟨by decide, by decide, by decide, by decide, by decide, by decide, ?_⟩
  refine in_al2 h39 60 4 (by decide) (by decide +kernel) 326 rfl (fun μ40 h40 => ?_)
  refine in_uP h40 228 12 265 (by decide) (by decide) (fun μ41 h41 => ?_)
  refine ⟨by decide, by decide, by decide, by decide, by decide, by decide, ?_⟩
  refine in_al2 h41 30 3 (by decide) (by decide +kernel) 357 rfl (fun μ42 h42 => ?_)
  refine in_uP h42 228 13 326 (by decide) (by decide) (fun μ43 h43 => ?_)
  refine ⟨by decide, by decide, by decide, by decide, by decide, by decide, ?_⟩
  refine in_al2 h43 12 2 (by decide) (by decide +kernel) 370 rfl (fun μ44 h44 => ?_)
  refine in_uP h44 228 14 357 (by decide) (by decide) (fun μ45 h45 => ?_)
  refine ⟨by decide, by decide, by decide, by decide, by decide, by decide, ?_⟩
  refine in_al2 h45 20 2 (by decide) (by decide +kernel) 391 rfl (fun μ46 h46 => ?_)
  refine in_uP h46 228 15 370 (by decide) (by decide) (fun μ47 h47 => ?_)
  rw [in_P h47 228 9 232 (by decide) (by decide) rfl]
  refine ⟨(in_S h47 232 100 25 (by decide) (by decide) (by decide +kernel)).1, by rw [(in_S h47 232 100 25 (by decide) (by decide) (by decide +kernel)).2]; exact vp_in_nI (n := 22) (by decide) (by decide), ?_⟩
  refine in_uI h47 232 22 3 (by decide) (by decide) (fun μ48 h48 => ?_)
  refine in_uP h48 64 1 228 (by decide) (by decide) (fun μ49 h49 => ?_)
  refine ⟨by decide, by decide, by decide, by decide, ?_⟩
  refine in_al h49 106 4 (by decide) (by decide +kernel) 392 rfl (fun μ50 h50 => ?_)
  refine in_uP h50 64 2 391 (by decide) (by decide) (fun μ51 h51 => ?_)
  refine ⟨by decide, by decide, ?_⟩
  refine in_al h51 3 4 (by decide) (by decide +kernel) 393 rfl (fun μ52 h52 => ?_)
  refine ⟨10, 100, by decide, by decide, ?_⟩
  try unfold p_X2_init
  refine ⟨by decide, by decide, by decide, by decide, ?_⟩
  refine in_al h52 104 2 (by decide) (by decide +kernel) 394 rfl (fun μ53 h53 => ?_)
  refine in_uP h53 392 0 393 (by decide) (by decide) (fun μ54 h54 => ?_)
  refine ⟨by decide, by decide, by decide, by decide, ?_⟩
  refine in_al h54 105 24 (by decide) (by decide +kernel) 395 rfl (fun μ55 h55 => ?_)
  refine in_uP h55 392 2 394 (by decide) (by decide) (fun μ56 h56 => ?_)
  refine in_uP h56 64 3 392 (by decide) (by decide) (fun μ57 h57 => ?_)
  refine ⟨by decide, by decide, ?_⟩
  refine in_al h57 5 1 (by decide) (by decide +kernel) 396 rfl (fun μ58 h58 => ?_)
  refine ⟨10, 100, by decide, by decide, ?_⟩
  try unfold p_X4_init
  unfold p_X3_init
  refine ⟨by decide, by decide, by decide, by decide, ?_⟩
  refine in_al h58 100 12 (by decide) (by decide +kernel) 397 rfl (fun μ59 h59 => ?_)
  refine in_uP h59 395 0 396 (by decide) (by decide) (fun μ60 h60 => ?_)
  refine in_uP h60 64 4 395 (by decide) (by decide) (fun μ61 h61 => ?_)
  refine ⟨by decide, by decide, by decide, by decide, ?_⟩
  refine in_al h61 101 300 (by decide) (by decide +kernel) 398 rfl (fun μ62 h62 => ?_)
  refine in_uP h62 64 5 397 (by decide) (by decide) (fun μ63 h63 => ?_)
  refine in_uI h63 64 7 (-1) (by decide) (by decide) (fun μ64 h64 => ?_)
  refine in_uI h64 64 8 (-1) (by decide) (by decide) (fun μ65 h65 => ?_)
  refine ⟨by decide, by decide, by decide, by decide, by decide, by decide, ?_⟩
  refine in_al2 h65 10 25 (by decide) (by decide +kernel) 409 rfl (fun μ66 h66 => ?_)
  refine in_uP h66 64 9 398 (by decide) (by decide) (fun μ67 h67 => ?_)
  refine ⟨by decide, by decide, by decide, by decide, ?_⟩
  refine in_al h67 100 9 (by decide) (by decide +kernel) 410 rfl (fun μ68 h68 => ?_)
  refine in_uP h68 64 10 409 (by decide) (by decide) (fun μ69 h69 => ?_)
  refine ⟨by decide, by decide, by decide, by decide, ?_⟩
  refine in_al h69 100 9 (by decide) (by decide +kernel) 411 rfl (fun μ70 h70 => ?_)
  refine in_uP h70 64 11 410 (by decide) (by decide) (fun μ71 h71 => ?_)
  refine ⟨by decide, by decide, ?_⟩
  refine in_al h71 6 48 (by decide) (by decide +kernel) 412 rfl (fun μ72 h72 => ?_)
  refine ⟨1000, 60000, by decide, by decide, ?_⟩
  try unfold p_X5_init
  refine ⟨by decide, by decide, by decide, by decide, ?_⟩
  refine in_al h72 100 11120 (by decide) (by decide +kernel) 413 rfl (fun μ73 h73 => ?_)
  refine in_uP h73 411 0 412 (by decide) (by decide) (fun μ74 h74 => ?_)
  refine ⟨by decide, by decide, by decide, by decide, ?_⟩
  refine in_al h74 100 11120 (by decide) (by decide +kernel) 414 rfl (fun μ75 h75 => ?_)
  refine in_uP h75 411 1 413 (by decide) (by decide) (fun μ76 h76 => ?_)
  refine ⟨by decide, by decide, by decide, by decide, ?_⟩
  refine in_al h76 101 300 (by decide) (by decide +kernel) 415 rfl (fun μ77 h77 => ?_)
  refine in_uP h77 411 2 414 (by decide) (by decide) (fun μ78 h78 => ?_)
  refine in_uI h78 411 4 (-1) (by decide) (by decide) (fun μ79 h79 => ?_)
  refine in_uI h79 411 5 (-1) (by decide) (by decide) (fun μ80 h80 => ?_)
  refine ⟨by decide, by decide, by decide, by decide, ?_⟩
  refine in_al h80 100 4 (by decide) (by decide +kernel) 416 rfl (fun μ81 h81 => ?_)
  refine in_uP h81 411 6 415 (by decide) (by decide) (fun μ82 h82 => ?_)
  refine ⟨by decide, by decide, by decide, by decide, ?_⟩
  refine in_al h82 100 96 (by decide) (by decide +kernel) 417 rfl (fun μ83 h83 => ?_)
  refine in_uP h83 411 7 416 (by decide) (by decide) (fun μ84 h84 => ?_)
  refine ⟨by decide, by decide, by decide, by decide, ?_⟩
  refine in_al h84 100 96 (by decide) (by decide +kernel) 418 rfl (fun μ85 h85 => ?_)
  refine in_uP h85 411 8 417 (by decide) (by decide) (fun μ86 h86 => ?_)
  refine ⟨by decide, by decide, by decide, by decide, ?_⟩
  refine in_al h86 100 96 (by decide) (by decide +kernel) 419 rfl (fun μ87 h87 => ?_)
  refine in_uP h87 411 9 418 (by decide) (by decide) (fun μ88 h88 => ?_)
  refine ⟨by decide, by decide, by decide, by decide, ?_⟩
  refine in_al h88 100 96 (by decide) (by decide +kernel) 420 rfl (fun μ89 h89 => ?_)
  refine in_uP h89 411 10 419 (by decide) (by decide) (fun μ90 h90 => ?_)
  refine ⟨by decide, by decide, by decide, by decide, ?_⟩
  refine in_al h90 100 1600 (by decide) (by decide +kernel) 421 rfl (fun μ91 h91 => ?_)
  refine in_uP h91 411 11 420 (by decide) (by decide) (fun μ92 h92 => ?_)
  refine ⟨by decide, by decide, by decide, by decide, ?_⟩
  refine in_al h92 100 1600 (by decide) (by decide +kernel) 422 rfl (fun μ93 h93 => ?_)
  refine in_uP h93 411 12 421 (by decide) (by decide) (fun μ94 h94 => ?_)
  refine ⟨by decide, by decide, by decide, by decide, ?_⟩
  refine in_al h94 100 40 (by decide) (by decide +kernel) 423 rfl (fun μ95 h95 => ?_)
  refine in_uP h95 411 22 422 (by decide) (by decide) (fun μ96 h96 => ?_)
  refine ⟨by decide, by decide, by decide, by decide, ?_⟩
  refine in_al h96 100 41 (by decide) (by decide +kernel) 424 rfl (fun μ97 h97 => ?_)
  refine in_uP h97 411 23 423 (by decide) (by decide) (fun μ98 h98 => ?_)
  refine ⟨by decide, by decide, by decide, by decide, ?_⟩
  refine in_al h98 100 80 (by decide) (by decide +kernel) 425 rfl (fun μ99 h99 => ?_)
  refine in_uP h99 411 25 424 (by decide) (by decide) (fun μ100 h100 => ?_)
  refine ⟨by decide, by decide, by decide, by decide, ?_⟩
  refine in_al h100 100 80 (by decide) (by decide +kernel) 426 rfl (fun μ101 h101 => ?_)
  refine in_uP h101 411 26 425 (by decide) (by decide) (fun μ102 h102 => ?_)
  refine ⟨by decide, by decide, by decide, by decide, ?_⟩
  refine in_al h102 100 24 (by decide) (by decide +kernel) 427 rfl (fun μ103 h103 => ?_)
  refine in_uP h103 411 30 426 (by decide) (by decide) (fun μ104 h104 => ?_)
  refine ⟨by decide, by decide, by decide, by decide, ?_⟩
  refine in_al h104 100 24 (by decide) (by decide +kernel) 428 rfl (fun μ105 h105 => ?_)
  refine in_uP h105 411 31 427 (by decide) (by decide) (fun μ106 h106 => ?_)
  refine ⟨by decide, by decide, by decide, by decide, ?_⟩
  refine in_al h106 100 24 (by decide) (by decide +kernel) 429 rfl (fun μ107 h107 => ?_)
  refine in_uP h107 411 32 428 (by decide) (by decide) (fun μ108 h108 => ?_)
  refine ⟨by decide, by decide, by decide, by decide, ?_⟩
  refine in_al h108 100 24 (by decide) (by decide +kernel) 430 rfl (fun μ109 h109 => ?_)
  refine in_uP h109 411 33 429 (by decide) (by decide) (fun μ110 h110 => ?_)
  refine ⟨by decide, by decide, by decide, by decide, ?_⟩
  refine in_al h110 100 400 (by decide) (by decide +kernel) 431 rfl (fun μ111 h111 => ?_)
  refine in_uP h111 411 35 430 (by decide) (by decide) (fun μ112 h112 => ?_)
  refine ⟨by decide, by decide, by decide, by decide, ?_⟩
  refine in_al h112 100 400 (by decide) (by decide +kernel) 432 rfl (fun μ113 h113 => ?_)
  refine in_uP h113 411 36 431 (by decide) (by decide) (fun μ114 h114 => ?_)
  refine ⟨by decide, by decide, by decide, by decide, ?_⟩
  refine in_al h114 100 12 (by decide) (by decide +kernel) 433 rfl (fun μ115 h115 => ?_)
  refine in_uP h115 411 37 432 (by decide) (by decide) (fun μ116 h116 => ?_)
  refine ⟨by decide, by decide, by decide, by decide, ?_⟩
  refine in_al h116 102 200 (by decide) (by decide +kernel) 434 rfl (fun μ117 h117 => ?_)
  refine in_uP h117 411 38 433 (by decide) (by decide) (fun μ118 h118 => ?_)
  refine ⟨by decide, by decide, by decide, by decide, ?_⟩
  refine in_al h118 100 4 (by decide) (by decide +kernel) 435 rfl (fun μ119 h119 => ?_)
  refine in_uP h119 411 39 434 (by decide) (by decide) (fun μ120 h120 => ?_)
  refine ⟨by decide, by decide, by decide, by decide, ?_⟩
  refine in_al h120 100 9 (by decide) (by decide +kernel) 436 rfl (fun μ121 h121 => ?_)
  refine in_uP h121 411 40 435 (by decide) (by decide) (fun μ122 h122 => ?_)
  refine ⟨by decide, by decide, by decide, by decide, ?_⟩
  refine in_al h122 100 6 (by decide) (by decide +kernel) 437 rfl (fun μ123 h123 => ?_)
  refine in_uP h123 411 42 436 (by decide) (by decide) (fun μ124 h124 => ?_)
  refine ⟨by decide, by decide, by decide, by decide, ?_⟩
  refine in_al h124 100 6 (by decide) (by decide +kernel) 438 rfl (fun μ125 h125 => ?_)
  refine in_uP h125 411 43 437 (by decide) (by decide) (fun μ126 h126 => ?_)
  refine ⟨by decide, by decide, by decide, by decide, ?_⟩
  refine in_al h126 100 6 (by decide) (by decide +kernel) 439 rfl (fun μ127 h127 => ?_)
  refine in_uP h127 411 44 438 (by decide) (by decide) (fun μ128 h128 => ?_)
  refine ⟨by decide, by decide, by decide, by decide, ?_⟩
  refine in_al h128 100 4 (by decide) (by decide +kernel) 440 rfl (fun μ129 h129 => ?_)
  refine in_uP h129 411 45 439 (by decide) (by decide) (fun μ130 h130 => ?_)
  refine ⟨by decide, by decide, by decide, by decide, ?_⟩
  refine in_al h130 100 4 (by decide) (by decide +kernel) 441 rfl (fun μ131 h131 => ?_)
  refine in_uP h131 411 46 440 (by decide) (by decide) (fun μ132 h132 => ?_)
  rw [in_P h132 411 0 412 (by decide) (by decide) rfl]
  refine ⟨(in_S h132 412 100 11120 (by decide) (by decide) (by decide +kernel)).1, by rw [(in_S h132 412 100 11120 (by decide) (by decide) (by decide +kernel)).2]; exact vp_in_nI (n := 2) (by decide) (by decide), ?_⟩
  refine in_uI h132 412 2 (-1) (by decide) (by decide) (fun μ133 h133 => ?_)
  rw [in_P h133 411 0 412 (by decide) (by decide) rfl]
  refine ⟨(in_S h133 412 100 11120 (by decide) (by decide) (by decide +kernel)).1, by rw [(in_S h133 412 100 11120 (by decide) (by decide) (by decide +kernel)).2]; exact vp_in_nI (n := 464) (by decide) (by decide), ?_⟩
  refine in_uI h133 412 464 3 (by decide) (by decide) (fun μ134 h134 => ?_)
  refine in_l268 h134 rfl rfl (fun μ9 h9 => g _ _ _ (in_inv h9 ?_ ?_) (by decide) (by decide))
  · exact ⟨⟨rfl, rfl, rfl, rfl, rfl, rfl, rfl, rfl, rfl, rfl, rfl, rfl, rfl, rfl, rfl, rfl, rfl, rfl, rfl, rfl, rfl, rfl, rfl, rfl, rfl, rfl, rfl, rfl, rfl, rfl, rfl, rfl, rfl, rfl, rfl, rfl, rfl, rfl, rfl, rfl, rfl, rfl, rfl, rfl, rfl, rfl, rfl, rfl, rfl, rfl, rfl, rfl, rfl, rfl, rfl, rfl, rfl, rfl, rfl, rfl, rfl, rfl, rfl, rfl⟩, ⟨by decide +kernel, by decide +kernel, by decide +kernel, by decide +kernel, by decide +kernel, by decide +kernel, by decide +kernel, by decide +kernel, by decide +kernel⟩, by decide +kernel, by decide +kernel, by decide +kernel, by decide +kernel⟩
  · exact ⟨⟨rfl, rfl, rfl, rfl, rfl, rfl, rfl, rfl, rfl, rfl, rfl, rfl, by decide +kernel, by decide +kernel, rfl, rfl, rfl, rfl, rfl, rfl⟩, ⟨rfl, rfl, rfl, rfl, rfl, rfl, rfl, rfl, rfl, rfl, rfl, rfl, by decide +kernel, by decide +kernel, rfl, rfl, rfl, rfl, rfl, rfl⟩, rfl, rfl, rfl, rfl, rfl, by decide +kernel⟩
