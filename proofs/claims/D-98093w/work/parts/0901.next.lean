/-! plain law: next -/
def hx (x : Int32) : Nat := if 0 ≤ x then (if x = 0 then 1 else 2) else 0
theorem hx_lt {x : Int32} : hx x < 3 := by
  unfold hx
  split
  · split <;> decide
  · decide
theorem hx_1 {x : Int32} : 1 + hgI x = nI (hx x) := by
  unfold hx hgI
  split
  · split <;> rfl
  · rfl
theorem hx_j {x : Int32} : ∀ j, j < 3 → (hgI x = nI j - 1 ↔ hx x = j) := by
  intro j hj
  have e : ∀ a : Nat, a < 3 → ∀ b : Nat, b < 3 → ((nI a - 1 : Int32) = nI b - 1 ↔ a = b) := by decide
  have q : hgI x = nI (hx x) - 1 := by
    unfold hx hgI
    split
    · split <;> rfl
    · rfl
  rw [q]
  exact e _ hx_lt _ hj
def cI (b : Nat → Bool) (ld : Int32) (j : Nat) : Nat → Nat
  | 0 => 0
  | p + 1 => cI b ld j p + (if b p = true ∧ hx (ld + nI p) = j then 1 else 0)
theorem cI_le {b : Nat → Bool} {ld : Int32} {j : Nat} : ∀ p, cI b ld j p ≤ p := by
  intro p
  induction p with
  | zero => exact Nat.le_refl _
  | succ p ih =>
    unfold cI
    split <;> omega
def moN (b : Nat → Bool) (ld : Int32) : Nat := max (max (cI b ld 0 10) (cI b ld 1 10)) (cI b ld 2 10)
theorem moN_le {b : Nat → Bool} {ld : Int32} : moN b ld ≤ 10 := by
  have h0 := cI_le (b := b) (ld := ld) (j := 0) 10
  have h1 := cI_le (b := b) (ld := ld) (j := 1) 10
  have h2 := cI_le (b := b) (ld := ld) (j := 2) 10
  unfold moN
  omega
def nxT (b : Nat → Bool) (f0 : Int32) : Nat → Int32 × Nat
  | 0 => (f0, 11)
  | k + 1 => if moN b (nI k - 20) < (nxT b f0 k).2 then (nI k - 20, moN b (nI k - 20)) else nxT b f0 k
theorem nxT_2 {b : Nat → Bool} {f0 f1 : Int32} : ∀ k, (nxT b f0 k).2 = (nxT b f1 k).2 ∧ (1 ≤ k → (nxT b f0 k).1 = (nxT b f1 k).1) := by
  intro k
  induction k with
  | zero => exact ⟨rfl, fun h => absurd h (by decide)⟩
  | succ k ih =>
    have e : ∀ f, nxT b f (k + 1) = if moN b (nI k - 20) < (nxT b f k).2 then (nI k - 20, moN b (nI k - 20)) else nxT b f k := fun _ => rfl
    rw [e f0, e f1, ih.1]
    by_cases c : moN b (nI k - 20) < (nxT b f1 k).2
    · rw [if_pos c, if_pos c]; exact ⟨rfl, fun _ => rfl⟩
    · rw [if_neg c, if_neg c]
      refine ⟨ih.1, fun _ => ih.2 ?_⟩
      apply Classical.byContradiction
      intro h
      have : k = 0 := by omega
      subst this
      exact c (by have := moN_le (b := b) (ld := nI 0 - 20); show _ < 11; omega)
theorem nxT_le {b : Nat → Bool} {f0 : Int32} : ∀ k, (nxT b f0 k).2 ≤ 11 := by
  intro k
  induction k with
  | zero => exact Nat.le_refl _
  | succ k ih =>
    unfold nxT
    split
    · have := moN_le (b := b) (ld := nI k - 20); show moN b _ ≤ 11; omega
    · exact ih
theorem ld_1 (k : Nat) : (nI k - 20 : Int32) + 1 = nI (k + 1) - 20 := by
  rw [nI_succ, Int32.sub_eq_add_neg, Int32.sub_eq_add_neg, Int32.add_assoc, Int32.add_comm (-20) 1, ← Int32.add_assoc]
theorem ld_s : ∀ k, k < 41 → ¬ (20 : Int32) < nI k - 20 := by decide
theorem ld_m : ∀ k, k < 41 → ¬ (21 : Int32) ≤ nI k - 20 := by decide
/-- a bit of the pennies that fit -/
def ptB (fits : Int32) (p : Nat) : Bool := decide (((fits >>> (nI p &&& 31)) &&& 1) = 1)
theorem s_maxN {a b : Nat} {μ : fw_M} (ha : a < 2 ^ 31) (hb : b < 2 ^ 31) {Q : Int32 → fw_M → Prop} : p_J0_max_2 (nI a) (nI b) μ Q = Q (nI (max a b)) μ := by
  unfold p_J0_max_2
  by_cases h : a < b
  · rw [if_pos (nI_lt h hb), Nat.max_eq_right (by omega)]
  · rw [if_neg (nI_nlt (by omega) ha), Nat.max_eq_left (by omega)]
theorem s_next21 {μ : fw_M} {fits : Int32} {Q : Int32 → fw_M → Prop} (hx0 : 441 ≤ m_x μ) (hQ : ∀ μ', qs μ μ' → Q (nxT (ptB fits) 0 41).1 μ') : p_X0_next_L21 64 fits 2000 20000 0 11 (-20) μ Q := by
  obtain ⟨N, hN⟩ : ∃ N, N = 41 := ⟨41, rfl⟩
  rw [← hN] at hQ
  unfold p_X0_next_L21
  refine lp_to N (fun k (a : Nat × Nat × Int32 × Int32 × Int32 × fw_M) => a.1 = 2000 - k ∧ a.2.1 = 20000 - 3 * k ∧ a.2.2.1 = (nxT (ptB fits) 0 k).1 ∧ a.2.2.2.1 = nI (nxT (ptB fits) 0 k).2 ∧ a.2.2.2.2.1 = nI k - 20 ∧ qs μ a.2.2.2.2.2) (fun k a hk hI K hK => ?_) (fun a hI K => ?_) ⟨rfl, rfl, rfl, rfl, rfl, qs.rf⟩
  · obtain ⟨bc, bs, i2, i3, i4, ν⟩ := a
    obtain ⟨a1, a2, a3, a4, a5, a6⟩ := hI
    dsimp only at a1 a2 a3 a4 a5 a6
    subst a1 a2 a3 a4 a5
    show p_X0_next_L21b 64 fits (fun bc bs i2 i3 i4 μ => K (bc, bs, i2, i3, i4, μ)) (2000 - k) (20000 - 3 * k) (nxT (ptB fits) 0 k).1 (nI (nxT (ptB fits) 0 k).2) (nI k - 20) ν Q
    have c3 : (3 : Int32).toNatClampNeg = 3 := rfl
    unfold p_X0_next_L21b
    rw [if_neg (ld_s k (by omega)), c3]
    refine ⟨by decide, by decide, by omega, by omega, ?_⟩
    rintro rn rfl μ9 rfl
    have kx : m_K (m_al ν 100 3) (m_x ν) = 100 := ml_KS ml_aS0
    have nx : m_N (m_al ν 100 3) (m_x ν) = 3 := ml_NS ml_aS0
    have ix : m_I (m_al ν 100 3) (m_x ν) = fun _ => 0 := ml_aI0
    have gr : qs ν (m_al ν 100 3) := ⟨by rw [ml_ax]; omega, fun p hp => ml_aS hp, fun p hp => ml_aP hp, fun p hp j _ => by rw [ml_aI hp]⟩
    generalize m_al ν 100 3 = μ9 at kx nx ix gr
    unfold p_X0_next_L36
    refine lp_to 10 (fun p (b : Nat × Nat × Int32 × fw_M) => b.1 = 2000 - k - 1 ∧ b.2.1 = 20000 - 3 * k - 3 ∧ b.2.2.1 = nI p ∧ eqD (fun p _ => p = m_x ν) μ9 b.2.2.2 ∧ ∀ j, j < 3 → m_I b.2.2.2 (m_x ν) j = nI (cI (ptB fits) (nI k - 20) j p)) (fun p b hp hI2 K2 hK2 => ?_) (fun b hI2 K2 => ?_) ⟨rfl, rfl, rfl, eqD.rf, fun j _ => by show m_I μ9 (m_x ν) j = _; rw [ix]; rfl⟩
    · obtain ⟨bc, bs, i6, ν2⟩ := b
      obtain ⟨b1, b2, b3, b4, b5⟩ := hI2
      dsimp only at b1 b2 b3 b4 b5
      subst b1 b2 b3
      show p_X0_next_L36b _ 64 fits _ _ (nI k - 20) (m_x ν) (fun bc bs i6 μ => K2 (bc, bs, i6, μ)) (2000 - k - 1) (20000 - 3 * k - 3) (nI p) ν2 Q
      have kk : m_K ν2 (m_x ν) = 100 := by rw [b4.K]; exact kx
      have nn : m_N ν2 (m_x ν) = 3 := by rw [b4.N]; exact nx
      have cs : ∀ j, cI (ptB fits) (nI k - 20) j (p + 1) = cI (ptB fits) (nI k - 20) j p + (if ptB fits p = true ∧ hx (nI k - 20 + nI p) = j then 1 else 0) := fun _ => rfl
      unfold p_X0_next_L36b
      rw [show (10 : Int32) = nI 10 from rfl, if_neg (nI_ge (b := 10) hp (by decide))]
      by_cases c : ((fits >>> (nI p &&& 31)) &&& 1) = 1
      · have cb : ptB fits p = true := decide_eq_true c
        have hl := hx_lt (x := nI k - 20 + nI p)
        rw [if_pos c]
        simp (disch := omega) only [s_hangs, hx_1, kk, nn, nI_clamp, vp_t, true_and, b5 _ hl, ml_uI, forall_eq, nI_1]
        refine hK2 _ ⟨rfl, rfl, rfl, b4.tr (eqD.sI fun j hj => absurd rfl hj), fun j hj => ?_⟩
        show m_I (m_sI ν2 (m_x ν) _) (m_x ν) j = _
        rw [ml_Is, cs j, cb]
        by_cases e : j = hx (nI k - 20 + nI p)
        · rw [if_pos ⟨rfl, e.symm⟩, e, ml_us]
        · rw [if_neg (fun h => e h.2.symm), ml_un e, b5 j hj, Nat.add_zero]
      · have cb : ptB fits p = false := decide_eq_false c
        rw [if_neg c]
        simp only [forall_eq, nI_1]
        refine hK2 _ ⟨rfl, rfl, rfl, b4, fun j hj => ?_⟩
        show m_I ν2 (m_x ν) j = _
        rw [cs j, cb, if_neg (fun h => absurd h.1 (by decide)), Nat.add_zero]
        exact b5 j hj
    · obtain ⟨bc, bs, i6, ν2⟩ := b
      obtain ⟨b1, b2, b3, b4, b5⟩ := hI2
      dsimp only at b1 b2 b3 b4 b5
      subst b1 b2 b3
      show p_X0_next_L36b (fun bc bs i2 i3 i4 μ => K (bc, bs, i2, i3, i4, μ)) 64 fits (nxT (ptB fits) 0 k).1 (nI (nxT (ptB fits) 0 k).2) (nI k - 20) (m_x ν) (fun bc bs i6 μ => K2 (bc, bs, i6, μ)) (2000 - k - 1) (20000 - 3 * k - 3) (nI 10) ν2 Q
      have kk : m_K ν2 (m_x ν) = 100 := by rw [b4.K]; exact kx
      have nn : m_N ν2 (m_x ν) = 3 := by rw [b4.N]; exact nx
      have h0 := cI_le (b := ptB fits) (ld := nI k - 20) (j := 0) 10
      have h1 := cI_le (b := ptB fits) (ld := nI k - 20) (j := 1) 10
      have h2 := cI_le (b := ptB fits) (ld := nI k - 20) (j := 2) 10
      have hb := nxT_le (b := ptB fits) (f0 := 0) k
      have gq : qs μ ν2 := by
        refine ⟨Nat.le_trans a6.1 (Nat.le_trans gr.1 (Nat.le_of_eq b4.2.2.1.symm)), fun p hp => ?_, fun p hp => ?_, fun p hp j hj => ?_⟩
        · rw [b4.1]; exact (gr.2.1 p (Nat.lt_of_lt_of_le hp a6.1)).trans (a6.2.1 p hp)
        · rw [b4.2.1]; exact (gr.2.2.1 p (Nat.lt_of_lt_of_le hp a6.1)).trans (a6.2.2.1 p hp)
        · have := a6.1
          rw [b4.2.2.2 p j (show ¬ p = m_x ν by omega)]
          exact (gr.2.2.2 p (Nat.lt_of_lt_of_le hp a6.1) j hj).trans (a6.2.2.2 p hp j hj)
      have nT : nxT (ptB fits) 0 (k + 1) = if moN (ptB fits) (nI k - 20) < (nxT (ptB fits) 0 k).2 then (nI k - 20, moN (ptB fits) (nI k - 20)) else nxT (ptB fits) 0 k := rfl
      have em : max (cI (ptB fits) (nI k - 20) 0 10) (max (cI (ptB fits) (nI k - 20) 1 10) (cI (ptB fits) (nI k - 20) 2 10)) = moN (ptB fits) (nI k - 20) := by unfold moN; omega
      have ml := moN_le (b := ptB fits) (ld := nI k - 20)
      have hK3 := hK (2000 - k - 1, 20000 - 3 * k - 3, (nxT (ptB fits) 0 (k + 1)).1, nI (nxT (ptB fits) 0 (k + 1)).2, nI (k + 1) - 20, ν2) ⟨show 2000 - k - 1 = 2000 - (k + 1) by omega, show 20000 - 3 * k - 3 = 20000 - 3 * (k + 1) by omega, rfl, rfl, rfl, gq⟩
      unfold p_X0_next_L36b
      rw [if_pos (show (10 : Int32) ≤ nI 10 by decide)]
      have mx1 : max (cI (ptB fits) (nI k - 20) 1 10) (cI (ptB fits) (nI k - 20) 2 10) ≤ 10 := by omega
      have v0 : vp_in (0 : Int32) 3 = True := vp_t (n := 0) (by decide) (by decide)
      have v1 : vp_in (1 : Int32) 3 = True := vp_t (n := 1) (by decide) (by decide)
      have v2 : vp_in (2 : Int32) 3 = True := vp_t (n := 2) (by decide) (by decide)
      simp (disch := omega) only [kk, nn, cl0, cl1, cl2, v0, v1, v2, true_and, b5 0 (by decide), b5 1 (by decide), b5 2 (by decide), s_maxN, em, nI_ltI]
      by_cases c : moN (ptB fits) (nI k - 20) < (nxT (ptB fits) 0 k).2
      · rw [if_pos c] at nT ⊢
        rw [nT] at hK3
        rintro _ rfl
        rw [ld_1 k]
        exact hK3
      · rw [if_neg c] at nT ⊢
        rw [nT] at hK3
        rintro _ rfl
        rw [ld_1 k]
        exact hK3
  · obtain ⟨bc, bs, i2, i3, i4, ν⟩ := a
    obtain ⟨a1, a2, a3, a4, a5, a6⟩ := hI
    dsimp only at a1 a2 a3 a4 a5 a6
    subst a1 a2 a3 a4 a5
    show p_X0_next_L21b 64 fits (fun bc bs i2 i3 i4 μ => K (bc, bs, i2, i3, i4, μ)) (2000 - N) (20000 - 3 * N) (nxT (ptB fits) 0 N).1 (nI (nxT (ptB fits) 0 N).2) (nI N - 20) ν Q
    unfold p_X0_next_L21b
    rw [if_pos (show (20 : Int32) < nI N - 20 by rw [hN]; decide)]
    exact hQ ν a6
theorem m_mostAlike {μ : fw_M} {fits ld : Int32} {Q : Int32 → fw_M → Prop} (hQ : Q (nI (moN (ptB fits) ld)) μ) : p_X5_mostAlike fits ld μ Q := by
  unfold p_X5_mostAlike p_X5_mostAlike_L4
  have hj1 : ∀ j, j < 3 → (nI j - 1 : Int32) + 1 = nI (j + 1) - 1 := by decide
  have hj2 : ∀ j, j < 3 → ¬ (2 : Int32) ≤ nI j - 1 := by decide
  have f3 : ∀ j, j < 3 → (match j + 1 with | 0 => 0 | 1 => cI (ptB fits) ld 0 10 | 2 => max (cI (ptB fits) ld 0 10) (cI (ptB fits) ld 1 10) | _ => moN (ptB fits) ld) = max (match j with | 0 => 0 | 1 => cI (ptB fits) ld 0 10 | 2 => max (cI (ptB fits) ld 0 10) (cI (ptB fits) ld 1 10) | _ => moN (ptB fits) ld) (cI (ptB fits) ld j 10) := by
    intro j hj
    have : j = 0 ∨ j = 1 ∨ j = 2 := by omega
    rcases this with rfl | rfl | rfl
    · exact (Nat.zero_max _).symm
    · rfl
    · rfl
  have h10 : ∀ j, cI (ptB fits) ld j 10 ≤ 10 := fun j => cI_le 10
  have b3 : ∀ j, j < 3 → (match j with | 0 => 0 | 1 => cI (ptB fits) ld 0 10 | 2 => max (cI (ptB fits) ld 0 10) (cI (ptB fits) ld 1 10) | _ => moN (ptB fits) ld) ≤ 10 := by
    intro j hj
    have h0 := h10 0
    have h1 := h10 1
    have : j = 0 ∨ j = 1 ∨ j = 2 := by omega
    rcases this with rfl | rfl | rfl
    · exact Nat.zero_le _
    · exact h0
    · show max _ _ ≤ 10; omega
  refine lp_fn 3 (fun j => (nI (match j with | 0 => 0 | 1 => cI (ptB fits) ld 0 10 | 2 => max (cI (ptB fits) ld 0 10) (cI (ptB fits) ld 1 10) | _ => moN (ptB fits) ld), nI j - 1, μ)) (fun _ => True) (fun j hj _ K hK => ?_) (fun _ K => ?_) rfl trivial
  · have hK := hK trivial
    rw [f3 j hj] at hK
    have bj := b3 j hj
    generalize (match j with | 0 => 0 | 1 => cI (ptB fits) ld 0 10 | 2 => max (cI (ptB fits) ld 0 10) (cI (ptB fits) ld 1 10) | _ => moN (ptB fits) ld) = m at hK bj
    show p_X5_mostAlike_L4b fits ld (fun i2 i3 μ => K (i2, i3, μ)) (nI m) (nI j - 1) μ Q
    unfold p_X5_mostAlike_L4b
    rw [if_neg (hj2 j hj)]
    unfold p_X5_mostAlike_L15
    refine lp_fn 10 (fun p => (nI (cI (ptB fits) ld j p), nI p, μ)) (fun _ => True) (fun p hp _ K2 hK2 => ?_) (fun _ K2 => ?_) rfl trivial
    · show p_X5_mostAlike_L15b _ fits ld (nI m) (nI j - 1) (fun i4 i5 μ => K2 (i4, i5, μ)) (nI (cI (ptB fits) ld j p)) (nI p) μ Q
      have hK2 := hK2 trivial
      have cs : cI (ptB fits) ld j (p + 1) = cI (ptB fits) ld j p + (if ptB fits p = true ∧ hx (ld + nI p) = j then 1 else 0) := rfl
      rw [cs] at hK2
      unfold p_X5_mostAlike_L15b
      rw [show (10 : Int32) = nI 10 from rfl, if_neg (nI_ge (b := 10) hp (by decide))]
      by_cases c : ((fits >>> (nI p &&& 31)) &&& 1) = 1
      · have cb : ptB fits p = true := decide_eq_true c
        rw [if_pos c, m_hangs]
        by_cases e : hx (ld + nI p) = j
        · rw [if_pos ⟨cb, e⟩] at hK2
          rw [if_pos ((hx_j j hj).mpr e)]
          simp only [forall_eq, nI_1]
          exact hK2
        · rw [if_neg (fun h => e h.2), Nat.add_zero] at hK2
          rw [if_neg (fun h => e ((hx_j j hj).mp h))]
          unfold p_X5_mostAlike_L48
          simp only [forall_eq, nI_1, Int32.add_zero]
          exact hK2
      · have cb : ptB fits p = false := decide_eq_false c
        rw [cb, if_neg (fun h => absurd h.1 (by decide)), Nat.add_zero] at hK2
        rw [if_neg c]
        unfold p_X5_mostAlike_L48
        simp only [forall_eq, nI_1, Int32.add_zero]
        exact hK2
    · show p_X5_mostAlike_L15b (fun i2 i3 μ => K (i2, i3, μ)) fits ld (nI m) (nI j - 1) (fun i4 i5 μ => K2 (i4, i5, μ)) (nI (cI (ptB fits) ld j 10)) (nI 10) μ Q
      have bc := h10 j
      unfold p_X5_mostAlike_L15b
      rw [if_pos (show (10 : Int32) ≤ nI 10 by decide), hj1 j hj]
      by_cases c : cI (ptB fits) ld j 10 ≤ m
      · rw [Nat.max_eq_left c] at hK
        rw [if_pos (nI_le c (by omega))]
        simp only [forall_eq]
        exact hK
      · rw [Nat.max_eq_right (by omega)] at hK
        rw [if_neg (nI_ge (by omega) (by omega))]
        simp only [forall_eq]
        exact hK
  · show p_X5_mostAlike_L4b fits ld (fun i2 i3 μ => K (i2, i3, μ)) (nI (moN (ptB fits) ld)) (nI 3 - 1) μ Q
    unfold p_X5_mostAlike_L4b
    rw [if_pos (show (2 : Int32) ≤ nI 3 - 1 by decide)]
    exact hQ
theorem op_next : iv_op2 (α := Int32) (fun μ Q => p_X0_next 2000 20000 64 μ Q) (fun μ Q => p_X5_next 411 μ Q) := by
  refine op_q fun L xs z μ hI => ?_
  obtain ⟨hs, -, -, n, tx, st, te, tl, ns, nd, n', tx', st', te', tl', ns', nd', tp, hC, -⟩ := id hI
  obtain ⟨⟨-, -, -, b, -⟩, ⟨-, -, -, -, E4, -⟩, ⟨-, -, -, A4, -⟩, -, -, -, -, -, y1, -⟩ := hC
  have hx0 : 441 ≤ m_x μ := hs.2.1
  refine ⟨if fitS (fun i => m_I μ (195 + i)) te 10 = 0 then -99 else (nxT (ptB (fitS (fun i => m_I μ (195 + i)) te 10)) 0 41).1, fun Q hQ => ?_, fun μ1 h1 hI1 Q hQ => ?_⟩
  · unfold p_X0_next
    refine s_fits hs b E4 ?_
    by_cases c : fitS (fun i => m_I μ (195 + i)) te 10 = 0
    · simp only [if_pos c] at hQ ⊢
      exact hQ μ qs.rf
    · simp only [if_neg c] at hQ ⊢
      exact s_next21 hx0 hQ
  · have gs := h1.sk hs
    have w := h1.I (p := 412) (by omega) (by decide) (by decide) (by unfold sc_p; decide)
    unfold p_X5_next
    refine m_fits gs b (by rw [w]; exact A4) ?_
    rw [w, ← fitS_cong (T := fun i => m_I μ (195 + i)) (T' := fun i j => m_I μ 412 (40 + 2 * i + j)) y1]
    generalize fitS (fun i => m_I μ (195 + i)) te 10 = fits at hQ ⊢
    have hQ := hQ μ1 qs.rf
    unfold p_X5_next_L15
    by_cases c : fits = 0
    · rw [if_pos c] at hQ
      refine lp_to 0 (fun k a => a = ((-99 : Int32), (11 : Int32), (-20 : Int32), μ1)) (fun k a hk => absurd hk (Nat.not_lt_zero _)) (fun a ha K => ?_) rfl
      subst ha
      show p_X5_next_L15b 411 fits (fun i2 i3 i4 μ => K (i2, i3, i4, μ)) (-99) 11 (-20) μ1 Q
      unfold p_X5_next_L15b
      rw [if_neg (by decide), if_pos c]
      exact hQ
    · obtain ⟨N, hN⟩ : ∃ N, N = 41 := ⟨41, rfl⟩
      rw [if_neg c, ← hN, (nxT_2 (f0 := 0) (f1 := -99) N).2 (by omega)] at hQ
      refine lp_fn N (fun k => ((nxT (ptB fits) (-99) k).1, nI (nxT (ptB fits) (-99) k).2, nI k - 20, μ1)) (fun _ => True) (fun k hk _ K hK => ?_) (fun _ K => ?_) rfl trivial
      · show p_X5_next_L15b 411 fits (fun i2 i3 i4 μ => K (i2, i3, i4, μ)) (nxT (ptB fits) (-99) k).1 (nI (nxT (ptB fits) (-99) k).2) (nI k - 20) μ1 Q
        have hK := hK trivial
        have hb := nxT_le (b := ptB fits) (f0 := -99) k
        have nT : nxT (ptB fits) (-99) (k + 1) = if moN (ptB fits) (nI k - 20) < (nxT (ptB fits) (-99) k).2 then (nI k - 20, moN (ptB fits) (nI k - 20)) else nxT (ptB fits) (-99) k := rfl
        have ml := moN_le (b := ptB fits) (ld := nI k - 20)
        unfold p_X5_next_L15b
        rw [if_neg (ld_m k (by omega)), if_neg c]
        refine m_mostAlike ?_
        by_cases q : moN (ptB fits) (nI k - 20) < (nxT (ptB fits) (-99) k).2
        · rw [if_pos q] at nT
          rw [nT] at hK
          rw [if_neg (nI_ge q (by omega))]
          simp only [forall_eq, ld_1]
          exact hK
        · rw [if_neg q] at nT
          rw [nT] at hK
          rw [if_pos (nI_le (by omega) (by omega))]
          simp only [forall_eq, ld_1]
          exact hK
      · show p_X5_next_L15b 411 fits (fun i2 i3 i4 μ => K (i2, i3, i4, μ)) (nxT (ptB fits) (-99) N).1 (nI (nxT (ptB fits) (-99) N).2) (nI N - 20) μ1 Q
        unfold p_X5_next_L15b
        rw [if_pos (show (21 : Int32) ≤ nI N - 20 by rw [hN]; decide)]
        exact hQ
