/-! plain law: text, the class's next token, whole -/
theorem nuv_le {b : Nat → Nat} {pl : Nat} : ∀ k, nuv b pl k ≤ 100000 := by
  intro k
  cases k with
  | zero => exact Nat.zero_le _
  | succ k => exact Nat.min_le_left _ _
theorem s_min5 {x : Nat} (h : x < 2 ^ 31) {μ : fw_M} {Q : Int32 → fw_M → Prop} : p_J0_min_2 100000 (nI x) μ Q = Q (nI (min 100000 x)) μ := by
  unfold p_J0_min_2
  rw [show (100000 : Int32) = nI 100000 from rfl]
  by_cases c : x < 100000
  · rw [if_pos (show nI x < nI 100000 from nI_lt c (by decide)), Nat.min_eq_right (by omega)]
  · rw [if_neg (show ¬ nI x < nI 100000 from nI_nlt (by omega) h), Nat.min_eq_left (by omega)]
section NX2
variable {L : Nat} {xs : Nat → Int32} {z : Nat → Nat} {ν : fw_M} {b : Nat → Nat} {N q : Nat}
theorem s_next (ho : iv_old L xs z ν) (h : tpS b N q ν) (hq : 441 ≤ q) {a s t pl a' : Nat} (ha : m_I ν q 2 = nI a) (haN : a ≤ N) (hx0 : lx b N a s t pl a') {Q : fw_M → Prop} (hQ : ∀ ν', eqD (DX q) ν ν' → sT q s t pl a' ν' → Q ν') : p_X6_next q ν Q := by
  obtain ⟨⟨r1, r2, r3, r4⟩, hx⟩ := hx0
  have hN := h.1
  unfold p_X6_next p_X6_next_L0
  refine lp_to (pl - a) (fun k x => eqD (DX q) ν x ∧ m_I x q 2 = nI (a + k)) (fun k x hk hxk K hK => ?_) (fun x hxk K => ?_) ⟨eqD.rf, ha⟩
  · obtain ⟨h1, h2⟩ := hxk
    have hx' := h.x hq h1
    have w := r3 (a + k) (by omega) (by omega)
    unfold isW at w
    simp only [Bool.or_eq_true, decide_eq_true_eq] at w
    have go : p_X6_next_L18 (fun μ => K μ) q x Q := by
      unfold p_X6_next_L18
      simp only [forall_eq, ml_uI, h2, nI_1]
      refine hK _ ⟨h1.tr (ml_st ⟨by decide, by decide⟩), ?_⟩
      rw [ml_Is, ml_us]; rfl
    show p_X6_next_L0b q (fun μ => K μ) x Q
    unfold p_X6_next_L0b
    rw [s_see hx' h2 (by omega), if_pos (show a + k < N by omega)]
    rcases w with e | e
    · rw [e, if_pos (show nI 32 = 32 by rfl)]
      exact go
    · rw [e, if_neg (show ¬ nI 10 = 32 by decide), s_see hx' h2 (by omega), if_pos (show a + k < N by omega), e, if_pos (show nI 10 = 10 by rfl)]
      exact go
  · obtain ⟨h1, h2⟩ := hxk
    rw [show a + (pl - a) = pl by omega] at h2
    have hx' := h.x hq h1
    show p_X6_next_L0b q (fun μ => K μ) x Q
    have n32 : ¬ (if pl < N then nI (b pl) else -1 : Int32) = 32 := by
      by_cases c : pl < N
      · rw [if_pos c]
        have hb := (h.2.2.2.2.2.2 pl c).1
        intro e
        have := (nI_eq (b := 32) (by omega) (by decide)).mp e
        exact r4 ⟨c, by rw [this]; rfl⟩
      · rw [if_neg c]; decide
    have n10 : ¬ (if pl < N then nI (b pl) else -1 : Int32) = 10 := by
      by_cases c : pl < N
      · rw [if_pos c]
        have hb := (h.2.2.2.2.2.2 pl c).1
        intro e
        have := (nI_eq (b := 10) (by omega) (by decide)).mp e
        exact r4 ⟨c, by rw [this]; rfl⟩
      · rw [if_neg c]; decide
    unfold p_X6_next_L0b
    rw [s_see hx' h2 (by omega), if_neg n32, s_see hx' h2 (by omega), if_neg n10]
    simp only [forall_eq, ml_uI, h2]
    have e2 := (h1.tr (ml_st (j := 3) (v := nI pl) ⟨by decide, by decide⟩)).tr (ml_st (j := 6) (v := -1) ⟨by decide, by decide⟩)
    have f2 : m_I (m_sI (m_sI x q (ml_u (m_I x q) 3 (nI pl))) q (ml_u (m_I (m_sI x q (ml_u (m_I x q) 3 (nI pl))) q) 6 (-1))) q 2 = nI pl := by
      rw [ml_Is, ml_un (by decide), ml_Is, ml_un (by decide)]; exact h2
    have f3 : m_I (m_sI (m_sI x q (ml_u (m_I x q) 3 (nI pl))) q (ml_u (m_I (m_sI x q (ml_u (m_I x q) 3 (nI pl))) q) 6 (-1))) q 3 = nI pl := by
      rw [ml_Is, ml_un (by decide), ml_Is, ml_us]
    have f6 : m_I (m_sI (m_sI x q (ml_u (m_I x q) 3 (nI pl))) q (ml_u (m_I (m_sI x q (ml_u (m_I x q) 3 (nI pl))) q) 6 (-1))) q 6 = -1 := by
      rw [ml_Is, ml_us]
    generalize m_sI (m_sI x q (ml_u (m_I x q) 3 (nI pl))) q (ml_u (m_I (m_sI x q (ml_u (m_I x q) 3 (nI pl))) q) 6 (-1)) = y at e2 f2 f3 f6
    have hy := h.x hq e2
    have oy := old.x ho hq e2
    rw [s_see hy f2 (by omega)]
    by_cases cN : pl = N
    · rw [if_pos cN] at hx
      obtain ⟨rfl, rfl, rfl⟩ := hx
      rw [if_neg (show ¬ pl < a' by omega), if_neg (by decide)]
      refine hQ _ (e2.tr (ml_st ⟨by decide, by decide⟩)) ⟨?_, fun h => absurd h (by decide), ?_, ?_, ?_⟩
      · rw [ml_Is, ml_us]; rfl
      · rw [ml_Is, ml_un (by decide)]; exact f6
      · rw [ml_Is, ml_un (by decide)]; exact f3
      · rw [ml_Is, ml_un (by decide)]; rw [f2, cN]
    have pN : pl < N := by omega
    have hb := (h.2.2.2.2.2.2 pl pN).1
    rw [if_neg cN] at hx
    rw [if_pos pN, if_pos (show 0 ≤ nI (b pl) from nI_le (a := 0) (Nat.zero_le _) (by omega)), s_isLetter hy f2 (by omega)]
    by_cases l : isL (b pl) = true
    · rw [if_pos l] at hx
      obtain ⟨rl, hw⟩ := hx
      rw [if_pos (show pl < N ∧ isL (b pl) = true from ⟨pN, l⟩), if_neg (by decide)]
      refine s_word oy hy hq f2 f3 rl fun ν' g' T => hQ ν' (e2.tr g') ?_
      rw [← hw] at T
      exact T
    rw [if_neg l] at hx
    rw [if_neg (show ¬ (pl < N ∧ isL (b pl) = true) from fun h => l h.2), if_pos rfl, s_isDigit hy f2 (by omega)]
    by_cases d : isD (b pl) = true
    · rw [if_pos d] at hx
      obtain ⟨⟨d1, d2, d3, d4⟩, rfl, rfl⟩ := hx
      rw [if_pos (show pl < N ∧ isD (b pl) = true from ⟨pN, d⟩), if_neg (by decide)]
      unfold p_X6_next_L96
      refine lp_to (a' - pl) (fun k x => eqD (DX q) ν x ∧ m_I x q 2 = nI (pl + k) ∧ m_I x q 3 = nI pl ∧ m_I x q 6 = -1 ∧ m_I x q 4 = 301 ∧ m_I x q 5 = nI (nuv b pl k)) (fun k x hk hxk K hK => ?_) (fun x hxk K => ?_) ⟨(e2.tr (ml_st ⟨by decide, by decide⟩)).tr (ml_st ⟨by decide, by decide⟩), ?_, ?_, ?_, ?_, ?_⟩
      · obtain ⟨g1, g2, g3, g6, g4, g5⟩ := hxk
        have hg := h.x hq g1
        have dk := d3 (pl + k) (by omega) (by omega)
        have nl := nuv_le (b := b) (pl := pl) k
        have bk := (h.2.2.2.2.2.2 (pl + k) (by omega)).1
        have b48 : 48 ≤ b (pl + k) := by
          unfold isD at dk
          rw [Bool.and_eq_true, decide_eq_true_eq] at dk
          exact dk.1
        show p_X6_next_L96b q (fun μ => K μ) x Q
        unfold p_X6_next_L96b
        rw [s_isDigit hg g2 (by omega), if_pos (show pl + k < N ∧ isD (b (pl + k)) = true from ⟨by omega, dk⟩), if_neg (by decide), s_see hg g2 (by omega), if_pos (show pl + k < N by omega), g5]
        have ev : ((10 : Int32) * nI (nuv b pl k) + nI (b (pl + k)) - 48 : Int32) = nI (10 * nuv b pl k + b (pl + k) - 48) := by
          rw [li_10, pk_mul, nI_add, show (48 : Int32) = nI 48 from rfl, pk_sub (by omega)]
        rw [ev, s_min5 (by omega)]
        have nn : nuv b pl (k + 1) = min 100000 (10 * nuv b pl k + b (pl + k) - 48) := rfl
        rw [← nn]
        simp only [forall_eq, ml_uI]
        refine hK _ ⟨(g1.tr (ml_st ⟨by decide, by decide⟩)).tr (ml_st ⟨by decide, by decide⟩), ?_, ?_, ?_, ?_, ?_⟩
        · rw [ml_Is, ml_us, ml_Is, ml_un (by decide), g2, nI_1]; rfl
        · rw [ml_Is, ml_un (by decide), ml_Is, ml_un (by decide)]; exact g3
        · rw [ml_Is, ml_un (by decide), ml_Is, ml_un (by decide)]; exact g6
        · rw [ml_Is, ml_un (by decide), ml_Is, ml_un (by decide)]; exact g4
        · rw [ml_Is, ml_un (by decide), ml_Is, ml_us]
      · obtain ⟨g1, g2, g3, g6, g4, g5⟩ := hxk
        have hg := h.x hq g1
        rw [show pl + (a' - pl) = a' by omega] at g2
        show p_X6_next_L96b q (fun μ => K μ) x Q
        unfold p_X6_next_L96b
        rw [s_isDigit hg g2 (by omega), if_neg d4, if_pos rfl]
        exact hQ x g1 ⟨g4, fun _ => g5, g6, g3, g2⟩
      · rw [ml_Is, ml_un (by decide), ml_Is, ml_un (by decide)]; exact f2
      · rw [ml_Is, ml_un (by decide), ml_Is, ml_un (by decide)]; exact f3
      · rw [ml_Is, ml_un (by decide), ml_Is, ml_un (by decide)]; exact f6
      · rw [ml_Is, ml_un (by decide), ml_Is, ml_us]
      · rw [ml_Is, ml_us]; rfl
    rw [if_neg d] at hx
    rw [if_neg (show ¬ (pl < N ∧ isD (b pl) = true) from fun h => d h.2), if_pos rfl]
    rw [f2, nI_1, s_isSign hb]
    have e3 := e2.tr (ml_st (j := 2) (v := nI (pl + 1)) ⟨by decide, by decide⟩)
    have k2 : m_I (m_sI y q (ml_u (m_I y q) 2 (nI (pl + 1)))) q 2 = nI (pl + 1) := by rw [ml_Is, ml_us]
    have k3 : m_I (m_sI y q (ml_u (m_I y q) 2 (nI (pl + 1)))) q 3 = nI pl := by rw [ml_Is, ml_un (by decide)]; exact f3
    have k6 : m_I (m_sI y q (ml_u (m_I y q) 2 (nI (pl + 1)))) q 6 = -1 := by rw [ml_Is, ml_un (by decide)]; exact f6
    generalize m_sI y q (ml_u (m_I y q) 2 (nI (pl + 1))) = w at e3 k2 k3 k6
    have go : ∀ v : Int32, v = (if isG (b pl) = true then nI (b pl) else 303) → p_X6_next_L165 q (nI (b pl)) q v w Q := by
      intro v hv
      have hw := h.x hq e3
      unfold p_X6_next_L165
      refine ⟨hw.2.1, ?_⟩
      rintro μ2 rfl
      rw [ml_uI]
      have e4 := e3.tr (ml_st (j := 4) (v := v) ⟨by decide, by decide⟩)
      have j2 : m_I (m_sI w q (ml_u (m_I w q) 4 v)) q 2 = nI (pl + 1) := by rw [ml_Is, ml_un (by decide)]; exact k2
      have j3 : m_I (m_sI w q (ml_u (m_I w q) 4 v)) q 3 = nI pl := by rw [ml_Is, ml_un (by decide)]; exact k3
      have j6 : m_I (m_sI w q (ml_u (m_I w q) 4 v)) q 6 = -1 := by rw [ml_Is, ml_un (by decide)]; exact k6
      have j4 : m_I (m_sI w q (ml_u (m_I w q) 4 v)) q 4 = v := by rw [ml_Is, ml_us]
      generalize m_sI w q (ml_u (m_I w q) 4 v) = u at e4 j2 j3 j6 j4
      have hu := h.x hq e4
      have plain : ¬ ((b pl = 60 ∨ b pl = 62) ∧ pl + 1 < N ∧ b (pl + 1) = 61) → Q u := by
        intro c
        rw [if_neg c] at hx
        obtain ⟨rfl, hst⟩ := hx
        refine hQ u e4 ?_
        by_cases g : isG (b pl) = true
        · rw [if_pos g] at hst hv
          cases hst
          have b300 : b pl < 256 := hb
          refine ⟨?_, fun h => absurd h (by decide), ?_, j3, j2⟩
          · rw [j4, hv]
            unfold kdT
            rw [if_neg (by decide), if_neg (by decide), if_neg (by decide), if_pos rfl, if_neg (by omega), if_neg (by omega)]
          · rw [j6]; unfold nmS; rw [if_neg (fun h => absurd h.1 (by decide))]
        · rw [if_neg g] at hst hv
          cases hst
          refine ⟨by rw [j4, hv]; rfl, fun h => absurd h (by decide), by rw [j6]; rfl, j3, j2⟩
      have two : (b pl = 60 ∨ b pl = 62) → p_X6_next_L180 q (nI (b pl)) u Q := by
        intro c
        unfold p_X6_next_L180
        rw [s_see hu j2 (by omega)]
        by_cases c2 : pl + 1 < N ∧ b (pl + 1) = 61
        · rw [if_pos ⟨c, c2⟩] at hx
          obtain ⟨rfl, rfl, rfl⟩ := hx
          rw [if_pos c2.1, c2.2, if_pos (show nI 61 = 61 by rfl)]
          simp only [forall_eq, ml_uI, j2, nI_1]
          have e5 := e4.tr (ml_st (j := 2) (v := nI (pl + 1 + 1)) ⟨by decide, by decide⟩)
          rcases c with c | c
          · rw [if_pos c] at hQ
            rw [c, if_pos (show nI 60 = 60 by rfl)]
            refine hQ _ (e5.tr (ml_st ⟨by decide, by decide⟩)) ⟨?_, fun h => absurd h (by decide), ?_, ?_, ?_⟩
            · rw [ml_Is, ml_us]; rfl
            · rw [ml_Is, ml_un (by decide), ml_Is, ml_un (by decide), j6]; rfl
            · rw [ml_Is, ml_un (by decide), ml_Is, ml_un (by decide)]; exact j3
            · rw [ml_Is, ml_un (by decide), ml_Is, ml_us]
          · rw [if_neg (show ¬ b pl = 60 by omega)] at hQ
            rw [c, if_neg (show ¬ nI 62 = 60 by decide)]
            refine hQ _ (e5.tr (ml_st ⟨by decide, by decide⟩)) ⟨?_, fun h => absurd h (by decide), ?_, ?_, ?_⟩
            · rw [ml_Is, ml_us]; rfl
            · rw [ml_Is, ml_un (by decide), ml_Is, ml_un (by decide), j6]; rfl
            · rw [ml_Is, ml_un (by decide), ml_Is, ml_un (by decide)]; exact j3
            · rw [ml_Is, ml_un (by decide), ml_Is, ml_us]
        · have n61 : ¬ (if pl + 1 < N then nI (b (pl + 1)) else -1 : Int32) = 61 := by
            by_cases c3 : pl + 1 < N
            · rw [if_pos c3]
              have hb2 := (h.2.2.2.2.2.2 (pl + 1) c3).1
              intro e
              exact c2 ⟨c3, (nI_eq (b := 61) (by omega) (by decide)).mp e⟩
            · rw [if_neg c3]; decide
          rw [if_neg n61]
          exact plain fun h => c2 h.2
      by_cases c60 : b pl = 60
      · rw [if_pos (show nI (b pl) = 60 by rw [c60]; rfl)]
        exact two (Or.inl c60)
      · rw [if_neg (show ¬ nI (b pl) = 60 from fun e => c60 ((nI_eq (b := 60) (by omega) (by decide)).mp e))]
        by_cases c62 : b pl = 62
        · rw [if_pos (show nI (b pl) = 62 by rw [c62]; rfl)]
          exact two (Or.inr c62)
        · rw [if_neg (show ¬ nI (b pl) = 62 from fun e => c62 ((nI_eq (b := 62) (by omega) (by decide)).mp e))]
          exact plain fun h => h.1.elim c60 c62
    by_cases g : isG (b pl) = true
    · rw [if_pos g, if_neg (by decide)]
      exact go _ (by rw [if_pos g])
    · rw [if_neg g, if_pos rfl]
      exact go _ (by rw [if_neg g])
end NX2
