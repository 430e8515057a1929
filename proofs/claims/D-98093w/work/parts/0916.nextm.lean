/-! plain law: text, the reference's next token -/
theorem bt_eq {b : Nat → Nat} {x : Int32} {i c : Nat} (h : bt b x i) (hc : c < 128) : x = nI c ↔ b i = c := by
  obtain ⟨h1, -, h2, h3⟩ := h
  by_cases q : b i < 128
  · rw [h2 q]; exact nI_eq (by omega) (by omega)
  · have := h3 (by omega)
    refine ⟨fun e => ?_, fun e => by omega⟩
    rw [e] at this
    exact absurd this (nI_pos (by omega))
theorem bt_in {b : Nat → Nat} {x : Int32} {i lo hi : Nat} (h : bt b x i) (hl : lo < 128) (hh : hi < 128) : inB x (nI lo) (nI hi) ↔ lo ≤ b i ∧ b i ≤ hi := by
  obtain ⟨h1, -, h2, h3⟩ := h
  by_cases q : b i < 128
  · rw [h2 q]; exact in_n (by omega) (by omega) (by omega)
  · have := h3 (by omega)
    refine ⟨fun e => ?_, fun e => by omega⟩
    exfalso
    refine e.1 ?_
    rw [Int32.lt_iff_toInt_lt] at this ⊢
    rw [nI_toInt (by omega)]
    rw [show (0 : Int32).toInt = 0 by decide] at this
    omega
theorem m_isLt {b : Nat → Nat} {x : Int32} {i : Nat} (h : bt b x i) {μ : fw_M} {Q : Int32 → fw_M → Prop} : p_X5_isLetter x μ Q = Q (if isL (b i) = true then 1 else 0) μ := by
  have e1 : inB x 97 122 ↔ 97 ≤ b i ∧ b i ≤ 122 := bt_in (lo := 97) (hi := 122) h (by decide) (by decide)
  have e2 : inB x 65 90 ↔ 65 ≤ b i ∧ b i ≤ 90 := bt_in (lo := 65) (hi := 90) h (by decide) (by decide)
  have e : isL (b i) = true ↔ (97 ≤ b i ∧ b i ≤ 122) ∨ (65 ≤ b i ∧ b i ≤ 90) := by
    unfold isL
    rw [Bool.or_eq_true, Bool.and_eq_true, Bool.and_eq_true, decide_eq_true_eq, decide_eq_true_eq, decide_eq_true_eq, decide_eq_true_eq]
  unfold p_X5_isLetter p_X5_isLetter_L22
  rw [m_in]
  by_cases d1 : inB x 97 122
  · rw [if_pos d1, if_neg (by decide), if_pos (e.mpr (Or.inl (e1.mp d1)))]
  · rw [if_neg d1, if_pos rfl, m_in]
    by_cases d2 : inB x 65 90
    · rw [if_pos d2, if_neg (by decide), if_pos (e.mpr (Or.inr (e2.mp d2)))]
    · rw [if_neg d2, if_pos rfl, if_neg (fun h => (e.mp h).elim (fun h => d1 (e1.mpr h)) (fun h => d2 (e2.mpr h)))]
def tpM (b : Nat → Nat) (N : Nat) (ν : fw_M) : Prop := N ≤ 300 ∧ sk_m ν ∧ m_I ν 411 13 = nI N ∧ ∀ i, i < N → bt b (m_I ν 414 i) i
abbrev DN (p j : Nat) : Prop := p = 411 ∧ 14 ≤ j ∧ j ≤ 17
theorem tpM.eq {b : Nat → Nat} {N : Nat} {ν ν' : fw_M} {D : Nat → Nat → Prop} (h : tpM b N ν) (g : eqD D ν ν') (h1 : ∀ j, ¬ D 414 j) (h2 : ¬ D 411 13) : tpM b N ν' := by
  obtain ⟨a1, a2, a3, a4⟩ := h
  exact ⟨a1, g.sk a2, (g.2.2.2 411 13 h2).trans a3, fun i hi => by rw [g.2.2.2 414 i (h1 i)]; exact a4 i hi⟩
theorem tpM.x {b : Nat → Nat} {N : Nat} {ν ν' : fw_M} (h : tpM b N ν) (g : eqD DN ν ν') : tpM b N ν' := h.eq g (fun j h => absurd h.1 (by decide)) (fun h => absurd h.2.1 (by decide))
theorem dn_st {ν : fw_M} {j : Nat} {v : Int32} (h : 14 ≤ j ∧ j ≤ 17) : eqD DN ν (m_sI ν 411 (ml_u (m_I ν 411) j v)) := eqD.sI fun i hi => ml_un fun e => hi ⟨rfl, by omega⟩
/-- the reference's token at hand -/
def mT (s t pl a' : Nat) (ν : fw_M) : Prop := (s ≤ 3 → m_I ν 411 16 = nI s) ∧ (s = 4 → m_I ν 411 16 = 4 ∨ (m_I ν 411 16 = 3 ∧ m_I ν 411 17 = 44)) ∧ (s = 1 → t < 24 ∧ m_I ν 411 17 = nI (mW t)) ∧ (s = 3 → t < 400 ∧ t ≠ 44 ∧ m_I ν 411 17 = nI t) ∧ (s = 2 → ∃ v, v < 2 ^ 31 ∧ m_I ν 411 17 = nI v ∧ min 100000 v = t) ∧ m_I ν 411 15 = nI pl ∧ m_I ν 411 14 = nI a'
theorem mW_lt : ∀ t, t < 24 → mW t < 24 := by decide
section NM
variable {ν : fw_M} {b : Nat → Nat} {N : Nat}
/-- at the end, or the byte at hand -/
theorem m_next (h : tpM b N ν) {a s t pl a' : Nat} (ha : m_I ν 411 14 = nI a) (haN : a ≤ N) (hx0 : lx b N a s t pl a') {Q : fw_M → Prop} (hQ : ∀ ν', eqD DN ν ν' → mT s t pl a' ν' → Q ν') : p_X5_nextToken 411 ν Q := by
  obtain ⟨⟨r1, r2, r3, r4⟩, hx⟩ := hx0
  have hN := h.1
  unfold p_X5_nextToken p_X5_nextToken_L0
  refine lp_to (pl - a) (fun k x => eqD DN ν x ∧ m_I x 411 14 = nI (a + k)) (fun k x hk hxk K hK => ?_) (fun x hxk K => ?_) ⟨eqD.rf, ha⟩
  · obtain ⟨h1, h2⟩ := hxk
    obtain ⟨-, gs, h13, hb⟩ := h.x h1
    have w := r3 (a + k) (by omega) (by omega)
    unfold isW at w
    simp only [Bool.or_eq_true, decide_eq_true_eq] at w
    have go : p_X5_nextToken_L39 (fun μ => K μ) 411 x Q := by
      unfold p_X5_nextToken_L39
      simp only [forall_eq, ml_uI, h2, nI_1]
      refine hK _ ⟨h1.tr (dn_st ⟨by decide, by decide⟩), ?_⟩
      rw [ml_Is, ml_us]; rfl
    have be := hb (a + k) (by omega)
    have hk3 : a + k < 300 := by omega
    show p_X5_nextToken_L0b 411 (fun μ => K μ) x Q
    unfold p_X5_nextToken_L0b
    rw [h13, h2, if_neg (nI_ge (show a + k < N by omega) (by omega))]
    simp (disch := omega) only [sk_p411_0 gs, sk_p411_1 gs, sk_p411_2 gs, sk_p411_6 gs, sk_p411_7 gs, sk_p411_8 gs, sk_p411_9 gs, sk_p411_10 gs, sk_p411_11 gs, sk_p411_12 gs, sk_p411_22 gs, sk_p411_23 gs, sk_p411_25 gs, sk_p411_26 gs, sk_p411_30 gs, sk_p411_31 gs, sk_p411_32 gs, sk_p411_33 gs, sk_p411_35 gs, sk_p411_36 gs, sk_p411_37 gs, sk_p411_38 gs, sk_p411_39 gs, sk_p411_40 gs, sk_p411_42 gs, sk_p411_43 gs, sk_p411_44 gs, sk_p411_45 gs, sk_p411_46 gs, sk_k411 gs, sk_n411 gs, sk_k414 gs, sk_n414 gs, nI_clamp, vp_t, true_and]
    rcases w with e | e
    · rw [if_pos (show m_I x 414 (a + k) = 32 from (bt_eq (c := 32) be (by decide)).mpr e)]
      exact go
    · rw [if_neg (show ¬ m_I x 414 (a + k) = 32 from fun q => by have := (bt_eq (c := 32) be (by decide)).mp q; omega), if_pos (show m_I x 414 (a + k) = 10 from (bt_eq (c := 10) be (by decide)).mpr e)]
      exact go
  · obtain ⟨h1, h2⟩ := hxk
    rw [show a + (pl - a) = pl by omega] at h2
    obtain ⟨-, gs, h13, hb⟩ := h.x h1
    have key : p_X5_nextToken_L52 411 x Q := by
      unfold p_X5_nextToken_L52
      rintro μ1 rfl
      rw [ml_uI, h2]
      have e2 := h1.tr (dn_st (j := 15) (v := nI pl) ⟨by decide, by decide⟩)
      have f14 : m_I (m_sI x 411 (ml_u (m_I x 411) 15 (nI pl))) 411 14 = nI pl := by rw [ml_Is, ml_un (by decide)]; exact h2
      have f15 : m_I (m_sI x 411 (ml_u (m_I x 411) 15 (nI pl))) 411 15 = nI pl := by rw [ml_Is, ml_us]
      generalize m_sI x 411 (ml_u (m_I x 411) 15 (nI pl)) = y at e2 f14 f15
      obtain ⟨-, gy, y13, yb⟩ := h.x e2
      rw [f14, y13]
      by_cases cN : pl = N
      · rw [if_pos cN] at hx
        obtain ⟨rfl, rfl, rfl⟩ := hx
        rw [if_pos (by rw [cN])]
        rintro μ33 rfl
        rw [ml_uI]
        refine hQ _ (e2.tr (dn_st ⟨by decide, by decide⟩)) ⟨fun _ => ?_, fun h => absurd h (by decide), fun h => absurd h (by decide), fun h => absurd h (by decide), fun h => absurd h (by decide), ?_, ?_⟩
        · rw [ml_Is, ml_us]; rfl
        · rw [ml_Is, ml_un (by decide)]; exact f15
        · rw [ml_Is, ml_un (by decide), f14, cN]
      have pN : pl < N := by omega
      have p3 : pl < 300 := by omega
      rw [if_neg cN] at hx
      rw [if_neg (fun e => cN ((nI_eq (by omega) (by omega)).mp e))]
      simp (disch := omega) only [sk_p411_0 gy, sk_p411_1 gy, sk_p411_2 gy, sk_p411_6 gy, sk_p411_7 gy, sk_p411_8 gy, sk_p411_9 gy, sk_p411_10 gy, sk_p411_11 gy, sk_p411_12 gy, sk_p411_22 gy, sk_p411_23 gy, sk_p411_25 gy, sk_p411_26 gy, sk_p411_30 gy, sk_p411_31 gy, sk_p411_32 gy, sk_p411_33 gy, sk_p411_35 gy, sk_p411_36 gy, sk_p411_37 gy, sk_p411_38 gy, sk_p411_39 gy, sk_p411_40 gy, sk_p411_42 gy, sk_p411_43 gy, sk_p411_44 gy, sk_p411_45 gy, sk_p411_46 gy, sk_k411 gy, sk_n411 gy, sk_k414 gy, sk_n414 gy, nI_clamp, vp_t, true_and, forall_eq, m_isLt (yb pl pN)]
      by_cases l : isL (b pl) = true
      · rw [if_pos l] at hx
        obtain ⟨⟨l1, l2, l3, l4⟩, hw⟩ := hx
        rw [if_pos l, if_neg (by decide)]
        have ll : ∀ j, j < a' - pl → 65 ≤ b (pl + j) ∧ b (pl + j) < 128 := fun j hj => by
          have := l3 (pl + j) (by omega) (by omega)
          unfold isL at this
          simp only [Bool.or_eq_true, Bool.and_eq_true, decide_eq_true_eq] at this
          omega
        have fin : ∀ (x : fw_M) (v : Int64), eqD DN ν x → m_I x 411 14 = nI a' → m_I x 411 15 = nI pl → (a' - pl ≤ 8 → v = lN (numR (ltR b pl (a' - pl)))) → p_X5_nextToken_L173 411 v (nI (a' - pl)) x Q := by
          intro x v g g14 g15 hv
          have hx' := h.x g
          unfold p_X5_nextToken_L173
          have en : ∀ u : Int32, (∃ w, w < 24 ∧ (s, t) = (1, w) ∧ u = nI (mW w)) ∨ ((s, t) = (4, 0) ∧ u = -1) → p_X5_nextToken_L189 411 411 u x Q := by
            intro u hu
            unfold p_X5_nextToken_L189
            refine ⟨sk_k411 hx'.2.1, ?_⟩
            rintro μ2 rfl
            rw [ml_uI, ml_Is, ml_us]
            have g5 := g.tr (dn_st (j := 17) (v := u) ⟨by decide, by decide⟩)
            have hx5 := h.x g5
            rcases hu with ⟨w, w1, w2, rfl⟩ | ⟨w2, rfl⟩
            · cases w2
              have mw := mW_lt t w1
              rw [if_pos (show 0 ≤ nI (mW t) from nI_le (a := 0) (Nat.zero_le _) (by omega))]
              unfold p_X5_nextToken_L205
              refine ⟨sk_k411 hx5.2.1, ?_⟩
              rintro μ3 rfl
              rw [ml_uI]
              refine hQ _ (g5.tr (dn_st ⟨by decide, by decide⟩)) ⟨fun _ => ?_, fun h => absurd h (by decide), fun _ => ⟨w1, ?_⟩, fun h => absurd h (by decide), fun h => absurd h (by decide), ?_, ?_⟩
              · rw [ml_Is, ml_us]; rfl
              · rw [ml_Is, ml_un (by decide), ml_Is, ml_us]
              · rw [ml_Is, ml_un (by decide), ml_Is, ml_un (by decide)]; exact g15
              · rw [ml_Is, ml_un (by decide), ml_Is, ml_un (by decide)]; exact g14
            · cases w2
              rw [if_neg (show ¬ (0 : Int32) ≤ -1 by decide)]
              unfold p_X5_nextToken_L205
              refine ⟨sk_k411 hx5.2.1, ?_⟩
              rintro μ3 rfl
              rw [ml_uI]
              refine hQ _ (g5.tr (dn_st ⟨by decide, by decide⟩)) ⟨fun h => absurd h (by decide), fun _ => Or.inl ?_, fun h => absurd h (by decide), fun h => absurd h (by decide), fun h => absurd h (by decide), ?_, ?_⟩
              · rw [ml_Is, ml_us]
              · rw [ml_Is, ml_un (by decide), ml_Is, ml_un (by decide)]; exact g15
              · rw [ml_Is, ml_un (by decide), ml_Is, ml_un (by decide)]; exact g14
          by_cases c8 : a' - pl ≤ 8
          · have n8 := numR_lt (b := b) (pl := pl) (a' - pl) ll
            have n9 : 64 ^ (a' - pl) ≤ 64 ^ 8 := Nat.pow_le_pow_right (by decide) c8
            rw [if_pos (show nI (a' - pl) ≤ 8 from nI_le (b := 8) c8 (by decide)), hv c8, m_wordOf0, gW_n (Nat.lt_of_lt_of_le n8 (Nat.le_trans n9 (by decide))), wd_num ll]
            refine en _ ?_
            rw [hw]
            unfold wdT
            cases hf : ff (fun w => decide (WD.getD w [] = ltr b pl (a' - pl))) 24 with
            | some w => exact Or.inl ⟨w, ff_lt hf, rfl, rfl⟩
            | none => exact Or.inr ⟨rfl, rfl⟩
          · rw [if_neg (show ¬ nI (a' - pl) ≤ 8 from fun h => c8 ((nI_leI (b := 8) (by omega) (by decide)).mp h))]
            exact en _ (Or.inr ⟨by rw [hw, wd_long (by omega)], rfl⟩)
        unfold p_X5_nextToken_L99
        refine lp_to (a' - pl) (fun k x => x.2.1 = nI k ∧ eqD DN ν x.2.2 ∧ m_I x.2.2 411 14 = nI (pl + k) ∧ m_I x.2.2 411 15 = nI pl ∧ (k ≤ 9 → x.1 = lN (numR (ltR b pl k)))) (fun k x hk hxk K hK => ?_) (fun x hxk K => ?_) ⟨rfl, e2, f14, f15, fun _ => rfl⟩
        · obtain ⟨v, i4, x⟩ := x
          obtain ⟨g0, g1, g14, g15, gv⟩ := hxk
          dsimp only at g0 g1 g14 g15 gv
          subst g0
          obtain ⟨-, gx, x13, xb⟩ := h.x g1
          have lk := l3 (pl + k) (by omega) (by omega)
          have hk3 : pl + k < 300 := by omega
          have bl := ll k hk
          have bx := (xb (pl + k) (by omega)).2.2.1 bl.2
          show p_X5_nextToken_L99b 411 (fun l2 i4 μ => K (l2, i4, μ)) v (nI k) x Q
          have nx : ∀ v', (k + 1 ≤ 9 → v' = lN (numR (ltR b pl (k + 1)))) → p_X5_nextToken_L156 (fun l2 i4 μ => K (l2, i4, μ)) 411 (nI k) v' x Q := by
            intro v' hv'
            unfold p_X5_nextToken_L156
            simp only [forall_eq, ml_uI, nI_1, g14]
            refine hK _ ⟨rfl, g1.tr (dn_st ⟨by decide, by decide⟩), ?_, ?_, hv'⟩
            · show m_I (m_sI x 411 _) 411 14 = _
              rw [ml_Is, ml_us]; rfl
            · show m_I (m_sI x 411 _) 411 15 = _
              rw [ml_Is, ml_un (by decide)]; exact g15
          unfold p_X5_nextToken_L99b
          rw [x13, g14, if_neg (nI_ge (show pl + k < N by omega) (by omega))]
          simp (disch := omega) only [sk_p411_0 gx, sk_p411_1 gx, sk_p411_2 gx, sk_p411_6 gx, sk_p411_7 gx, sk_p411_8 gx, sk_p411_9 gx, sk_p411_10 gx, sk_p411_11 gx, sk_p411_12 gx, sk_p411_22 gx, sk_p411_23 gx, sk_p411_25 gx, sk_p411_26 gx, sk_p411_30 gx, sk_p411_31 gx, sk_p411_32 gx, sk_p411_33 gx, sk_p411_35 gx, sk_p411_36 gx, sk_p411_37 gx, sk_p411_38 gx, sk_p411_39 gx, sk_p411_40 gx, sk_p411_42 gx, sk_p411_43 gx, sk_p411_44 gx, sk_p411_45 gx, sk_p411_46 gx, sk_k411 gx, sk_n411 gx, sk_k414 gx, sk_n414 gx, nI_clamp, vp_t, true_and, m_isLt (xb (pl + k) (by omega)), lk, if_true, e10, if_false, g14]
          by_cases c9 : 9 ≤ k
          · rw [if_pos (show (9 : Int32) ≤ nI k from nI_le (a := 9) c9 (by omega))]
            exact nx _ fun h => by omega
          · rw [if_neg (show ¬ (9 : Int32) ≤ nI k from fun h => c9 ((nI_leI (a := 9) (by decide) (by omega)).mp h)), gv (by omega), bx, nI_l (by omega)]
            refine nx _ fun _ => ?_
            rw [show (64 : Int64) = lN 64 from rfl, lN_mul, lN_add, lN_sub (by omega)]
            rfl
        · obtain ⟨v, i4, x⟩ := x
          obtain ⟨g0, g1, g14, g15, gv⟩ := hxk
          dsimp only at g0 g1 g14 g15 gv
          subst g0
          obtain ⟨-, gx, x13, xb⟩ := h.x g1
          rw [show pl + (a' - pl) = a' by omega] at g14
          have fn := fin x v g1 g14 g15 fun h => gv (by omega)
          show p_X5_nextToken_L99b 411 (fun l2 i4 μ => K (l2, i4, μ)) v (nI (a' - pl)) x Q
          unfold p_X5_nextToken_L99b
          rw [x13, g14]
          by_cases ce : N ≤ a'
          · rw [if_pos (nI_le ce (by omega))]
            exact fn
          · have ce3 : a' < 300 := by omega
            have nl : isL (b a') = false := by
              apply eq_false_of_ne_true
              exact fun h => l4 ⟨by omega, h⟩
            rw [if_neg (nI_ge (show a' < N by omega) (by omega))]
            simp (disch := omega) only [sk_p411_0 gx, sk_p411_1 gx, sk_p411_2 gx, sk_p411_6 gx, sk_p411_7 gx, sk_p411_8 gx, sk_p411_9 gx, sk_p411_10 gx, sk_p411_11 gx, sk_p411_12 gx, sk_p411_22 gx, sk_p411_23 gx, sk_p411_25 gx, sk_p411_26 gx, sk_p411_30 gx, sk_p411_31 gx, sk_p411_32 gx, sk_p411_33 gx, sk_p411_35 gx, sk_p411_36 gx, sk_p411_37 gx, sk_p411_38 gx, sk_p411_39 gx, sk_p411_40 gx, sk_p411_42 gx, sk_p411_43 gx, sk_p411_44 gx, sk_p411_45 gx, sk_p411_46 gx, sk_k411 gx, sk_n411 gx, sk_k414 gx, sk_n414 gx, nI_clamp, vp_t, true_and, m_isLt (xb a' (by omega)), nl, Bool.false_eq_true, if_false, if_true]
            exact fn
      rw [if_neg l] at hx
      rw [if_neg l, if_pos rfl]
      have bx := yb pl pN
      have d57 : inB (m_I y 414 pl) 48 57 ↔ isD (b pl) = true := by
        rw [show (48 : Int32) = nI 48 from rfl, show (57 : Int32) = nI 57 from rfl, bt_in bx (by decide) (by decide)]
        unfold isD
        rw [Bool.and_eq_true, decide_eq_true_eq, decide_eq_true_eq]
      rw [m_in]
      by_cases d : isD (b pl) = true
      · rw [if_pos d] at hx
        obtain ⟨⟨d1, d2, d3, d4⟩, rfl, rfl⟩ := hx
        rw [if_pos (d57.mpr d), if_neg (by decide)]
        try simp only [forall_eq]
        simp only [ml_uI]
        unfold p_X5_nextToken_L232
        refine lp_to (a' - pl) (fun k x => eqD DN ν x ∧ m_I x 411 14 = nI (pl + k) ∧ m_I x 411 15 = nI pl ∧ m_I x 411 16 = 2 ∧ ∃ v, v ≤ 999999 ∧ m_I x 411 17 = nI v ∧ min 100000 v = nuv b pl k) (fun k x hk hxk K hK => ?_) (fun x hxk K => ?_) ⟨(e2.tr (dn_st ⟨by decide, by decide⟩)).tr (dn_st ⟨by decide, by decide⟩), ?_, ?_, ?_, 0, by decide, ?_, rfl⟩
        · obtain ⟨g1, g14, g15, g16, v, v1, g17, v2⟩ := hxk
          obtain ⟨-, gx, x13, xb⟩ := h.x g1
          have hk3 : pl + k < 300 := by omega
          have dk := d3 (pl + k) (by omega) (by omega)
          have bk := xb (pl + k) (by omega)
          have c57 : inB (m_I x 414 (pl + k)) 48 57 ↔ isD (b (pl + k)) = true := by
            rw [show (48 : Int32) = nI 48 from rfl, show (57 : Int32) = nI 57 from rfl, bt_in bk (by decide) (by decide)]
            unfold isD
            rw [Bool.and_eq_true, decide_eq_true_eq, decide_eq_true_eq]
          have b48 : 48 ≤ b (pl + k) ∧ b (pl + k) ≤ 57 := by
            unfold isD at dk
            rw [Bool.and_eq_true, decide_eq_true_eq, decide_eq_true_eq] at dk
            exact dk
          have nn : nuv b pl (k + 1) = min 100000 (10 * nuv b pl k + b (pl + k) - 48) := rfl
          have nx : ∀ v', v' ≤ 999999 → min 100000 v' = nuv b pl (k + 1) → p_X5_nextToken_L299 (fun μ => K μ) 411 411 (nI v') x Q := by
            intro v' w1 w2
            unfold p_X5_nextToken_L299
            refine ⟨sk_k411 gx, ?_⟩
            simp only [forall_eq, ml_uI]
            refine hK _ ⟨(g1.tr (dn_st ⟨by decide, by decide⟩)).tr (dn_st ⟨by decide, by decide⟩), ?_, ?_, ?_, v', w1, ?_, w2⟩
            · rw [ml_Is, ml_us, ml_Is, ml_un (by decide), g14, nI_1]; rfl
            · rw [ml_Is, ml_un (by decide), ml_Is, ml_un (by decide)]; exact g15
            · rw [ml_Is, ml_un (by decide), ml_Is, ml_un (by decide)]; exact g16
            · rw [ml_Is, ml_un (by decide), ml_Is, ml_us]
          show p_X5_nextToken_L232b 411 (fun μ => K μ) x Q
          unfold p_X5_nextToken_L232b
          rw [x13, g14, if_neg (nI_ge (show pl + k < N by omega) (by omega))]
          simp (disch := omega) only [sk_p411_0 gx, sk_p411_1 gx, sk_p411_2 gx, sk_p411_6 gx, sk_p411_7 gx, sk_p411_8 gx, sk_p411_9 gx, sk_p411_10 gx, sk_p411_11 gx, sk_p411_12 gx, sk_p411_22 gx, sk_p411_23 gx, sk_p411_25 gx, sk_p411_26 gx, sk_p411_30 gx, sk_p411_31 gx, sk_p411_32 gx, sk_p411_33 gx, sk_p411_35 gx, sk_p411_36 gx, sk_p411_37 gx, sk_p411_38 gx, sk_p411_39 gx, sk_p411_40 gx, sk_p411_42 gx, sk_p411_43 gx, sk_p411_44 gx, sk_p411_45 gx, sk_p411_46 gx, sk_k411 gx, sk_n411 gx, sk_k414 gx, sk_n414 gx, nI_clamp, vp_t, true_and, m_in, if_pos (c57.mpr dk), e10, if_false, g14, g17]
          by_cases c5 : v ≤ 99999
          · rw [if_pos (show nI v ≤ 99999 from nI_le (b := 99999) c5 (by decide)), bk.2.2.1 (by omega)]
            rw [show ((10 : Int32) * nI v + nI (b (pl + k)) - 48 : Int32) = nI (10 * v + b (pl + k) - 48) by rw [li_10, pk_mul, nI_add, show (48 : Int32) = nI 48 from rfl, pk_sub (by omega)]]
            exact nx _ (by omega) (by rw [nn]; omega)
          · rw [if_neg (show ¬ nI v ≤ 99999 from fun h => c5 ((nI_leI (b := 99999) (by omega) (by decide)).mp h))]
            exact nx _ v1 (by rw [nn]; omega)
        · obtain ⟨g1, g14, g15, g16, v, v1, g17, v2⟩ := hxk
          obtain ⟨-, gx, x13, xb⟩ := h.x g1
          rw [show pl + (a' - pl) = a' by omega] at g14
          have fn : Q x := hQ x g1 ⟨fun _ => g16, fun h => absurd h (by decide), fun h => absurd h (by decide), fun h => absurd h (by decide), fun _ => ⟨v, by omega, g17, v2⟩, g15, g14⟩
          show p_X5_nextToken_L232b 411 (fun μ => K μ) x Q
          unfold p_X5_nextToken_L232b
          rw [x13, g14]
          by_cases ce : N ≤ a'
          · rw [if_pos (nI_le ce (by omega))]
            exact fn
          · have ce3 : a' < 300 := by omega
            have bk := xb a' (by omega)
            have nd : ¬ inB (m_I x 414 a') 48 57 := by
              rw [show (48 : Int32) = nI 48 from rfl, show (57 : Int32) = nI 57 from rfl, bt_in bk (by decide) (by decide)]
              intro h
              refine d4 ⟨by omega, ?_⟩
              unfold isD
              rw [Bool.and_eq_true, decide_eq_true_eq, decide_eq_true_eq]
              exact h
            rw [if_neg (nI_ge (show a' < N by omega) (by omega))]
            simp (disch := omega) only [sk_p411_0 gx, sk_p411_1 gx, sk_p411_2 gx, sk_p411_6 gx, sk_p411_7 gx, sk_p411_8 gx, sk_p411_9 gx, sk_p411_10 gx, sk_p411_11 gx, sk_p411_12 gx, sk_p411_22 gx, sk_p411_23 gx, sk_p411_25 gx, sk_p411_26 gx, sk_p411_30 gx, sk_p411_31 gx, sk_p411_32 gx, sk_p411_33 gx, sk_p411_35 gx, sk_p411_36 gx, sk_p411_37 gx, sk_p411_38 gx, sk_p411_39 gx, sk_p411_40 gx, sk_p411_42 gx, sk_p411_43 gx, sk_p411_44 gx, sk_p411_45 gx, sk_p411_46 gx, sk_k411 gx, sk_n411 gx, sk_k414 gx, sk_n414 gx, nI_clamp, vp_t, true_and, m_in, if_neg nd, if_true]
            exact fn
        · rw [ml_Is, ml_un (by decide), ml_Is, ml_un (by decide)]; exact f14
        · rw [ml_Is, ml_un (by decide), ml_Is, ml_un (by decide)]; exact f15
        · rw [ml_Is, ml_un (by decide), ml_Is, ml_us]
        · rw [ml_Is, ml_us]; rfl
      rw [if_neg d] at hx
      rw [if_neg (fun h => d (d57.mp h)), if_pos rfl]
      try simp only [forall_eq]
      simp only [ml_uI, f14, nI_1]
      have e3 := (e2.tr (dn_st (j := 14) (v := nI (pl + 1)) ⟨by decide, by decide⟩)).tr (dn_st (j := 17) (v := m_I y 414 pl) ⟨by decide, by decide⟩)
      have k14 : m_I (m_sI (m_sI y 411 (ml_u (m_I y 411) 14 (nI (pl + 1)))) 411 (ml_u (m_I (m_sI y 411 (ml_u (m_I y 411) 14 (nI (pl + 1)))) 411) 17 (m_I y 414 pl))) 411 14 = nI (pl + 1) := by rw [ml_Is, ml_un (by decide), ml_Is, ml_us]
      have k15 : m_I (m_sI (m_sI y 411 (ml_u (m_I y 411) 14 (nI (pl + 1)))) 411 (ml_u (m_I (m_sI y 411 (ml_u (m_I y 411) 14 (nI (pl + 1)))) 411) 17 (m_I y 414 pl))) 411 15 = nI pl := by rw [ml_Is, ml_un (by decide), ml_Is, ml_un (by decide)]; exact f15
      have k17 : m_I (m_sI (m_sI y 411 (ml_u (m_I y 411) 14 (nI (pl + 1)))) 411 (ml_u (m_I (m_sI y 411 (ml_u (m_I y 411) 14 (nI (pl + 1)))) 411) 17 (m_I y 414 pl))) 411 17 = m_I y 414 pl := by rw [ml_Is, ml_us]
      generalize m_sI (m_sI y 411 (ml_u (m_I y 411) 14 (nI (pl + 1)))) 411 (ml_u (m_I (m_sI y 411 (ml_u (m_I y 411) 14 (nI (pl + 1)))) 411) 17 (m_I y 414 pl)) = w at e3 k14 k15 k17
      have hb8 := bx.1
      generalize m_I y 414 pl = X at bx k17
      have go : ∀ u : Int32, (u = 3 ∧ (isG (b pl) = true ∨ b pl = 44)) ∨ (u = 4 ∧ ¬ isG (b pl) = true) → p_X5_nextToken_L370 411 X 411 u w Q := by
        intro u hu
        have hw := h.x e3
        unfold p_X5_nextToken_L370
        refine ⟨sk_k411 hw.2.1, ?_⟩
        rintro μ2 rfl
        rw [ml_uI]
        have e4 := e3.tr (dn_st (j := 16) (v := u) ⟨by decide, by decide⟩)
        have j14 : m_I (m_sI w 411 (ml_u (m_I w 411) 16 u)) 411 14 = nI (pl + 1) := by rw [ml_Is, ml_un (by decide)]; exact k14
        have j15 : m_I (m_sI w 411 (ml_u (m_I w 411) 16 u)) 411 15 = nI pl := by rw [ml_Is, ml_un (by decide)]; exact k15
        have j16 : m_I (m_sI w 411 (ml_u (m_I w 411) 16 u)) 411 16 = u := by rw [ml_Is, ml_us]
        have j17 : m_I (m_sI w 411 (ml_u (m_I w 411) 16 u)) 411 17 = X := by rw [ml_Is, ml_un (by decide)]; exact k17
        generalize m_sI w 411 (ml_u (m_I w 411) 16 u) = o at e4 j14 j15 j16 j17
        obtain ⟨-, go, o13, ob⟩ := h.x e4
        have plain : ¬ ((b pl = 60 ∨ b pl = 62) ∧ pl + 1 < N ∧ b (pl + 1) = 61) → Q o := by
          intro c
          rw [if_neg c] at hx
          obtain ⟨rfl, hst⟩ := hx
          refine hQ o e4 ?_
          by_cases g : isG (b pl) = true
          · rw [if_pos g] at hst
            cases hst
            rcases hu with ⟨rfl, -⟩ | ⟨-, hu⟩
            · have b8 : b pl < 128 := by
                unfold isG at g
                simp only [Bool.or_eq_true, decide_eq_true_eq] at g
                omega
              exact ⟨fun _ => j16, fun h => absurd h (by decide), fun h => absurd h (by decide), fun _ => ⟨by omega, by rintro e; rw [e] at g; revert g; decide, j17.trans ((bt_eq bx b8).mpr rfl)⟩, fun h => absurd h (by decide), j15, j14⟩
            · exact absurd g hu
          · rw [if_neg g] at hst
            cases hst
            refine ⟨fun h => absurd h (by decide), fun _ => ?_, fun h => absurd h (by decide), fun h => absurd h (by decide), fun h => absurd h (by decide), j15, j14⟩
            rcases hu with ⟨rfl, hu | hu⟩ | ⟨rfl, -⟩
            · exact absurd hu g
            · exact Or.inr ⟨j16, j17.trans ((bt_eq (c := 44) bx (by decide)).mpr hu)⟩
            · exact Or.inl j16
        have two : (b pl = 60 ∨ b pl = 62) → p_X5_nextToken_L385 411 X o Q := by
          intro c
          have u3 : u = 3 := by
            rcases hu with ⟨rfl, -⟩ | ⟨-, hu⟩
            · rfl
            · exfalso
              refine hu ?_
              unfold isG
              simp only [Bool.or_eq_true, decide_eq_true_eq]
              omega
          subst u3
          unfold p_X5_nextToken_L385
          rw [o13, j14]
          by_cases c2 : pl + 1 < N
          · have c23 : pl + 1 < 300 := by omega
            have b1 := ob (pl + 1) c2
            rw [if_neg (nI_ge c2 (by omega))]
            simp (disch := omega) only [sk_p411_0 go, sk_p411_1 go, sk_p411_2 go, sk_p411_6 go, sk_p411_7 go, sk_p411_8 go, sk_p411_9 go, sk_p411_10 go, sk_p411_11 go, sk_p411_12 go, sk_p411_22 go, sk_p411_23 go, sk_p411_25 go, sk_p411_26 go, sk_p411_30 go, sk_p411_31 go, sk_p411_32 go, sk_p411_33 go, sk_p411_35 go, sk_p411_36 go, sk_p411_37 go, sk_p411_38 go, sk_p411_39 go, sk_p411_40 go, sk_p411_42 go, sk_p411_43 go, sk_p411_44 go, sk_p411_45 go, sk_p411_46 go, sk_k411 go, sk_n411 go, sk_k414 go, sk_n414 go, nI_clamp, vp_t, true_and]
            by_cases c3 : b (pl + 1) = 61
            · rw [if_pos ⟨c, c2, c3⟩] at hx
              obtain ⟨rfl, rfl, rfl⟩ := hx
              rw [if_pos (show m_I o 414 (pl + 1) = 61 from (bt_eq (c := 61) b1 (by decide)).mpr c3)]
              have l426 : ∀ u t', u = nI t' → t' = (if b pl = 60 then 300 else 301) → p_X5_nextToken_L426 411 411 u o Q := by
                rintro u t' rfl rfl
                unfold p_X5_nextToken_L426
                refine ⟨sk_k411 go, ?_⟩
                simp only [forall_eq, ml_uI]
                refine hQ _ ((e4.tr (dn_st ⟨by decide, by decide⟩)).tr (dn_st ⟨by decide, by decide⟩)) ⟨fun _ => ?_, fun h => absurd h (by decide), fun h => absurd h (by decide), fun _ => ⟨by split <;> decide, by split <;> decide, ?_⟩, fun h => absurd h (by decide), ?_, ?_⟩
                · rw [ml_Is, ml_un (by decide), ml_Is, ml_un (by decide)]; exact j16
                · rw [ml_Is, ml_un (by decide), ml_Is, ml_us]
                · rw [ml_Is, ml_un (by decide), ml_Is, ml_un (by decide)]; exact j15
                · rw [ml_Is, ml_us, ml_Is, ml_un (by decide), j14, nI_1]
              by_cases c60 : b pl = 60
              · rw [if_pos (show X = 60 from (bt_eq (c := 60) bx (by decide)).mpr c60)]
                exact l426 300 300 rfl (by rw [if_pos c60])
              · rw [if_neg (show ¬ X = 60 from fun e => c60 ((bt_eq (c := 60) bx (by decide)).mp e))]
                exact l426 301 301 rfl (by rw [if_neg c60])
            · rw [if_neg (show ¬ m_I o 414 (pl + 1) = 61 from fun e => c3 ((bt_eq (c := 61) b1 (by decide)).mp e))]
              exact plain fun h => c3 h.2.2
          · rw [if_pos (nI_le (by omega) (by omega))]
            exact plain fun h => c2 h.2.1
        by_cases c60 : b pl = 60
        · rw [if_pos (show X = 60 from (bt_eq (c := 60) bx (by decide)).mpr c60)]
          exact two (Or.inl c60)
        · rw [if_neg (show ¬ X = 60 from fun e => c60 ((bt_eq (c := 60) bx (by decide)).mp e))]
          by_cases c62 : b pl = 62
          · rw [if_pos (show X = 62 from (bt_eq (c := 62) bx (by decide)).mpr c62)]
            exact two (Or.inr c62)
          · rw [if_neg (show ¬ X = 62 from fun e => c62 ((bt_eq (c := 62) bx (by decide)).mp e))]
            exact plain fun h => h.1.elim c60 c62
      have g1 : inB X 59 62 ↔ 59 ≤ b pl ∧ b pl ≤ 62 := bt_in (lo := 59) (hi := 62) bx (by decide) (by decide)
      have g2 : inB X 40 45 ↔ 40 ≤ b pl ∧ b pl ≤ 45 := bt_in (lo := 40) (hi := 45) bx (by decide) (by decide)
      have gi : isG (b pl) = true ↔ b pl = 35 ∨ b pl = 40 ∨ b pl = 41 ∨ b pl = 42 ∨ b pl = 43 ∨ b pl = 45 ∨ b pl = 47 ∨ b pl = 59 ∨ b pl = 60 ∨ b pl = 61 ∨ b pl = 62 := by
        unfold isG
        simp only [Bool.or_eq_true, decide_eq_true_eq]
        omega
      have g65 : (isG (b pl) = true ∨ b pl = 44) → p_X5_nextToken_L365 411 X 411 w Q := fun e => go 3 (Or.inl ⟨rfl, e⟩)
      rw [m_in]
      by_cases c1 : inB X 59 62
      · rw [if_pos c1, if_neg (by decide)]
        exact g65 (Or.inl (gi.mpr (by have := g1.mp c1; omega)))
      · rw [if_neg c1, if_pos rfl, m_in]
        by_cases c2 : inB X 40 45
        · rw [if_pos c2, if_neg (by decide)]
          exact g65 (by rw [gi]; have := g2.mp c2; omega)
        · rw [if_neg c2, if_pos rfl]
          by_cases c3 : b pl = 47
          · rw [if_pos (show X = 47 from (bt_eq (c := 47) bx (by decide)).mpr c3)]
            exact g65 (Or.inl (gi.mpr (by omega)))
          · rw [if_neg (show ¬ X = 47 from fun e => c3 ((bt_eq (c := 47) bx (by decide)).mp e))]
            by_cases c4 : b pl = 35
            · rw [if_pos (show X = 35 from (bt_eq (c := 35) bx (by decide)).mpr c4)]
              exact g65 (Or.inl (gi.mpr (by omega)))
            · rw [if_neg (show ¬ X = 35 from fun e => c4 ((bt_eq (c := 35) bx (by decide)).mp e))]
              refine go 4 (Or.inr ⟨rfl, fun e => ?_⟩)
              have := gi.mp e
              rw [g1] at c1
              rw [g2] at c2
              omega
    show p_X5_nextToken_L0b 411 (fun μ => K μ) x Q
    unfold p_X5_nextToken_L0b
    rw [h13, h2]
    by_cases cN : N ≤ pl
    · rw [if_pos (nI_le cN (by omega))]
      exact key
    · have p3 : pl < 300 := by omega
      have be := hb pl (by omega)
      rw [if_neg (nI_ge (show pl < N by omega) (by omega))]
      simp (disch := omega) only [sk_p411_0 gs, sk_p411_1 gs, sk_p411_2 gs, sk_p411_6 gs, sk_p411_7 gs, sk_p411_8 gs, sk_p411_9 gs, sk_p411_10 gs, sk_p411_11 gs, sk_p411_12 gs, sk_p411_22 gs, sk_p411_23 gs, sk_p411_25 gs, sk_p411_26 gs, sk_p411_30 gs, sk_p411_31 gs, sk_p411_32 gs, sk_p411_33 gs, sk_p411_35 gs, sk_p411_36 gs, sk_p411_37 gs, sk_p411_38 gs, sk_p411_39 gs, sk_p411_40 gs, sk_p411_42 gs, sk_p411_43 gs, sk_p411_44 gs, sk_p411_45 gs, sk_p411_46 gs, sk_k411 gs, sk_n411 gs, sk_k414 gs, sk_n414 gs, nI_clamp, vp_t, true_and]
      rw [if_neg (show ¬ m_I x 414 pl = 32 from fun q => by
        have := (bt_eq (c := 32) be (by decide)).mp q
        exact r4 ⟨by omega, by rw [this]; rfl⟩), if_neg (show ¬ m_I x 414 pl = 10 from fun q => by
        have := (bt_eq (c := 10) be (by decide)).mp q
        exact r4 ⟨by omega, by rw [this]; rfl⟩)]
      exact key
end NM
