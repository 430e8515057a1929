/-! plain law: text, the class's words -/
theorem nar_h : ∀ c, c < 128 → (nI c).toUInt32.toUInt16.toUInt32.toInt32 = nI c := by decide +kernel
section WO
variable {L : Nat} {xs : Nat → Int32} {z : Nat → Nat} {ν : fw_M}
theorem old_s (ho : iv_old L xs z ν) {w : Nat} (hw : w < 24) : m_K ν (4 + w) = 152 ∧ m_P ν (4 + w) 0 = 28 + w ∧ m_K ν (28 + w) = 153 ∧ m_N ν (28 + w) = st_len.getD w 0 ∧ ∀ j, m_I ν (28 + w) j = (st_byt.getD w []).getD j 0 := by
  obtain ⟨a1, a2, a3⟩ := ho (4 + w) (by omega)
  obtain ⟨b1, b2, b3⟩ := ho (28 + w) (by omega)
  have s1 : m_S (st_M L xs z) (4 + w) = (152, 0) := by
    show (if 4 + w = 1 then _ else if 4 + w = 2 ∨ 4 + w = 3 then _ else if 4 ≤ 4 + w ∧ 4 + w < 28 then _ else _) = _
    rw [if_neg (by omega), if_neg (by omega), if_pos (by omega)]
  have s2 : m_S (st_M L xs z) (28 + w) = (153, st_len.getD w 0) := by
    show (if 28 + w = 1 then _ else if 28 + w = 2 ∨ 28 + w = 3 then _ else if 4 ≤ 28 + w ∧ 28 + w < 28 then _ else if 28 ≤ 28 + w ∧ 28 + w < 52 then (153, st_len.getD (28 + w - 28) 0) else _) = _
    rw [if_neg (by omega), if_neg (by omega), if_neg (by omega), if_pos (by omega), show 28 + w - 28 = w by omega]
  refine ⟨?_, ?_, ?_, ?_, fun j => ?_⟩
  · exact congrArg Prod.fst (a1.trans s1)
  · rw [a3]
    show (if 4 + w = 2 then _ else if 4 + w = 3 then _ else if 4 ≤ 4 + w ∧ 4 + w < 28 then 4 + w + 24 else _) = _
    rw [if_neg (by omega), if_neg (by omega), if_pos (by omega)]
    omega
  · exact congrArg Prod.fst (b1.trans s2)
  · exact congrArg Prod.snd (b1.trans s2)
  · rw [b2]
    show (if 28 + w = 1 then _ else if 28 ≤ 28 + w ∧ 28 + w < 52 then (st_byt.getD (28 + w - 28) []).getD j 0 else _) = _
    rw [if_neg (by omega), if_pos (by omega), show 28 + w - 28 = w by omega]
theorem old_a (ho : iv_old L xs z ν) {r base w : Nat} (hr : (r = 2 ∧ base = 0) ∨ (r = 3 ∧ base = 12)) (hw : w < 12) : m_K ν r = 151 ∧ m_N ν r = 12 ∧ m_P ν r w = 4 + (base + w) := by
  rcases hr with ⟨rfl, rfl⟩ | ⟨rfl, rfl⟩
  · obtain ⟨a1, a2, a3⟩ := ho 2 (by decide)
    exact ⟨congrArg Prod.fst a1, congrArg Prod.snd a1, by rw [a3]; show 4 + w = _; omega⟩
  · obtain ⟨a1, a2, a3⟩ := ho 3 (by decide)
    exact ⟨congrArg Prod.fst a1, congrArg Prod.snd a1, by rw [a3]; show 16 + w = _; omega⟩
theorem s_length (ho : iv_old L xs z ν) {w : Nat} (hw : w < 24) {Q : Int32 → fw_M → Prop} : p_J1_length (4 + w) ν Q = Q (nI (st_len.getD w 0)) ν := by
  obtain ⟨h1, h2, h3, h4, h5⟩ := old_s ho hw
  have t1 : (0 < 4 + w ∧ 4 + w < 64) = True := eq_true (by omega)
  have t2 : (0 < 28 + w ∧ 28 + w < 64) = True := eq_true (by omega)
  unfold p_J1_length p_J1_coder
  simp only [h2, h3, h4, t1, t2, e10, if_false, true_and, (WD_len w hw).2.2.2]
theorem s_charAt (ho : iv_old L xs z ν) {w : Nat} (hw : w < 24) {j : Nat} (hj : j < st_len.getD w 0) {Q : Int32 → fw_M → Prop} : p_J1_charAt (4 + w) (nI j) ν Q = Q (nI ((WD.getD w []).getD j 0)) ν := by
  obtain ⟨h1, h2, h3, h4, h5⟩ := old_s ho hw
  have h8 := (WD_len w hw).2.1
  obtain ⟨c1, c2⟩ := WD_chr w hw j hj
  have t1 : (0 < 4 + w ∧ 4 + w < 64) = True := eq_true (by omega)
  have t2 : (0 < 28 + w ∧ 28 + w < 64) = True := eq_true (by omega)
  have t3 : ¬ nI j < 0 := nI_pos (by omega)
  have t4 : nI j < Int32.ofNat (st_len.getD w 0) := nI_lt hj (by omega)
  have t5 : (narrow .char (.int (nI ((WD.getD w []).getD j 0))) = .int (nI ((WD.getD w []).getD j 0))) = True := by
    refine eq_true ?_
    show Value.int (nI ((WD.getD w []).getD j 0)).toUInt32.toUInt16.toUInt32.toInt32 = _
    rw [nar_h _ c2]
  unfold p_J1_charAt p_J1_isLatin1 p_J2_charAt p_J1_checkIndex p_J3_checkIndex
  simp only [h2, h3, h4, t1, t2, e10, e00, if_false, if_true, true_and, if_neg t3, if_pos t4, nI_clamp (show j < 2 ^ 31 by omega), h5, c1, t5, vp_t hj (by omega)]
variable {b : Nat → Nat} {N q a pl : Nat}
theorem s_wordOf (ho : iv_old L xs z ν) (h : tpS b N q ν) (hq : 64 ≤ q) (ha : m_I ν q 2 = nI a) (hp : m_I ν q 3 = nI pl) (hpa : pl ≤ a) (haN : a ≤ N) (hl : ∀ j, pl ≤ j → j < a → b j < 128) {r base : Nat} (hr : (r = 2 ∧ base = 0) ∨ (r = 3 ∧ base = 12)) {Q : Int32 → fw_M → Prop} (hQ : Q (match ff (fun w => decide (WD.getD (base + w) [] = ltr b pl (a - pl))) 12 with | some w => nI w | none => -1) ν) : p_X6_wordOf q r ν Q := by
  obtain ⟨a1, a2, a3, a4, a5, a6, a7⟩ := h
  have hb12 : base ≤ 12 := by omega
  have r64 : (0 < r ∧ r < 64) = True := eq_true (by omega)
  unfold p_X6_wordOf p_X6_wordOf_L2
  generalize hP : (fun w => decide (WD.getD (base + w) [] = ltr b pl (a - pl))) = P at hQ
  have hPw : ∀ w, P w = decide (WD.getD (base + w) [] = ltr b pl (a - pl)) := fun w => by rw [← hP]
  refine lp_to 12 (fun w (x : Int32 × fw_M) => x = (nI w, ν) ∧ ff P w = none) (fun w x hw hx K hK => ?_) (fun x hx K => ?_) ⟨rfl, rfl⟩
  · obtain ⟨rfl, hx⟩ := hx
    show p_X6_wordOf_L2b q r (fun i2 μ => K (i2, μ)) (nI w) ν Q
    obtain ⟨o1, o2, o3⟩ := old_a ho hr hw
    have hw24 : base + w < 24 := by omega
    obtain ⟨s1, s2, s3, s4, s5⟩ := old_s ho hw24
    obtain ⟨l1, l2, l3, -⟩ := WD_len (base + w) hw24
    have t1 : (0 < 4 + (base + w) ∧ 4 + (base + w) < 64) = True := eq_true (by omega)
    have yes : P w = true → Q (nI w) ν := fun e => by
      rw [ff_st hx e hw] at hQ
      exact hQ
    have no : P w = false → K (nI (w + 1), ν) := fun e => hK _ ⟨rfl, ff_nx hx (by rw [e]; decide)⟩
    have cm := ltr_eq (A := WD.getD (base + w) []) (b := b) (pl := pl) (k := a - pl)
    rw [hPw] at yes no
    have L85n : decide (WD.getD (base + w) [] = ltr b pl (a - pl)) = false → p_X6_wordOf_L85 (fun i2 μ => K (i2, μ)) q r (nI w) 0 ν Q := fun e => by
      unfold p_X6_wordOf_L85
      rw [if_pos rfl]
      simp only [forall_eq, nI_1]
      exact no e
    unfold p_X6_wordOf_L2b
    simp (disch := omega) only [o1, o2, r64, true_and, show (Int32.ofNat 12 : Int32) = nI 12 from rfl, nI_leI, Nat.not_le.mpr hw, if_false, nI_clamp, vp_t, o3, s1, t1, s_length ho hw24, ha, hp]
    rw [pk_sub hpa]
    by_cases len : st_len.getD (base + w) 0 = a - pl
    · rw [len, if_pos rfl]
      unfold p_X6_wordOf_L35
      refine lp_to (a - pl) (fun j (x : Int32 × Int32 × fw_M) => x.2.1 = nI j ∧ x.2.2 = ν ∧ ((x.1 = 1 ∧ ∀ i, i < j → (WD.getD (base + w) []).getD i 0 = b (pl + i)) ∨ (x.1 = 0 ∧ ∃ i, i < j ∧ ¬ (WD.getD (base + w) []).getD i 0 = b (pl + i)))) (fun j x hj hx2 K2 hK2 => ?_) (fun x hx2 K2 => ?_) ⟨rfl, rfl, Or.inl ⟨rfl, fun i hi => absurd hi (Nat.not_lt_zero _)⟩⟩
      · obtain ⟨i3, i4, ν2⟩ := x
        obtain ⟨b1, b2, b3⟩ := hx2
        dsimp only at b1 b2 b3
        subst b1 b2
        show p_X6_wordOf_L35b (fun i2 μ => K (i2, μ)) q r (nI w) (fun i3 i4 μ => K2 (i3, i4, μ)) i3 (nI j) ν2 Q
        unfold p_X6_wordOf_L35b
        simp (disch := omega) only [o1, o2, r64, true_and, nI_clamp, vp_t, o3, s1, t1, s_length ho hw24, len, nI_leI, Nat.not_le.mpr hj, if_false]
        rcases b3 with ⟨rfl, h1⟩ | ⟨rfl, i, h1, h2⟩
        · rw [if_neg (by decide)]
          have hbl := hl (pl + j) (by omega) (by omega)
          have x1 := (a7 (pl + j) (by omega)).2.2.1 hbl
          simp (disch := omega) only [hp, nI_add, a3, a5, a6, nI_clamp, vp_t, true_and, s_charAt ho hw24 (show j < st_len.getD (base + w) 0 by omega), x1]
          have c2 := (WD_chr (base + w) hw24 j (by omega)).2
          by_cases e : (WD.getD (base + w) []).getD j 0 = b (pl + j)
          · rw [e, if_pos rfl]
            simp only [forall_eq, nI_1]
            refine hK2 _ ⟨rfl, rfl, Or.inl ⟨rfl, fun i hi => ?_⟩⟩
            by_cases ee : i = j
            · rw [ee]; exact e
            · exact h1 i (by omega)
          · rw [if_neg (fun h => e ((nI_eq (by omega) (by omega)).mp h).symm)]
            simp only [forall_eq, nI_1]
            exact hK2 _ ⟨rfl, rfl, Or.inr ⟨rfl, j, by omega, e⟩⟩
        · rw [if_pos rfl]
          exact L85n (decide_eq_false fun h => h2 ((cm.mp h).2 i (by omega)))
      · obtain ⟨i3, i4, ν2⟩ := x
        obtain ⟨b1, b2, b3⟩ := hx2
        dsimp only at b1 b2 b3
        subst b1 b2
        show p_X6_wordOf_L35b (fun i2 μ => K (i2, μ)) q r (nI w) (fun i3 i4 μ => K2 (i3, i4, μ)) i3 (nI (a - pl)) ν2 Q
        unfold p_X6_wordOf_L35b
        simp (disch := omega) only [o1, o2, r64, true_and, nI_clamp, vp_t, o3, s1, t1, s_length ho hw24, len, nI_leI, Nat.le_refl, if_true]
        rcases b3 with ⟨rfl, h1⟩ | ⟨rfl, i, h1, h2⟩
        · unfold p_X6_wordOf_L85
          rw [if_neg (by decide)]
          exact yes (decide_eq_true (cm.mpr ⟨by omega, h1⟩))
        · exact L85n (decide_eq_false fun h => h2 ((cm.mp h).2 i (by omega)))
    · rw [if_neg (fun h => len ((nI_eq (by omega) (by omega)).mp h))]
      have nn : decide (WD.getD (base + w) [] = ltr b pl (a - pl)) = false := decide_eq_false fun h => len (by have := (cm.mp h).1; omega)
      unfold p_X6_wordOf_L35
      refine lp_to 0 (fun j (x : Int32 × Int32 × fw_M) => x = (0, 0, ν)) (fun j x hj => absurd hj (Nat.not_lt_zero _)) (fun x hx2 K2 => ?_) rfl
      subst hx2
      show p_X6_wordOf_L35b (fun i2 μ => K (i2, μ)) q r (nI w) (fun i3 i4 μ => K2 (i3, i4, μ)) 0 (nI 0) ν Q
      unfold p_X6_wordOf_L35b
      simp (disch := omega) only [o1, o2, r64, true_and, nI_clamp, vp_t, o3, s1, t1, s_length ho hw24, nI_leI, if_true]
      rw [if_neg (by omega)]
      exact L85n nn
  · obtain ⟨rfl, hx⟩ := hx
    show p_X6_wordOf_L2b q r (fun i2 μ => K (i2, μ)) (nI 12) ν Q
    obtain ⟨o1, o2, -⟩ := old_a ho hr (w := 0) (by decide)
    unfold p_X6_wordOf_L2b
    rw [o1, o2, r64]
    rw [hx] at hQ
    simp only [true_and, show (Int32.ofNat 12 : Int32) ≤ nI 12 by decide, if_true]
    exact hQ
end WO
