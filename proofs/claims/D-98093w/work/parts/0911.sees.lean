/-! plain law: text, the class's tokens -/
theorem in_n {c lo hi : Nat} (hc : c < 2 ^ 31) (h1 : lo < 2 ^ 31) (h2 : hi < 2 ^ 31) : inB (nI c) (nI lo) (nI hi) ↔ lo ≤ c ∧ c ≤ hi := by
  unfold inB
  rw [Int32.lt_iff_toInt_lt, Int32.lt_iff_toInt_lt, nI_toInt hc, nI_toInt h1, nI_toInt h2]
  omega
def bt (b : Nat → Nat) (x : Int32) (i : Nat) : Prop := b i < 256 ∧ (x &&& 255) = nI (b i) ∧ (b i < 128 → x = nI (b i)) ∧ (128 ≤ b i → x < 0)
/-- the class's reader at q, on its tape -/
def tpS (b : Nat → Nat) (N q : Nat) (ν : fw_M) : Prop := N ≤ 300 ∧ m_K ν q = 7 ∧ m_P ν q 0 = 397 ∧ m_I ν q 1 = nI N ∧ m_K ν 397 = 101 ∧ m_N ν 397 = 300 ∧ ∀ i, i < N → bt b (m_I ν 397 i) i
theorem tpS.eq {b : Nat → Nat} {N q : Nat} {ν ν' : fw_M} {D : Nat → Nat → Prop} (h : tpS b N q ν) (g : eqD D ν ν') (h1 : ∀ j, ¬ D 397 j) (h2 : ¬ D q 1) : tpS b N q ν' := by
  obtain ⟨a1, a2, a3, a4, a5, a6, a7⟩ := h
  exact ⟨a1, by rw [g.K]; exact a2, by rw [g.2.1]; exact a3, (g.2.2.2 q 1 h2).trans a4, by rw [g.K]; exact a5, by rw [g.N]; exact a6, fun i hi => by rw [g.2.2.2 397 i (h1 i)]; exact a7 i hi⟩
section SX
variable {b : Nat → Nat} {N q a : Nat} {ν : fw_M}
theorem s_see (h : tpS b N q ν) (ha : m_I ν q 2 = nI a) (hN : a ≤ N) {Q : Int32 → fw_M → Prop} : p_X6_see q ν Q = Q (if a < N then nI (b a) else -1) ν := by
  obtain ⟨a1, a2, a3, a4, a5, a6, a7⟩ := h
  unfold p_X6_see
  rw [a4, ha, a3]
  by_cases c : a < N
  · rw [if_neg (nI_ge c (by omega)), if_pos c]
    obtain ⟨-, h2, -⟩ := a7 a c
    simp (disch := omega) only [a5, a6, nI_clamp, vp_t, true_and, h2]
  · rw [if_pos (nI_le (by omega) (by omega)), if_neg c]
theorem s_isDigit (h : tpS b N q ν) (ha : m_I ν q 2 = nI a) (hN : a ≤ N) {Q : Int32 → fw_M → Prop} : p_X6_isDigit q ν Q = Q (if a < N ∧ isD (b a) = true then 1 else 0) ν := by
  unfold p_X6_isDigit
  rw [s_see h ha hN, s_in]
  by_cases c : a < N
  · have hb := (h.2.2.2.2.2.2 a c).1
    have e : inB (nI (b a)) 48 57 ↔ isD (b a) = true := by
      rw [show (48 : Int32) = nI 48 from rfl, show (57 : Int32) = nI 57 from rfl, in_n (by omega) (by decide) (by decide)]
      unfold isD
      rw [Bool.and_eq_true, decide_eq_true_eq, decide_eq_true_eq]
    rw [if_pos c]
    by_cases d : isD (b a) = true
    · rw [if_pos (e.mpr d), if_pos ⟨c, d⟩]
      exact propext ⟨fun h => h.2, fun h => ⟨Or.inr rfl, h⟩⟩
    · rw [if_neg (fun h => d (e.mp h)), if_neg (fun h => d h.2)]
      exact propext ⟨fun h => h.2, fun h => ⟨Or.inl rfl, h⟩⟩
  · rw [if_neg c, if_neg (by decide), if_neg (fun h => c h.1)]
    exact propext ⟨fun h => h.2, fun h => ⟨Or.inl rfl, h⟩⟩
theorem s_isLetter (h : tpS b N q ν) (ha : m_I ν q 2 = nI a) (hN : a ≤ N) {Q : Int32 → fw_M → Prop} : p_X6_isLetter q ν Q = Q (if a < N ∧ isL (b a) = true then 1 else 0) ν := by
  unfold p_X6_isLetter p_X6_isLetter_L28
  simp only [s_see h ha hN, s_in]
  by_cases c : a < N
  · have hb := (h.2.2.2.2.2.2 a c).1
    have e1 : inB (nI (b a)) 97 122 ↔ 97 ≤ b a ∧ b a ≤ 122 := in_n (lo := 97) (hi := 122) (by omega) (by decide) (by decide)
    have e2 : inB (nI (b a)) 65 90 ↔ 65 ≤ b a ∧ b a ≤ 90 := in_n (lo := 65) (hi := 90) (by omega) (by decide) (by decide)
    have e : isL (b a) = true ↔ (97 ≤ b a ∧ b a ≤ 122) ∨ (65 ≤ b a ∧ b a ≤ 90) := by
      unfold isL
      rw [Bool.or_eq_true, Bool.and_eq_true, Bool.and_eq_true, decide_eq_true_eq, decide_eq_true_eq, decide_eq_true_eq, decide_eq_true_eq]
    rw [if_pos c]
    by_cases d1 : inB (nI (b a)) 97 122
    · rw [if_pos d1, if_neg (by decide), if_pos ⟨c, e.mpr (Or.inl (e1.mp d1))⟩]
    · rw [if_neg d1, if_pos trivial]
      by_cases d2 : inB (nI (b a)) 65 90
      · rw [if_pos d2, if_neg (by decide), if_pos ⟨c, e.mpr (Or.inr (e2.mp d2))⟩]
      · rw [if_neg d2, if_pos trivial, if_neg (fun h => (e.mp h.2).elim (fun h => d1 (e1.mpr h)) (fun h => d2 (e2.mpr h)))]
  · rw [if_neg c, if_neg (by decide), if_pos trivial, if_neg (by decide), if_pos trivial, if_neg (fun h => c h.1)]
def gF (x : Int32) : Int32 := if x = 35 then 1 else (if x = 36 then 0 else (if x = 37 then 0 else (if x = 38 then 0 else (if x = 39 then 0 else (if x = 40 then 1 else (if x = 41 then 1 else (if x = 42 then 1 else (if x = 43 then 1 else (if x = 44 then 0 else (if x = 45 then 1 else (if x = 46 then 0 else (if x = 47 then 1 else (if x = 48 then 0 else (if x = 49 then 0 else (if x = 50 then 0 else (if x = 51 then 0 else (if x = 52 then 0 else (if x = 53 then 0 else (if x = 54 then 0 else (if x = 55 then 0 else (if x = 56 then 0 else (if x = 57 then 0 else (if x = 58 then 0 else (if x = 59 then 1 else (if x = 60 then 1 else (if x = 61 then 1 else (if x = 62 then 1 else (0))))))))))))))))))))))))))))
theorem s_isSign0 {x : Int32} {μ : fw_M} {Q : Int32 → fw_M → Prop} : p_X6_isSign x μ Q = Q (gF x) μ := by
  unfold p_X6_isSign gF
  by_cases h35 : x = 35
  · rw [if_pos h35, if_pos h35]
  rw [if_neg h35, if_neg h35]
  by_cases h36 : x = 36
  · rw [if_pos h36, if_pos h36]
  rw [if_neg h36, if_neg h36]
  by_cases h37 : x = 37
  · rw [if_pos h37, if_pos h37]
  rw [if_neg h37, if_neg h37]
  by_cases h38 : x = 38
  · rw [if_pos h38, if_pos h38]
  rw [if_neg h38, if_neg h38]
  by_cases h39 : x = 39
  · rw [if_pos h39, if_pos h39]
  rw [if_neg h39, if_neg h39]
  by_cases h40 : x = 40
  · rw [if_pos h40, if_pos h40]
  rw [if_neg h40, if_neg h40]
  by_cases h41 : x = 41
  · rw [if_pos h41, if_pos h41]
  rw [if_neg h41, if_neg h41]
  by_cases h42 : x = 42
  · rw [if_pos h42, if_pos h42]
  rw [if_neg h42, if_neg h42]
  by_cases h43 : x = 43
  · rw [if_pos h43, if_pos h43]
  rw [if_neg h43, if_neg h43]
  by_cases h44 : x = 44
  · rw [if_pos h44, if_pos h44]
  rw [if_neg h44, if_neg h44]
  by_cases h45 : x = 45
  · rw [if_pos h45, if_pos h45]
  rw [if_neg h45, if_neg h45]
  by_cases h46 : x = 46
  · rw [if_pos h46, if_pos h46]
  rw [if_neg h46, if_neg h46]
  by_cases h47 : x = 47
  · rw [if_pos h47, if_pos h47]
  rw [if_neg h47, if_neg h47]
  by_cases h48 : x = 48
  · rw [if_pos h48, if_pos h48]
  rw [if_neg h48, if_neg h48]
  by_cases h49 : x = 49
  · rw [if_pos h49, if_pos h49]
  rw [if_neg h49, if_neg h49]
  by_cases h50 : x = 50
  · rw [if_pos h50, if_pos h50]
  rw [if_neg h50, if_neg h50]
  by_cases h51 : x = 51
  · rw [if_pos h51, if_pos h51]
  rw [if_neg h51, if_neg h51]
  by_cases h52 : x = 52
  · rw [if_pos h52, if_pos h52]
  rw [if_neg h52, if_neg h52]
  by_cases h53 : x = 53
  · rw [if_pos h53, if_pos h53]
  rw [if_neg h53, if_neg h53]
  by_cases h54 : x = 54
  · rw [if_pos h54, if_pos h54]
  rw [if_neg h54, if_neg h54]
  by_cases h55 : x = 55
  · rw [if_pos h55, if_pos h55]
  rw [if_neg h55, if_neg h55]
  by_cases h56 : x = 56
  · rw [if_pos h56, if_pos h56]
  rw [if_neg h56, if_neg h56]
  by_cases h57 : x = 57
  · rw [if_pos h57, if_pos h57]
  rw [if_neg h57, if_neg h57]
  by_cases h58 : x = 58
  · rw [if_pos h58, if_pos h58]
  rw [if_neg h58, if_neg h58]
  by_cases h59 : x = 59
  · rw [if_pos h59, if_pos h59]
  rw [if_neg h59, if_neg h59]
  by_cases h60 : x = 60
  · rw [if_pos h60, if_pos h60]
  rw [if_neg h60, if_neg h60]
  by_cases h61 : x = 61
  · rw [if_pos h61, if_pos h61]
  rw [if_neg h61, if_neg h61]
  by_cases h62 : x = 62
  · rw [if_pos h62, if_pos h62]
  rw [if_neg h62, if_neg h62]
theorem gF_n : ∀ c, c < 256 → gF (nI c) = if isG c = true then 1 else 0 := by decide +kernel
theorem s_isSign {c : Nat} (h : c < 256) {μ : fw_M} {Q : Int32 → fw_M → Prop} : p_X6_isSign (nI c) μ Q = Q (if isG c = true then 1 else 0) μ := by rw [s_isSign0, gF_n c h]

/-- a run is gone over -/
abbrev DX (q p j : Nat) : Prop := p = q ∧ 2 ≤ j ∧ j ≤ 6
theorem ml_st {ν : fw_M} {q j : Nat} {v : Int32} (h : 2 ≤ j ∧ j ≤ 6) : eqD (DX q) ν (m_sI ν q (ml_u (m_I ν q) j v)) := eqD.sI fun i hi => ml_un fun e => hi ⟨rfl, by omega⟩
end SX
/-! the words -/
theorem ltr_eq {A : List Nat} {b : Nat → Nat} {pl k : Nat} : A = ltr b pl k ↔ A.length = k ∧ ∀ j, j < k → A.getD j 0 = b (pl + j) := by
  have gl : ∀ j, j < k → (ltr b pl k).getD j 0 = b (pl + j) := by
    intro j hj
    unfold ltr
    rw [List.getD_eq_getElem?_getD, List.getElem?_map, List.getElem?_range hj]
    rfl
  have ll : (ltr b pl k).length = k := by unfold ltr; rw [List.length_map, List.length_range]
  constructor
  · rintro rfl
    exact ⟨ll, gl⟩
  · rintro ⟨h1, h2⟩
    refine List.ext_getElem (by rw [h1, ll]) fun i hi hj => ?_
    have := (h2 i (by omega)).trans (gl i (by omega)).symm
    rw [List.getD_eq_getElem?_getD, List.getElem?_eq_getElem hi, List.getD_eq_getElem?_getD, List.getElem?_eq_getElem hj] at this
    exact this
theorem WD_len : ∀ w, w < 24 → (WD.getD w []).length = st_len.getD w 0 ∧ st_len.getD w 0 ≤ 8 ∧ 2 ≤ st_len.getD w 0 ∧ (Int32.ofNat (st_len.getD w 0) >>> ((0 : Int32) &&& 31)) = nI (st_len.getD w 0) := by decide +kernel
theorem WD_chr : ∀ w, w < 24 → ∀ j, j < st_len.getD w 0 → ((((st_byt.getD w []).getD j 0) &&& (255 : Int32)).toUInt32 % 65536).toInt32 = nI ((WD.getD w []).getD j 0) ∧ (WD.getD w []).getD j 0 < 128 := by decide +kernel
theorem nar_c : ∀ c, c < 128 → ((nI c).toUInt32 % 65536).toInt32 = nI c := by decide +kernel
