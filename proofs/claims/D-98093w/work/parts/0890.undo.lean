/-! plain law: undo, image, back -/
def tb (f : Nat → Int32) (n0 : Nat) : Nat → Nat → Int32
  | 0 => f
  | k + 1 => ml_u (ml_u (tb f n0 k) (4 + (n0 + k)) 2) (13 + (n0 + k)) 0
theorem tb_in {f : Nat → Int32} {n0 : Nat} : ∀ {k e : Nat}, e < k → n0 + k ≤ 9 → tb f n0 k (4 + (n0 + e)) = 2 ∧ tb f n0 k (13 + (n0 + e)) = 0 := by
  intro k
  induction k with
  | zero => intro e h; exact absurd h (Nat.not_lt_zero _)
  | succ k ih =>
    intro e h h9
    unfold tb
    by_cases c : e = k
    · subst c
      rw [ml_un (by omega), ml_us, ml_us]
      exact ⟨rfl, rfl⟩
    · rw [ml_un (by omega), ml_un (by omega), ml_un (by omega), ml_un (by omega)]
      exact ih (by omega) (by omega)
theorem tb_out {f : Nat → Int32} {n0 j : Nat} : ∀ {k : Nat}, (∀ e, e < k → j ≠ 4 + (n0 + e) ∧ j ≠ 13 + (n0 + e)) → tb f n0 k j = f j := by
  intro k
  induction k with
  | zero => intro _; rfl
  | succ k ih =>
    intro h
    unfold tb
    rw [ml_un (h k (by omega)).2, ml_un (h k (by omega)).1]
    exact ih fun e he => h e (by omega)
theorem row_back {n0 n ns nd : Nat} {sr mr sr' mr' : Nat → Int32} (h : iv_row n0 ns nd sr mr) (h1 : n0 ≤ n) (h2 : n ≤ 9) (hi : ∀ e, n0 ≤ e → e < n → sr' (4 + e) = 2 ∧ sr' (13 + e) = 0) (ho : ∀ j, j < 25 → (∀ e, n0 ≤ e → e < n → j ≠ 4 + e ∧ j ≠ 13 + e) → sr' j = sr j) (hm : ∀ j, j < 355 → mr' j = mr j) : iv_row n ns nd sr' mr' := by
  refine row_cong (mr := mr) h2 ?_ (fun j _ => rfl) hm
  obtain ⟨g1, g2, g3, g4, g5, g6, g7, g8, g9, g10, g11, g12, g13, g14, g15⟩ := h
  refine ⟨fun k hk => ?_, fun e he => ?_, fun e e1 e2 => g3 e (by omega) e2, ?_, ?_, ?_, g7, g8, g9, g10, g11, fun e he => ?_, g13, g14, g15⟩
  · rw [ho k (by omega) fun e e1 e2 => by omega]; exact g1 k hk
  · by_cases c : e < n0
    · rw [ho (4 + e) (by omega) fun x e1 e2 => by omega, ho (13 + e) (by omega) fun x e1 e2 => by omega]; exact g2 e c
    · obtain ⟨a1, a2⟩ := hi e (by omega) he
      obtain ⟨b1, b2⟩ := g3 e (by omega) (by omega)
      rw [a1, a2, b1, b2]
      exact ⟨rfl, rfl⟩
  · rw [ho 22 (by omega) fun e e1 e2 => by omega]; exact g4
  · rw [ho 23 (by omega) fun e e1 e2 => by omega]; exact g5
  · rw [ho 24 (by omega) fun e e1 e2 => by omega]; exact g6
  · by_cases c : e < n0
    · exact g12 e c
    · exact ⟨2, Nat.le_refl _, (g3 e (by omega) (by omega)).1⟩
def mUndo (a : Nat → Int32) (s : Nat) : Nat → Int32 := fun j => if j = 3 then nI s else if 110 ≤ j ∧ j < 465 then a (470 + 355 * s + (j - 110)) else a j
theorem mUndo_row {a : Nat → Int32} {s j : Nat} (h : j < 355) : mUndo a s (110 + j) = a (470 + 355 * s + j) := by
  unfold mUndo
  rw [if_neg (by omega), if_pos (by omega)]
  congr 1
  omega
theorem mUndo_out {a : Nat → Int32} {s j : Nat} (h : j ≠ 3) (h2 : j < 110 ∨ 465 ≤ j) : mUndo a s j = a j := by
  unfold mUndo
  rw [if_neg h, if_neg (by omega)]
theorem s_over {μ : fw_M} {r0 r1 n : Nat} (k0 : m_K μ r0 = 100) (k1 : m_K μ r1 = 100) (n0 : m_N μ r0 = n) (n1 : m_N μ r1 = n) (hn : n < 2 ^ 31) {Q : fw_M → Prop} (hQ : ∀ μ', eqD (fun p _ => p = r1) μ μ' → (∀ j, j < n → m_I μ' r1 j = m_I μ r0 j) → Q μ') : p_X1_over r0 r1 μ Q := by
  unfold p_X1_over
  rw [k0, k1, n0, n1]
  have c : (0 : Int32).toNatClampNeg + (Int32.ofNat n).toNatClampNeg ≤ n := by rw [li_ofN, nI_clamp hn]; exact Nat.le_of_eq (Nat.zero_add n)
  refine ⟨rfl, rfl, by decide, by decide, nI_pos hn, c, c, ?_⟩
  rintro μ' rfl
  rw [ml_cp, li_ofN, nI_clamp hn]
  refine hQ _ (eqD.sI fun j hj => absurd rfl hj) fun j hj => ?_
  rw [ml_Is]
  show (if 0 ≤ j ∧ j < 0 + n then m_I μ r0 (0 + (j - 0)) else _) = _
  rw [if_pos (by omega), Nat.zero_add, Nat.sub_zero]
theorem s_overAll {μ : fw_M} {r0 r1 m n lo hi : Nat} (k0 : m_K μ r0 = 103) (k1 : m_K μ r1 = 103) (n0 : m_N μ r0 = m) (n1 : m_N μ r1 = m) (hm : m < 2 ^ 30) (hn : n < 2 ^ 31)
    (hA : ∀ i, i < m → m_K μ (m_P μ r0 i) = 100 ∧ m_N μ (m_P μ r0 i) = n ∧ ¬ (lo ≤ m_P μ r0 i ∧ m_P μ r0 i < hi)) (hB : ∀ i, i < m → m_K μ (m_P μ r1 i) = 100 ∧ m_N μ (m_P μ r1 i) = n ∧ lo ≤ m_P μ r1 i ∧ m_P μ r1 i < hi) (hj : ∀ i j, i < m → j < m → m_P μ r1 i = m_P μ r1 j → i = j)
    {Q : fw_M → Prop} (hQ : ∀ μ', eqD (fun p _ => lo ≤ p ∧ p < hi) μ μ' → (∀ i, i < m → ∀ j, j < n → m_I μ' (m_P μ r1 i) j = m_I μ (m_P μ r0 i) j) → Q μ') : p_X1_overAll r0 r1 μ Q := by
  unfold p_X1_overAll p_X1_overAll_L2
  refine lp_to m (fun k (a : Int32 × fw_M) => a.1 = nI k ∧ eqD (fun p _ => lo ≤ p ∧ p < hi) μ a.2 ∧ ∀ i, i < k → ∀ j, j < n → m_I a.2 (m_P μ r1 i) j = m_I μ (m_P μ r0 i) j) (fun k a hk hI K hK => ?_) (fun a hI K => ?_) ⟨rfl, eqD.rf, fun i h => absurd h (Nat.not_lt_zero _)⟩
  · obtain ⟨i, ν⟩ := a
    obtain ⟨h1, h2, h3⟩ := hI
    dsimp only at h1 h2 h3
    rw [h1]
    show p_X1_overAll_L2b r0 r1 (fun i2 μ => K (i2, μ)) (nI k) ν Q
    unfold p_X1_overAll_L2b
    obtain ⟨a1, a2, a3⟩ := hA k hk
    obtain ⟨b1, b2, b3, b4⟩ := hB k hk
    simp (disch := omega) only [h2.K, h2.N, h2.2.1, k0, k1, n0, n1, li_ofN, nI_leI, Nat.not_le.mpr hk, if_false, nI_clamp, vp_t, true_and]
    refine s_over (n := n) (by rw [h2.K]; exact a1) (by rw [h2.K]; exact b1) (by rw [h2.N]; exact a2) (by rw [h2.N]; exact b2) hn fun μ' d e => ?_
    simp only [forall_eq, nI_1]
    refine hK _ ⟨rfl, h2.tr (d.mono fun p j q => by subst q; exact ⟨b3, b4⟩), fun i hi j hj2 => ?_⟩
    by_cases c : i = k
    · subst c
      rw [e j hj2]
      exact h2.2.2.2 _ j a3
    · rw [d.2.2.2 _ j (fun q => c (hj i k (by omega) hk q))]
      exact h3 i (by omega) j hj2
  · obtain ⟨i, ν⟩ := a
    obtain ⟨h1, h2, h3⟩ := hI
    dsimp only at h1 h2 h3
    rw [h1]
    show p_X1_overAll_L2b r0 r1 (fun i2 μ => K (i2, μ)) (nI m) ν Q
    unfold p_X1_overAll_L2b
    simp (disch := omega) only [h2.K, h2.N, k1, n1, li_ofN, nI_leI, Nat.le_refl, if_true, true_and]
    exact hQ ν h2 h3
def layR (μ : fw_M) (d s : Nat) (μ' : fw_M) : Prop := eqD (fun p _ => d ≤ p ∧ p < d + 163) μ μ' ∧ (∀ j, j < 6 → m_I μ' d j = m_I μ s j) ∧
  (∀ j, j < 9 → m_I μ' (d + 1) j = m_I μ (s + 1) j) ∧ (∀ j, j < 9 → m_I μ' (d + 2) j = m_I μ (s + 2) j) ∧ (∀ j, j < 9 → m_I μ' (d + 3) j = m_I μ (s + 3) j) ∧ (∀ j, j < 25 → m_I μ' (d + 4) j = m_I μ (s + 4) j) ∧ (∀ j, j < 30 → m_I μ' (d + 5) j = m_I μ (s + 5) j) ∧
  (∀ i, i < 30 → ∀ j, j < 25 → m_I μ' (m_P μ (d + 6) i) j = m_I μ (m_P μ (s + 6) i) j) ∧ (∀ i, i < 60 → ∀ j, j < 4 → m_I μ' (d + 38 + i) j = m_I μ (s + 38 + i) j) ∧ (∀ i, i < 30 → ∀ j, j < 3 → m_I μ' (d + 99 + i) j = m_I μ (s + 99 + i) j) ∧
  (∀ i, i < 12 → ∀ j, j < 2 → m_I μ' (d + 130 + i) j = m_I μ (s + 130 + i) j) ∧ ∀ i, i < 20 → ∀ j, j < 2 → m_I μ' (d + 143 + i) j = m_I μ (s + 143 + i) j
theorem C_lay {μ μ' : fw_M} {d s : Nat} {a a' : Nat → Int32} {n tx st te tl ns nd : Nat} (C : iv_C μ s a n tx st te tl ns nd) (h : layR μ d s μ') (ha : ∀ j, j < 11120 → a' j = a j) : iv_C μ' d a' n tx st te tl ns nd := by
  obtain ⟨hb, hE, hA, hA2, hH, hr, hrec, ⟨N, NS, ND, hst, hmono⟩, hte, htl, hte2, htl2⟩ := C
  have c1 : ns ≤ 60 := hr.2.2.2.2.2.2.2.2.1
  have c2 : nd ≤ 30 := hr.2.2.2.2.2.2.2.2.2.1
  obtain ⟨q1, q2, q3, q4, q5⟩ := hb
  obtain ⟨h0, l0, l1, l2, l3, l4, l5, l6, l7, l8, l9, l10⟩ := h
  have hrc : ∀ x y : Nat, x ≤ ns → y ≤ nd → ∀ mr mr' : Nat → Int32, (∀ j, 23 ≤ j → j < 354 → mr' j = mr j) → iv_rec x y (fun i => m_I μ (s + 38 + i)) (fun i => m_I μ (s + 99 + i)) mr → iv_rec x y (fun i => m_I μ' (d + 38 + i)) (fun i => m_I μ' (d + 99 + i)) mr' := by
    intro x y hx hy mr mr' hm hq
    exact rec_cong hq (by omega) (by omega) (fun t ht j hj => l7 t (by omega) j hj) (fun t ht j hj => l8 t (by omega) j hj) hm
  refine ⟨⟨q1, q2, q3, q4, q5⟩, ?_, ?_, ?_, fun e he => ?_, row_cong q1 hr (fun j hj => l4 j hj) (fun j hj => ha _ (by omega)), hrc _ _ (Nat.le_refl _) (Nat.le_refl _) _ _ (fun j j1 j2 => ha _ (by omega)) hrec, ⟨N, NS, ND, fun k hk => ?_, hmono⟩, fun i hi j hj => ?_, fun i hi j hj => ?_, fun i hi => ?_, fun i hi => ?_⟩
  · rw [l0 0 (by decide), l0 1 (by decide), l0 2 (by decide), l0 3 (by decide), l0 4 (by decide), l0 5 (by decide), ha 2 (by decide)]; exact hE
  · rw [ha 0 (by decide), ha 1 (by decide), ha 3 (by decide), ha 4 (by decide), ha 5 (by decide)]; exact hA
  · rw [ha 2 (by decide)]; exact hA2
  · rw [l1 e (by omega), l2 e (by omega), l3 e (by omega), ha (10 + 3 * e) (by omega), ha (11 + 3 * e) (by omega), ha (12 + 3 * e) (by omega)]
    exact hH e he
  · obtain ⟨k1, k2, k3, k4, k5, k6⟩ := hst k hk
    refine ⟨k1, by rw [l5 k (by omega)]; exact k2, k3, k4, ?_, hrc _ _ k3 k4 _ _ (fun j j1 j2 => ha _ (by omega)) k6⟩
    refine row_cong (by omega) k5 (fun j hj => ?_) fun j hj => ha _ (by omega)
    show m_I μ' (m_P μ' (d + 6) k) j = m_I μ (m_P μ (s + 6) k) j
    rw [h0.2.1]
    exact l6 k (by omega) j hj
  · show m_I μ' (d + 130 + i) j = _
    rw [l9 i (by omega) j hj, ha _ (by omega)]; exact hte i hi j hj
  · show m_I μ' (d + 143 + i) j = _
    rw [l10 i (by omega) j hj, ha _ (by omega)]; exact htl i hi j hj
  · show (∃ x, x ≤ 40 ∧ m_I μ' (d + 130 + i) 0 = nI x - 20) ∧ inB (m_I μ' (d + 130 + i) 1) (-1) 1
    rw [l9 i (by omega) 0 (by decide), l9 i (by omega) 1 (by decide)]
    exact hte2 i hi
  · show (∃ x, x < 9 ∧ m_I μ' (d + 143 + i) 0 = nI x) ∧ ∃ x, 1 ≤ x ∧ x ≤ 999 ∧ m_I μ' (d + 143 + i) 1 = nI x
    rw [l10 i (by omega) 0 (by decide), l10 i (by omega) 1 (by decide)]
    exact htl2 i hi
theorem s_lay228 {μ : fw_M} (hs : sk_m μ) {Q : fw_M → Prop} (hQ : ∀ μ', layR μ 228 65 μ' → Q μ') : p_X1_lay 228 65 μ Q := by
  unfold p_X1_lay
  simp only [sk_p65_6 hs, sk_p65_7 hs, sk_p65_8 hs, sk_p65_9 hs, sk_p65_10 hs, sk_p65_11 hs, sk_p65_12 hs, sk_p65_13 hs, sk_p65_14 hs, sk_p65_15 hs, sk_p228_6 hs, sk_p228_7 hs, sk_p228_8 hs, sk_p228_9 hs, sk_p228_10 hs, sk_p228_11 hs, sk_p228_12 hs, sk_p228_13 hs, sk_p228_14 hs, sk_p228_15 hs, sk_k65 hs, sk_n65 hs, sk_k228 hs, sk_n228 hs, true_and, ml_uI, forall_eq, ml_PI, ml_ss, ml_Is, ml_In (show (65 : Nat) ≠ 228 by decide)]
  have d0 : eqD (fun p _ => 228 ≤ p ∧ p < 228 + 163) μ (m_sI μ 228 (ml_u (ml_u (ml_u (ml_u (ml_u (ml_u (m_I μ 228) 0 (m_I μ 65 0)) 1 (m_I μ 65 1)) 2 (m_I μ 65 2)) 3 (m_I μ 65 3)) 4 (m_I μ 65 4)) 5 (m_I μ 65 5))) := eqD.sI fun j hj => absurd ⟨by decide, by decide⟩ hj
  have l0 : ∀ j, j < 6 → m_I (m_sI μ 228 (ml_u (ml_u (ml_u (ml_u (ml_u (ml_u (m_I μ 228) 0 (m_I μ 65 0)) 1 (m_I μ 65 1)) 2 (m_I μ 65 2)) 3 (m_I μ 65 3)) 4 (m_I μ 65 4)) 5 (m_I μ 65 5))) 228 j = m_I μ 65 j := by
    intro j hj
    rw [ml_Is]
    have : j = 0 ∨ j = 1 ∨ j = 2 ∨ j = 3 ∨ j = 4 ∨ j = 5 := by omega
    rcases this with rfl | rfl | rfl | rfl | rfl | rfl <;> rfl
  generalize (m_sI μ 228 (ml_u (ml_u (ml_u (ml_u (ml_u (ml_u (m_I μ 228) 0 (m_I μ 65 0)) 1 (m_I μ 65 1)) 2 (m_I μ 65 2)) 3 (m_I μ 65 3)) 4 (m_I μ 65 4)) 5 (m_I μ 65 5))) = μ0 at d0 l0
  refine s_over (n := 9) (by rw [d0.K]; exact sk_k66 hs) (by rw [d0.K]; exact sk_k229 hs) (by rw [d0.N]; exact sk_n66 hs) (by rw [d0.N]; exact sk_n229 hs) (by decide) fun μ1 e1 x1 => ?_
  have d1 := d0.tr (e1.mono (E := fun p _ => 228 ≤ p ∧ p < 228 + 163) fun p j q => by subst q; exact ⟨by decide, by decide⟩)
  have y1 : ∀ j, j < 9 → m_I μ1 229 j = m_I μ 66 j := fun j hj => (x1 j hj).trans (d0.2.2.2 66 j (by omega))
  simp only [d1.2.1, sk_p65_6 hs, sk_p65_7 hs, sk_p65_8 hs, sk_p65_9 hs, sk_p65_10 hs, sk_p65_11 hs, sk_p65_12 hs, sk_p65_13 hs, sk_p65_14 hs, sk_p65_15 hs, sk_p228_6 hs, sk_p228_7 hs, sk_p228_8 hs, sk_p228_9 hs, sk_p228_10 hs, sk_p228_11 hs, sk_p228_12 hs, sk_p228_13 hs, sk_p228_14 hs, sk_p228_15 hs, sk_k65 hs, sk_n65 hs, sk_k228 hs, sk_n228 hs]
  refine s_over (n := 9) (by rw [d1.K]; exact sk_k67 hs) (by rw [d1.K]; exact sk_k230 hs) (by rw [d1.N]; exact sk_n67 hs) (by rw [d1.N]; exact sk_n230 hs) (by decide) fun μ2 e2 x2 => ?_
  have d2 := d1.tr (e2.mono (E := fun p _ => 228 ≤ p ∧ p < 228 + 163) fun p j q => by subst q; exact ⟨by decide, by decide⟩)
  have y2 : ∀ j, j < 9 → m_I μ2 230 j = m_I μ 67 j := fun j hj => (x2 j hj).trans (d1.2.2.2 67 j (by omega))
  simp only [d2.2.1, sk_p65_6 hs, sk_p65_7 hs, sk_p65_8 hs, sk_p65_9 hs, sk_p65_10 hs, sk_p65_11 hs, sk_p65_12 hs, sk_p65_13 hs, sk_p65_14 hs, sk_p65_15 hs, sk_p228_6 hs, sk_p228_7 hs, sk_p228_8 hs, sk_p228_9 hs, sk_p228_10 hs, sk_p228_11 hs, sk_p228_12 hs, sk_p228_13 hs, sk_p228_14 hs, sk_p228_15 hs, sk_k65 hs, sk_n65 hs, sk_k228 hs, sk_n228 hs]
  refine s_over (n := 9) (by rw [d2.K]; exact sk_k68 hs) (by rw [d2.K]; exact sk_k231 hs) (by rw [d2.N]; exact sk_n68 hs) (by rw [d2.N]; exact sk_n231 hs) (by decide) fun μ3 e3 x3 => ?_
  have d3 := d2.tr (e3.mono (E := fun p _ => 228 ≤ p ∧ p < 228 + 163) fun p j q => by subst q; exact ⟨by decide, by decide⟩)
  have y3 : ∀ j, j < 9 → m_I μ3 231 j = m_I μ 68 j := fun j hj => (x3 j hj).trans (d2.2.2.2 68 j (by omega))
  simp only [d3.2.1, sk_p65_6 hs, sk_p65_7 hs, sk_p65_8 hs, sk_p65_9 hs, sk_p65_10 hs, sk_p65_11 hs, sk_p65_12 hs, sk_p65_13 hs, sk_p65_14 hs, sk_p65_15 hs, sk_p228_6 hs, sk_p228_7 hs, sk_p228_8 hs, sk_p228_9 hs, sk_p228_10 hs, sk_p228_11 hs, sk_p228_12 hs, sk_p228_13 hs, sk_p228_14 hs, sk_p228_15 hs, sk_k65 hs, sk_n65 hs, sk_k228 hs, sk_n228 hs]
  refine s_over (n := 25) (by rw [d3.K]; exact sk_k69 hs) (by rw [d3.K]; exact sk_k232 hs) (by rw [d3.N]; exact sk_n69 hs) (by rw [d3.N]; exact sk_n232 hs) (by decide) fun μ4 e4 x4 => ?_
  have d4 := d3.tr (e4.mono (E := fun p _ => 228 ≤ p ∧ p < 228 + 163) fun p j q => by subst q; exact ⟨by decide, by decide⟩)
  have y4 : ∀ j, j < 25 → m_I μ4 232 j = m_I μ 69 j := fun j hj => (x4 j hj).trans (d3.2.2.2 69 j (by omega))
  simp only [d4.2.1, sk_p65_6 hs, sk_p65_7 hs, sk_p65_8 hs, sk_p65_9 hs, sk_p65_10 hs, sk_p65_11 hs, sk_p65_12 hs, sk_p65_13 hs, sk_p65_14 hs, sk_p65_15 hs, sk_p228_6 hs, sk_p228_7 hs, sk_p228_8 hs, sk_p228_9 hs, sk_p228_10 hs, sk_p228_11 hs, sk_p228_12 hs, sk_p228_13 hs, sk_p228_14 hs, sk_p228_15 hs, sk_k65 hs, sk_n65 hs, sk_k228 hs, sk_n228 hs]
  refine s_over (n := 30) (by rw [d4.K]; exact sk_k70 hs) (by rw [d4.K]; exact sk_k233 hs) (by rw [d4.N]; exact sk_n70 hs) (by rw [d4.N]; exact sk_n233 hs) (by decide) fun μ5 e5 x5 => ?_
  have d5 := d4.tr (e5.mono (E := fun p _ => 228 ≤ p ∧ p < 228 + 163) fun p j q => by subst q; exact ⟨by decide, by decide⟩)
  have y5 : ∀ j, j < 30 → m_I μ5 233 j = m_I μ 70 j := fun j hj => (x5 j hj).trans (d4.2.2.2 70 j (by omega))
  simp only [d5.2.1, sk_p65_6 hs, sk_p65_7 hs, sk_p65_8 hs, sk_p65_9 hs, sk_p65_10 hs, sk_p65_11 hs, sk_p65_12 hs, sk_p65_13 hs, sk_p65_14 hs, sk_p65_15 hs, sk_p228_6 hs, sk_p228_7 hs, sk_p228_8 hs, sk_p228_9 hs, sk_p228_10 hs, sk_p228_11 hs, sk_p228_12 hs, sk_p228_13 hs, sk_p228_14 hs, sk_p228_15 hs, sk_k65 hs, sk_n65 hs, sk_k228 hs, sk_n228 hs]
  refine s_overAll (m := 30) (n := 25) (lo := 235) (hi := 265) (by rw [d5.K]; exact sk_k71 hs) (by rw [d5.K]; exact sk_k234 hs) (by rw [d5.N]; exact sk_n71 hs) (by rw [d5.N]; exact sk_n234 hs) (by decide) (by decide) (fun i hi => by
    have h1 := sk_s65 hs hi
    have h2 := sk_q72 hs h1.1 h1.2
    rw [d5.K, d5.N, d5.2.1]
    exact ⟨h2.1, h2.2, by omega⟩) (fun i hi => by
    have h1 := sk_s228 hs hi
    have h2 := sk_q235 hs h1.1 h1.2
    rw [d5.K, d5.N, d5.2.1]
    exact ⟨h2.1, h2.2, h1.1, h1.2⟩) (fun i j hi hj e => by
    rw [d5.2.1] at e
    exact sk_t228 hs hi hj e) fun μ6 e6 x6 => ?_
  have d6 := d5.tr (e6.mono (E := fun p _ => 228 ≤ p ∧ p < 228 + 163) fun p j q => ⟨by omega, by omega⟩)
  have y6 : ∀ i, i < 30 → ∀ j, j < 25 → m_I μ6 (m_P μ 234 i) j = m_I μ (m_P μ 71 i) j := fun i hi j hj => by
    have h1 := sk_s65 hs hi
    have := x6 i hi j hj
    rw [d5.2.1] at this
    rw [this]
    exact d5.2.2.2 _ j (by omega)
  simp only [d6.2.1, sk_p65_6 hs, sk_p65_7 hs, sk_p65_8 hs, sk_p65_9 hs, sk_p65_10 hs, sk_p65_11 hs, sk_p65_12 hs, sk_p65_13 hs, sk_p65_14 hs, sk_p65_15 hs, sk_p228_6 hs, sk_p228_7 hs, sk_p228_8 hs, sk_p228_9 hs, sk_p228_10 hs, sk_p228_11 hs, sk_p228_12 hs, sk_p228_13 hs, sk_p228_14 hs, sk_p228_15 hs, sk_k65 hs, sk_n65 hs, sk_k228 hs, sk_n228 hs]
  refine s_overAll (m := 60) (n := 4) (lo := 266) (hi := 326) (by rw [d6.K]; exact sk_k102 hs) (by rw [d6.K]; exact sk_k265 hs) (by rw [d6.N]; exact sk_n102 hs) (by rw [d6.N]; exact sk_n265 hs) (by decide) (by decide) (fun i hi => by
    have h2 := sk_q103 hs (p := 103 + i) (by omega) (by omega)
    rw [d6.K, d6.N, d6.2.1, sk_r102 hs hi]
    exact ⟨h2.1, h2.2, by omega⟩) (fun i hi => by
    have h2 := sk_q266 hs (p := 266 + i) (by omega) (by omega)
    rw [d6.K, d6.N, d6.2.1, sk_r265 hs hi]
    exact ⟨h2.1, h2.2, by omega, by omega⟩) (fun i j hi hj e => by
    rw [d6.2.1, sk_r265 hs hi, sk_r265 hs hj] at e
    omega) fun μ7 e7 x7 => ?_
  have d7 := d6.tr (e7.mono (E := fun p _ => 228 ≤ p ∧ p < 228 + 163) fun p j q => ⟨by omega, by omega⟩)
  have y7 : ∀ i, i < 60 → ∀ j, j < 4 → m_I μ7 (266 + i) j = m_I μ (103 + i) j := fun i hi j hj => by
    have := x7 i hi j hj
    rw [d6.2.1, sk_r265 hs hi, sk_r102 hs hi] at this
    rw [this]
    exact d6.2.2.2 _ j (by omega)
  simp only [d7.2.1, sk_p65_6 hs, sk_p65_7 hs, sk_p65_8 hs, sk_p65_9 hs, sk_p65_10 hs, sk_p65_11 hs, sk_p65_12 hs, sk_p65_13 hs, sk_p65_14 hs, sk_p65_15 hs, sk_p228_6 hs, sk_p228_7 hs, sk_p228_8 hs, sk_p228_9 hs, sk_p228_10 hs, sk_p228_11 hs, sk_p228_12 hs, sk_p228_13 hs, sk_p228_14 hs, sk_p228_15 hs, sk_k65 hs, sk_n65 hs, sk_k228 hs, sk_n228 hs]
  refine s_overAll (m := 30) (n := 3) (lo := 327) (hi := 357) (by rw [d7.K]; exact sk_k163 hs) (by rw [d7.K]; exact sk_k326 hs) (by rw [d7.N]; exact sk_n163 hs) (by rw [d7.N]; exact sk_n326 hs) (by decide) (by decide) (fun i hi => by
    have h2 := sk_q164 hs (p := 164 + i) (by omega) (by omega)
    rw [d7.K, d7.N, d7.2.1, sk_r163 hs hi]
    exact ⟨h2.1, h2.2, by omega⟩) (fun i hi => by
    have h2 := sk_q327 hs (p := 327 + i) (by omega) (by omega)
    rw [d7.K, d7.N, d7.2.1, sk_r326 hs hi]
    exact ⟨h2.1, h2.2, by omega, by omega⟩) (fun i j hi hj e => by
    rw [d7.2.1, sk_r326 hs hi, sk_r326 hs hj] at e
    omega) fun μ8 e8 x8 => ?_
  have d8 := d7.tr (e8.mono (E := fun p _ => 228 ≤ p ∧ p < 228 + 163) fun p j q => ⟨by omega, by omega⟩)
  have y8 : ∀ i, i < 30 → ∀ j, j < 3 → m_I μ8 (327 + i) j = m_I μ (164 + i) j := fun i hi j hj => by
    have := x8 i hi j hj
    rw [d7.2.1, sk_r326 hs hi, sk_r163 hs hi] at this
    rw [this]
    exact d7.2.2.2 _ j (by omega)
  simp only [d8.2.1, sk_p65_6 hs, sk_p65_7 hs, sk_p65_8 hs, sk_p65_9 hs, sk_p65_10 hs, sk_p65_11 hs, sk_p65_12 hs, sk_p65_13 hs, sk_p65_14 hs, sk_p65_15 hs, sk_p228_6 hs, sk_p228_7 hs, sk_p228_8 hs, sk_p228_9 hs, sk_p228_10 hs, sk_p228_11 hs, sk_p228_12 hs, sk_p228_13 hs, sk_p228_14 hs, sk_p228_15 hs, sk_k65 hs, sk_n65 hs, sk_k228 hs, sk_n228 hs]
  refine s_overAll (m := 12) (n := 2) (lo := 358) (hi := 370) (by rw [d8.K]; exact sk_k194 hs) (by rw [d8.K]; exact sk_k357 hs) (by rw [d8.N]; exact sk_n194 hs) (by rw [d8.N]; exact sk_n357 hs) (by decide) (by decide) (fun i hi => by
    have h2 := sk_q195 hs (p := 195 + i) (by omega) (by omega)
    rw [d8.K, d8.N, d8.2.1, sk_r194 hs hi]
    exact ⟨h2.1, h2.2, by omega⟩) (fun i hi => by
    have h2 := sk_q358 hs (p := 358 + i) (by omega) (by omega)
    rw [d8.K, d8.N, d8.2.1, sk_r357 hs hi]
    exact ⟨h2.1, h2.2, by omega, by omega⟩) (fun i j hi hj e => by
    rw [d8.2.1, sk_r357 hs hi, sk_r357 hs hj] at e
    omega) fun μ9 e9 x9 => ?_
  have d9 := d8.tr (e9.mono (E := fun p _ => 228 ≤ p ∧ p < 228 + 163) fun p j q => ⟨by omega, by omega⟩)
  have y9 : ∀ i, i < 12 → ∀ j, j < 2 → m_I μ9 (358 + i) j = m_I μ (195 + i) j := fun i hi j hj => by
    have := x9 i hi j hj
    rw [d8.2.1, sk_r357 hs hi, sk_r194 hs hi] at this
    rw [this]
    exact d8.2.2.2 _ j (by omega)
  simp only [d9.2.1, sk_p65_6 hs, sk_p65_7 hs, sk_p65_8 hs, sk_p65_9 hs, sk_p65_10 hs, sk_p65_11 hs, sk_p65_12 hs, sk_p65_13 hs, sk_p65_14 hs, sk_p65_15 hs, sk_p228_6 hs, sk_p228_7 hs, sk_p228_8 hs, sk_p228_9 hs, sk_p228_10 hs, sk_p228_11 hs, sk_p228_12 hs, sk_p228_13 hs, sk_p228_14 hs, sk_p228_15 hs, sk_k65 hs, sk_n65 hs, sk_k228 hs, sk_n228 hs]
  refine s_overAll (m := 20) (n := 2) (lo := 371) (hi := 391) (by rw [d9.K]; exact sk_k207 hs) (by rw [d9.K]; exact sk_k370 hs) (by rw [d9.N]; exact sk_n207 hs) (by rw [d9.N]; exact sk_n370 hs) (by decide) (by decide) (fun i hi => by
    have h2 := sk_q208 hs (p := 208 + i) (by omega) (by omega)
    rw [d9.K, d9.N, d9.2.1, sk_r207 hs hi]
    exact ⟨h2.1, h2.2, by omega⟩) (fun i hi => by
    have h2 := sk_q371 hs (p := 371 + i) (by omega) (by omega)
    rw [d9.K, d9.N, d9.2.1, sk_r370 hs hi]
    exact ⟨h2.1, h2.2, by omega, by omega⟩) (fun i j hi hj e => by
    rw [d9.2.1, sk_r370 hs hi, sk_r370 hs hj] at e
    omega) fun μ10 e10 x10 => ?_
  have d10 := d9.tr (e10.mono (E := fun p _ => 228 ≤ p ∧ p < 228 + 163) fun p j q => ⟨by omega, by omega⟩)
  have y10 : ∀ i, i < 20 → ∀ j, j < 2 → m_I μ10 (371 + i) j = m_I μ (208 + i) j := fun i hi j hj => by
    have := x10 i hi j hj
    rw [d9.2.1, sk_r370 hs hi, sk_r207 hs hi] at this
    rw [this]
    exact d9.2.2.2 _ j (by omega)
  refine hQ μ10 ⟨d10, fun j hj => ?_, fun j hj => ?_, fun j hj => ?_, fun j hj => ?_, fun j hj => ?_, fun j hj => ?_, fun i hi j hj => ?_, fun i hi j hj => ?_, fun i hi j hj => ?_, fun i hi j hj => ?_, fun i hi j hj => ?_⟩
  · show m_I μ10 228 j = m_I μ 65 j
    rw [e10.2.2.2 228 j (by omega), e9.2.2.2 228 j (by omega), e8.2.2.2 228 j (by omega), e7.2.2.2 228 j (by omega), e6.2.2.2 228 j (by omega), e5.2.2.2 228 j (by omega), e4.2.2.2 228 j (by omega), e3.2.2.2 228 j (by omega), e2.2.2.2 228 j (by omega), e1.2.2.2 228 j (by omega)]
    exact l0 j hj
  · show m_I μ10 229 j = m_I μ 66 j
    rw [e10.2.2.2 229 j (by omega), e9.2.2.2 229 j (by omega), e8.2.2.2 229 j (by omega), e7.2.2.2 229 j (by omega), e6.2.2.2 229 j (by omega), e5.2.2.2 229 j (by omega), e4.2.2.2 229 j (by omega), e3.2.2.2 229 j (by omega), e2.2.2.2 229 j (by omega)]
    exact y1 j hj
  · show m_I μ10 230 j = m_I μ 67 j
    rw [e10.2.2.2 230 j (by omega), e9.2.2.2 230 j (by omega), e8.2.2.2 230 j (by omega), e7.2.2.2 230 j (by omega), e6.2.2.2 230 j (by omega), e5.2.2.2 230 j (by omega), e4.2.2.2 230 j (by omega), e3.2.2.2 230 j (by omega)]
    exact y2 j hj
  · show m_I μ10 231 j = m_I μ 68 j
    rw [e10.2.2.2 231 j (by omega), e9.2.2.2 231 j (by omega), e8.2.2.2 231 j (by omega), e7.2.2.2 231 j (by omega), e6.2.2.2 231 j (by omega), e5.2.2.2 231 j (by omega), e4.2.2.2 231 j (by omega)]
    exact y3 j hj
  · show m_I μ10 232 j = m_I μ 69 j
    rw [e10.2.2.2 232 j (by omega), e9.2.2.2 232 j (by omega), e8.2.2.2 232 j (by omega), e7.2.2.2 232 j (by omega), e6.2.2.2 232 j (by omega), e5.2.2.2 232 j (by omega)]
    exact y4 j hj
  · show m_I μ10 233 j = m_I μ 70 j
    rw [e10.2.2.2 233 j (by omega), e9.2.2.2 233 j (by omega), e8.2.2.2 233 j (by omega), e7.2.2.2 233 j (by omega), e6.2.2.2 233 j (by omega)]
    exact y5 j hj
  · have h1 := sk_s228 hs hi
    show m_I μ10 (m_P μ 234 i) j = m_I μ (m_P μ 71 i) j
    rw [e10.2.2.2 (m_P μ 234 i) j (by omega), e9.2.2.2 (m_P μ 234 i) j (by omega), e8.2.2.2 (m_P μ 234 i) j (by omega), e7.2.2.2 (m_P μ 234 i) j (by omega)]
    exact y6 i hi j hj
  · show m_I μ10 (266 + i) j = m_I μ (103 + i) j
    rw [e10.2.2.2 (266 + i) j (by omega), e9.2.2.2 (266 + i) j (by omega), e8.2.2.2 (266 + i) j (by omega)]
    exact y7 i hi j hj
  · show m_I μ10 (327 + i) j = m_I μ (164 + i) j
    rw [e10.2.2.2 (327 + i) j (by omega), e9.2.2.2 (327 + i) j (by omega)]
    exact y8 i hi j hj
  · show m_I μ10 (358 + i) j = m_I μ (195 + i) j
    rw [e10.2.2.2 (358 + i) j (by omega)]
    exact y9 i hi j hj
  · show m_I μ10 (371 + i) j = m_I μ (208 + i) j
    exact y10 i hi j hj
theorem s_lay65 {μ : fw_M} (hs : sk_m μ) {Q : fw_M → Prop} (hQ : ∀ μ', layR μ 65 228 μ' → Q μ') : p_X1_lay 65 228 μ Q := by
  unfold p_X1_lay
  simp only [sk_p65_6 hs, sk_p65_7 hs, sk_p65_8 hs, sk_p65_9 hs, sk_p65_10 hs, sk_p65_11 hs, sk_p65_12 hs, sk_p65_13 hs, sk_p65_14 hs, sk_p65_15 hs, sk_p228_6 hs, sk_p228_7 hs, sk_p228_8 hs, sk_p228_9 hs, sk_p228_10 hs, sk_p228_11 hs, sk_p228_12 hs, sk_p228_13 hs, sk_p228_14 hs, sk_p228_15 hs, sk_k65 hs, sk_n65 hs, sk_k228 hs, sk_n228 hs, true_and, ml_uI, forall_eq, ml_PI, ml_ss, ml_Is, ml_In (show (228 : Nat) ≠ 65 by decide)]
  have d0 : eqD (fun p _ => 65 ≤ p ∧ p < 65 + 163) μ (m_sI μ 65 (ml_u (ml_u (ml_u (ml_u (ml_u (ml_u (m_I μ 65) 0 (m_I μ 228 0)) 1 (m_I μ 228 1)) 2 (m_I μ 228 2)) 3 (m_I μ 228 3)) 4 (m_I μ 228 4)) 5 (m_I μ 228 5))) := eqD.sI fun j hj => absurd ⟨by decide, by decide⟩ hj
  have l0 : ∀ j, j < 6 → m_I (m_sI μ 65 (ml_u (ml_u (ml_u (ml_u (ml_u (ml_u (m_I μ 65) 0 (m_I μ 228 0)) 1 (m_I μ 228 1)) 2 (m_I μ 228 2)) 3 (m_I μ 228 3)) 4 (m_I μ 228 4)) 5 (m_I μ 228 5))) 65 j = m_I μ 228 j := by
    intro j hj
    rw [ml_Is]
    have : j = 0 ∨ j = 1 ∨ j = 2 ∨ j = 3 ∨ j = 4 ∨ j = 5 := by omega
    rcases this with rfl | rfl | rfl | rfl | rfl | rfl <;> rfl
  generalize (m_sI μ 65 (ml_u (ml_u (ml_u (ml_u (ml_u (ml_u (m_I μ 65) 0 (m_I μ 228 0)) 1 (m_I μ 228 1)) 2 (m_I μ 228 2)) 3 (m_I μ 228 3)) 4 (m_I μ 228 4)) 5 (m_I μ 228 5))) = μ0 at d0 l0
  refine s_over (n := 9) (by rw [d0.K]; exact sk_k229 hs) (by rw [d0.K]; exact sk_k66 hs) (by rw [d0.N]; exact sk_n229 hs) (by rw [d0.N]; exact sk_n66 hs) (by decide) fun μ1 e1 x1 => ?_
  have d1 := d0.tr (e1.mono (E := fun p _ => 65 ≤ p ∧ p < 65 + 163) fun p j q => by subst q; exact ⟨by decide, by decide⟩)
  have y1 : ∀ j, j < 9 → m_I μ1 66 j = m_I μ 229 j := fun j hj => (x1 j hj).trans (d0.2.2.2 229 j (by omega))
  simp only [d1.2.1, sk_p65_6 hs, sk_p65_7 hs, sk_p65_8 hs, sk_p65_9 hs, sk_p65_10 hs, sk_p65_11 hs, sk_p65_12 hs, sk_p65_13 hs, sk_p65_14 hs, sk_p65_15 hs, sk_p228_6 hs, sk_p228_7 hs, sk_p228_8 hs, sk_p228_9 hs, sk_p228_10 hs, sk_p228_11 hs, sk_p228_12 hs, sk_p228_13 hs, sk_p228_14 hs, sk_p228_15 hs, sk_k65 hs, sk_n65 hs, sk_k228 hs, sk_n228 hs]
  refine s_over (n := 9) (by rw [d1.K]; exact sk_k230 hs) (by rw [d1.K]; exact sk_k67 hs) (by rw [d1.N]; exact sk_n230 hs) (by rw [d1.N]; exact sk_n67 hs) (by decide) fun μ2 e2 x2 => ?_
  have d2 := d1.tr (e2.mono (E := fun p _ => 65 ≤ p ∧ p < 65 + 163) fun p j q => by subst q; exact ⟨by decide, by decide⟩)
  have y2 : ∀ j, j < 9 → m_I μ2 67 j = m_I μ 230 j := fun j hj => (x2 j hj).trans (d1.2.2.2 230 j (by omega))
  simp only [d2.2.1, sk_p65_6 hs, sk_p65_7 hs, sk_p65_8 hs, sk_p65_9 hs, sk_p65_10 hs, sk_p65_11 hs, sk_p65_12 hs, sk_p65_13 hs, sk_p65_14 hs, sk_p65_15 hs, sk_p228_6 hs, sk_p228_7 hs, sk_p228_8 hs, sk_p228_9 hs, sk_p228_10 hs, sk_p228_11 hs, sk_p228_12 hs, sk_p228_13 hs, sk_p228_14 hs, sk_p228_15 hs, sk_k65 hs, sk_n65 hs, sk_k228 hs, sk_n228 hs]
  refine s_over (n := 9) (by rw [d2.K]; exact sk_k231 hs) (by rw [d2.K]; exact sk_k68 hs) (by rw [d2.N]; exact sk_n231 hs) (by rw [d2.N]; exact sk_n68 hs) (by decide) fun μ3 e3 x3 => ?_
  have d3 := d2.tr (e3.mono (E := fun p _ => 65 ≤ p ∧ p < 65 + 163) fun p j q => by subst q; exact ⟨by decide, by decide⟩)
  have y3 : ∀ j, j < 9 → m_I μ3 68 j = m_I μ 231 j := fun j hj => (x3 j hj).trans (d2.2.2.2 231 j (by omega))
  simp only [d3.2.1, sk_p65_6 hs, sk_p65_7 hs, sk_p65_8 hs, sk_p65_9 hs, sk_p65_10 hs, sk_p65_11 hs, sk_p65_12 hs, sk_p65_13 hs, sk_p65_14 hs, sk_p65_15 hs, sk_p228_6 hs, sk_p228_7 hs, sk_p228_8 hs, sk_p228_9 hs, sk_p228_10 hs, sk_p228_11 hs, sk_p228_12 hs, sk_p228_13 hs, sk_p228_14 hs, sk_p228_15 hs, sk_k65 hs, sk_n65 hs, sk_k228 hs, sk_n228 hs]
  refine s_over (n := 25) (by rw [d3.K]; exact sk_k232 hs) (by rw [d3.K]; exact sk_k69 hs) (by rw [d3.N]; exact sk_n232 hs) (by rw [d3.N]; exact sk_n69 hs) (by decide) fun μ4 e4 x4 => ?_
  have d4 := d3.tr (e4.mono (E := fun p _ => 65 ≤ p ∧ p < 65 + 163) fun p j q => by subst q; exact ⟨by decide, by decide⟩)
  have y4 : ∀ j, j < 25 → m_I μ4 69 j = m_I μ 232 j := fun j hj => (x4 j hj).trans (d3.2.2.2 232 j (by omega))
  simp only [d4.2.1, sk_p65_6 hs, sk_p65_7 hs, sk_p65_8 hs, sk_p65_9 hs, sk_p65_10 hs, sk_p65_11 hs, sk_p65_12 hs, sk_p65_13 hs, sk_p65_14 hs, sk_p65_15 hs, sk_p228_6 hs, sk_p228_7 hs, sk_p228_8 hs, sk_p228_9 hs, sk_p228_10 hs, sk_p228_11 hs, sk_p228_12 hs, sk_p228_13 hs, sk_p228_14 hs, sk_p228_15 hs, sk_k65 hs, sk_n65 hs, sk_k228 hs, sk_n228 hs]
  refine s_over (n := 30) (by rw [d4.K]; exact sk_k233 hs) (by rw [d4.K]; exact sk_k70 hs) (by rw [d4.N]; exact sk_n233 hs) (by rw [d4.N]; exact sk_n70 hs) (by decide) fun μ5 e5 x5 => ?_
  have d5 := d4.tr (e5.mono (E := fun p _ => 65 ≤ p ∧ p < 65 + 163) fun p j q => by subst q; exact ⟨by decide, by decide⟩)
  have y5 : ∀ j, j < 30 → m_I μ5 70 j = m_I μ 233 j := fun j hj => (x5 j hj).trans (d4.2.2.2 233 j (by omega))
  simp only [d5.2.1, sk_p65_6 hs, sk_p65_7 hs, sk_p65_8 hs, sk_p65_9 hs, sk_p65_10 hs, sk_p65_11 hs, sk_p65_12 hs, sk_p65_13 hs, sk_p65_14 hs, sk_p65_15 hs, sk_p228_6 hs, sk_p228_7 hs, sk_p228_8 hs, sk_p228_9 hs, sk_p228_10 hs, sk_p228_11 hs, sk_p228_12 hs, sk_p228_13 hs, sk_p228_14 hs, sk_p228_15 hs, sk_k65 hs, sk_n65 hs, sk_k228 hs, sk_n228 hs]
  refine s_overAll (m := 30) (n := 25) (lo := 72) (hi := 102) (by rw [d5.K]; exact sk_k234 hs) (by rw [d5.K]; exact sk_k71 hs) (by rw [d5.N]; exact sk_n234 hs) (by rw [d5.N]; exact sk_n71 hs) (by decide) (by decide) (fun i hi => by
    have h1 := sk_s228 hs hi
    have h2 := sk_q235 hs h1.1 h1.2
    rw [d5.K, d5.N, d5.2.1]
    exact ⟨h2.1, h2.2, by omega⟩) (fun i hi => by
    have h1 := sk_s65 hs hi
    have h2 := sk_q72 hs h1.1 h1.2
    rw [d5.K, d5.N, d5.2.1]
    exact ⟨h2.1, h2.2, h1.1, h1.2⟩) (fun i j hi hj e => by
    rw [d5.2.1] at e
    exact sk_t65 hs hi hj e) fun μ6 e6 x6 => ?_
  have d6 := d5.tr (e6.mono (E := fun p _ => 65 ≤ p ∧ p < 65 + 163) fun p j q => ⟨by omega, by omega⟩)
  have y6 : ∀ i, i < 30 → ∀ j, j < 25 → m_I μ6 (m_P μ 71 i) j = m_I μ (m_P μ 234 i) j := fun i hi j hj => by
    have h1 := sk_s228 hs hi
    have := x6 i hi j hj
    rw [d5.2.1] at this
    rw [this]
    exact d5.2.2.2 _ j (by omega)
  simp only [d6.2.1, sk_p65_6 hs, sk_p65_7 hs, sk_p65_8 hs, sk_p65_9 hs, sk_p65_10 hs, sk_p65_11 hs, sk_p65_12 hs, sk_p65_13 hs, sk_p65_14 hs, sk_p65_15 hs, sk_p228_6 hs, sk_p228_7 hs, sk_p228_8 hs, sk_p228_9 hs, sk_p228_10 hs, sk_p228_11 hs, sk_p228_12 hs, sk_p228_13 hs, sk_p228_14 hs, sk_p228_15 hs, sk_k65 hs, sk_n65 hs, sk_k228 hs, sk_n228 hs]
  refine s_overAll (m := 60) (n := 4) (lo := 103) (hi := 163) (by rw [d6.K]; exact sk_k265 hs) (by rw [d6.K]; exact sk_k102 hs) (by rw [d6.N]; exact sk_n265 hs) (by rw [d6.N]; exact sk_n102 hs) (by decide) (by decide) (fun i hi => by
    have h2 := sk_q266 hs (p := 266 + i) (by omega) (by omega)
    rw [d6.K, d6.N, d6.2.1, sk_r265 hs hi]
    exact ⟨h2.1, h2.2, by omega⟩) (fun i hi => by
    have h2 := sk_q103 hs (p := 103 + i) (by omega) (by omega)
    rw [d6.K, d6.N, d6.2.1, sk_r102 hs hi]
    exact ⟨h2.1, h2.2, by omega, by omega⟩) (fun i j hi hj e => by
    rw [d6.2.1, sk_r102 hs hi, sk_r102 hs hj] at e
    omega) fun μ7 e7 x7 => ?_
  have d7 := d6.tr (e7.mono (E := fun p _ => 65 ≤ p ∧ p < 65 + 163) fun p j q => ⟨by omega, by omega⟩)
  have y7 : ∀ i, i < 60 → ∀ j, j < 4 → m_I μ7 (103 + i) j = m_I μ (266 + i) j := fun i hi j hj => by
    have := x7 i hi j hj
    rw [d6.2.1, sk_r102 hs hi, sk_r265 hs hi] at this
    rw [this]
    exact d6.2.2.2 _ j (by omega)
  simp only [d7.2.1, sk_p65_6 hs, sk_p65_7 hs, sk_p65_8 hs, sk_p65_9 hs, sk_p65_10 hs, sk_p65_11 hs, sk_p65_12 hs, sk_p65_13 hs, sk_p65_14 hs, sk_p65_15 hs, sk_p228_6 hs, sk_p228_7 hs, sk_p228_8 hs, sk_p228_9 hs, sk_p228_10 hs, sk_p228_11 hs, sk_p228_12 hs, sk_p228_13 hs, sk_p228_14 hs, sk_p228_15 hs, sk_k65 hs, sk_n65 hs, sk_k228 hs, sk_n228 hs]
  refine s_overAll (m := 30) (n := 3) (lo := 164) (hi := 194) (by rw [d7.K]; exact sk_k326 hs) (by rw [d7.K]; exact sk_k163 hs) (by rw [d7.N]; exact sk_n326 hs) (by rw [d7.N]; exact sk_n163 hs) (by decide) (by decide) (fun i hi => by
    have h2 := sk_q327 hs (p := 327 + i) (by omega) (by omega)
    rw [d7.K, d7.N, d7.2.1, sk_r326 hs hi]
    exact ⟨h2.1, h2.2, by omega⟩) (fun i hi => by
    have h2 := sk_q164 hs (p := 164 + i) (by omega) (by omega)
    rw [d7.K, d7.N, d7.2.1, sk_r163 hs hi]
    exact ⟨h2.1, h2.2, by omega, by omega⟩) (fun i j hi hj e => by
    rw [d7.2.1, sk_r163 hs hi, sk_r163 hs hj] at e
    omega) fun μ8 e8 x8 => ?_
  have d8 := d7.tr (e8.mono (E := fun p _ => 65 ≤ p ∧ p < 65 + 163) fun p j q => ⟨by omega, by omega⟩)
  have y8 : ∀ i, i < 30 → ∀ j, j < 3 → m_I μ8 (164 + i) j = m_I μ (327 + i) j := fun i hi j hj => by
    have := x8 i hi j hj
    rw [d7.2.1, sk_r163 hs hi, sk_r326 hs hi] at this
    rw [this]
    exact d7.2.2.2 _ j (by omega)
  simp only [d8.2.1, sk_p65_6 hs, sk_p65_7 hs, sk_p65_8 hs, sk_p65_9 hs, sk_p65_10 hs, sk_p65_11 hs, sk_p65_12 hs, sk_p65_13 hs, sk_p65_14 hs, sk_p65_15 hs, sk_p228_6 hs, sk_p228_7 hs, sk_p228_8 hs, sk_p228_9 hs, sk_p228_10 hs, sk_p228_11 hs, sk_p228_12 hs, sk_p228_13 hs, sk_p228_14 hs, sk_p228_15 hs, sk_k65 hs, sk_n65 hs, sk_k228 hs, sk_n228 hs]
  refine s_overAll (m := 12) (n := 2) (lo := 195) (hi := 207) (by rw [d8.K]; exact sk_k357 hs) (by rw [d8.K]; exact sk_k194 hs) (by rw [d8.N]; exact sk_n357 hs) (by rw [d8.N]; exact sk_n194 hs) (by decide) (by decide) (fun i hi => by
    have h2 := sk_q358 hs (p := 358 + i) (by omega) (by omega)
    rw [d8.K, d8.N, d8.2.1, sk_r357 hs hi]
    exact ⟨h2.1, h2.2, by omega⟩) (fun i hi => by
    have h2 := sk_q195 hs (p := 195 + i) (by omega) (by omega)
    rw [d8.K, d8.N, d8.2.1, sk_r194 hs hi]
    exact ⟨h2.1, h2.2, by omega, by omega⟩) (fun i j hi hj e => by
    rw [d8.2.1, sk_r194 hs hi, sk_r194 hs hj] at e
    omega) fun μ9 e9 x9 => ?_
  have d9 := d8.tr (e9.mono (E := fun p _ => 65 ≤ p ∧ p < 65 + 163) fun p j q => ⟨by omega, by omega⟩)
  have y9 : ∀ i, i < 12 → ∀ j, j < 2 → m_I μ9 (195 + i) j = m_I μ (358 + i) j := fun i hi j hj => by
    have := x9 i hi j hj
    rw [d8.2.1, sk_r194 hs hi, sk_r357 hs hi] at this
    rw [this]
    exact d8.2.2.2 _ j (by omega)
  simp only [d9.2.1, sk_p65_6 hs, sk_p65_7 hs, sk_p65_8 hs, sk_p65_9 hs, sk_p65_10 hs, sk_p65_11 hs, sk_p65_12 hs, sk_p65_13 hs, sk_p65_14 hs, sk_p65_15 hs, sk_p228_6 hs, sk_p228_7 hs, sk_p228_8 hs, sk_p228_9 hs, sk_p228_10 hs, sk_p228_11 hs, sk_p228_12 hs, sk_p228_13 hs, sk_p228_14 hs, sk_p228_15 hs, sk_k65 hs, sk_n65 hs, sk_k228 hs, sk_n228 hs]
  refine s_overAll (m := 20) (n := 2) (lo := 208) (hi := 228) (by rw [d9.K]; exact sk_k370 hs) (by rw [d9.K]; exact sk_k207 hs) (by rw [d9.N]; exact sk_n370 hs) (by rw [d9.N]; exact sk_n207 hs) (by decide) (by decide) (fun i hi => by
    have h2 := sk_q371 hs (p := 371 + i) (by omega) (by omega)
    rw [d9.K, d9.N, d9.2.1, sk_r370 hs hi]
    exact ⟨h2.1, h2.2, by omega⟩) (fun i hi => by
    have h2 := sk_q208 hs (p := 208 + i) (by omega) (by omega)
    rw [d9.K, d9.N, d9.2.1, sk_r207 hs hi]
    exact ⟨h2.1, h2.2, by omega, by omega⟩) (fun i j hi hj e => by
    rw [d9.2.1, sk_r207 hs hi, sk_r207 hs hj] at e
    omega) fun μ10 e10 x10 => ?_
  have d10 := d9.tr (e10.mono (E := fun p _ => 65 ≤ p ∧ p < 65 + 163) fun p j q => ⟨by omega, by omega⟩)
  have y10 : ∀ i, i < 20 → ∀ j, j < 2 → m_I μ10 (208 + i) j = m_I μ (371 + i) j := fun i hi j hj => by
    have := x10 i hi j hj
    rw [d9.2.1, sk_r207 hs hi, sk_r370 hs hi] at this
    rw [this]
    exact d9.2.2.2 _ j (by omega)
  refine hQ μ10 ⟨d10, fun j hj => ?_, fun j hj => ?_, fun j hj => ?_, fun j hj => ?_, fun j hj => ?_, fun j hj => ?_, fun i hi j hj => ?_, fun i hi j hj => ?_, fun i hi j hj => ?_, fun i hi j hj => ?_, fun i hi j hj => ?_⟩
  · show m_I μ10 65 j = m_I μ 228 j
    rw [e10.2.2.2 65 j (by omega), e9.2.2.2 65 j (by omega), e8.2.2.2 65 j (by omega), e7.2.2.2 65 j (by omega), e6.2.2.2 65 j (by omega), e5.2.2.2 65 j (by omega), e4.2.2.2 65 j (by omega), e3.2.2.2 65 j (by omega), e2.2.2.2 65 j (by omega), e1.2.2.2 65 j (by omega)]
    exact l0 j hj
  · show m_I μ10 66 j = m_I μ 229 j
    rw [e10.2.2.2 66 j (by omega), e9.2.2.2 66 j (by omega), e8.2.2.2 66 j (by omega), e7.2.2.2 66 j (by omega), e6.2.2.2 66 j (by omega), e5.2.2.2 66 j (by omega), e4.2.2.2 66 j (by omega), e3.2.2.2 66 j (by omega), e2.2.2.2 66 j (by omega)]
    exact y1 j hj
  · show m_I μ10 67 j = m_I μ 230 j
    rw [e10.2.2.2 67 j (by omega), e9.2.2.2 67 j (by omega), e8.2.2.2 67 j (by omega), e7.2.2.2 67 j (by omega), e6.2.2.2 67 j (by omega), e5.2.2.2 67 j (by omega), e4.2.2.2 67 j (by omega), e3.2.2.2 67 j (by omega)]
    exact y2 j hj
  · show m_I μ10 68 j = m_I μ 231 j
    rw [e10.2.2.2 68 j (by omega), e9.2.2.2 68 j (by omega), e8.2.2.2 68 j (by omega), e7.2.2.2 68 j (by omega), e6.2.2.2 68 j (by omega), e5.2.2.2 68 j (by omega), e4.2.2.2 68 j (by omega)]
    exact y3 j hj
  · show m_I μ10 69 j = m_I μ 232 j
    rw [e10.2.2.2 69 j (by omega), e9.2.2.2 69 j (by omega), e8.2.2.2 69 j (by omega), e7.2.2.2 69 j (by omega), e6.2.2.2 69 j (by omega), e5.2.2.2 69 j (by omega)]
    exact y4 j hj
  · show m_I μ10 70 j = m_I μ 233 j
    rw [e10.2.2.2 70 j (by omega), e9.2.2.2 70 j (by omega), e8.2.2.2 70 j (by omega), e7.2.2.2 70 j (by omega), e6.2.2.2 70 j (by omega)]
    exact y5 j hj
  · have h1 := sk_s65 hs hi
    show m_I μ10 (m_P μ 71 i) j = m_I μ (m_P μ 234 i) j
    rw [e10.2.2.2 (m_P μ 71 i) j (by omega), e9.2.2.2 (m_P μ 71 i) j (by omega), e8.2.2.2 (m_P μ 71 i) j (by omega), e7.2.2.2 (m_P μ 71 i) j (by omega)]
    exact y6 i hi j hj
  · show m_I μ10 (103 + i) j = m_I μ (266 + i) j
    rw [e10.2.2.2 (103 + i) j (by omega), e9.2.2.2 (103 + i) j (by omega), e8.2.2.2 (103 + i) j (by omega)]
    exact y7 i hi j hj
  · show m_I μ10 (164 + i) j = m_I μ (327 + i) j
    rw [e10.2.2.2 (164 + i) j (by omega), e9.2.2.2 (164 + i) j (by omega)]
    exact y8 i hi j hj
  · show m_I μ10 (195 + i) j = m_I μ (358 + i) j
    rw [e10.2.2.2 (195 + i) j (by omega)]
    exact y9 i hi j hj
  · show m_I μ10 (208 + i) j = m_I μ (371 + i) j
    exact y10 i hi j hj
theorem op_image : iv_op2 (α := Int32) (fun μ Q => p_X0_image 64 μ Q) (fun μ Q => p_X5_image 411 μ Q) := by
  intro L xs z μ hI Qs H
  have hs := hI.1
  obtain ⟨-, -, -, n, tx, st, te, tl, ns, nd, n', tx', st', te', tl', ns', nd', tp, C, -⟩ := id hI
  have r5 : m_I μ 69 23 = nI ns := C.2.2.2.2.2.1.2.2.2.2.1
  have r7 : m_I μ 412 132 = nI ns := C.2.2.2.2.2.1.2.2.2.2.2.2.1
  show p_X0_image 64 μ Qs
  unfold p_X0_image
  simp only [sk_p64_0 hs, sk_p64_1 hs, sk_p64_2 hs, sk_p64_3 hs, sk_p64_4 hs, sk_p64_5 hs, sk_p64_9 hs, sk_p64_10 hs, sk_p64_11 hs, sk_p228_6 hs, sk_p228_7 hs, sk_p228_8 hs, sk_p228_9 hs, sk_p228_10 hs, sk_p228_11 hs, sk_p228_12 hs, sk_p228_13 hs, sk_p228_14 hs, sk_p228_15 hs, sk_k64 hs, sk_n64 hs, sk_k228 hs, sk_n228 hs, true_and]
  refine s_lay228 hs fun μ1 l => ?_
  have d := l.1
  have gs := d.sk hs
  have e69 : m_I μ1 69 = m_I μ 69 := d.I fun j => by omega
  simp only [sk_p64_0 gs, sk_p64_1 gs, sk_p64_2 gs, sk_p64_3 gs, sk_p64_4 gs, sk_p64_5 gs, sk_p64_9 gs, sk_p64_10 gs, sk_p64_11 gs, sk_p65_6 gs, sk_p65_7 gs, sk_p65_8 gs, sk_p65_9 gs, sk_p65_10 gs, sk_p65_11 gs, sk_p65_12 gs, sk_p65_13 gs, sk_p65_14 gs, sk_p65_15 gs, sk_k64 gs, sk_n64 gs, sk_k65 gs, sk_n65 gs, sk_k69 gs, sk_n69 gs, cl23, vp23_25, true_and, e69, r5]
  refine H _ μ1 ⟨by rw [d.1], d.I fun j => by omega, sk_k64 gs, sk_k411 gs⟩ fun Qm hQ => ?_
  show p_X5_image 411 μ1 Qm
  unfold p_X5_image
  refine m_cp1 (sk_p411_0 gs) (sk_p411_1 gs) (sk_k412 gs) (sk_n412 gs) (sk_k413 gs) (sk_n413 gs) ?_
  have e412 : m_I μ1 412 = m_I μ 412 := d.I fun j => by omega
  simp (disch := omega) only [ml_KI, ml_PI, ml_NI, ml_In, sk_p411_0 gs, sk_p411_1 gs, sk_p411_2 gs, sk_p411_6 gs, sk_p411_7 gs, sk_p411_8 gs, sk_p411_9 gs, sk_p411_10 gs, sk_p411_11 gs, sk_p411_12 gs, sk_p411_22 gs, sk_p411_23 gs, sk_p411_25 gs, sk_p411_26 gs, sk_p411_30 gs, sk_p411_31 gs, sk_p411_32 gs, sk_p411_33 gs, sk_p411_35 gs, sk_p411_36 gs, sk_p411_37 gs, sk_p411_38 gs, sk_p411_39 gs, sk_p411_40 gs, sk_p411_42 gs, sk_p411_43 gs, sk_p411_44 gs, sk_p411_45 gs, sk_p411_46 gs, sk_k411 gs, sk_n411 gs, sk_k412 gs, sk_n412 gs, cl132, vp132_11120, true_and, e412, r7]
  refine hQ _ ?_ ⟨by show m_S μ1 1 = _; rw [d.1], by rw [ml_In (by decide)]; exact d.I fun j => by omega, sk_k64 gs, sk_k411 gs⟩
  refine kp_gen hI (sk_m.I gs) d.1 d.2.2.1 (fun p _ => by show m_P μ1 p = _; rw [d.2.1]) (fun p p1 p2 p3 p4 p5 => ?_) (fun j hj => ?_) (fun j hj => ?_) fun n tx st te tl ns nd n' tx' st' te' tl' ns' nd' c1 c2 => ⟨n, tx, st, te, tl, ns, nd, n, tx, st, te, tl, ns, nd, ?_, ?_, fun t ht => by omega⟩
  · rw [ml_In p4]; exact d.I fun j => by omega
  · rw [ml_In (by decide)]; exact d.2.2.2 64 j (by omega)
  · rw [ml_In (by decide)]; exact d.2.2.2 411 j (by omega)
  · rw [ml_In (by decide), e412]
    exact kp_C c1 (fun k hk => sk_s65 hs hk) (fun p p1 p2 => by rw [ml_In (by omega)]; exact d.I fun j => by omega) (by rw [ml_PI, d.2.1])
  · rw [ml_Is]
    have c3 := C_lay (a' := fun j => if j < 11120 then m_I μ 412 j else m_I μ1 413 j) c1 l (fun j hj => if_pos hj)
    exact kp_C c3 (fun k hk => sk_s228 gs hk) (fun p p1 p2 => ml_In (by omega)) rfl
theorem op_back : iv_op2 (α := Int32) (fun μ Q => p_X0_back 64 μ Q) (fun μ Q => p_X5_back 411 μ Q) := by
  intro L xs z μ hI Qs H
  have hs := hI.1
  obtain ⟨-, -, -, n, tx, st, te, tl, ns, nd, n', tx', st', te', tl', ns', nd', tp, -, C, -⟩ := id hI
  have r5 : m_I μ 232 23 = nI ns' := C.2.2.2.2.2.1.2.2.2.2.1
  have r7 : m_I μ 413 132 = nI ns' := C.2.2.2.2.2.1.2.2.2.2.2.2.1
  show p_X0_back 64 μ Qs
  unfold p_X0_back
  simp only [sk_p64_0 hs, sk_p64_1 hs, sk_p64_2 hs, sk_p64_3 hs, sk_p64_4 hs, sk_p64_5 hs, sk_p64_9 hs, sk_p64_10 hs, sk_p64_11 hs, sk_p65_6 hs, sk_p65_7 hs, sk_p65_8 hs, sk_p65_9 hs, sk_p65_10 hs, sk_p65_11 hs, sk_p65_12 hs, sk_p65_13 hs, sk_p65_14 hs, sk_p65_15 hs, sk_k64 hs, sk_n64 hs, sk_k65 hs, sk_n65 hs, true_and]
  refine s_lay65 hs fun μ1 l => ?_
  have d := l.1
  have gs := d.sk hs
  have e69 : m_I μ1 69 23 = nI ns' := (l.2.2.2.2.2.1 23 (by decide)).trans r5
  simp only [sk_p64_0 gs, sk_p64_1 gs, sk_p64_2 gs, sk_p64_3 gs, sk_p64_4 gs, sk_p64_5 gs, sk_p64_9 gs, sk_p64_10 gs, sk_p64_11 gs, sk_p65_6 gs, sk_p65_7 gs, sk_p65_8 gs, sk_p65_9 gs, sk_p65_10 gs, sk_p65_11 gs, sk_p65_12 gs, sk_p65_13 gs, sk_p65_14 gs, sk_p65_15 gs, sk_k64 gs, sk_n64 gs, sk_k65 gs, sk_n65 gs, sk_k69 gs, sk_n69 gs, cl23, vp23_25, true_and, e69]
  refine H _ μ1 ⟨by rw [d.1], d.I fun j => by omega, sk_k64 gs, sk_k411 gs⟩ fun Qm hQ => ?_
  show p_X5_back 411 μ1 Qm
  unfold p_X5_back
  refine m_cp0 (sk_p411_0 gs) (sk_p411_1 gs) (sk_k412 gs) (sk_n412 gs) (sk_k413 gs) (sk_n413 gs) ?_
  have e413 : m_I μ1 413 = m_I μ 413 := d.I fun j => by omega
  have e132 : (if 132 < 11120 then m_I μ 413 132 else m_I μ1 412 132) = nI ns' := by rw [if_pos (by decide)]; exact r7
  simp (disch := omega) only [ml_KI, ml_PI, ml_NI, ml_Is, sk_p411_0 gs, sk_p411_1 gs, sk_p411_2 gs, sk_p411_6 gs, sk_p411_7 gs, sk_p411_8 gs, sk_p411_9 gs, sk_p411_10 gs, sk_p411_11 gs, sk_p411_12 gs, sk_p411_22 gs, sk_p411_23 gs, sk_p411_25 gs, sk_p411_26 gs, sk_p411_30 gs, sk_p411_31 gs, sk_p411_32 gs, sk_p411_33 gs, sk_p411_35 gs, sk_p411_36 gs, sk_p411_37 gs, sk_p411_38 gs, sk_p411_39 gs, sk_p411_40 gs, sk_p411_42 gs, sk_p411_43 gs, sk_p411_44 gs, sk_p411_45 gs, sk_p411_46 gs, sk_k411 gs, sk_n411 gs, sk_k412 gs, sk_n412 gs, cl132, vp132_11120, true_and, e413, e132]
  refine hQ _ ?_ ⟨by show m_S μ1 1 = _; rw [d.1], by rw [ml_In (by decide)]; exact d.I fun j => by omega, sk_k64 gs, sk_k411 gs⟩
  refine kp_gen hI (sk_m.I gs) d.1 d.2.2.1 (fun p _ => by show m_P μ1 p = _; rw [d.2.1]) (fun p p1 p2 p3 p4 p5 => ?_) (fun j hj => ?_) (fun j hj => ?_) fun n tx st te tl ns nd n' tx' st' te' tl' ns' nd' c1 c2 => ⟨n', tx', st', te', tl', ns', nd', n', tx', st', te', tl', ns', nd', ?_, ?_, fun t ht => by omega⟩
  · rw [ml_In p3]; exact d.I fun j => by omega
  · rw [ml_In (by decide)]; exact d.2.2.2 64 j (by omega)
  · rw [ml_In (by decide)]; exact d.2.2.2 411 j (by omega)
  · rw [ml_Is]
    have c3 := C_lay (a' := fun j => if j < 11120 then m_I μ 413 j else m_I μ1 412 j) c2 l (fun j hj => if_pos hj)
    exact kp_C c3 (fun k hk => sk_s65 gs hk) (fun p p1 p2 => ml_In (by omega)) rfl
  · rw [ml_In (by decide), e413]
    exact kp_C c2 (fun k hk => sk_s228 hs hk) (fun p p1 p2 => by rw [ml_In (by omega)]; exact d.I fun j => by omega) (by rw [ml_PI, d.2.1])
theorem op_undo : iv_op2 (α := Int32) (fun μ Q => p_X0_undo 64 μ Q) (fun μ Q => p_X5_undo 411 μ Q) := by
  refine op_step fun L xs z μ hI => ?_
  obtain ⟨hs, -, -, n, tx, st, te, tl, ns, nd, n', tx', st', te', tl', ns', nd', tp, C, -⟩ := hI
  obtain ⟨⟨q1, q2, q3, q4, q5⟩, ⟨E0, E1, E2, E3, E4, E5⟩, ⟨A0, A1, A3, A4, A5⟩, hA2, hH, hr, hrec, ⟨N, NS, ND, hst, hmono⟩, hte, htl, hte2, htl2⟩ := id C
  by_cases c : st = 0
  · subst c
    refine ⟨(-1, m_I μ 412), fun Q hQ => ?_, fun μ1 h1 w Q hQ => ?_⟩
    · simp only [p_X0_undo, sk_p64_0 hs, sk_p64_1 hs, sk_p64_2 hs, sk_p64_3 hs, sk_p64_4 hs, sk_p64_5 hs, sk_p64_9 hs, sk_p64_10 hs, sk_p64_11 hs, sk_p65_6 hs, sk_p65_7 hs, sk_p65_8 hs, sk_p65_9 hs, sk_p65_10 hs, sk_p65_11 hs, sk_p65_12 hs, sk_p65_13 hs, sk_p65_14 hs, sk_p65_15 hs, sk_k64 hs, sk_n64 hs, sk_k65 hs, sk_n65 hs, true_and, E3]
      rw [if_pos (show nI 0 = 0 from rfl)]
      exact hQ μ (stepS.rf hs) fun n tx st te tl ns nd c => ⟨st, ns, nd, c⟩
    · have gs := h1.1
      simp only [p_X5_undo, sk_p411_0 gs, sk_p411_1 gs, sk_p411_2 gs, sk_p411_6 gs, sk_p411_7 gs, sk_p411_8 gs, sk_p411_9 gs, sk_p411_10 gs, sk_p411_11 gs, sk_p411_12 gs, sk_p411_22 gs, sk_p411_23 gs, sk_p411_25 gs, sk_p411_26 gs, sk_p411_30 gs, sk_p411_31 gs, sk_p411_32 gs, sk_p411_33 gs, sk_p411_35 gs, sk_p411_36 gs, sk_p411_37 gs, sk_p411_38 gs, sk_p411_39 gs, sk_p411_40 gs, sk_p411_42 gs, sk_p411_43 gs, sk_p411_44 gs, sk_p411_45 gs, sk_p411_46 gs, sk_k411 gs, sk_n411 gs, sk_k412 gs, sk_n412 gs, cl3, vp3_11120, true_and, w, A3]
      rw [if_pos (show nI 0 = 0 from rfl)]
      exact hQ μ1 stepM.rf w
  obtain ⟨s, rfl⟩ : ∃ s, st = s + 1 := ⟨st - 1, by omega⟩
  have c0 : ¬ nI (s + 1) = 0 := nI_ne0 (by omega) (by omega)
  obtain ⟨k1, k2, k3, k4, k5, k6⟩ := hst s (by omega)
  have h1 := sk_s65 hs (j := s) (by omega)
  have h2 := sk_q72 hs h1.1 h1.2
  have p1 : (nI (s + 1) - 1 : Int32) = nI s := nI_pred s
  refine ⟨(nI s, mUndo (m_I μ 412) s), fun Q hQ => ?_, fun μ1 g1 w Q hQ => ?_⟩
  · simp only [p_X0_undo, sk_p64_0 hs, sk_p64_1 hs, sk_p64_2 hs, sk_p64_3 hs, sk_p64_4 hs, sk_p64_5 hs, sk_p64_9 hs, sk_p64_10 hs, sk_p64_11 hs, sk_p65_6 hs, sk_p65_7 hs, sk_p65_8 hs, sk_p65_9 hs, sk_p65_10 hs, sk_p65_11 hs, sk_p65_12 hs, sk_p65_13 hs, sk_p65_14 hs, sk_p65_15 hs, sk_k64 hs, sk_n64 hs, sk_k65 hs, sk_n65 hs, true_and, E3]
    rw [if_neg c0]
    unfold p_X1_takeBack
    simp (disch := omega) only [ml_uI, ml_KI, ml_PI, ml_NI, ml_Is, ml_us, E3, p1, sk_p65_6 hs, sk_p65_7 hs, sk_p65_8 hs, sk_p65_9 hs, sk_p65_10 hs, sk_p65_11 hs, sk_p65_12 hs, sk_p65_13 hs, sk_p65_14 hs, sk_p65_15 hs, sk_k65 hs, sk_n65 hs, sk_k70 hs, sk_n70 hs, sk_k71 hs, sk_n71 hs, nI_clamp, vp_t, true_and, forall_eq]
    refine s_over (n := 25) (by rw [ml_KI]; exact h2.1) (by rw [ml_KI]; exact sk_k69 hs) (by rw [ml_NI]; exact h2.2) (by rw [ml_NI]; exact sk_n69 hs) (by decide) fun ν d e => ?_
    have D : eqD (fun p j => p = 69 ∨ (p = 65 ∧ j = 3)) μ ν := (eqD.sI fun j hj => ml_un fun q => hj (Or.inr ⟨rfl, q⟩)).tr (d.mono fun p j q => Or.inl q)
    have gs := D.sk hs
    have e3 : m_I ν 65 3 = nI s := by rw [d.2.2.2 65 3 (by decide), ml_Is, ml_us]
    have e70 : m_I ν 70 s = nI (N s) := (D.2.2.2 70 s (by omega)).trans k2
    have e0 : m_I ν 65 0 = nI n := (D.2.2.2 65 0 (by omega)).trans E0
    have f : ∀ j, j < 25 → m_I ν 69 j = m_I μ (m_P μ 71 s) j := fun j hj => (e j hj).trans (by rw [ml_In (by omega)])
    simp (disch := omega) only [sk_p65_6 gs, sk_p65_7 gs, sk_p65_8 gs, sk_p65_9 gs, sk_p65_10 gs, sk_p65_11 gs, sk_p65_12 gs, sk_p65_13 gs, sk_p65_14 gs, sk_p65_15 gs, sk_k65 gs, sk_n65 gs, sk_k70 gs, sk_n70 gs, e3, e70, nI_clamp, vp_t, true_and, forall_eq]
    unfold p_X1_takeBack_L36
    refine lp_fn (n - N s) (fun k => (nI (N s + k), m_sI ν 69 (tb (m_I ν 69) (N s) k))) (fun _ => True) (fun k hk _ K hK => ?_) (fun _ K => ?_) ?_ trivial
    · show p_X1_takeBack_L36b 65 (fun i2 μ => K (i2, μ)) (nI (N s + k)) (m_sI ν 69 (tb (m_I ν 69) (N s) k)) _
      have hK := hK trivial
      unfold p_X1_takeBack_L36b
      simp (disch := omega) only [ml_In, e0, nI_leI, Nat.not_le.mpr (show N s + k < n by omega), if_false, ml_KI, ml_PI, ml_NI, sk_p65_6 gs, sk_p65_7 gs, sk_p65_8 gs, sk_p65_9 gs, sk_p65_10 gs, sk_p65_11 gs, sk_p65_12 gs, sk_p65_13 gs, sk_p65_14 gs, sk_p65_15 gs, sk_k65 gs, sk_n65 gs, sk_k69 gs, sk_n69 gs, li_4, li_13, li_1, nI_add, nI_clamp, vp_t, true_and, forall_eq, ml_uI, ml_Is, ml_ss]
      exact hK
    · show p_X1_takeBack_L36b 65 (fun i2 μ => K (i2, μ)) (nI (N s + (n - N s))) (m_sI ν 69 (tb (m_I ν 69) (N s) (n - N s))) _
      unfold p_X1_takeBack_L36b
      simp (disch := omega) only [ml_In, e0, nI_leI, show n ≤ N s + (n - N s) by omega, if_true, ml_KI, ml_PI, sk_p64_0 gs, sk_p64_1 gs, sk_p64_2 gs, sk_p64_3 gs, sk_p64_4 gs, sk_p64_5 gs, sk_p64_9 gs, sk_p64_10 gs, sk_p64_11 gs, sk_p65_6 gs, sk_p65_7 gs, sk_p65_8 gs, sk_p65_9 gs, sk_p65_10 gs, sk_p65_11 gs, sk_p65_12 gs, sk_p65_13 gs, sk_p65_14 gs, sk_p65_15 gs, sk_k64 gs, sk_n64 gs, sk_k65 gs, sk_n65 gs, true_and, e3]
      have e69 : m_I (m_sI ν 69 (tb (m_I ν 69) (N s) (n - N s))) 69 = tb (m_I ν 69) (N s) (n - N s) := ml_Is
      have D2 : eqD (fun p j => p = 69 ∨ (p = 65 ∧ j = 3)) μ (m_sI ν 69 (tb (m_I ν 69) (N s) (n - N s))) := D.tr (eqD.sI fun j hj => absurd (Or.inl rfl) hj)
      have f3 : m_I (m_sI ν 69 (tb (m_I ν 69) (N s) (n - N s))) 65 3 = nI s := by rw [ml_In (by decide)]; exact e3
      have f69 : ∀ j, j < 25 → (∀ e, N s ≤ e → e < n → j ≠ 4 + e ∧ j ≠ 13 + e) → tb (m_I ν 69) (N s) (n - N s) j = m_I μ (m_P μ 71 s) j := fun j hj hh => by
        rw [tb_out fun e he => hh (N s + e) (by omega) (by omega)]
        exact f j hj
      have g69 : ∀ e, N s ≤ e → e < n → tb (m_I ν 69) (N s) (n - N s) (4 + e) = 2 ∧ tb (m_I ν 69) (N s) (n - N s) (13 + e) = 0 := fun e e1 e2 => by
        have := tb_in (f := m_I ν 69) (n0 := N s) (k := n - N s) (e := e - N s) (by omega) (by omega)
        rw [show N s + (e - N s) = e by omega] at this
        exact this
      have gs2 := D2.sk hs
      generalize m_sI ν 69 (tb (m_I ν 69) (N s) (n - N s)) = μ' at e69 D2 f3 gs2
      refine hQ μ' ⟨gs2, D2.1, D2.2.2.1, fun p _ => by rw [D2.2.1], fun p p1 _ => D2.I fun j => by omega⟩ fun n9 tx9 st9 te9 tl9 ns9 nd9 c9 => ?_
      obtain ⟨u1, u2, u3, u4, u5⟩ := C_same C c9
      subst u1 u2 u3 u4 u5
      refine ⟨s, NS s, ND s, ?_⟩
      show iv_C μ' 65 (mUndo (m_I μ 412) s) n tx s te tl (NS s) (ND s)
      have i : ∀ p, p ≠ 65 → p ≠ 69 → m_I μ' p = m_I μ p := fun p p1 p2 => D2.I fun j => by omega
      have c1 : ns ≤ 60 := hr.2.2.2.2.2.2.2.2.1
      have c2 : nd ≤ 30 := hr.2.2.2.2.2.2.2.2.2.1
      have hrc : ∀ x y : Nat, x ≤ ns → y ≤ nd → ∀ mr mr' : Nat → Int32, (∀ j, 23 ≤ j → j < 354 → mr' j = mr j) → iv_rec x y (fun i => m_I μ (65 + 38 + i)) (fun i => m_I μ (65 + 99 + i)) mr → iv_rec x y (fun i => m_I μ' (65 + 38 + i)) (fun i => m_I μ' (65 + 99 + i)) mr' := by
        intro x y hx hy mr mr' hm hq
        exact rec_cong hq (by omega) (by omega) (fun t ht j hj => by rw [i _ (by omega) (by omega)]) (fun t ht j hj => by rw [i _ (by omega) (by omega)]) hm
      refine ⟨⟨q1, q2, by omega, q4, q5⟩, ⟨?_, ?_, ?_, f3, ?_, ?_⟩, ⟨?_, ?_, if_pos rfl, ?_, ?_⟩, ?_, fun e he => ?_, ?_, ?_, ⟨N, NS, ND, fun k hk => ?_, fun j k hj hk => hmono j k hj (by omega)⟩, fun i2 hi j hj => ?_, fun i2 hi j hj => ?_, fun i2 hi => ?_, fun i2 hi => ?_⟩
      · rw [D2.2.2.2 65 0 (by omega)]; exact E0
      · rw [D2.2.2.2 65 1 (by omega)]; exact E1
      · rw [D2.2.2.2 65 2 (by omega), mUndo_out (by decide) (by omega)]; exact E2
      · rw [D2.2.2.2 65 4 (by omega)]; exact E4
      · rw [D2.2.2.2 65 5 (by omega)]; exact E5
      · rw [mUndo_out (by decide) (by omega)]; exact A0
      · rw [mUndo_out (by decide) (by omega)]; exact A1
      · rw [mUndo_out (by decide) (by omega)]; exact A4
      · rw [mUndo_out (by decide) (by omega)]; exact A5
      · rw [mUndo_out (by decide) (by omega)]; exact hA2
      · show m_I μ' 66 e = _ ∧ m_I μ' 67 e = _ ∧ m_I μ' 68 e = _ ∧ (∃ x, x ≤ 9 ∧ m_I μ' 66 e = nI x) ∧ (∃ x, 1 ≤ x ∧ x ≤ 9 ∧ m_I μ' 67 e = nI x) ∧ ∃ x, x ≤ 99 ∧ m_I μ' 68 e = nI x
        rw [i 66 (by decide) (by decide), i 67 (by decide) (by decide), i 68 (by decide) (by decide), mUndo_out (by omega) (by omega), mUndo_out (by omega) (by omega), mUndo_out (by omega) (by omega)]
        exact hH e he
      · show iv_row n (NS s) (ND s) (m_I μ' 69) _
        rw [e69]
        exact row_back k5 k1 q1 g69 f69 fun j hj => mUndo_row hj
      · exact hrc _ _ k3 k4 _ _ (fun j j1 j2 => mUndo_row (by omega)) k6
      · obtain ⟨w1, w2, w3, w4, w5, w6⟩ := hst k (by omega)
        obtain ⟨v1, v2, v3⟩ := hmono k s (by omega) (by omega)
        have hk3 := sk_s65 hs (j := k) (by omega)
        refine ⟨w1, ?_, v2, v3, ?_, ?_⟩
        · show m_I μ' 70 k = _
          rw [i 70 (by decide) (by decide)]; exact w2
        · refine row_cong (by omega) w5 (fun j hj => ?_) fun j hj => mUndo_out (by omega) (by omega)
          show m_I μ' (m_P μ' 71 k) j = _
          rw [D2.2.1, i _ (by omega) (by omega)]
        · exact hrc _ _ w3 w4 _ _ (fun j j1 j2 => mUndo_out (by omega) (by omega)) w6
      · show m_I μ' (195 + i2) j = _
        rw [i _ (by omega) (by omega), mUndo_out (by omega) (by omega)]
        exact hte i2 hi j hj
      · show m_I μ' (208 + i2) j = _
        rw [i _ (by omega) (by omega), mUndo_out (by omega) (by omega)]
        exact htl i2 hi j hj
      · show (∃ x, x ≤ 40 ∧ m_I μ' (195 + i2) 0 = nI x - 20) ∧ inB (m_I μ' (195 + i2) 1) (-1) 1
        rw [i _ (by omega) (by omega)]
        exact hte2 i2 hi
      · show (∃ x, x < 9 ∧ m_I μ' (208 + i2) 0 = nI x) ∧ ∃ x, 1 ≤ x ∧ x ≤ 999 ∧ m_I μ' (208 + i2) 1 = nI x
        rw [i _ (by omega) (by omega)]
        exact htl2 i2 hi
    · show (nI (N s), ν) = (nI (N s + 0), m_sI ν 69 (m_I ν 69))
      rw [m_sIsame rfl, Nat.add_zero]
  · have gs := g1.1
    simp only [p_X5_undo, sk_p411_0 gs, sk_p411_1 gs, sk_p411_2 gs, sk_p411_6 gs, sk_p411_7 gs, sk_p411_8 gs, sk_p411_9 gs, sk_p411_10 gs, sk_p411_11 gs, sk_p411_12 gs, sk_p411_22 gs, sk_p411_23 gs, sk_p411_25 gs, sk_p411_26 gs, sk_p411_30 gs, sk_p411_31 gs, sk_p411_32 gs, sk_p411_33 gs, sk_p411_35 gs, sk_p411_36 gs, sk_p411_37 gs, sk_p411_38 gs, sk_p411_39 gs, sk_p411_40 gs, sk_p411_42 gs, sk_p411_43 gs, sk_p411_44 gs, sk_p411_45 gs, sk_p411_46 gs, sk_k411 gs, sk_n411 gs, sk_k412 gs, sk_n412 gs, cl3, vp3_11120, true_and, w, A3]
    rw [if_neg c0]
    simp only [forall_eq, ml_uI, p1, w]
    have b3 : ml_u (m_I μ 412) 3 (nI s) 3 = nI s := ml_us
    have bo : ∀ j, j ≠ 3 → ml_u (m_I μ 412) 3 (nI s) j = m_I μ 412 j := fun j hj => ml_un hj
    generalize ml_u (m_I μ 412) 3 (nI s) = b at b3 bo
    unfold p_X5_undo_L23
    refine lp_fn 355 (fun k => (nI k, m_sI μ1 412 (fun j => if 110 ≤ j ∧ j < 110 + k then b (470 + 355 * s + (j - 110)) else b j))) (fun _ => True) (fun k hk _ K hK => ?_) (fun _ K => ?_) ?_ trivial
    · show p_X5_undo_L23b 411 (fun i2 μ => K (i2, μ)) (nI k) (m_sI μ1 412 (fun j => if 110 ≤ j ∧ j < 110 + k then b (470 + 355 * s + (j - 110)) else b j)) Q
      have hK := hK trivial
      unfold p_X5_undo_L23b
      rw [show (355 : Int32) = nI 355 from rfl, if_neg (nI_ge (b := 355) hk (by decide))]
      have e3 : (if 110 ≤ 3 ∧ 3 < 110 + k then b (470 + 355 * s + (3 - 110)) else b 3) = nI s := by rw [if_neg (by omega)]; exact b3
      have e4 : (if 110 ≤ 470 + 355 * s + k ∧ 470 + 355 * s + k < 110 + k then b (470 + 355 * s + (470 + 355 * s + k - 110)) else b (470 + 355 * s + k)) = b (470 + 355 * s + k) := if_neg (by omega)
      simp (disch := omega) only [li_470, li_110, li_1, cl3, vp3_11120, ml_KI, ml_NI, ml_PI, ml_Is, sk_p411_0 gs, sk_p411_1 gs, sk_p411_2 gs, sk_p411_6 gs, sk_p411_7 gs, sk_p411_8 gs, sk_p411_9 gs, sk_p411_10 gs, sk_p411_11 gs, sk_p411_12 gs, sk_p411_22 gs, sk_p411_23 gs, sk_p411_25 gs, sk_p411_26 gs, sk_p411_30 gs, sk_p411_31 gs, sk_p411_32 gs, sk_p411_33 gs, sk_p411_35 gs, sk_p411_36 gs, sk_p411_37 gs, sk_p411_38 gs, sk_p411_39 gs, sk_p411_40 gs, sk_p411_42 gs, sk_p411_43 gs, sk_p411_44 gs, sk_p411_45 gs, sk_p411_46 gs, sk_k411 gs, sk_n411 gs, sk_k412 gs, sk_n412 gs, ml_uI, e3, e4, pk_mul, nI_add, nI_clamp, vp_t, true_and, forall_eq, ml_ss]
      have ef : ml_u (fun j => if 110 ≤ j ∧ j < 110 + k then b (470 + 355 * s + (j - 110)) else b j) (110 + k) (b (470 + 355 * s + k)) = fun j => if 110 ≤ j ∧ j < 110 + (k + 1) then b (470 + 355 * s + (j - 110)) else b j := by
        funext j
        unfold ml_u
        by_cases e : j = 110 + k
        · rw [if_pos e, if_pos (by omega)]
          congr 1
          omega
        · rw [if_neg e]
          dsimp only
          by_cases e2 : 110 ≤ j ∧ j < 110 + k
          · rw [if_pos e2, if_pos (by omega)]
          · rw [if_neg e2, if_neg (by omega)]
      rw [ef]
      exact hK
    · show p_X5_undo_L23b 411 (fun i2 μ => K (i2, μ)) (nI 355) (m_sI μ1 412 (fun j => if 110 ≤ j ∧ j < 110 + 355 then b (470 + 355 * s + (j - 110)) else b j)) Q
      unfold p_X5_undo_L23b
      rw [if_pos (show (355 : Int32) ≤ nI 355 by decide)]
      have e3 : (if 110 ≤ 3 ∧ 3 < 110 + 355 then b (470 + 355 * s + (3 - 110)) else b 3) = nI s := by rw [if_neg (by omega)]; exact b3
      simp (disch := omega) only [cl3, vp3_11120, ml_KI, ml_NI, ml_PI, ml_Is, sk_p411_0 gs, sk_p411_1 gs, sk_p411_2 gs, sk_p411_6 gs, sk_p411_7 gs, sk_p411_8 gs, sk_p411_9 gs, sk_p411_10 gs, sk_p411_11 gs, sk_p411_12 gs, sk_p411_22 gs, sk_p411_23 gs, sk_p411_25 gs, sk_p411_26 gs, sk_p411_30 gs, sk_p411_31 gs, sk_p411_32 gs, sk_p411_33 gs, sk_p411_35 gs, sk_p411_36 gs, sk_p411_37 gs, sk_p411_38 gs, sk_p411_39 gs, sk_p411_40 gs, sk_p411_42 gs, sk_p411_43 gs, sk_p411_44 gs, sk_p411_45 gs, sk_p411_46 gs, sk_k411 gs, sk_n411 gs, sk_k412 gs, sk_n412 gs, e3, true_and]
      refine hQ _ stepM.sI ?_
      rw [ml_Is]
      funext j
      unfold mUndo
      dsimp only
      by_cases e : j = 3
      · subst e
        rw [if_neg (by omega), if_pos rfl]; exact b3
      · rw [if_neg e]
        by_cases e2 : 110 ≤ j ∧ j < 110 + 355
        · rw [if_pos e2, if_pos (by omega)]; exact bo _ (by omega)
        · rw [if_neg e2, if_neg (by omega)]; exact bo j e
    · show (nI 0, m_sI μ1 412 b) = (nI 0, m_sI μ1 412 _)
      congr 2
      funext j
      exact (if_neg (by omega)).symm
