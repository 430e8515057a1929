/-! plain law: sets -/
theorem rS_c {n : Nat} {wh : Nat → Nat} {nd : Nat} {f g : Nat → Int32} {w : WW} (h : rS n wh nd f w) (hn : n ≤ 9) : rS n wh nd (ml_c f g 0 0 25) w := by
  have e : ∀ j, j < 25 → ml_c f g 0 0 25 j = f j := by
    intro j hj
    unfold ml_c
    rw [if_pos (by omega), Nat.zero_add, Nat.sub_zero]
  obtain ⟨h1, h2, h3, h4⟩ := h
  exact ⟨fun k hk => by rw [e k (by omega)]; exact h1 k hk, fun x hx => by rw [e _ (by omega), e _ (by omega)]; exact h2 x hx, by rw [e _ (by omega)]; exact h3, by rw [e _ (by omega)]; exact h4⟩
section LE
variable {n : Nat} {hun sto wh : Nat → Nat} {lv : LV} {nd : Nat} {μ ν : fw_M} {w : WW}
def leR (lv : LV) (hun sto wh : Nat → Nat) (w : WW) (kind s : Nat) : Nat → Bool × WW
  | 0 => (true, w)
  | k + 1 => if (leR lv hun sto wh w kind s k).1 = true ∧ s / 2 ^ k % 2 = 1 then (decide (¬ spoonN lv hun sto wh (leR lv hun sto wh w kind s k).2 k kind = 0), eatN lv hun sto wh (leR lv hun sto wh w kind s k).2 k kind) else leR lv hun sto wh w kind s k
theorem leR_false {kind s k : Nat} : ∀ {m : Nat}, k ≤ m → (leR lv hun sto wh w kind s k).1 = false → (leR lv hun sto wh w kind s m).1 = false := by
  intro m
  induction m with
  | zero => intro h g; rwa [show k = 0 by omega] at g
  | succ m ih =>
    intro h g
    by_cases e : k = m + 1
    · subst e; exact g
    · have := ih (by omega) g
      unfold leR
      rw [if_neg (by rw [this]; exact fun q => absurd q.1 (by decide))]
      exact this
theorem leR_ok {kind s : Nat} (h : okW n w) (hs : ∀ e, e < n → sto e ≤ 9) : ∀ k, k ≤ n → okW n (leR lv hun sto wh w kind s k).2 := by
  intro k
  induction k with
  | zero => intro _; exact h
  | succ k ih =>
    intro hk
    unfold leR
    split
    · exact eatN_ok (ih (by omega)) (hs k (by omega))
    · exact ih (by omega)
def leB (lv : LV) (hun sto wh : Nat → Nat) (w : WW) (n kind pot g s : Nat) : Bool := (leR lv hun sto wh w kind s n).1 && decide ((leR lv hun sto wh w kind s n).2.1 pot = g)
theorem s_leaves (c : cxS n hun sto lv μ) (R : rS n wh nd (m_I μ 69) w) (ok : okW n w) {s kind pot g : Nat} (hs : s < 512) (hk : kind < 2) (hp : pot < 4) (hg : g ≤ 999) {Q : Int32 → fw_M → Prop} (hQ : ∀ μ', eqD (fun p _ => p = 396 ∨ p = 400) μ μ' → Q (if leB lv hun sto wh w n kind pot g s = true then 1 else 0) μ') : p_X0_leaves 64 (nI s) (nI kind) (nI pot) (nI g) μ Q := by
  obtain ⟨gs, h9, e0, hE, -⟩ := id c
  have q4 := sk_q399 gs (p := 400) (by decide) (by decide)
  have okk := leR_ok (lv := lv) (hun := hun) (wh := wh) (kind := kind) (s := s) ok fun e he => (hE e he).2.2
  have r1 : m_P μ 398 1 = 400 := sk_r398 gs (j := 1) (by decide)
  unfold p_X0_leaves
  simp (decide := true) (disch := omega) only [sk_p64_0 gs, sk_p64_1 gs, sk_p64_2 gs, sk_p64_3 gs, sk_p64_4 gs, sk_p64_5 gs, sk_p64_9 gs, sk_p64_10 gs, sk_p64_11 gs, sk_p65_6 gs, sk_p65_7 gs, sk_p65_8 gs, sk_p65_9 gs, sk_p65_10 gs, sk_p65_11 gs, sk_p65_12 gs, sk_p65_13 gs, sk_p65_14 gs, sk_p65_15 gs, sk_k64 gs, sk_n64 gs, sk_k65 gs, sk_n65 gs, sk_k69 gs, sk_n69 gs, sk_k398 gs, sk_n398 gs, li_0, li_1, li_25, nI_clamp, vp_t, true_and, forall_eq, r1, q4.1, q4.2, nI_ltI, ml_cp]
  unfold p_X0_leaves_L27
  have d0 : eqD (fun p _ => p = 396 ∨ p = 400) μ (m_sI μ 400 (ml_c (m_I μ 69) (m_I μ 400) 0 0 25)) := eqD.sI fun j hj => absurd (Or.inr rfl) hj
  refine lp_to n (fun k (a : Int32 × fw_M) => a.1 = nI k ∧ eqD (fun p _ => p = 396 ∨ p = 400) μ a.2 ∧ (leR lv hun sto wh w kind s k).1 = true ∧ rS n wh nd (m_I a.2 400) (leR lv hun sto wh w kind s k).2) (fun k a hk2 hI K hK => ?_) (fun a hI K => ?_) ⟨rfl, d0, rfl, by show rS n wh nd (m_I (m_sI μ 400 _) 400) w; rw [ml_Is]; exact rS_c R h9⟩
  · obtain ⟨i, μ1⟩ := a
    obtain ⟨a1, a2, a3, a4⟩ := hI
    dsimp only at a1 a2 a3 a4
    subst a1
    show p_X0_leaves_L27b 64 (nI s) (nI kind) (nI pot) (nI g) 400 (fun i2 μ => K (i2, μ)) (nI k) μ1 Q
    have c1 := c.eq a2 fun p j q => Or.inl (by omega)
    have g1 := c1.1
    have e0' := c1.2.2.1
    have rr : leR lv hun sto wh w kind s (k + 1) = if (leR lv hun sto wh w kind s k).1 = true ∧ s / 2 ^ k % 2 = 1 then (decide (¬ spoonN lv hun sto wh (leR lv hun sto wh w kind s k).2 k kind = 0), eatN lv hun sto wh (leR lv hun sto wh w kind s k).2 k kind) else leR lv hun sto wh w kind s k := rfl
    unfold p_X0_leaves_L27b
    simp (disch := omega) only [sk_p64_0 g1, sk_p64_1 g1, sk_p64_2 g1, sk_p64_3 g1, sk_p64_4 g1, sk_p64_5 g1, sk_p64_9 g1, sk_p64_10 g1, sk_p64_11 g1, sk_p65_6 g1, sk_p65_7 g1, sk_p65_8 g1, sk_p65_9 g1, sk_p65_10 g1, sk_p65_11 g1, sk_p65_12 g1, sk_p65_13 g1, sk_p65_14 g1, sk_p65_15 g1, sk_k64 g1, sk_n64 g1, sk_k65 g1, sk_n65 g1, e0', true_and, nI_leI, Nat.not_le.mpr hk2, if_false, bt_S s (by omega) k (by omega)]
    have bit : s / 2 ^ k % 2 = 0 ∨ s / 2 ^ k % 2 = 1 := by omega
    rcases bit with b0 | b0
    · rw [b0, if_neg (show ¬ nI 0 = 1 by decide)]
      simp only [forall_eq, nI_1]
      rw [b0, if_neg (by omega)] at rr
      exact hK _ ⟨rfl, a2, by rw [rr]; exact a3, by rw [rr]; exact a4⟩
    · rw [b0, if_pos (show nI 1 = 1 from rfl)]
      rw [a3, b0, if_pos ⟨rfl, rfl⟩] at rr
      refine s_eat c1 a4 (okk k (by omega)) hk2 hk (by rw [a2.K]; exact q4.1) (by rw [a2.N]; exact q4.2) (by decide) (by decide) fun μ2 d2 R2 => ?_
      have d := a2.tr (d2.mono (E := fun p _ => p = 396 ∨ p = 400) fun p j q => by omega)
      by_cases z : spoonN lv hun sto wh (leR lv hun sto wh w kind s k).2 k kind = 0
      · rw [z, if_pos (show nI 0 = 0 from rfl)]
        have f1 : (leR lv hun sto wh w kind s (k + 1)).1 = false := by rw [rr]; exact decide_eq_false fun h => h z
        have := hQ μ2 d
        unfold leB at this
        rw [leR_false (m := n) (by omega) f1, Bool.false_and, if_neg (by decide)] at this
        exact this
      · have hle : spoonN lv hun sto wh (leR lv hun sto wh w kind s k).2 k kind ≤ 9999 := Nat.le_trans spoonN_le.2.1 (Nat.le_trans (Nat.sub_le _ _) (holdsH_le (hE k hk2).2.2))
        rw [if_neg (nI_ne0 (by omega) (by omega))]
        simp only [forall_eq, nI_1]
        exact hK _ ⟨rfl, d, by rw [rr]; exact decide_eq_true z, by rw [rr]; exact R2⟩
  · obtain ⟨i, μ1⟩ := a
    obtain ⟨a1, a2, a3, a4⟩ := hI
    dsimp only at a1 a2 a3 a4
    subst a1
    show p_X0_leaves_L27b 64 (nI s) (nI kind) (nI pot) (nI g) 400 (fun i2 μ => K (i2, μ)) (nI n) μ1 Q
    have g1 := a2.sk gs
    have e0' : m_I μ1 65 0 = nI n := (a2.2.2.2 65 0 (by decide)).trans e0
    have ep := a4.1 pot hp
    have b3 := (okk n (Nat.le_refl _)).1 pot hp
    have := hQ μ1 a2
    unfold leB at this
    rw [a3, Bool.true_and] at this
    unfold p_X0_leaves_L27b
    simp (disch := omega) only [sk_p64_0 g1, sk_p64_1 g1, sk_p64_2 g1, sk_p64_3 g1, sk_p64_4 g1, sk_p64_5 g1, sk_p64_9 g1, sk_p64_10 g1, sk_p64_11 g1, sk_p65_6 g1, sk_p65_7 g1, sk_p65_8 g1, sk_p65_9 g1, sk_p65_10 g1, sk_p65_11 g1, sk_p65_12 g1, sk_p65_13 g1, sk_p65_14 g1, sk_p65_15 g1, sk_k64 g1, sk_n64 g1, sk_k65 g1, sk_n65 g1, e0', true_and, nI_leI, Nat.le_refl, if_true, a2.K, a2.N, q4.1, q4.2, nI_clamp, vp_t, ep, nI_eq]
    by_cases z : (leR lv hun sto wh w kind s n).2.1 pot = g
    · rw [if_pos z]
      rw [decide_eq_true z, if_pos rfl] at this
      exact this
    · rw [if_neg z]
      rw [decide_eq_false z, if_neg (by decide)] at this
      exact this
theorem m_leaves (c : cxM n hun sto wh nd lv ν) (R : rM n ν w) (ok : okW n w) {s kind g side : Nat} (hs : s < 512) (hk : kind < 2) (hsd : side < 2) (hg : g ≤ 999) {i4 i5 : Int32} {K39 : Int32 → Int32 → fw_M → Prop} {Q : Int32 → fw_M → Prop} (h0 : leB lv hun sto wh w n kind (2 * side + kind) g s = false → ∀ ν', eqD (fun p j => p = 432 ∨ p = 434 ∨ p = 435 ∨ (p = 411 ∧ j = 41)) ν ν' → K39 i5 (nI (s + 1)) ν') (h1 : leB lv hun sto wh w n kind (2 * side + kind) g s = true → ∀ ν', eqD (fun p j => p = 432 ∨ p = 434 ∨ p = 435 ∨ (p = 411 ∧ j = 41)) ν ν' → (if i5 = i4 then Q (nI s) ν' else K39 (i5 + 1) (nI (s + 1)) ν')) : p_X5_sets_L62 K39 411 (nI side) (nI kind) (nI g) i4 i5 (nI s) 1 0 ν Q := by
  obtain ⟨gs, h9, e0, hE, -⟩ := id c
  have okk := leR_ok (lv := lv) (hun := hun) (wh := wh) (kind := kind) (s := s) ok fun e he => (hE e he).2.1.2
  have l0 : ∀ ν' (b : Bool), eqD (fun p j => p = 432 ∨ p = 434 ∨ p = 435 ∨ (p = 411 ∧ j = 41)) ν ν' → leB lv hun sto wh w n kind (2 * side + kind) g s = false → b = false → p_X5_sets_L111 K39 411 (nI side) (nI kind) (nI g) i4 i5 (nI s) (if b = true then 1 else 0) ν' Q := by
    intro ν' b d h hb
    unfold p_X5_sets_L111
    rw [hb, if_pos (show (if false = true then (1 : Int32) else 0) = 0 by decide)]
    simp only [forall_eq, nI_1]
    exact h0 h ν' d
  unfold p_X5_sets_L62
  refine lp_to n (fun k (a : Int32 × Int32 × fw_M) => a.1 = (if (leR lv hun sto wh w kind s k).1 = true then 1 else 0) ∧ a.2.1 = nI k ∧ eqD (fun p j => p = 432 ∨ p = 434 ∨ p = 435 ∨ (p = 411 ∧ j = 41)) ν a.2.2 ∧ rM n a.2.2 (leR lv hun sto wh w kind s k).2) (fun k a hk2 hI K hK => ?_) (fun a hI K => ?_) ⟨rfl, rfl, eqD.rf, R⟩
  · obtain ⟨i7, i8, ν1⟩ := a
    obtain ⟨a0, a1, a2, a4⟩ := hI
    dsimp only at a0 a1 a2 a4
    subst a0 a1
    show p_X5_sets_L62b K39 411 (nI side) (nI kind) (nI g) i4 i5 (nI s) (fun i7 i8 μ => K (i7, i8, μ)) (if (leR lv hun sto wh w kind s k).1 = true then 1 else 0) (nI k) ν1 Q
    have c1 := c.eq a2 fun p j q => by omega
    have g1 := c1.1
    have e0' := c1.2.2.1
    have rr : leR lv hun sto wh w kind s (k + 1) = if (leR lv hun sto wh w kind s k).1 = true ∧ s / 2 ^ k % 2 = 1 then (decide (¬ spoonN lv hun sto wh (leR lv hun sto wh w kind s k).2 k kind = 0), eatN lv hun sto wh (leR lv hun sto wh w kind s k).2 k kind) else leR lv hun sto wh w kind s k := rfl
    unfold p_X5_sets_L62b
    simp (disch := omega) only [sk_p411_0 g1, sk_p411_1 g1, sk_p411_2 g1, sk_p411_6 g1, sk_p411_7 g1, sk_p411_8 g1, sk_p411_9 g1, sk_p411_10 g1, sk_p411_11 g1, sk_p411_12 g1, sk_p411_22 g1, sk_p411_23 g1, sk_p411_25 g1, sk_p411_26 g1, sk_p411_30 g1, sk_p411_31 g1, sk_p411_32 g1, sk_p411_33 g1, sk_p411_35 g1, sk_p411_36 g1, sk_p411_37 g1, sk_p411_38 g1, sk_p411_39 g1, sk_p411_40 g1, sk_p411_42 g1, sk_p411_43 g1, sk_p411_44 g1, sk_p411_45 g1, sk_p411_46 g1, sk_k411 g1, sk_n411 g1, sk_k412 g1, sk_n412 g1, cl0, vp0_11120, e0', true_and, nI_leI, Nat.not_le.mpr hk2, if_false, bt_S s (by omega) k (by omega)]
    by_cases a3 : (leR lv hun sto wh w kind s k).1 = true
    rotate_left
    · have f1 := eq_false_of_ne_true a3
      rw [if_pos (by rw [f1]; decide)]
      exact l0 ν1 _ a2 (by unfold leB; rw [leR_false (m := n) (by omega) f1, Bool.false_and]) f1
    have K1 : ∀ ν', eqD (fun p j => p = 432 ∨ p = 434 ∨ p = 435 ∨ (p = 411 ∧ j = 41)) ν ν' → (leR lv hun sto wh w kind s (k + 1)).1 = true → rM n ν' (leR lv hun sto wh w kind s (k + 1)).2 → K (1, nI (k + 1), ν') := fun ν' d h1 h2 => hK _ ⟨by rw [h1]; rfl, rfl, d, h2⟩
    rw [a3, if_neg (by decide)]
    have bit : s / 2 ^ k % 2 = 0 ∨ s / 2 ^ k % 2 = 1 := by omega
    rcases bit with b0 | b0
    · rw [b0, if_pos (show nI 0 = 0 from rfl)]
      unfold p_X5_sets_L98
      simp only [forall_eq, nI_1]
      rw [b0, if_neg (by omega)] at rr
      exact K1 ν1 a2 (by rw [rr]; exact a3) (by rw [rr]; exact a4)
    · rw [b0, if_neg (show ¬ nI 1 = 0 by decide)]
      rw [a3, b0, if_pos ⟨rfl, rfl⟩] at rr
      refine m_eats c1 a4 (okk k (by omega)) hk2 hk fun ν2 d2 R2 => ?_
      have d := a2.tr d2
      by_cases z : spoonN lv hun sto wh (leR lv hun sto wh w kind s k).2 k kind = 0
      · rw [z, if_pos (show nI 0 ≤ 0 by decide)]
        simp only [forall_eq, nI_1]
        exact hK _ ⟨by rw [rr]; exact (if_neg (by rw [decide_eq_false (fun h => h z)]; show ¬ false = true; decide)).symm, rfl, d, by rw [rr]; exact R2⟩
      · have hle : spoonN lv hun sto wh (leR lv hun sto wh w kind s k).2 k kind ≤ 9999 := Nat.le_trans spoonN_le.2.1 (Nat.le_trans (Nat.sub_le _ _) (holdsH_le (hE k hk2).2.1.2))
        rw [if_neg (nI_nle (by omega) (by omega))]
        unfold p_X5_sets_L98
        simp only [forall_eq, nI_1]
        exact K1 ν2 d (by rw [rr]; exact decide_eq_true z) (by rw [rr]; exact R2)
  · obtain ⟨i7, i8, ν1⟩ := a
    obtain ⟨a0, a1, a2, a4⟩ := hI
    dsimp only at a0 a1 a2 a4
    subst a0 a1
    show p_X5_sets_L62b K39 411 (nI side) (nI kind) (nI g) i4 i5 (nI s) (fun i7 i8 μ => K (i7, i8, μ)) (if (leR lv hun sto wh w kind s n).1 = true then 1 else 0) (nI n) ν1 Q
    have g1 := a2.sk gs
    have e0' : m_I ν1 412 0 = nI n := (a2.2.2.2 412 0 (by decide)).trans e0
    unfold p_X5_sets_L62b
    simp (disch := omega) only [sk_p411_0 g1, sk_p411_1 g1, sk_p411_2 g1, sk_p411_6 g1, sk_p411_7 g1, sk_p411_8 g1, sk_p411_9 g1, sk_p411_10 g1, sk_p411_11 g1, sk_p411_12 g1, sk_p411_22 g1, sk_p411_23 g1, sk_p411_25 g1, sk_p411_26 g1, sk_p411_30 g1, sk_p411_31 g1, sk_p411_32 g1, sk_p411_33 g1, sk_p411_35 g1, sk_p411_36 g1, sk_p411_37 g1, sk_p411_38 g1, sk_p411_39 g1, sk_p411_40 g1, sk_p411_42 g1, sk_p411_43 g1, sk_p411_44 g1, sk_p411_45 g1, sk_p411_46 g1, sk_k411 g1, sk_n411 g1, sk_k412 g1, sk_n412 g1, cl0, vp0_11120, e0', true_and, nI_leI, Nat.le_refl, if_true]
    by_cases a3 : (leR lv hun sto wh w kind s n).1 = true
    rotate_left
    · have f1 := eq_false_of_ne_true a3
      exact l0 ν1 _ a2 (by unfold leB; rw [f1, Bool.false_and]) f1
    have ep := a4.1 (2 * side + kind) (by omega)
    have b3 := (okk n (Nat.le_refl _)).1 (2 * side + kind) (by omega)
    unfold leB at h0 h1
    rw [a3, Bool.true_and] at h0 h1
    unfold p_X5_sets_L111
    rw [a3, if_pos rfl, if_neg (by decide)]
    simp (disch := omega) only [sk_p411_0 g1, sk_p411_1 g1, sk_p411_2 g1, sk_p411_6 g1, sk_p411_7 g1, sk_p411_8 g1, sk_p411_9 g1, sk_p411_10 g1, sk_p411_11 g1, sk_p411_12 g1, sk_p411_22 g1, sk_p411_23 g1, sk_p411_25 g1, sk_p411_26 g1, sk_p411_30 g1, sk_p411_31 g1, sk_p411_32 g1, sk_p411_33 g1, sk_p411_35 g1, sk_p411_36 g1, sk_p411_37 g1, sk_p411_38 g1, sk_p411_39 g1, sk_p411_40 g1, sk_p411_42 g1, sk_p411_43 g1, sk_p411_44 g1, sk_p411_45 g1, sk_p411_46 g1, sk_k411 g1, sk_n411 g1, sk_k434 g1, sk_n434 g1, li_2, pk_mul, nI_add, nI_clamp, vp_t, true_and, ep, nI_eq, forall_eq, nI_1]
    by_cases z : (leR lv hun sto wh w kind s n).2.1 (2 * side + kind) = g
    · rw [if_pos z]
      exact h1 (decide_eq_true z) ν1 a2
    · rw [if_neg z]
      exact h0 (decide_eq_false z) ν1 a2
def ctN (p : Nat → Bool) : Nat → Nat
  | 0 => 0
  | s + 1 => ctN p s + (if p s = true then 1 else 0)
def seV (p : Nat → Bool) (m : Nat) (i : Int32) : Int32 := match ff (fun s => p s && decide (nI (ctN p s) = i)) m with
  | some s => nI s
  | none => if i = -1 then nI (ctN p m) else -1
theorem s_sets (c : cxS n hun sto lv μ) (R : rS n wh nd (m_I μ 69) w) (ok : okW n w) {kind g side : Nat} (hk : kind < 2) (hsd : side < 2) (hg : g ≤ 999) {i4 : Int32} {Q : Int32 → fw_M → Prop} (hQ : ∀ μ', eqD (fun p _ => p = 396 ∨ p = 400) μ μ' → Q (seV (leB lv hun sto wh w n kind (2 * side + kind) g) (2 ^ n) i4) μ') : p_X0_sets_L39 64 (nI side) (nI kind) (nI g) i4 0 0 μ Q := by
  obtain ⟨gs, h9, e0, hE, -⟩ := id c
  have p512 := p2_le n (by omega)
  unfold p_X0_sets_L39
  refine lp_to (2 ^ n) (fun s (a : Int32 × Int32 × fw_M) => a.1 = nI (ctN (leB lv hun sto wh w n kind (2 * side + kind) g) s) ∧ a.2.1 = nI s ∧ eqD (fun p _ => p = 396 ∨ p = 400) μ a.2.2 ∧ ff (fun s => leB lv hun sto wh w n kind (2 * side + kind) g s && decide (nI (ctN (leB lv hun sto wh w n kind (2 * side + kind) g) s) = i4)) s = none) (fun s a hs hI K hK => ?_) (fun a hI K => ?_) ⟨rfl, rfl, eqD.rf, rfl⟩
  · obtain ⟨i5, i6, μ1⟩ := a
    obtain ⟨a1, a2, a3, a4⟩ := hI
    dsimp only at a1 a2 a3 a4
    subst a1 a2
    show p_X0_sets_L39b 64 (nI side) (nI kind) (nI g) i4 (fun i5 i6 μ => K (i5, i6, μ)) (nI (ctN (leB lv hun sto wh w n kind (2 * side + kind) g) s)) (nI s) μ1 Q
    have c1 := c.eq a3 fun p j q => Or.inl (by omega)
    have g1 := c1.1
    have e0' := c1.2.2.1
    unfold p_X0_sets_L39b
    have hp : 0 + 2 * side + kind = 2 * side + kind := by omega
    simp (disch := omega) only [sk_p64_0 g1, sk_p64_1 g1, sk_p64_2 g1, sk_p64_3 g1, sk_p64_4 g1, sk_p64_5 g1, sk_p64_9 g1, sk_p64_10 g1, sk_p64_11 g1, sk_p65_6 g1, sk_p65_7 g1, sk_p65_8 g1, sk_p65_9 g1, sk_p65_10 g1, sk_p65_11 g1, sk_p65_12 g1, sk_p65_13 g1, sk_p65_14 g1, sk_p65_15 g1, sk_k64 g1, sk_n64 g1, sk_k65 g1, sk_n65 g1, e0', p2_S n (by omega), true_and, nI_leI, Nat.not_le.mpr hs, if_false, li_0, li_2, pk_mul, nI_add, hp]
    refine s_leaves (pot := 2 * side + kind) c1 (by rw [a3.I fun j => by omega]; exact R) ok (by omega) hk (by omega) hg fun μ2 d2 => ?_
    have d := a3.tr d2
    have cs : ctN (leB lv hun sto wh w n kind (2 * side + kind) g) (s + 1) = ctN (leB lv hun sto wh w n kind (2 * side + kind) g) s + (if leB lv hun sto wh w n kind (2 * side + kind) g s = true then 1 else 0) := rfl
    by_cases z : leB lv hun sto wh w n kind (2 * side + kind) g s = true
    · rw [if_pos z, if_neg (show ¬ (1 : Int32) = nI 0 by decide)]
      rw [if_pos z] at cs
      by_cases y : nI (ctN (leB lv hun sto wh w n kind (2 * side + kind) g) s) = i4
      · rw [if_pos y]
        have := hQ μ2 d
        unfold seV at this
        rw [ff_st a4 (by rw [z, decide_eq_true y]; rfl) hs] at this
        exact this
      · rw [if_neg y]
        simp only [forall_eq, nI_1]
        refine hK _ ⟨by rw [cs], rfl, d, ff_nx a4 ?_⟩
        rw [decide_eq_false y, Bool.and_false]
        decide
    · rw [if_neg z, if_pos (show (0 : Int32) = nI 0 from rfl)]
      rw [if_neg z] at cs
      simp only [forall_eq, nI_1]
      refine hK _ ⟨by rw [cs]; rfl, rfl, d, ff_nx a4 ?_⟩
      rw [eq_false_of_ne_true z, Bool.false_and]
      decide
  · obtain ⟨i5, i6, μ1⟩ := a
    obtain ⟨a1, a2, a3, a4⟩ := hI
    dsimp only at a1 a2 a3 a4
    subst a1 a2
    show p_X0_sets_L39b 64 (nI side) (nI kind) (nI g) i4 (fun i5 i6 μ => K (i5, i6, μ)) (nI (ctN (leB lv hun sto wh w n kind (2 * side + kind) g) (2 ^ n))) (nI (2 ^ n)) μ1 Q
    have g1 := a3.sk gs
    have e0' : m_I μ1 65 0 = nI n := (a3.2.2.2 65 0 (by decide)).trans e0
    have := hQ μ1 a3
    unfold seV at this
    rw [a4] at this
    unfold p_X0_sets_L39b
    simp (disch := omega) only [sk_p64_0 g1, sk_p64_1 g1, sk_p64_2 g1, sk_p64_3 g1, sk_p64_4 g1, sk_p64_5 g1, sk_p64_9 g1, sk_p64_10 g1, sk_p64_11 g1, sk_p65_6 g1, sk_p65_7 g1, sk_p65_8 g1, sk_p65_9 g1, sk_p65_10 g1, sk_p65_11 g1, sk_p65_12 g1, sk_p65_13 g1, sk_p65_14 g1, sk_p65_15 g1, sk_k64 g1, sk_n64 g1, sk_k65 g1, sk_n65 g1, e0', p2_S n (by omega), true_and, nI_leI, Nat.le_refl, if_true]
    by_cases y : i4 = -1
    · rw [if_pos y]
      dsimp only at this
      rw [if_pos y] at this
      exact this
    · rw [if_neg y]
      dsimp only at this
      rw [if_neg y] at this
      exact this
end LE
theorem op_sets (a0 a1 a2 a3 : Int32) : iv_op2 (α := Int32) (fun μ Q => p_X0_sets 64 a0 a1 a2 a3 μ Q) (fun μ Q => p_X5_sets 411 a0 a1 a2 a3 μ Q) := by
  refine op_q fun L xs z μ hI => ?_
  obtain ⟨lv, l1, l2, l3⟩ := lv_of hI
  obtain ⟨hs, -, -, n, tx, st, te, tl, ns, nd, n', tx', st', te', tl', ns', nd', tp, C, -⟩ := id hI
  obtain ⟨c, R, ok⟩ := cxS_of hs C l1 l3
  by_cases g : (inB a0 0 1 ∧ inB a1 0 1) ∧ inB a2 0 999 ∧ -1 ≤ a3
  rotate_left
  · refine ⟨-1, fun Q hQ => ?_, fun μ1 h1 hI1 Q hQ => ?_⟩
    · simp only [p_X0_sets, s_isSide, s_isKind, s_in]
      by_cases c1 : inB a0 0 1
      · by_cases c2 : inB a1 0 1
        · by_cases c3 : inB a2 0 999
          · have c4 : ¬ -1 ≤ a3 := fun h => g ⟨⟨c1, c2⟩, c3, h⟩
            simp only [if_pos c1, if_pos c2, if_pos c3, if_neg c4, e10, if_false]
            exact hQ μ qs.rf
          · simp only [if_pos c1, if_pos c2, if_neg c3, e10, e00, if_false, if_true]
            exact hQ μ qs.rf
        · simp only [if_pos c1, if_neg c2, e10, e00, if_false, if_true]
          exact hQ μ qs.rf
      · simp only [if_neg c1, e00, if_true]
        exact hQ μ qs.rf
    · simp only [p_X5_sets, m_isOne, m_in]
      by_cases c1 : inB a0 0 1
      · by_cases c2 : inB a1 0 1
        · by_cases c3 : inB a2 0 999
          · have c4 : ¬ -1 ≤ a3 := fun h => g ⟨⟨c1, c2⟩, c3, h⟩
            simp only [if_pos c1, if_pos c2, if_pos c3, if_neg c4, e10, if_false]
            exact hQ μ1 qs.rf
          · simp only [if_pos c1, if_pos c2, if_neg c3, e10, e00, if_false, if_true]
            exact hQ μ1 qs.rf
        · simp only [if_pos c1, if_neg c2, e10, e00, if_false, if_true]
          exact hQ μ1 qs.rf
      · simp only [if_neg c1, e00, if_true]
        exact hQ μ1 qs.rf
  obtain ⟨⟨c1, c2⟩, c3, c4⟩ := g
  obtain ⟨side, -, hsd, rfl⟩ := inB_nI (lo := 0) (hi := 1) c1 (by decide) (by decide)
  obtain ⟨kind, -, hk, rfl⟩ := inB_nI (lo := 0) (hi := 1) c2 (by decide) (by decide)
  obtain ⟨g, -, hg, rfl⟩ := inB_nI (lo := 0) (hi := 999) c3 (by decide) (by decide)
  have h9 : n ≤ 9 := c.2.1
  have p512 := p2_le n (by omega)
  refine ⟨seV (leB lv (hunA (m_I μ 412)) (stoA (m_I μ 412)) (whA (m_I μ 412)) (wA (m_I μ 412)) n kind (2 * side + kind) g) (2 ^ n) a3, fun Q hQ => ?_, fun μ1 h1 hI1 Q hQ => ?_⟩
  · simp only [p_X0_sets, s_isSide, s_isKind, s_in, if_pos c1, if_pos c2, if_pos c3, if_pos c4, e10, if_false]
    exact s_sets c R ok (by omega) (by omega) hg fun μ' d => hQ μ' (d.qs fun p j q => Or.inl (by unfold sc_p; omega))
  · simp only [p_X5_sets, m_isOne, m_in, if_pos c1, if_pos c2, if_pos c3, if_pos c4, e10, if_false]
    have gs := h1.sk hs
    have w := h1.I (p := 412) (by have := hs.2.1; omega) (by decide) (by decide) (by unfold sc_p; decide)
    have c9 := cxM_of gs w C (l2.eq (by rw [w]) fun p p1 p2 => h1.I (by have := hs.2.1; omega) (by omega) (by omega) (by unfold sc_p; omega)) l3
    have fin : ∀ μ', eqD (fun p j => p = 432 ∨ p = 434 ∨ p = 435 ∨ (p = 411 ∧ j = 41)) μ1 μ' → Q (seV (leB lv (hunA (m_I μ 412)) (stoA (m_I μ 412)) (whA (m_I μ 412)) (wA (m_I μ 412)) n kind (2 * side + kind) g) (2 ^ n) a3) μ' := fun μ' d => hQ μ' (d.qs fun p j q => by unfold sc_p; omega)
    generalize hP : leB lv (hunA (m_I μ 412)) (stoA (m_I μ 412)) (whA (m_I μ 412)) (wA (m_I μ 412)) n kind (2 * side + kind) g = P at fin
    unfold p_X5_sets_L39
    refine lp_to (2 ^ n) (fun s (a : Int32 × Int32 × fw_M) => a.1 = nI (ctN P s) ∧ a.2.1 = nI s ∧ eqD (fun p j => p = 432 ∨ p = 434 ∨ p = 435 ∨ (p = 411 ∧ j = 41)) μ1 a.2.2 ∧ ff (fun s => P s && decide (nI (ctN P s) = a3)) s = none) (fun s a hs9 hI K hK => ?_) (fun a hI K => ?_) ⟨rfl, rfl, eqD.rf, rfl⟩
    · obtain ⟨i5, i6, ν1⟩ := a
      obtain ⟨b1, b2, b3, b4⟩ := hI
      dsimp only at b1 b2 b3 b4
      subst b1 b2
      show p_X5_sets_L39b 411 (nI side) (nI kind) (nI g) a3 (fun i5 i6 μ => K (i5, i6, μ)) (nI (ctN P s)) (nI s) ν1 Q
      have c8 := c9.eq b3 fun p j q => by omega
      have g1 := c8.1
      have e0' := c8.2.2.1
      have w1 : m_I ν1 412 = m_I μ 412 := (b3.I fun j => by omega).trans w
      unfold p_X5_sets_L39b
      simp (disch := omega) only [sk_p411_0 g1, sk_p411_1 g1, sk_p411_2 g1, sk_p411_6 g1, sk_p411_7 g1, sk_p411_8 g1, sk_p411_9 g1, sk_p411_10 g1, sk_p411_11 g1, sk_p411_12 g1, sk_p411_22 g1, sk_p411_23 g1, sk_p411_25 g1, sk_p411_26 g1, sk_p411_30 g1, sk_p411_31 g1, sk_p411_32 g1, sk_p411_33 g1, sk_p411_35 g1, sk_p411_36 g1, sk_p411_37 g1, sk_p411_38 g1, sk_p411_39 g1, sk_p411_40 g1, sk_p411_42 g1, sk_p411_43 g1, sk_p411_44 g1, sk_p411_45 g1, sk_p411_46 g1, sk_k411 g1, sk_n411 g1, sk_k412 g1, sk_n412 g1, cl0, vp0_11120, e0', p2_S n (by omega), true_and, nI_leI, Nat.not_le.mpr hs9, if_false]
      refine m_laysA g1 w1 C fun ν2 d2 R2 => ?_
      have d3 := b3.tr (d2.mono (E := fun p j => p = 432 ∨ p = 434 ∨ p = 435 ∨ (p = 411 ∧ j = 41)) fun p j q => Or.inr q)
      have cs : ctN P (s + 1) = ctN P s + (if P s = true then 1 else 0) := rfl
      refine m_leaves (c8.eq d2 fun p j q => by omega) R2 ok (by omega) (by omega) (by omega) hg (fun hz ν3 d4 => ?_) (fun hz ν3 d4 => ?_)
      · rw [hP] at hz
        rw [hz, if_neg (by decide)] at cs
        refine hK _ ⟨by rw [cs]; rfl, rfl, d3.tr d4, ff_nx b4 ?_⟩
        rw [hz, Bool.false_and]
        decide
      · rw [hP] at hz
        rw [hz, if_pos rfl] at cs
        by_cases y : nI (ctN P s) = a3
        · rw [if_pos y]
          have := fin ν3 (d3.tr d4)
          unfold seV at this
          rw [ff_st b4 (by rw [hz, decide_eq_true y]; rfl) hs9] at this
          exact this
        · rw [if_neg y]
          refine hK _ ⟨by rw [cs]; exact nI_1 _, rfl, d3.tr d4, ff_nx b4 ?_⟩
          rw [decide_eq_false y, Bool.and_false]
          decide
    · obtain ⟨i5, i6, ν1⟩ := a
      obtain ⟨b1, b2, b3, b4⟩ := hI
      dsimp only at b1 b2 b3 b4
      subst b1 b2
      show p_X5_sets_L39b 411 (nI side) (nI kind) (nI g) a3 (fun i5 i6 μ => K (i5, i6, μ)) (nI (ctN P (2 ^ n))) (nI (2 ^ n)) ν1 Q
      have g1 := b3.sk gs
      have e0' : m_I ν1 412 0 = nI n := (b3.2.2.2 412 0 (by decide)).trans c9.2.2.1
      have := fin ν1 b3
      unfold seV at this
      rw [b4] at this
      unfold p_X5_sets_L39b
      simp (disch := omega) only [sk_p411_0 g1, sk_p411_1 g1, sk_p411_2 g1, sk_p411_6 g1, sk_p411_7 g1, sk_p411_8 g1, sk_p411_9 g1, sk_p411_10 g1, sk_p411_11 g1, sk_p411_12 g1, sk_p411_22 g1, sk_p411_23 g1, sk_p411_25 g1, sk_p411_26 g1, sk_p411_30 g1, sk_p411_31 g1, sk_p411_32 g1, sk_p411_33 g1, sk_p411_35 g1, sk_p411_36 g1, sk_p411_37 g1, sk_p411_38 g1, sk_p411_39 g1, sk_p411_40 g1, sk_p411_42 g1, sk_p411_43 g1, sk_p411_44 g1, sk_p411_45 g1, sk_p411_46 g1, sk_k411 g1, sk_n411 g1, sk_k412 g1, sk_n412 g1, cl0, vp0_11120, e0', p2_S n (by omega), true_and, nI_leI, Nat.le_refl, if_true]
      by_cases y : a3 = -1
      · rw [if_pos y]
        dsimp only at this
        rw [if_pos y] at this
        exact this
      · rw [if_neg y]
        dsimp only at this
        rw [if_neg y] at this
        exact this
