/-! plain law: called -/
theorem pmL_mem : ∀ (m : Nat) (l : List Nat) (y : Nat), l.length = m → y < fac m → ∀ x, x ∈ pmL m l y → x ∈ l := by
  intro m
  induction m with
  | zero => intro l y _ _ x h; cases h
  | succ m ih =>
    intro l y hl hy x h
    have fp := fac_pos m
    have f1 : fac (m + 1) = (m + 1) * fac m := rfl
    have dl : y / fac m < m + 1 := by
      rw [Nat.div_lt_iff_lt_mul fp, ← f1]
      exact hy
    have e : pmL (m + 1) l y = l.getD (y / fac m) 0 :: pmL m (l.eraseIdx (y / fac m)) (y % fac m) := rfl
    rw [e] at h
    rcases List.mem_cons.mp h with rfl | h
    · rw [List.getD_eq_getElem?_getD, List.getElem?_eq_getElem (by omega)]
      exact List.getElem_mem _
    · refine List.mem_of_mem_eraseIdx (ih _ _ ?_ (Nat.mod_lt _ fp) x h)
      rw [List.length_eraseIdx, if_pos (by omega)]
      omega
theorem fl_mem {P : Nat → Bool} {x : Nat} : ∀ n, x ∈ fl P (fun e => e) n → x < n := by
  intro n
  induction n with
  | zero => intro h; cases h
  | succ n ih =>
    intro h
    rcases List.mem_append.mp h with h | h
    · exact Nat.lt_succ_of_lt (ih h)
    · by_cases p : P n = true
      · rw [if_pos p] at h
        rcases List.mem_cons.mp h with rfl | h
        · exact Nat.lt_succ_self _
        · cases h
      · rw [if_neg p] at h
        cases h
theorem gd_mem {l : List Nat} {j : Nat} (h : j < l.length) : l.getD j 0 ∈ l := by
  rw [List.getD_eq_getElem?_getD, List.getElem?_eq_getElem h]
  exact List.getElem_mem _
def caV (b : CB) (i : Int32) : Int32 := match b with
  | none => 0
  | some x => if i = -1 then x.1 else nI (x.2.getD i.toNatClampNeg 0)
abbrev DK (p j : Nat) : Prop := p = 432 ∨ p = 434 ∨ p = 435 ∨ (p = 411 ∧ j = 41) ∨ p = 437 ∨ p = 438
section CM
variable {lv : LV} {a : Nat → Int32} {n tx st te tl ns nd kd : Nat} {μ : fw_M}
theorem m_called (C : iv_C μ 65 a n tx st te tl ns nd) (hkd : kd < 2) {l0 : List Nat} {m : Nat} (hm : m ≤ 6) (hl : l0.length = m) (hln : ∀ x, x ∈ l0 → x < n) {ν : fw_M} (c : cxM n (hunA a) (stoA a) (whA a) nd lv ν) (w : m_I ν 412 = a) (h6 : ∀ j, j < m → m_I ν 436 j = nI (l0.getD j 0)) {i3 : Int32} (hi : i3 = -1 ∨ ∃ k, k < m ∧ i3 = nI k) {Q : Int32 → fw_M → Prop} (hQ : ∀ ν', eqD DK ν ν' → Q (caV (pmF (cuF lv (hunA a) (stoA a) (whA a) kd (wA a)) m l0 [] none) i3) ν') : p_X5_called_L123 411 (nI kd) i3 (nI m) 0 0 0 ν Q := by
  obtain ⟨gs, h9, e0, hE, hnd, hlv, hd⟩ := id c
  obtain ⟨x1, x2, x3, x4, x5⟩ := cx_a C
  have okA : okW n (wA a) := ⟨fun k hk => (x2 k hk).2, fun e he => (x3 e (by omega)).2⟩
  have f7 := fac_le m hm
  have fp := fac_pos m
  rw [pm_eq] at hQ
  have hs := cu_some (lv := lv) (hun := hunA a) (sto := stoA a) (wh := whA a) (kd := kd) (w0 := wA a) (g := fun y => [] ++ pmL m l0 y) (fac m) fp
  obtain ⟨B, hB⟩ : ∃ B : Nat → CB, B = fun k => faN (fun y b => cuF lv (hunA a) (stoA a) (whA a) kd (wA a) ([] ++ pmL m l0 y) b) none k := ⟨_, rfl⟩
  have hBf : faN (fun y b => cuF lv (hunA a) (stoA a) (whA a) kd (wA a) ([] ++ pmL m l0 y) b) none (fac m) = B (fac m) := by rw [hB]
  rw [hBf] at hQ hs
  have hBs : ∀ y, B (y + 1) = if cubt (tlW (eaL lv (hunA a) (stoA a) (whA a) kd (wA a) (pmL m l0 y))) (B y) = true then some (tlW (eaL lv (hunA a) (stoA a) (whA a) kd (wA a) (pmL m l0 y)), pmL m l0 y) else B y := fun y => by
    rw [hB]
    rfl
  have hB0 : B 0 = none := by rw [hB]; rfl
  clear hB hBf
  unfold p_X5_called_L123
  refine lp_to (fac m) (fun y (x : Int32 × Int32 × Int32 × fw_M) => x.2.2.1 = nI y ∧ eqD DK ν x.2.2.2 ∧ (B y = none → x.1 = 0) ∧ ∀ z, B y = some z → x.1 = 1 ∧ x.2.1 = z.1 ∧ z.2.length = m ∧ ∀ j, j < m → m_I x.2.2.2 438 j = nI (z.2.getD j 0)) (fun y x hy hx K hK => ?_) (fun x hx K => ?_) ⟨rfl, eqD.rf, fun _ => rfl, fun z hz => by rw [hB0] at hz; cases hz⟩
  · obtain ⟨i5, i6, i7, ν1⟩ := x
    obtain ⟨b1, b2, b3, b4⟩ := hx
    dsimp only at b1 b2 b3 b4
    subst b1
    show p_X5_called_L123b 411 (nI kd) i3 (nI m) (fun i5 i6 i7 μ => K (i5, i6, i7, μ)) i5 i6 (nI y) ν1 Q
    have c1 := c.eq b2 fun p j q => by unfold DK at q; omega
    unfold p_X5_called_L123b
    refine m_rows hm ?_
    rw [if_neg (nI_ge hy (by omega))]
    refine m_laysOrder c1.1 hm hl ?_ (fun j hj => (b2.2.2.2 436 j (by unfold DK; omega)).trans (h6 j hj)) hy fun ν2 d2 h7 => ?_
    · intro j
      by_cases q : j < m
      · have := hln _ (gd_mem (l := l0) (j := j) (by omega))
        omega
      · rw [List.getD_eq_getElem?_getD, List.getElem?_eq_none (by omega)]
        decide
    have d3 : eqD DK ν ν2 := b2.tr (d2.mono fun p j q => by unfold DK; omega)
    have w2 : m_I ν2 412 = a := (d3.I fun j => by unfold DK; omega).trans w
    refine m_laysA (d3.sk gs) w2 C fun ν3 d4 R3 => ?_
    have d5 : eqD DK ν ν3 := d3.tr (d4.mono fun p j q => by unfold DK; omega)
    have ll := pmL_len m l0 y
    have hL : ∀ j, j < m → (pmL m l0 y).getD j 0 < n := fun j hj => hln _ (pmL_mem m l0 y hl hy _ (gd_mem (by omega)))
    have b5 : ∀ ν', eqD (fun p j => p = 432 ∨ p = 434 ∨ p = 435 ∨ (p = 411 ∧ j = 41) ∨ p = 437) ν1 ν' → ∀ z, B y = some z → ∀ j, j < m → m_I ν' 438 j = nI (z.2.getD j 0) := fun ν' d z hz j hj => (d.2.2.2 438 j (by omega)).trans ((b4 z hz).2.2.2 j hj)
    have hBy := hBs y
    have e3 : eqD (fun p j => p = 432 ∨ p = 434 ∨ p = 435 ∨ (p = 411 ∧ j = 41) ∨ p = 437) ν1 ν3 := (d2.mono fun p j q => by omega).tr (d4.mono fun p j q => by omega)
    have l3 : ∀ j, j < m → m_I ν3 437 j = nI ((pmL m l0 y).getD j 0) := fun j hj => (d4.2.2.2 437 j (by omega)).trans (h7 j hj)
    generalize pmL m l0 y = L at hL hBy l3 ll
    unfold p_X5_called_L148
    refine lp_to m (fun k (x : Int32 × fw_M) => x.1 = nI k ∧ eqD (fun p j => p = 432 ∨ p = 434 ∨ p = 435 ∨ (p = 411 ∧ j = 41)) ν3 x.2 ∧ ∃ v, rM n x.2 v ∧ okW n v ∧ eaL lv (hunA a) (stoA a) (whA a) kd (wA a) L = eaL lv (hunA a) (stoA a) (whA a) kd v (L.drop k)) (fun k x hk hx K2 hK2 => ?_) (fun x hx K2 => ?_) ⟨rfl, eqD.rf, wA a, R3, okA, rfl⟩
    · obtain ⟨i8, ν4⟩ := x
      obtain ⟨f1, f2, v, f3, f4, f5⟩ := hx
      dsimp only at f1 f2 f3
      subst f1
      show p_X5_called_L148b (fun i5 i6 i7 μ => K (i5, i6, i7, μ)) 411 (nI kd) i3 (nI m) i5 i6 (nI y) (fun i8 μ => K2 (i8, μ)) (nI k) ν4 Q
      have d6 : eqD DK ν ν4 := d5.tr (f2.mono fun p j q => by unfold DK; omega)
      have c4 := c.eq d6 fun p j q => by unfold DK at q; omega
      have g4 := c4.1
      have le := (f2.2.2.2 437 k (by omega)).trans (l3 k hk)
      have hk9 : k < 9 := by omega
      rw [gd_drop L k (by omega)] at f5
      unfold p_X5_called_L148b
      rw [if_neg (nI_ge hk (by omega))]
      simp (disch := omega) only [sk_p411_0 g4, sk_p411_1 g4, sk_p411_2 g4, sk_p411_6 g4, sk_p411_7 g4, sk_p411_8 g4, sk_p411_9 g4, sk_p411_10 g4, sk_p411_11 g4, sk_p411_12 g4, sk_p411_22 g4, sk_p411_23 g4, sk_p411_25 g4, sk_p411_26 g4, sk_p411_30 g4, sk_p411_31 g4, sk_p411_32 g4, sk_p411_33 g4, sk_p411_35 g4, sk_p411_36 g4, sk_p411_37 g4, sk_p411_38 g4, sk_p411_39 g4, sk_p411_40 g4, sk_p411_42 g4, sk_p411_43 g4, sk_p411_44 g4, sk_p411_45 g4, sk_p411_46 g4, sk_k411 g4, sk_n411 g4, sk_k437 g4, sk_n437 g4, nI_clamp, vp_t, true_and, le]
      refine m_eats c4 f3 f4 (hL k hk) hkd fun ν5 d7 R5 => ?_
      rintro _ rfl
      rw [nI_1]
      exact hK2 _ ⟨rfl, f2.tr d7, _, R5, eatN_ok f4 (hE _ (hL k hk)).2.1.2, f5⟩
    · obtain ⟨i8, ν4⟩ := x
      obtain ⟨f1, f2, v, f3, f4, f5⟩ := hx
      dsimp only at f1 f2 f3
      subst f1
      show p_X5_called_L148b (fun i5 i6 i7 μ => K (i5, i6, i7, μ)) 411 (nI kd) i3 (nI m) i5 i6 (nI y) (fun i8 μ => K2 (i8, μ)) (nI m) ν4 Q
      have d6 : eqD DK ν ν4 := d5.tr (f2.mono fun p j q => by unfold DK; omega)
      have g4 := d6.sk gs
      rw [List.drop_eq_nil_of_le (by omega)] at f5
      have f5' : eaL lv (hunA a) (stoA a) (whA a) kd (wA a) L = v := f5
      rw [f5'] at hBy
      have l4 : ∀ j, j < m → m_I ν4 437 j = nI (L.getD j 0) := fun j hj => (f2.2.2.2 437 j (by omega)).trans (l3 j hj)
      have e4 := e3.tr (f2.mono (E := fun p j => p = 432 ∨ p = 434 ∨ p = 435 ∨ (p = 411 ∧ j = 41) ∨ p = 437) fun p j q => by omega)
      unfold p_X5_called_L148b
      rw [if_pos (nI_le (Nat.le_refl _) (by omega)), m_tilt g4 f3]
      have go : cubt (tlW v) (B y) = true → p_X5_called_L199 (fun i5 i6 i7 μ => K (i5, i6, i7, μ)) 411 (nI kd) i3 (nI m) (nI y) (tlW v) ν4 Q := by
        intro hbt
        rw [if_pos hbt] at hBy
        unfold p_X5_called_L199 p_X5_called_L209
        refine lp_to m (fun k (x : Int32 × fw_M) => x.1 = nI k ∧ eqD (fun p _ => p = 438) ν4 x.2 ∧ ∀ j, j < k → m_I x.2 438 j = nI (L.getD j 0)) (fun k x hk hI K4 hK4 => ?_) (fun x hI K4 => ?_) ⟨rfl, eqD.rf, fun j hj => absurd hj (Nat.not_lt_zero _)⟩
        · obtain ⟨i9, ν7⟩ := x
          obtain ⟨r1, r2, r3⟩ := hI
          dsimp only at r1 r2 r3
          subst r1
          show p_X5_called_L209b (fun i5 i6 i7 μ => K (i5, i6, i7, μ)) 411 (nI kd) i3 (nI m) 1 (tlW v) (nI y) (fun i9 μ => K4 (i9, μ)) (nI k) ν7 Q
          have g7 := r2.sk g4
          have le := (r2.2.2.2 437 k (show ¬ (437 = 438) by decide)).trans (l4 k hk)
          have hk9 : k < 9 := by omega
          unfold p_X5_called_L209b
          rw [if_neg (nI_ge hk (by omega))]
          simp (disch := omega) only [sk_p411_0 g7, sk_p411_1 g7, sk_p411_2 g7, sk_p411_6 g7, sk_p411_7 g7, sk_p411_8 g7, sk_p411_9 g7, sk_p411_10 g7, sk_p411_11 g7, sk_p411_12 g7, sk_p411_22 g7, sk_p411_23 g7, sk_p411_25 g7, sk_p411_26 g7, sk_p411_30 g7, sk_p411_31 g7, sk_p411_32 g7, sk_p411_33 g7, sk_p411_35 g7, sk_p411_36 g7, sk_p411_37 g7, sk_p411_38 g7, sk_p411_39 g7, sk_p411_40 g7, sk_p411_42 g7, sk_p411_43 g7, sk_p411_44 g7, sk_p411_45 g7, sk_p411_46 g7, sk_k411 g7, sk_n411 g7, sk_k437 g7, sk_n437 g7, sk_k438 g7, sk_n438 g7, nI_clamp, vp_t, true_and, forall_eq, ml_uI, le, nI_1]
          refine hK4 _ ⟨rfl, r2.tr (eqD.sI fun j hj => absurd rfl hj), fun j hj => ?_⟩
          show m_I (m_sI ν7 438 _) 438 j = _
          rw [ml_Is]
          by_cases q : j = k
          · subst q; rw [ml_us]
          · rw [ml_un q]; exact r3 j (by omega)
        · obtain ⟨i9, ν7⟩ := x
          obtain ⟨r1, r2, r3⟩ := hI
          dsimp only at r1 r2 r3
          subst r1
          show p_X5_called_L209b (fun i5 i6 i7 μ => K (i5, i6, i7, μ)) 411 (nI kd) i3 (nI m) 1 (tlW v) (nI y) (fun i9 μ => K4 (i9, μ)) (nI m) ν7 Q
          unfold p_X5_called_L209b
          rw [if_pos (nI_le (Nat.le_refl m) (by omega))]
          simp only [forall_eq, nI_1]
          refine hK _ ⟨rfl, d6.tr (r2.mono fun p j q => by unfold DK; omega), fun h => ?_, fun z hz => ?_⟩
          · rw [hBy] at h; cases h
          · rw [hBy] at hz
            cases hz
            exact ⟨rfl, rfl, ll, r3⟩
      cases hb : B y with
      | none =>
        rw [hb] at go b3
        rw [if_pos (b3 rfl)]
        exact go rfl
      | some z =>
        obtain ⟨z1, z2, z3, z4⟩ := b4 z hb
        rw [if_neg (by rw [z1]; decide)]
        simp only [m_size]
        have cb : cubt (tlW v) (some z) = decide (absI (tlW v) < absI z.1) := rfl
        rw [hb] at go hBy
        rw [cb] at go hBy
        rw [z2]
        by_cases q : absI z.1 ≤ absI (tlW v)
        · rw [if_pos q]
          have q' : ¬ absI (tlW v) < absI z.1 := fun h => absurd (Int32.le_iff_toInt_le.mp q) (Int.not_le.mpr (Int32.lt_iff_toInt_lt.mp h))
          rw [decide_eq_false q', if_neg (by decide)] at hBy
          simp only [forall_eq, nI_1]
          refine hK _ ⟨rfl, d6, fun h => ?_, fun x hx => ?_⟩
          · rw [hBy] at h; cases h
          · rw [hBy] at hx
            cases hx
            exact ⟨z1, rfl, z3, fun j hj => b5 ν4 e4 z hb j hj⟩
        · rw [if_neg q]
          refine go (decide_eq_true ?_)
          rw [Int32.lt_iff_toInt_lt]
          rw [Int32.le_iff_toInt_le] at q
          omega
  · obtain ⟨i5, i6, i7, ν1⟩ := x
    obtain ⟨b1, b2, b3, b4⟩ := hx
    dsimp only at b1 b2 b3 b4
    subst b1
    show p_X5_called_L123b 411 (nI kd) i3 (nI m) (fun i5 i6 i7 μ => K (i5, i6, i7, μ)) i5 i6 (nI (fac m)) ν1 Q
    have g1 := b2.sk gs
    have := hQ ν1 b2
    unfold p_X5_called_L123b
    refine m_rows hm ?_
    rw [if_pos (nI_le (Nat.le_refl _) (by omega))]
    cases hb : B (fac m) with
    | none => rw [hb] at hs; cases hs
    | some z =>
      obtain ⟨z1, z2, z3, z4⟩ := b4 z hb
      rw [hb] at this
      have cv : caV (some z) i3 = if i3 = -1 then z.1 else nI (z.2.getD i3.toNatClampNeg 0) := rfl
      rw [cv] at this
      rcases hi with rfl | ⟨k, hk, rfl⟩
      · rw [if_pos rfl] at this ⊢
        rw [z2]
        exact this
      · have n1 : ¬ nI k = -1 := nI_nm1 (by omega)
        rw [if_neg n1] at this ⊢
        have hk9 : k < 9 := by omega
        simp (disch := omega) only [sk_p411_0 g1, sk_p411_1 g1, sk_p411_2 g1, sk_p411_6 g1, sk_p411_7 g1, sk_p411_8 g1, sk_p411_9 g1, sk_p411_10 g1, sk_p411_11 g1, sk_p411_12 g1, sk_p411_22 g1, sk_p411_23 g1, sk_p411_25 g1, sk_p411_26 g1, sk_p411_30 g1, sk_p411_31 g1, sk_p411_32 g1, sk_p411_33 g1, sk_p411_35 g1, sk_p411_36 g1, sk_p411_37 g1, sk_p411_38 g1, sk_p411_39 g1, sk_p411_40 g1, sk_p411_42 g1, sk_p411_43 g1, sk_p411_44 g1, sk_p411_45 g1, sk_p411_46 g1, sk_k411 g1, sk_n411 g1, sk_k438 g1, sk_n438 g1, nI_clamp, vp_t, true_and] at this ⊢
        rw [z4 k hk]
        exact this
end CM
