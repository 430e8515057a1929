/-! plain law: acquitted, the reference; the operation -/
def hoN (w : WW) : Nat := w.1 0 + w.1 2
theorem hoN_eat {lv : LV} {hun sto wh : Nat → Nat} {w : WW} {e kd : Nat} (hk : kd < 2) (hw : wh e ≤ 2) (z : ¬ spoonN lv hun sto wh w e kd = 0) : hoN (eatW wh w e kd (spoonN lv hun sto wh w e kd)) + (if kd = 0 then spoonN lv hun sto wh w e kd else 0) = hoN w := by
  have sl := spoonN_le (lv := lv) (hun := hun) (sto := sto) (wh := wh) (w := w) (e := e) (kind := kd)
  have : wh e ≠ 2 := fun h => z (sl.2.2 h)
  have hwe : wh e = 0 ∨ wh e = 1 := by omega
  have hkd : kd = 0 ∨ kd = 1 := by omega
  generalize spoonN lv hun sto wh w e kd = g at sl z
  have sl1 := sl.1
  show (if 0 = 2 * wh e + kd then w.1 0 - g else w.1 0) + (if 2 = 2 * wh e + kd then w.1 2 - g else w.1 2) + _ = w.1 0 + w.1 2
  rcases hwe with q | q <;> rcases hkd with r | r <;> rw [q, r] at sl1 <;> rw [q, r]
  · rw [if_pos (by decide), if_neg (by decide), if_pos rfl]; simp only [Nat.mul_zero, Nat.add_zero] at sl1; omega
  · rw [if_neg (by decide), if_neg (by decide), if_neg (by decide), Nat.add_zero]
  · rw [if_neg (by decide), if_pos (by decide), if_pos rfl]; have : w.1 (2 * 1 + 0) = w.1 2 := rfl; omega
  · rw [if_neg (by decide), if_neg (by decide), if_neg (by decide), Nat.add_zero]
def acM (lv : LV) (hun sto wh : Nat → Nat) (nd side many m : Nat) (w : WW) (b : BB) (y : Nat) : BB := faN (fun way b => acL lv nd side (uR lv hun sto wh w 0 (dgL many m way)) (dgL many m way) b) b y
theorem acM_eq {lv : LV} {hun sto wh : Nat → Nat} {nd side many m : Nat} {w : WW} : acF lv hun sto wh nd side many m w 0 [] none = acM lv hun sto wh nd side many m w none (many ^ m) := by
  by_cases h : 0 < many
  · rw [ac_eq lv hun sto wh nd side many h]
    rfl
  · have : many = 0 := by omega
    subst this
    cases m with
    | zero => rfl
    | succ m =>
      rw [Nat.pow_succ, Nat.mul_zero]
      rfl
def bM (ν : fw_M) (m : Nat) (b : BB) : Prop := m_I ν 411 47 = (match b with | none => -1 | some x => nI x.1) ∧ ∀ x, b = some x → x.1 ≤ 100000 ∧ x.2.length = m ∧ ∀ j, j < m → m_I ν 440 j = nI (x.2.getD j 0)
abbrev DM (p j : Nat) : Prop := p = 432 ∨ p = 434 ∨ p = 435 ∨ (p = 411 ∧ (j = 41 ∨ j = 47)) ∨ p = 439 ∨ p = 440
theorem gd_drop : ∀ (l : List Nat) (k : Nat), k < l.length → l.drop k = l.getD k 0 :: l.drop (k + 1) := by
  intro l
  induction l with
  | nil => intro k h; exact absurd h (Nat.not_lt_zero _)
  | cons x l ih =>
    intro k h
    cases k with
    | zero => rfl
    | succ k => exact ih k (Nat.lt_of_succ_lt_succ h)
section ACM
variable {lv : LV} {a : Nat → Int32} {n tx st te tl ns nd side : Nat} {μ : fw_M}
theorem m_acquits (C : iv_C μ 65 a n tx st te tl ns nd) (hsd : side < 2) {m : Nat} (hm : m ≤ 4) {ν : fw_M} (c : cxM n (hunA a) (stoA a) (whA a) nd lv ν) (w : m_I ν 412 = a) {Q : Int32 → fw_M → Prop} (hQ : ∀ ν', eqD DM ν ν' → bM ν' m (acF lv (hunA a) (stoA a) (whA a) nd side (2 * n) m (wA a) 0 [] none) → Q (if (acF lv (hunA a) (stoA a) (whA a) nd side (2 * n) m (wA a) 0 [] none).isSome = true then 1 else 0) ν') : p_X5_acquits 411 (nI side) (nI m) ν Q := by
  obtain ⟨gs, h9, e0, hE, hnd, hl, hd⟩ := id c
  obtain ⟨x1, x2, x3, x4, x5⟩ := cx_a C
  have okA : okW n (wA a) := ⟨fun k hk => (x2 k hk).2, fun e he => (x3 e (by omega)).2⟩
  have e0' : m_I ν 412 0 = nI n := e0
  have pb : ∀ k, k ≤ 4 → (2 * n) ^ k ≤ 104976 := by
    intro k hk
    have h1 : (2 * n) ^ k ≤ 18 ^ k := Nat.pow_le_pow_left (by omega) k
    have h2 : 18 ^ k ≤ 18 ^ 4 := Nat.pow_le_pow_right (by decide) hk
    have h3 : (18 : Nat) ^ 4 = 104976 := by decide
    omega
  rw [acM_eq] at hQ
  unfold p_X5_acquits
  simp (disch := omega) only [sk_p411_0 gs, sk_p411_1 gs, sk_p411_2 gs, sk_p411_6 gs, sk_p411_7 gs, sk_p411_8 gs, sk_p411_9 gs, sk_p411_10 gs, sk_p411_11 gs, sk_p411_12 gs, sk_p411_22 gs, sk_p411_23 gs, sk_p411_25 gs, sk_p411_26 gs, sk_p411_30 gs, sk_p411_31 gs, sk_p411_32 gs, sk_p411_33 gs, sk_p411_35 gs, sk_p411_36 gs, sk_p411_37 gs, sk_p411_38 gs, sk_p411_39 gs, sk_p411_40 gs, sk_p411_42 gs, sk_p411_43 gs, sk_p411_44 gs, sk_p411_45 gs, sk_p411_46 gs, sk_k411 gs, sk_n411 gs, sk_k412 gs, sk_n412 gs, cl0, vp0_11120, e0', li_2, pk_mul, true_and, forall_eq]
  unfold p_X5_acquits_L15
  refine lp_fn m (fun k => (nI ((2 * n) ^ k), nI k, ν)) (fun _ => True) (fun k hk _ K hK => ?_) (fun _ K => ?_) rfl trivial
  · show p_X5_acquits_L15b 411 (nI side) (nI m) (nI (2 * n)) (fun i4 i5 μ => K (i4, i5, μ)) (nI ((2 * n) ^ k)) (nI k) ν Q
    have hK := hK trivial
    unfold p_X5_acquits_L15b
    rw [if_neg (nI_ge hk (by omega))]
    simp only [forall_eq, pk_mul, nI_1]
    rw [Nat.pow_succ] at hK
    exact hK
  show p_X5_acquits_L15b 411 (nI side) (nI m) (nI (2 * n)) (fun i4 i5 μ => K (i4, i5, μ)) (nI ((2 * n) ^ m)) (nI m) ν Q
  unfold p_X5_acquits_L15b
  rw [if_pos (nI_le (Nat.le_refl m) (by omega))]
  rintro μ2 rfl
  rw [ml_uI]
  have pm := pb m hm
  unfold p_X5_acquits_L41
  have d0 : eqD DM ν (m_sI ν 411 (ml_u (m_I ν 411) 47 (-1))) := eqD.sI fun j hj => ml_un fun q => hj (Or.inr (Or.inr (Or.inr (Or.inl ⟨rfl, Or.inr q⟩))))
  refine lp_to ((2 * n) ^ m) (fun y (b : Int32 × fw_M) => b.1 = nI y ∧ eqD DM ν b.2 ∧ bM b.2 m (acM lv (hunA a) (stoA a) (whA a) nd side (2 * n) m (wA a) none y)) (fun y b hy hI K hK => ?_) (fun b hI K => ?_) ⟨rfl, d0, by show m_I (m_sI ν 411 _) 411 47 = _; rw [ml_Is, ml_us]; rfl, fun x hx => by cases hx⟩
  · obtain ⟨i5, ν1⟩ := b
    obtain ⟨b1, b2, b3⟩ := hI
    dsimp only at b1 b2 b3
    subst b1
    show p_X5_acquits_L41b 411 (nI side) (nI m) (nI (2 * n)) (nI ((2 * n) ^ m)) (fun i5 μ => K (i5, μ)) (nI y) ν1 Q
    have ys : acM lv (hunA a) (stoA a) (whA a) nd side (2 * n) m (wA a) none (y + 1) = acL lv nd side (uR lv (hunA a) (stoA a) (whA a) (wA a) 0 (dgL (2 * n) m y)) (dgL (2 * n) m y) (acM lv (hunA a) (stoA a) (whA a) nd side (2 * n) m (wA a) none y) := rfl
    generalize acM lv (hunA a) (stoA a) (whA a) nd side (2 * n) m (wA a) none y = bb at ys b3
    have hK' : ∀ ν', eqD DM ν ν' → bM ν' m (acL lv nd side (uR lv (hunA a) (stoA a) (whA a) (wA a) 0 (dgL (2 * n) m y)) (dgL (2 * n) m y) bb) → K (nI (y + 1), ν') := fun ν' d h => hK _ ⟨rfl, d, by rw [ys]; exact h⟩
    unfold p_X5_acquits_L41b
    rw [if_neg (nI_ge hy (by omega))]
    rintro _ rfl
    unfold p_X5_acquits_L57
    refine lp_to m (fun k (x : Int32 × Int32 × fw_M) => x.1 = nI (y / (2 * n) ^ k) ∧ x.2.1 = (if k < m then nI (m - 1 - k) else -1) ∧ eqD DM ν x.2.2 ∧ bM x.2.2 m bb ∧ ∀ j, m - k ≤ j → j < m → m_I x.2.2 439 j = nI (y / (2 * n) ^ (m - 1 - j) % (2 * n))) (fun k x hk hI K2 hK2 => ?_) (fun x hI K2 => ?_) ⟨by show nI y = nI (y / (2 * n) ^ 0); rw [Nat.pow_zero, Nat.div_one], ?_, b2, b3, fun j j1 j2 => by omega⟩
    · obtain ⟨i6, i7, ν2⟩ := x
      obtain ⟨e1, e2, e3, e4, e5⟩ := hI
      dsimp only at e1 e2 e3 e4 e5
      rw [if_pos hk] at e2
      subst e1 e2
      show p_X5_acquits_L57b _ 411 (nI side) (nI m) (nI (2 * n)) _ _ (fun i6 i7 μ => K2 (i6, i7, μ)) (nI (y / (2 * n) ^ k)) (nI (m - 1 - k)) ν2 Q
      have g2 := e3.sk gs
      have hn : 0 < 2 * n := by
        apply Classical.byContradiction
        intro h
        have : 2 * n = 0 := by omega
        rw [this, Nat.zero_pow (by omega)] at hy
        omega
      have hyk : y / (2 * n) ^ k < 2 ^ 31 := Nat.lt_of_le_of_lt (Nat.div_le_self _ _) (by omega)
      have nz : ¬ nI (2 * n) = 0 := nI_ne0 hn (by omega)
      unfold p_X5_acquits_L57b
      rw [if_neg (nI_pos (by omega))]
      simp (disch := omega) only [sk_p411_0 g2, sk_p411_1 g2, sk_p411_2 g2, sk_p411_6 g2, sk_p411_7 g2, sk_p411_8 g2, sk_p411_9 g2, sk_p411_10 g2, sk_p411_11 g2, sk_p411_12 g2, sk_p411_22 g2, sk_p411_23 g2, sk_p411_25 g2, sk_p411_26 g2, sk_p411_30 g2, sk_p411_31 g2, sk_p411_32 g2, sk_p411_33 g2, sk_p411_35 g2, sk_p411_36 g2, sk_p411_37 g2, sk_p411_38 g2, sk_p411_39 g2, sk_p411_40 g2, sk_p411_42 g2, sk_p411_43 g2, sk_p411_44 g2, sk_p411_45 g2, sk_p411_46 g2, sk_k411 g2, sk_n411 g2, sk_k439 g2, sk_n439 g2, nz, not_false_eq_true, true_and, nI_clamp, vp_t, forall_eq, ml_uI, pk_rem hyk hn (show 2 * n < 2 ^ 31 by omega), pk_div hyk hn (show 2 * n < 2 ^ 31 by omega)]
      refine hK2 _ ⟨?_, ?_, e3.tr (eqD.sI fun j hj => absurd (Or.inr (Or.inr (Or.inr (Or.inr (Or.inl rfl))))) hj), ⟨?_, fun x hx => ?_⟩, fun j j1 j2 => ?_⟩
      · show nI (y / (2 * n) ^ k / (2 * n)) = _
        rw [Nat.div_div_eq_div_mul, Nat.pow_succ]
      · show nI (m - 1 - k) + (-1) = _
        by_cases q : k + 1 < m
        · rw [if_pos q, show m - 1 - k = m - 1 - (k + 1) + 1 by omega, pk_m1]
        · rw [if_neg q, show m - 1 - k = 0 by omega]
          rfl
      · rw [ml_In (by decide)]; exact e4.1
      · rw [ml_In (by decide)]; exact e4.2 x hx
      · show m_I (m_sI ν2 439 _) 439 j = _
        rw [ml_Is]
        by_cases q : j = m - 1 - k
        · subst q
          rw [ml_us, show m - 1 - (m - 1 - k) = k by omega, ← pk_div hyk hn (show 2 * n < 2 ^ 31 by omega), pk_rem hyk hn (show 2 * n < 2 ^ 31 by omega)]
        · rw [ml_un q]; exact e5 j (by omega) j2
    · obtain ⟨i6, i7, ν2⟩ := x
      obtain ⟨e1, e2, e3, e4, e5⟩ := hI
      dsimp only at e1 e2 e3 e4 e5
      rw [if_neg (Nat.lt_irrefl m)] at e2
      subst e1 e2
      show p_X5_acquits_L57b (fun i5 μ => K (i5, μ)) 411 (nI side) (nI m) (nI (2 * n)) (nI ((2 * n) ^ m)) (nI y) (fun i6 i7 μ => K2 (i6, i7, μ)) (nI (y / (2 * n) ^ m)) (-1) ν2 Q
      have g2 := e3.sk gs
      have w2 : m_I ν2 412 = a := (e3.I fun j => by unfold DM; omega).trans w
      have lg : ∀ j, j < m → m_I ν2 439 j = nI ((dgL (2 * n) m y).getD j 0) := by
        intro j hj
        have hn : 0 < 2 * n := by
          apply Classical.byContradiction
          intro h
          have : 2 * n = 0 := by omega
          rw [this, Nat.zero_pow (by omega)] at hy
          omega
        rw [dgL_get (2 * n) hn m y j hj]
        exact e5 j (by omega) hj
      have lb : ∀ j, j < m → (dgL (2 * n) m y).getD j 0 < 2 * n := by
        intro j hj
        have hn : 0 < 2 * n := by
          apply Classical.byContradiction
          intro h
          have : 2 * n = 0 := by omega
          rw [this, Nat.zero_pow (by omega)] at hy
          omega
        rw [dgL_get (2 * n) hn m y j hj]
        exact Nat.mod_lt _ hn
      have ll := dgL_len (2 * n) m y
      generalize dgL (2 * n) m y = L at lg lb ll hK'
      unfold p_X5_acquits_L57b
      rw [if_pos (by decide)]
      refine m_laysA g2 w2 C fun ν3 d3 R3 => ?_
      have e6 : eqD DM ν ν3 := e3.tr (d3.mono fun p j q => by unfold DM; omega)
      have g3 := e6.sk gs
      have b4 : bM ν3 m bb := ⟨(d3.2.2.2 411 47 (by decide)).trans e4.1, fun x hx => by
        obtain ⟨u1, u2, u3⟩ := e4.2 x hx
        exact ⟨u1, u2, fun j hj => (d3.2.2.2 440 j (show ¬ (440 = 434 ∨ 440 = 435 ∨ (440 = 411 ∧ j = 41)) by omega)).trans (u3 j hj)⟩⟩
      have l3 : ∀ j, j < m → m_I ν3 439 j = nI (L.getD j 0) := fun j hj => (d3.2.2.2 439 j (show ¬ (439 = 434 ∨ 439 = 435 ∨ (439 = 411 ∧ j = 41)) by omega)).trans (lg j hj)
      have p0 := R3.1 0 (by decide)
      have p2 := R3.1 2 (by decide)
      simp (disch := omega) only [sk_p411_0 g3, sk_p411_1 g3, sk_p411_2 g3, sk_p411_6 g3, sk_p411_7 g3, sk_p411_8 g3, sk_p411_9 g3, sk_p411_10 g3, sk_p411_11 g3, sk_p411_12 g3, sk_p411_22 g3, sk_p411_23 g3, sk_p411_25 g3, sk_p411_26 g3, sk_p411_30 g3, sk_p411_31 g3, sk_p411_32 g3, sk_p411_33 g3, sk_p411_35 g3, sk_p411_36 g3, sk_p411_37 g3, sk_p411_38 g3, sk_p411_39 g3, sk_p411_40 g3, sk_p411_42 g3, sk_p411_43 g3, sk_p411_44 g3, sk_p411_45 g3, sk_p411_46 g3, sk_k411 g3, sk_n411 g3, sk_k434 g3, sk_n434 g3, li_0, li_2, nI_clamp, vp_t, true_and, forall_eq, p0, p2, nI_add]
      have hb := okA.1 0 (by decide)
      have hb2 := okA.1 2 (by decide)
      -- the way's end
      have l0 : ∀ ν', eqD DM ν ν' → bM ν' m bb → uR lv (hunA a) (stoA a) (whA a) (wA a) 0 L = none → K (nI (y + 1), ν') := fun ν' d h hu => hK' ν' d (by rw [hu]; exact h)
      have z159 : ∀ ν', eqD DM ν ν' → bM ν' m bb → uR lv (hunA a) (stoA a) (whA a) (wA a) 0 L = none → p_X5_acquits_L159 (fun i5 μ => K (i5, μ)) 411 (nI side) (nI m) (nI (2 * n)) (nI ((2 * n) ^ m)) (nI y) (nI ((wA a).1 0 + (wA a).1 2)) 0 ν' Q := by
        intro ν' d h hu
        have g := d.sk gs
        unfold p_X5_acquits_L159
        simp (disch := omega) only [sk_p411_0 g, sk_p411_1 g, sk_p411_2 g, sk_p411_6 g, sk_p411_7 g, sk_p411_8 g, sk_p411_9 g, sk_p411_10 g, sk_p411_11 g, sk_p411_12 g, sk_p411_22 g, sk_p411_23 g, sk_p411_25 g, sk_p411_26 g, sk_p411_30 g, sk_p411_31 g, sk_p411_32 g, sk_p411_33 g, sk_p411_35 g, sk_p411_36 g, sk_p411_37 g, sk_p411_38 g, sk_p411_39 g, sk_p411_40 g, sk_p411_42 g, sk_p411_43 g, sk_p411_44 g, sk_p411_45 g, sk_p411_46 g, sk_k411 g, sk_n411 g, sk_k434 g, sk_n434 g, li_0, li_2, nI_clamp, vp_t, true_and, forall_eq, if_true, nI_1]
        exact l0 ν' d h hu
      unfold p_X5_acquits_L110
      refine lp_to m (fun k (x : Int32 × Int32 × fw_M) => x.2.1 = nI k ∧ eqD DM ν x.2.2 ∧ bM x.2.2 m bb ∧ (∀ j, j < m → m_I x.2.2 439 j = nI (L.getD j 0)) ∧ ((x.1 = 1 ∧ ∃ v h, uR lv (hunA a) (stoA a) (whA a) (wA a) 0 L = uR lv (hunA a) (stoA a) (whA a) v h (L.drop k) ∧ rM n x.2.2 v ∧ okW n v ∧ hoN v + h = hoN (wA a)) ∨ (x.1 = 0 ∧ uR lv (hunA a) (stoA a) (whA a) (wA a) 0 L = none))) (fun k x hk hI K3 hK3 => ?_) (fun x hI K3 => ?_) ⟨rfl, e6, b4, l3, Or.inl ⟨rfl, wA a, 0, rfl, R3, okA, rfl⟩⟩
      · obtain ⟨i8, i9, ν4⟩ := x
        obtain ⟨f1, f2, f3, f4, f5⟩ := hI
        dsimp only at f1 f2 f3 f4 f5
        subst f1
        show p_X5_acquits_L110b (fun i5 μ => K (i5, μ)) 411 (nI side) (nI m) (nI (2 * n)) (nI ((2 * n) ^ m)) (nI y) (nI ((wA a).1 0 + (wA a).1 2)) (fun i8 i9 μ => K3 (i8, i9, μ)) i8 (nI k) ν4 Q
        unfold p_X5_acquits_L110b
        rw [if_neg (nI_ge hk (by omega))]
        rcases f5 with ⟨rfl, v, h, h1, h2, h3, h4⟩ | ⟨rfl, h1⟩
        · rw [if_neg (by decide)]
          have c4 := c.eq f2 fun p j q => by unfold DM at q; omega
          have g4 := c4.1
          have dd := lb k hk
          have le := f4 k hk
          have dr := gd_drop L k (by omega)
          generalize L.getD k 0 = dg at dd le dr
          have m3 : nI dg / 2 = nI (dg / 2) := pk_div (d := 2) (by omega) (by decide) (by decide)
          have m2 : nI dg - nI (dg / 2) * 2 = nI (dg % 2) := by rw [← m3]; exact pk_rem (d := 2) (by omega) (by decide) (by decide)
          simp (disch := omega) only [sk_p411_0 g4, sk_p411_1 g4, sk_p411_2 g4, sk_p411_6 g4, sk_p411_7 g4, sk_p411_8 g4, sk_p411_9 g4, sk_p411_10 g4, sk_p411_11 g4, sk_p411_12 g4, sk_p411_22 g4, sk_p411_23 g4, sk_p411_25 g4, sk_p411_26 g4, sk_p411_30 g4, sk_p411_31 g4, sk_p411_32 g4, sk_p411_33 g4, sk_p411_35 g4, sk_p411_36 g4, sk_p411_37 g4, sk_p411_38 g4, sk_p411_39 g4, sk_p411_40 g4, sk_p411_42 g4, sk_p411_43 g4, sk_p411_44 g4, sk_p411_45 g4, sk_p411_46 g4, sk_k411 g4, sk_n411 g4, sk_k439 g4, sk_n439 g4, nI_clamp, vp_t, true_and, le, m2, m3]
          refine m_eats c4 h2 h3 (show dg / 2 < n by omega) (show dg % 2 < 2 by omega) fun ν5 d5 R5 => ?_
          have f6 : eqD DM ν ν5 := f2.tr (d5.mono fun p j q => by unfold DM; omega)
          have b5 : bM ν5 m bb := ⟨(d5.2.2.2 411 47 (by decide)).trans f3.1, fun x hx => by
            obtain ⟨u1, u2, u3⟩ := f3.2 x hx
            exact ⟨u1, u2, fun j hj => (d5.2.2.2 440 j (show ¬ (440 = 432 ∨ 440 = 434 ∨ 440 = 435 ∨ (440 = 411 ∧ j = 41)) by omega)).trans (u3 j hj)⟩⟩
          have l5 : ∀ j, j < m → m_I ν5 439 j = nI (L.getD j 0) := fun j hj => (d5.2.2.2 439 j (show ¬ (439 = 432 ∨ 439 = 434 ∨ 439 = 435 ∨ (439 = 411 ∧ j = 41)) by omega)).trans (f4 j hj)
          have ur : uR lv (hunA a) (stoA a) (whA a) v h (dg :: L.drop (k + 1)) = if spoonN lv (hunA a) (stoA a) (whA a) v (dg / 2) (dg % 2) = 0 then none else uR lv (hunA a) (stoA a) (whA a) (eatW (whA a) v (dg / 2) (dg % 2) (spoonN lv (hunA a) (stoA a) (whA a) v (dg / 2) (dg % 2))) (h + if dg % 2 = 0 then spoonN lv (hunA a) (stoA a) (whA a) v (dg / 2) (dg % 2) else 0) (L.drop (k + 1)) := rfl
          rw [dr, ur] at h1
          by_cases z : spoonN lv (hunA a) (stoA a) (whA a) v (dg / 2) (dg % 2) = 0
          · rw [if_pos z] at h1
            rw [z, if_pos (show nI 0 ≤ 0 by decide)]
            simp only [forall_eq, nI_1]
            exact hK3 _ ⟨rfl, f6, b5, l5, Or.inr ⟨rfl, h1⟩⟩
          · rw [if_neg z] at h1
            have hg : spoonN lv (hunA a) (stoA a) (whA a) v (dg / 2) (dg % 2) ≤ 9999 := Nat.le_trans spoonN_le.2.1 (Nat.le_trans (Nat.sub_le _ _) (holdsH_le (hE (dg / 2) (by omega)).2.1.2))
            rw [if_neg (nI_nle (by omega) (by omega))]
            simp only [forall_eq, nI_1]
            have ok5 := eatN_ok (lv := lv) (hun := hunA a) (wh := whA a) (kind := dg % 2) h3 (hE (dg / 2) (by omega)).2.1.2
            unfold eatN at R5 ok5
            rw [if_neg z] at R5 ok5
            have ho := hoN_eat (lv := lv) (hun := hunA a) (sto := stoA a) (w := v) (show dg % 2 < 2 by omega) (hE (dg / 2) (by omega)).2.2.2 z
            exact hK3 _ ⟨rfl, f6, b5, l5, Or.inl ⟨rfl, _, _, h1, R5, ok5, by omega⟩⟩
        · rw [if_pos rfl]
          exact z159 ν4 f2 f3 h1
      · obtain ⟨i8, i9, ν4⟩ := x
        obtain ⟨f1, f2, f3, f4, f5⟩ := hI
        dsimp only at f1 f2 f3 f4 f5
        subst f1
        show p_X5_acquits_L110b (fun i5 μ => K (i5, μ)) 411 (nI side) (nI m) (nI (2 * n)) (nI ((2 * n) ^ m)) (nI y) (nI ((wA a).1 0 + (wA a).1 2)) (fun i8 i9 μ => K3 (i8, i9, μ)) i8 (nI m) ν4 Q
        unfold p_X5_acquits_L110b
        rw [if_pos (nI_le (Nat.le_refl m) (by omega))]
        rcases f5 with ⟨rfl, v, h, h1, h2, h3, h4⟩ | ⟨rfl, h1⟩
        rotate_left
        · exact z159 ν4 f2 f3 h1
        have dn : L.drop m = [] := List.drop_eq_nil_of_le (by omega)
        rw [dn] at h1
        have h1' : uR lv (hunA a) (stoA a) (whA a) (wA a) 0 L = some (h, v) := h1
        rw [h1'] at hK'
        have aL : acL lv nd side (some (h, v)) L bb = if btr h bb = true ∧ guB lv v nd side = false then some (h, L) else bb := rfl
        rw [aL] at hK'
        have g4 := f2.sk gs
        have c4 := c.eq f2 fun p j q => by unfold DM at q; omega
        have v0 := h2.1 0 (by decide)
        have v2 := h2.1 2 (by decide)
        have hh : nI ((wA a).1 0 + (wA a).1 2) - nI (v.1 0 + v.1 2) = nI h := by
          unfold hoN at h4
          rw [pk_sub (by omega)]
          congr 1
          omega
        have hle : h ≤ 2000 := by unfold hoN at h4; omega
        have skip : ¬ (btr h bb = true ∧ guB lv v nd side = false) → ∀ ν', eqD DM ν ν' → bM ν' m bb → K (nI (y + 1), ν') := fun q ν' d hb' => by rw [if_neg q] at hK'; exact hK' ν' d hb'
        have go : btr h bb = true → p_X5_acquits_L199 (fun i5 μ => K (i5, μ)) 411 (nI side) (nI m) (nI (2 * n)) (nI ((2 * n) ^ m)) (nI y) (nI h) ν4 Q := by
          intro hbt
          unfold p_X5_acquits_L199
          refine m_isGuilty c4 h2 hsd fun ν5 d5 => ?_
          have f6 : eqD DM ν ν5 := f2.tr (d5.mono fun p j q => Or.inl q)
          have g5 := f6.sk gs
          by_cases gu : guB lv v nd side = true
          · rw [if_pos gu, if_neg (by decide)]
            simp only [forall_eq, nI_1]
            refine skip (fun q => by rw [gu] at q; exact absurd q.2 (by decide)) ν5 f6 ⟨(d5.2.2.2 411 47 (by decide)).trans f3.1, fun x hx => ?_⟩
            obtain ⟨u1, u2, u3⟩ := f3.2 x hx
            exact ⟨u1, u2, fun j hj => (d5.2.2.2 440 j (show ¬ (440 = 432) by decide)).trans (u3 j hj)⟩
          · rw [if_neg gu, if_pos rfl]
            rw [if_pos ⟨hbt, eq_false_of_ne_true gu⟩] at hK'
            rintro μ8 rfl
            rw [ml_uI]
            have l5 : ∀ j, j < m → m_I (m_sI ν5 411 (ml_u (m_I ν5 411) 47 (nI h))) 439 j = nI (L.getD j 0) := fun j hj => by
              rw [ml_In (by decide), d5.2.2.2 439 j (show ¬ (439 = 432) by decide)]; exact f4 j hj
            have i47 : m_I (m_sI ν5 411 (ml_u (m_I ν5 411) 47 (nI h))) 411 47 = nI h := by rw [ml_Is, ml_us]
            have f7 : eqD DM ν (m_sI ν5 411 (ml_u (m_I ν5 411) 47 (nI h))) := f6.tr (eqD.sI fun j hj => ml_un fun q => hj (Or.inr (Or.inr (Or.inr (Or.inl ⟨rfl, Or.inr q⟩)))))
            generalize m_sI ν5 411 (ml_u (m_I ν5 411) 47 (nI h)) = ν6 at l5 i47 f7
            unfold p_X5_acquits_L216
            refine lp_to m (fun k (x : Int32 × fw_M) => x.1 = nI k ∧ eqD (fun p _ => p = 440) ν6 x.2 ∧ ∀ j, j < k → m_I x.2 440 j = nI (L.getD j 0)) (fun k x hk hI K4 hK4 => ?_) (fun x hI K4 => ?_) ⟨rfl, eqD.rf, fun j hj => absurd hj (Nat.not_lt_zero _)⟩
            · obtain ⟨i9, ν7⟩ := x
              obtain ⟨r1, r2, r3⟩ := hI
              dsimp only at r1 r2 r3
              subst r1
              show p_X5_acquits_L216b _ 411 (nI side) (nI m) (nI (2 * n)) (nI ((2 * n) ^ m)) (nI y) (fun i9 μ => K4 (i9, μ)) (nI k) ν7 Q
              have g7 := r2.sk (f7.sk gs)
              have le := (r2.2.2.2 439 k (show ¬ (439 = 440) by decide)).trans (l5 k hk)
              unfold p_X5_acquits_L216b
              rw [if_neg (nI_ge hk (by omega))]
              simp (disch := omega) only [sk_p411_0 g7, sk_p411_1 g7, sk_p411_2 g7, sk_p411_6 g7, sk_p411_7 g7, sk_p411_8 g7, sk_p411_9 g7, sk_p411_10 g7, sk_p411_11 g7, sk_p411_12 g7, sk_p411_22 g7, sk_p411_23 g7, sk_p411_25 g7, sk_p411_26 g7, sk_p411_30 g7, sk_p411_31 g7, sk_p411_32 g7, sk_p411_33 g7, sk_p411_35 g7, sk_p411_36 g7, sk_p411_37 g7, sk_p411_38 g7, sk_p411_39 g7, sk_p411_40 g7, sk_p411_42 g7, sk_p411_43 g7, sk_p411_44 g7, sk_p411_45 g7, sk_p411_46 g7, sk_k411 g7, sk_n411 g7, sk_k439 g7, sk_n439 g7, sk_k440 g7, sk_n440 g7, nI_clamp, vp_t, true_and, forall_eq, ml_uI, le, nI_1]
              refine hK4 _ ⟨rfl, r2.tr (eqD.sI fun j hj => absurd rfl hj), fun j hj => ?_⟩
              show m_I (m_sI ν7 440 _) 440 j = _
              rw [ml_Is]
              by_cases q : j = k
              · subst q; rw [ml_us]
              · rw [ml_un q]; exact r3 j (by omega)
            · obtain ⟨i9, ν7⟩ := x
              obtain ⟨r1, r2, r3⟩ := hI
              dsimp only at r1 r2 r3
              subst r1
              show p_X5_acquits_L216b (fun i5 μ => K (i5, μ)) 411 (nI side) (nI m) (nI (2 * n)) (nI ((2 * n) ^ m)) (nI y) (fun i9 μ => K4 (i9, μ)) (nI m) ν7 Q
              unfold p_X5_acquits_L216b
              rw [if_pos (nI_le (Nat.le_refl m) (by omega))]
              simp only [forall_eq, nI_1]
              refine hK' ν7 (f7.tr (r2.mono fun p j q => Or.inr (Or.inr (Or.inr (Or.inr (Or.inr q)))))) ⟨(r2.2.2.2 411 47 (by decide)).trans i47, fun x hx => ?_⟩
              cases hx
              exact ⟨by omega, ll, r3⟩
        unfold p_X5_acquits_L159
        simp (disch := omega) only [sk_p411_0 g4, sk_p411_1 g4, sk_p411_2 g4, sk_p411_6 g4, sk_p411_7 g4, sk_p411_8 g4, sk_p411_9 g4, sk_p411_10 g4, sk_p411_11 g4, sk_p411_12 g4, sk_p411_22 g4, sk_p411_23 g4, sk_p411_25 g4, sk_p411_26 g4, sk_p411_30 g4, sk_p411_31 g4, sk_p411_32 g4, sk_p411_33 g4, sk_p411_35 g4, sk_p411_36 g4, sk_p411_37 g4, sk_p411_38 g4, sk_p411_39 g4, sk_p411_40 g4, sk_p411_42 g4, sk_p411_43 g4, sk_p411_44 g4, sk_p411_45 g4, sk_p411_46 g4, sk_k411 g4, sk_n411 g4, sk_k434 g4, sk_n434 g4, li_0, li_2, nI_clamp, vp_t, true_and, forall_eq, v0, v2, nI_add, hh, f3.1]
        rw [if_neg (show ¬ (1 : Int32) = nI 0 by decide)]
        cases hbb : bb with
        | none =>
          rw [hbb] at go
          rw [if_pos rfl]
          exact go rfl
        | some x =>
          have hx1 := (f3.2 x hbb).1
          rw [hbb] at go skip
          dsimp only
          rw [if_neg (nI_nm1 (by omega))]
          by_cases q : h < x.1
          · rw [if_neg (nI_ge q (by omega))]
            exact go (decide_eq_true q)
          · rw [if_pos (nI_le (by omega) (by omega))]
            simp only [nI_1]
            have sk9 := skip (fun r => by have : decide (h < x.1) = true := r.1; rw [decide_eq_false q] at this; exact absurd this (by decide)) ν4 f2 (by rw [← hbb]; exact f3)
            exact sk9
    · show nI m - 1 = _
      by_cases q : 0 < m
      · rw [if_pos q, show m - 1 - 0 = m - 1 by omega]
        exact pk_sub (b := 1) q
      · rw [if_neg q, show m = 0 by omega]
        rfl
  · obtain ⟨i5, ν1⟩ := b
    obtain ⟨b1, b2, b3⟩ := hI
    dsimp only at b1 b2 b3
    subst b1
    show p_X5_acquits_L41b 411 (nI side) (nI m) (nI (2 * n)) (nI ((2 * n) ^ m)) (fun i5 μ => K (i5, μ)) (nI ((2 * n) ^ m)) ν1 Q
    have := hQ ν1 b2 b3
    unfold p_X5_acquits_L41b
    rw [if_pos (nI_le (Nat.le_refl _) (by omega)), b3.1]
    cases hbb : acM lv (hunA a) (stoA a) (whA a) nd side (2 * n) m (wA a) none ((2 * n) ^ m) with
    | none =>
      rw [hbb] at this
      rw [if_pos rfl]
      exact this
    | some x =>
      rw [hbb] at this
      have := (b3.2 x hbb).1
      dsimp only
      rw [if_neg (nI_nm1 (by omega))]
      assumption
end ACM
