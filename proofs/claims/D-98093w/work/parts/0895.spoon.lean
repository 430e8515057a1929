/-! plain law: spoon, judge -/
theorem lvS.step {μ μ' : fw_M} {lv : LV} (h : lvS μ lv) (hs : sk_m μ) (g : stepS μ μ') (e : m_I μ' 65 2 = m_I μ 65 2) : lvS μ' lv := by
  obtain ⟨l, sp, a1, a2, a3, a4, a5, a6, a7, a8, a9, a10⟩ := h
  obtain ⟨g1, g2, g3, g4, g5⟩ := g
  have gx : iv_ext μ μ' := ⟨g1, Nat.le_of_eq g3.symm, fun p p1 _ _ _ => ⟨by rw [g2], g5 p (by omega) (by unfold sc_p; omega), g4 p (by omega)⟩⟩
  have eK : m_K μ' = m_K μ := funext fun p => congrArg (fun s : Nat → Nat × Nat => (s p).1) g2
  have eN : m_N μ' = m_N μ := funext fun p => congrArg (fun s : Nat → Nat × Nat => (s p).2) g2
  refine ⟨l, sp, ?_, by rw [g3]; exact a2, by rw [g3]; exact a3, by rw [eK]; exact a4, by rw [g4 l (by omega)]; exact a5, by rw [eK]; exact a6, by rw [eN]; exact a7, ?_, ?_, ?_⟩
  · rw [e, g4 391 (by decide)]; exact a1
  · rw [g4 sp (by omega)]; exact a8.ext gx
  · rw [g4 sp (by omega)]; exact a9.ext gx
  · rw [g4 l (by omega)]; exact a10.ext gx
theorem cxS.step {n : Nat} {hun sto : Nat → Nat} {lv : LV} {μ μ' : fw_M} (h : cxS n hun sto lv μ) (g : stepS μ μ') (e0 : m_I μ' 65 0 = m_I μ 65 0) (e2 : m_I μ' 65 2 = m_I μ 65 2) (e66 : m_I μ' 66 = m_I μ 66) (e67 : m_I μ' 67 = m_I μ 67) : cxS n hun sto lv μ' := by
  obtain ⟨h1, h2, h3, h4, h5, h6⟩ := h
  exact ⟨g.1, h2, e0.trans h3, fun e he => by rw [e66, e67]; exact h4 e he, h5.step h1 g e2, h6⟩
theorem row_spoon {n ns nd e s k g p x : Nat} {sr sr' mr mr' : Nat → Int32} (h : iv_row n ns nd sr mr) (hn : n ≤ 9) (he : e < n) (hns : ns < 60) (hk : k < 2) (hs : s < 2) (hp : p ≤ 999) (hx : x + g ≤ 9999) (g2 : mr (13 + e) = nI x)
    (m1 : mr' (2 * s + k) = nI (p - g)) (m2 : mr' (13 + e) = nI (x + g)) (m3 : mr' 22 = nI (ns + 1)) (m4 : mr' (23 + 4 * ns) = nI e) (m5 : mr' (23 + 4 * ns + 3) = nI g) (mo : ∀ j, j ≠ 2 * s + k → j ≠ 13 + e → j ≠ 22 → j < 23 + 4 * ns ∨ 27 + 4 * ns ≤ j → mr' j = mr j)
    (s1 : sr' (2 * s + k) = nI (p - g)) (s2 : sr' (13 + e) = nI (x + g)) (s3 : sr' 23 = nI (ns + 1)) (so : ∀ j, j < 25 → j ≠ 2 * s + k → j ≠ 13 + e → j ≠ 23 → sr' j = sr j) : iv_row n (ns + 1) nd sr' mr' := by
  obtain ⟨h1, h2, h3, h4, h5, h6, h7, h8, h9, h10, h11, h12, h13, h14, h15⟩ := h
  have sm : ∀ y, iv_sum mr' y ns = iv_sum mr y ns := fun y => sum_cong fun j j1 j2 => mo j (by omega) (by omega) (by omega) (Or.inl j2)
  refine ⟨fun j hj => ?_, fun y hy => ?_, fun y y1 y2 => ?_, ?_, s3, ?_, m3, ?_, by omega, h10, fun j hj => ?_, fun y hy => ?_, fun y hy => ?_, ?_, fun y hy => ?_⟩
  · by_cases q : j = 2 * s + k
    · subst q; rw [s1, m1]
    · rw [so j (by omega) q (by omega) (by omega), mo j q (by omega) (by omega) (by omega)]; exact h1 j hj
  · rw [so (4 + y) (by omega) (by omega) (by omega) (by omega), mo (4 + y) (by omega) (by omega) (by omega) (by omega)]
    refine ⟨(h2 y hy).1, ?_⟩
    by_cases q : y = e
    · subst q; rw [s2, m2]
    · rw [so (13 + y) (by omega) (by omega) (by omega) (by omega), mo (13 + y) (by omega) (by omega) (by omega) (by omega)]; exact (h2 y hy).2
  · rw [mo (4 + y) (by omega) (by omega) (by omega) (by omega), mo (13 + y) (by omega) (by omega) (by omega) (by omega)]; exact h3 y y1 y2
  · rw [so 22 (by omega) (by omega) (by omega) (by omega), mo 354 (by omega) (by omega) (by omega) (by omega)]; exact h4
  · rw [so 24 (by omega) (by omega) (by omega) (by omega)]; exact h6
  · rw [mo 263 (by omega) (by omega) (by omega) (by omega)]; exact h8
  · by_cases q : j = 2 * s + k
    · subst q; rw [m1]; exact ⟨p - g, by omega, rfl⟩
    · rw [mo j q (by omega) (by omega) (by omega)]; exact h11 j hj
  · rw [mo (4 + y) (by omega) (by omega) (by omega) (by omega)]; exact h12 y hy
  · by_cases q : y = e
    · subst q; rw [m2]; exact ⟨x + g, hx, rfl⟩
    · rw [mo (13 + y) (by omega) (by omega) (by omega) (by omega)]; exact h13 y hy
  · rw [mo 354 (by omega) (by omega) (by omega) (by omega)]; exact h14
  · show mr' (13 + y) = iv_sum mr' y ns + (if mr' (23 + 4 * ns) = nI y then mr' (23 + 4 * ns + 3) else 0)
    rw [sm, m4, m5]
    by_cases q : y = e
    · subst q
      rw [if_pos rfl, m2, ← h15 y hy, g2, nI_add]
    · rw [if_neg (fun c => q ((nI_eq (by omega) (by omega)).mp c).symm), Int32.add_zero, mo (13 + y) (by omega) (by omega) (by omega) (by omega)]
      exact h15 y hy
def spA (lv : LV) (a : Nat → Int32) (e k : Nat) : Nat := spoonN lv (hunA a) (stoA a) (whA a) (wA a) e k
def mSpU (b : Nat → Int32) (e s k g x p ns : Nat) : Nat → Int32 :=
  ml_u (ml_u (ml_u (ml_u (ml_u (ml_u (ml_u b (110 + 2 * s + k) (nI (p - g))) (123 + e) (nI (x + g))) (133 + 4 * ns) (nI e)) (133 + 4 * ns + 1) (nI s)) (133 + 4 * ns + 2) (nI k)) (133 + 4 * ns + 3) (nI g)) 132 (nI (ns + 1))
def mSpoon (lv : LV) (a : Nat → Int32) (a0 a1 : Int32) : Int32 × (Nat → Int32) :=
  if ((inB a0 0 (a 0 - 1) ∧ inB a1 0 1) ∧ ¬ a 132 = 60) ∧ ¬ spA lv a a0.toNatClampNeg a1.toNatClampNeg = 0 then
    (nI (spA lv a a0.toNatClampNeg a1.toNatClampNeg), mSpU (mKeep a (a 3).toNatClampNeg) a0.toNatClampNeg (whA a a0.toNatClampNeg) a1.toNatClampNeg (spA lv a a0.toNatClampNeg a1.toNatClampNeg) ((wA a).2.1 a0.toNatClampNeg) ((wA a).1 (2 * whA a a0.toNatClampNeg + a1.toNatClampNeg)) (wA a).2.2)
  else (-1, a)
theorem s_isEater {n : Nat} {x : Int32} {μ : fw_M} (hs : sk_m μ) (E0 : m_I μ 65 0 = nI n) {Q : Int32 → fw_M → Prop} : p_X0_isEater 64 x μ Q = if inB x 0 (nI n - 1) then Q 1 μ else Q 0 μ := by
  unfold p_X0_isEater
  simp only [s_in, sk_p64_0 hs, sk_p64_1 hs, sk_p64_2 hs, sk_p64_3 hs, sk_p64_4 hs, sk_p64_5 hs, sk_p64_9 hs, sk_p64_10 hs, sk_p64_11 hs, sk_p65_6 hs, sk_p65_7 hs, sk_p65_8 hs, sk_p65_9 hs, sk_p65_10 hs, sk_p65_11 hs, sk_p65_12 hs, sk_p65_13 hs, sk_p65_14 hs, sk_p65_15 hs, sk_k64 hs, sk_n64 hs, sk_k65 hs, sk_n65 hs, true_and, E0]
  by_cases c : inB x 0 (nI n - 1)
  · rw [if_pos c, if_pos c]; exact propext ⟨fun h => h.2, fun h => ⟨Or.inr trivial, h⟩⟩
  · rw [if_neg c, if_neg c]; exact propext ⟨fun h => h.2, fun h => ⟨Or.inl trivial, h⟩⟩
theorem m_isEater {n : Nat} {x : Int32} {ν : fw_M} (gs : sk_m ν) (E0 : m_I ν 412 0 = nI n) {Q : Int32 → fw_M → Prop} : p_X5_isEater 411 x ν Q = if inB x 0 (nI n - 1) then Q 1 ν else Q 0 ν := by
  unfold p_X5_isEater
  simp only [m_in, sk_p411_0 gs, sk_p411_1 gs, sk_p411_2 gs, sk_p411_6 gs, sk_p411_7 gs, sk_p411_8 gs, sk_p411_9 gs, sk_p411_10 gs, sk_p411_11 gs, sk_p411_12 gs, sk_p411_22 gs, sk_p411_23 gs, sk_p411_25 gs, sk_p411_26 gs, sk_p411_30 gs, sk_p411_31 gs, sk_p411_32 gs, sk_p411_33 gs, sk_p411_35 gs, sk_p411_36 gs, sk_p411_37 gs, sk_p411_38 gs, sk_p411_39 gs, sk_p411_40 gs, sk_p411_42 gs, sk_p411_43 gs, sk_p411_44 gs, sk_p411_45 gs, sk_p411_46 gs, sk_k411 gs, sk_n411 gs, sk_k412 gs, sk_n412 gs, cl0, vp0_11120, true_and, E0]
  by_cases c : inB x 0 (nI n - 1)
  · rw [if_pos c, if_pos c]; exact propext ⟨fun h => h.2, fun h => ⟨Or.inr trivial, h⟩⟩
  · rw [if_neg c, if_neg c]; exact propext ⟨fun h => h.2, fun h => ⟨Or.inl trivial, h⟩⟩
/-- the world of a court that was kept -/
theorem wA_lo {a b : Nat → Int32} (h : ∀ j, j ≠ 3 → j < 470 → b j = a j) : (∀ k, k < 4 → (wA b).1 k = (wA a).1 k) ∧ (∀ e, e < 9 → (wA b).2.1 e = (wA a).2.1 e) := by
  refine ⟨fun k hk => ?_, fun e he => ?_⟩
  · show (b (110 + k)).toNatClampNeg = _
    rw [h _ (by omega) (by omega)]; rfl
  · show (b (123 + e)).toNatClampNeg = _
    rw [h _ (by omega) (by omega)]; rfl
theorem s_spoon {μ : fw_M} {a : Nat → Int32} {n tx st te tl ns nd : Nat} {lv : LV} (hs : sk_m μ) (C : iv_C μ 65 a n tx st te tl ns nd) (l1 : lvS μ lv) (l3 : lvD lv) (a0 a1 : Int32) {Q : Int32 → fw_M → Prop} (hQ : ∀ μ1, stepS μ μ1 → (∃ st' ns' nd', iv_C μ1 65 (mSpoon lv a a0 a1).2 n tx st' te tl ns' nd') → Q (mSpoon lv a a0 a1).1 μ1) : p_X0_spoon 64 a0 a1 μ Q := by
  obtain ⟨c, R, ok⟩ := cxS_of hs C l1 l3
  obtain ⟨x1, x2, x3, x4, x5⟩ := cx_a C
  obtain ⟨⟨q1, q2, q3, q4, q5⟩, ⟨E0, E1, E2, E3, E4, E5⟩, ⟨A0, A1, A3, A4, A5⟩, -, -, hr, -⟩ := id C
  have b1 : ns ≤ 60 := hr.2.2.2.2.2.2.2.2.1
  have r7 : a 132 = nI ns := hr.2.2.2.2.2.2.1
  have r5 : m_I μ 69 23 = nI ns := hr.2.2.2.2.1
  have no : ∀ μ1, eqD (fun p _ => p = 396) μ μ1 → ¬ (((inB a0 0 (a 0 - 1) ∧ inB a1 0 1) ∧ ¬ a 132 = 60) ∧ ¬ spA lv a a0.toNatClampNeg a1.toNatClampNeg = 0) → Q (-1) μ1 := fun μ1 d h => by
    have := hQ μ1 ⟨d.sk hs, d.1, d.2.2.1, fun p _ => by rw [d.2.1], fun p p1 p2 => d.I fun j q => p2 (Or.inl q)⟩
    unfold mSpoon at this
    rw [if_neg h] at this
    exact this ⟨st, ns, nd, kp_C C (fun k hk => sk_s65 hs hk) (fun p p1 p2 => d.I fun j q => by subst q; omega) (by rw [d.2.1])⟩
  unfold p_X0_spoon
  rw [s_isEater hs E0]
  by_cases c1 : inB a0 0 (nI n - 1)
  rotate_left
  · rw [if_neg c1]
    simp only [e00, if_true]
    exact no μ eqD.rf fun h => c1 (by rw [A0] at h; exact h.1.1.1)
  rw [if_pos c1]
  simp only [e10, if_false, s_isKind]
  by_cases c2 : inB a1 0 1
  rotate_left
  · rw [if_neg c2]
    simp only [e00, if_true]
    exact no μ eqD.rf fun h => c2 h.1.1.2
  rw [if_pos c2]
  simp only [e10, if_false, sk_p64_0 hs, sk_p64_1 hs, sk_p64_2 hs, sk_p64_3 hs, sk_p64_4 hs, sk_p64_5 hs, sk_p64_9 hs, sk_p64_10 hs, sk_p64_11 hs, sk_p65_6 hs, sk_p65_7 hs, sk_p65_8 hs, sk_p65_9 hs, sk_p65_10 hs, sk_p65_11 hs, sk_p65_12 hs, sk_p65_13 hs, sk_p65_14 hs, sk_p65_15 hs, sk_k64 hs, sk_n64 hs, sk_k65 hs, sk_n65 hs, sk_k69 hs, sk_n69 hs, cl23, vp23_25, true_and, r5]
  by_cases c3 : ns = 60
  · subst c3
    rw [if_pos (show nI 60 = 60 from rfl)]
    exact no μ eqD.rf fun h => h.1.2 r7
  have c3' : ¬ nI ns = 60 := fun h => c3 ((nI_eq (b := 60) (by omega) (by decide)).mp h)
  rw [if_neg c3']
  obtain ⟨e, he, rfl⟩ := inB_k (by omega) c1
  obtain ⟨k, -, hk, rfl⟩ := inB_nI (lo := 0) (hi := 1) c2 (by decide) (by decide)
  have hee : (nI e).toNatClampNeg = e := nI_clamp (by omega)
  have hkk : (nI k).toNatClampNeg = k := nI_clamp (by omega)
  refine s_spoonOf c R ok he (by omega) (sk_k69 hs) (sk_n69 hs) (by decide) (by decide) fun μ2 d2 => ?_
  have eg : spoonN lv (hunA a) (stoA a) (whA a) (wA a) e k = spA lv a e k := rfl
  rw [eg]
  by_cases c4 : spA lv a e k = 0
  · rw [c4, if_pos (show nI 0 = 0 from rfl)]
    exact no μ2 d2 fun h => h.2 (by rw [hee, hkk]; exact c4)
  obtain ⟨sl1, sl2, sl3⟩ := spoonN_le (lv := lv) (hun := hunA a) (sto := stoA a) (wh := whA a) (w := wA a) (e := e) (kind := k)
  rw [eg] at sl1 sl2 sl3
  obtain ⟨⟨y1, y2⟩, ⟨y3, y4⟩, y5, y6⟩ := x1 e he
  have hw : whA a e < 2 := by
    have : whA a e ≠ 2 := fun h => c4 (sl3 h)
    omega
  have hH := holdsH_le (lv := lv) (hun := hunA a) (w := wA a) y4
  unfold holdsN at sl2
  have pw := x2 (2 * whA a e + k) (by omega)
  have xw := x3 e (by omega)
  have hg0 : ¬ nI (spA lv a e k) = 0 := nI_ne0 (by omega) (by omega)
  rw [if_neg hg0]
  have g2 := d2.sk hs
  simp only [sk_p64_0 g2, sk_p64_1 g2, sk_p64_2 g2, sk_p64_3 g2, sk_p64_4 g2, sk_p64_5 g2, sk_p64_9 g2, sk_p64_10 g2, sk_p64_11 g2, sk_p65_6 g2, sk_p65_7 g2, sk_p65_8 g2, sk_p65_9 g2, sk_p65_10 g2, sk_p65_11 g2, sk_p65_12 g2, sk_p65_13 g2, sk_p65_14 g2, sk_p65_15 g2, sk_k64 g2, sk_n64 g2, sk_k65 g2, sk_n65 g2, true_and]
  have e3' : m_I μ2 65 3 = nI st := (d2.2.2.2 65 3 (by decide)).trans E3
  refine s_keep g2 q3 e3' fun μ3 k3 => ?_
  have C2 : iv_C μ2 65 a n tx st te tl ns nd := kp_C C (fun k hk => sk_s65 hs hk) (fun p p1 p2 => d2.I fun j q => by subst q; omega) (by rw [d2.2.1])
  have C3 := C_keep C2 g2 k3
  have S3 : stepS μ μ3 := stepS.tr (b := μ2) ⟨g2, d2.1, d2.2.2.1, fun p _ => by rw [d2.2.1], fun p p1 p2 => d2.I fun j q => p2 (Or.inl q)⟩ k3.step
  have g3 := k3.1
  have f2 : ∀ p, p ≠ 396 → p ≠ 70 → ¬ (72 ≤ p ∧ p < 102) → ∀ j, ¬ (p = 65 ∧ j = 3) → m_I μ3 p j = m_I μ p j := fun p p1 p2 p3 j pj => (k3.2.2.2.2.1 p p2 p3 j pj).trans (d2.2.2.2 p j p1)
  have e69 : m_I μ3 69 = m_I μ 69 := funext fun j => f2 69 (by decide) (by decide) (by decide) j (by omega)
  have c3x : cxS n (hunA a) (stoA a) lv μ3 := c.step S3 (f2 65 (by decide) (by decide) (by decide) 0 (by decide)) (f2 65 (by decide) (by decide) (by decide) 2 (by decide)) (funext fun j => f2 66 (by decide) (by decide) (by decide) j (by omega)) (funext fun j => f2 67 (by decide) (by decide) (by decide) j (by omega))
  have R3 : rS n (whA a) nd (m_I μ3 69) (wA a) := by rw [e69]; exact R
  have r4 := (R3.2.1 e he).2.1
  have r23 : m_I μ3 69 23 = nI ns := by rw [e69]; exact r5
  have q3' := sk_q103 g3 (p := 103 + ns) (by omega) (by omega)
  have g69 : (69 : Nat) ≠ 103 + ns := by omega
  simp (disch := omega) only [sk_p64_0 g3, sk_p64_1 g3, sk_p64_2 g3, sk_p64_3 g3, sk_p64_4 g3, sk_p64_5 g3, sk_p64_9 g3, sk_p64_10 g3, sk_p64_11 g3, sk_p65_6 g3, sk_p65_7 g3, sk_p65_8 g3, sk_p65_9 g3, sk_p65_10 g3, sk_p65_11 g3, sk_p65_12 g3, sk_p65_13 g3, sk_p65_14 g3, sk_p65_15 g3, sk_k64 g3, sk_n64 g3, sk_k65 g3, sk_n65 g3, sk_k69 g3, sk_n69 g3, sk_k102 g3, sk_n102 g3, r23, sk_r102 g3, q3'.1, q3'.2, li_0, li_1, li_2, li_4, li_23, nI_add, nI_clamp, vp_t, ml_uI, ml_KI, ml_PI, ml_NI, ml_SI, ml_xI, ml_Is, ml_In, ml_us, ml_un, ml_cp, ml_ss, true_and, forall_eq, r4]
  have d4 : eqD (fun p _ => p = 103 + ns) μ3 (m_sI μ3 (103 + ns) (ml_u (ml_u (ml_u (m_I μ3 (103 + ns)) 0 (nI e)) 1 (nI (whA a e))) 2 (nI k))) := eqD.sI fun j hj => absurd rfl hj
  have v0 : m_I (m_sI μ3 (103 + ns) (ml_u (ml_u (ml_u (m_I μ3 (103 + ns)) 0 (nI e)) 1 (nI (whA a e))) 2 (nI k))) (103 + ns) = ml_u (ml_u (ml_u (m_I μ3 (103 + ns)) 0 (nI e)) 1 (nI (whA a e))) 2 (nI k) := ml_Is
  generalize m_sI μ3 (103 + ns) (ml_u (ml_u (ml_u (m_I μ3 (103 + ns)) 0 (nI e)) 1 (nI (whA a e))) 2 (nI k)) = μ4 at d4 v0
  have c4x := c3x.eq d4 fun p j q => Or.inl (by omega)
  have e69' : m_I μ4 69 = m_I μ3 69 := d4.I fun j => by omega
  refine s_eat c4x (by rw [e69']; exact R3) ok he (by omega) (sk_k69 c4x.1) (sk_n69 c4x.1) (by decide) (by decide) fun μ5 d5 R5 => ?_
  have g5 := d5.sk c4x.1
  have q5' := sk_q103 g5 (p := 103 + ns) (by omega) (by omega)
  have cl3' : (3 : Int32).toNatClampNeg = 3 := rfl
  have vp3' : vp_in (3 : Int32) 4 = True := vp_t (n := 3) (by decide) (by decide)
  simp only [q5'.2, cl3', vp3', true_and, forall_eq, ml_uI, ml_NI, ml_Is, ml_us]
  rw [eg]
  have v5 : m_I μ5 (103 + ns) = m_I μ4 (103 + ns) := d5.I fun j => by omega
  -- the end
  have okc : ((inB (nI e) 0 (a 0 - 1) ∧ inB (nI k) 0 1) ∧ ¬ a 132 = 60) ∧ ¬ spA lv a (nI e).toNatClampNeg (nI k).toNatClampNeg = 0 := ⟨⟨⟨by rw [A0]; exact c1, c2⟩, by rw [r7]; exact c3'⟩, by rw [hee, hkk]; exact c4⟩
  unfold mSpoon at hQ
  rw [if_pos okc, hee, hkk, A3, nI_clamp (show st < 2 ^ 31 by omega), x5] at hQ
  have S4 : stepS μ3 μ4 := ⟨c4x.1, d4.1, d4.2.2.1, fun p _ => by rw [d4.2.1], fun p p1 p2 => d4.I fun j q => by omega⟩
  have S5 : stepS μ4 μ5 := ⟨g5, d5.1, d5.2.2.1, fun p _ => by rw [d5.2.1], fun p p1 p2 => d5.I fun j q => by
    rcases q with q | q
    · exact p2 (Or.inl q)
    · omega⟩
  refine hQ _ (((S3.tr S4).tr S5).tr (stepS.sI g5 (Or.inl ⟨by omega, by omega⟩))) ⟨k0 st + 1, ns + 1, nd, ?_⟩
  have ne : ∀ (f : Nat → Int32) p, p ≠ 103 + ns → m_I (m_sI μ5 (103 + ns) f) p = m_I μ5 p := fun f p hp => ml_In hp
  have h30 : ∀ p, 65 ≤ p → p < 228 → p ≠ 69 → p ≠ 103 + ns → m_I μ5 p = m_I μ3 p := fun p p1 p2 p3 p4 => (d5.I fun j => by omega).trans (d4.I fun j => by omega)
  have b2 : nd ≤ 30 := hr.2.2.2.2.2.2.2.2.2.1
  dsimp only
  refine C_row C3 g3 (fun p p1 p2 p3 p4 p5 => by rw [ne _ p (by omega)]; exact h30 p p1 p2 p3 (by omega)) (fun i hi j hj => by rw [ne _ _ (by omega), h30 _ (by omega) (by omega) (by omega) (by omega)]) (fun i hi j hj => by rw [ne _ _ (by omega), h30 _ (by omega) (by omega) (by omega) (by omega)]) (by rw [ml_PI, d5.2.1, d4.2.1]) (by omega) (Nat.le_refl _) ?_ ?_ (fun j hj => ?_)
  · rw [ne _ 69 (by omega)]
    have hr3 := C3.2.2.2.2.2.1
    obtain ⟨p1, p2, p3, p4⟩ := R5
    unfold eatN at p1 p2 p3
    rw [eg, if_neg c4] at p1 p2 p3
    have up : m_I μ5 69 (2 * whA a e + k) = nI ((wA a).1 (2 * whA a e + k) - spA lv a e k) := by
      have := p1 (2 * whA a e + k) (by omega)
      rw [this]
      show nI (if 2 * whA a e + k = 2 * whA a e + k then _ else _) = _
      rw [if_pos rfl]
    have ux : m_I μ5 69 (13 + e) = nI ((wA a).2.1 e + spA lv a e k) := by
      have := (p2 e he).1
      rw [this]
      show nI (if e = e then _ else _) = _
      rw [if_pos rfl]
    have us : m_I μ5 69 23 = nI (ns + 1) := by rw [p3]; show nI ((wA a).2.2 + 1) = _; rw [x5]
    have uo : ∀ j, j < 25 → j ≠ 2 * whA a e + k → j ≠ 13 + e → j ≠ 23 → m_I μ5 69 j = m_I μ3 69 j := by
      intro j hj j1 j2 j3
      by_cases h4 : j < 4
      · rw [p1 j h4, R3.1 j h4]
        show nI (if j = 2 * whA a e + k then _ else _) = _
        rw [if_neg j1]
      · by_cases h13 : 13 ≤ j ∧ j < 13 + n
        · have z := (p2 (j - 13) (by omega)).1
          have z2 := (R3.2.1 (j - 13) (by omega)).1
          rw [show 13 + (j - 13) = j by omega] at z z2
          rw [z, z2]
          show nI (if j - 13 = e then _ else _) = _
          rw [if_neg (by omega)]
        · rw [d5.2.2.2 69 j (by omega), d4.2.2.2 69 j (by omega)]
    have ab : ∀ j, j ≠ 3 → j < 470 → mKeep a st j = a j := fun j j1 j2 => mKeep_lo j1 j2
    refine row_spoon (e := e) (s := whA a e) (k := k) (g := spA lv a e k) (p := (wA a).1 (2 * whA a e + k)) (x := (wA a).2.1 e) hr3 q1 he (by omega) (by omega) hw pw.2 (by omega) ?_ ?_ ?_ ?_ ?_ ?_ (fun j j1 j2 j3 j4 => ?_) up ux us uo
    · unfold iv_sh
      rw [ab _ (by omega) (by omega), show 110 + (13 + e) = 123 + e by omega]; exact xw.1
    · unfold iv_sh mSpU
      rw [ml_un (by omega), ml_un (by omega), ml_un (by omega), ml_un (by omega), ml_un (by omega), ml_un (by omega), show 110 + (2 * whA a e + k) = 110 + 2 * whA a e + k by omega, ml_us]
    · unfold iv_sh mSpU
      rw [ml_un (by omega), ml_un (by omega), ml_un (by omega), ml_un (by omega), ml_un (by omega), show 110 + (13 + e) = 123 + e by omega, ml_us]
    · unfold iv_sh mSpU
      rw [show 110 + 22 = 132 by rfl, ml_us]
    · unfold iv_sh mSpU
      rw [show 110 + (23 + 4 * ns) = 133 + 4 * ns by omega, ml_un (by omega), ml_un (by omega), ml_un (by omega), ml_un (by omega), ml_us]
    · unfold iv_sh mSpU
      rw [show 110 + (23 + 4 * ns + 3) = 133 + 4 * ns + 3 by omega, ml_un (by omega), ml_us]
    · unfold iv_sh mSpU
      rw [ml_un (by omega), ml_un (by omega), ml_un (by omega), ml_un (by omega), ml_un (by omega), ml_un (by omega), ml_un (by omega)]
  · have hrec3 := C3.2.2.2.2.2.2.1
    refine ⟨fun i hi j hj => ?_, fun i hi j hj => ?_⟩
    · by_cases ei : i = ns
      · subst ei
        show m_I (m_sI μ5 (103 + i) _) (103 + i) j = _
        rw [ml_Is, v5, v0]
        unfold iv_sh mSpU
        have : j = 0 ∨ j = 1 ∨ j = 2 ∨ j = 3 := by omega
        rcases this with rfl | rfl | rfl | rfl
        · rw [ml_un (by decide), ml_un (by decide), ml_un (by decide), ml_us, ml_un (by omega), ml_un (by omega), ml_un (by omega), ml_un (by omega), show 110 + (23 + 4 * i + 0) = 133 + 4 * i by omega, ml_us]
        · rw [ml_un (by decide), ml_un (by decide), ml_us, ml_un (by omega), ml_un (by omega), ml_un (by omega), show 110 + (23 + 4 * i + 1) = 133 + 4 * i + 1 by omega, ml_us]
        · rw [ml_un (by decide), ml_us, ml_un (by omega), ml_un (by omega), show 110 + (23 + 4 * i + 2) = 133 + 4 * i + 2 by omega, ml_us]
        · rw [ml_us, ml_un (by omega), show 110 + (23 + 4 * i + 3) = 133 + 4 * i + 3 by omega, ml_us]
      · show m_I (m_sI μ5 (103 + ns) _) (103 + i) j = _
        rw [ne _ _ (by omega), h30 _ (by omega) (by omega) (by omega) (by omega)]
        unfold iv_sh mSpU
        rw [ml_un (by omega), ml_un (by omega), ml_un (by omega), ml_un (by omega), ml_un (by omega), ml_un (by omega), ml_un (by omega)]
        exact hrec3.1 i (by omega) j hj
    · show m_I (m_sI μ5 (103 + ns) _) (164 + i) j = _
      rw [ne _ _ (by omega), h30 _ (by omega) (by omega) (by omega) (by omega)]
      unfold iv_sh mSpU
      rw [ml_un (by omega), ml_un (by omega), ml_un (by omega), ml_un (by omega), ml_un (by omega), ml_un (by omega), ml_un (by omega)]
      exact hrec3.2 i hi j hj
  · unfold mSpU
    rw [ml_un (by omega), ml_un (by omega), ml_un (by omega), ml_un (by omega), ml_un (by omega), ml_un (by omega), ml_un (by omega)]
