/-! plain law: who is guilty; what the invariant says of the world; of -/
def tlW (w : WW) : Int32 := nI (w.1 0) + nI (w.1 1) - nI (w.1 2) - nI (w.1 3)
def nmG (w : WW) (side nd : Nat) : Nat → Int32 := fun j => if j = 7 then nI side else if j = 8 then tlW w else if j = 9 then nI (w.1 (2 * side)) else if j = 10 then nI (w.1 (2 * side + 1)) else nI nd
def guB (lv : LV) (w : WW) (nd side : Nat) : Bool := match lv.2.2 with
  | none => if side = 0 then decide (tlW w < 0) else decide (0 < tlW w)
  | some F => F (nmG w side nd)
section G
variable {n : Nat} {hun sto wh : Nat → Nat} {lv : LV} {nd : Nat} {μ ν : fw_M} {r1 : Nat} {w : WW} {side : Nat}
theorem s_tiltOf (R : rS n wh nd (m_I μ r1) w) (k1 : m_K μ r1 = 100) (n1 : m_N μ r1 = 25) {Q : Int32 → fw_M → Prop} : p_X0_tiltOf r1 μ Q = Q (tlW w) μ := by
  unfold p_X0_tiltOf tlW
  simp (disch := omega) only [k1, n1, li_0, li_1, li_2, li_3, nI_clamp, vp_t, true_and, R.1 0 (by decide), R.1 1 (by decide), R.1 2 (by decide), R.1 3 (by decide)]
theorem m_tilt (gs : sk_m ν) (R : rM n ν w) {Q : Int32 → fw_M → Prop} : p_X5_tilt 411 ν Q = Q (tlW w) ν := by
  unfold p_X5_tilt tlW
  simp (disch := omega) only [sk_p411_0 gs, sk_p411_1 gs, sk_p411_2 gs, sk_p411_6 gs, sk_p411_7 gs, sk_p411_8 gs, sk_p411_9 gs, sk_p411_10 gs, sk_p411_11 gs, sk_p411_12 gs, sk_p411_22 gs, sk_p411_23 gs, sk_p411_25 gs, sk_p411_26 gs, sk_p411_30 gs, sk_p411_31 gs, sk_p411_32 gs, sk_p411_33 gs, sk_p411_35 gs, sk_p411_36 gs, sk_p411_37 gs, sk_p411_38 gs, sk_p411_39 gs, sk_p411_40 gs, sk_p411_42 gs, sk_p411_43 gs, sk_p411_44 gs, sk_p411_45 gs, sk_p411_46 gs, sk_k411 gs, sk_n411 gs, sk_k434 gs, sk_n434 gs, li_0, li_1, li_2, li_3, nI_clamp, vp_t, true_and, R.1 0 (by decide), R.1 1 (by decide), R.1 2 (by decide), R.1 3 (by decide)]
theorem gu_none {t : Int32} {side : Nat} (hs : side < 2) {A : Int32 → Prop} (h : A (if (if side = 0 then decide (t < 0) else decide (0 < t)) = true then 1 else 0)) : (if nI side = 0 then (if 0 ≤ t then A 0 else A 1) else (if t ≤ 0 then A 0 else A 1)) := by
  have z : (0 : Int32).toInt = 0 := by decide
  by_cases c : side = 0
  · subst c
    rw [if_pos rfl] at h
    rw [if_pos (show nI 0 = 0 from rfl)]
    by_cases d : t < 0
    · rw [decide_eq_true d, if_pos rfl] at h
      rw [if_neg (by rw [Int32.le_iff_toInt_le, z]; rw [Int32.lt_iff_toInt_lt, z] at d; omega)]
      exact h
    · rw [decide_eq_false d, if_neg (by decide)] at h
      rw [if_pos (by rw [Int32.le_iff_toInt_le, z]; rw [Int32.lt_iff_toInt_lt, z] at d; omega)]
      exact h
  · rw [if_neg c] at h
    rw [if_neg (nI_ne0 (by omega) (by omega))]
    by_cases d : 0 < t
    · rw [decide_eq_true d, if_pos rfl] at h
      rw [if_neg (by rw [Int32.le_iff_toInt_le, z]; rw [Int32.lt_iff_toInt_lt, z] at d; omega)]
      exact h
    · rw [decide_eq_false d, if_neg (by decide)] at h
      rw [if_pos (by rw [Int32.le_iff_toInt_le, z]; rw [Int32.lt_iff_toInt_lt, z] at d; omega)]
      exact h
theorem nm5 {f : Nat → Int32} {a b c d e : Int32} : ∀ k, 7 ≤ k → k < 12 → ml_u (ml_u (ml_u (ml_u (ml_u f 7 a) 8 b) 9 c) 10 d) 11 e k = if k = 7 then a else if k = 8 then b else if k = 9 then c else if k = 10 then d else e := by
  intro k h1 h2
  have : k = 7 ∨ k = 8 ∨ k = 9 ∨ k = 10 ∨ k = 11 := by omega
  rcases this with rfl | rfl | rfl | rfl | rfl <;> rfl
theorem s_isGuilty (c : cxS n hun sto lv μ) (R : rS n wh nd (m_I μ r1) w) (hk : side < 2) (k1 : m_K μ r1 = 100) (n1 : m_N μ r1 = 25) (hr : 69 ≤ r1 ∧ r1 < 441) (hr2 : r1 ≠ 396) {Q : Int32 → fw_M → Prop} (hQ : ∀ μ', eqD (fun p _ => p = 396) μ μ' → Q (if guB lv w nd side = true then 1 else 0) μ') : p_X0_isGuilty 64 r1 (nI side) μ Q := by
  obtain ⟨hs, h9, -, hE, ⟨l, sp, a1, a2, a3, a4, a5, a6, a7, a8, a9, a10⟩, hd⟩ := id c
  unfold p_X0_isGuilty
  rw [s_tiltOf R k1 n1]
  rw [s_law hs a1]
  refine ⟨a4, ?_⟩
  cases hF : lv.2.2 with
  | none =>
    rw [hF] at a10
    rw [if_pos (show m_P μ l 1 = 0 from a10)]
    have := hQ μ eqD.rf
    unfold guB at this
    rw [hF] at this
    exact gu_none (A := fun v => Q v μ) hk this
  | some F =>
    rw [hF] at a10
    obtain ⟨d, d1, d2⟩ := a10
    have : 441 ≤ m_P μ l 1 := d2.1
    rw [if_neg (by omega)]
    have r0 := R.1 (2 * side) (by omega)
    have r1' := R.1 (2 * side + 1) (by omega)
    have z0 : 0 + 2 * side = 2 * side := by omega
    simp (disch := omega) only [sk_p64_0 hs, sk_p64_1 hs, sk_p64_2 hs, sk_p64_3 hs, sk_p64_4 hs, sk_p64_5 hs, sk_p64_9 hs, sk_p64_10 hs, sk_p64_11 hs, sk_p395_0 hs, sk_k64 hs, sk_n64 hs, sk_k395 hs, sk_n395 hs, sk_k396 hs, sk_n396 hs, k1, n1, ml_uI, ml_KI, ml_PI, ml_NI, ml_SI, ml_xI, ml_Is, ml_In, ml_us, ml_un, ml_cp, ml_ss, li_7, li_8, li_9, li_10, li_11, li_0, li_2, li_1, li_24, pk_mul, nI_add, nI_clamp, vp_t, true_and, forall_eq, z0, r0, r1', R.2.2.2]
    have dd : eqD (fun p _ => p = 396) μ (m_sI μ 396 (ml_u (ml_u (ml_u (ml_u (ml_u (m_I μ 396) 7 (nI side)) 8 (tlW w)) 9 (nI (w.1 (2 * side)))) 10 (nI (w.1 (2 * side + 1)))) 11 (nI nd))) := eqD.sI fun j hj => absurd rfl hj
    have nm : ∀ k, 7 ≤ k → k < 12 → m_I (m_sI μ 396 (ml_u (ml_u (ml_u (ml_u (ml_u (m_I μ 396) 7 (nI side)) 8 (tlW w)) 9 (nI (w.1 (2 * side)))) 10 (nI (w.1 (2 * side + 1)))) 11 (nI nd))) 396 k = nmG w side nd k := by
      intro k k1 k2
      rw [ml_Is, nm5 k k1 k2]
      rfl
    generalize m_sI μ 396 (ml_u (ml_u (ml_u (ml_u (ml_u (m_I μ 396) 7 (nI side)) 8 (tlW w)) 9 (nI (w.1 (2 * side)))) 10 (nI (w.1 (2 * side + 1)))) 11 (nI nd)) = ν at dd nm
    have gs := dd.sk hs
    rw [s_law gs (by rw [dd.2.1, dd.2.2.2 65 2 (by decide)]; exact a1)]
    refine ⟨by rw [dd.K]; exact a4, ?_⟩
    rw [dd.2.1, sk_p64_4 hs]
    have gx := dd.ext hs fun p j q => by subst q; decide
    have := hQ ν dd
    unfold guB at this
    rw [hF] at this
    have ef : F (m_I ν 396) = F (nmG w side nd) := hd.2.2 F hF _ _ nm
    refine ⟨d, d1, d2.2.2.2.2 ν gx d (Nat.le_refl _) _ ?_⟩
    rw [ef]
    refine ⟨?_, this⟩
    by_cases q : F (nmG w side nd) = true
    · rw [if_pos q]; exact Or.inr rfl
    · rw [if_neg q]; exact Or.inl rfl
theorem m_isGuilty (c : cxM n hun sto wh nd lv ν) (R : rM n ν w) (hk : side < 2) {Q : Int32 → fw_M → Prop} (hQ : ∀ ν', eqD (fun p _ => p = 432) ν ν' → Q (if guB lv w nd side = true then 1 else 0) ν') : p_X5_isGuilty 411 (nI side) ν Q := by
  obtain ⟨gs, h9, -, hE, hnd, hl, hd⟩ := id c
  unfold p_X5_isGuilty
  refine m_ordersOf gs (hl 2 (by decide)) (fun h0 => ?_) (fun F fr os h1 hfr hat hsy => ?_)
  · have hF : lv.2.2 = none := by
      cases hq : lv.2.2 with
      | none => rfl
      | some F => unfold lvQ at h0; rw [if_neg (by decide), if_neg (by decide), hq] at h0; cases h0
    rw [m_tilt gs R]
    rw [if_pos rfl]
    have := hQ ν eqD.rf
    unfold guB at this
    rw [hF] at this
    exact gu_none (A := fun v => Q v ν) hk this
  · obtain ⟨G, hG, rfl⟩ : ∃ G, lv.2.2 = some G ∧ F = fun v => if G v = true then 1 else 0 := by
      unfold lvQ at h1
      rw [if_neg (by decide), if_neg (by decide)] at h1
      cases hq : lv.2.2 with
      | none => rw [hq] at h1; cases h1
      | some G => rw [hq] at h1; exact ⟨G, rfl, (Option.some.inj h1).symm⟩
    rw [m_tilt gs R]
    have nt : ¬ nI fr = -1 := nI_nm1 (by omega)
    rw [if_neg nt]
    have r0 := R.1 (2 * side) (by omega)
    have r1' := R.1 (2 * side + 1) (by omega)
    simp (disch := omega) only [sk_p411_0 gs, sk_p411_1 gs, sk_p411_2 gs, sk_p411_6 gs, sk_p411_7 gs, sk_p411_8 gs, sk_p411_9 gs, sk_p411_10 gs, sk_p411_11 gs, sk_p411_12 gs, sk_p411_22 gs, sk_p411_23 gs, sk_p411_25 gs, sk_p411_26 gs, sk_p411_30 gs, sk_p411_31 gs, sk_p411_32 gs, sk_p411_33 gs, sk_p411_35 gs, sk_p411_36 gs, sk_p411_37 gs, sk_p411_38 gs, sk_p411_39 gs, sk_p411_40 gs, sk_p411_42 gs, sk_p411_43 gs, sk_p411_44 gs, sk_p411_45 gs, sk_p411_46 gs, sk_k411 gs, sk_n411 gs, sk_k412 gs, sk_n412 gs, sk_k432 gs, sk_n432 gs, sk_k434 gs, sk_n434 gs, ml_uI, ml_KI, ml_PI, ml_NI, ml_SI, ml_xI, ml_Is, ml_In, ml_us, ml_un, ml_cp, ml_ss, li_7, li_8, li_9, li_10, li_11, li_2, li_1, li_373, pk_mul, nI_add, nI_clamp, vp_t, true_and, forall_eq, r0, r1', hnd]
    have dd : eqD (fun p _ => p = 432) ν (m_sI ν 432 (ml_u (ml_u (ml_u (ml_u (ml_u (m_I ν 432) 7 (nI side)) 8 (tlW w)) 9 (nI (w.1 (2 * side)))) 10 (nI (w.1 (2 * side + 1)))) 11 (nI nd))) := eqD.sI fun j hj => absurd rfl hj
    have nm : ∀ k, 7 ≤ k → k < 12 → m_I (m_sI ν 432 (ml_u (ml_u (ml_u (ml_u (ml_u (m_I ν 432) 7 (nI side)) 8 (tlW w)) 9 (nI (w.1 (2 * side)))) 10 (nI (w.1 (2 * side + 1)))) 11 (nI nd))) 432 k = nmG w side nd k := by
      intro k k1 k2
      rw [ml_Is, nm5 k k1 k2]
      rfl
    generalize m_sI ν 432 (ml_u (ml_u (ml_u (ml_u (ml_u (m_I ν 432) 7 (nI side)) 8 (tlW w)) 9 (nI (w.1 (2 * side)))) 10 (nI (w.1 (2 * side + 1)))) 11 (nI nd)) = ν2 at dd nm
    have i20 : m_I ν2 420 = m_I ν 420 := dd.I fun j => by decide
    have i21 : m_I ν2 421 = m_I ν 421 := dd.I fun j => by decide
    refine m_saysOf (dd.sk gs) (by rw [i20, i21]; exact hat) hsy fun f => ?_
    have ef : G (m_I ν2 432) = G (nmG w side nd) := hd.2.2 G hG _ _ nm
    rw [ef]
    have := hQ (m_sL ν2 433 f) (dd.tr eqD.sL)
    unfold guB at this
    rw [hG] at this
    dsimp only at this
    by_cases q : G (nmG w side nd) = true
    · rw [if_pos q] at this ⊢
      rw [if_pos (by decide)]
      exact this
    · rw [if_neg q] at this ⊢
      rw [if_neg (by decide)]
      exact this
end G
def hunA (a : Nat → Int32) (e : Nat) : Nat := (a (10 + 3 * e)).toNatClampNeg
def stoA (a : Nat → Int32) (e : Nat) : Nat := (a (11 + 3 * e)).toNatClampNeg
def whA (a : Nat → Int32) (e : Nat) : Nat := (a (114 + e)).toNatClampNeg
def wA (a : Nat → Int32) : WW := (fun k => (a (110 + k)).toNatClampNeg, fun e => (a (123 + e)).toNatClampNeg, (a 132).toNatClampNeg)
theorem cl_of {x : Int32} {k : Nat} (hk : k < 2 ^ 31) (h : x = nI k) : x = nI x.toNatClampNeg ∧ x.toNatClampNeg = k := by
  subst h
  rw [nI_clamp hk]
  exact ⟨rfl, rfl⟩
theorem cx_a {μ : fw_M} {a : Nat → Int32} {n tx st te tl ns nd : Nat} (C : iv_C μ 65 a n tx st te tl ns nd) : (∀ e, e < n → (a (10 + 3 * e) = nI (hunA a e) ∧ hunA a e ≤ 9) ∧ (a (11 + 3 * e) = nI (stoA a e) ∧ stoA a e ≤ 9) ∧ a (114 + e) = nI (whA a e) ∧ whA a e ≤ 2) ∧
    (∀ k, k < 4 → a (110 + k) = nI ((wA a).1 k) ∧ (wA a).1 k ≤ 999) ∧ (∀ e, e < 9 → a (123 + e) = nI ((wA a).2.1 e) ∧ (wA a).2.1 e ≤ 9999) ∧ a 132 = nI (wA a).2.2 ∧ (wA a).2.2 = ns := by
  obtain ⟨⟨q1, q2, q3, q4, q5⟩, -, -, -, hH, hr, -⟩ := C
  obtain ⟨r1, r2, r3, r4, r5, r6, r7, r8, r9, r10, r11, r12, r13, r14, r15⟩ := hr
  refine ⟨fun e he => ?_, fun k hk => ?_, fun e he => ?_, ?_⟩
  · obtain ⟨h1, h2, h3, ⟨x, x1, x2⟩, ⟨y, y0, y1, y2⟩, -⟩ := hH e he
    obtain ⟨s, s1, s2⟩ := r12 e he
    have s2 : a (114 + e) = nI s := by
      unfold iv_sh at s2
      rw [show 110 + (4 + e) = 114 + e by omega] at s2
      exact s2
    have u1 := cl_of (by omega) (h1.symm.trans x2)
    have u2 := cl_of (by omega) (h2.symm.trans y2)
    have u3 := cl_of (by omega) s2
    unfold hunA stoA whA
    exact ⟨⟨u1.1, by omega⟩, ⟨u2.1, by omega⟩, u3.1, by omega⟩
  · obtain ⟨g, g1, g2⟩ := r11 k hk
    have u := cl_of (by omega) (show a (110 + k) = nI g from g2)
    exact ⟨u.1, by show (a (110 + k)).toNatClampNeg ≤ 999; omega⟩
  · obtain ⟨g, g1, g2⟩ := r13 e he
    have g2 : a (123 + e) = nI g := by
      unfold iv_sh at g2
      rw [show 110 + (13 + e) = 123 + e by omega] at g2
      exact g2
    have u := cl_of (by omega) g2
    exact ⟨u.1, by show (a (123 + e)).toNatClampNeg ≤ 9999; omega⟩
  · have u := cl_of (by omega) (show a 132 = nI ns from r7)
    exact ⟨u.1, u.2⟩
theorem cxS_of {μ : fw_M} {a : Nat → Int32} {n tx st te tl ns nd : Nat} {lv : LV} (hs : sk_m μ) (C : iv_C μ 65 a n tx st te tl ns nd) (h1 : lvS μ lv) (h2 : lvD lv) : cxS n (hunA a) (stoA a) lv μ ∧ rS n (whA a) nd (m_I μ 69) (wA a) ∧ okW n (wA a) := by
  obtain ⟨x1, x2, x3, x4, x5⟩ := cx_a C
  obtain ⟨⟨q1, q2, q3, q4, q5⟩, ⟨E0, -⟩, -, -, hH, hr, -⟩ := C
  obtain ⟨r1, r2, r3, r4, r5, r6, r7, r8, r9, r10, r11, r12, r13, r14, r15⟩ := hr
  refine ⟨⟨hs, q1, E0, fun e he => ?_, h1, h2⟩, ⟨fun k hk => ?_, fun e he => ?_, ?_, r6⟩, fun k hk => (x2 k hk).2, fun e he => (x3 e (by omega)).2⟩
  · obtain ⟨⟨y1, y2⟩, ⟨y3, y4⟩, -⟩ := x1 e he
    obtain ⟨z1, z2, -⟩ := hH e he
    exact ⟨⟨z1.trans y1, y2⟩, z2.trans y3, y4⟩
  · exact (r1 k hk).trans (x2 k hk).1
  · obtain ⟨z1, z2⟩ := r2 e he
    obtain ⟨-, -, y1, y2⟩ := x1 e he
    unfold iv_sh at z1 z2
    rw [show 110 + (4 + e) = 114 + e by omega] at z1
    rw [show 110 + (13 + e) = 123 + e by omega] at z2
    exact ⟨z2.trans (x3 e (by omega)).1, z1.trans y1, y2⟩
  · rw [x5]; exact r5
theorem cxM_of {μ ν : fw_M} {a : Nat → Int32} {n tx st te tl ns nd : Nat} {lv : LV} (gs : sk_m ν) (w : m_I ν 412 = a) (C : iv_C μ 65 a n tx st te tl ns nd) (h1 : lvM ν lv) (h2 : lvD lv) : cxM n (hunA a) (stoA a) (whA a) nd lv ν := by
  obtain ⟨x1, x2, x3, x4, x5⟩ := cx_a C
  obtain ⟨⟨q1, q2, q3, q4, q5⟩, -, ⟨A0, -⟩, -, -, hr, -⟩ := C
  subst w
  exact ⟨gs, q1, A0, x1, hr.2.2.2.2.2.2.2.1, h1, h2⟩
theorem m_laysA {μ ν : fw_M} {a : Nat → Int32} {n tx st te tl ns nd : Nat} (gs : sk_m ν) (w : m_I ν 412 = a) (C : iv_C μ 65 a n tx st te tl ns nd) {Q : fw_M → Prop} (hQ : ∀ ν', eqD (fun p j => p = 434 ∨ p = 435 ∨ (p = 411 ∧ j = 41)) ν ν' → rM n ν' (wA a) → Q ν') : p_X5_laysWorld 411 ν Q := by
  obtain ⟨x1, x2, x3, x4, x5⟩ := cx_a C
  subst w
  exact m_laysWorld gs (fun k hk => (x2 k hk).1) (fun e he => (x3 e he).1) x4 C.1.1 hQ
theorem lv_of {L : Nat} {xs : Nat → Int32} {z : Nat → Nat} {μ : fw_M} (hI : iv_inv L xs z μ) : ∃ lv : LV, lvS μ lv ∧ lvM μ lv ∧ lvD lv := by
  obtain ⟨hs, -, -, n, tx, st, te, tl, ns, nd, n', tx', st', te', tl', ns', nd', tp, C, -, hT, -⟩ := hI
  obtain ⟨⟨q1, q2, q3, q4, q5⟩, ⟨E0, E1, E2, E3, E4, E5⟩, -, hA2, -⟩ := C
  rcases hA2 with e | ⟨t, t1, e⟩
  · refine ⟨(none, none, none), ⟨392, 393, Or.inl ⟨E2.trans e, rfl⟩, Or.inl rfl, Or.inl rfl, sk_k392 hs, sk_p392_0 hs, sk_k393 hs, sk_n393 hs, sk_p393_0 hs, sk_p393_1 hs, sk_p392_1 hs⟩, fun q hq => Or.inl ⟨e, ?_⟩, ?_⟩
    · unfold lvQ
      split
      · rfl
      · split <;> rfl
    · exact ⟨(fun F h => by cases h), (fun F h => by cases h), (fun F h => by cases h)⟩
  · obtain ⟨l, sp, lp, cl, h1, h2, h3, h4, h5, h6, h7, h8, h9, h10, h11, h12, h13, h14, h15, hsm, hg, hl⟩ := hT t (Or.inl t1)
    have each : ∀ q, q < 2 → ∃ o, loS μ (m_P μ sp q) o ∧ loM μ t cl q o ∧ ∀ F, o = some F → iv_dep F 0 (if q = 0 then 8 else 4) := by
      intro q hq
      rcases hsm q hq with ⟨s1, s2⟩ | ⟨k, fr, d, os, F, f1, f2, f3, f4, f5, f6, f7, f8, f9, f10, f11⟩
      · exact ⟨none, s1, s2, fun F h => by cases h⟩
      · exact ⟨some F, ⟨d, f10, f11⟩, ⟨k, fr, os, f1, f2, f3, f4, f7, f8⟩, fun G h => by cases h; exact f9⟩
    obtain ⟨o0, a1, a2, a3⟩ := each 0 (by decide)
    obtain ⟨o1, b1, b2, b3⟩ := each 1 (by decide)
    obtain ⟨o2, c1, c2, c3⟩ : ∃ o, laS μ (m_P μ l 1) o ∧ loM μ t cl 2 (o.map fun F v => if F v = true then 1 else 0) ∧ ∀ F, o = some F → iv_dep F 7 12 := by
      rcases hg with ⟨s1, s2⟩ | ⟨k, fr, d, os, F, f1, f2, f3, f4, f5, f6, f7, f8, f9, f10, f11⟩
      · exact ⟨none, s1, s2, fun F h => by cases h⟩
      · exact ⟨some F, ⟨d, f10, f11⟩, ⟨k, fr, os, f1, f2, f3, f4, f7, f8⟩, fun G h => by cases h; exact f9⟩
    refine ⟨(o0, o1, o2), ⟨l, sp, Or.inr ⟨t, by omega, E2.trans e, h1⟩, Or.inr ⟨h2, h3⟩, Or.inr ⟨h6, h7⟩, ml_KS h4, h5, ml_KS h8, ml_NS h8, a1, b1, c1⟩, fun q hq => Or.inr ⟨t, cl, by omega, h13, e, h15, ?_⟩, a3, b3, c3⟩
    have : q = 0 ∨ q = 1 ∨ q = 2 := by omega
    rcases this with rfl | rfl | rfl
    · exact a2
    · exact b2
    · exact c2
theorem op_of (a0 a1 : Int32) : iv_op2 (α := Int32) (fun μ Q => p_X0_of 64 a0 a1 μ Q) (fun μ Q => p_X5_of 411 a0 a1 μ Q) := by
  refine op_q fun L xs z μ hI => ?_
  obtain ⟨lv, l1, l2, l3⟩ := lv_of hI
  obtain ⟨hs, -, -, n, tx, st, te, tl, ns, nd, n', tx', st', te', tl', ns', nd', tp, C, -⟩ := id hI
  obtain ⟨c, R, ok⟩ := cxS_of hs C l1 l3
  obtain ⟨x1, x2, x3, x4, x5⟩ := cx_a C
  obtain ⟨⟨q1, q2, q3, q4, q5⟩, ⟨E0, E1, E2, E3, E4, E5⟩, ⟨A0, A1, A3, A4, A5⟩, hA2, hH, hr, -⟩ := id C
  by_cases g : inB a0 0 (nI n - 1)
  rotate_left
  · refine ⟨-2, fun Q hQ => ?_, fun μ1 h1 hI1 Q hQ => ?_⟩
    · simp only [p_X0_of, p_X0_isEater, s_in, sk_p64_0 hs, sk_p64_1 hs, sk_p64_2 hs, sk_p64_3 hs, sk_p64_4 hs, sk_p64_5 hs, sk_p64_9 hs, sk_p64_10 hs, sk_p64_11 hs, sk_p65_6 hs, sk_p65_7 hs, sk_p65_8 hs, sk_p65_9 hs, sk_p65_10 hs, sk_p65_11 hs, sk_p65_12 hs, sk_p65_13 hs, sk_p65_14 hs, sk_p65_15 hs, sk_k64 hs, sk_n64 hs, sk_k65 hs, sk_n65 hs, true_and, E0, if_neg g, e00, if_true, true_or]
      exact hQ μ qs.rf
    · have gs := h1.sk hs
      have A0' : m_I μ1 412 0 = nI n := by rw [h1.I (by have := hs.2.1; omega) (by decide) (by decide) (by unfold sc_p; decide)]; exact A0
      simp only [p_X5_of, p_X5_isEater, m_in, sk_p411_0 gs, sk_p411_1 gs, sk_p411_2 gs, sk_p411_6 gs, sk_p411_7 gs, sk_p411_8 gs, sk_p411_9 gs, sk_p411_10 gs, sk_p411_11 gs, sk_p411_12 gs, sk_p411_22 gs, sk_p411_23 gs, sk_p411_25 gs, sk_p411_26 gs, sk_p411_30 gs, sk_p411_31 gs, sk_p411_32 gs, sk_p411_33 gs, sk_p411_35 gs, sk_p411_36 gs, sk_p411_37 gs, sk_p411_38 gs, sk_p411_39 gs, sk_p411_40 gs, sk_p411_42 gs, sk_p411_43 gs, sk_p411_44 gs, sk_p411_45 gs, sk_p411_46 gs, sk_k411 gs, sk_n411 gs, sk_k412 gs, sk_n412 gs, cl0, vp0_11120, true_and, A0', if_neg g, e00, if_true, true_or]
      exact hQ μ1 qs.rf
  obtain ⟨e, he, rfl⟩ := inB_k (by omega) g
  obtain ⟨z1, z2, z3, -⟩ := hH e he
  obtain ⟨w1, w2⟩ := hr.2.1 e he
  unfold iv_sh at w1 w2
  rw [show 110 + (4 + e) = 114 + e by omega] at w1
  rw [show 110 + (13 + e) = 123 + e by omega] at w2
  have sx : ∀ a1, p_X0_of 64 (nI e) a1 μ = fun Q => p_X0_of 64 (nI e) a1 μ Q := fun _ => rfl
  have hS : ∀ (v : Int32), (∀ Q : Int32 → fw_M → Prop, (∀ μ1, eqD (fun p _ => p = 396) μ μ1 → Q v μ1) → p_X0_of 64 (nI e) a1 μ Q) → (∀ μ1, sk_m μ1 → m_I μ1 412 = m_I μ 412 → cxM n (hunA (m_I μ 412)) (stoA (m_I μ 412)) (whA (m_I μ 412)) nd lv μ1 → rM n μ1 (wA (m_I μ 412)) → ∀ Q : Int32 → fw_M → Prop, (∀ μ2, eqD (fun p _ => p = 432) μ1 μ2 → Q v μ2) →
      (if a1 = 0 then ((m_K μ1 (m_P μ1 411 0) = 100 ∧ (vp_in ((10 : Int32) + ((3 : Int32) * nI e)) (m_N μ1 (m_P μ1 411 0)) ∧ Q (m_I μ1 (m_P μ1 411 0) ((10 : Int32) + ((3 : Int32) * nI e)).toNatClampNeg) μ1)))
       else (if a1 = 1 then ((m_K μ1 (m_P μ1 411 0) = 100 ∧ (vp_in (((10 : Int32) + ((3 : Int32) * nI e)) + (1 : Int32)) (m_N μ1 (m_P μ1 411 0)) ∧ Q (m_I μ1 (m_P μ1 411 0) (((10 : Int32) + ((3 : Int32) * nI e)) + (1 : Int32)).toNatClampNeg) μ1)))
       else (if a1 = 2 then ((m_K μ1 (m_P μ1 411 0) = 100 ∧ (vp_in (((10 : Int32) + ((3 : Int32) * nI e)) + (2 : Int32)) (m_N μ1 (m_P μ1 411 0)) ∧ Q (m_I μ1 (m_P μ1 411 0) (((10 : Int32) + ((3 : Int32) * nI e)) + (2 : Int32)).toNatClampNeg) μ1)))
       else (if a1 = 3 then ((m_K μ1 (m_P μ1 411 0) = 100 ∧ (vp_in ((114 : Int32) + nI e) (m_N μ1 (m_P μ1 411 0)) ∧ Q (m_I μ1 (m_P μ1 411 0) ((114 : Int32) + nI e).toNatClampNeg) μ1)))
       else (if a1 = 4 then ((m_K μ1 (m_P μ1 411 0) = 100 ∧ (vp_in ((123 : Int32) + nI e) (m_N μ1 (m_P μ1 411 0)) ∧ Q (m_I μ1 (m_P μ1 411 0) ((123 : Int32) + nI e).toNatClampNeg) μ1)))
       else (if a1 = 5 then (p_X5_stillHolds 411 (nI e) μ1 Q)
       else (if a1 = 6 then (p_X5_spoonOf 411 (nI e) (0 : Int32) μ1 Q)
       else (if a1 = 7 then (p_X5_spoonOf 411 (nI e) (1 : Int32) μ1 Q)
       else Q (-2 : Int32) μ1))))))))) →
      ∃ v : Int32, (∀ Q : Int32 → fw_M → Prop, (∀ μ1, qs μ μ1 → Q v μ1) → p_X0_of 64 (nI e) a1 μ Q) ∧ ∀ μ1, qs μ μ1 → iv_inv L xs z μ1 → ∀ Q : Int32 → fw_M → Prop, (∀ μ2, qs μ1 μ2 → Q v μ2) → p_X5_of 411 (nI e) a1 μ1 Q := by
    intro v ha hb
    refine ⟨v, fun Q hQ => ha Q fun μ1 d => hQ μ1 (d.qs fun p j q => Or.inl (by unfold sc_p; omega)), fun μ1 h1 hI1 Q hQ => ?_⟩
    have gs := h1.sk hs
    have w := h1.I (p := 412) (by have := hs.2.1; omega) (by decide) (by decide) (by unfold sc_p; decide)
    have A0' : m_I μ1 412 0 = nI n := by rw [w]; exact A0
    have c1 := cxM_of gs w C (fun q hq => (l2 q hq).eq (by rw [w]) fun p p1 p2 => h1.I (by have := hs.2.1; omega) (by omega) (by omega) (by unfold sc_p; omega)) l3
    unfold p_X5_of
    simp only [p_X5_isEater, m_in, sk_p411_0 gs, sk_p411_1 gs, sk_p411_2 gs, sk_p411_6 gs, sk_p411_7 gs, sk_p411_8 gs, sk_p411_9 gs, sk_p411_10 gs, sk_p411_11 gs, sk_p411_12 gs, sk_p411_22 gs, sk_p411_23 gs, sk_p411_25 gs, sk_p411_26 gs, sk_p411_30 gs, sk_p411_31 gs, sk_p411_32 gs, sk_p411_33 gs, sk_p411_35 gs, sk_p411_36 gs, sk_p411_37 gs, sk_p411_38 gs, sk_p411_39 gs, sk_p411_40 gs, sk_p411_42 gs, sk_p411_43 gs, sk_p411_44 gs, sk_p411_45 gs, sk_p411_46 gs, sk_k411 gs, sk_n411 gs, sk_k412 gs, sk_n412 gs, cl0, vp0_11120, true_and, A0', if_pos g, e10, if_false, or_true]
    refine m_laysA gs w C fun μ2 d R2 => ?_
    have := hb μ2 (d.sk gs) ((d.I fun j => by omega).trans w) (c1.eq d fun p j q => by omega) R2 Q fun μ3 d3 => hQ μ3 ((d.qs fun p j q => by unfold sc_p; omega).tr (d3.qs fun p j q => Or.inl (by unfold sc_p; omega)))
    exact this
  have ea : ∀ Q : Int32 → fw_M → Prop, p_X0_of 64 (nI e) a1 μ Q = (if a1 = 0 then Q (m_I μ 66 e) μ else if a1 = 1 then Q (m_I μ 67 e) μ else if a1 = 2 then Q (m_I μ 68 e) μ else if a1 = 3 then Q (m_I μ 69 (4 + e)) μ else if a1 = 4 then Q (m_I μ 69 (13 + e)) μ else if a1 = 5 then p_X0_holds 64 69 (nI e) μ Q else if a1 = 6 then p_X0_spoonOf 64 69 (nI e) 0 μ Q else if a1 = 7 then p_X0_spoonOf 64 69 (nI e) 1 μ Q else Q (-2) μ) := by
    intro Q
    unfold p_X0_of
    simp only [p_X0_isEater, s_in, sk_p64_0 hs, sk_p64_1 hs, sk_p64_2 hs, sk_p64_3 hs, sk_p64_4 hs, sk_p64_5 hs, sk_p64_9 hs, sk_p64_10 hs, sk_p64_11 hs, sk_p65_6 hs, sk_p65_7 hs, sk_p65_8 hs, sk_p65_9 hs, sk_p65_10 hs, sk_p65_11 hs, sk_p65_12 hs, sk_p65_13 hs, sk_p65_14 hs, sk_p65_15 hs, sk_k64 hs, sk_n64 hs, sk_k65 hs, sk_n65 hs, sk_k66 hs, sk_n66 hs, sk_k67 hs, sk_n67 hs, sk_k68 hs, sk_n68 hs, sk_k69 hs, sk_n69 hs, true_and, E0, if_pos g, e10, if_false, or_true]
    have v0 : vp_in (nI e) 9 := vp_in_nI (by omega) (by decide)
    have v1 : vp_in (4 + nI e) 25 := by rw [li_4, nI_add]; exact vp_in_nI (by omega) (by decide)
    have v2 : vp_in (13 + nI e) 25 := by rw [li_13, nI_add]; exact vp_in_nI (by omega) (by decide)
    have i1 : ((4 : Int32) + nI e).toNatClampNeg = 4 + e := by rw [li_4, nI_add, nI_clamp (by omega)]
    have i2 : ((13 : Int32) + nI e).toNatClampNeg = 13 + e := by rw [li_13, nI_add, nI_clamp (by omega)]
    simp (disch := omega) only [v0, v1, v2, i1, i2, nI_clamp, true_and]
  by_cases c0 : a1 = 0
  · subst c0
    refine hS (m_I μ 66 e) (fun Q h => by rw [ea, if_pos rfl]; exact h μ eqD.rf) (fun μ1 gs w c1 R1 Q h => ?_)
    rw [if_pos rfl]
    simp (disch := omega) only [sk_p411_0 gs, sk_p411_1 gs, sk_p411_2 gs, sk_p411_6 gs, sk_p411_7 gs, sk_p411_8 gs, sk_p411_9 gs, sk_p411_10 gs, sk_p411_11 gs, sk_p411_12 gs, sk_p411_22 gs, sk_p411_23 gs, sk_p411_25 gs, sk_p411_26 gs, sk_p411_30 gs, sk_p411_31 gs, sk_p411_32 gs, sk_p411_33 gs, sk_p411_35 gs, sk_p411_36 gs, sk_p411_37 gs, sk_p411_38 gs, sk_p411_39 gs, sk_p411_40 gs, sk_p411_42 gs, sk_p411_43 gs, sk_p411_44 gs, sk_p411_45 gs, sk_p411_46 gs, sk_k411 gs, sk_n411 gs, sk_k412 gs, sk_n412 gs, li_10, li_3, pk_mul, nI_add, nI_clamp, vp_t, true_and, w, ← z1]
    exact h μ1 eqD.rf
  by_cases c1 : a1 = 1
  · subst c1
    refine hS (m_I μ 67 e) (fun Q h => by rw [ea, if_neg c0, if_pos rfl]; exact h μ eqD.rf) (fun μ1 gs w c1 R1 Q h => ?_)
    rw [if_neg c0, if_pos rfl]
    have z2' : m_I μ 412 (10 + 3 * e + 1) = m_I μ 67 e := by rw [show 10 + 3 * e + 1 = 11 + 3 * e by omega]; exact z2.symm
    simp (disch := omega) only [sk_p411_0 gs, sk_p411_1 gs, sk_p411_2 gs, sk_p411_6 gs, sk_p411_7 gs, sk_p411_8 gs, sk_p411_9 gs, sk_p411_10 gs, sk_p411_11 gs, sk_p411_12 gs, sk_p411_22 gs, sk_p411_23 gs, sk_p411_25 gs, sk_p411_26 gs, sk_p411_30 gs, sk_p411_31 gs, sk_p411_32 gs, sk_p411_33 gs, sk_p411_35 gs, sk_p411_36 gs, sk_p411_37 gs, sk_p411_38 gs, sk_p411_39 gs, sk_p411_40 gs, sk_p411_42 gs, sk_p411_43 gs, sk_p411_44 gs, sk_p411_45 gs, sk_p411_46 gs, sk_k411 gs, sk_n411 gs, sk_k412 gs, sk_n412 gs, li_10, li_3, li_1, pk_mul, nI_add, nI_clamp, vp_t, true_and, w, z2']
    exact h μ1 eqD.rf
  by_cases c2 : a1 = 2
  · subst c2
    refine hS (m_I μ 68 e) (fun Q h => by rw [ea, if_neg c0, if_neg c1, if_pos rfl]; exact h μ eqD.rf) (fun μ1 gs w _ R1 Q h => ?_)
    rw [if_neg c0, if_neg c1, if_pos rfl]
    have z3' : m_I μ 412 (10 + 3 * e + 2) = m_I μ 68 e := by rw [show 10 + 3 * e + 2 = 12 + 3 * e by omega]; exact z3.symm
    simp (disch := omega) only [sk_p411_0 gs, sk_p411_1 gs, sk_p411_2 gs, sk_p411_6 gs, sk_p411_7 gs, sk_p411_8 gs, sk_p411_9 gs, sk_p411_10 gs, sk_p411_11 gs, sk_p411_12 gs, sk_p411_22 gs, sk_p411_23 gs, sk_p411_25 gs, sk_p411_26 gs, sk_p411_30 gs, sk_p411_31 gs, sk_p411_32 gs, sk_p411_33 gs, sk_p411_35 gs, sk_p411_36 gs, sk_p411_37 gs, sk_p411_38 gs, sk_p411_39 gs, sk_p411_40 gs, sk_p411_42 gs, sk_p411_43 gs, sk_p411_44 gs, sk_p411_45 gs, sk_p411_46 gs, sk_k411 gs, sk_n411 gs, sk_k412 gs, sk_n412 gs, li_10, li_3, li_2, pk_mul, nI_add, nI_clamp, vp_t, true_and, w, z3']
    exact h μ1 eqD.rf
  by_cases c3 : a1 = 3
  · subst c3
    refine hS (m_I μ 69 (4 + e)) (fun Q h => by rw [ea, if_neg c0, if_neg c1, if_neg c2, if_pos rfl]; exact h μ eqD.rf) (fun μ1 gs w _ R1 Q h => ?_)
    rw [if_neg c0, if_neg c1, if_neg c2, if_pos rfl]
    simp (disch := omega) only [sk_p411_0 gs, sk_p411_1 gs, sk_p411_2 gs, sk_p411_6 gs, sk_p411_7 gs, sk_p411_8 gs, sk_p411_9 gs, sk_p411_10 gs, sk_p411_11 gs, sk_p411_12 gs, sk_p411_22 gs, sk_p411_23 gs, sk_p411_25 gs, sk_p411_26 gs, sk_p411_30 gs, sk_p411_31 gs, sk_p411_32 gs, sk_p411_33 gs, sk_p411_35 gs, sk_p411_36 gs, sk_p411_37 gs, sk_p411_38 gs, sk_p411_39 gs, sk_p411_40 gs, sk_p411_42 gs, sk_p411_43 gs, sk_p411_44 gs, sk_p411_45 gs, sk_p411_46 gs, sk_k411 gs, sk_n411 gs, sk_k412 gs, sk_n412 gs, li_114, nI_add, nI_clamp, vp_t, true_and, w, ← w1]
    exact h μ1 eqD.rf
  by_cases c4 : a1 = 4
  · subst c4
    refine hS (m_I μ 69 (13 + e)) (fun Q h => by rw [ea, if_neg c0, if_neg c1, if_neg c2, if_neg c3, if_pos rfl]; exact h μ eqD.rf) (fun μ1 gs w _ R1 Q h => ?_)
    rw [if_neg c0, if_neg c1, if_neg c2, if_neg c3, if_pos rfl]
    simp (disch := omega) only [sk_p411_0 gs, sk_p411_1 gs, sk_p411_2 gs, sk_p411_6 gs, sk_p411_7 gs, sk_p411_8 gs, sk_p411_9 gs, sk_p411_10 gs, sk_p411_11 gs, sk_p411_12 gs, sk_p411_22 gs, sk_p411_23 gs, sk_p411_25 gs, sk_p411_26 gs, sk_p411_30 gs, sk_p411_31 gs, sk_p411_32 gs, sk_p411_33 gs, sk_p411_35 gs, sk_p411_36 gs, sk_p411_37 gs, sk_p411_38 gs, sk_p411_39 gs, sk_p411_40 gs, sk_p411_42 gs, sk_p411_43 gs, sk_p411_44 gs, sk_p411_45 gs, sk_p411_46 gs, sk_k411 gs, sk_n411 gs, sk_k412 gs, sk_n412 gs, li_123, nI_add, nI_clamp, vp_t, true_and, w, ← w2]
    exact h μ1 eqD.rf
  by_cases c5 : a1 = 5
  · subst c5
    refine hS _ (fun Q h => by rw [ea, if_neg c0, if_neg c1, if_neg c2, if_neg c3, if_neg c4, if_pos rfl]; exact s_holds c R ok he (sk_k69 hs) (sk_n69 hs) (by decide) (by decide) h) (fun μ1 gs w cm R1 Q h => ?_)
    rw [if_neg c0, if_neg c1, if_neg c2, if_neg c3, if_neg c4, if_pos rfl]
    exact m_stillHolds cm R1 ok he h
  by_cases c6 : a1 = 6
  · subst c6
    refine hS _ (fun Q h => by rw [ea, if_neg c0, if_neg c1, if_neg c2, if_neg c3, if_neg c4, if_neg c5, if_pos rfl]; exact s_spoonOf (kind := 0) c R ok he (by decide) (sk_k69 hs) (sk_n69 hs) (by decide) (by decide) h) (fun μ1 gs w cm R1 Q h => ?_)
    rw [if_neg c0, if_neg c1, if_neg c2, if_neg c3, if_neg c4, if_neg c5, if_pos rfl]
    exact m_spoonOf (kind := 0) cm R1 ok he (by decide) h
  by_cases c7 : a1 = 7
  · subst c7
    refine hS _ (fun Q h => by rw [ea, if_neg c0, if_neg c1, if_neg c2, if_neg c3, if_neg c4, if_neg c5, if_neg c6, if_pos rfl]; exact s_spoonOf (kind := 1) c R ok he (by decide) (sk_k69 hs) (sk_n69 hs) (by decide) (by decide) h) (fun μ1 gs w cm R1 Q h => ?_)
    rw [if_neg c0, if_neg c1, if_neg c2, if_neg c3, if_neg c4, if_neg c5, if_neg c6, if_pos rfl]
    exact m_spoonOf (kind := 1) cm R1 ok he (by decide) h
  refine hS (-2) (fun Q h => by rw [ea, if_neg c0, if_neg c1, if_neg c2, if_neg c3, if_neg c4, if_neg c5, if_neg c6, if_neg c7]; exact h μ eqD.rf) (fun μ1 gs w cm R1 Q h => ?_)
  rw [if_neg c0, if_neg c1, if_neg c2, if_neg c3, if_neg c4, if_neg c5, if_neg c6, if_neg c7]
  exact h μ1 eqD.rf
