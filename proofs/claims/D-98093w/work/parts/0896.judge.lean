/-! plain law: the reference's spoon; judge on both sides -/
theorem m_spoon {μ ν : fw_M} {a : Nat → Int32} {n tx st te tl ns nd : Nat} {lv : LV} (gs : sk_m ν) (w : m_I ν 412 = a) (C : iv_C μ 65 a n tx st te tl ns nd) (l2 : lvM ν lv) (l3 : lvD lv) (a0 a1 : Int32) {Q : Int32 → fw_M → Prop} (hQ : ∀ ν1, stepM ν ν1 → m_I ν1 412 = (mSpoon lv a a0 a1).2 → Q (mSpoon lv a a0 a1).1 ν1) : p_X5_spoon 411 a0 a1 ν Q := by
  obtain ⟨x1, x2, x3, x4, x5⟩ := cx_a C
  obtain ⟨⟨q1, q2, q3, q4, q5⟩, -, ⟨A0, A1, A3, A4, A5⟩, -, -, hr, -⟩ := id C
  have b1 : ns ≤ 60 := hr.2.2.2.2.2.2.2.2.1
  have r7 : a 132 = nI ns := hr.2.2.2.2.2.2.1
  have no : ∀ ν1, stepM ν ν1 → m_I ν1 412 = a → ¬ (((inB a0 0 (a 0 - 1) ∧ inB a1 0 1) ∧ ¬ a 132 = 60) ∧ ¬ spA lv a a0.toNatClampNeg a1.toNatClampNeg = 0) → Q (-1) ν1 := fun ν1 s w1 h => by
    have := hQ ν1 s
    unfold mSpoon at this
    rw [if_neg h] at this
    exact this w1
  unfold p_X5_spoon
  rw [m_isEater gs (by rw [w]; exact A0)]
  by_cases c1 : inB a0 0 (nI n - 1)
  rotate_left
  · rw [if_neg c1]
    simp only [e00, if_true]
    exact no ν stepM.rf w fun h => c1 (by rw [A0] at h; exact h.1.1.1)
  rw [if_pos c1]
  simp only [e10, if_false, m_isOne]
  by_cases c2 : inB a1 0 1
  rotate_left
  · rw [if_neg c2]
    simp only [e00, if_true]
    exact no ν stepM.rf w fun h => c2 h.1.1.2
  rw [if_pos c2]
  simp only [e10, if_false, sk_p411_0 gs, sk_p411_1 gs, sk_p411_2 gs, sk_p411_6 gs, sk_p411_7 gs, sk_p411_8 gs, sk_p411_9 gs, sk_p411_10 gs, sk_p411_11 gs, sk_p411_12 gs, sk_p411_22 gs, sk_p411_23 gs, sk_p411_25 gs, sk_p411_26 gs, sk_p411_30 gs, sk_p411_31 gs, sk_p411_32 gs, sk_p411_33 gs, sk_p411_35 gs, sk_p411_36 gs, sk_p411_37 gs, sk_p411_38 gs, sk_p411_39 gs, sk_p411_40 gs, sk_p411_42 gs, sk_p411_43 gs, sk_p411_44 gs, sk_p411_45 gs, sk_p411_46 gs, sk_k411 gs, sk_n411 gs, sk_k412 gs, sk_n412 gs, cl132, vp132_11120, true_and, w, r7]
  by_cases c3 : ns = 60
  · subst c3
    rw [if_pos (show nI 60 = 60 from rfl)]
    exact no ν stepM.rf w fun h => h.1.2 r7
  have c3' : ¬ nI ns = 60 := fun h => c3 ((nI_eq (b := 60) (by omega) (by decide)).mp h)
  rw [if_neg c3']
  obtain ⟨e, he, rfl⟩ := inB_k (by omega) c1
  obtain ⟨k, -, hk, rfl⟩ := inB_nI (lo := 0) (hi := 1) c2 (by decide) (by decide)
  have hee : (nI e).toNatClampNeg = e := nI_clamp (by omega)
  have hkk : (nI k).toNatClampNeg = k := nI_clamp (by omega)
  refine m_laysA gs w C fun ν1 d1 R1 => ?_
  have c0 := (cxM_of gs w C l2 l3).eq d1 fun p j q => by omega
  have ok : okW n (wA a) := ⟨fun k hk => (x2 k hk).2, fun e he => (x3 e (by omega)).2⟩
  refine m_spoonOf c0 R1 ok he (by omega) fun ν2 d2 => ?_
  have eg : spoonN lv (hunA a) (stoA a) (whA a) (wA a) e k = spA lv a e k := rfl
  rw [eg]
  have M2 : stepM ν ν2 := ⟨d2.1.trans d1.1, d2.2.1.trans d1.2.1, d2.2.2.1.trans d1.2.2.1, fun p p1 p2 p3 => (d2.I fun j q => p3 (by subst q; unfold sc_p; omega)).trans (d1.I fun j q => by
    rcases q with q | q | q
    · exact p3 (by subst q; unfold sc_p; omega)
    · exact p3 (by subst q; unfold sc_p; omega)
    · exact p2 q.1), fun j hj => (d2.2.2.2 411 j (by omega)).trans (d1.2.2.2 411 j (by omega))⟩
  have w2 : m_I ν2 412 = a := ((d2.I fun j => by omega).trans (d1.I fun j => by omega)).trans w
  by_cases c4 : spA lv a e k = 0
  · rw [c4, if_pos (show nI 0 = 0 from rfl)]
    exact no ν2 M2 w2 fun h => h.2 (by rw [hee, hkk]; exact c4)
  obtain ⟨sl1, sl2, sl3⟩ := spoonN_le (lv := lv) (hun := hunA a) (sto := stoA a) (wh := whA a) (w := wA a) (e := e) (kind := k)
  rw [eg] at sl1 sl2 sl3
  obtain ⟨⟨y1, y2⟩, ⟨y3, y4⟩, y5, y6⟩ := x1 e he
  have hw : whA a e < 2 := by
    have : whA a e ≠ 2 := fun h => c4 (sl3 h)
    omega
  have hH := holdsH_le (lv := lv) (hun := hunA a) (w := wA a) y4
  unfold holdsN at sl2
  have pw := x2 (2 * whA a e + k) (by omega)
  have xw := x3 e (by omega)
  rw [if_neg (nI_ne0 (by omega) (by omega))]
  have g2 := M2.sk gs
  refine m_keep g2 w2 q3 A3 ?_
  have okc : ((inB (nI e) 0 (a 0 - 1) ∧ inB (nI k) 0 1) ∧ ¬ a 132 = 60) ∧ ¬ spA lv a (nI e).toNatClampNeg (nI k).toNatClampNeg = 0 := ⟨⟨⟨by rw [A0]; exact c1, c2⟩, by rw [r7]; exact c3'⟩, by rw [hee, hkk]; exact c4⟩
  unfold mSpoon at hQ
  rw [if_pos okc, hee, hkk, A3, nI_clamp (show st < 2 ^ 31 by omega), x5] at hQ
  have ab : ∀ j, j ≠ 3 → j < 470 → mKeep a st j = a j := fun j j1 j2 => mKeep_lo j1 j2
  have v1 : mKeep a st (114 + e) = nI (whA a e) := (ab _ (by omega) (by omega)).trans y5
  have v2 : mKeep a st (110 + 2 * whA a e + k) = nI ((wA a).1 (2 * whA a e + k)) := by rw [ab _ (by omega) (by omega), show 110 + 2 * whA a e + k = 110 + (2 * whA a e + k) by omega]; exact pw.1
  have v3 : mKeep a st (123 + e) = nI ((wA a).2.1 e) := (ab _ (by omega) (by omega)).trans xw.1
  have v4 : mKeep a st 132 = nI ns := (ab _ (by omega) (by omega)).trans r7
  have hsb : nI ((wA a).1 (2 * whA a e + k)) - nI (spA lv a e k) = nI ((wA a).1 (2 * whA a e + k) - spA lv a e k) := pk_sub sl1
  simp (disch := omega) only [sk_p411_0 g2, sk_p411_1 g2, sk_p411_2 g2, sk_p411_6 g2, sk_p411_7 g2, sk_p411_8 g2, sk_p411_9 g2, sk_p411_10 g2, sk_p411_11 g2, sk_p411_12 g2, sk_p411_22 g2, sk_p411_23 g2, sk_p411_25 g2, sk_p411_26 g2, sk_p411_30 g2, sk_p411_31 g2, sk_p411_32 g2, sk_p411_33 g2, sk_p411_35 g2, sk_p411_36 g2, sk_p411_37 g2, sk_p411_38 g2, sk_p411_39 g2, sk_p411_40 g2, sk_p411_42 g2, sk_p411_43 g2, sk_p411_44 g2, sk_p411_45 g2, sk_p411_46 g2, sk_k411 g2, sk_n411 g2, sk_k412 g2, sk_n412 g2, li_114, li_110, li_2, li_123, li_133, li_4, li_1, li_3, li_132, pk_mul, nI_add, nI_clamp, vp_t, true_and, forall_eq, ml_uI, ml_KI, ml_PI, ml_NI, ml_SI, ml_xI, ml_Is, ml_In, ml_us, ml_un, ml_cp, ml_ss, v1, v2, v3, v4, hsb]
  have M3 := M2.tr (stepM.sI (f := mSpU (mKeep a st) e (whA a e) k (spA lv a e k) ((wA a).2.1 e) ((wA a).1 (2 * whA a e + k)) ns))
  exact hQ _ M3 ml_Is
theorem lvM.eq {ν ν' : fw_M} {lv : LV} (h : lvM ν lv) (e2 : m_I ν' 412 2 = m_I ν 412 2) (g : ∀ p, 415 ≤ p → p ≤ 421 → m_I ν' p = m_I ν p) : lvM ν' lv := fun q hq => (h q hq).eq e2 g
theorem op_spoon (a0 a1 : Int32) : iv_op2 (α := Int32) (fun μ Q => p_X0_spoon 64 a0 a1 μ Q) (fun μ Q => p_X5_spoon 411 a0 a1 μ Q) := by
  refine op_step fun L xs z μ hI => ?_
  obtain ⟨lv, l1, l2, l3⟩ := lv_of hI
  obtain ⟨hs, -, -, n, tx, st, te, tl, ns, nd, n', tx', st', te', tl', ns', nd', tp, C, -⟩ := hI
  refine ⟨mSpoon lv (m_I μ 412) a0 a1, fun Q hQ => s_spoon hs C l1 l3 a0 a1 fun μ1 h1 hC => hQ μ1 h1 fun n2 tx2 st2 te2 tl2 ns2 nd2 C2 => ?_, fun μ1 h1 w Q hQ => m_spoon h1.1 w C (l2.eq (by rw [w]) fun p p1 p2 => h1.2.2.2.2 p (by omega) (by unfold sc_p; omega)) l3 a0 a1 hQ⟩
  obtain ⟨e1, e2, e3, e4, e5⟩ := C_same C C2
  subst e1 e2 e3 e4 e5
  exact hC
theorem row_judge {n ns nd : Nat} {sr sr' mr mr' : Nat → Int32} (hn : n ≤ 9) (h : iv_row n ns nd sr mr) (hnd : nd < 30) (s1 : sr' 24 = nI (nd + 1)) (m1 : mr' 263 = nI (nd + 1)) (so : ∀ j, j < 24 → sr' j = sr j) (mo : ∀ j, j < 263 ∨ j = 354 → mr' j = mr j) : iv_row n ns (nd + 1) sr' mr' := by
  obtain ⟨h1, h2, h3, h4, h5, h6, h7, h8, h9, h10, h11, h12, h13, h14, h15⟩ := h
  refine ⟨fun k hk => ?_, fun e he => ?_, fun e e1 e2 => ?_, ?_, ?_, s1, ?_, m1, h9, by omega, fun k hk => ?_, fun e he => ?_, fun e he => ?_, ?_, fun e he => ?_⟩
  · rw [so k (by omega), mo k (by omega)]; exact h1 k hk
  · rw [so (4 + e) (by omega), mo (4 + e) (by omega), so (13 + e) (by omega), mo (13 + e) (by omega)]; exact h2 e he
  · rw [mo (4 + e) (by omega), mo (13 + e) (by omega)]; exact h3 e e1 e2
  · rw [so 22 (by omega), mo 354 (by omega)]; exact h4
  · rw [so 23 (by omega)]; exact h5
  · rw [mo 22 (by omega)]; exact h7
  · rw [mo k (by omega)]; exact h11 k hk
  · rw [mo (4 + e) (by omega)]; exact h12 e he
  · rw [mo (13 + e) (by omega)]; exact h13 e he
  · rw [mo 354 (by omega)]; exact h14
  · rw [mo (13 + e) (by omega), sum_cong (m := mr) fun j j1 j2 => mo j (by omega)]; exact h15 e he
def guI (lv : LV) (a : Nat → Int32) (s : Nat) : Int32 := if guB lv (wA a) (a 373).toNatClampNeg s = true then 1 else 0
def mJuU (b : Nat → Int32) (s nd : Nat) (t g : Int32) : Nat → Int32 := ml_u (ml_u (ml_u (ml_u b (374 + 3 * nd) (nI s)) (374 + 3 * nd + 1) t) (374 + 3 * nd + 2) g) 373 (nI (nd + 1))
def mJudge (lv : LV) (a : Nat → Int32) (a0 : Int32) : Int32 × (Nat → Int32) :=
  if inB a0 0 1 ∧ ¬ a 373 = 30 then (guI lv a a0.toNatClampNeg, mJuU (mKeep a (a 3).toNatClampNeg) a0.toNatClampNeg (a 373).toNatClampNeg (tlW (wA a)) (guI lv a a0.toNatClampNeg)) else (-1, a)
theorem s_judge {μ : fw_M} {a : Nat → Int32} {n tx st te tl ns nd : Nat} {lv : LV} (hs : sk_m μ) (C : iv_C μ 65 a n tx st te tl ns nd) (l1 : lvS μ lv) (l3 : lvD lv) (a0 : Int32) {Q : Int32 → fw_M → Prop} (hQ : ∀ μ1, stepS μ μ1 → (∃ st' ns' nd', iv_C μ1 65 (mJudge lv a a0).2 n tx st' te tl ns' nd') → Q (mJudge lv a a0).1 μ1) : p_X0_judge 64 a0 μ Q := by
  obtain ⟨c, R, ok⟩ := cxS_of hs C l1 l3
  obtain ⟨x1, x2, x3, x4, x5⟩ := cx_a C
  obtain ⟨⟨q1, q2, q3, q4, q5⟩, ⟨E0, E1, E2, E3, E4, E5⟩, ⟨A0, A1, A3, A4, A5⟩, -, -, hr, -⟩ := id C
  have b1 : ns ≤ 60 := hr.2.2.2.2.2.2.2.2.1
  have b2 : nd ≤ 30 := hr.2.2.2.2.2.2.2.2.2.1
  have r8 : a 373 = nI nd := hr.2.2.2.2.2.2.2.1
  have r6 : m_I μ 69 24 = nI nd := hr.2.2.2.2.2.1
  have no : ¬ (inB a0 0 1 ∧ ¬ a 373 = 30) → Q (-1) μ := fun h => by
    have := hQ μ (stepS.rf hs)
    unfold mJudge at this
    rw [if_neg h] at this
    exact this ⟨st, ns, nd, C⟩
  unfold p_X0_judge
  rw [s_isSide]
  by_cases c2 : inB a0 0 1
  rotate_left
  · rw [if_neg c2]
    simp only [e00, if_true]
    exact no fun h => c2 h.1
  rw [if_pos c2]
  simp only [e10, if_false, sk_p64_0 hs, sk_p64_1 hs, sk_p64_2 hs, sk_p64_3 hs, sk_p64_4 hs, sk_p64_5 hs, sk_p64_9 hs, sk_p64_10 hs, sk_p64_11 hs, sk_p65_6 hs, sk_p65_7 hs, sk_p65_8 hs, sk_p65_9 hs, sk_p65_10 hs, sk_p65_11 hs, sk_p65_12 hs, sk_p65_13 hs, sk_p65_14 hs, sk_p65_15 hs, sk_k64 hs, sk_n64 hs, sk_k65 hs, sk_n65 hs, sk_k69 hs, sk_n69 hs, cl24, vp24_25, true_and, r6]
  by_cases c3 : nd = 30
  · subst c3
    rw [if_pos (show nI 30 = 30 from rfl)]
    exact no fun h => h.2 r8
  have c3' : ¬ nI nd = 30 := fun h => c3 ((nI_eq (b := 30) (by omega) (by decide)).mp h)
  rw [if_neg c3']
  obtain ⟨s, -, hk, rfl⟩ := inB_nI (lo := 0) (hi := 1) c2 (by decide) (by decide)
  have hkk : (nI s).toNatClampNeg = s := nI_clamp (by omega)
  refine s_keep hs q3 E3 fun μ3 k3 => ?_
  have C3 := C_keep C hs k3
  have S3 := k3.step
  have g3 := k3.1
  have f2 : ∀ p, p ≠ 70 → ¬ (72 ≤ p ∧ p < 102) → ∀ j, ¬ (p = 65 ∧ j = 3) → m_I μ3 p j = m_I μ p j := fun p p2 p3 j pj => k3.2.2.2.2.1 p p2 p3 j pj
  have e69 : m_I μ3 69 = m_I μ 69 := funext fun j => f2 69 (by decide) (by decide) j (by omega)
  have c3x : cxS n (hunA a) (stoA a) lv μ3 := c.step S3 (f2 65 (by decide) (by decide) 0 (by decide)) (f2 65 (by decide) (by decide) 2 (by decide)) (funext fun j => f2 66 (by decide) (by decide) j (by omega)) (funext fun j => f2 67 (by decide) (by decide) j (by omega))
  have R3 : rS n (whA a) nd (m_I μ3 69) (wA a) := by rw [e69]; exact R
  simp only [sk_p64_0 g3, sk_p64_1 g3, sk_p64_2 g3, sk_p64_3 g3, sk_p64_4 g3, sk_p64_5 g3, sk_p64_9 g3, sk_p64_10 g3, sk_p64_11 g3, sk_p65_6 g3, sk_p65_7 g3, sk_p65_8 g3, sk_p65_9 g3, sk_p65_10 g3, sk_p65_11 g3, sk_p65_12 g3, sk_p65_13 g3, sk_p65_14 g3, sk_p65_15 g3, sk_k64 g3, sk_n64 g3, sk_k65 g3, sk_n65 g3, true_and]
  refine s_isGuilty c3x R3 (by omega) (sk_k69 g3) (sk_n69 g3) (by decide) (by decide) fun μ4 d4 => ?_
  have g4 := d4.sk g3
  have e69' : m_I μ4 69 = m_I μ3 69 := d4.I fun j => by decide
  have okc : inB (nI s) 0 1 ∧ ¬ a 373 = 30 := ⟨c2, by rw [r8]; exact c3'⟩
  unfold mJudge guI at hQ
  rw [if_pos okc, hkk, A3, nI_clamp (show st < 2 ^ 31 by omega), r8, nI_clamp (show nd < 2 ^ 31 by omega)] at hQ
  have R4 : rS n (whA a) nd (m_I μ4 69) (wA a) := by rw [e69']; exact R3
  have e24 : m_I μ4 69 24 = nI nd := R4.2.2.2
  have q4' := sk_q164 g4 (p := 164 + nd) (by omega) (by omega)
  have last : ∀ g : Int32, (∀ μ1, stepS μ μ1 → (∃ st' ns' nd', iv_C μ1 65 (mJuU (mKeep a st) s nd (tlW (wA a)) g) n tx st' te tl ns' nd') → Q g μ1) → p_X0_judge_L51 64 (nI s) g μ4 Q := by
    intro g hq
    unfold p_X0_judge_L51
    simp (disch := omega) only [sk_p64_0 g4, sk_p64_1 g4, sk_p64_2 g4, sk_p64_3 g4, sk_p64_4 g4, sk_p64_5 g4, sk_p64_9 g4, sk_p64_10 g4, sk_p64_11 g4, sk_p65_6 g4, sk_p65_7 g4, sk_p65_8 g4, sk_p65_9 g4, sk_p65_10 g4, sk_p65_11 g4, sk_p65_12 g4, sk_p65_13 g4, sk_p65_14 g4, sk_p65_15 g4, sk_k64 g4, sk_n64 g4, sk_k65 g4, sk_n65 g4, sk_k69 g4, sk_n69 g4, sk_k163 g4, sk_n163 g4, e24, sk_r163 g4, q4'.1, q4'.2, li_0, li_1, li_24, nI_add, nI_clamp, vp_t, ml_uI, ml_KI, ml_PI, ml_NI, ml_SI, ml_xI, ml_Is, ml_In, ml_us, ml_un, ml_cp, ml_ss, true_and, forall_eq]
    unfold p_X0_tiltOf
    have p0 := R4.1 0 (by decide)
    have p1 := R4.1 1 (by decide)
    have p2 := R4.1 2 (by decide)
    have p3 := R4.1 3 (by decide)
    simp (disch := omega) only [sk_p64_0 g4, sk_p64_1 g4, sk_p64_2 g4, sk_p64_3 g4, sk_p64_4 g4, sk_p64_5 g4, sk_p64_9 g4, sk_p64_10 g4, sk_p64_11 g4, sk_p65_6 g4, sk_p65_7 g4, sk_p65_8 g4, sk_p65_9 g4, sk_p65_10 g4, sk_p65_11 g4, sk_p65_12 g4, sk_p65_13 g4, sk_p65_14 g4, sk_p65_15 g4, sk_k64 g4, sk_n64 g4, sk_k65 g4, sk_n65 g4, sk_k69 g4, sk_n69 g4, sk_k163 g4, sk_n163 g4, q4'.1, q4'.2, li_0, li_1, li_2, li_3, nI_clamp, vp_t, ml_uI, ml_KI, ml_PI, ml_NI, ml_SI, ml_xI, ml_Is, ml_In, ml_us, ml_un, ml_cp, ml_ss, true_and, forall_eq, p0, p1, p2, p3]
    have et : nI ((wA a).1 0) + nI ((wA a).1 1) - nI ((wA a).1 2) - nI ((wA a).1 3) = tlW (wA a) := rfl
    have eta : nI ((wA a).1 0 + (wA a).1 1) - nI ((wA a).1 2) - nI ((wA a).1 3) = tlW (wA a) := by unfold tlW; rw [nI_add]
    simp only [et, eta]
    have ne : ∀ (f : Nat → Int32) p, p ≠ 164 + nd → p ≠ 69 → ∀ f2, m_I (m_sI (m_sI μ4 69 f2) (164 + nd) f) p = m_I μ4 p := fun f p h1 h2 f2 => by rw [ml_In h1, ml_In h2]
    refine hq _ (((S3.tr (b := μ3) (c := μ4) ⟨g4, d4.1, d4.2.2.1, fun p _ => by rw [d4.2.1], fun p p1 p2 => d4.I fun j q => p2 (Or.inl q)⟩).tr (stepS.sI g4 (Or.inl ⟨by decide, by decide⟩))).tr (stepS.sI (p := 164 + nd) g4 (Or.inl ⟨by omega, by omega⟩))) ⟨k0 st + 1, ns, nd + 1, ?_⟩
    have h30 : ∀ p, p ≠ 396 → m_I μ4 p = m_I μ3 p := fun p p1 => d4.I fun j => p1
    have ab : ∀ j, j ≠ 3 → j < 470 → mKeep a st j = a j := fun j j1 j2 => mKeep_lo j1 j2
    refine C_row C3 g3 (fun p p1 p2 p3 p4 p5 => by rw [ne _ p (by omega) (by omega)]; exact h30 p (by omega)) (fun i hi j hj => by rw [ne _ _ (by omega) (by omega), h30 _ (by omega)]) (fun i hi j hj => by rw [ne _ _ (by omega) (by omega), h30 _ (by omega)]) (by rw [ml_PI, ml_PI, d4.2.1]) (Nat.le_refl _) (by omega) ?_ ?_ (fun j hj => ?_)
    · rw [ml_In (by omega), ml_Is]
      refine row_judge q1 C3.2.2.2.2.2.1 (by omega) (by rw [ml_us]) ?_ (fun j hj => by rw [ml_un (by omega), e69']) (fun j hj => ?_)
      · unfold iv_sh mJuU
        rw [show 110 + 263 = 373 from rfl, ml_us]
      · unfold iv_sh mJuU
        rw [ml_un (by omega), ml_un (by omega), ml_un (by omega), ml_un (by omega)]
    · have hrec3 := C3.2.2.2.2.2.2.1
      refine ⟨fun i hi j hj => ?_, fun i hi j hj => ?_⟩
      · show m_I (m_sI (m_sI μ4 69 _) (164 + nd) _) (103 + i) j = _
        rw [ne _ _ (by omega) (by omega), h30 _ (by omega)]
        unfold iv_sh mJuU
        rw [ml_un (by omega), ml_un (by omega), ml_un (by omega), ml_un (by omega)]
        exact hrec3.1 i hi j hj
      · by_cases ei : i = nd
        · subst ei
          show m_I (m_sI (m_sI μ4 69 _) (164 + i) _) (164 + i) j = _
          rw [ml_Is]
          unfold iv_sh mJuU
          have : j = 0 ∨ j = 1 ∨ j = 2 := by omega
          rcases this with rfl | rfl | rfl
          · rw [ml_un (by decide), ml_un (by decide), ml_us, ml_un (by omega), ml_un (by omega), ml_un (by omega), show 110 + (264 + 3 * i + 0) = 374 + 3 * i by omega, ml_us]
          · rw [ml_un (by decide), ml_us, ml_un (by omega), ml_un (by omega), show 110 + (264 + 3 * i + 1) = 374 + 3 * i + 1 by omega, ml_us]
          · rw [ml_us, ml_un (by omega), show 110 + (264 + 3 * i + 2) = 374 + 3 * i + 2 by omega, ml_us]
        · show m_I (m_sI (m_sI μ4 69 _) (164 + nd) _) (164 + i) j = _
          rw [ne _ _ (by omega) (by omega), h30 _ (by omega)]
          unfold iv_sh mJuU
          rw [ml_un (by omega), ml_un (by omega), ml_un (by omega), ml_un (by omega)]
          exact hrec3.2 i (by omega) j hj
    · unfold mJuU
      rw [ml_un (by omega), ml_un (by omega), ml_un (by omega), ml_un (by omega)]
  by_cases cg : guB lv (wA a) nd s = true
  · simp only [if_pos cg] at hQ ⊢
    rw [if_neg (by decide)]
    exact last 1 hQ
  · simp only [if_neg cg] at hQ ⊢
    rw [if_pos trivial]
    exact last 0 hQ
theorem m_judge {μ ν : fw_M} {a : Nat → Int32} {n tx st te tl ns nd : Nat} {lv : LV} (gs : sk_m ν) (w : m_I ν 412 = a) (C : iv_C μ 65 a n tx st te tl ns nd) (l2 : lvM ν lv) (l3 : lvD lv) (a0 : Int32) {Q : Int32 → fw_M → Prop} (hQ : ∀ ν1, stepM ν ν1 → m_I ν1 412 = (mJudge lv a a0).2 → Q (mJudge lv a a0).1 ν1) : p_X5_judge 411 a0 ν Q := by
  obtain ⟨x1, x2, x3, x4, x5⟩ := cx_a C
  obtain ⟨⟨q1, q2, q3, q4, q5⟩, -, ⟨A0, A1, A3, A4, A5⟩, -, -, hr, -⟩ := id C
  have b2 : nd ≤ 30 := hr.2.2.2.2.2.2.2.2.2.1
  have r8 : a 373 = nI nd := hr.2.2.2.2.2.2.2.1
  have no : ¬ (inB a0 0 1 ∧ ¬ a 373 = 30) → Q (-1) ν := fun h => by
    have := hQ ν stepM.rf
    unfold mJudge at this
    rw [if_neg h] at this
    exact this w
  unfold p_X5_judge
  simp only [m_isOne]
  by_cases c2 : inB a0 0 1
  rotate_left
  · rw [if_neg c2]
    simp only [e00, if_true]
    exact no fun h => c2 h.1
  rw [if_pos c2]
  simp only [e10, if_false, sk_p411_0 gs, sk_p411_1 gs, sk_p411_2 gs, sk_p411_6 gs, sk_p411_7 gs, sk_p411_8 gs, sk_p411_9 gs, sk_p411_10 gs, sk_p411_11 gs, sk_p411_12 gs, sk_p411_22 gs, sk_p411_23 gs, sk_p411_25 gs, sk_p411_26 gs, sk_p411_30 gs, sk_p411_31 gs, sk_p411_32 gs, sk_p411_33 gs, sk_p411_35 gs, sk_p411_36 gs, sk_p411_37 gs, sk_p411_38 gs, sk_p411_39 gs, sk_p411_40 gs, sk_p411_42 gs, sk_p411_43 gs, sk_p411_44 gs, sk_p411_45 gs, sk_p411_46 gs, sk_k411 gs, sk_n411 gs, sk_k412 gs, sk_n412 gs, cl373, vp373_11120, true_and, w, r8]
  by_cases c3 : nd = 30
  · subst c3
    rw [if_pos (show nI 30 = 30 from rfl)]
    exact no fun h => h.2 r8
  have c3' : ¬ nI nd = 30 := fun h => c3 ((nI_eq (b := 30) (by omega) (by decide)).mp h)
  rw [if_neg c3']
  obtain ⟨s, -, hk, rfl⟩ := inB_nI (lo := 0) (hi := 1) c2 (by decide) (by decide)
  have hkk : (nI s).toNatClampNeg = s := nI_clamp (by omega)
  refine m_laysA gs w C fun ν1 d1 R1 => ?_
  have c0 := (cxM_of gs w C l2 l3).eq d1 fun p j q => by omega
  refine m_isGuilty c0 R1 (by omega) fun ν2 d2 => ?_
  have M2 : stepM ν ν2 := ⟨d2.1.trans d1.1, d2.2.1.trans d1.2.1, d2.2.2.1.trans d1.2.2.1, fun p p1 p2 p3 => (d2.I fun j q => p3 (by subst q; unfold sc_p; omega)).trans (d1.I fun j q => by
    rcases q with q | q | q
    · exact p3 (by subst q; unfold sc_p; omega)
    · exact p3 (by subst q; unfold sc_p; omega)
    · exact p2 q.1), fun j hj => (d2.2.2.2 411 j (by omega)).trans (d1.2.2.2 411 j (by omega))⟩
  have w2 : m_I ν2 412 = a := ((d2.I fun j => by omega).trans (d1.I fun j => by omega)).trans w
  have R2 := R1.eq d2 fun p j q => by subst q; exact ⟨by decide, by decide, by omega⟩
  have g2 := M2.sk gs
  have okc : inB (nI s) 0 1 ∧ ¬ a 373 = 30 := ⟨c2, by rw [r8]; exact c3'⟩
  unfold mJudge guI at hQ
  rw [if_pos okc, hkk, A3, nI_clamp (show st < 2 ^ 31 by omega), r8, nI_clamp (show nd < 2 ^ 31 by omega)] at hQ
  have ab : ∀ j, j ≠ 3 → j < 470 → mKeep a st j = a j := fun j j1 j2 => mKeep_lo j1 j2
  have v4 : mKeep a st 373 = nI nd := (ab _ (by omega) (by omega)).trans r8
  have last : ∀ g : Int32, (∀ ν1, stepM ν ν1 → m_I ν1 412 = mJuU (mKeep a st) s nd (tlW (wA a)) g → Q g ν1) → p_X5_judge_L39 411 (nI s) g ν2 Q := by
    intro g hq
    unfold p_X5_judge_L39
    refine m_keep g2 w2 q3 A3 ?_
    simp (disch := omega) only [sk_p411_0 g2, sk_p411_1 g2, sk_p411_2 g2, sk_p411_6 g2, sk_p411_7 g2, sk_p411_8 g2, sk_p411_9 g2, sk_p411_10 g2, sk_p411_11 g2, sk_p411_12 g2, sk_p411_22 g2, sk_p411_23 g2, sk_p411_25 g2, sk_p411_26 g2, sk_p411_30 g2, sk_p411_31 g2, sk_p411_32 g2, sk_p411_33 g2, sk_p411_35 g2, sk_p411_36 g2, sk_p411_37 g2, sk_p411_38 g2, sk_p411_39 g2, sk_p411_40 g2, sk_p411_42 g2, sk_p411_43 g2, sk_p411_44 g2, sk_p411_45 g2, sk_p411_46 g2, sk_k411 g2, sk_n411 g2, sk_k412 g2, sk_n412 g2, li_374, li_3, li_373, pk_mul, nI_add, nI_clamp, vp_t, true_and, forall_eq, ml_uI, ml_KI, ml_PI, ml_NI, ml_SI, ml_xI, ml_Is, ml_In, ml_us, ml_un, ml_cp, ml_ss, v4]
    have R3 : rM n (m_sI ν2 412 (ml_u (mKeep a st) (374 + 3 * nd) (nI s))) (wA a) := R2.eq (D := fun p _ => p = 412) (eqD.sI fun j hj => absurd rfl hj) fun p j q => by subst q; exact ⟨by decide, by decide, by omega⟩
    rw [m_tilt (sk_m.I g2) R3]
    simp (disch := omega) only [sk_p411_0 g2, sk_p411_1 g2, sk_p411_2 g2, sk_p411_6 g2, sk_p411_7 g2, sk_p411_8 g2, sk_p411_9 g2, sk_p411_10 g2, sk_p411_11 g2, sk_p411_12 g2, sk_p411_22 g2, sk_p411_23 g2, sk_p411_25 g2, sk_p411_26 g2, sk_p411_30 g2, sk_p411_31 g2, sk_p411_32 g2, sk_p411_33 g2, sk_p411_35 g2, sk_p411_36 g2, sk_p411_37 g2, sk_p411_38 g2, sk_p411_39 g2, sk_p411_40 g2, sk_p411_42 g2, sk_p411_43 g2, sk_p411_44 g2, sk_p411_45 g2, sk_p411_46 g2, sk_k411 g2, sk_n411 g2, sk_k412 g2, sk_n412 g2, li_1, li_2, li_373, nI_add, nI_clamp, vp_t, true_and, forall_eq, ml_uI, ml_KI, ml_PI, ml_NI, ml_SI, ml_xI, ml_Is, ml_In, ml_us, ml_un, ml_cp, ml_ss, v4]
    exact hq _ (M2.tr (stepM.sI (f := mJuU (mKeep a st) s nd (tlW (wA a)) g))) ml_Is
  by_cases cg : guB lv (wA a) nd s = true
  · simp only [if_pos cg] at hQ ⊢
    rw [if_neg (by decide)]
    exact last 1 hQ
  · simp only [if_neg cg] at hQ ⊢
    rw [if_pos trivial]
    exact last 0 hQ
theorem op_judge (a0 : Int32) : iv_op2 (α := Int32) (fun μ Q => p_X0_judge 64 a0 μ Q) (fun μ Q => p_X5_judge 411 a0 μ Q) := by
  refine op_step fun L xs z μ hI => ?_
  obtain ⟨lv, l1, l2, l3⟩ := lv_of hI
  obtain ⟨hs, -, -, n, tx, st, te, tl, ns, nd, n', tx', st', te', tl', ns', nd', tp, C, -⟩ := hI
  refine ⟨mJudge lv (m_I μ 412) a0, fun Q hQ => s_judge hs C l1 l3 a0 fun μ1 h1 hC => hQ μ1 h1 fun n2 tx2 st2 te2 tl2 ns2 nd2 C2 => ?_, fun μ1 h1 w Q hQ => m_judge h1.1 w C (l2.eq (by rw [w]) fun p p1 p2 => h1.2.2.2.2 p (by omega) (by unfold sc_p; omega)) l3 a0 hQ⟩
  obtain ⟨e1, e2, e3, e4, e5⟩ := C_same C C2
  subst e1 e2 e3 e4 e5
  exact hC
