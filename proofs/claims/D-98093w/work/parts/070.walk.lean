set_option maxRecDepth 100000
/-- a call through the interface: the receiver is of one of its classes, whose contract holds -/
def fw_D_Sum_of (g : fw_G) (f r v : Nat) (μ : fw_M) (P : Int64 → fw_M → Prop) : Prop := (m_K μ r = 10 ∧ fw_C g f 0 0 yX9_of (ws_ yX9_of cX9_of 2 (some .long)) [fw_rv g r, fw_rv g v] μ (fw_Ql P) fw_nX) ∨ (m_K μ r = 9 ∧ fw_C g f 0 0 yX8_of (ws_ yX8_of cX8_of 2 (some .long)) [fw_rv g r, fw_rv g v] μ (fw_Ql P) fw_nX) ∨ (m_K μ r = 11 ∧ fw_C g f 0 0 yX10_of (ws_ yX10_of cX10_of 2 (some .long)) [fw_rv g r, fw_rv g v] μ (fw_Ql P) fw_nX) ∨ (m_K μ r = 12 ∧ fw_C g f 0 0 yX11_of (ws_ yX11_of cX11_of 6 (some .long)) [fw_rv g r, fw_rv g v] μ (fw_Ql P) fw_nX)
theorem cf_X0_97_X9_of : fw_LF RX0 97 RX9 ⟨"SpoonScales$Sum", "of", "(LSpoonScales$View;)J"⟩ yX9_of cX9_of 2 (some .long) 1 := ⟨lw_app (lw_in _ [333, 337, 339, 92] (by decide +kernel) (by decide +kernel)) (lw_meth q341), by decide +kernel, by decide +kernel, by decide +kernel, by decide +kernel⟩
theorem cf_X0_97_X8_of : fw_LF RX0 97 RX8 ⟨"SpoonScales$Sum", "of", "(LSpoonScales$View;)J"⟩ yX8_of cX8_of 2 (some .long) 1 := ⟨lw_app (lw_in _ [333, 359, 361, 91] (by decide +kernel) (by decide +kernel)) (lw_meth q363), by decide +kernel, by decide +kernel, by decide +kernel, by decide +kernel⟩
theorem cf_X0_97_X10_of : fw_LF RX0 97 RX10 ⟨"SpoonScales$Sum", "of", "(LSpoonScales$View;)J"⟩ yX10_of cX10_of 2 (some .long) 1 := ⟨lw_app (lw_in _ [333, 343, 345, 93] (by decide +kernel) (by decide +kernel)) (lw_meth q347), by decide +kernel, by decide +kernel, by decide +kernel, by decide +kernel⟩
theorem cf_X0_97_X11_of : fw_LF RX0 97 RX11 ⟨"SpoonScales$Sum", "of", "(LSpoonScales$View;)J"⟩ yX11_of cX11_of 6 (some .long) 1 := ⟨lw_app (lw_in _ [333, 351, 353, 94] (by decide +kernel) (by decide +kernel)) (lw_meth q355), by decide +kernel, by decide +kernel, by decide +kernel, by decide +kernel⟩
theorem cf_X0_97 {g : fw_G} {K : fw_Kt} {f bc bs pc f1 count : Nat} {Ls : List (Nat × Value)} {st : List Value} {μ : fw_M} {Q : Option Value → fw_M → Prop} {X : Nat → fw_M → Prop} {r v : Nat} {P : Int64 → fw_M → Prop} (hown : K.1 = RX0) (hf : f1 + 1 ≤ f) (hst : (st.map fun v => v.category).sum ≤ 8) (d : decode K.2.2.1 pc = .ok (.invokeinterface 97 count, 5)) (hD : fw_D_Sum_of g f1 r v μ P) (kk : ∀ v9 μ', fw_Ql P v9 μ' → fw_sub μ μ' → fw_V g K f bc bs (pc + 5) Ls (v9.toList ++ st) μ' Q X) : fw_V g K f bc bs pc Ls (fw_rv g v :: fw_rv g r :: st) μ Q X := by
  rcases hD with ⟨hk, hC⟩ | ⟨hk, hC⟩ | ⟨hk, hC⟩ | ⟨hk, hC⟩
  · exact fw_callF1z (by rw [hown]; exact cf_X0_97_X9_of) rfl hk (by decide) hf hst d hC (fun _ _ h9 _ _ => h9.elim) kk
  · exact fw_callF1z (by rw [hown]; exact cf_X0_97_X8_of) rfl hk (by decide) hf hst d hC (fun _ _ h9 _ _ => h9.elim) kk
  · exact fw_callF1z (by rw [hown]; exact cf_X0_97_X10_of) rfl hk (by decide) hf hst d hC (fun _ _ h9 _ _ => h9.elim) kk
  · exact fw_callF1z (by rw [hown]; exact cf_X0_97_X11_of) rfl hk (by decide) hf hst d hC (fun _ _ h9 _ _ => h9.elim) kk
theorem cf_X13_20_X9_of : fw_LF RX13 20 RX9 ⟨"SpoonScales$Sum", "of", "(LSpoonScales$View;)J"⟩ yX9_of cX9_of 2 (some .long) 1 := ⟨lw_app (lw_in _ [428, 337, 339, 92] (by decide +kernel) (by decide +kernel)) (lw_meth q341), by decide +kernel, by decide +kernel, by decide +kernel, by decide +kernel⟩
theorem cf_X13_20_X8_of : fw_LF RX13 20 RX8 ⟨"SpoonScales$Sum", "of", "(LSpoonScales$View;)J"⟩ yX8_of cX8_of 2 (some .long) 1 := ⟨lw_app (lw_in _ [428, 359, 361, 91] (by decide +kernel) (by decide +kernel)) (lw_meth q363), by decide +kernel, by decide +kernel, by decide +kernel, by decide +kernel⟩
theorem cf_X13_20_X10_of : fw_LF RX13 20 RX10 ⟨"SpoonScales$Sum", "of", "(LSpoonScales$View;)J"⟩ yX10_of cX10_of 2 (some .long) 1 := ⟨lw_app (lw_in _ [428, 343, 345, 93] (by decide +kernel) (by decide +kernel)) (lw_meth q347), by decide +kernel, by decide +kernel, by decide +kernel, by decide +kernel⟩
theorem cf_X13_20_X11_of : fw_LF RX13 20 RX11 ⟨"SpoonScales$Sum", "of", "(LSpoonScales$View;)J"⟩ yX11_of cX11_of 6 (some .long) 1 := ⟨lw_app (lw_in _ [428, 351, 353, 94] (by decide +kernel) (by decide +kernel)) (lw_meth q355), by decide +kernel, by decide +kernel, by decide +kernel, by decide +kernel⟩
theorem cf_X13_20 {g : fw_G} {K : fw_Kt} {f bc bs pc f1 count : Nat} {Ls : List (Nat × Value)} {st : List Value} {μ : fw_M} {Q : Option Value → fw_M → Prop} {X : Nat → fw_M → Prop} {r v : Nat} {P : Int64 → fw_M → Prop} (hown : K.1 = RX13) (hf : f1 + 1 ≤ f) (hst : (st.map fun v => v.category).sum ≤ 8) (d : decode K.2.2.1 pc = .ok (.invokeinterface 20 count, 5)) (hD : fw_D_Sum_of g f1 r v μ P) (kk : ∀ v9 μ', fw_Ql P v9 μ' → fw_sub μ μ' → fw_V g K f bc bs (pc + 5) Ls (v9.toList ++ st) μ' Q X) : fw_V g K f bc bs pc Ls (fw_rv g v :: fw_rv g r :: st) μ Q X := by
  rcases hD with ⟨hk, hC⟩ | ⟨hk, hC⟩ | ⟨hk, hC⟩ | ⟨hk, hC⟩
  · exact fw_callF1z (by rw [hown]; exact cf_X13_20_X9_of) rfl hk (by decide) hf hst d hC (fun _ _ h9 _ _ => h9.elim) kk
  · exact fw_callF1z (by rw [hown]; exact cf_X13_20_X8_of) rfl hk (by decide) hf hst d hC (fun _ _ h9 _ _ => h9.elim) kk
  · exact fw_callF1z (by rw [hown]; exact cf_X13_20_X10_of) rfl hk (by decide) hf hst d hC (fun _ _ h9 _ _ => h9.elim) kk
  · exact fw_callF1z (by rw [hown]; exact cf_X13_20_X11_of) rfl hk (by decide) hf hst d hC (fun _ _ h9 _ _ => h9.elim) kk
theorem cf_X10_13_X9_of : fw_LF RX10 13 RX9 ⟨"SpoonScales$Sum", "of", "(LSpoonScales$View;)J"⟩ yX9_of cX9_of 2 (some .long) 1 := ⟨lw_app (lw_in _ [349, 337, 339, 92] (by decide +kernel) (by decide +kernel)) (lw_meth q341), by decide +kernel, by decide +kernel, by decide +kernel, by decide +kernel⟩
theorem cf_X10_13_X8_of : fw_LF RX10 13 RX8 ⟨"SpoonScales$Sum", "of", "(LSpoonScales$View;)J"⟩ yX8_of cX8_of 2 (some .long) 1 := ⟨lw_app (lw_in _ [349, 359, 361, 91] (by decide +kernel) (by decide +kernel)) (lw_meth q363), by decide +kernel, by decide +kernel, by decide +kernel, by decide +kernel⟩
theorem cf_X10_13_X10_of : fw_LF RX10 13 RX10 ⟨"SpoonScales$Sum", "of", "(LSpoonScales$View;)J"⟩ yX10_of cX10_of 2 (some .long) 1 := ⟨lw_app (lw_in _ [349, 343, 345, 93] (by decide +kernel) (by decide +kernel)) (lw_meth q347), by decide +kernel, by decide +kernel, by decide +kernel, by decide +kernel⟩
theorem cf_X10_13_X11_of : fw_LF RX10 13 RX11 ⟨"SpoonScales$Sum", "of", "(LSpoonScales$View;)J"⟩ yX11_of cX11_of 6 (some .long) 1 := ⟨lw_app (lw_in _ [349, 351, 353, 94] (by decide +kernel) (by decide +kernel)) (lw_meth q355), by decide +kernel, by decide +kernel, by decide +kernel, by decide +kernel⟩
theorem cf_X10_13 {g : fw_G} {K : fw_Kt} {f bc bs pc f1 count : Nat} {Ls : List (Nat × Value)} {st : List Value} {μ : fw_M} {Q : Option Value → fw_M → Prop} {X : Nat → fw_M → Prop} {r v : Nat} {P : Int64 → fw_M → Prop} (hown : K.1 = RX10) (hf : f1 + 1 ≤ f) (hst : (st.map fun v => v.category).sum ≤ 8) (d : decode K.2.2.1 pc = .ok (.invokeinterface 13 count, 5)) (hD : fw_D_Sum_of g f1 r v μ P) (kk : ∀ v9 μ', fw_Ql P v9 μ' → fw_sub μ μ' → fw_V g K f bc bs (pc + 5) Ls (v9.toList ++ st) μ' Q X) : fw_V g K f bc bs pc Ls (fw_rv g v :: fw_rv g r :: st) μ Q X := by
  rcases hD with ⟨hk, hC⟩ | ⟨hk, hC⟩ | ⟨hk, hC⟩ | ⟨hk, hC⟩
  · exact fw_callF1z (by rw [hown]; exact cf_X10_13_X9_of) rfl hk (by decide) hf hst d hC (fun _ _ h9 _ _ => h9.elim) kk
  · exact fw_callF1z (by rw [hown]; exact cf_X10_13_X8_of) rfl hk (by decide) hf hst d hC (fun _ _ h9 _ _ => h9.elim) kk
  · exact fw_callF1z (by rw [hown]; exact cf_X10_13_X10_of) rfl hk (by decide) hf hst d hC (fun _ _ h9 _ _ => h9.elim) kk
  · exact fw_callF1z (by rw [hown]; exact cf_X10_13_X11_of) rfl hk (by decide) hf hst d hC (fun _ _ h9 _ _ => h9.elim) kk
theorem cf_X11_20_X9_of : fw_LF RX11 20 RX9 ⟨"SpoonScales$Sum", "of", "(LSpoonScales$View;)J"⟩ yX9_of cX9_of 2 (some .long) 1 := ⟨lw_app (lw_in _ [357, 337, 339, 92] (by decide +kernel) (by decide +kernel)) (lw_meth q341), by decide +kernel, by decide +kernel, by decide +kernel, by decide +kernel⟩
theorem cf_X11_20_X8_of : fw_LF RX11 20 RX8 ⟨"SpoonScales$Sum", "of", "(LSpoonScales$View;)J"⟩ yX8_of cX8_of 2 (some .long) 1 := ⟨lw_app (lw_in _ [357, 359, 361, 91] (by decide +kernel) (by decide +kernel)) (lw_meth q363), by decide +kernel, by decide +kernel, by decide +kernel, by decide +kernel⟩
theorem cf_X11_20_X10_of : fw_LF RX11 20 RX10 ⟨"SpoonScales$Sum", "of", "(LSpoonScales$View;)J"⟩ yX10_of cX10_of 2 (some .long) 1 := ⟨lw_app (lw_in _ [357, 343, 345, 93] (by decide +kernel) (by decide +kernel)) (lw_meth q347), by decide +kernel, by decide +kernel, by decide +kernel, by decide +kernel⟩
theorem cf_X11_20_X11_of : fw_LF RX11 20 RX11 ⟨"SpoonScales$Sum", "of", "(LSpoonScales$View;)J"⟩ yX11_of cX11_of 6 (some .long) 1 := ⟨lw_app (lw_in _ [357, 351, 353, 94] (by decide +kernel) (by decide +kernel)) (lw_meth q355), by decide +kernel, by decide +kernel, by decide +kernel, by decide +kernel⟩
theorem cf_X11_20 {g : fw_G} {K : fw_Kt} {f bc bs pc f1 count : Nat} {Ls : List (Nat × Value)} {st : List Value} {μ : fw_M} {Q : Option Value → fw_M → Prop} {X : Nat → fw_M → Prop} {r v : Nat} {P : Int64 → fw_M → Prop} (hown : K.1 = RX11) (hf : f1 + 1 ≤ f) (hst : (st.map fun v => v.category).sum ≤ 8) (d : decode K.2.2.1 pc = .ok (.invokeinterface 20 count, 5)) (hD : fw_D_Sum_of g f1 r v μ P) (kk : ∀ v9 μ', fw_Ql P v9 μ' → fw_sub μ μ' → fw_V g K f bc bs (pc + 5) Ls (v9.toList ++ st) μ' Q X) : fw_V g K f bc bs pc Ls (fw_rv g v :: fw_rv g r :: st) μ Q X := by
  rcases hD with ⟨hk, hC⟩ | ⟨hk, hC⟩ | ⟨hk, hC⟩ | ⟨hk, hC⟩
  · exact fw_callF1z (by rw [hown]; exact cf_X11_20_X9_of) rfl hk (by decide) hf hst d hC (fun _ _ h9 _ _ => h9.elim) kk
  · exact fw_callF1z (by rw [hown]; exact cf_X11_20_X8_of) rfl hk (by decide) hf hst d hC (fun _ _ h9 _ _ => h9.elim) kk
  · exact fw_callF1z (by rw [hown]; exact cf_X11_20_X10_of) rfl hk (by decide) hf hst d hC (fun _ _ h9 _ _ => h9.elim) kk
  · exact fw_callF1z (by rw [hown]; exact cf_X11_20_X11_of) rfl hk (by decide) hf hst d hC (fun _ _ h9 _ _ => h9.elim) kk
abbrev K_X9_of : fw_Kt := (RX9, "of", cX9_of, 2, some .long, [])
def p_X9_of (r0 : Nat) (r1 : Nat) (μ : fw_M) (Q : Int64 → fw_M → Prop) : Prop :=
  Q ((m_I μ r0 0).toInt64) μ
set_option maxHeartbeats 4000000 in
theorem w_X9_of {g : fw_G} {f bc bs : Nat} {r0 : Nat} {r1 : Nat} {μ : fw_M} {Q : Int64 → fw_M → Prop} (hf : 1 ≤ f) (hx : m_K μ r0 = 10) (h : p_X9_of r0 r1 μ Q) : fw_C g f bc bs yX9_of (ws_ yX9_of cX9_of 2 (some .long)) [fw_rv g r0, fw_rv g r1] μ (fw_Ql Q) fw_nX := by
  unfold p_X9_of at h
  refine fw_intro' (Ls := [(0, fw_rv g r0), (1, fw_rv g r1)]) (by decide +kernel) (by simp [lg_sl, fw_cat, fw_ci, fw_clo]) (by simp [lv_args, fw_cat, fw_ci, fw_clo]) ?_
  show fw_V g K_X9_of f bc bs 0 [(0, fw_rv g r0), (1, fw_rv g r1)] [] μ (fw_Ql Q) fw_nX
  refine fw_aload_n dX9_of_0 rfl rfl ?_
  refine fw_getfI fl_X9_7 rfl hx dX9_of_1 ?_
  refine fw_i2l dX9_of_4 ?_
  exact fw_lreturn dX9_of_5 rfl ⟨_, rfl, h⟩
abbrev K_X4_word : fw_Kt := (RX4, "word", cX4_word, 2, some .int, [])
def p_X4_word (r0 : Nat) (i1 : Int32) (μ : fw_M) (Q : Int32 → fw_M → Prop) : Prop :=
  (m_K μ (m_P μ r0 0) = 100 ∧ (vp_in i1 (m_N μ (m_P μ r0 0)) ∧ Q (m_I μ (m_P μ r0 0) i1.toNatClampNeg) μ))
set_option maxHeartbeats 4000000 in
theorem w_X4_word {g : fw_G} {f bc bs : Nat} {r0 : Nat} {i1 : Int32} {μ : fw_M} {Q : Int32 → fw_M → Prop} (hf : 1 ≤ f) (hx : m_K μ r0 = 5) (h : p_X4_word r0 i1 μ Q) : fw_C g f bc bs yX4_word (ws_ yX4_word cX4_word 2 (some .int)) [fw_rv g r0, Value.int i1] μ (fw_Qi Q) fw_nX := by
  unfold p_X4_word at h
  refine fw_intro' (Ls := [(0, fw_rv g r0), (1, Value.int i1)]) (by decide +kernel) (by simp [lg_sl, fw_cat, fw_ci, fw_clo]) (by simp [lv_args, fw_cat, fw_ci, fw_clo]) ?_
  show fw_V g K_X4_word f bc bs 0 [(0, fw_rv g r0), (1, Value.int i1)] [] μ (fw_Qi Q) fw_nX
  refine fw_aload_n dX4_word_0 rfl rfl ?_
  refine fw_getfP fl_X4_7 rfl hx dX4_word_1 ?_
  refine fw_iload_n dX4_word_4 rfl rfl ?_
  obtain ⟨hg1, h⟩ := h
  obtain ⟨hc2, h⟩ := h
  refine fw_iald hg1 hc2 dX4_word_5 ?_
  exact fw_ireturn dX4_word_6 rfl rfl ⟨_, rfl, h⟩
abbrev K_X8_of : fw_Kt := (RX8, "of", cX8_of, 2, some .long, [])
def p_X8_of (r0 : Nat) (r1 : Nat) (μ : fw_M) (Q : Int64 → fw_M → Prop) : Prop :=
  (m_K μ r1 = 5 ∧ (p_X4_word r1 (m_I μ r0 0) μ (fun v2 μ3 =>
  Q v2.toInt64 μ3)))
set_option maxHeartbeats 4000000 in
theorem w_X8_of {g : fw_G} {f bc bs : Nat} {r0 : Nat} {r1 : Nat} {μ : fw_M} {Q : Int64 → fw_M → Prop} (hf : 2 ≤ f) (hx : m_K μ r0 = 9) (h : p_X8_of r0 r1 μ Q) : fw_C g f bc bs yX8_of (ws_ yX8_of cX8_of 2 (some .long)) [fw_rv g r0, fw_rv g r1] μ (fw_Ql Q) fw_nX := by
  unfold p_X8_of at h
  refine fw_intro' (Ls := [(0, fw_rv g r0), (1, fw_rv g r1)]) (by decide +kernel) (by simp [lg_sl, fw_cat, fw_ci, fw_clo]) (by simp [lv_args, fw_cat, fw_ci, fw_clo]) ?_
  show fw_V g K_X8_of f bc bs 0 [(0, fw_rv g r0), (1, fw_rv g r1)] [] μ (fw_Ql Q) fw_nX
  refine fw_aload_n dX8_of_0 rfl rfl ?_
  refine fw_aload_n dX8_of_1 rfl rfl ?_
  refine fw_getfI fl_X8_7 rfl hx dX8_of_2 ?_
  obtain ⟨hg1, h⟩ := h
  refine fw_callA1z (f1 := f - 1) cl_X8_13 rfl hg1 (by decide) (by omega) (fw_s4 (Nat.le_of_ble_eq_true rfl)) dX8_of_5 (w_X4_word (f := f - 1) (by omega) hg1 h) (fun _ _ h9 _ _ => h9.elim) (fun v9 μ3 q9 hs4 => ?_)
  obtain ⟨v2, rfl, h⟩ := q9
  refine fw_ti ?_
  have hg5 := hs4.K hx (by decide)
  have hg6 := hs4.K hg1 (by decide)
  refine fw_i2l dX8_of_8 ?_
  exact fw_lreturn dX8_of_9 rfl ⟨_, rfl, h⟩
abbrev K_X10_of : fw_Kt := (RX10, "of", cX10_of, 2, some .long, [])
def p_X10_of (k_Sum_of : Nat → Nat → fw_M → (Int64 → fw_M → Prop) → Prop) (r0 : Nat) (r1 : Nat) (μ : fw_M) (Q : Int64 → fw_M → Prop) : Prop :=
  (k_Sum_of (m_P μ r0 0) r1 μ (fun w1 μ2 =>
  Q (-w1) μ2))
set_option maxHeartbeats 4000000 in
theorem w_X10_of {g : fw_G} {f bc bs : Nat} {k_Sum_of : Nat → Nat → fw_M → (Int64 → fw_M → Prop) → Prop} {r0 : Nat} {r1 : Nat} {μ : fw_M} {Q : Int64 → fw_M → Prop} (hf : 1 ≤ f) (hk_Sum_of : ∀ {r9 v9 : Nat} {μ9 : fw_M} {Q9 : Int64 → fw_M → Prop}, k_Sum_of r9 v9 μ9 Q9 → fw_D_Sum_of g (f - 1) r9 v9 μ9 Q9) (hx : m_K μ r0 = 11) (h : p_X10_of k_Sum_of r0 r1 μ Q) : fw_C g f bc bs yX10_of (ws_ yX10_of cX10_of 2 (some .long)) [fw_rv g r0, fw_rv g r1] μ (fw_Ql Q) fw_nX := by
  unfold p_X10_of at h
  refine fw_intro' (Ls := [(0, fw_rv g r0), (1, fw_rv g r1)]) (by decide +kernel) (by simp [lg_sl, fw_cat, fw_ci, fw_clo]) (by simp [lv_args, fw_cat, fw_ci, fw_clo]) ?_
  show fw_V g K_X10_of f bc bs 0 [(0, fw_rv g r0), (1, fw_rv g r1)] [] μ (fw_Ql Q) fw_nX
  refine fw_aload_n dX10_of_0 rfl rfl ?_
  refine fw_getfP fl_X10_7 rfl hx dX10_of_1 ?_
  refine fw_aload_n dX10_of_4 rfl rfl ?_
  refine cf_X10_13 (f1 := f - 1) rfl (by omega) (fw_s4 (Nat.le_of_ble_eq_true rfl)) dX10_of_5 (hk_Sum_of h) (fun v9 μ2 q9 hs3 => ?_)
  obtain ⟨w1, rfl, h⟩ := q9
  refine fw_tl ?_
  have hg4 := hs3.K hx (by decide)
  refine fw_lneg dX10_of_10 ?_
  exact fw_lreturn dX10_of_11 rfl ⟨_, rfl, h⟩
abbrev K_X19_bound : fw_Kt := (RX19, "bound", cX19_bound, 3, some .long, [])
def p_X19_bound (r0 : Nat) (l1 : Int64) (μ : fw_M) (Q : Int64 → fw_M → Prop) : Prop :=
  (if (1000000 : Int64) < l1 then
  (Q (1000000 : Int64) μ)
  else
  ((if l1 < (-1000000 : Int64) then
   (Q (-1000000 : Int64) μ)
   else
   (Q l1 μ))))
set_option maxHeartbeats 4000000 in
theorem w_X19_bound {g : fw_G} {f bc bs : Nat} {r0 : Nat} {l1 : Int64} {μ : fw_M} {Q : Int64 → fw_M → Prop} (hf : 1 ≤ f) (hx : m_K μ r0 = 12) (h : p_X19_bound r0 l1 μ Q) : fw_C g f bc bs yX19_bound (ws_ yX19_bound cX19_bound 3 (some .long)) [fw_rv g r0, Value.long l1] μ (fw_Ql Q) fw_nX := by
  unfold p_X19_bound at h
  refine fw_intro' (Ls := [(0, fw_rv g r0), (1, Value.long l1)]) (by decide +kernel) (by simp [lg_sl, fw_cat, fw_ci, fw_clo]) (by simp [lv_args, fw_cat, fw_ci, fw_clo]) ?_
  show fw_V g K_X19_bound f bc bs 0 [(0, fw_rv g r0), (1, Value.long l1)] [] μ (fw_Ql Q) fw_nX
  refine fw_lload_n dX19_bound_0 rfl rfl ?_
  refine fw_ldc2 q376 dX19_bound_1 ?_
  refine fw_lle (tgt := 14) dX19_bound_4 dX19_bound_5 (by decide) (fun c1 => ?_) (fun c1 => ?_)
  · have h := fw_if h c1
    refine fw_lload_n dX19_bound_14 rfl rfl ?_
    refine fw_ldc2 q377 dX19_bound_15 ?_
    refine fw_lge (tgt := 28) dX19_bound_18 dX19_bound_19 (by decide) (fun c2 => ?_) (fun c2 => ?_)
    · have h := fw_if h c2
      refine fw_lload_n dX19_bound_28 rfl rfl ?_
      exact fw_lreturn dX19_bound_29 rfl ⟨_, rfl, h⟩
    · have h := fw_it h c2
      refine fw_ldc2 q377 dX19_bound_22 ?_
      refine fw_goto (tgt := 29) dX19_bound_25 (by decide) ?_
      exact fw_lreturn dX19_bound_29 rfl ⟨_, rfl, h⟩
  · have h := fw_it h c1
    refine fw_ldc2 q376 dX19_bound_8 ?_
    refine fw_goto (tgt := 29) dX19_bound_11 (by decide) ?_
    exact fw_lreturn dX19_bound_29 rfl ⟨_, rfl, h⟩
abbrev K_X11_of : fw_Kt := (RX11, "of", cX11_of, 6, some .long, [])
def p_X11_of (k_Sum_of : Nat → Nat → fw_M → (Int64 → fw_M → Prop) → Prop) (r0 : Nat) (r1 : Nat) (μ : fw_M) (Q : Int64 → fw_M → Prop) : Prop :=
  (k_Sum_of (m_P μ r0 1) r1 μ (fun w1 μ2 =>
  (k_Sum_of (m_P μ2 r0 2) r1 μ2 (fun w5 μ6 =>
  (if (m_I μ6 r0 0) = 42 then
  ((p_X19_bound r0 (w1 * w5) μ6 (fun w10 μ11 =>
   Q w10 μ11)))
  else (if (m_I μ6 r0 0) = 43 then
  ((p_X19_bound r0 (w1 + w5) μ6 (fun w15 μ16 =>
   Q w15 μ16)))
  else (if (m_I μ6 r0 0) = 44 then
  ((if w5 = (0 : Int64) then
   (Q (0 : Int64) μ6)
   else
   ((¬ w5 = 0 ∧ Q (w1 / w5) μ6))))
  else (if (m_I μ6 r0 0) = 45 then
  ((p_X19_bound r0 (w1 - w5) μ6 (fun w23 μ24 =>
   Q w23 μ24)))
  else (if w5 = (0 : Int64) then
   (Q (0 : Int64) μ6)
   else
   ((¬ w5 = 0 ∧ Q (w1 / w5) μ6)))))))))))
set_option maxHeartbeats 4000000 in
theorem w_X11_of {g : fw_G} {f bc bs : Nat} {k_Sum_of : Nat → Nat → fw_M → (Int64 → fw_M → Prop) → Prop} {r0 : Nat} {r1 : Nat} {μ : fw_M} {Q : Int64 → fw_M → Prop} (hf : 2 ≤ f) (hk_Sum_of : ∀ {r9 v9 : Nat} {μ9 : fw_M} {Q9 : Int64 → fw_M → Prop}, k_Sum_of r9 v9 μ9 Q9 → fw_D_Sum_of g (f - 1) r9 v9 μ9 Q9) (hx : m_K μ r0 = 12) (h : p_X11_of k_Sum_of r0 r1 μ Q) : fw_C g f bc bs yX11_of (ws_ yX11_of cX11_of 6 (some .long)) [fw_rv g r0, fw_rv g r1] μ (fw_Ql Q) fw_nX := by
  unfold p_X11_of at h
  refine fw_intro' (Ls := [(0, fw_rv g r0), (1, fw_rv g r1)]) (by decide +kernel) (by simp [lg_sl, fw_cat, fw_ci, fw_clo]) (by simp [lv_args, fw_cat, fw_ci, fw_clo]) ?_
  show fw_V g K_X11_of f bc bs 0 [(0, fw_rv g r0), (1, fw_rv g r1)] [] μ (fw_Ql Q) fw_nX
  refine fw_aload_n dX11_of_0 rfl rfl ?_
  refine fw_getfP fl_X11_13 rfl hx dX11_of_1 ?_
  refine fw_aload_n dX11_of_4 rfl rfl ?_
  refine cf_X11_20 (f1 := f - 1) rfl (by omega) (fw_s4 (Nat.le_of_ble_eq_true rfl)) dX11_of_5 (hk_Sum_of h) (fun v9 μ2 q9 hs3 => ?_)
  obtain ⟨w1, rfl, h⟩ := q9
  refine fw_tl ?_
  have hg4 := hs3.K hx (by decide)
  refine fw_lstore_nN (Ls' := [(2, Value.long w1), (1, fw_rv g r1), (0, fw_rv g r0)]) [0] dX11_of_10 rfl (by decide) rfl rfl rfl (fw_cat _) rfl ?_
  refine fw_aload_n dX11_of_11 rfl rfl ?_
  refine fw_getfP fl_X11_17 rfl hg4 dX11_of_12 ?_
  refine fw_aload_n dX11_of_15 rfl rfl ?_
  refine cf_X11_20 (f1 := f - 1) rfl (by omega) (fw_s4 (Nat.le_of_ble_eq_true rfl)) dX11_of_16 (hk_Sum_of h) (fun v9 μ6 q9 hs7 => ?_)
  obtain ⟨w5, rfl, h⟩ := q9
  refine fw_tl ?_
  have hg8 := hs7.K hg4 (by decide)
  refine fw_lstore (Ls' := [(4, Value.long w5), (2, Value.long w1), (1, fw_rv g r1), (0, fw_rv g r0)]) [0, 1, 2] dX11_of_21 (by decide) rfl rfl ?_
  refine fw_aload_n dX11_of_23 rfl rfl ?_
  refine fw_getfI fl_X11_7 rfl hg8 dX11_of_24 ?_
  refine fw_sw (k := 42) h (fun c9 h => ?_) (fun c9 h => ?_)
  · refine fw_tableIn (tgt := 74) dX11_of_27 (by rw [c9]; decide) (by rw [c9]; decide) (by rw [c9]; rfl) (by decide) ?_
    refine fw_aload_n dX11_of_74 rfl rfl ?_
    refine fw_lload_n dX11_of_75 rfl rfl ?_
    refine fw_lload dX11_of_76 rfl ?_
    refine fw_lmul dX11_of_78 ?_
    refine fw_callD1z (f1 := f - 1) cl_X11_26 rfl hg8 (by decide) (by omega) (fw_s4 (Nat.le_of_ble_eq_true rfl)) dX11_of_79 (w_X19_bound (f := f - 1) (by omega) hg8 h) (fun _ _ h9 _ _ => h9.elim) (fun v9 μ11 q9 hs12 => ?_)
    obtain ⟨w10, rfl, h⟩ := q9
    refine fw_tl ?_
    have hg13 := hs12.K hg8 (by decide)
    exact fw_lreturn dX11_of_82 rfl ⟨_, rfl, h⟩
  · refine fw_sw (k := 43) h (fun c14 h => ?_) (fun c14 h => ?_)
    · refine fw_tableIn (tgt := 56) dX11_of_27 (by rw [c14]; decide) (by rw [c14]; decide) (by rw [c14]; rfl) (by decide) ?_
      refine fw_aload_n dX11_of_56 rfl rfl ?_
      refine fw_lload_n dX11_of_57 rfl rfl ?_
      refine fw_lload dX11_of_58 rfl ?_
      refine fw_ladd dX11_of_60 ?_
      refine fw_callD1z (f1 := f - 1) cl_X11_26 rfl hg8 (by decide) (by omega) (fw_s4 (Nat.le_of_ble_eq_true rfl)) dX11_of_61 (w_X19_bound (f := f - 1) (by omega) hg8 h) (fun _ _ h9 _ _ => h9.elim) (fun v9 μ16 q9 hs17 => ?_)
      obtain ⟨w15, rfl, h⟩ := q9
      refine fw_tl ?_
      have hg18 := hs17.K hg8 (by decide)
      exact fw_lreturn dX11_of_64 rfl ⟨_, rfl, h⟩
    · refine fw_sw (k := 44) h (fun c19 h => ?_) (fun c19 h => ?_)
      · refine fw_tableIn (tgt := 83) dX11_of_27 (by rw [c19]; decide) (by rw [c19]; decide) (by rw [c19]; rfl) (by decide) ?_
        refine fw_lload dX11_of_83 rfl ?_
        refine fw_lconst (v := 0) dX11_of_85 (by decide) ?_
        refine fw_lne (tgt := 94) dX11_of_86 dX11_of_87 (by decide) (fun c20 => ?_) (fun c20 => ?_)
        · have h := fw_if h c20
          refine fw_lload_n dX11_of_94 rfl rfl ?_
          refine fw_lload dX11_of_95 rfl ?_
          obtain ⟨hc21, h⟩ := h
          refine fw_ldiv dX11_of_97 hc21 ?_
          exact fw_lreturn dX11_of_98 rfl ⟨_, rfl, h⟩
        · have h := fw_it h c20
          refine fw_lconst (v := 0) dX11_of_90 (by decide) ?_
          refine fw_goto (tgt := 98) dX11_of_91 (by decide) ?_
          exact fw_lreturn dX11_of_98 rfl ⟨_, rfl, h⟩
      · refine fw_sw (k := 45) h (fun c22 h => ?_) (fun c22 h => ?_)
        · refine fw_tableIn (tgt := 65) dX11_of_27 (by rw [c22]; decide) (by rw [c22]; decide) (by rw [c22]; rfl) (by decide) ?_
          refine fw_aload_n dX11_of_65 rfl rfl ?_
          refine fw_lload_n dX11_of_66 rfl rfl ?_
          refine fw_lload dX11_of_67 rfl ?_
          refine fw_lsub dX11_of_69 ?_
          refine fw_callD1z (f1 := f - 1) cl_X11_26 rfl hg8 (by decide) (by omega) (fw_s4 (Nat.le_of_ble_eq_true rfl)) dX11_of_70 (w_X19_bound (f := f - 1) (by omega) hg8 h) (fun _ _ h9 _ _ => h9.elim) (fun v9 μ24 q9 hs25 => ?_)
          obtain ⟨w23, rfl, h⟩ := q9
          refine fw_tl ?_
          have hg26 := hs25.K hg8 (by decide)
          exact fw_lreturn dX11_of_73 rfl ⟨_, rfl, h⟩
        · have nc9 := lv_neT c9 (k := 42) (a := 42) (by decide)
          have nc14 := lv_neT c14 (k := 43) (a := 43) (by decide)
          have nc19 := lv_neT c19 (k := 44) (a := 44) (by decide)
          have nc22 := lv_neT c22 (k := 45) (a := 45) (by decide)
          refine fw_tableOut (tgt := 83) dX11_of_27 (by omega) (by decide) ?_
          refine fw_lload dX11_of_83 rfl ?_
          refine fw_lconst (v := 0) dX11_of_85 (by decide) ?_
          refine fw_lne (tgt := 94) dX11_of_86 dX11_of_87 (by decide) (fun c27 => ?_) (fun c27 => ?_)
          · have h := fw_if h c27
            refine fw_lload_n dX11_of_94 rfl rfl ?_
            refine fw_lload dX11_of_95 rfl ?_
            obtain ⟨hc28, h⟩ := h
            refine fw_ldiv dX11_of_97 hc28 ?_
            exact fw_lreturn dX11_of_98 rfl ⟨_, rfl, h⟩
          · have h := fw_it h c27
            refine fw_lconst (v := 0) dX11_of_90 (by decide) ?_
            refine fw_goto (tgt := 98) dX11_of_91 (by decide) ?_
            exact fw_lreturn dX11_of_98 rfl ⟨_, rfl, h⟩
def p_Sum_of_d : Nat → Nat → Nat → fw_M → (Int64 → fw_M → Prop) → Prop
  | 0 => fun _ _ _ _ => False
  | d + 1 => fun r v μ P => if m_K μ r = 10 then p_X9_of r v μ P else if m_K μ r = 9 then p_X8_of r v μ P else if m_K μ r = 11 then p_X10_of (p_Sum_of_d d) r v μ P else if m_K μ r = 12 then p_X11_of (p_Sum_of_d d) r v μ P else False
theorem w_Sum_of_d {g : fw_G} : ∀ (d f : Nat) {r v : Nat} {μ : fw_M} {P : Int64 → fw_M → Prop}, 2 + d ≤ f → p_Sum_of_d d r v μ P → fw_D_Sum_of g f r v μ P := by
  intro d
  induction d with
  | zero => intro f r v μ P _ h; exact h.elim
  | succ d ih =>
    intro f r v μ P hf h
    unfold p_Sum_of_d at h
    by_cases c0 : m_K μ r = 10
    · exact Or.inl ⟨c0, w_X9_of (by omega) c0 (fw_it h c0)⟩
    have h := fw_if h c0
    by_cases c1 : m_K μ r = 9
    · exact Or.inr (Or.inl ⟨c1, w_X8_of (by omega) c1 (fw_it h c1)⟩)
    have h := fw_if h c1
    by_cases c2 : m_K μ r = 11
    · exact Or.inr (Or.inr (Or.inl ⟨c2, w_X10_of (by omega) (fun h9 => ih (f - 1) (by omega) h9) c2 (fw_it h c2)⟩))
    have h := fw_if h c2
    by_cases c3 : m_K μ r = 12
    · exact Or.inr (Or.inr (Or.inr (⟨c3, w_X11_of (by omega) (fun h9 => ih (f - 1) (by omega) h9) c3 (fw_it h c3)⟩)))
    have h := fw_if h c3
    exact h.elim
def pc_Sum_of (r v : Nat) (μ : fw_M) (P : Int64 → fw_M → Prop) : Prop := ∃ d, d ≤ 400 ∧ p_Sum_of_d d r v μ P
theorem wc_Sum_of {g : fw_G} {f r v : Nat} {μ : fw_M} {P : Int64 → fw_M → Prop} (hf : 402 ≤ f) (h : pc_Sum_of r v μ P) : fw_D_Sum_of g f r v μ P := by
  obtain ⟨d, hd, h⟩ := h
  exact w_Sum_of_d d f (by omega) h
/-- a call through the interface: the receiver is of one of its classes, whose contract holds -/
def fw_D_Ask_is (g : fw_G) (f r v : Nat) (μ : fw_M) (P : Int32 → fw_M → Prop) : Prop := (m_K μ r = 14 ∧ fw_C g f 0 0 yX13_is (ws_ yX13_is cX13_is 6 (some .boolean)) [fw_rv g r, fw_rv g v] μ (fw_Qi P) fw_nX) ∨ (m_K μ r = 13 ∧ fw_C g f 0 0 yX12_is (ws_ yX12_is cX12_is 2 (some .boolean)) [fw_rv g r, fw_rv g v] μ (fw_Qi P) fw_nX) ∨ (m_K μ r = 15 ∧ fw_C g f 0 0 yX14_is (ws_ yX14_is cX14_is 4 (some .boolean)) [fw_rv g r, fw_rv g v] μ (fw_Qi P) fw_nX)
theorem cf_X0_140_X13_is : fw_LF RX0 140 RX13 ⟨"SpoonScales$Ask", "is", "(LSpoonScales$View;)Z"⟩ yX13_is cX13_is 6 (some .boolean) 1 := ⟨lw_app (lw_in _ [410, 422, 424, 96] (by decide +kernel) (by decide +kernel)) (lw_meth q426), by decide +kernel, by decide +kernel, by decide +kernel, by decide +kernel⟩
theorem cf_X0_140_X12_is : fw_LF RX0 140 RX12 ⟨"SpoonScales$Ask", "is", "(LSpoonScales$View;)Z"⟩ yX12_is cX12_is 2 (some .boolean) 1 := ⟨lw_app (lw_in _ [410, 430, 432, 95] (by decide +kernel) (by decide +kernel)) (lw_meth q434), by decide +kernel, by decide +kernel, by decide +kernel, by decide +kernel⟩
theorem cf_X0_140_X14_is : fw_LF RX0 140 RX14 ⟨"SpoonScales$Ask", "is", "(LSpoonScales$View;)Z"⟩ yX14_is cX14_is 4 (some .boolean) 1 := ⟨lw_app (lw_in _ [410, 414, 416, 97] (by decide +kernel) (by decide +kernel)) (lw_meth q418), by decide +kernel, by decide +kernel, by decide +kernel, by decide +kernel⟩
theorem cf_X0_140 {g : fw_G} {K : fw_Kt} {f bc bs pc f1 count : Nat} {Ls : List (Nat × Value)} {st : List Value} {μ : fw_M} {Q : Option Value → fw_M → Prop} {X : Nat → fw_M → Prop} {r v : Nat} {P : Int32 → fw_M → Prop} (hown : K.1 = RX0) (hf : f1 + 1 ≤ f) (hst : (st.map fun v => v.category).sum ≤ 8) (d : decode K.2.2.1 pc = .ok (.invokeinterface 140 count, 5)) (hD : fw_D_Ask_is g f1 r v μ P) (kk : ∀ v9 μ', fw_Qi P v9 μ' → fw_sub μ μ' → fw_V g K f bc bs (pc + 5) Ls (v9.toList ++ st) μ' Q X) : fw_V g K f bc bs pc Ls (fw_rv g v :: fw_rv g r :: st) μ Q X := by
  rcases hD with ⟨hk, hC⟩ | ⟨hk, hC⟩ | ⟨hk, hC⟩
  · exact fw_callF1z (by rw [hown]; exact cf_X0_140_X13_is) rfl hk (by decide) hf hst d hC (fun _ _ h9 _ _ => h9.elim) kk
  · exact fw_callF1z (by rw [hown]; exact cf_X0_140_X12_is) rfl hk (by decide) hf hst d hC (fun _ _ h9 _ _ => h9.elim) kk
  · exact fw_callF1z (by rw [hown]; exact cf_X0_140_X14_is) rfl hk (by decide) hf hst d hC (fun _ _ h9 _ _ => h9.elim) kk
theorem cf_X14_20_X13_is : fw_LF RX14 20 RX13 ⟨"SpoonScales$Ask", "is", "(LSpoonScales$View;)Z"⟩ yX13_is cX13_is 6 (some .boolean) 1 := ⟨lw_app (lw_in _ [420, 422, 424, 96] (by decide +kernel) (by decide +kernel)) (lw_meth q426), by decide +kernel, by decide +kernel, by decide +kernel, by decide +kernel⟩
theorem cf_X14_20_X12_is : fw_LF RX14 20 RX12 ⟨"SpoonScales$Ask", "is", "(LSpoonScales$View;)Z"⟩ yX12_is cX12_is 2 (some .boolean) 1 := ⟨lw_app (lw_in _ [420, 430, 432, 95] (by decide +kernel) (by decide +kernel)) (lw_meth q434), by decide +kernel, by decide +kernel, by decide +kernel, by decide +kernel⟩
theorem cf_X14_20_X14_is : fw_LF RX14 20 RX14 ⟨"SpoonScales$Ask", "is", "(LSpoonScales$View;)Z"⟩ yX14_is cX14_is 4 (some .boolean) 1 := ⟨lw_app (lw_in _ [420, 414, 416, 97] (by decide +kernel) (by decide +kernel)) (lw_meth q418), by decide +kernel, by decide +kernel, by decide +kernel, by decide +kernel⟩
theorem cf_X14_20 {g : fw_G} {K : fw_Kt} {f bc bs pc f1 count : Nat} {Ls : List (Nat × Value)} {st : List Value} {μ : fw_M} {Q : Option Value → fw_M → Prop} {X : Nat → fw_M → Prop} {r v : Nat} {P : Int32 → fw_M → Prop} (hown : K.1 = RX14) (hf : f1 + 1 ≤ f) (hst : (st.map fun v => v.category).sum ≤ 8) (d : decode K.2.2.1 pc = .ok (.invokeinterface 20 count, 5)) (hD : fw_D_Ask_is g f1 r v μ P) (kk : ∀ v9 μ', fw_Qi P v9 μ' → fw_sub μ μ' → fw_V g K f bc bs (pc + 5) Ls (v9.toList ++ st) μ' Q X) : fw_V g K f bc bs pc Ls (fw_rv g v :: fw_rv g r :: st) μ Q X := by
  rcases hD with ⟨hk, hC⟩ | ⟨hk, hC⟩ | ⟨hk, hC⟩
  · exact fw_callF1z (by rw [hown]; exact cf_X14_20_X13_is) rfl hk (by decide) hf hst d hC (fun _ _ h9 _ _ => h9.elim) kk
  · exact fw_callF1z (by rw [hown]; exact cf_X14_20_X12_is) rfl hk (by decide) hf hst d hC (fun _ _ h9 _ _ => h9.elim) kk
  · exact fw_callF1z (by rw [hown]; exact cf_X14_20_X14_is) rfl hk (by decide) hf hst d hC (fun _ _ h9 _ _ => h9.elim) kk
theorem cf_X12_13_X13_is : fw_LF RX12 13 RX13 ⟨"SpoonScales$Ask", "is", "(LSpoonScales$View;)Z"⟩ yX13_is cX13_is 6 (some .boolean) 1 := ⟨lw_app (lw_in _ [436, 422, 424, 96] (by decide +kernel) (by decide +kernel)) (lw_meth q426), by decide +kernel, by decide +kernel, by decide +kernel, by decide +kernel⟩
theorem cf_X12_13_X12_is : fw_LF RX12 13 RX12 ⟨"SpoonScales$Ask", "is", "(LSpoonScales$View;)Z"⟩ yX12_is cX12_is 2 (some .boolean) 1 := ⟨lw_app (lw_in _ [436, 430, 432, 95] (by decide +kernel) (by decide +kernel)) (lw_meth q434), by decide +kernel, by decide +kernel, by decide +kernel, by decide +kernel⟩
theorem cf_X12_13_X14_is : fw_LF RX12 13 RX14 ⟨"SpoonScales$Ask", "is", "(LSpoonScales$View;)Z"⟩ yX14_is cX14_is 4 (some .boolean) 1 := ⟨lw_app (lw_in _ [436, 414, 416, 97] (by decide +kernel) (by decide +kernel)) (lw_meth q418), by decide +kernel, by decide +kernel, by decide +kernel, by decide +kernel⟩
theorem cf_X12_13 {g : fw_G} {K : fw_Kt} {f bc bs pc f1 count : Nat} {Ls : List (Nat × Value)} {st : List Value} {μ : fw_M} {Q : Option Value → fw_M → Prop} {X : Nat → fw_M → Prop} {r v : Nat} {P : Int32 → fw_M → Prop} (hown : K.1 = RX12) (hf : f1 + 1 ≤ f) (hst : (st.map fun v => v.category).sum ≤ 8) (d : decode K.2.2.1 pc = .ok (.invokeinterface 13 count, 5)) (hD : fw_D_Ask_is g f1 r v μ P) (kk : ∀ v9 μ', fw_Qi P v9 μ' → fw_sub μ μ' → fw_V g K f bc bs (pc + 5) Ls (v9.toList ++ st) μ' Q X) : fw_V g K f bc bs pc Ls (fw_rv g v :: fw_rv g r :: st) μ Q X := by
  rcases hD with ⟨hk, hC⟩ | ⟨hk, hC⟩ | ⟨hk, hC⟩
  · exact fw_callF1z (by rw [hown]; exact cf_X12_13_X13_is) rfl hk (by decide) hf hst d hC (fun _ _ h9 _ _ => h9.elim) kk
  · exact fw_callF1z (by rw [hown]; exact cf_X12_13_X12_is) rfl hk (by decide) hf hst d hC (fun _ _ h9 _ _ => h9.elim) kk
  · exact fw_callF1z (by rw [hown]; exact cf_X12_13_X14_is) rfl hk (by decide) hf hst d hC (fun _ _ h9 _ _ => h9.elim) kk
abbrev K_X13_is : fw_Kt := (RX13, "is", cX13_is, 6, some .boolean, [])
def p_X13_is (r0 : Nat) (r1 : Nat) (μ : fw_M) (Q : Int32 → fw_M → Prop) : Prop :=
  (pc_Sum_of (m_P μ r0 1) r1 μ (fun w1 μ2 =>
  (pc_Sum_of (m_P μ2 r0 2) r1 μ2 (fun w5 μ6 =>
  (if (m_I μ6 r0 0) = 60 then
  ((if w1 < w5 then
   (Q (1 : Int32) μ6)
   else
   (Q (0 : Int32) μ6)))
  else (if (m_I μ6 r0 0) = 61 then
  ((if w1 = w5 then
   (Q (1 : Int32) μ6)
   else
   (Q (0 : Int32) μ6)))
  else (if (m_I μ6 r0 0) = 62 then
  ((if w5 < w1 then
   (Q (1 : Int32) μ6)
   else
   (Q (0 : Int32) μ6)))
  else (if (m_I μ6 r0 0) = 304 then
  ((if w5 < w1 then
   (Q (0 : Int32) μ6)
   else
   (Q (1 : Int32) μ6)))
  else (if (m_I μ6 r0 0) = 305 then
  ((if w1 < w5 then
   (Q (0 : Int32) μ6)
   else
   (Q (1 : Int32) μ6)))
  else (if w1 = w5 then
   (Q (0 : Int32) μ6)
   else
   (Q (1 : Int32) μ6)))))))))))
set_option maxHeartbeats 4000000 in
theorem w_X13_is {g : fw_G} {f bc bs : Nat} {r0 : Nat} {r1 : Nat} {μ : fw_M} {Q : Int32 → fw_M → Prop} (hf : 403 ≤ f) (hx : m_K μ r0 = 14) (h : p_X13_is r0 r1 μ Q) : fw_C g f bc bs yX13_is (ws_ yX13_is cX13_is 6 (some .boolean)) [fw_rv g r0, fw_rv g r1] μ (fw_Qi Q) fw_nX := by
  unfold p_X13_is at h
  refine fw_intro' (Ls := [(0, fw_rv g r0), (1, fw_rv g r1)]) (by decide +kernel) (by simp [lg_sl, fw_cat, fw_ci, fw_clo]) (by simp [lv_args, fw_cat, fw_ci, fw_clo]) ?_
  show fw_V g K_X13_is f bc bs 0 [(0, fw_rv g r0), (1, fw_rv g r1)] [] μ (fw_Qi Q) fw_nX
  refine fw_aload_n dX13_is_0 rfl rfl ?_
  refine fw_getfP fl_X13_13 rfl hx dX13_is_1 ?_
  refine fw_aload_n dX13_is_4 rfl rfl ?_
  refine cf_X13_20 (f1 := f - 1) rfl (by omega) (fw_s4 (Nat.le_of_ble_eq_true rfl)) dX13_is_5 (wc_Sum_of (f := f - 1) (by omega) h) (fun v9 μ2 q9 hs3 => ?_)
  obtain ⟨w1, rfl, h⟩ := q9
  refine fw_tl ?_
  have hg4 := hs3.K hx (by decide)
  refine fw_lstore_nN (Ls' := [(2, Value.long w1), (1, fw_rv g r1), (0, fw_rv g r0)]) [0] dX13_is_10 rfl (by decide) rfl rfl rfl (fw_cat _) rfl ?_
  refine fw_aload_n dX13_is_11 rfl rfl ?_
  refine fw_getfP fl_X13_17 rfl hg4 dX13_is_12 ?_
  refine fw_aload_n dX13_is_15 rfl rfl ?_
  refine cf_X13_20 (f1 := f - 1) rfl (by omega) (fw_s4 (Nat.le_of_ble_eq_true rfl)) dX13_is_16 (wc_Sum_of (f := f - 1) (by omega) h) (fun v9 μ6 q9 hs7 => ?_)
  obtain ⟨w5, rfl, h⟩ := q9
  refine fw_tl ?_
  have hg8 := hs7.K hg4 (by decide)
  refine fw_lstore (Ls' := [(4, Value.long w5), (2, Value.long w1), (1, fw_rv g r1), (0, fw_rv g r0)]) [0, 1, 2] dX13_is_21 (by decide) rfl rfl ?_
  refine fw_aload_n dX13_is_23 rfl rfl ?_
  refine fw_getfI fl_X13_7 rfl hg8 dX13_is_24 ?_
  refine fw_sw (k := 60) h (fun c9 h => ?_) (fun c9 h => ?_)
  · refine fw_lookup (tgt := 76) (off := 49) dX13_is_27 (by decide) (by rw [c9]; try rfl) (by decide) ?_
    refine fw_lload_n dX13_is_76 rfl rfl ?_
    refine fw_lload dX13_is_77 rfl ?_
    refine fw_lge (tgt := 87) dX13_is_79 dX13_is_80 (by decide) (fun c10 => ?_) (fun c10 => ?_)
    · have h := fw_if h c10
      refine fw_iconst (v := 0) dX13_is_87 (by decide) ?_
      exact fw_ireturn dX13_is_88 rfl (by decide +kernel) ⟨_, rfl, h⟩
    · have h := fw_it h c10
      refine fw_iconst (v := 1) dX13_is_83 (by decide) ?_
      refine fw_goto (tgt := 88) dX13_is_84 (by decide) ?_
      exact fw_ireturn dX13_is_88 rfl (by decide +kernel) ⟨_, rfl, h⟩
  · refine fw_sw (k := 61) h (fun c11 h => ?_) (fun c11 h => ?_)
    · refine fw_lookup (tgt := 128) (off := 101) dX13_is_27 (by decide) (by rw [c11]; try rfl) (by decide) ?_
      refine fw_lload_n dX13_is_128 rfl rfl ?_
      refine fw_lload dX13_is_129 rfl ?_
      refine fw_lne (tgt := 139) dX13_is_131 dX13_is_132 (by decide) (fun c12 => ?_) (fun c12 => ?_)
      · have h := fw_if h c12
        refine fw_iconst (v := 0) dX13_is_139 (by decide) ?_
        exact fw_ireturn dX13_is_140 rfl (by decide +kernel) ⟨_, rfl, h⟩
      · have h := fw_it h c12
        refine fw_iconst (v := 1) dX13_is_135 (by decide) ?_
        refine fw_goto (tgt := 140) dX13_is_136 (by decide) ?_
        exact fw_ireturn dX13_is_140 rfl (by decide +kernel) ⟨_, rfl, h⟩
    · refine fw_sw (k := 62) h (fun c13 h => ?_) (fun c13 h => ?_)
      · refine fw_lookup (tgt := 102) (off := 75) dX13_is_27 (by decide) (by rw [c13]; try rfl) (by decide) ?_
        refine fw_lload_n dX13_is_102 rfl rfl ?_
        refine fw_lload dX13_is_103 rfl ?_
        refine fw_lle (tgt := 113) dX13_is_105 dX13_is_106 (by decide) (fun c14 => ?_) (fun c14 => ?_)
        · have h := fw_if h c14
          refine fw_iconst (v := 0) dX13_is_113 (by decide) ?_
          exact fw_ireturn dX13_is_114 rfl (by decide +kernel) ⟨_, rfl, h⟩
        · have h := fw_it h c14
          refine fw_iconst (v := 1) dX13_is_109 (by decide) ?_
          refine fw_goto (tgt := 114) dX13_is_110 (by decide) ?_
          exact fw_ireturn dX13_is_114 rfl (by decide +kernel) ⟨_, rfl, h⟩
      · refine fw_sw (k := 304) h (fun c15 h => ?_) (fun c15 h => ?_)
        · refine fw_lookup (tgt := 89) (off := 62) dX13_is_27 (by decide) (by rw [c15]; try rfl) (by decide) ?_
          refine fw_lload_n dX13_is_89 rfl rfl ?_
          refine fw_lload dX13_is_90 rfl ?_
          refine fw_lgt (tgt := 100) dX13_is_92 dX13_is_93 (by decide) (fun c16 => ?_) (fun c16 => ?_)
          · have h := fw_it h c16
            refine fw_iconst (v := 0) dX13_is_100 (by decide) ?_
            exact fw_ireturn dX13_is_101 rfl (by decide +kernel) ⟨_, rfl, h⟩
          · have h := fw_if h c16
            refine fw_iconst (v := 1) dX13_is_96 (by decide) ?_
            refine fw_goto (tgt := 101) dX13_is_97 (by decide) ?_
            exact fw_ireturn dX13_is_101 rfl (by decide +kernel) ⟨_, rfl, h⟩
        · refine fw_sw (k := 305) h (fun c17 h => ?_) (fun c17 h => ?_)
          · refine fw_lookup (tgt := 115) (off := 88) dX13_is_27 (by decide) (by rw [c17]; try rfl) (by decide) ?_
            refine fw_lload_n dX13_is_115 rfl rfl ?_
            refine fw_lload dX13_is_116 rfl ?_
            refine fw_llt (tgt := 126) dX13_is_118 dX13_is_119 (by decide) (fun c18 => ?_) (fun c18 => ?_)
            · have h := fw_it h c18
              refine fw_iconst (v := 0) dX13_is_126 (by decide) ?_
              exact fw_ireturn dX13_is_127 rfl (by decide +kernel) ⟨_, rfl, h⟩
            · have h := fw_if h c18
              refine fw_iconst (v := 1) dX13_is_122 (by decide) ?_
              refine fw_goto (tgt := 127) dX13_is_123 (by decide) ?_
              exact fw_ireturn dX13_is_127 rfl (by decide +kernel) ⟨_, rfl, h⟩
          · refine fw_lookup (tgt := 141) (off := 114) dX13_is_27 (by decide) (by rw [lv_osw c9 (by decide), lv_osw c11 (by decide), lv_osw c13 (by decide), lv_osw c15 (by decide), lv_osw c17 (by decide)]; try rfl) (by decide) ?_
            refine fw_lload_n dX13_is_141 rfl rfl ?_
            refine fw_lload dX13_is_142 rfl ?_
            refine fw_leq (tgt := 152) dX13_is_144 dX13_is_145 (by decide) (fun c19 => ?_) (fun c19 => ?_)
            · have h := fw_it h c19
              refine fw_iconst (v := 0) dX13_is_152 (by decide) ?_
              exact fw_ireturn dX13_is_153 rfl (by decide +kernel) ⟨_, rfl, h⟩
            · have h := fw_if h c19
              refine fw_iconst (v := 1) dX13_is_148 (by decide) ?_
              refine fw_goto (tgt := 153) dX13_is_149 (by decide) ?_
              exact fw_ireturn dX13_is_153 rfl (by decide +kernel) ⟨_, rfl, h⟩
abbrev K_X12_is : fw_Kt := (RX12, "is", cX12_is, 2, some .boolean, [])
def p_X12_is (k_Ask_is : Nat → Nat → fw_M → (Int32 → fw_M → Prop) → Prop) (r0 : Nat) (r1 : Nat) (μ : fw_M) (Q : Int32 → fw_M → Prop) : Prop :=
  (k_Ask_is (m_P μ r0 0) r1 μ (fun v1 μ2 =>
  (if v1 = 0 then
  (Q (1 : Int32) μ2)
  else
  (Q (0 : Int32) μ2))))
set_option maxHeartbeats 4000000 in
theorem w_X12_is {g : fw_G} {f bc bs : Nat} {k_Ask_is : Nat → Nat → fw_M → (Int32 → fw_M → Prop) → Prop} {r0 : Nat} {r1 : Nat} {μ : fw_M} {Q : Int32 → fw_M → Prop} (hf : 1 ≤ f) (hk_Ask_is : ∀ {r9 v9 : Nat} {μ9 : fw_M} {Q9 : Int32 → fw_M → Prop}, k_Ask_is r9 v9 μ9 Q9 → fw_D_Ask_is g (f - 1) r9 v9 μ9 Q9) (hx : m_K μ r0 = 13) (h : p_X12_is k_Ask_is r0 r1 μ Q) : fw_C g f bc bs yX12_is (ws_ yX12_is cX12_is 2 (some .boolean)) [fw_rv g r0, fw_rv g r1] μ (fw_Qi Q) fw_nX := by
  unfold p_X12_is at h
  refine fw_intro' (Ls := [(0, fw_rv g r0), (1, fw_rv g r1)]) (by decide +kernel) (by simp [lg_sl, fw_cat, fw_ci, fw_clo]) (by simp [lv_args, fw_cat, fw_ci, fw_clo]) ?_
  show fw_V g K_X12_is f bc bs 0 [(0, fw_rv g r0), (1, fw_rv g r1)] [] μ (fw_Qi Q) fw_nX
  refine fw_aload_n dX12_is_0 rfl rfl ?_
  refine fw_getfP fl_X12_7 rfl hx dX12_is_1 ?_
  refine fw_aload_n dX12_is_4 rfl rfl ?_
  refine cf_X12_13 (f1 := f - 1) rfl (by omega) (fw_s4 (Nat.le_of_ble_eq_true rfl)) dX12_is_5 (hk_Ask_is h) (fun v9 μ2 q9 hs3 => ?_)
  obtain ⟨v1, rfl, h⟩ := q9
  refine fw_ti ?_
  have hg4 := hs3.K hx (by decide)
  refine fw_if_ne (tgt := 17) dX12_is_10 (by decide) (fun c5 => ?_) (fun c5 => ?_)
  · have h := fw_if h c5
    refine fw_iconst (v := 0) dX12_is_17 (by decide) ?_
    exact fw_ireturn dX12_is_18 rfl (by decide +kernel) ⟨_, rfl, h⟩
  · have h := fw_it h c5
    refine fw_iconst (v := 1) dX12_is_13 (by decide) ?_
    refine fw_goto (tgt := 18) dX12_is_14 (by decide) ?_
    exact fw_ireturn dX12_is_18 rfl (by decide +kernel) ⟨_, rfl, h⟩
abbrev K_X14_is : fw_Kt := (RX14, "is", cX14_is, 4, some .boolean, [])
def p_X14_is_L37 (k_Ask_is : Nat → Nat → fw_M → (Int32 → fw_M → Prop) → Prop) (r0 : Nat) (μ : fw_M) (Q : Int32 → fw_M → Prop) : Prop :=
  Q (1 : Int32) μ
set_option maxHeartbeats 4000000 in
theorem w_X14_is_L37 {g : fw_G} {f bc bs : Nat} {k_Ask_is : Nat → Nat → fw_M → (Int32 → fw_M → Prop) → Prop} {r0 : Nat} {μ : fw_M} {Q : Int32 → fw_M → Prop} (hf : 1 ≤ f) (hk_Ask_is : ∀ {r9 v9 : Nat} {μ9 : fw_M} {Q9 : Int32 → fw_M → Prop}, k_Ask_is r9 v9 μ9 Q9 → fw_D_Ask_is g (f - 1) r9 v9 μ9 Q9) (hx : m_K μ r0 = 15) (h : p_X14_is_L37 k_Ask_is r0 μ Q) : fw_V g K_X14_is f bc bs 37 [(0, fw_rv g r0)] [] μ (fw_Qi Q) fw_nX := by
  unfold p_X14_is_L37 at h
  refine fw_iconst (v := 1) dX14_is_37 (by decide) ?_
  refine fw_goto (tgt := 58) dX14_is_38 (by decide) ?_
  exact fw_ireturn dX14_is_58 rfl (by decide +kernel) ⟨_, rfl, h⟩
def p_X14_is (k_Ask_is : Nat → Nat → fw_M → (Int32 → fw_M → Prop) → Prop) (r0 : Nat) (r1 : Nat) (μ : fw_M) (Q : Int32 → fw_M → Prop) : Prop :=
  (k_Ask_is (m_P μ r0 1) r1 μ (fun v1 μ2 =>
  (k_Ask_is (m_P μ2 r0 2) r1 μ2 (fun v5 μ6 =>
  (if (m_I μ6 r0 0) = 0 then
  ((if v1 = 0 then
   (Q (0 : Int32) μ6)
   else
   ((if v5 = 0 then
    (Q (0 : Int32) μ6)
    else
    (Q (1 : Int32) μ6)))))
  else
  ((if v1 = 0 then
   ((if v5 = 0 then
    (Q (0 : Int32) μ6)
    else
    (p_X14_is_L37 k_Ask_is r0 μ6 Q)))
   else
   (p_X14_is_L37 k_Ask_is r0 μ6 Q))))))))
set_option maxHeartbeats 4000000 in
theorem w_X14_is {g : fw_G} {f bc bs : Nat} {k_Ask_is : Nat → Nat → fw_M → (Int32 → fw_M → Prop) → Prop} {r0 : Nat} {r1 : Nat} {μ : fw_M} {Q : Int32 → fw_M → Prop} (hf : 1 ≤ f) (hk_Ask_is : ∀ {r9 v9 : Nat} {μ9 : fw_M} {Q9 : Int32 → fw_M → Prop}, k_Ask_is r9 v9 μ9 Q9 → fw_D_Ask_is g (f - 1) r9 v9 μ9 Q9) (hx : m_K μ r0 = 15) (h : p_X14_is k_Ask_is r0 r1 μ Q) : fw_C g f bc bs yX14_is (ws_ yX14_is cX14_is 4 (some .boolean)) [fw_rv g r0, fw_rv g r1] μ (fw_Qi Q) fw_nX := by
  unfold p_X14_is at h
  refine fw_intro' (Ls := [(0, fw_rv g r0), (1, fw_rv g r1)]) (by decide +kernel) (by simp [lg_sl, fw_cat, fw_ci, fw_clo]) (by simp [lv_args, fw_cat, fw_ci, fw_clo]) ?_
  show fw_V g K_X14_is f bc bs 0 [(0, fw_rv g r0), (1, fw_rv g r1)] [] μ (fw_Qi Q) fw_nX
  refine fw_aload_n dX14_is_0 rfl rfl ?_
  refine fw_getfP fl_X14_13 rfl hx dX14_is_1 ?_
  refine fw_aload_n dX14_is_4 rfl rfl ?_
  refine cf_X14_20 (f1 := f - 1) rfl (by omega) (fw_s4 (Nat.le_of_ble_eq_true rfl)) dX14_is_5 (hk_Ask_is h) (fun v9 μ2 q9 hs3 => ?_)
  obtain ⟨v1, rfl, h⟩ := q9
  refine fw_ti ?_
  have hg4 := hs3.K hx (by decide)
  refine fw_istore_nN (Ls' := [(2, Value.int v1), (1, fw_rv g r1), (0, fw_rv g r0)]) [0] dX14_is_10 rfl (by decide) rfl rfl rfl (fw_cat _) rfl ?_
  refine fw_aload_n dX14_is_11 rfl rfl ?_
  refine fw_getfP fl_X14_17 rfl hg4 dX14_is_12 ?_
  refine fw_aload_n dX14_is_15 rfl rfl ?_
  refine cf_X14_20 (f1 := f - 1) rfl (by omega) (fw_s4 (Nat.le_of_ble_eq_true rfl)) dX14_is_16 (hk_Ask_is h) (fun v9 μ6 q9 hs7 => ?_)
  obtain ⟨v5, rfl, h⟩ := q9
  refine fw_ti ?_
  have hg8 := hs7.K hg4 (by decide)
  refine fw_istore_nN (Ls' := [(3, Value.int v5), (2, Value.int v1), (1, fw_rv g r1), (0, fw_rv g r0)]) [1, 2] dX14_is_21 rfl (by decide) rfl rfl rfl rfl rfl ?_
  refine fw_aload_n dX14_is_22 rfl rfl ?_
  refine fw_getfI fl_X14_7 rfl hg8 dX14_is_23 ?_
  refine fw_if_eq (tgt := 45) dX14_is_26 (by decide) (fun c9 => ?_) (fun c9 => ?_)
  · have h := fw_it h c9
    refine fw_iload_n dX14_is_45 rfl rfl ?_
    refine fw_if_eq (tgt := 57) dX14_is_46 (by decide) (fun c10 => ?_) (fun c10 => ?_)
    · have h := fw_it h c10
      refine fw_iconst (v := 0) dX14_is_57 (by decide) ?_
      exact fw_ireturn dX14_is_58 rfl (by decide +kernel) ⟨_, rfl, h⟩
    · have h := fw_if h c10
      refine fw_iload_n dX14_is_49 rfl rfl ?_
      refine fw_if_eq (tgt := 57) dX14_is_50 (by decide) (fun c11 => ?_) (fun c11 => ?_)
      · have h := fw_it h c11
        refine fw_iconst (v := 0) dX14_is_57 (by decide) ?_
        exact fw_ireturn dX14_is_58 rfl (by decide +kernel) ⟨_, rfl, h⟩
      · have h := fw_if h c11
        refine fw_iconst (v := 1) dX14_is_53 (by decide) ?_
        refine fw_goto (tgt := 58) dX14_is_54 (by decide) ?_
        exact fw_ireturn dX14_is_58 rfl (by decide +kernel) ⟨_, rfl, h⟩
  · have h := fw_if h c9
    refine fw_iload_n dX14_is_29 rfl rfl ?_
    refine fw_if_ne (tgt := 37) dX14_is_30 (by decide) (fun c12 => ?_) (fun c12 => ?_)
    · have h := fw_if h c12
      refine fw_ls [3] rfl ?_
      exact w_X14_is_L37 hf hk_Ask_is hg8 h
    · have h := fw_it h c12
      refine fw_iload_n dX14_is_33 rfl rfl ?_
      refine fw_if_eq (tgt := 41) dX14_is_34 (by decide) (fun c13 => ?_) (fun c13 => ?_)
      · have h := fw_it h c13
        refine fw_iconst (v := 0) dX14_is_41 (by decide) ?_
        refine fw_goto (tgt := 58) dX14_is_42 (by decide) ?_
        exact fw_ireturn dX14_is_58 rfl (by decide +kernel) ⟨_, rfl, h⟩
      · have h := fw_if h c13
        refine fw_ls [3] rfl ?_
        exact w_X14_is_L37 hf hk_Ask_is hg8 h
def p_Ask_is_d : Nat → Nat → Nat → fw_M → (Int32 → fw_M → Prop) → Prop
  | 0 => fun _ _ _ _ => False
  | d + 1 => fun r v μ P => if m_K μ r = 14 then p_X13_is r v μ P else if m_K μ r = 13 then p_X12_is (p_Ask_is_d d) r v μ P else if m_K μ r = 15 then p_X14_is (p_Ask_is_d d) r v μ P else False
theorem w_Ask_is_d {g : fw_G} : ∀ (d f : Nat) {r v : Nat} {μ : fw_M} {P : Int32 → fw_M → Prop}, 403 + d ≤ f → p_Ask_is_d d r v μ P → fw_D_Ask_is g f r v μ P := by
  intro d
  induction d with
  | zero => intro f r v μ P _ h; exact h.elim
  | succ d ih =>
    intro f r v μ P hf h
    unfold p_Ask_is_d at h
    by_cases c0 : m_K μ r = 14
    · exact Or.inl ⟨c0, w_X13_is (by omega) c0 (fw_it h c0)⟩
    have h := fw_if h c0
    by_cases c1 : m_K μ r = 13
    · exact Or.inr (Or.inl ⟨c1, w_X12_is (by omega) (fun h9 => ih (f - 1) (by omega) h9) c1 (fw_it h c1)⟩)
    have h := fw_if h c1
    by_cases c2 : m_K μ r = 15
    · exact Or.inr (Or.inr (⟨c2, w_X14_is (by omega) (fun h9 => ih (f - 1) (by omega) h9) c2 (fw_it h c2)⟩))
    have h := fw_if h c2
    exact h.elim
def pc_Ask_is (r v : Nat) (μ : fw_M) (P : Int32 → fw_M → Prop) : Prop := ∃ d, d ≤ 400 ∧ p_Ask_is_d d r v μ P
theorem wc_Ask_is {g : fw_G} {f r v : Nat} {μ : fw_M} {P : Int32 → fw_M → Prop} (hf : 803 ≤ f) (h : pc_Ask_is r v μ P) : fw_D_Ask_is g f r v μ P := by
  obtain ⟨d, hd, h⟩ := h
  exact w_Ask_is_d d f (by omega) h
abbrev K_J0_abs : fw_Kt := (RJ0, "abs", cJ0_abs, 1, some .int, [])
def p_J0_abs (i0 : Int32) (μ : fw_M) (Q : Int32 → fw_M → Prop) : Prop :=
  (if 0 ≤ i0 then
  (Q i0 μ)
  else
  (Q (-i0) μ))
set_option maxHeartbeats 4000000 in
theorem w_J0_abs {g : fw_G} {f bc bs : Nat} {i0 : Int32} {μ : fw_M} {Q : Int32 → fw_M → Prop} (hf : 1 ≤ f) (h : p_J0_abs i0 μ Q) : fw_C g f bc bs yJ0_abs (ws_ yJ0_abs cJ0_abs 1 (some .int)) [Value.int i0] μ (fw_Qi Q) fw_nX := by
  unfold p_J0_abs at h
  refine fw_intro' (Ls := [(0, Value.int i0)]) (by decide +kernel) (by simp [lg_sl, fw_cat, fw_ci, fw_clo]) (by simp [lv_args, fw_cat, fw_ci, fw_clo]) ?_
  show fw_V g K_J0_abs f bc bs 0 [(0, Value.int i0)] [] μ (fw_Qi Q) fw_nX
  refine fw_iload_n dJ0_abs_0 rfl rfl ?_
  refine fw_if_ge (tgt := 9) dJ0_abs_1 (by decide) (fun c1 => ?_) (fun c1 => ?_)
  · have h := fw_it h c1
    refine fw_iload_n dJ0_abs_9 rfl rfl ?_
    exact fw_ireturn dJ0_abs_10 rfl rfl ⟨_, rfl, h⟩
  · have h := fw_if h c1
    refine fw_iload_n dJ0_abs_4 rfl rfl ?_
    refine fw_ineg dJ0_abs_5 ?_
    refine fw_goto (tgt := 10) dJ0_abs_6 (by decide) ?_
    exact fw_ireturn dJ0_abs_10 rfl rfl ⟨_, rfl, h⟩
abbrev K_J0_min_2 : fw_Kt := (RJ0, "min", cJ0_min_2, 2, some .int, [])
def p_J0_min_2 (i0 : Int32) (i1 : Int32) (μ : fw_M) (Q : Int32 → fw_M → Prop) : Prop :=
  (if i1 < i0 then
  (Q i1 μ)
  else
  (Q i0 μ))
set_option maxHeartbeats 4000000 in
theorem w_J0_min_2 {g : fw_G} {f bc bs : Nat} {i0 : Int32} {i1 : Int32} {μ : fw_M} {Q : Int32 → fw_M → Prop} (hf : 1 ≤ f) (h : p_J0_min_2 i0 i1 μ Q) : fw_C g f bc bs yJ0_min_2 (ws_ yJ0_min_2 cJ0_min_2 2 (some .int)) [Value.int i0, Value.int i1] μ (fw_Qi Q) fw_nX := by
  unfold p_J0_min_2 at h
  refine fw_intro' (Ls := [(0, Value.int i0), (1, Value.int i1)]) (by decide +kernel) (by simp [lg_sl, fw_cat, fw_ci, fw_clo]) (by simp [lv_args, fw_cat, fw_ci, fw_clo]) ?_
  show fw_V g K_J0_min_2 f bc bs 0 [(0, Value.int i0), (1, Value.int i1)] [] μ (fw_Qi Q) fw_nX
  refine fw_iload_n dJ0_min_2_0 rfl rfl ?_
  refine fw_iload_n dJ0_min_2_1 rfl rfl ?_
  refine fw_icmp_gt (tgt := 9) dJ0_min_2_2 (by decide) (fun c1 => ?_) (fun c1 => ?_)
  · have h := fw_it h c1
    refine fw_iload_n dJ0_min_2_9 rfl rfl ?_
    exact fw_ireturn dJ0_min_2_10 rfl rfl ⟨_, rfl, h⟩
  · have h := fw_if h c1
    refine fw_iload_n dJ0_min_2_5 rfl rfl ?_
    refine fw_goto (tgt := 10) dJ0_min_2_6 (by decide) ?_
    exact fw_ireturn dJ0_min_2_10 rfl rfl ⟨_, rfl, h⟩
abbrev K_J0_max_2 : fw_Kt := (RJ0, "max", cJ0_max_2, 2, some .int, [])
def p_J0_max_2 (i0 : Int32) (i1 : Int32) (μ : fw_M) (Q : Int32 → fw_M → Prop) : Prop :=
  (if i0 < i1 then
  (Q i1 μ)
  else
  (Q i0 μ))
set_option maxHeartbeats 4000000 in
theorem w_J0_max_2 {g : fw_G} {f bc bs : Nat} {i0 : Int32} {i1 : Int32} {μ : fw_M} {Q : Int32 → fw_M → Prop} (hf : 1 ≤ f) (h : p_J0_max_2 i0 i1 μ Q) : fw_C g f bc bs yJ0_max_2 (ws_ yJ0_max_2 cJ0_max_2 2 (some .int)) [Value.int i0, Value.int i1] μ (fw_Qi Q) fw_nX := by
  unfold p_J0_max_2 at h
  refine fw_intro' (Ls := [(0, Value.int i0), (1, Value.int i1)]) (by decide +kernel) (by simp [lg_sl, fw_cat, fw_ci, fw_clo]) (by simp [lv_args, fw_cat, fw_ci, fw_clo]) ?_
  show fw_V g K_J0_max_2 f bc bs 0 [(0, Value.int i0), (1, Value.int i1)] [] μ (fw_Qi Q) fw_nX
  refine fw_iload_n dJ0_max_2_0 rfl rfl ?_
  refine fw_iload_n dJ0_max_2_1 rfl rfl ?_
  refine fw_icmp_lt (tgt := 9) dJ0_max_2_2 (by decide) (fun c1 => ?_) (fun c1 => ?_)
  · have h := fw_it h c1
    refine fw_iload_n dJ0_max_2_9 rfl rfl ?_
    exact fw_ireturn dJ0_max_2_10 rfl rfl ⟨_, rfl, h⟩
  · have h := fw_if h c1
    refine fw_iload_n dJ0_max_2_5 rfl rfl ?_
    refine fw_goto (tgt := 10) dJ0_max_2_6 (by decide) ?_
    exact fw_ireturn dJ0_max_2_10 rfl rfl ⟨_, rfl, h⟩
abbrev K_X0_name : fw_Kt := (RX0, "name", cX0_name, 4, none, [])
def p_X0_name (r0 : Nat) (r1 : Nat) (i2 : Int32) (μ : fw_M) (Q : fw_M → Prop) : Prop :=
  (m_K μ (m_P μ r0 4) = 5 ∧ (∀ r3_2 : Nat, r3_2 = (m_P μ (m_P μ r0 4) 0) →
  (m_K μ r3_2 = 100 ∧ (vp_in (0 : Int32) (m_N μ r3_2) ∧ (∀ μ6, μ6 = m_uI μ r3_2 (0 : Int32).toNatClampNeg i2 →
  (m_K μ6 (m_P μ6 r0 0) = 2 ∧ (m_K μ6 (m_P μ6 (m_P μ6 r0 0) 6) = 100 ∧ (vp_in i2 (m_N μ6 (m_P μ6 (m_P μ6 r0 0) 6)) ∧ (vp_in (1 : Int32) (m_N μ6 r3_2) ∧ (∀ μ11, μ11 = m_uI μ6 r3_2 (1 : Int32).toNatClampNeg (m_I μ6 (m_P μ6 (m_P μ6 r0 0) 6) i2.toNatClampNeg) →
  (m_K μ11 (m_P μ11 r0 0) = 2 ∧ (m_K μ11 (m_P μ11 (m_P μ11 r0 0) 7) = 100 ∧ (vp_in i2 (m_N μ11 (m_P μ11 (m_P μ11 r0 0) 7)) ∧ (vp_in (2 : Int32) (m_N μ11 r3_2) ∧ (∀ μ16, μ16 = m_uI μ11 r3_2 (2 : Int32).toNatClampNeg (m_I μ11 (m_P μ11 (m_P μ11 r0 0) 7) i2.toNatClampNeg) →
  (m_K μ16 r1 = 100 ∧ (vp_in ((13 : Int32) + i2) (m_N μ16 r1) ∧ (vp_in (3 : Int32) (m_N μ16 r3_2) ∧ (∀ μ20, μ20 = m_uI μ16 r3_2 (3 : Int32).toNatClampNeg (m_I μ16 r1 ((13 : Int32) + i2).toNatClampNeg) →
  Q μ20)))))))))))))))))))
set_option maxHeartbeats 4000000 in
theorem w_X0_name {g : fw_G} {f bc bs : Nat} {r0 : Nat} {r1 : Nat} {i2 : Int32} {μ : fw_M} {Q : fw_M → Prop} (hf : 1 ≤ f) (hx : m_K μ r0 = 1) (h : p_X0_name r0 r1 i2 μ Q) : fw_C g f bc bs yX0_name (ws_ yX0_name cX0_name 4 (none)) [fw_rv g r0, fw_rv g r1, Value.int i2] μ (fw_Qv Q) fw_nX := by
  unfold p_X0_name at h
  refine fw_intro' (Ls := [(0, fw_rv g r0), (1, fw_rv g r1), (2, Value.int i2)]) (by decide +kernel) (by simp [lg_sl, fw_cat, fw_ci, fw_clo]) (by simp [lv_args, fw_cat, fw_ci, fw_clo]) ?_
  show fw_V g K_X0_name f bc bs 0 [(0, fw_rv g r0), (1, fw_rv g r1), (2, Value.int i2)] [] μ (fw_Qv Q) fw_nX
  refine fw_aload_n dX0_name_0 rfl rfl ?_
  refine fw_getfP fl_X0_33 rfl hx dX0_name_1 ?_
  obtain ⟨hg1, h⟩ := h
  refine fw_getfP fl_X0_112 rfl hg1 dX0_name_4 ?_
  refine fw_topr (fun r3_2 e3 => ?_)
  have h := h r3_2 e3
  refine fw_astore_nN (Ls' := [(3, fw_rv g r3_2), (2, Value.int i2), (0, fw_rv g r0), (1, fw_rv g r1)]) [0, 1] dX0_name_7 rfl (by decide) rfl rfl rfl rfl rfl ?_
  refine fw_aload_n dX0_name_8 rfl rfl ?_
  refine fw_iconst (v := 0) dX0_name_9 (by decide) ?_
  refine fw_iload_n dX0_name_10 rfl rfl ?_
  obtain ⟨hg4, h⟩ := h
  obtain ⟨hc5, h⟩ := h
  refine fw_iast hg4 hc5 dX0_name_11 ?_
  have h := h _ rfl
  refine fw_aload_n dX0_name_12 rfl rfl ?_
  refine fw_iconst (v := 1) dX0_name_13 (by decide) ?_
  refine fw_aload_n dX0_name_14 rfl rfl ?_
  refine fw_getfP fl_X0_12 rfl hx dX0_name_15 ?_
  obtain ⟨hg7, h⟩ := h
  refine fw_getfP fl_X0_80 rfl hg7 dX0_name_18 ?_
  refine fw_iload_n dX0_name_21 rfl rfl ?_
  obtain ⟨hg8, h⟩ := h
  obtain ⟨hc9, h⟩ := h
  refine fw_iald hg8 hc9 dX0_name_22 ?_
  obtain ⟨hc10, h⟩ := h
  refine fw_iast hg4 hc10 dX0_name_23 ?_
  have h := h _ rfl
  refine fw_aload_n dX0_name_24 rfl rfl ?_
  refine fw_iconst (v := 2) dX0_name_25 (by decide) ?_
  refine fw_aload_n dX0_name_26 rfl rfl ?_
  refine fw_getfP fl_X0_12 rfl hx dX0_name_27 ?_
  obtain ⟨hg12, h⟩ := h
  refine fw_getfP fl_X0_83 rfl hg12 dX0_name_30 ?_
  refine fw_iload_n dX0_name_33 rfl rfl ?_
  obtain ⟨hg13, h⟩ := h
  obtain ⟨hc14, h⟩ := h
  refine fw_iald hg13 hc14 dX0_name_34 ?_
  obtain ⟨hc15, h⟩ := h
  refine fw_iast hg4 hc15 dX0_name_35 ?_
  have h := h _ rfl
  refine fw_aload_n dX0_name_36 rfl rfl ?_
  refine fw_iconst (v := 3) dX0_name_37 (by decide) ?_
  refine fw_aload_n dX0_name_38 rfl rfl ?_
  refine fw_bipush (v := 13) dX0_name_39 (by decide) ?_
  refine fw_iload_n dX0_name_41 rfl rfl ?_
  refine fw_iadd dX0_name_42 ?_
  obtain ⟨hg17, h⟩ := h
  obtain ⟨hc18, h⟩ := h
  refine fw_iald hg17 hc18 dX0_name_43 ?_
  obtain ⟨hc19, h⟩ := h
  refine fw_iast hg4 hc19 dX0_name_44 ?_
  have h := h _ rfl
  exact fw_return dX0_name_45 rfl ⟨rfl, h⟩
abbrev K_J0_max : fw_Kt := (RJ0, "max", cJ0_max, 4, some .long, [])
def p_J0_max (l0 : Int64) (l2 : Int64) (μ : fw_M) (Q : Int64 → fw_M → Prop) : Prop :=
  (if l0 < l2 then
  (Q l2 μ)
  else
  (Q l0 μ))
set_option maxHeartbeats 4000000 in
theorem w_J0_max {g : fw_G} {f bc bs : Nat} {l0 : Int64} {l2 : Int64} {μ : fw_M} {Q : Int64 → fw_M → Prop} (hf : 1 ≤ f) (h : p_J0_max l0 l2 μ Q) : fw_C g f bc bs yJ0_max (ws_ yJ0_max cJ0_max 4 (some .long)) [Value.long l0, Value.long l2] μ (fw_Ql Q) fw_nX := by
  unfold p_J0_max at h
  refine fw_intro' (Ls := [(0, Value.long l0), (2, Value.long l2)]) (by decide +kernel) (by simp [lg_sl, fw_cat, fw_ci, fw_clo]) (by simp [lv_args, fw_cat, fw_ci, fw_clo]) ?_
  show fw_V g K_J0_max f bc bs 0 [(0, Value.long l0), (2, Value.long l2)] [] μ (fw_Ql Q) fw_nX
  refine fw_lload_n dJ0_max_0 rfl rfl ?_
  refine fw_lload_n dJ0_max_1 rfl rfl ?_
  refine fw_llt (tgt := 10) dJ0_max_2 dJ0_max_3 (by decide) (fun c1 => ?_) (fun c1 => ?_)
  · have h := fw_it h c1
    refine fw_lload_n dJ0_max_10 rfl rfl ?_
    exact fw_lreturn dJ0_max_11 rfl ⟨_, rfl, h⟩
  · have h := fw_if h c1
    refine fw_lload_n dJ0_max_6 rfl rfl ?_
    refine fw_goto (tgt := 11) dJ0_max_7 (by decide) ?_
    exact fw_lreturn dJ0_max_11 rfl ⟨_, rfl, h⟩
abbrev K_J0_min : fw_Kt := (RJ0, "min", cJ0_min, 4, some .long, [])
def p_J0_min (l0 : Int64) (l2 : Int64) (μ : fw_M) (Q : Int64 → fw_M → Prop) : Prop :=
  (if l2 < l0 then
  (Q l2 μ)
  else
  (Q l0 μ))
set_option maxHeartbeats 4000000 in
theorem w_J0_min {g : fw_G} {f bc bs : Nat} {l0 : Int64} {l2 : Int64} {μ : fw_M} {Q : Int64 → fw_M → Prop} (hf : 1 ≤ f) (h : p_J0_min l0 l2 μ Q) : fw_C g f bc bs yJ0_min (ws_ yJ0_min cJ0_min 4 (some .long)) [Value.long l0, Value.long l2] μ (fw_Ql Q) fw_nX := by
  unfold p_J0_min at h
  refine fw_intro' (Ls := [(0, Value.long l0), (2, Value.long l2)]) (by decide +kernel) (by simp [lg_sl, fw_cat, fw_ci, fw_clo]) (by simp [lv_args, fw_cat, fw_ci, fw_clo]) ?_
  show fw_V g K_J0_min f bc bs 0 [(0, Value.long l0), (2, Value.long l2)] [] μ (fw_Ql Q) fw_nX
  refine fw_lload_n dJ0_min_0 rfl rfl ?_
  refine fw_lload_n dJ0_min_1 rfl rfl ?_
  refine fw_lgt (tgt := 10) dJ0_min_2 dJ0_min_3 (by decide) (fun c1 => ?_) (fun c1 => ?_)
  · have h := fw_it h c1
    refine fw_lload_n dJ0_min_10 rfl rfl ?_
    exact fw_lreturn dJ0_min_11 rfl ⟨_, rfl, h⟩
  · have h := fw_if h c1
    refine fw_lload_n dJ0_min_6 rfl rfl ?_
    refine fw_goto (tgt := 11) dJ0_min_7 (by decide) ?_
    exact fw_lreturn dJ0_min_11 rfl ⟨_, rfl, h⟩
abbrev K_X0_law : fw_Kt := (RX0, "law", cX0_law, 1, some (.object "SpoonScales$Law"), [])
def p_X0_law (r0 : Nat) (μ : fw_M) (Q : Nat → fw_M → Prop) : Prop :=
  (m_K μ (m_P μ r0 0) = 2 ∧ (if 0 ≤ (m_I μ (m_P μ r0 0) 2) then
  ((m_K μ (m_P μ r0 2) = 106 ∧ (vp_in (m_I μ (m_P μ r0 0) 2) (m_N μ (m_P μ r0 2)) ∧ Q (m_P μ (m_P μ r0 2) (m_I μ (m_P μ r0 0) 2).toNatClampNeg) μ)))
  else
  (Q (m_P μ r0 3) μ)))
set_option maxHeartbeats 4000000 in
theorem w_X0_law {g : fw_G} {f bc bs : Nat} {r0 : Nat} {μ : fw_M} {Q : Nat → fw_M → Prop} (hf : 1 ≤ f) (hx : m_K μ r0 = 1) (h : p_X0_law r0 μ Q) : fw_C g f bc bs yX0_law (ws_ yX0_law cX0_law 1 (some (.object "SpoonScales$Law"))) [fw_rv g r0] μ (fw_Qr g Q) fw_nX := by
  unfold p_X0_law at h
  refine fw_intro' (Ls := [(0, fw_rv g r0)]) (by decide +kernel) (by simp [lg_sl, fw_cat, fw_ci, fw_clo]) (by simp [lv_args, fw_cat, fw_ci, fw_clo]) ?_
  show fw_V g K_X0_law f bc bs 0 [(0, fw_rv g r0)] [] μ (fw_Qr g Q) fw_nX
  refine fw_aload_n dX0_law_0 rfl rfl ?_
  refine fw_getfP fl_X0_12 rfl hx dX0_law_1 ?_
  obtain ⟨hg1, h⟩ := h
  refine fw_getfI fl_X0_60 rfl hg1 dX0_law_4 ?_
  refine fw_if_ge (tgt := 17) dX0_law_7 (by decide) (fun c2 => ?_) (fun c2 => ?_)
  · have h := fw_it h c2
    refine fw_aload_n dX0_law_17 rfl rfl ?_
    refine fw_getfP fl_X0_21 rfl hx dX0_law_18 ?_
    refine fw_aload_n dX0_law_21 rfl rfl ?_
    refine fw_getfP fl_X0_12 rfl hx dX0_law_22 ?_
    refine fw_getfI fl_X0_60 rfl hg1 dX0_law_25 ?_
    obtain ⟨hg3, h⟩ := h
    obtain ⟨hc4, h⟩ := h
    refine fw_aald hg3 rfl rfl hc4 dX0_law_28 ?_
    exact fw_areturn dX0_law_29 rfl (by first | exact Or.inl ⟨_, rfl⟩ | exact Or.inr ⟨_, rfl⟩) ⟨_, rfl, h⟩
  · have h := fw_if h c2
    refine fw_aload_n dX0_law_10 rfl rfl ?_
    refine fw_getfP fl_X0_26 rfl hx dX0_law_11 ?_
    refine fw_goto (tgt := 29) dX0_law_14 (by decide) ?_
    exact fw_areturn dX0_law_29 rfl (by first | exact Or.inl ⟨_, rfl⟩ | exact Or.inr ⟨_, rfl⟩) ⟨_, rfl, h⟩
abbrev K_X0_told : fw_Kt := (RX0, "told", cX0_told, 5, some .int, [])
def p_X0_told (r0 : Nat) (i1 : Int32) (i2 : Int32) (i3 : Int32) (μ : fw_M) (Q : Int32 → fw_M → Prop) : Prop :=
  (p_X0_law r0 μ (fun r1 μ2 =>
  (m_K μ2 r1 = 3 ∧ (m_K μ2 (m_P μ2 r1 0) = 104 ∧ (vp_in i1 (m_N μ2 (m_P μ2 r1 0)) ∧ (∀ r4_8 : Nat, r4_8 = (m_P μ2 (m_P μ2 r1 0) i1.toNatClampNeg) →
  (if r4_8 = 0 then
  (Q i2 μ2)
  else
  ((pc_Sum_of r4_8 (m_P μ2 r0 4) μ2 (fun w11 μ12 =>
   (p_J0_min i3.toInt64 w11 μ12 (fun w16 μ17 =>
   (p_J0_max (0 : Int64) w16 μ17 (fun w21 μ22 =>
   Q w21.toInt32 μ22))))))))))))))
set_option maxHeartbeats 4000000 in
theorem w_X0_told {g : fw_G} {f bc bs : Nat} {r0 : Nat} {i1 : Int32} {i2 : Int32} {i3 : Int32} {μ : fw_M} {Q : Int32 → fw_M → Prop} (hf : 403 ≤ f) (hx : m_K μ r0 = 1) (h : p_X0_told r0 i1 i2 i3 μ Q) : fw_C g f bc bs yX0_told (ws_ yX0_told cX0_told 5 (some .int)) [fw_rv g r0, Value.int i1, Value.int i2, Value.int i3] μ (fw_Qi Q) fw_nX := by
  unfold p_X0_told at h
  refine fw_intro' (Ls := [(0, fw_rv g r0), (1, Value.int i1), (2, Value.int i2), (3, Value.int i3)]) (by decide +kernel) (by simp [lg_sl, fw_cat, fw_ci, fw_clo]) (by simp [lv_args, fw_cat, fw_ci, fw_clo]) ?_
  show fw_V g K_X0_told f bc bs 0 [(0, fw_rv g r0), (1, Value.int i1), (2, Value.int i2), (3, Value.int i3)] [] μ (fw_Qi Q) fw_nX
  refine fw_aload_n dX0_told_0 rfl rfl ?_
  refine fw_callV0z (f1 := f - 1) cl_X0_89 rfl hx (by decide) (by omega) (fw_s4 (Nat.le_of_ble_eq_true rfl)) dX0_told_1 (w_X0_law (f := f - 1) (by omega) hx h) (fun _ _ h9 _ _ => h9.elim) (fun v9 μ2 q9 hs3 => ?_)
  obtain ⟨r1, rfl, h⟩ := q9
  refine fw_tr ?_
  have hg4 := hs3.K hx (by decide)
  obtain ⟨hg5, h⟩ := h
  refine fw_getfP fl_X0_93 rfl hg5 dX0_told_4 ?_
  refine fw_iload_n dX0_told_7 rfl rfl ?_
  obtain ⟨hg6, h⟩ := h
  obtain ⟨hc7, h⟩ := h
  refine fw_aald hg6 rfl rfl hc7 dX0_told_8 ?_
  refine fw_topr (fun r4_8 e9 => ?_)
  have h := h r4_8 e9
  refine fw_astoreN (Ls' := [(4, fw_rv g r4_8), (3, Value.int i3), (0, fw_rv g r0), (1, Value.int i1), (2, Value.int i2)]) [0, 1, 2] dX0_told_9 (by decide) rfl rfl rfl rfl rfl ?_
  refine fw_aload dX0_told_11 rfl ?_
  refine fw_ifnonnull (tgt := 20) dX0_told_13 (by decide) (fun c10 => ?_) (fun c10 => ?_)
  · have h := fw_if h c10
    refine fw_lconst (v := 0) dX0_told_20 (by decide) ?_
    refine fw_iload_n dX0_told_21 rfl rfl ?_
    refine fw_i2l dX0_told_22 ?_
    refine fw_aload dX0_told_23 rfl ?_
    refine fw_aload_n dX0_told_25 rfl rfl ?_
    refine fw_getfP fl_X0_33 rfl hg4 dX0_told_26 ?_
    refine cf_X0_97 (f1 := f - 1) rfl (by omega) (fw_s4 (Nat.le_of_ble_eq_true rfl)) dX0_told_29 (wc_Sum_of (f := f - 1) (by omega) h) (fun v9 μ12 q9 hs13 => ?_)
    obtain ⟨w11, rfl, h⟩ := q9
    refine fw_tl ?_
    have hg14 := hs13.K hg4 (by decide)
    have hg15 := hs13.K hg5 (by decide)
    refine fw_callS2z (f1 := f - 1) cl_X0_103 (by decide) (by omega) (fw_s4 (Nat.le_of_ble_eq_true rfl)) dX0_told_34 (w_J0_min (f := f - 1) (by omega) h) (fun _ _ h9 _ _ => h9.elim) (fun v9 μ17 q9 hs18 => ?_)
    obtain ⟨w16, rfl, h⟩ := q9
    refine fw_tl ?_
    have hg19 := hs18.K hg14 (by decide)
    have hg20 := hs18.K hg15 (by decide)
    refine fw_callS2z (f1 := f - 1) cl_X0_109 (by decide) (by omega) (fw_s4 (Nat.le_of_ble_eq_true rfl)) dX0_told_37 (w_J0_max (f := f - 1) (by omega) h) (fun _ _ h9 _ _ => h9.elim) (fun v9 μ22 q9 hs23 => ?_)
    obtain ⟨w21, rfl, h⟩ := q9
    refine fw_tl ?_
    have hg24 := hs23.K hg19 (by decide)
    have hg25 := hs23.K hg20 (by decide)
    refine fw_l2i dX0_told_40 ?_
    exact fw_ireturn dX0_told_41 rfl rfl ⟨_, rfl, h⟩
  · have h := fw_it h c10
    refine fw_iload_n dX0_told_16 rfl rfl ?_
    refine fw_goto (tgt := 41) dX0_told_17 (by decide) ?_
    exact fw_ireturn dX0_told_41 rfl rfl ⟨_, rfl, h⟩
abbrev K_X0_holds : fw_Kt := (RX0, "holds", cX0_holds, 3, some .int, [])
def p_X0_holds (r0 : Nat) (r1 : Nat) (i2 : Int32) (μ : fw_M) (Q : Int32 → fw_M → Prop) : Prop :=
  (p_X0_name r0 r1 i2 μ (fun μ2 =>
  (m_K μ2 (m_P μ2 r0 0) = 2 ∧ (m_K μ2 (m_P μ2 (m_P μ2 r0 0) 7) = 100 ∧ (vp_in i2 (m_N μ2 (m_P μ2 (m_P μ2 r0 0) 7)) ∧ (p_X0_told r0 (1 : Int32) ((20 : Int32) * (m_I μ2 (m_P μ2 (m_P μ2 r0 0) 7) i2.toNatClampNeg)) (9999 : Int32) μ2 (fun v8 μ9 =>
  (m_K μ9 r1 = 100 ∧ (vp_in ((13 : Int32) + i2) (m_N μ9 r1) ∧ (p_J0_max_2 (0 : Int32) (v8 - (m_I μ9 r1 ((13 : Int32) + i2).toNatClampNeg)) μ9 (fun v14 μ15 =>
  Q v14 μ15)))))))))))
set_option maxHeartbeats 4000000 in
theorem w_X0_holds {g : fw_G} {f bc bs : Nat} {r0 : Nat} {r1 : Nat} {i2 : Int32} {μ : fw_M} {Q : Int32 → fw_M → Prop} (hf : 404 ≤ f) (hx : m_K μ r0 = 1) (h : p_X0_holds r0 r1 i2 μ Q) : fw_C g f bc bs yX0_holds (ws_ yX0_holds cX0_holds 3 (some .int)) [fw_rv g r0, fw_rv g r1, Value.int i2] μ (fw_Qi Q) fw_nX := by
  unfold p_X0_holds at h
  refine fw_intro' (Ls := [(0, fw_rv g r0), (1, fw_rv g r1), (2, Value.int i2)]) (by decide +kernel) (by simp [lg_sl, fw_cat, fw_ci, fw_clo]) (by simp [lv_args, fw_cat, fw_ci, fw_clo]) ?_
  show fw_V g K_X0_holds f bc bs 0 [(0, fw_rv g r0), (1, fw_rv g r1), (2, Value.int i2)] [] μ (fw_Qi Q) fw_nX
  refine fw_aload_n dX0_holds_0 rfl rfl ?_
  refine fw_aload_n dX0_holds_1 rfl rfl ?_
  refine fw_iload_n dX0_holds_2 rfl rfl ?_
  refine fw_callV2z (f1 := f - 1) cl_X0_115 rfl hx (by decide) (by omega) (fw_s4 (Nat.le_of_ble_eq_true rfl)) dX0_holds_3 (w_X0_name (f := f - 1) (by omega) hx h) (fun _ _ h9 _ _ => h9.elim) (fun v9 μ2 q9 hs3 => ?_)
  obtain ⟨rfl, h⟩ := q9
  refine fw_tv ?_
  have hg4 := hs3.K hx (by decide)
  refine fw_iconst (v := 0) dX0_holds_6 (by decide) ?_
  refine fw_aload_n dX0_holds_7 rfl rfl ?_
  refine fw_iconst (v := 1) dX0_holds_8 (by decide) ?_
  refine fw_bipush (v := 20) dX0_holds_9 (by decide) ?_
  refine fw_aload_n dX0_holds_11 rfl rfl ?_
  refine fw_getfP fl_X0_12 rfl hg4 dX0_holds_12 ?_
  obtain ⟨hg5, h⟩ := h
  refine fw_getfP fl_X0_83 rfl hg5 dX0_holds_15 ?_
  refine fw_iload_n dX0_holds_18 rfl rfl ?_
  obtain ⟨hg6, h⟩ := h
  obtain ⟨hc7, h⟩ := h
  refine fw_iald hg6 hc7 dX0_holds_19 ?_
  refine fw_imul dX0_holds_20 ?_
  refine fw_sipush (v := 9999) dX0_holds_21 (by decide) ?_
  refine fw_callV3z (f1 := f - 1) cl_X0_119 rfl hg4 (by decide) (by omega) (fw_s4 (Nat.le_of_ble_eq_true rfl)) dX0_holds_24 (w_X0_told (f := f - 1) (by omega) hg4 h) (fun _ _ h9 _ _ => h9.elim) (fun v9 μ9 q9 hs10 => ?_)
  obtain ⟨v8, rfl, h⟩ := q9
  refine fw_ti ?_
  have hg11 := hs10.K hg4 (by decide)
  refine fw_aload_n dX0_holds_27 rfl rfl ?_
  refine fw_bipush (v := 13) dX0_holds_28 (by decide) ?_
  refine fw_iload_n dX0_holds_30 rfl rfl ?_
  refine fw_iadd dX0_holds_31 ?_
  obtain ⟨hg12, h⟩ := h
  obtain ⟨hc13, h⟩ := h
  refine fw_iald hg12 hc13 dX0_holds_32 ?_
  refine fw_isub dX0_holds_33 ?_
  refine fw_callS2z (f1 := f - 1) cl_X0_123 (by decide) (by omega) (fw_s4 (Nat.le_of_ble_eq_true rfl)) dX0_holds_34 (w_J0_max_2 (f := f - 1) (by omega) h) (fun _ _ h9 _ _ => h9.elim) (fun v9 μ15 q9 hs16 => ?_)
  obtain ⟨v14, rfl, h⟩ := q9
  refine fw_ti ?_
  have hg17 := hs16.K hg11 (by decide)
  have hg18 := hs16.K hg12 (by decide)
  exact fw_ireturn dX0_holds_37 rfl rfl ⟨_, rfl, h⟩
abbrev K_X0_spoonOf : fw_Kt := (RX0, "spoonOf", cX0_spoonOf, 8, some .int, [])
def p_X0_spoonOf (r0 : Nat) (r1 : Nat) (i2 : Int32) (i3 : Int32) (μ : fw_M) (Q : Int32 → fw_M → Prop) : Prop :=
  (m_K μ r1 = 100 ∧ (vp_in ((4 : Int32) + i2) (m_N μ r1) ∧ (∀ i4_3 : Int32, i4_3 = (m_I μ r1 ((4 : Int32) + i2).toNatClampNeg) →
  (if i4_3 = (2 : Int32) then
  (Q (0 : Int32) μ)
  else
  ((vp_in (((0 : Int32) + ((2 : Int32) * i4_3)) + i3) (m_N μ r1) ∧ (∀ i5_7 : Int32, i5_7 = (m_I μ r1 (((0 : Int32) + ((2 : Int32) * i4_3)) + i3).toNatClampNeg) →
   (p_X0_name r0 r1 i2 μ (fun μ10 =>
   (m_K μ10 (m_P μ10 r0 4) = 5 ∧ (∀ r6_15 : Nat, r6_15 = (m_P μ10 (m_P μ10 r0 4) 0) →
   (m_K μ10 r6_15 = 100 ∧ (vp_in (4 : Int32) (m_N μ10 r6_15) ∧ (∀ μ19, μ19 = m_uI μ10 r6_15 (4 : Int32).toNatClampNeg i3 →
   (vp_in (5 : Int32) (m_N μ19 r6_15) ∧ (∀ μ21, μ21 = m_uI μ19 r6_15 (5 : Int32).toNatClampNeg i5_7 →
   (vp_in (23 : Int32) (m_N μ21 r1) ∧ (vp_in (6 : Int32) (m_N μ21 r6_15) ∧ (∀ μ24, μ24 = m_uI μ21 r6_15 (6 : Int32).toNatClampNeg (m_I μ21 r1 (23 : Int32).toNatClampNeg) →
   (vp_in (7 : Int32) (m_N μ24 r6_15) ∧ (∀ μ26, μ26 = m_uI μ24 r6_15 (7 : Int32).toNatClampNeg i4_3 →
   (m_K μ26 (m_P μ26 r0 0) = 2 ∧ (m_K μ26 (m_P μ26 (m_P μ26 r0 0) 6) = 100 ∧ (vp_in i2 (m_N μ26 (m_P μ26 (m_P μ26 r0 0) 6)) ∧ (p_X0_told r0 (0 : Int32) ((m_I μ26 (m_P μ26 (m_P μ26 r0 0) 6) i2.toNatClampNeg) + (1 : Int32)) (99 : Int32) μ26 (fun v30 μ31 =>
   (p_J0_min_2 v30 i5_7 μ31 (fun v36 μ37 =>
   (p_X0_holds r0 r1 i2 μ37 (fun v42 μ43 =>
   (p_J0_min_2 v36 v42 μ43 (fun v48 μ49 =>
   Q v48 μ49))))))))))))))))))))))))))))))))
set_option maxHeartbeats 4000000 in
theorem w_X0_spoonOf {g : fw_G} {f bc bs : Nat} {r0 : Nat} {r1 : Nat} {i2 : Int32} {i3 : Int32} {μ : fw_M} {Q : Int32 → fw_M → Prop} (hf : 405 ≤ f) (hx : m_K μ r0 = 1) (h : p_X0_spoonOf r0 r1 i2 i3 μ Q) : fw_C g f bc bs yX0_spoonOf (ws_ yX0_spoonOf cX0_spoonOf 8 (some .int)) [fw_rv g r0, fw_rv g r1, Value.int i2, Value.int i3] μ (fw_Qi Q) fw_nX := by
  unfold p_X0_spoonOf at h
  refine fw_intro' (Ls := [(0, fw_rv g r0), (1, fw_rv g r1), (2, Value.int i2), (3, Value.int i3)]) (by decide +kernel) (by simp [lg_sl, fw_cat, fw_ci, fw_clo]) (by simp [lv_args, fw_cat, fw_ci, fw_clo]) ?_
  show fw_V g K_X0_spoonOf f bc bs 0 [(0, fw_rv g r0), (1, fw_rv g r1), (2, Value.int i2), (3, Value.int i3)] [] μ (fw_Qi Q) fw_nX
  refine fw_aload_n dX0_spoonOf_0 rfl rfl ?_
  refine fw_iconst (v := 4) dX0_spoonOf_1 (by decide) ?_
  refine fw_iload_n dX0_spoonOf_2 rfl rfl ?_
  refine fw_iadd dX0_spoonOf_3 ?_
  obtain ⟨hg1, h⟩ := h
  obtain ⟨hc2, h⟩ := h
  refine fw_iald hg1 hc2 dX0_spoonOf_4 ?_
  refine fw_topi (fun i4_3 e4 => ?_)
  have h := h i4_3 e4
  refine fw_istoreN (Ls' := [(4, Value.int i4_3), (3, Value.int i3), (0, fw_rv g r0), (1, fw_rv g r1), (2, Value.int i2)]) [0, 1, 2] dX0_spoonOf_5 (by decide) rfl rfl rfl rfl rfl ?_
  refine fw_iload dX0_spoonOf_7 rfl ?_
  refine fw_iconst (v := 2) dX0_spoonOf_9 (by decide) ?_
  refine fw_icmp_ne (tgt := 15) dX0_spoonOf_10 (by decide) (fun c5 => ?_) (fun c5 => ?_)
  · have h := fw_if h c5
    refine fw_aload_n dX0_spoonOf_15 rfl rfl ?_
    refine fw_iconst (v := 0) dX0_spoonOf_16 (by decide) ?_
    refine fw_iconst (v := 2) dX0_spoonOf_17 (by decide) ?_
    refine fw_iload dX0_spoonOf_18 rfl ?_
    refine fw_imul dX0_spoonOf_20 ?_
    refine fw_iadd dX0_spoonOf_21 ?_
    refine fw_iload_n dX0_spoonOf_22 rfl rfl ?_
    refine fw_iadd dX0_spoonOf_23 ?_
    obtain ⟨hc6, h⟩ := h
    refine fw_iald hg1 hc6 dX0_spoonOf_24 ?_
    refine fw_topi (fun i5_7 e8 => ?_)
    have h := h i5_7 e8
    refine fw_istoreN (Ls' := [(5, Value.int i5_7), (4, Value.int i4_3), (3, Value.int i3), (0, fw_rv g r0), (1, fw_rv g r1), (2, Value.int i2)]) [1, 2, 3, 4] dX0_spoonOf_25 (by decide) rfl rfl rfl rfl rfl ?_
    refine fw_aload_n dX0_spoonOf_27 rfl rfl ?_
    refine fw_aload_n dX0_spoonOf_28 rfl rfl ?_
    refine fw_iload_n dX0_spoonOf_29 rfl rfl ?_
    refine fw_callV2z (f1 := f - 1) cl_X0_115 rfl hx (by decide) (by omega) (fw_s4 (Nat.le_of_ble_eq_true rfl)) dX0_spoonOf_30 (w_X0_name (f := f - 1) (by omega) hx h) (fun _ _ h9 _ _ => h9.elim) (fun v9 μ10 q9 hs11 => ?_)
    obtain ⟨rfl, h⟩ := q9
    refine fw_tv ?_
    have hg12 := hs11.K hx (by decide)
    have hg13 := hs11.K hg1 (by decide)
    refine fw_aload_n dX0_spoonOf_33 rfl rfl ?_
    refine fw_getfP fl_X0_33 rfl hg12 dX0_spoonOf_34 ?_
    obtain ⟨hg14, h⟩ := h
    refine fw_getfP fl_X0_112 rfl hg14 dX0_spoonOf_37 ?_
    refine fw_topr (fun r6_15 e16 => ?_)
    have h := h r6_15 e16
    refine fw_astoreN (Ls' := [(6, fw_rv g r6_15), (5, Value.int i5_7), (4, Value.int i4_3), (3, Value.int i3), (0, fw_rv g r0), (1, fw_rv g r1), (2, Value.int i2)]) [1, 2, 3, 4, 5] dX0_spoonOf_40 (by decide) rfl rfl rfl rfl rfl ?_
    refine fw_aload dX0_spoonOf_42 rfl ?_
    refine fw_iconst (v := 4) dX0_spoonOf_44 (by decide) ?_
    refine fw_iload_n dX0_spoonOf_45 rfl rfl ?_
    obtain ⟨hg17, h⟩ := h
    obtain ⟨hc18, h⟩ := h
    refine fw_iast hg17 hc18 dX0_spoonOf_46 ?_
    have h := h _ rfl
    refine fw_aload dX0_spoonOf_47 rfl ?_
    refine fw_iconst (v := 5) dX0_spoonOf_49 (by decide) ?_
    refine fw_iload dX0_spoonOf_50 rfl ?_
    obtain ⟨hc20, h⟩ := h
    refine fw_iast hg17 hc20 dX0_spoonOf_52 ?_
    have h := h _ rfl
    refine fw_aload dX0_spoonOf_53 rfl ?_
    refine fw_bipush (v := 6) dX0_spoonOf_55 (by decide) ?_
    refine fw_aload_n dX0_spoonOf_57 rfl rfl ?_
    refine fw_bipush (v := 23) dX0_spoonOf_58 (by decide) ?_
    obtain ⟨hc22, h⟩ := h
    refine fw_iald hg13 hc22 dX0_spoonOf_60 ?_
    obtain ⟨hc23, h⟩ := h
    refine fw_iast hg17 hc23 dX0_spoonOf_61 ?_
    have h := h _ rfl
    refine fw_aload dX0_spoonOf_62 rfl ?_
    refine fw_bipush (v := 7) dX0_spoonOf_64 (by decide) ?_
    refine fw_iload dX0_spoonOf_66 rfl ?_
    obtain ⟨hc25, h⟩ := h
    refine fw_iast hg17 hc25 dX0_spoonOf_68 ?_
    have h := h _ rfl
    refine fw_aload_n dX0_spoonOf_69 rfl rfl ?_
    refine fw_iconst (v := 0) dX0_spoonOf_70 (by decide) ?_
    refine fw_aload_n dX0_spoonOf_71 rfl rfl ?_
    refine fw_getfP fl_X0_12 rfl hg12 dX0_spoonOf_72 ?_
    obtain ⟨hg27, h⟩ := h
    refine fw_getfP fl_X0_80 rfl hg27 dX0_spoonOf_75 ?_
    refine fw_iload_n dX0_spoonOf_78 rfl rfl ?_
    obtain ⟨hg28, h⟩ := h
    obtain ⟨hc29, h⟩ := h
    refine fw_iald hg28 hc29 dX0_spoonOf_79 ?_
    refine fw_iconst (v := 1) dX0_spoonOf_80 (by decide) ?_
    refine fw_iadd dX0_spoonOf_81 ?_
    refine fw_bipush (v := 99) dX0_spoonOf_82 (by decide) ?_
    refine fw_callV3z (f1 := f - 1) cl_X0_119 rfl hg12 (by decide) (by omega) (fw_s4 (Nat.le_of_ble_eq_true rfl)) dX0_spoonOf_84 (w_X0_told (f := f - 1) (by omega) hg12 h) (fun _ _ h9 _ _ => h9.elim) (fun v9 μ31 q9 hs32 => ?_)
    obtain ⟨v30, rfl, h⟩ := q9
    refine fw_ti ?_
    have hg33 := hs32.K hg12 (by decide)
    have hg34 := hs32.K hg13 (by decide)
    have hg35 := hs32.K hg17 (by decide)
    refine fw_istoreN (Ls' := [(7, Value.int v30), (6, fw_rv g r6_15), (5, Value.int i5_7), (4, Value.int i4_3), (3, Value.int i3), (0, fw_rv g r0), (1, fw_rv g r1), (2, Value.int i2)]) [1, 2, 3, 4, 5, 6] dX0_spoonOf_87 (by decide) rfl rfl rfl (fw_cat _) rfl ?_
    refine fw_iload dX0_spoonOf_89 rfl ?_
    refine fw_iload dX0_spoonOf_91 rfl ?_
    refine fw_callS2z (f1 := f - 1) cl_X0_126 (by decide) (by omega) (fw_s4 (Nat.le_of_ble_eq_true rfl)) dX0_spoonOf_93 (w_J0_min_2 (f := f - 1) (by omega) h) (fun _ _ h9 _ _ => h9.elim) (fun v9 μ37 q9 hs38 => ?_)
    obtain ⟨v36, rfl, h⟩ := q9
    refine fw_ti ?_
    have hg39 := hs38.K hg33 (by decide)
    have hg40 := hs38.K hg34 (by decide)
    have hg41 := hs38.K hg35 (by decide)
    refine fw_aload_n dX0_spoonOf_96 rfl rfl ?_
    refine fw_aload_n dX0_spoonOf_97 rfl rfl ?_
    refine fw_iload_n dX0_spoonOf_98 rfl rfl ?_
    refine fw_callV2z (f1 := f - 1) cl_X0_128 rfl hg39 (by decide) (by omega) (fw_s4 (Nat.le_of_ble_eq_true rfl)) dX0_spoonOf_99 (w_X0_holds (f := f - 1) (by omega) hg39 h) (fun _ _ h9 _ _ => h9.elim) (fun v9 μ43 q9 hs44 => ?_)
    obtain ⟨v42, rfl, h⟩ := q9
    refine fw_ti ?_
    have hg45 := hs44.K hg39 (by decide)
    have hg46 := hs44.K hg40 (by decide)
    have hg47 := hs44.K hg41 (by decide)
    refine fw_callS2z (f1 := f - 1) cl_X0_126 (by decide) (by omega) (fw_s4 (Nat.le_of_ble_eq_true rfl)) dX0_spoonOf_102 (w_J0_min_2 (f := f - 1) (by omega) h) (fun _ _ h9 _ _ => h9.elim) (fun v9 μ49 q9 hs50 => ?_)
    obtain ⟨v48, rfl, h⟩ := q9
    refine fw_ti ?_
    have hg51 := hs50.K hg45 (by decide)
    have hg52 := hs50.K hg46 (by decide)
    have hg53 := hs50.K hg47 (by decide)
    exact fw_ireturn dX0_spoonOf_105 rfl rfl ⟨_, rfl, h⟩
  · have h := fw_it h c5
    refine fw_iconst (v := 0) dX0_spoonOf_13 (by decide) ?_
    exact fw_ireturn dX0_spoonOf_14 rfl rfl ⟨_, rfl, h⟩
abbrev K_X0_eat : fw_Kt := (RX0, "eat", cX0_eat, 5, some .int, [])
def p_X0_eat (r0 : Nat) (r1 : Nat) (i2 : Int32) (i3 : Int32) (μ : fw_M) (Q : Int32 → fw_M → Prop) : Prop :=
  (p_X0_spoonOf r0 r1 i2 i3 μ (fun v1 μ2 =>
  (if v1 = 0 then
  (Q (0 : Int32) μ2)
  else
  ((m_K μ2 r1 = 100 ∧ (vp_in ((4 : Int32) + i2) (m_N μ2 r1) ∧ (vp_in (((0 : Int32) + ((2 : Int32) * (m_I μ2 r1 ((4 : Int32) + i2).toNatClampNeg))) + i3) (m_N μ2 r1) ∧ (vp_in (((0 : Int32) + ((2 : Int32) * (m_I μ2 r1 ((4 : Int32) + i2).toNatClampNeg))) + i3) (m_N μ2 r1) ∧ (∀ μ10, μ10 = m_uI μ2 r1 (((0 : Int32) + ((2 : Int32) * (m_I μ2 r1 ((4 : Int32) + i2).toNatClampNeg))) + i3).toNatClampNeg ((m_I μ2 r1 (((0 : Int32) + ((2 : Int32) * (m_I μ2 r1 ((4 : Int32) + i2).toNatClampNeg))) + i3).toNatClampNeg) - v1) →
   (vp_in ((13 : Int32) + i2) (m_N μ10 r1) ∧ (vp_in ((13 : Int32) + i2) (m_N μ10 r1) ∧ (∀ μ13, μ13 = m_uI μ10 r1 ((13 : Int32) + i2).toNatClampNeg ((m_I μ10 r1 ((13 : Int32) + i2).toNatClampNeg) + v1) →
   (vp_in (23 : Int32) (m_N μ13 r1) ∧ (vp_in (23 : Int32) (m_N μ13 r1) ∧ (∀ μ16, μ16 = m_uI μ13 r1 (23 : Int32).toNatClampNeg ((m_I μ13 r1 (23 : Int32).toNatClampNeg) + (1 : Int32)) →
   Q v1 μ16)))))))))))))))
set_option maxHeartbeats 4000000 in
theorem w_X0_eat {g : fw_G} {f bc bs : Nat} {r0 : Nat} {r1 : Nat} {i2 : Int32} {i3 : Int32} {μ : fw_M} {Q : Int32 → fw_M → Prop} (hf : 406 ≤ f) (hx : m_K μ r0 = 1) (h : p_X0_eat r0 r1 i2 i3 μ Q) : fw_C g f bc bs yX0_eat (ws_ yX0_eat cX0_eat 5 (some .int)) [fw_rv g r0, fw_rv g r1, Value.int i2, Value.int i3] μ (fw_Qi Q) fw_nX := by
  unfold p_X0_eat at h
  refine fw_intro' (Ls := [(0, fw_rv g r0), (1, fw_rv g r1), (2, Value.int i2), (3, Value.int i3)]) (by decide +kernel) (by simp [lg_sl, fw_cat, fw_ci, fw_clo]) (by simp [lv_args, fw_cat, fw_ci, fw_clo]) ?_
  show fw_V g K_X0_eat f bc bs 0 [(0, fw_rv g r0), (1, fw_rv g r1), (2, Value.int i2), (3, Value.int i3)] [] μ (fw_Qi Q) fw_nX
  refine fw_aload_n dX0_eat_0 rfl rfl ?_
  refine fw_aload_n dX0_eat_1 rfl rfl ?_
  refine fw_iload_n dX0_eat_2 rfl rfl ?_
  refine fw_iload_n dX0_eat_3 rfl rfl ?_
  refine fw_callV3z (f1 := f - 1) cl_X0_146 rfl hx (by decide) (by omega) (fw_s4 (Nat.le_of_ble_eq_true rfl)) dX0_eat_4 (w_X0_spoonOf (f := f - 1) (by omega) hx h) (fun _ _ h9 _ _ => h9.elim) (fun v9 μ2 q9 hs3 => ?_)
  obtain ⟨v1, rfl, h⟩ := q9
  refine fw_ti ?_
  have hg4 := hs3.K hx (by decide)
  refine fw_istoreN (Ls' := [(4, Value.int v1), (3, Value.int i3), (0, fw_rv g r0), (1, fw_rv g r1), (2, Value.int i2)]) [0, 1, 2] dX0_eat_7 (by decide) rfl rfl rfl rfl rfl ?_
  refine fw_iload dX0_eat_9 rfl ?_
  refine fw_if_ne (tgt := 16) dX0_eat_11 (by decide) (fun c5 => ?_) (fun c5 => ?_)
  · have h := fw_if h c5
    refine fw_aload_n dX0_eat_16 rfl rfl ?_
    refine fw_iconst (v := 0) dX0_eat_17 (by decide) ?_
    refine fw_iconst (v := 2) dX0_eat_18 (by decide) ?_
    refine fw_aload_n dX0_eat_19 rfl rfl ?_
    refine fw_iconst (v := 4) dX0_eat_20 (by decide) ?_
    refine fw_iload_n dX0_eat_21 rfl rfl ?_
    refine fw_iadd dX0_eat_22 ?_
    obtain ⟨hg6, h⟩ := h
    obtain ⟨hc7, h⟩ := h
    refine fw_iald hg6 hc7 dX0_eat_23 ?_
    refine fw_imul dX0_eat_24 ?_
    refine fw_iadd dX0_eat_25 ?_
    refine fw_iload_n dX0_eat_26 rfl rfl ?_
    refine fw_iadd dX0_eat_27 ?_
    refine fw_dup2 dX0_eat_28 rfl (fw_cat _) ?_
    obtain ⟨hc8, h⟩ := h
    refine fw_iald hg6 hc8 dX0_eat_29 ?_
    refine fw_iload dX0_eat_30 rfl ?_
    refine fw_isub dX0_eat_32 ?_
    obtain ⟨hc9, h⟩ := h
    refine fw_iast hg6 hc9 dX0_eat_33 ?_
    have h := h _ rfl
    refine fw_aload_n dX0_eat_34 rfl rfl ?_
    refine fw_bipush (v := 13) dX0_eat_35 (by decide) ?_
    refine fw_iload_n dX0_eat_37 rfl rfl ?_
    refine fw_iadd dX0_eat_38 ?_
    refine fw_dup2 dX0_eat_39 rfl (fw_cat _) ?_
    obtain ⟨hc11, h⟩ := h
    refine fw_iald hg6 hc11 dX0_eat_40 ?_
    refine fw_iload dX0_eat_41 rfl ?_
    refine fw_iadd dX0_eat_43 ?_
    obtain ⟨hc12, h⟩ := h
    refine fw_iast hg6 hc12 dX0_eat_44 ?_
    have h := h _ rfl
    refine fw_aload_n dX0_eat_45 rfl rfl ?_
    refine fw_bipush (v := 23) dX0_eat_46 (by decide) ?_
    refine fw_dup2 dX0_eat_48 rfl (fw_cat _) ?_
    obtain ⟨hc14, h⟩ := h
    refine fw_iald hg6 hc14 dX0_eat_49 ?_
    refine fw_iconst (v := 1) dX0_eat_50 (by decide) ?_
    refine fw_iadd dX0_eat_51 ?_
    obtain ⟨hc15, h⟩ := h
    refine fw_iast hg6 hc15 dX0_eat_52 ?_
    have h := h _ rfl
    refine fw_iload dX0_eat_53 rfl ?_
    exact fw_ireturn dX0_eat_55 rfl rfl ⟨_, rfl, h⟩
  · have h := fw_it h c5
    refine fw_iconst (v := 0) dX0_eat_14 (by decide) ?_
    exact fw_ireturn dX0_eat_15 rfl rfl ⟨_, rfl, h⟩
abbrev K_X0_tiltOf : fw_Kt := (RX0, "tiltOf", cX0_tiltOf, 1, some .int, [])
def p_X0_tiltOf (r0 : Nat) (μ : fw_M) (Q : Int32 → fw_M → Prop) : Prop :=
  (m_K μ r0 = 100 ∧ (vp_in (0 : Int32) (m_N μ r0) ∧ (vp_in (1 : Int32) (m_N μ r0) ∧ (vp_in (2 : Int32) (m_N μ r0) ∧ (vp_in (3 : Int32) (m_N μ r0) ∧ Q ((((m_I μ r0 (0 : Int32).toNatClampNeg) + (m_I μ r0 (1 : Int32).toNatClampNeg)) - (m_I μ r0 (2 : Int32).toNatClampNeg)) - (m_I μ r0 (3 : Int32).toNatClampNeg)) μ)))))
set_option maxHeartbeats 4000000 in
theorem w_X0_tiltOf {g : fw_G} {f bc bs : Nat} {r0 : Nat} {μ : fw_M} {Q : Int32 → fw_M → Prop} (hf : 1 ≤ f) (h : p_X0_tiltOf r0 μ Q) : fw_C g f bc bs yX0_tiltOf (ws_ yX0_tiltOf cX0_tiltOf 1 (some .int)) [fw_rv g r0] μ (fw_Qi Q) fw_nX := by
  unfold p_X0_tiltOf at h
  refine fw_intro' (Ls := [(0, fw_rv g r0)]) (by decide +kernel) (by simp [lg_sl, fw_cat, fw_ci, fw_clo]) (by simp [lv_args, fw_cat, fw_ci, fw_clo]) ?_
  show fw_V g K_X0_tiltOf f bc bs 0 [(0, fw_rv g r0)] [] μ (fw_Qi Q) fw_nX
  refine fw_aload_n dX0_tiltOf_0 rfl rfl ?_
  refine fw_iconst (v := 0) dX0_tiltOf_1 (by decide) ?_
  obtain ⟨hg1, h⟩ := h
  obtain ⟨hc2, h⟩ := h
  refine fw_iald hg1 hc2 dX0_tiltOf_2 ?_
  refine fw_aload_n dX0_tiltOf_3 rfl rfl ?_
  refine fw_iconst (v := 1) dX0_tiltOf_4 (by decide) ?_
  obtain ⟨hc3, h⟩ := h
  refine fw_iald hg1 hc3 dX0_tiltOf_5 ?_
  refine fw_iadd dX0_tiltOf_6 ?_
  refine fw_aload_n dX0_tiltOf_7 rfl rfl ?_
  refine fw_iconst (v := 2) dX0_tiltOf_8 (by decide) ?_
  obtain ⟨hc4, h⟩ := h
  refine fw_iald hg1 hc4 dX0_tiltOf_9 ?_
  refine fw_isub dX0_tiltOf_10 ?_
  refine fw_aload_n dX0_tiltOf_11 rfl rfl ?_
  refine fw_iconst (v := 3) dX0_tiltOf_12 (by decide) ?_
  obtain ⟨hc5, h⟩ := h
  refine fw_iald hg1 hc5 dX0_tiltOf_13 ?_
  refine fw_isub dX0_tiltOf_14 ?_
  exact fw_ireturn dX0_tiltOf_15 rfl rfl ⟨_, rfl, h⟩
abbrev K_X0_calls : fw_Kt := (RX0, "calls", cX0_calls, 5, none, [])
def p_X0_calls_L55b (k_X0_calls : Nat → Int32 → Int32 → Int32 → fw_M → (fw_M → Prop) → Prop) (r0 : Nat) (i1 : Int32) (i2 : Int32) (i3 : Int32) (k55 : Int32 → fw_M → Prop) (i4 : Int32) (μ : fw_M) (Q : fw_M → Prop) : Prop :=
  (m_K μ (m_P μ r0 0) = 2 ∧ (if (m_I μ (m_P μ r0 0) 0) ≤ i4 then
  (Q μ)
  else
  ((if ((i1 >>> (i4 &&& 31)) &&& (1 : Int32)) = 0 then
   ((∀ i4_30 : Int32, i4_30 = i4 + (1 : Int32) →
    k55 i4_30 μ))
   else
   ((m_K μ (m_P μ r0 10) = 100 ∧ (vp_in i3 (m_N μ (m_P μ r0 10)) ∧ (∀ μ6, μ6 = m_uI μ (m_P μ r0 10) i3.toNatClampNeg i4 →
    (m_K μ6 (m_P μ6 r0 9) = 103 ∧ (vp_in i3 (m_N μ6 (m_P μ6 r0 9)) ∧ (vp_in (i3 + (1 : Int32)) (m_N μ6 (m_P μ6 r0 9)) ∧ (m_K μ6 (m_P μ6 (m_P μ6 r0 9) i3.toNatClampNeg) = 100 ∧ (m_K μ6 (m_P μ6 (m_P μ6 r0 9) (i3 + (1 : Int32)).toNatClampNeg) = 100 ∧ (¬ (0 : Int32) < 0 ∧ (¬ (0 : Int32) < 0 ∧ (¬ (25 : Int32) < 0 ∧ ((0 : Int32).toNatClampNeg + (25 : Int32).toNatClampNeg ≤ m_N μ6 (m_P μ6 (m_P μ6 r0 9) i3.toNatClampNeg) ∧ ((0 : Int32).toNatClampNeg + (25 : Int32).toNatClampNeg ≤ m_N μ6 (m_P μ6 (m_P μ6 r0 9) (i3 + (1 : Int32)).toNatClampNeg) ∧ (∀ μ17, μ17 = m_cp μ6 (m_P μ6 (m_P μ6 r0 9) i3.toNatClampNeg) (0 : Int32).toNatClampNeg (m_P μ6 (m_P μ6 r0 9) (i3 + (1 : Int32)).toNatClampNeg) (0 : Int32).toNatClampNeg (25 : Int32).toNatClampNeg →
    (m_K μ17 (m_P μ17 r0 9) = 103 ∧ (vp_in (i3 + (1 : Int32)) (m_N μ17 (m_P μ17 r0 9)) ∧ (p_X0_eat r0 (m_P μ17 (m_P μ17 r0 9) (i3 + (1 : Int32)).toNatClampNeg) i4 i2 μ17 (fun v20 μ21 =>
    (k_X0_calls r0 (i1 &&& (((1 : Int32) <<< (i4 &&& 31)) ^^^ (-1 : Int32))) i2 (i3 + (1 : Int32)) μ21 (fun μ25 =>
    (∀ i4_28 : Int32, i4_28 = i4 + (1 : Int32) →
    k55 i4_28 μ25))))))))))))))))))))))))))
def p_X0_calls_L55 (k_X0_calls : Nat → Int32 → Int32 → Int32 → fw_M → (fw_M → Prop) → Prop) (r0 : Nat) (i1 : Int32) (i2 : Int32) (i3 : Int32) (i4 : Int32) (μ : fw_M) (Q : fw_M → Prop) : Prop := fw_lp (fun (k : Int32 × fw_M → Prop) (a : Int32 × fw_M) => p_X0_calls_L55b k_X0_calls r0 i1 i2 i3 (fun i4 μ => k (i4, μ)) a.1 a.2 Q) (i4, μ)
theorem r_X0_calls_L55 {k_X0_calls : Nat → Int32 → Int32 → Int32 → fw_M → (fw_M → Prop) → Prop} {r0 : Nat} {i1 : Int32} {i2 : Int32} {i3 : Int32} {Q : fw_M → Prop} (I : Int32 → fw_M → Prop) (v : Int32 → fw_M → Nat) (hs : ∀ (k : Int32 → fw_M → Prop) (i4 : Int32) (μ : fw_M), I i4 μ → (∀ (i4' : Int32) (ν : fw_M), I i4' ν → v i4' ν < v i4 μ → k i4' ν) → p_X0_calls_L55b k_X0_calls r0 i1 i2 i3 k i4 μ Q) (i4 : Int32) (μ : fw_M) (h : I i4 μ) : p_X0_calls_L55 k_X0_calls r0 i1 i2 i3 i4 μ Q :=
  fw_lp_in (A := Int32 × fw_M) (fun a => I a.1 a.2) (fun a => v a.1 a.2) (fun k a ha hk => hs (fun i4 μ => k (i4, μ)) a.1 a.2 ha (fun i4' ν hb hlt => hk (i4', ν) hb hlt)) (i4, μ) h
set_option maxHeartbeats 4000000 in
theorem w_X0_calls_L55b {g : fw_G} {f bc bs : Nat} {k_X0_calls : Nat → Int32 → Int32 → Int32 → fw_M → (fw_M → Prop) → Prop} {r0 : Nat} {i1 : Int32} {i2 : Int32} {i3 : Int32} {k55 : Int32 → fw_M → Prop} {i4 : Int32} {μ : fw_M} {Q : fw_M → Prop} (hf : 407 ≤ f) (hk_X0_calls : ∀ {z0 : Nat} {z1 : Int32} {z2 : Int32} {z3 : Int32} {μ9 : fw_M} {Q9 : fw_M → Prop}, m_K μ9 z0 = 1 → k_X0_calls z0 z1 z2 z3 μ9 Q9 → fw_C g (f - 1) 0 0 yX0_calls (ws_ yX0_calls cX0_calls 5 (none)) [fw_rv g z0, Value.int z1, Value.int z2, Value.int z3] μ9 (fw_Qv Q9) fw_nX) (hk55 : ∀ {i4 : Int32} {μ : fw_M}, m_K μ r0 = 1 → k55 i4 μ → fw_V g K_X0_calls f bc bs 55 [(0, fw_rv g r0), (1, Value.int i1), (2, Value.int i2), (3, Value.int i3), (4, Value.int i4)] [] μ (fw_Qv Q) fw_nX) (hx : m_K μ r0 = 1) (h : p_X0_calls_L55b k_X0_calls r0 i1 i2 i3 k55 i4 μ Q) : fw_V g K_X0_calls f bc bs 55 [(0, fw_rv g r0), (1, Value.int i1), (2, Value.int i2), (3, Value.int i3), (4, Value.int i4)] [] μ (fw_Qv Q) fw_nX := by
  unfold p_X0_calls_L55b at h
  refine fw_iload dX0_calls_55 rfl ?_
  refine fw_aload_n dX0_calls_57 rfl rfl ?_
  refine fw_getfP fl_X0_12 rfl hx dX0_calls_58 ?_
  obtain ⟨hg1, h⟩ := h
  refine fw_getfI fl_X0_63 rfl hg1 dX0_calls_61 ?_
  refine fw_icmp_ge (tgt := 146) dX0_calls_64 (by decide) (fun c2 => ?_) (fun c2 => ?_)
  · have h := fw_it h c2
    exact fw_return dX0_calls_146 rfl ⟨rfl, h⟩
  · have h := fw_if h c2
    refine fw_iload_n dX0_calls_67 rfl rfl ?_
    refine fw_iload dX0_calls_68 rfl ?_
    refine fw_ishr dX0_calls_70 ?_
    refine fw_iconst (v := 1) dX0_calls_71 (by decide) ?_
    refine fw_iand dX0_calls_72 ?_
    refine fw_if_ne (tgt := 79) dX0_calls_73 (by decide) (fun c3 => ?_) (fun c3 => ?_)
    · have h := fw_if h c3
      refine fw_aload_n dX0_calls_79 rfl rfl ?_
      refine fw_getfP fl_X0_53 rfl hx dX0_calls_80 ?_
      refine fw_iload_n dX0_calls_83 rfl rfl ?_
      refine fw_iload dX0_calls_84 rfl ?_
      obtain ⟨hg4, h⟩ := h
      obtain ⟨hc5, h⟩ := h
      refine fw_iast hg4 hc5 dX0_calls_86 ?_
      have h := h _ rfl
      refine fw_aload_n dX0_calls_87 rfl rfl ?_
      refine fw_getfP fl_X0_50 rfl hx dX0_calls_88 ?_
      refine fw_iload_n dX0_calls_91 rfl rfl ?_
      obtain ⟨hg7, h⟩ := h
      obtain ⟨hc8, h⟩ := h
      refine fw_aald hg7 rfl rfl hc8 dX0_calls_92 ?_
      refine fw_iconst (v := 0) dX0_calls_93 (by decide) ?_
      refine fw_aload_n dX0_calls_94 rfl rfl ?_
      refine fw_getfP fl_X0_50 rfl hx dX0_calls_95 ?_
      refine fw_iload_n dX0_calls_98 rfl rfl ?_
      refine fw_iconst (v := 1) dX0_calls_99 (by decide) ?_
      refine fw_iadd dX0_calls_100 ?_
      obtain ⟨hc9, h⟩ := h
      refine fw_aald hg7 rfl rfl hc9 dX0_calls_101 ?_
      refine fw_iconst (v := 0) dX0_calls_102 (by decide) ?_
      refine fw_bipush (v := 25) dX0_calls_103 (by decide) ?_
      obtain ⟨hg10, h⟩ := h
      obtain ⟨hg11, h⟩ := h
      obtain ⟨hc12, h⟩ := h
      obtain ⟨hc13, h⟩ := h
      obtain ⟨hc14, h⟩ := h
      obtain ⟨hc15, h⟩ := h
      obtain ⟨hc16, h⟩ := h
      refine fw_copy q925 q311 q310 q80 hg10 hg11 hc12 hc13 hc14 hc15 hc16 (by omega) (fw_s4 (Nat.le_of_ble_eq_true rfl)) dX0_calls_105 ?_
      have h := h _ rfl
      refine fw_aload_n dX0_calls_108 rfl rfl ?_
      refine fw_aload_n dX0_calls_109 rfl rfl ?_
      refine fw_getfP fl_X0_50 rfl hx dX0_calls_110 ?_
      refine fw_iload_n dX0_calls_113 rfl rfl ?_
      refine fw_iconst (v := 1) dX0_calls_114 (by decide) ?_
      refine fw_iadd dX0_calls_115 ?_
      obtain ⟨hg18, h⟩ := h
      obtain ⟨hc19, h⟩ := h
      refine fw_aald hg18 rfl rfl hc19 dX0_calls_116 ?_
      refine fw_iload dX0_calls_117 rfl ?_
      refine fw_iload_n dX0_calls_119 rfl rfl ?_
      refine fw_callV3z (f1 := f - 1) cl_X0_159 rfl hx (by decide) (by omega) (fw_s4 (Nat.le_of_ble_eq_true rfl)) dX0_calls_120 (w_X0_eat (f := f - 1) (by omega) hx h) (fun _ _ h9 _ _ => h9.elim) (fun v9 μ21 q9 hs22 => ?_)
      obtain ⟨v20, rfl, h⟩ := q9
      refine fw_ti ?_
      have hg23 := hs22.K hx (by decide)
      refine fw_pop dX0_calls_123 rfl ?_
      refine fw_aload_n dX0_calls_124 rfl rfl ?_
      refine fw_iload_n dX0_calls_125 rfl rfl ?_
      refine fw_iconst (v := 1) dX0_calls_126 (by decide) ?_
      refine fw_iload dX0_calls_127 rfl ?_
      refine fw_ishl dX0_calls_129 ?_
      refine fw_iconst (v := -1) dX0_calls_130 (by decide) ?_
      refine fw_ixor dX0_calls_131 ?_
      refine fw_iand dX0_calls_132 ?_
      refine fw_iload_n dX0_calls_133 rfl rfl ?_
      refine fw_iload_n dX0_calls_134 rfl rfl ?_
      refine fw_iconst (v := 1) dX0_calls_135 (by decide) ?_
      refine fw_iadd dX0_calls_136 ?_
      refine fw_callV3z (f1 := f - 1) cl_X0_230 rfl hg23 (by decide) (by omega) (fw_s4 (Nat.le_of_ble_eq_true rfl)) dX0_calls_137 (hk_X0_calls hg23 h) (fun _ _ h9 _ _ => h9.elim) (fun v9 μ25 q9 hs26 => ?_)
      obtain ⟨rfl, h⟩ := q9
      refine fw_tv ?_
      have hg27 := hs26.K hg23 (by decide)
      obtain ⟨i4_28, e29⟩ : ∃ y : Int32, y = i4 + (1 : Int32) := ⟨_, rfl⟩
      have h := h i4_28 e29
      refine fw_iincN (k := 4) (v := i4_28) (Ls' := [(4, Value.int i4_28), (3, Value.int i3), (0, fw_rv g r0), (1, Value.int i1), (2, Value.int i2)]) [0, 1, 2] dX0_calls_140 rfl (by rw [e29]; rfl) (by decide) rfl rfl rfl rfl rfl ?_
      refine fw_goto (tgt := 55) dX0_calls_143 (by decide) ?_
      refine fw_ls [2, 3, 4, 1, 0] rfl ?_
      exact hk55 hg27 h
    · have h := fw_it h c3
      refine fw_goto (tgt := 140) dX0_calls_76 (by decide) ?_
      obtain ⟨i4_30, e31⟩ : ∃ y : Int32, y = i4 + (1 : Int32) := ⟨_, rfl⟩
      have h := h i4_30 e31
      refine fw_iincN (k := 4) (v := i4_30) (Ls' := [(4, Value.int i4_30), (3, Value.int i3), (0, fw_rv g r0), (1, Value.int i1), (2, Value.int i2)]) [0, 1, 2] dX0_calls_140 rfl (by rw [e31]; rfl) (by decide) rfl rfl rfl rfl rfl ?_
      refine fw_goto (tgt := 55) dX0_calls_143 (by decide) ?_
      refine fw_ls [2, 3, 4, 1, 0] rfl ?_
      exact hk55 hx h
theorem w_X0_calls_L55 {g : fw_G} {f bc bs : Nat} {k_X0_calls : Nat → Int32 → Int32 → Int32 → fw_M → (fw_M → Prop) → Prop} {r0 : Nat} {i1 : Int32} {i2 : Int32} {i3 : Int32} {i4 : Int32} {μ : fw_M} {Q : fw_M → Prop} (hf : 407 ≤ f) (hk_X0_calls : ∀ {z0 : Nat} {z1 : Int32} {z2 : Int32} {z3 : Int32} {μ9 : fw_M} {Q9 : fw_M → Prop}, m_K μ9 z0 = 1 → k_X0_calls z0 z1 z2 z3 μ9 Q9 → fw_C g (f - 1) 0 0 yX0_calls (ws_ yX0_calls cX0_calls 5 (none)) [fw_rv g z0, Value.int z1, Value.int z2, Value.int z3] μ9 (fw_Qv Q9) fw_nX) (hx : m_K μ r0 = 1) (h : p_X0_calls_L55 k_X0_calls r0 i1 i2 i3 i4 μ Q) : fw_V g K_X0_calls f bc bs 55 [(0, fw_rv g r0), (1, Value.int i1), (2, Value.int i2), (3, Value.int i3), (4, Value.int i4)] [] μ (fw_Qv Q) fw_nX := by
  have key := fw_lp_out (R := fun (a : Int32 × fw_M) => m_K a.2 r0 = 1 → fw_V g K_X0_calls f bc bs 55 [(0, fw_rv g r0), (1, Value.int i1), (2, Value.int i2), (3, Value.int i3), (4, Value.int a.1)] [] a.2 (fw_Qv Q) fw_nX) (fun k hk9 a ha hx2 => w_X0_calls_L55b hf hk_X0_calls (fun {i4} {μ} hx3 h3 => hk9 (i4, μ) h3 hx3) hx2 ha) h
  exact key hx
def p_X0_calls (k_X0_calls : Nat → Int32 → Int32 → Int32 → fw_M → (fw_M → Prop) → Prop) (r0 : Nat) (i1 : Int32) (i2 : Int32) (i3 : Int32) (μ : fw_M) (Q : fw_M → Prop) : Prop :=
  (if i1 = 0 then
  ((m_K μ (m_P μ r0 9) = 103 ∧ (vp_in i3 (m_N μ (m_P μ r0 9)) ∧ (p_X0_tiltOf (m_P μ (m_P μ r0 9) i3.toNatClampNeg) μ (fun v4 μ5 =>
   (p_J0_abs v4 μ5 (fun v8 μ9 =>
   (p_J0_abs (m_I μ9 r0 12) μ9 (fun v12 μ13 =>
   (if v8 < v12 then
   ((∀ μ17, μ17 = m_uI μ13 r0 12 v4 →
    (m_K μ17 (m_P μ17 r0 10) = 100 ∧ (m_K μ17 (m_P μ17 r0 11) = 100 ∧ (¬ (0 : Int32) < 0 ∧ (¬ (0 : Int32) < 0 ∧ (¬ i3 < 0 ∧ ((0 : Int32).toNatClampNeg + i3.toNatClampNeg ≤ m_N μ17 (m_P μ17 r0 10) ∧ ((0 : Int32).toNatClampNeg + i3.toNatClampNeg ≤ m_N μ17 (m_P μ17 r0 11) ∧ (∀ μ25, μ25 = m_cp μ17 (m_P μ17 r0 10) (0 : Int32).toNatClampNeg (m_P μ17 r0 11) (0 : Int32).toNatClampNeg i3.toNatClampNeg →
    Q μ25))))))))))
   else
   (Q μ13)))))))))))
  else
  (p_X0_calls_L55 k_X0_calls r0 i1 i2 i3 (0 : Int32) μ Q))
set_option maxHeartbeats 4000000 in
theorem w_X0_calls {g : fw_G} {f bc bs : Nat} {k_X0_calls : Nat → Int32 → Int32 → Int32 → fw_M → (fw_M → Prop) → Prop} {r0 : Nat} {i1 : Int32} {i2 : Int32} {i3 : Int32} {μ : fw_M} {Q : fw_M → Prop} (hf : 407 ≤ f) (hk_X0_calls : ∀ {z0 : Nat} {z1 : Int32} {z2 : Int32} {z3 : Int32} {μ9 : fw_M} {Q9 : fw_M → Prop}, m_K μ9 z0 = 1 → k_X0_calls z0 z1 z2 z3 μ9 Q9 → fw_C g (f - 1) 0 0 yX0_calls (ws_ yX0_calls cX0_calls 5 (none)) [fw_rv g z0, Value.int z1, Value.int z2, Value.int z3] μ9 (fw_Qv Q9) fw_nX) (hx : m_K μ r0 = 1) (h : p_X0_calls k_X0_calls r0 i1 i2 i3 μ Q) : fw_C g f bc bs yX0_calls (ws_ yX0_calls cX0_calls 5 (none)) [fw_rv g r0, Value.int i1, Value.int i2, Value.int i3] μ (fw_Qv Q) fw_nX := by
  unfold p_X0_calls at h
  refine fw_intro' (Ls := [(0, fw_rv g r0), (1, Value.int i1), (2, Value.int i2), (3, Value.int i3)]) (by decide +kernel) (by simp [lg_sl, fw_cat, fw_ci, fw_clo]) (by simp [lv_args, fw_cat, fw_ci, fw_clo]) ?_
  show fw_V g K_X0_calls f bc bs 0 [(0, fw_rv g r0), (1, Value.int i1), (2, Value.int i2), (3, Value.int i3)] [] μ (fw_Qv Q) fw_nX
  refine fw_iload_n dX0_calls_0 rfl rfl ?_
  refine fw_if_ne (tgt := 52) dX0_calls_1 (by decide) (fun c1 => ?_) (fun c1 => ?_)
  · have h := fw_if h c1
    refine fw_iconst (v := 0) dX0_calls_52 (by decide) ?_
    refine fw_istoreN (Ls' := [(4, Value.int (0 : Int32)), (3, Value.int i3), (0, fw_rv g r0), (1, Value.int i1), (2, Value.int i2)]) [0, 1, 2] dX0_calls_53 (by decide) rfl rfl rfl rfl rfl ?_
    refine fw_ls [2, 3, 4, 1, 0] rfl ?_
    exact w_X0_calls_L55 hf hk_X0_calls hx h
  · have h := fw_it h c1
    refine fw_aload_n dX0_calls_4 rfl rfl ?_
    refine fw_getfP fl_X0_50 rfl hx dX0_calls_5 ?_
    refine fw_iload_n dX0_calls_8 rfl rfl ?_
    obtain ⟨hg2, h⟩ := h
    obtain ⟨hc3, h⟩ := h
    refine fw_aald hg2 rfl rfl hc3 dX0_calls_9 ?_
    refine fw_callS1z (f1 := f - 1) cl_X0_132 (by decide) (by omega) (fw_s4 (Nat.le_of_ble_eq_true rfl)) dX0_calls_10 (w_X0_tiltOf (f := f - 1) (by omega) h) (fun _ _ h9 _ _ => h9.elim) (fun v9 μ5 q9 hs6 => ?_)
    obtain ⟨v4, rfl, h⟩ := q9
    refine fw_ti ?_
    have hg7 := hs6.K hx (by decide)
    refine fw_istoreN (Ls' := [(4, Value.int v4), (3, Value.int i3), (0, fw_rv g r0), (1, Value.int i1), (2, Value.int i2)]) [0, 1, 2] dX0_calls_13 (by decide) rfl rfl rfl rfl rfl ?_
    refine fw_iload dX0_calls_15 rfl ?_
    refine fw_callS1z (f1 := f - 1) cl_X0_218 (by decide) (by omega) (fw_s4 (Nat.le_of_ble_eq_true rfl)) dX0_calls_17 (w_J0_abs (f := f - 1) (by omega) h) (fun _ _ h9 _ _ => h9.elim) (fun v9 μ9 q9 hs10 => ?_)
    obtain ⟨v8, rfl, h⟩ := q9
    refine fw_ti ?_
    have hg11 := hs10.K hg7 (by decide)
    refine fw_aload_n dX0_calls_20 rfl rfl ?_
    refine fw_getfI fl_X0_221 rfl hg11 dX0_calls_21 ?_
    refine fw_callS1z (f1 := f - 1) cl_X0_218 (by decide) (by omega) (fw_s4 (Nat.le_of_ble_eq_true rfl)) dX0_calls_24 (w_J0_abs (f := f - 1) (by omega) h) (fun _ _ h9 _ _ => h9.elim) (fun v9 μ13 q9 hs14 => ?_)
    obtain ⟨v12, rfl, h⟩ := q9
    refine fw_ti ?_
    have hg15 := hs14.K hg11 (by decide)
    refine fw_icmp_lt (tgt := 31) dX0_calls_27 (by decide) (fun c16 => ?_) (fun c16 => ?_)
    · have h := fw_it h c16
      refine fw_aload_n dX0_calls_31 rfl rfl ?_
      refine fw_iload dX0_calls_32 rfl ?_
      refine fw_putfI fl_X0_221 (fun q hq => Or.inl (by cases hq; rfl)) rfl hg15 dX0_calls_34 ?_
      have h := h _ rfl
      refine fw_aload_n dX0_calls_37 rfl rfl ?_
      refine fw_getfP fl_X0_53 rfl hg15 dX0_calls_38 ?_
      refine fw_iconst (v := 0) dX0_calls_41 (by decide) ?_
      refine fw_aload_n dX0_calls_42 rfl rfl ?_
      refine fw_getfP fl_X0_57 rfl hg15 dX0_calls_43 ?_
      refine fw_iconst (v := 0) dX0_calls_46 (by decide) ?_
      refine fw_iload_n dX0_calls_47 rfl rfl ?_
      obtain ⟨hg18, h⟩ := h
      obtain ⟨hg19, h⟩ := h
      obtain ⟨hc20, h⟩ := h
      obtain ⟨hc21, h⟩ := h
      obtain ⟨hc22, h⟩ := h
      obtain ⟨hc23, h⟩ := h
      obtain ⟨hc24, h⟩ := h
      refine fw_copy q925 q311 q310 q80 hg18 hg19 hc20 hc21 hc22 hc23 hc24 (by omega) (fw_s4 (Nat.le_of_ble_eq_true rfl)) dX0_calls_48 ?_
      have h := h _ rfl
      exact fw_return dX0_calls_51 rfl ⟨rfl, h⟩
    · have h := fw_if h c16
      exact fw_return dX0_calls_30 rfl ⟨rfl, h⟩
def p_X0_calls_d : Nat → Nat → Int32 → Int32 → Int32 → fw_M → (fw_M → Prop) → Prop
  | 0 => fun _ _ _ _ _ _ => False
  | d + 1 => p_X0_calls (p_X0_calls_d d)
theorem w_X0_calls_d {g : fw_G} : ∀ (d f : Nat) {z0 : Nat} {z1 : Int32} {z2 : Int32} {z3 : Int32} {μ : fw_M} {Q : fw_M → Prop}, 407 + d ≤ f → m_K μ z0 = 1 → p_X0_calls_d d z0 z1 z2 z3 μ Q → fw_C g f 0 0 yX0_calls (ws_ yX0_calls cX0_calls 5 (none)) [fw_rv g z0, Value.int z1, Value.int z2, Value.int z3] μ (fw_Qv Q) fw_nX := by
  intro d
  induction d with
  | zero => intro f z0 z1 z2 z3 μ Q _ _ h; exact h.elim
  | succ d ih =>
    intro f z0 z1 z2 z3 μ Q hf hx h
    exact w_X0_calls (k_X0_calls := p_X0_calls_d d) (by omega) (fun hx9 h9 => ih (f - 1) (by omega) hx9 h9) hx h
def pc_X0_calls (z0 : Nat) (z1 : Int32) (z2 : Int32) (z3 : Int32) (μ : fw_M) (Q : fw_M → Prop) : Prop := ∃ d, d ≤ 20 ∧ p_X0_calls_d d z0 z1 z2 z3 μ Q
theorem wc_X0_calls {g : fw_G} {f : Nat} {z0 : Nat} {z1 : Int32} {z2 : Int32} {z3 : Int32} {μ : fw_M} {Q : fw_M → Prop} (hf : 427 ≤ f) (hx : m_K μ z0 = 1) (h : pc_X0_calls z0 z1 z2 z3 μ Q) : fw_C g f 0 0 yX0_calls (ws_ yX0_calls cX0_calls 5 (none)) [fw_rv g z0, Value.int z1, Value.int z2, Value.int z3] μ (fw_Qv Q) fw_nX := by
  obtain ⟨d, hd, h⟩ := h
  exact w_X0_calls_d d f (by omega) hx h
abbrev K_X0_ways : fw_Kt := (RX0, "ways", cX0_ways, 7, some .long, [])
def p_X0_ways_L67 (k_X0_ways : Nat → Int32 → Int32 → fw_M → (Int64 → fw_M → Prop) → Prop) (k34 : Int64 → Int32 → fw_M → Prop) (r0 : Nat) (i1 : Int32) (i2 : Int32) (l3 : Int64) (i5 : Int32) (i6 : Int32) (μ : fw_M) (Q : Int64 → fw_M → Prop) : Prop :=
  (k_X0_ways r0 i1 (i2 - (1 : Int32)) μ (fun w1 μ2 =>
  (∀ l3_4 : Int64, l3_4 = (l3 + w1) →
  (if i6 = 0 then
  ((∀ i5_7 : Int32, i5_7 = i5 + (1 : Int32) →
   k34 l3_4 i5_7 μ2))
  else
  ((m_K μ2 r0 = 100 ∧ (vp_in i5 (m_N μ2 r0) ∧ (vp_in i5 (m_N μ2 r0) ∧ (∀ μ12, μ12 = m_uI μ2 r0 i5.toNatClampNeg ((m_I μ2 r0 i5.toNatClampNeg) + (1 : Int32)) →
   (∀ i5_13 : Int32, i5_13 = i5 + (1 : Int32) →
   k34 l3_4 i5_13 μ12))))))))))
set_option maxHeartbeats 4000000 in
theorem w_X0_ways_L67 {g : fw_G} {f bc bs : Nat} {k_X0_ways : Nat → Int32 → Int32 → fw_M → (Int64 → fw_M → Prop) → Prop} {k34 : Int64 → Int32 → fw_M → Prop} {r0 : Nat} {i1 : Int32} {i2 : Int32} {l3 : Int64} {i5 : Int32} {i6 : Int32} {μ : fw_M} {Q : Int64 → fw_M → Prop} (hf : 1 ≤ f) (hk_X0_ways : ∀ {z0 : Nat} {z1 : Int32} {z2 : Int32} {μ9 : fw_M} {Q9 : Int64 → fw_M → Prop}, k_X0_ways z0 z1 z2 μ9 Q9 → fw_C g (f - 1) 0 0 yX0_ways (ws_ yX0_ways cX0_ways 7 (some .long)) [fw_rv g z0, Value.int z1, Value.int z2] μ9 (fw_Ql Q9) fw_nX) (hk34 : ∀ {l3 : Int64} {i5 : Int32} {μ : fw_M}, k34 l3 i5 μ → fw_V g K_X0_ways f bc bs 34 [(0, fw_rv g r0), (1, Value.int i1), (2, Value.int i2), (3, Value.long l3), (5, Value.int i5)] [] μ (fw_Ql Q) fw_nX) (h : p_X0_ways_L67 k_X0_ways k34 r0 i1 i2 l3 i5 i6 μ Q) : fw_V g K_X0_ways f bc bs 67 [(0, fw_rv g r0), (1, Value.int i1), (2, Value.int i2), (3, Value.long l3), (5, Value.int i5), (6, Value.int i6)] [] μ (fw_Ql Q) fw_nX := by
  unfold p_X0_ways_L67 at h
  refine fw_lload_n dX0_ways_67 rfl rfl ?_
  refine fw_aload_n dX0_ways_68 rfl rfl ?_
  refine fw_iload_n dX0_ways_69 rfl rfl ?_
  refine fw_iload_n dX0_ways_70 rfl rfl ?_
  refine fw_iconst (v := 1) dX0_ways_71 (by decide) ?_
  refine fw_isub dX0_ways_72 ?_
  refine fw_callS3z (f1 := f - 1) cl_X0_276 (by decide) (by omega) (fw_s4 (Nat.le_of_ble_eq_true rfl)) dX0_ways_73 (hk_X0_ways h) (fun _ _ h9 _ _ => h9.elim) (fun v9 μ2 q9 hs3 => ?_)
  obtain ⟨w1, rfl, h⟩ := q9
  refine fw_tl ?_
  refine fw_ladd dX0_ways_76 ?_
  refine fw_topl (fun l3_4 e5 => ?_)
  have h := h l3_4 e5
  refine fw_lstore_nN (Ls' := [(3, Value.long l3_4), (2, Value.int i2), (0, fw_rv g r0), (1, Value.int i1), (5, Value.int i5), (6, Value.int i6)]) [0, 1, 4, 5] dX0_ways_77 rfl (by decide) rfl rfl rfl rfl rfl ?_
  refine fw_iload dX0_ways_78 rfl ?_
  refine fw_if_eq (tgt := 91) dX0_ways_80 (by decide) (fun c6 => ?_) (fun c6 => ?_)
  · have h := fw_it h c6
    obtain ⟨i5_7, e8⟩ : ∃ y : Int32, y = i5 + (1 : Int32) := ⟨_, rfl⟩
    have h := h i5_7 e8
    refine fw_iinc (k := 4) (v := i5_7) (Ls' := [(5, Value.int i5_7), (3, Value.long l3_4), (2, Value.int i2), (0, fw_rv g r0), (1, Value.int i1), (6, Value.int i6)]) [0, 1, 2, 3, 5] dX0_ways_91 rfl (by rw [e8]; rfl) (by decide) rfl rfl ?_
    refine fw_goto (tgt := 34) dX0_ways_94 (by decide) ?_
    refine fw_ls [3, 4, 2, 1, 0] rfl ?_
    exact hk34 h
  · have h := fw_if h c6
    refine fw_aload_n dX0_ways_83 rfl rfl ?_
    refine fw_iload dX0_ways_84 rfl ?_
    refine fw_dup2 dX0_ways_86 rfl (fw_cat _) ?_
    obtain ⟨hg9, h⟩ := h
    obtain ⟨hc10, h⟩ := h
    refine fw_iald hg9 hc10 dX0_ways_87 ?_
    refine fw_iconst (v := 1) dX0_ways_88 (by decide) ?_
    refine fw_iadd dX0_ways_89 ?_
    obtain ⟨hc11, h⟩ := h
    refine fw_iast hg9 hc11 dX0_ways_90 ?_
    have h := h _ rfl
    obtain ⟨i5_13, e14⟩ : ∃ y : Int32, y = i5 + (1 : Int32) := ⟨_, rfl⟩
    have h := h i5_13 e14
    refine fw_iinc (k := 4) (v := i5_13) (Ls' := [(5, Value.int i5_13), (3, Value.long l3_4), (2, Value.int i2), (0, fw_rv g r0), (1, Value.int i1), (6, Value.int i6)]) [0, 1, 2, 3, 5] dX0_ways_91 rfl (by rw [e14]; rfl) (by decide) rfl rfl ?_
    refine fw_goto (tgt := 34) dX0_ways_94 (by decide) ?_
    refine fw_ls [3, 4, 2, 1, 0] rfl ?_
    exact hk34 h
def p_X0_ways_L52 (k_X0_ways : Nat → Int32 → Int32 → fw_M → (Int64 → fw_M → Prop) → Prop) (k34 : Int64 → Int32 → fw_M → Prop) (r0 : Nat) (i1 : Int32) (i2 : Int32) (l3 : Int64) (i5 : Int32) (is0 : Int32) (μ : fw_M) (Q : Int64 → fw_M → Prop) : Prop :=
  (if is0 = 0 then
  (p_X0_ways_L67 k_X0_ways k34 r0 i1 i2 l3 i5 is0 μ Q)
  else
  ((m_K μ r0 = 100 ∧ (vp_in i5 (m_N μ r0) ∧ (vp_in i5 (m_N μ r0) ∧ (∀ μ5, μ5 = m_uI μ r0 i5.toNatClampNeg ((m_I μ r0 i5.toNatClampNeg) - (1 : Int32)) →
   p_X0_ways_L67 k_X0_ways k34 r0 i1 i2 l3 i5 is0 μ5 Q))))))
set_option maxHeartbeats 4000000 in
theorem w_X0_ways_L52 {g : fw_G} {f bc bs : Nat} {k_X0_ways : Nat → Int32 → Int32 → fw_M → (Int64 → fw_M → Prop) → Prop} {k34 : Int64 → Int32 → fw_M → Prop} {r0 : Nat} {i1 : Int32} {i2 : Int32} {l3 : Int64} {i5 : Int32} {is0 : Int32} {μ : fw_M} {Q : Int64 → fw_M → Prop} (hf : 1 ≤ f) (hk_X0_ways : ∀ {z0 : Nat} {z1 : Int32} {z2 : Int32} {μ9 : fw_M} {Q9 : Int64 → fw_M → Prop}, k_X0_ways z0 z1 z2 μ9 Q9 → fw_C g (f - 1) 0 0 yX0_ways (ws_ yX0_ways cX0_ways 7 (some .long)) [fw_rv g z0, Value.int z1, Value.int z2] μ9 (fw_Ql Q9) fw_nX) (hk34 : ∀ {l3 : Int64} {i5 : Int32} {μ : fw_M}, k34 l3 i5 μ → fw_V g K_X0_ways f bc bs 34 [(0, fw_rv g r0), (1, Value.int i1), (2, Value.int i2), (3, Value.long l3), (5, Value.int i5)] [] μ (fw_Ql Q) fw_nX) (h : p_X0_ways_L52 k_X0_ways k34 r0 i1 i2 l3 i5 is0 μ Q) : fw_V g K_X0_ways f bc bs 52 [(0, fw_rv g r0), (1, Value.int i1), (2, Value.int i2), (3, Value.long l3), (5, Value.int i5)] [Value.int is0] μ (fw_Ql Q) fw_nX := by
  unfold p_X0_ways_L52 at h
  refine fw_istoreN (Ls' := [(6, Value.int is0), (5, Value.int i5), (0, fw_rv g r0), (1, Value.int i1), (2, Value.int i2), (3, Value.long l3)]) [0, 1, 2, 3] dX0_ways_52 (by decide) rfl rfl rfl rfl rfl ?_
  refine fw_iload dX0_ways_54 rfl ?_
  refine fw_if_eq (tgt := 67) dX0_ways_56 (by decide) (fun c1 => ?_) (fun c1 => ?_)
  · have h := fw_it h c1
    refine fw_ls [2, 3, 4, 5, 1, 0] rfl ?_
    exact w_X0_ways_L67 hf hk_X0_ways hk34 h
  · have h := fw_if h c1
    refine fw_aload_n dX0_ways_59 rfl rfl ?_
    refine fw_iload dX0_ways_60 rfl ?_
    refine fw_dup2 dX0_ways_62 rfl (fw_cat _) ?_
    obtain ⟨hg2, h⟩ := h
    obtain ⟨hc3, h⟩ := h
    refine fw_iald hg2 hc3 dX0_ways_63 ?_
    refine fw_iconst (v := 1) dX0_ways_64 (by decide) ?_
    refine fw_isub dX0_ways_65 ?_
    obtain ⟨hc4, h⟩ := h
    refine fw_iast hg2 hc4 dX0_ways_66 ?_
    have h := h _ rfl
    refine fw_ls [2, 3, 4, 5, 1, 0] rfl ?_
    exact w_X0_ways_L67 hf hk_X0_ways hk34 h
def p_X0_ways_L34b (k_X0_ways : Nat → Int32 → Int32 → fw_M → (Int64 → fw_M → Prop) → Prop) (r0 : Nat) (i1 : Int32) (i2 : Int32) (k34 : Int64 → Int32 → fw_M → Prop) (l3 : Int64) (i5 : Int32) (μ : fw_M) (Q : Int64 → fw_M → Prop) : Prop :=
  (if (4 : Int32) ≤ i5 then
  (Q l3 μ)
  else
  ((m_K μ r0 = 100 ∧ (vp_in i5 (m_N μ r0) ∧ (if (m_I μ r0 i5.toNatClampNeg) ≤ 0 then
   (p_X0_ways_L52 k_X0_ways k34 r0 i1 i2 l3 i5 (0 : Int32) μ Q)
   else
   (p_X0_ways_L52 k_X0_ways k34 r0 i1 i2 l3 i5 (1 : Int32) μ Q))))))
def p_X0_ways_L34 (k_X0_ways : Nat → Int32 → Int32 → fw_M → (Int64 → fw_M → Prop) → Prop) (r0 : Nat) (i1 : Int32) (i2 : Int32) (l3 : Int64) (i5 : Int32) (μ : fw_M) (Q : Int64 → fw_M → Prop) : Prop := fw_lp (fun (k : Int64 × Int32 × fw_M → Prop) (a : Int64 × Int32 × fw_M) => p_X0_ways_L34b k_X0_ways r0 i1 i2 (fun l3 i5 μ => k (l3, i5, μ)) a.1 a.2.1 a.2.2 Q) (l3, i5, μ)
theorem r_X0_ways_L34 {k_X0_ways : Nat → Int32 → Int32 → fw_M → (Int64 → fw_M → Prop) → Prop} {r0 : Nat} {i1 : Int32} {i2 : Int32} {Q : Int64 → fw_M → Prop} (I : Int64 → Int32 → fw_M → Prop) (v : Int64 → Int32 → fw_M → Nat) (hs : ∀ (k : Int64 → Int32 → fw_M → Prop) (l3 : Int64) (i5 : Int32) (μ : fw_M), I l3 i5 μ → (∀ (l3' : Int64) (i5' : Int32) (ν : fw_M), I l3' i5' ν → v l3' i5' ν < v l3 i5 μ → k l3' i5' ν) → p_X0_ways_L34b k_X0_ways r0 i1 i2 k l3 i5 μ Q) (l3 : Int64) (i5 : Int32) (μ : fw_M) (h : I l3 i5 μ) : p_X0_ways_L34 k_X0_ways r0 i1 i2 l3 i5 μ Q :=
  fw_lp_in (A := Int64 × Int32 × fw_M) (fun a => I a.1 a.2.1 a.2.2) (fun a => v a.1 a.2.1 a.2.2) (fun k a ha hk => hs (fun l3 i5 μ => k (l3, i5, μ)) a.1 a.2.1 a.2.2 ha (fun l3' i5' ν hb hlt => hk (l3', i5', ν) hb hlt)) (l3, i5, μ) h
set_option maxHeartbeats 4000000 in
theorem w_X0_ways_L34b {g : fw_G} {f bc bs : Nat} {k_X0_ways : Nat → Int32 → Int32 → fw_M → (Int64 → fw_M → Prop) → Prop} {r0 : Nat} {i1 : Int32} {i2 : Int32} {k34 : Int64 → Int32 → fw_M → Prop} {l3 : Int64} {i5 : Int32} {μ : fw_M} {Q : Int64 → fw_M → Prop} (hf : 1 ≤ f) (hk_X0_ways : ∀ {z0 : Nat} {z1 : Int32} {z2 : Int32} {μ9 : fw_M} {Q9 : Int64 → fw_M → Prop}, k_X0_ways z0 z1 z2 μ9 Q9 → fw_C g (f - 1) 0 0 yX0_ways (ws_ yX0_ways cX0_ways 7 (some .long)) [fw_rv g z0, Value.int z1, Value.int z2] μ9 (fw_Ql Q9) fw_nX) (hk34 : ∀ {l3 : Int64} {i5 : Int32} {μ : fw_M}, k34 l3 i5 μ → fw_V g K_X0_ways f bc bs 34 [(0, fw_rv g r0), (1, Value.int i1), (2, Value.int i2), (3, Value.long l3), (5, Value.int i5)] [] μ (fw_Ql Q) fw_nX) (h : p_X0_ways_L34b k_X0_ways r0 i1 i2 k34 l3 i5 μ Q) : fw_V g K_X0_ways f bc bs 34 [(0, fw_rv g r0), (1, Value.int i1), (2, Value.int i2), (3, Value.long l3), (5, Value.int i5)] [] μ (fw_Ql Q) fw_nX := by
  unfold p_X0_ways_L34b at h
  refine fw_iload dX0_ways_34 rfl ?_
  refine fw_iconst (v := 4) dX0_ways_36 (by decide) ?_
  refine fw_icmp_ge (tgt := 97) dX0_ways_37 (by decide) (fun c1 => ?_) (fun c1 => ?_)
  · have h := fw_it h c1
    refine fw_lload_n dX0_ways_97 rfl rfl ?_
    exact fw_lreturn dX0_ways_98 rfl ⟨_, rfl, h⟩
  · have h := fw_if h c1
    refine fw_aload_n dX0_ways_40 rfl rfl ?_
    refine fw_iload dX0_ways_41 rfl ?_
    obtain ⟨hg2, h⟩ := h
    obtain ⟨hc3, h⟩ := h
    refine fw_iald hg2 hc3 dX0_ways_43 ?_
    refine fw_if_le (tgt := 51) dX0_ways_44 (by decide) (fun c4 => ?_) (fun c4 => ?_)
    · have h := fw_it h c4
      refine fw_iconst (v := 0) dX0_ways_51 (by decide) ?_
      exact w_X0_ways_L52 hf hk_X0_ways hk34 h
    · have h := fw_if h c4
      refine fw_iconst (v := 1) dX0_ways_47 (by decide) ?_
      refine fw_goto (tgt := 52) dX0_ways_48 (by decide) ?_
      exact w_X0_ways_L52 hf hk_X0_ways hk34 h
theorem w_X0_ways_L34 {g : fw_G} {f bc bs : Nat} {k_X0_ways : Nat → Int32 → Int32 → fw_M → (Int64 → fw_M → Prop) → Prop} {r0 : Nat} {i1 : Int32} {i2 : Int32} {l3 : Int64} {i5 : Int32} {μ : fw_M} {Q : Int64 → fw_M → Prop} (hf : 1 ≤ f) (hk_X0_ways : ∀ {z0 : Nat} {z1 : Int32} {z2 : Int32} {μ9 : fw_M} {Q9 : Int64 → fw_M → Prop}, k_X0_ways z0 z1 z2 μ9 Q9 → fw_C g (f - 1) 0 0 yX0_ways (ws_ yX0_ways cX0_ways 7 (some .long)) [fw_rv g z0, Value.int z1, Value.int z2] μ9 (fw_Ql Q9) fw_nX) (h : p_X0_ways_L34 k_X0_ways r0 i1 i2 l3 i5 μ Q) : fw_V g K_X0_ways f bc bs 34 [(0, fw_rv g r0), (1, Value.int i1), (2, Value.int i2), (3, Value.long l3), (5, Value.int i5)] [] μ (fw_Ql Q) fw_nX := by
  have key := fw_lp_out (R := fun (a : Int64 × Int32 × fw_M) => fw_V g K_X0_ways f bc bs 34 [(0, fw_rv g r0), (1, Value.int i1), (2, Value.int i2), (3, Value.long a.1), (5, Value.int a.2.1)] [] a.2.2 (fw_Ql Q) fw_nX) (fun k hk9 a ha => w_X0_ways_L34b hf hk_X0_ways (fun {l3 i5} {μ} h3 => hk9 (l3, i5, μ) h3) ha) h
  exact key
def p_X0_ways (k_X0_ways : Nat → Int32 → Int32 → fw_M → (Int64 → fw_M → Prop) → Prop) (r0 : Nat) (i1 : Int32) (i2 : Int32) (μ : fw_M) (Q : Int64 → fw_M → Prop) : Prop :=
  (if i2 = 0 then
  ((m_K μ r0 = 100 ∧ (vp_in (0 : Int32) (m_N μ r0) ∧ (vp_in (1 : Int32) (m_N μ r0) ∧ (vp_in (2 : Int32) (m_N μ r0) ∧ (vp_in (3 : Int32) (m_N μ r0) ∧ (if ((((m_I μ r0 (0 : Int32).toNatClampNeg) + (m_I μ r0 (1 : Int32).toNatClampNeg)) - (m_I μ r0 (2 : Int32).toNatClampNeg)) - (m_I μ r0 (3 : Int32).toNatClampNeg)) = i1 then
   (Q (1 : Int64) μ)
   else
   (Q (0 : Int64) μ))))))))
  else
  (p_X0_ways_L34 k_X0_ways r0 i1 i2 (0 : Int64) (0 : Int32) μ Q))
set_option maxHeartbeats 4000000 in
theorem w_X0_ways {g : fw_G} {f bc bs : Nat} {k_X0_ways : Nat → Int32 → Int32 → fw_M → (Int64 → fw_M → Prop) → Prop} {r0 : Nat} {i1 : Int32} {i2 : Int32} {μ : fw_M} {Q : Int64 → fw_M → Prop} (hf : 1 ≤ f) (hk_X0_ways : ∀ {z0 : Nat} {z1 : Int32} {z2 : Int32} {μ9 : fw_M} {Q9 : Int64 → fw_M → Prop}, k_X0_ways z0 z1 z2 μ9 Q9 → fw_C g (f - 1) 0 0 yX0_ways (ws_ yX0_ways cX0_ways 7 (some .long)) [fw_rv g z0, Value.int z1, Value.int z2] μ9 (fw_Ql Q9) fw_nX) (h : p_X0_ways k_X0_ways r0 i1 i2 μ Q) : fw_C g f bc bs yX0_ways (ws_ yX0_ways cX0_ways 7 (some .long)) [fw_rv g r0, Value.int i1, Value.int i2] μ (fw_Ql Q) fw_nX := by
  unfold p_X0_ways at h
  refine fw_intro' (Ls := [(0, fw_rv g r0), (1, Value.int i1), (2, Value.int i2)]) (by decide +kernel) (by simp [lg_sl, fw_cat, fw_ci, fw_clo]) (by simp [lv_args, fw_cat, fw_ci, fw_clo]) ?_
  show fw_V g K_X0_ways f bc bs 0 [(0, fw_rv g r0), (1, Value.int i1), (2, Value.int i2)] [] μ (fw_Ql Q) fw_nX
  refine fw_iload_n dX0_ways_0 rfl rfl ?_
  refine fw_if_ne (tgt := 29) dX0_ways_1 (by decide) (fun c1 => ?_) (fun c1 => ?_)
  · have h := fw_if h c1
    refine fw_lconst (v := 0) dX0_ways_29 (by decide) ?_
    refine fw_lstore_nN (Ls' := [(3, Value.long (0 : Int64)), (2, Value.int i2), (0, fw_rv g r0), (1, Value.int i1)]) [0, 1] dX0_ways_30 rfl (by decide) rfl rfl rfl rfl rfl ?_
    refine fw_iconst (v := 0) dX0_ways_31 (by decide) ?_
    refine fw_istore (Ls' := [(5, Value.int (0 : Int32)), (3, Value.long (0 : Int64)), (2, Value.int i2), (0, fw_rv g r0), (1, Value.int i1)]) [0, 1, 2, 3] dX0_ways_32 (by decide) rfl rfl ?_
    refine fw_ls [3, 4, 2, 1, 0] rfl ?_
    exact w_X0_ways_L34 hf hk_X0_ways h
  · have h := fw_it h c1
    refine fw_aload_n dX0_ways_4 rfl rfl ?_
    refine fw_iconst (v := 0) dX0_ways_5 (by decide) ?_
    obtain ⟨hg2, h⟩ := h
    obtain ⟨hc3, h⟩ := h
    refine fw_iald hg2 hc3 dX0_ways_6 ?_
    refine fw_aload_n dX0_ways_7 rfl rfl ?_
    refine fw_iconst (v := 1) dX0_ways_8 (by decide) ?_
    obtain ⟨hc4, h⟩ := h
    refine fw_iald hg2 hc4 dX0_ways_9 ?_
    refine fw_iadd dX0_ways_10 ?_
    refine fw_aload_n dX0_ways_11 rfl rfl ?_
    refine fw_iconst (v := 2) dX0_ways_12 (by decide) ?_
    obtain ⟨hc5, h⟩ := h
    refine fw_iald hg2 hc5 dX0_ways_13 ?_
    refine fw_isub dX0_ways_14 ?_
    refine fw_aload_n dX0_ways_15 rfl rfl ?_
    refine fw_iconst (v := 3) dX0_ways_16 (by decide) ?_
    obtain ⟨hc6, h⟩ := h
    refine fw_iald hg2 hc6 dX0_ways_17 ?_
    refine fw_isub dX0_ways_18 ?_
    refine fw_iload_n dX0_ways_19 rfl rfl ?_
    refine fw_icmp_ne (tgt := 27) dX0_ways_20 (by decide) (fun c7 => ?_) (fun c7 => ?_)
    · have h := fw_if h c7
      refine fw_lconst (v := 0) dX0_ways_27 (by decide) ?_
      exact fw_lreturn dX0_ways_28 rfl ⟨_, rfl, h⟩
    · have h := fw_it h c7
      refine fw_lconst (v := 1) dX0_ways_23 (by decide) ?_
      refine fw_goto (tgt := 28) dX0_ways_24 (by decide) ?_
      exact fw_lreturn dX0_ways_28 rfl ⟨_, rfl, h⟩
def p_X0_ways_d : Nat → Nat → Int32 → Int32 → fw_M → (Int64 → fw_M → Prop) → Prop
  | 0 => fun _ _ _ _ _ => False
  | d + 1 => p_X0_ways (p_X0_ways_d d)
theorem w_X0_ways_d {g : fw_G} : ∀ (d f : Nat) {z0 : Nat} {z1 : Int32} {z2 : Int32} {μ : fw_M} {Q : Int64 → fw_M → Prop}, 1 + d ≤ f → p_X0_ways_d d z0 z1 z2 μ Q → fw_C g f 0 0 yX0_ways (ws_ yX0_ways cX0_ways 7 (some .long)) [fw_rv g z0, Value.int z1, Value.int z2] μ (fw_Ql Q) fw_nX := by
  intro d
  induction d with
  | zero => intro f z0 z1 z2 μ Q _ h; exact h.elim
  | succ d ih =>
    intro f z0 z1 z2 μ Q hf h
    exact w_X0_ways (k_X0_ways := p_X0_ways_d d) (by omega) (fun h9 => ih (f - 1) (by omega) h9) h
def pc_X0_ways (z0 : Nat) (z1 : Int32) (z2 : Int32) (μ : fw_M) (Q : Int64 → fw_M → Prop) : Prop := ∃ d, d ≤ 20 ∧ p_X0_ways_d d z0 z1 z2 μ Q
theorem wc_X0_ways {g : fw_G} {f : Nat} {z0 : Nat} {z1 : Int32} {z2 : Int32} {μ : fw_M} {Q : Int64 → fw_M → Prop} (hf : 21 ≤ f) (h : pc_X0_ways z0 z1 z2 μ Q) : fw_C g f 0 0 yX0_ways (ws_ yX0_ways cX0_ways 7 (some .long)) [fw_rv g z0, Value.int z1, Value.int z2] μ (fw_Ql Q) fw_nX := by
  obtain ⟨d, hd, h⟩ := h
  exact w_X0_ways_d d f (by omega) h
abbrev K_X0_common : fw_Kt := (RX0, "common", cX0_common, 4, some .long, [])
def p_X0_common (k_X0_common : Int64 → Int64 → fw_M → (Int64 → fw_M → Prop) → Prop) (l0 : Int64) (l2 : Int64) (μ : fw_M) (Q : Int64 → fw_M → Prop) : Prop :=
  (if l2 = (0 : Int64) then
  (Q l0 μ)
  else
  ((¬ l2 = 0 ∧ (k_X0_common l2 (l0 - l0 / l2 * l2) μ (fun w3 μ4 =>
   Q w3 μ4)))))
set_option maxHeartbeats 4000000 in
theorem w_X0_common {g : fw_G} {f bc bs : Nat} {k_X0_common : Int64 → Int64 → fw_M → (Int64 → fw_M → Prop) → Prop} {l0 : Int64} {l2 : Int64} {μ : fw_M} {Q : Int64 → fw_M → Prop} (hf : 1 ≤ f) (hk_X0_common : ∀ {z0 : Int64} {z1 : Int64} {μ9 : fw_M} {Q9 : Int64 → fw_M → Prop}, k_X0_common z0 z1 μ9 Q9 → fw_C g (f - 1) 0 0 yX0_common (ws_ yX0_common cX0_common 4 (some .long)) [Value.long z0, Value.long z1] μ9 (fw_Ql Q9) fw_nX) (h : p_X0_common k_X0_common l0 l2 μ Q) : fw_C g f bc bs yX0_common (ws_ yX0_common cX0_common 4 (some .long)) [Value.long l0, Value.long l2] μ (fw_Ql Q) fw_nX := by
  unfold p_X0_common at h
  refine fw_intro' (Ls := [(0, Value.long l0), (2, Value.long l2)]) (by decide +kernel) (by simp [lg_sl, fw_cat, fw_ci, fw_clo]) (by simp [lv_args, fw_cat, fw_ci, fw_clo]) ?_
  show fw_V g K_X0_common f bc bs 0 [(0, Value.long l0), (2, Value.long l2)] [] μ (fw_Ql Q) fw_nX
  refine fw_lload_n dX0_common_0 rfl rfl ?_
  refine fw_lconst (v := 0) dX0_common_1 (by decide) ?_
  refine fw_lne (tgt := 10) dX0_common_2 dX0_common_3 (by decide) (fun c1 => ?_) (fun c1 => ?_)
  · have h := fw_if h c1
    refine fw_lload_n dX0_common_10 rfl rfl ?_
    refine fw_lload_n dX0_common_11 rfl rfl ?_
    refine fw_lload_n dX0_common_12 rfl rfl ?_
    obtain ⟨hc2, h⟩ := h
    refine fw_lrem dX0_common_13 hc2 ?_
    refine fw_callS2z (f1 := f - 1) cl_X0_273 (by decide) (by omega) (fw_s4 (Nat.le_of_ble_eq_true rfl)) dX0_common_14 (hk_X0_common h) (fun _ _ h9 _ _ => h9.elim) (fun v9 μ4 q9 hs5 => ?_)
    obtain ⟨w3, rfl, h⟩ := q9
    refine fw_tl ?_
    exact fw_lreturn dX0_common_17 rfl ⟨_, rfl, h⟩
  · have h := fw_it h c1
    refine fw_lload_n dX0_common_6 rfl rfl ?_
    refine fw_goto (tgt := 17) dX0_common_7 (by decide) ?_
    exact fw_lreturn dX0_common_17 rfl ⟨_, rfl, h⟩
def p_X0_common_d : Nat → Int64 → Int64 → fw_M → (Int64 → fw_M → Prop) → Prop
  | 0 => fun _ _ _ _ => False
  | d + 1 => p_X0_common (p_X0_common_d d)
theorem w_X0_common_d {g : fw_G} : ∀ (d f : Nat) {z0 : Int64} {z1 : Int64} {μ : fw_M} {Q : Int64 → fw_M → Prop}, 1 + d ≤ f → p_X0_common_d d z0 z1 μ Q → fw_C g f 0 0 yX0_common (ws_ yX0_common cX0_common 4 (some .long)) [Value.long z0, Value.long z1] μ (fw_Ql Q) fw_nX := by
  intro d
  induction d with
  | zero => intro f z0 z1 μ Q _ h; exact h.elim
  | succ d ih =>
    intro f z0 z1 μ Q hf h
    exact w_X0_common (k_X0_common := p_X0_common_d d) (by omega) (fun h9 => ih (f - 1) (by omega) h9) h
def pc_X0_common (z0 : Int64) (z1 : Int64) (μ : fw_M) (Q : Int64 → fw_M → Prop) : Prop := ∃ d, d ≤ 64 ∧ p_X0_common_d d z0 z1 μ Q
theorem wc_X0_common {g : fw_G} {f : Nat} {z0 : Int64} {z1 : Int64} {μ : fw_M} {Q : Int64 → fw_M → Prop} (hf : 65 ≤ f) (h : pc_X0_common z0 z1 μ Q) : fw_C g f 0 0 yX0_common (ws_ yX0_common cX0_common 4 (some .long)) [Value.long z0, Value.long z1] μ (fw_Ql Q) fw_nX := by
  obtain ⟨d, hd, h⟩ := h
  exact w_X0_common_d d f (by omega) h
abbrev K_X0_isGuilty : fw_Kt := (RX0, "isGuilty", cX0_isGuilty, 5, some .boolean, [])
def p_X0_isGuilty (r0 : Nat) (r1 : Nat) (i2 : Int32) (μ : fw_M) (Q : Int32 → fw_M → Prop) : Prop :=
  (p_X0_tiltOf r1 μ (fun v1 μ2 =>
  (p_X0_law r0 μ2 (fun r5 μ6 =>
  (m_K μ6 r5 = 3 ∧ (if (m_P μ6 r5 1) = 0 then
  ((if i2 = 0 then
   ((if 0 ≤ v1 then
    (Q (0 : Int32) μ6)
    else
    (Q (1 : Int32) μ6)))
   else
   ((if v1 ≤ 0 then
    (Q (0 : Int32) μ6)
    else
    (Q (1 : Int32) μ6)))))
  else
  ((m_K μ6 (m_P μ6 r0 4) = 5 ∧ (∀ r4_12 : Nat, r4_12 = (m_P μ6 (m_P μ6 r0 4) 0) →
   (m_K μ6 r4_12 = 100 ∧ (vp_in (7 : Int32) (m_N μ6 r4_12) ∧ (∀ μ16, μ16 = m_uI μ6 r4_12 (7 : Int32).toNatClampNeg i2 →
   (vp_in (8 : Int32) (m_N μ16 r4_12) ∧ (∀ μ18, μ18 = m_uI μ16 r4_12 (8 : Int32).toNatClampNeg v1 →
   (m_K μ18 r1 = 100 ∧ (vp_in ((0 : Int32) + ((2 : Int32) * i2)) (m_N μ18 r1) ∧ (vp_in (9 : Int32) (m_N μ18 r4_12) ∧ (∀ μ22, μ22 = m_uI μ18 r4_12 (9 : Int32).toNatClampNeg (m_I μ18 r1 ((0 : Int32) + ((2 : Int32) * i2)).toNatClampNeg) →
   (vp_in (((0 : Int32) + ((2 : Int32) * i2)) + (1 : Int32)) (m_N μ22 r1) ∧ (vp_in (10 : Int32) (m_N μ22 r4_12) ∧ (∀ μ25, μ25 = m_uI μ22 r4_12 (10 : Int32).toNatClampNeg (m_I μ22 r1 (((0 : Int32) + ((2 : Int32) * i2)) + (1 : Int32)).toNatClampNeg) →
   (vp_in (24 : Int32) (m_N μ25 r1) ∧ (vp_in (11 : Int32) (m_N μ25 r4_12) ∧ (∀ μ28, μ28 = m_uI μ25 r4_12 (11 : Int32).toNatClampNeg (m_I μ25 r1 (24 : Int32).toNatClampNeg) →
   (p_X0_law r0 μ28 (fun r29 μ30 =>
   (m_K μ30 r29 = 3 ∧ (pc_Ask_is (m_P μ30 r29 1) (m_P μ30 r0 4) μ30 (fun v37 μ38 =>
   ((v37 = 0 ∨ v37 = 1) ∧ Q v37 μ38))))))))))))))))))))))))))))))
set_option maxHeartbeats 4000000 in
theorem w_X0_isGuilty {g : fw_G} {f bc bs : Nat} {r0 : Nat} {r1 : Nat} {i2 : Int32} {μ : fw_M} {Q : Int32 → fw_M → Prop} (hf : 804 ≤ f) (hx : m_K μ r0 = 1) (h : p_X0_isGuilty r0 r1 i2 μ Q) : fw_C g f bc bs yX0_isGuilty (ws_ yX0_isGuilty cX0_isGuilty 5 (some .boolean)) [fw_rv g r0, fw_rv g r1, Value.int i2] μ (fw_Qi Q) fw_nX := by
  unfold p_X0_isGuilty at h
  refine fw_intro' (Ls := [(0, fw_rv g r0), (1, fw_rv g r1), (2, Value.int i2)]) (by decide +kernel) (by simp [lg_sl, fw_cat, fw_ci, fw_clo]) (by simp [lv_args, fw_cat, fw_ci, fw_clo]) ?_
  show fw_V g K_X0_isGuilty f bc bs 0 [(0, fw_rv g r0), (1, fw_rv g r1), (2, Value.int i2)] [] μ (fw_Qi Q) fw_nX
  refine fw_aload_n dX0_isGuilty_0 rfl rfl ?_
  refine fw_callS1z (f1 := f - 1) cl_X0_132 (by decide) (by omega) (fw_s4 (Nat.le_of_ble_eq_true rfl)) dX0_isGuilty_1 (w_X0_tiltOf (f := f - 1) (by omega) h) (fun _ _ h9 _ _ => h9.elim) (fun v9 μ2 q9 hs3 => ?_)
  obtain ⟨v1, rfl, h⟩ := q9
  refine fw_ti ?_
  have hg4 := hs3.K hx (by decide)
  refine fw_istore_nN (Ls' := [(3, Value.int v1), (2, Value.int i2), (0, fw_rv g r0), (1, fw_rv g r1)]) [0, 1] dX0_isGuilty_4 rfl (by decide) rfl rfl rfl rfl rfl ?_
  refine fw_aload_n dX0_isGuilty_5 rfl rfl ?_
  refine fw_callV0z (f1 := f - 1) cl_X0_89 rfl hg4 (by decide) (by omega) (fw_s4 (Nat.le_of_ble_eq_true rfl)) dX0_isGuilty_6 (w_X0_law (f := f - 1) (by omega) hg4 h) (fun _ _ h9 _ _ => h9.elim) (fun v9 μ6 q9 hs7 => ?_)
  obtain ⟨r5, rfl, h⟩ := q9
  refine fw_tr ?_
  have hg8 := hs7.K hg4 (by decide)
  obtain ⟨hg9, h⟩ := h
  refine fw_getfP fl_X0_136 rfl hg9 dX0_isGuilty_9 ?_
  refine fw_ifnonnull (tgt := 41) dX0_isGuilty_12 (by decide) (fun c10 => ?_) (fun c10 => ?_)
  · have h := fw_if h c10
    refine fw_aload_n dX0_isGuilty_41 rfl rfl ?_
    refine fw_getfP fl_X0_33 rfl hg8 dX0_isGuilty_42 ?_
    obtain ⟨hg11, h⟩ := h
    refine fw_getfP fl_X0_112 rfl hg11 dX0_isGuilty_45 ?_
    refine fw_topr (fun r4_12 e13 => ?_)
    have h := h r4_12 e13
    refine fw_astoreN (Ls' := [(4, fw_rv g r4_12), (3, Value.int v1), (2, Value.int i2), (0, fw_rv g r0), (1, fw_rv g r1)]) [1, 2, 3] dX0_isGuilty_48 (by decide) rfl rfl rfl rfl rfl ?_
    refine fw_aload dX0_isGuilty_50 rfl ?_
    refine fw_bipush (v := 7) dX0_isGuilty_52 (by decide) ?_
    refine fw_iload_n dX0_isGuilty_54 rfl rfl ?_
    obtain ⟨hg14, h⟩ := h
    obtain ⟨hc15, h⟩ := h
    refine fw_iast hg14 hc15 dX0_isGuilty_55 ?_
    have h := h _ rfl
    refine fw_aload dX0_isGuilty_56 rfl ?_
    refine fw_bipush (v := 8) dX0_isGuilty_58 (by decide) ?_
    refine fw_iload_n dX0_isGuilty_60 rfl rfl ?_
    obtain ⟨hc17, h⟩ := h
    refine fw_iast hg14 hc17 dX0_isGuilty_61 ?_
    have h := h _ rfl
    refine fw_aload dX0_isGuilty_62 rfl ?_
    refine fw_bipush (v := 9) dX0_isGuilty_64 (by decide) ?_
    refine fw_aload_n dX0_isGuilty_66 rfl rfl ?_
    refine fw_iconst (v := 0) dX0_isGuilty_67 (by decide) ?_
    refine fw_iconst (v := 2) dX0_isGuilty_68 (by decide) ?_
    refine fw_iload_n dX0_isGuilty_69 rfl rfl ?_
    refine fw_imul dX0_isGuilty_70 ?_
    refine fw_iadd dX0_isGuilty_71 ?_
    obtain ⟨hg19, h⟩ := h
    obtain ⟨hc20, h⟩ := h
    refine fw_iald hg19 hc20 dX0_isGuilty_72 ?_
    obtain ⟨hc21, h⟩ := h
    refine fw_iast hg14 hc21 dX0_isGuilty_73 ?_
    have h := h _ rfl
    refine fw_aload dX0_isGuilty_74 rfl ?_
    refine fw_bipush (v := 10) dX0_isGuilty_76 (by decide) ?_
    refine fw_aload_n dX0_isGuilty_78 rfl rfl ?_
    refine fw_iconst (v := 0) dX0_isGuilty_79 (by decide) ?_
    refine fw_iconst (v := 2) dX0_isGuilty_80 (by decide) ?_
    refine fw_iload_n dX0_isGuilty_81 rfl rfl ?_
    refine fw_imul dX0_isGuilty_82 ?_
    refine fw_iadd dX0_isGuilty_83 ?_
    refine fw_iconst (v := 1) dX0_isGuilty_84 (by decide) ?_
    refine fw_iadd dX0_isGuilty_85 ?_
    obtain ⟨hc23, h⟩ := h
    refine fw_iald hg19 hc23 dX0_isGuilty_86 ?_
    obtain ⟨hc24, h⟩ := h
    refine fw_iast hg14 hc24 dX0_isGuilty_87 ?_
    have h := h _ rfl
    refine fw_aload dX0_isGuilty_88 rfl ?_
    refine fw_bipush (v := 11) dX0_isGuilty_90 (by decide) ?_
    refine fw_aload_n dX0_isGuilty_92 rfl rfl ?_
    refine fw_bipush (v := 24) dX0_isGuilty_93 (by decide) ?_
    obtain ⟨hc26, h⟩ := h
    refine fw_iald hg19 hc26 dX0_isGuilty_95 ?_
    obtain ⟨hc27, h⟩ := h
    refine fw_iast hg14 hc27 dX0_isGuilty_96 ?_
    have h := h _ rfl
    refine fw_aload_n dX0_isGuilty_97 rfl rfl ?_
    refine fw_callV0z (f1 := f - 1) cl_X0_89 rfl hg8 (by decide) (by omega) (fw_s4 (Nat.le_of_ble_eq_true rfl)) dX0_isGuilty_98 (w_X0_law (f := f - 1) (by omega) hg8 h) (fun _ _ h9 _ _ => h9.elim) (fun v9 μ30 q9 hs31 => ?_)
    obtain ⟨r29, rfl, h⟩ := q9
    refine fw_tr ?_
    have hg32 := hs31.K hg8 (by decide)
    have hg33 := hs31.K hg9 (by decide)
    have hg34 := hs31.K hg14 (by decide)
    have hg35 := hs31.K hg19 (by decide)
    obtain ⟨hg36, h⟩ := h
    refine fw_getfP fl_X0_136 rfl hg36 dX0_isGuilty_101 ?_
    refine fw_aload_n dX0_isGuilty_104 rfl rfl ?_
    refine fw_getfP fl_X0_33 rfl hg32 dX0_isGuilty_105 ?_
    refine cf_X0_140 (f1 := f - 1) rfl (by omega) (fw_s4 (Nat.le_of_ble_eq_true rfl)) dX0_isGuilty_108 (wc_Ask_is (f := f - 1) (by omega) h) (fun v9 μ38 q9 hs39 => ?_)
    obtain ⟨v37, rfl, h⟩ := q9
    refine fw_ti ?_
    have hg40 := hs39.K hg32 (by decide)
    have hg41 := hs39.K hg33 (by decide)
    have hg42 := hs39.K hg34 (by decide)
    have hg43 := hs39.K hg35 (by decide)
    have hg44 := hs39.K hg36 (by decide)
    obtain ⟨hc45, h⟩ := h
    exact fw_ireturn dX0_isGuilty_113 rfl (by rcases hc45 with e9 | e9 <;> rw [e9] <;> decide +kernel) ⟨_, rfl, h⟩
  · have h := fw_it h c10
    refine fw_iload_n dX0_isGuilty_15 rfl rfl ?_
    refine fw_if_ne (tgt := 31) dX0_isGuilty_16 (by decide) (fun c46 => ?_) (fun c46 => ?_)
    · have h := fw_if h c46
      refine fw_iload_n dX0_isGuilty_31 rfl rfl ?_
      refine fw_if_le (tgt := 39) dX0_isGuilty_32 (by decide) (fun c47 => ?_) (fun c47 => ?_)
      · have h := fw_it h c47
        refine fw_iconst (v := 0) dX0_isGuilty_39 (by decide) ?_
        exact fw_ireturn dX0_isGuilty_40 rfl (by decide +kernel) ⟨_, rfl, h⟩
      · have h := fw_if h c47
        refine fw_iconst (v := 1) dX0_isGuilty_35 (by decide) ?_
        refine fw_goto (tgt := 40) dX0_isGuilty_36 (by decide) ?_
        exact fw_ireturn dX0_isGuilty_40 rfl (by decide +kernel) ⟨_, rfl, h⟩
    · have h := fw_it h c46
      refine fw_iload_n dX0_isGuilty_19 rfl rfl ?_
      refine fw_if_ge (tgt := 27) dX0_isGuilty_20 (by decide) (fun c48 => ?_) (fun c48 => ?_)
      · have h := fw_it h c48
        refine fw_iconst (v := 0) dX0_isGuilty_27 (by decide) ?_
        refine fw_goto (tgt := 40) dX0_isGuilty_28 (by decide) ?_
        exact fw_ireturn dX0_isGuilty_40 rfl (by decide +kernel) ⟨_, rfl, h⟩
      · have h := fw_if h c48
        refine fw_iconst (v := 1) dX0_isGuilty_23 (by decide) ?_
        refine fw_goto (tgt := 40) dX0_isGuilty_24 (by decide) ?_
        exact fw_ireturn dX0_isGuilty_40 rfl (by decide +kernel) ⟨_, rfl, h⟩
abbrev K_X0_acquits : fw_Kt := (RX0, "acquits", cX0_acquits, 8, none, [])
def p_X0_acquits_L154 (k_X0_acquits : Nat → Int32 → Int32 → Int32 → Int32 → fw_M → (fw_M → Prop) → Prop) (k52 : Int32 → fw_M → Prop) (k67 : Int32 → fw_M → Prop) (r0 : Nat) (i1 : Int32) (i2 : Int32) (i3 : Int32) (i4 : Int32) (i5 : Int32) (i6 : Int32) (rs0 : Nat) (is1 : Int32) (is2 : Int32) (is3 : Int32) (is4 : Int32) (is5 : Int32) (μ : fw_M) (Q : fw_M → Prop) : Prop :=
  (m_K μ rs0 = 1 ∧ (k_X0_acquits rs0 is1 is2 is3 (is4 + is5) μ (fun μ3 =>
  (∀ i6_7 : Int32, i6_7 = i6 + (1 : Int32) →
  k67 i6_7 μ3))))
set_option maxHeartbeats 4000000 in
theorem w_X0_acquits_L154 {g : fw_G} {f bc bs : Nat} {k_X0_acquits : Nat → Int32 → Int32 → Int32 → Int32 → fw_M → (fw_M → Prop) → Prop} {k52 : Int32 → fw_M → Prop} {k67 : Int32 → fw_M → Prop} {r0 : Nat} {i1 : Int32} {i2 : Int32} {i3 : Int32} {i4 : Int32} {i5 : Int32} {i6 : Int32} {rs0 : Nat} {is1 : Int32} {is2 : Int32} {is3 : Int32} {is4 : Int32} {is5 : Int32} {μ : fw_M} {Q : fw_M → Prop} (hf : 805 ≤ f) (hk_X0_acquits : ∀ {z0 : Nat} {z1 : Int32} {z2 : Int32} {z3 : Int32} {z4 : Int32} {μ9 : fw_M} {Q9 : fw_M → Prop}, m_K μ9 z0 = 1 → k_X0_acquits z0 z1 z2 z3 z4 μ9 Q9 → fw_C g (f - 1) 0 0 yX0_acquits (ws_ yX0_acquits cX0_acquits 8 (none)) [fw_rv g z0, Value.int z1, Value.int z2, Value.int z3, Value.int z4] μ9 (fw_Qv Q9) fw_nX) (hk52 : ∀ {i5 : Int32} {μ : fw_M}, m_K μ r0 = 1 → k52 i5 μ → fw_V g K_X0_acquits f bc bs 52 [(0, fw_rv g r0), (1, Value.int i1), (2, Value.int i2), (3, Value.int i3), (4, Value.int i4), (5, Value.int i5)] [] μ (fw_Qv Q) fw_nX) (hk67 : ∀ {i6 : Int32} {μ : fw_M}, m_K μ r0 = 1 → k67 i6 μ → fw_V g K_X0_acquits f bc bs 67 [(0, fw_rv g r0), (1, Value.int i1), (2, Value.int i2), (3, Value.int i3), (4, Value.int i4), (5, Value.int i5), (6, Value.int i6)] [] μ (fw_Qv Q) fw_nX) (hx : m_K μ r0 = 1) (h : p_X0_acquits_L154 k_X0_acquits k52 k67 r0 i1 i2 i3 i4 i5 i6 rs0 is1 is2 is3 is4 is5 μ Q) : fw_V g K_X0_acquits f bc bs 154 [(0, fw_rv g r0), (1, Value.int i1), (2, Value.int i2), (3, Value.int i3), (4, Value.int i4), (5, Value.int i5), (6, Value.int i6)] [Value.int is5, Value.int is4, Value.int is3, Value.int is2, Value.int is1, fw_rv g rs0] μ (fw_Qv Q) fw_nX := by
  unfold p_X0_acquits_L154 at h
  refine fw_iadd dX0_acquits_154 ?_
  obtain ⟨hg1, h⟩ := h
  refine fw_callV4z (f1 := f - 1) cl_X0_246 rfl hg1 (by decide) (by omega) (fw_s4 (Nat.le_of_ble_eq_true rfl)) dX0_acquits_155 (hk_X0_acquits hg1 h) (fun _ _ h9 _ _ => h9.elim) (fun v9 μ3 q9 hs4 => ?_)
  obtain ⟨rfl, h⟩ := q9
  refine fw_tv ?_
  have hg5 := hs4.K hx (by decide)
  have hg6 := hs4.K hg1 (by decide)
  obtain ⟨i6_7, e8⟩ : ∃ y : Int32, y = i6 + (1 : Int32) := ⟨_, rfl⟩
  have h := h i6_7 e8
  refine fw_iincN (k := 6) (v := i6_7) (Ls' := [(6, Value.int i6_7), (5, Value.int i5), (0, fw_rv g r0), (1, Value.int i1), (2, Value.int i2), (3, Value.int i3), (4, Value.int i4)]) [0, 1, 2, 3, 4] dX0_acquits_158 rfl (by rw [e8]; rfl) (by decide) rfl rfl rfl rfl rfl ?_
  refine fw_goto (tgt := 67) dX0_acquits_161 (by decide) ?_
  refine fw_ls [2, 3, 4, 5, 6, 1, 0] rfl ?_
  exact hk67 hg5 h
def p_X0_acquits_L67b (k_X0_acquits : Nat → Int32 → Int32 → Int32 → Int32 → fw_M → (fw_M → Prop) → Prop) (k52 : Int32 → fw_M → Prop) (r0 : Nat) (i1 : Int32) (i2 : Int32) (i3 : Int32) (i4 : Int32) (i5 : Int32) (k67 : Int32 → fw_M → Prop) (i6 : Int32) (μ : fw_M) (Q : fw_M → Prop) : Prop :=
  (if (2 : Int32) ≤ i6 then
  ((∀ i5_2 : Int32, i5_2 = i5 + (1 : Int32) →
   k52 i5_2 μ))
  else
  ((m_K μ (m_P μ r0 9) = 103 ∧ (vp_in i3 (m_N μ (m_P μ r0 9)) ∧ (vp_in (i3 + (1 : Int32)) (m_N μ (m_P μ r0 9)) ∧ (m_K μ (m_P μ (m_P μ r0 9) i3.toNatClampNeg) = 100 ∧ (m_K μ (m_P μ (m_P μ r0 9) (i3 + (1 : Int32)).toNatClampNeg) = 100 ∧ (¬ (0 : Int32) < 0 ∧ (¬ (0 : Int32) < 0 ∧ (¬ (25 : Int32) < 0 ∧ ((0 : Int32).toNatClampNeg + (25 : Int32).toNatClampNeg ≤ m_N μ (m_P μ (m_P μ r0 9) i3.toNatClampNeg) ∧ ((0 : Int32).toNatClampNeg + (25 : Int32).toNatClampNeg ≤ m_N μ (m_P μ (m_P μ r0 9) (i3 + (1 : Int32)).toNatClampNeg) ∧ (∀ μ14, μ14 = m_cp μ (m_P μ (m_P μ r0 9) i3.toNatClampNeg) (0 : Int32).toNatClampNeg (m_P μ (m_P μ r0 9) (i3 + (1 : Int32)).toNatClampNeg) (0 : Int32).toNatClampNeg (25 : Int32).toNatClampNeg →
   (m_K μ14 (m_P μ14 r0 9) = 103 ∧ (vp_in (i3 + (1 : Int32)) (m_N μ14 (m_P μ14 r0 9)) ∧ (p_X0_eat r0 (m_P μ14 (m_P μ14 r0 9) (i3 + (1 : Int32)).toNatClampNeg) i5 i6 μ14 (fun v17 μ18 =>
   (if v17 = 0 then
   ((∀ i6_26 : Int32, i6_26 = i6 + (1 : Int32) →
    k67 i6_26 μ18))
   else
   ((m_K μ18 (m_P μ18 r0 10) = 100 ∧ (vp_in i3 (m_N μ18 (m_P μ18 r0 10)) ∧ (∀ μ24, μ24 = m_uI μ18 (m_P μ18 r0 10) i3.toNatClampNeg (((2 : Int32) * i5) + i6) →
    (if i6 = 0 then
    (p_X0_acquits_L154 k_X0_acquits k52 k67 r0 i1 i2 i3 i4 i5 i6 r0 i1 (i2 - (1 : Int32)) (i3 + (1 : Int32)) i4 v17 μ24 Q)
    else
    (p_X0_acquits_L154 k_X0_acquits k52 k67 r0 i1 i2 i3 i4 i5 i6 r0 i1 (i2 - (1 : Int32)) (i3 + (1 : Int32)) i4 (0 : Int32) μ24 Q))))))))))))))))))))))))
def p_X0_acquits_L67 (k_X0_acquits : Nat → Int32 → Int32 → Int32 → Int32 → fw_M → (fw_M → Prop) → Prop) (k52 : Int32 → fw_M → Prop) (r0 : Nat) (i1 : Int32) (i2 : Int32) (i3 : Int32) (i4 : Int32) (i5 : Int32) (i6 : Int32) (μ : fw_M) (Q : fw_M → Prop) : Prop := fw_lp (fun (k : Int32 × fw_M → Prop) (a : Int32 × fw_M) => p_X0_acquits_L67b k_X0_acquits k52 r0 i1 i2 i3 i4 i5 (fun i6 μ => k (i6, μ)) a.1 a.2 Q) (i6, μ)
theorem r_X0_acquits_L67 {k_X0_acquits : Nat → Int32 → Int32 → Int32 → Int32 → fw_M → (fw_M → Prop) → Prop} {k52 : Int32 → fw_M → Prop} {r0 : Nat} {i1 : Int32} {i2 : Int32} {i3 : Int32} {i4 : Int32} {i5 : Int32} {Q : fw_M → Prop} (I : Int32 → fw_M → Prop) (v : Int32 → fw_M → Nat) (hs : ∀ (k : Int32 → fw_M → Prop) (i6 : Int32) (μ : fw_M), I i6 μ → (∀ (i6' : Int32) (ν : fw_M), I i6' ν → v i6' ν < v i6 μ → k i6' ν) → p_X0_acquits_L67b k_X0_acquits k52 r0 i1 i2 i3 i4 i5 k i6 μ Q) (i6 : Int32) (μ : fw_M) (h : I i6 μ) : p_X0_acquits_L67 k_X0_acquits k52 r0 i1 i2 i3 i4 i5 i6 μ Q :=
  fw_lp_in (A := Int32 × fw_M) (fun a => I a.1 a.2) (fun a => v a.1 a.2) (fun k a ha hk => hs (fun i6 μ => k (i6, μ)) a.1 a.2 ha (fun i6' ν hb hlt => hk (i6', ν) hb hlt)) (i6, μ) h
set_option maxHeartbeats 4000000 in
theorem w_X0_acquits_L67b {g : fw_G} {f bc bs : Nat} {k_X0_acquits : Nat → Int32 → Int32 → Int32 → Int32 → fw_M → (fw_M → Prop) → Prop} {k52 : Int32 → fw_M → Prop} {r0 : Nat} {i1 : Int32} {i2 : Int32} {i3 : Int32} {i4 : Int32} {i5 : Int32} {k67 : Int32 → fw_M → Prop} {i6 : Int32} {μ : fw_M} {Q : fw_M → Prop} (hf : 805 ≤ f) (hk_X0_acquits : ∀ {z0 : Nat} {z1 : Int32} {z2 : Int32} {z3 : Int32} {z4 : Int32} {μ9 : fw_M} {Q9 : fw_M → Prop}, m_K μ9 z0 = 1 → k_X0_acquits z0 z1 z2 z3 z4 μ9 Q9 → fw_C g (f - 1) 0 0 yX0_acquits (ws_ yX0_acquits cX0_acquits 8 (none)) [fw_rv g z0, Value.int z1, Value.int z2, Value.int z3, Value.int z4] μ9 (fw_Qv Q9) fw_nX) (hk52 : ∀ {i5 : Int32} {μ : fw_M}, m_K μ r0 = 1 → k52 i5 μ → fw_V g K_X0_acquits f bc bs 52 [(0, fw_rv g r0), (1, Value.int i1), (2, Value.int i2), (3, Value.int i3), (4, Value.int i4), (5, Value.int i5)] [] μ (fw_Qv Q) fw_nX) (hk67 : ∀ {i6 : Int32} {μ : fw_M}, m_K μ r0 = 1 → k67 i6 μ → fw_V g K_X0_acquits f bc bs 67 [(0, fw_rv g r0), (1, Value.int i1), (2, Value.int i2), (3, Value.int i3), (4, Value.int i4), (5, Value.int i5), (6, Value.int i6)] [] μ (fw_Qv Q) fw_nX) (hx : m_K μ r0 = 1) (h : p_X0_acquits_L67b k_X0_acquits k52 r0 i1 i2 i3 i4 i5 k67 i6 μ Q) : fw_V g K_X0_acquits f bc bs 67 [(0, fw_rv g r0), (1, Value.int i1), (2, Value.int i2), (3, Value.int i3), (4, Value.int i4), (5, Value.int i5), (6, Value.int i6)] [] μ (fw_Qv Q) fw_nX := by
  unfold p_X0_acquits_L67b at h
  refine fw_iload dX0_acquits_67 rfl ?_
  refine fw_iconst (v := 2) dX0_acquits_69 (by decide) ?_
  refine fw_icmp_ge (tgt := 164) dX0_acquits_70 (by decide) (fun c1 => ?_) (fun c1 => ?_)
  · have h := fw_it h c1
    obtain ⟨i5_2, e3⟩ : ∃ y : Int32, y = i5 + (1 : Int32) := ⟨_, rfl⟩
    have h := h i5_2 e3
    refine fw_iincN (k := 5) (v := i5_2) (Ls' := [(5, Value.int i5_2), (4, Value.int i4), (0, fw_rv g r0), (1, Value.int i1), (2, Value.int i2), (3, Value.int i3), (6, Value.int i6)]) [0, 1, 2, 3, 6] dX0_acquits_164 rfl (by rw [e3]; rfl) (by decide) rfl rfl rfl rfl rfl ?_
    refine fw_goto (tgt := 52) dX0_acquits_167 (by decide) ?_
    refine fw_ls [2, 3, 4, 5, 1, 0] rfl ?_
    exact hk52 hx h
  · have h := fw_if h c1
    refine fw_aload_n dX0_acquits_73 rfl rfl ?_
    refine fw_getfP fl_X0_50 rfl hx dX0_acquits_74 ?_
    refine fw_iload_n dX0_acquits_77 rfl rfl ?_
    obtain ⟨hg4, h⟩ := h
    obtain ⟨hc5, h⟩ := h
    refine fw_aald hg4 rfl rfl hc5 dX0_acquits_78 ?_
    refine fw_iconst (v := 0) dX0_acquits_79 (by decide) ?_
    refine fw_aload_n dX0_acquits_80 rfl rfl ?_
    refine fw_getfP fl_X0_50 rfl hx dX0_acquits_81 ?_
    refine fw_iload_n dX0_acquits_84 rfl rfl ?_
    refine fw_iconst (v := 1) dX0_acquits_85 (by decide) ?_
    refine fw_iadd dX0_acquits_86 ?_
    obtain ⟨hc6, h⟩ := h
    refine fw_aald hg4 rfl rfl hc6 dX0_acquits_87 ?_
    refine fw_iconst (v := 0) dX0_acquits_88 (by decide) ?_
    refine fw_bipush (v := 25) dX0_acquits_89 (by decide) ?_
    obtain ⟨hg7, h⟩ := h
    obtain ⟨hg8, h⟩ := h
    obtain ⟨hc9, h⟩ := h
    obtain ⟨hc10, h⟩ := h
    obtain ⟨hc11, h⟩ := h
    obtain ⟨hc12, h⟩ := h
    obtain ⟨hc13, h⟩ := h
    refine fw_copy q925 q311 q310 q80 hg7 hg8 hc9 hc10 hc11 hc12 hc13 (by omega) (fw_s4 (Nat.le_of_ble_eq_true rfl)) dX0_acquits_91 ?_
    have h := h _ rfl
    refine fw_aload_n dX0_acquits_94 rfl rfl ?_
    refine fw_aload_n dX0_acquits_95 rfl rfl ?_
    refine fw_getfP fl_X0_50 rfl hx dX0_acquits_96 ?_
    refine fw_iload_n dX0_acquits_99 rfl rfl ?_
    refine fw_iconst (v := 1) dX0_acquits_100 (by decide) ?_
    refine fw_iadd dX0_acquits_101 ?_
    obtain ⟨hg15, h⟩ := h
    obtain ⟨hc16, h⟩ := h
    refine fw_aald hg15 rfl rfl hc16 dX0_acquits_102 ?_
    refine fw_iload dX0_acquits_103 rfl ?_
    refine fw_iload dX0_acquits_105 rfl ?_
    refine fw_callV3z (f1 := f - 1) cl_X0_159 rfl hx (by decide) (by omega) (fw_s4 (Nat.le_of_ble_eq_true rfl)) dX0_acquits_107 (w_X0_eat (f := f - 1) (by omega) hx h) (fun _ _ h9 _ _ => h9.elim) (fun v9 μ18 q9 hs19 => ?_)
    obtain ⟨v17, rfl, h⟩ := q9
    refine fw_ti ?_
    have hg20 := hs19.K hx (by decide)
    refine fw_istoreN (Ls' := [(7, Value.int v17), (6, Value.int i6), (0, fw_rv g r0), (1, Value.int i1), (2, Value.int i2), (3, Value.int i3), (4, Value.int i4), (5, Value.int i5)]) [0, 1, 2, 3, 4, 5] dX0_acquits_110 (by decide) rfl rfl rfl rfl rfl ?_
    refine fw_iload dX0_acquits_112 rfl ?_
    refine fw_if_ne (tgt := 120) dX0_acquits_114 (by decide) (fun c21 => ?_) (fun c21 => ?_)
    · have h := fw_if h c21
      refine fw_aload_n dX0_acquits_120 rfl rfl ?_
      refine fw_getfP fl_X0_53 rfl hg20 dX0_acquits_121 ?_
      refine fw_iload_n dX0_acquits_124 rfl rfl ?_
      refine fw_iconst (v := 2) dX0_acquits_125 (by decide) ?_
      refine fw_iload dX0_acquits_126 rfl ?_
      refine fw_imul dX0_acquits_128 ?_
      refine fw_iload dX0_acquits_129 rfl ?_
      refine fw_iadd dX0_acquits_131 ?_
      obtain ⟨hg22, h⟩ := h
      obtain ⟨hc23, h⟩ := h
      refine fw_iast hg22 hc23 dX0_acquits_132 ?_
      have h := h _ rfl
      refine fw_aload_n dX0_acquits_133 rfl rfl ?_
      refine fw_iload_n dX0_acquits_134 rfl rfl ?_
      refine fw_iload_n dX0_acquits_135 rfl rfl ?_
      refine fw_iconst (v := 1) dX0_acquits_136 (by decide) ?_
      refine fw_isub dX0_acquits_137 ?_
      refine fw_iload_n dX0_acquits_138 rfl rfl ?_
      refine fw_iconst (v := 1) dX0_acquits_139 (by decide) ?_
      refine fw_iadd dX0_acquits_140 ?_
      refine fw_iload dX0_acquits_141 rfl ?_
      refine fw_iload dX0_acquits_143 rfl ?_
      refine fw_if_ne (tgt := 153) dX0_acquits_145 (by decide) (fun c25 => ?_) (fun c25 => ?_)
      · have h := fw_if h c25
        refine fw_iconst (v := 0) dX0_acquits_153 (by decide) ?_
        refine fw_ls [2, 3, 4, 5, 6, 7, 1] rfl ?_
        exact w_X0_acquits_L154 hf hk_X0_acquits hk52 hk67 hg20 h
      · have h := fw_it h c25
        refine fw_iload dX0_acquits_148 rfl ?_
        refine fw_goto (tgt := 154) dX0_acquits_150 (by decide) ?_
        refine fw_ls [2, 3, 4, 5, 6, 7, 1] rfl ?_
        exact w_X0_acquits_L154 hf hk_X0_acquits hk52 hk67 hg20 h
    · have h := fw_it h c21
      refine fw_goto (tgt := 158) dX0_acquits_117 (by decide) ?_
      obtain ⟨i6_26, e27⟩ : ∃ y : Int32, y = i6 + (1 : Int32) := ⟨_, rfl⟩
      have h := h i6_26 e27
      refine fw_iincN (k := 1) (v := i6_26) (Ls' := [(6, Value.int i6_26), (5, Value.int i5), (7, Value.int v17), (0, fw_rv g r0), (1, Value.int i1), (2, Value.int i2), (3, Value.int i3), (4, Value.int i4)]) [0, 2, 3, 4, 5, 6] dX0_acquits_158 rfl (by rw [e27]; rfl) (by decide) rfl rfl rfl rfl rfl ?_
      refine fw_goto (tgt := 67) dX0_acquits_161 (by decide) ?_
      refine fw_ls [3, 4, 5, 6, 7, 1, 0] rfl ?_
      exact hk67 hg20 h
theorem w_X0_acquits_L67 {g : fw_G} {f bc bs : Nat} {k_X0_acquits : Nat → Int32 → Int32 → Int32 → Int32 → fw_M → (fw_M → Prop) → Prop} {k52 : Int32 → fw_M → Prop} {r0 : Nat} {i1 : Int32} {i2 : Int32} {i3 : Int32} {i4 : Int32} {i5 : Int32} {i6 : Int32} {μ : fw_M} {Q : fw_M → Prop} (hf : 805 ≤ f) (hk_X0_acquits : ∀ {z0 : Nat} {z1 : Int32} {z2 : Int32} {z3 : Int32} {z4 : Int32} {μ9 : fw_M} {Q9 : fw_M → Prop}, m_K μ9 z0 = 1 → k_X0_acquits z0 z1 z2 z3 z4 μ9 Q9 → fw_C g (f - 1) 0 0 yX0_acquits (ws_ yX0_acquits cX0_acquits 8 (none)) [fw_rv g z0, Value.int z1, Value.int z2, Value.int z3, Value.int z4] μ9 (fw_Qv Q9) fw_nX) (hk52 : ∀ {i5 : Int32} {μ : fw_M}, m_K μ r0 = 1 → k52 i5 μ → fw_V g K_X0_acquits f bc bs 52 [(0, fw_rv g r0), (1, Value.int i1), (2, Value.int i2), (3, Value.int i3), (4, Value.int i4), (5, Value.int i5)] [] μ (fw_Qv Q) fw_nX) (hx : m_K μ r0 = 1) (h : p_X0_acquits_L67 k_X0_acquits k52 r0 i1 i2 i3 i4 i5 i6 μ Q) : fw_V g K_X0_acquits f bc bs 67 [(0, fw_rv g r0), (1, Value.int i1), (2, Value.int i2), (3, Value.int i3), (4, Value.int i4), (5, Value.int i5), (6, Value.int i6)] [] μ (fw_Qv Q) fw_nX := by
  have key := fw_lp_out (R := fun (a : Int32 × fw_M) => m_K a.2 r0 = 1 → fw_V g K_X0_acquits f bc bs 67 [(0, fw_rv g r0), (1, Value.int i1), (2, Value.int i2), (3, Value.int i3), (4, Value.int i4), (5, Value.int i5), (6, Value.int a.1)] [] a.2 (fw_Qv Q) fw_nX) (fun k hk9 a ha hx2 => w_X0_acquits_L67b hf hk_X0_acquits hk52 (fun {i6} {μ} hx3 h3 => hk9 (i6, μ) h3 hx3) hx2 ha) h
  exact key hx
def p_X0_acquits_L52b (k_X0_acquits : Nat → Int32 → Int32 → Int32 → Int32 → fw_M → (fw_M → Prop) → Prop) (r0 : Nat) (i1 : Int32) (i2 : Int32) (i3 : Int32) (i4 : Int32) (k52 : Int32 → fw_M → Prop) (i5 : Int32) (μ : fw_M) (Q : fw_M → Prop) : Prop :=
  (m_K μ (m_P μ r0 0) = 2 ∧ (if (m_I μ (m_P μ r0 0) 0) ≤ i5 then
  (Q μ)
  else
  (p_X0_acquits_L67 k_X0_acquits k52 r0 i1 i2 i3 i4 i5 (0 : Int32) μ Q)))
def p_X0_acquits_L52 (k_X0_acquits : Nat → Int32 → Int32 → Int32 → Int32 → fw_M → (fw_M → Prop) → Prop) (r0 : Nat) (i1 : Int32) (i2 : Int32) (i3 : Int32) (i4 : Int32) (i5 : Int32) (μ : fw_M) (Q : fw_M → Prop) : Prop := fw_lp (fun (k : Int32 × fw_M → Prop) (a : Int32 × fw_M) => p_X0_acquits_L52b k_X0_acquits r0 i1 i2 i3 i4 (fun i5 μ => k (i5, μ)) a.1 a.2 Q) (i5, μ)
theorem r_X0_acquits_L52 {k_X0_acquits : Nat → Int32 → Int32 → Int32 → Int32 → fw_M → (fw_M → Prop) → Prop} {r0 : Nat} {i1 : Int32} {i2 : Int32} {i3 : Int32} {i4 : Int32} {Q : fw_M → Prop} (I : Int32 → fw_M → Prop) (v : Int32 → fw_M → Nat) (hs : ∀ (k : Int32 → fw_M → Prop) (i5 : Int32) (μ : fw_M), I i5 μ → (∀ (i5' : Int32) (ν : fw_M), I i5' ν → v i5' ν < v i5 μ → k i5' ν) → p_X0_acquits_L52b k_X0_acquits r0 i1 i2 i3 i4 k i5 μ Q) (i5 : Int32) (μ : fw_M) (h : I i5 μ) : p_X0_acquits_L52 k_X0_acquits r0 i1 i2 i3 i4 i5 μ Q :=
  fw_lp_in (A := Int32 × fw_M) (fun a => I a.1 a.2) (fun a => v a.1 a.2) (fun k a ha hk => hs (fun i5 μ => k (i5, μ)) a.1 a.2 ha (fun i5' ν hb hlt => hk (i5', ν) hb hlt)) (i5, μ) h
set_option maxHeartbeats 4000000 in
theorem w_X0_acquits_L52b {g : fw_G} {f bc bs : Nat} {k_X0_acquits : Nat → Int32 → Int32 → Int32 → Int32 → fw_M → (fw_M → Prop) → Prop} {r0 : Nat} {i1 : Int32} {i2 : Int32} {i3 : Int32} {i4 : Int32} {k52 : Int32 → fw_M → Prop} {i5 : Int32} {μ : fw_M} {Q : fw_M → Prop} (hf : 805 ≤ f) (hk_X0_acquits : ∀ {z0 : Nat} {z1 : Int32} {z2 : Int32} {z3 : Int32} {z4 : Int32} {μ9 : fw_M} {Q9 : fw_M → Prop}, m_K μ9 z0 = 1 → k_X0_acquits z0 z1 z2 z3 z4 μ9 Q9 → fw_C g (f - 1) 0 0 yX0_acquits (ws_ yX0_acquits cX0_acquits 8 (none)) [fw_rv g z0, Value.int z1, Value.int z2, Value.int z3, Value.int z4] μ9 (fw_Qv Q9) fw_nX) (hk52 : ∀ {i5 : Int32} {μ : fw_M}, m_K μ r0 = 1 → k52 i5 μ → fw_V g K_X0_acquits f bc bs 52 [(0, fw_rv g r0), (1, Value.int i1), (2, Value.int i2), (3, Value.int i3), (4, Value.int i4), (5, Value.int i5)] [] μ (fw_Qv Q) fw_nX) (hx : m_K μ r0 = 1) (h : p_X0_acquits_L52b k_X0_acquits r0 i1 i2 i3 i4 k52 i5 μ Q) : fw_V g K_X0_acquits f bc bs 52 [(0, fw_rv g r0), (1, Value.int i1), (2, Value.int i2), (3, Value.int i3), (4, Value.int i4), (5, Value.int i5)] [] μ (fw_Qv Q) fw_nX := by
  unfold p_X0_acquits_L52b at h
  refine fw_iload dX0_acquits_52 rfl ?_
  refine fw_aload_n dX0_acquits_54 rfl rfl ?_
  refine fw_getfP fl_X0_12 rfl hx dX0_acquits_55 ?_
  obtain ⟨hg1, h⟩ := h
  refine fw_getfI fl_X0_63 rfl hg1 dX0_acquits_58 ?_
  refine fw_icmp_ge (tgt := 170) dX0_acquits_61 (by decide) (fun c2 => ?_) (fun c2 => ?_)
  · have h := fw_it h c2
    exact fw_return dX0_acquits_170 rfl ⟨rfl, h⟩
  · have h := fw_if h c2
    refine fw_iconst (v := 0) dX0_acquits_64 (by decide) ?_
    refine fw_istoreN (Ls' := [(6, Value.int (0 : Int32)), (5, Value.int i5), (0, fw_rv g r0), (1, Value.int i1), (2, Value.int i2), (3, Value.int i3), (4, Value.int i4)]) [0, 1, 2, 3, 4] dX0_acquits_65 (by decide) rfl rfl rfl rfl rfl ?_
    refine fw_ls [2, 3, 4, 5, 6, 1, 0] rfl ?_
    exact w_X0_acquits_L67 hf hk_X0_acquits hk52 hx h
theorem w_X0_acquits_L52 {g : fw_G} {f bc bs : Nat} {k_X0_acquits : Nat → Int32 → Int32 → Int32 → Int32 → fw_M → (fw_M → Prop) → Prop} {r0 : Nat} {i1 : Int32} {i2 : Int32} {i3 : Int32} {i4 : Int32} {i5 : Int32} {μ : fw_M} {Q : fw_M → Prop} (hf : 805 ≤ f) (hk_X0_acquits : ∀ {z0 : Nat} {z1 : Int32} {z2 : Int32} {z3 : Int32} {z4 : Int32} {μ9 : fw_M} {Q9 : fw_M → Prop}, m_K μ9 z0 = 1 → k_X0_acquits z0 z1 z2 z3 z4 μ9 Q9 → fw_C g (f - 1) 0 0 yX0_acquits (ws_ yX0_acquits cX0_acquits 8 (none)) [fw_rv g z0, Value.int z1, Value.int z2, Value.int z3, Value.int z4] μ9 (fw_Qv Q9) fw_nX) (hx : m_K μ r0 = 1) (h : p_X0_acquits_L52 k_X0_acquits r0 i1 i2 i3 i4 i5 μ Q) : fw_V g K_X0_acquits f bc bs 52 [(0, fw_rv g r0), (1, Value.int i1), (2, Value.int i2), (3, Value.int i3), (4, Value.int i4), (5, Value.int i5)] [] μ (fw_Qv Q) fw_nX := by
  have key := fw_lp_out (R := fun (a : Int32 × fw_M) => m_K a.2 r0 = 1 → fw_V g K_X0_acquits f bc bs 52 [(0, fw_rv g r0), (1, Value.int i1), (2, Value.int i2), (3, Value.int i3), (4, Value.int i4), (5, Value.int a.1)] [] a.2 (fw_Qv Q) fw_nX) (fun k hk9 a ha hx2 => w_X0_acquits_L52b hf hk_X0_acquits (fun {i5} {μ} hx3 h3 => hk9 (i5, μ) h3 hx3) hx2 ha) h
  exact key hx
def p_X0_acquits (k_X0_acquits : Nat → Int32 → Int32 → Int32 → Int32 → fw_M → (fw_M → Prop) → Prop) (r0 : Nat) (i1 : Int32) (i2 : Int32) (i3 : Int32) (i4 : Int32) (μ : fw_M) (Q : fw_M → Prop) : Prop :=
  (if i2 = 0 then
  ((if (m_I μ r0 13) ≤ i4 then
   (Q μ)
   else
   ((m_K μ (m_P μ r0 9) = 103 ∧ (vp_in i3 (m_N μ (m_P μ r0 9)) ∧ (p_X0_isGuilty r0 (m_P μ (m_P μ r0 9) i3.toNatClampNeg) i1 μ (fun v5 μ6 =>
    (if v5 = 0 then
    ((∀ μ10, μ10 = m_uI μ6 r0 13 i4 →
     (m_K μ10 (m_P μ10 r0 10) = 100 ∧ (m_K μ10 (m_P μ10 r0 11) = 100 ∧ (¬ (0 : Int32) < 0 ∧ (¬ (0 : Int32) < 0 ∧ (¬ i3 < 0 ∧ ((0 : Int32).toNatClampNeg + i3.toNatClampNeg ≤ m_N μ10 (m_P μ10 r0 10) ∧ ((0 : Int32).toNatClampNeg + i3.toNatClampNeg ≤ m_N μ10 (m_P μ10 r0 11) ∧ (∀ μ18, μ18 = m_cp μ10 (m_P μ10 r0 10) (0 : Int32).toNatClampNeg (m_P μ10 r0 11) (0 : Int32).toNatClampNeg i3.toNatClampNeg →
     Q μ18))))))))))
    else
    (Q μ6)))))))))
  else
  (p_X0_acquits_L52 k_X0_acquits r0 i1 i2 i3 i4 (0 : Int32) μ Q))
set_option maxHeartbeats 4000000 in
theorem w_X0_acquits {g : fw_G} {f bc bs : Nat} {k_X0_acquits : Nat → Int32 → Int32 → Int32 → Int32 → fw_M → (fw_M → Prop) → Prop} {r0 : Nat} {i1 : Int32} {i2 : Int32} {i3 : Int32} {i4 : Int32} {μ : fw_M} {Q : fw_M → Prop} (hf : 805 ≤ f) (hk_X0_acquits : ∀ {z0 : Nat} {z1 : Int32} {z2 : Int32} {z3 : Int32} {z4 : Int32} {μ9 : fw_M} {Q9 : fw_M → Prop}, m_K μ9 z0 = 1 → k_X0_acquits z0 z1 z2 z3 z4 μ9 Q9 → fw_C g (f - 1) 0 0 yX0_acquits (ws_ yX0_acquits cX0_acquits 8 (none)) [fw_rv g z0, Value.int z1, Value.int z2, Value.int z3, Value.int z4] μ9 (fw_Qv Q9) fw_nX) (hx : m_K μ r0 = 1) (h : p_X0_acquits k_X0_acquits r0 i1 i2 i3 i4 μ Q) : fw_C g f bc bs yX0_acquits (ws_ yX0_acquits cX0_acquits 8 (none)) [fw_rv g r0, Value.int i1, Value.int i2, Value.int i3, Value.int i4] μ (fw_Qv Q) fw_nX := by
  unfold p_X0_acquits at h
  refine fw_intro' (Ls := [(0, fw_rv g r0), (1, Value.int i1), (2, Value.int i2), (3, Value.int i3), (4, Value.int i4)]) (by decide +kernel) (by simp [lg_sl, fw_cat, fw_ci, fw_clo]) (by simp [lv_args, fw_cat, fw_ci, fw_clo]) ?_
  show fw_V g K_X0_acquits f bc bs 0 [(0, fw_rv g r0), (1, Value.int i1), (2, Value.int i2), (3, Value.int i3), (4, Value.int i4)] [] μ (fw_Qv Q) fw_nX
  refine fw_iload_n dX0_acquits_0 rfl rfl ?_
  refine fw_if_ne (tgt := 49) dX0_acquits_1 (by decide) (fun c1 => ?_) (fun c1 => ?_)
  · have h := fw_if h c1
    refine fw_iconst (v := 0) dX0_acquits_49 (by decide) ?_
    refine fw_istoreN (Ls' := [(5, Value.int (0 : Int32)), (4, Value.int i4), (0, fw_rv g r0), (1, Value.int i1), (2, Value.int i2), (3, Value.int i3)]) [0, 1, 2, 3] dX0_acquits_50 (by decide) rfl rfl rfl rfl rfl ?_
    refine fw_ls [2, 3, 4, 5, 1, 0] rfl ?_
    exact w_X0_acquits_L52 hf hk_X0_acquits hx h
  · have h := fw_it h c1
    refine fw_iload dX0_acquits_4 rfl ?_
    refine fw_aload_n dX0_acquits_6 rfl rfl ?_
    refine fw_getfI fl_X0_243 rfl hx dX0_acquits_7 ?_
    refine fw_icmp_ge (tgt := 27) dX0_acquits_10 (by decide) (fun c2 => ?_) (fun c2 => ?_)
    · have h := fw_it h c2
      exact fw_return dX0_acquits_27 rfl ⟨rfl, h⟩
    · have h := fw_if h c2
      refine fw_aload_n dX0_acquits_13 rfl rfl ?_
      refine fw_aload_n dX0_acquits_14 rfl rfl ?_
      refine fw_getfP fl_X0_50 rfl hx dX0_acquits_15 ?_
      refine fw_iload_n dX0_acquits_18 rfl rfl ?_
      obtain ⟨hg3, h⟩ := h
      obtain ⟨hc4, h⟩ := h
      refine fw_aald hg3 rfl rfl hc4 dX0_acquits_19 ?_
      refine fw_iload_n dX0_acquits_20 rfl rfl ?_
      refine fw_callV2z (f1 := f - 1) cl_X0_162 rfl hx (by decide) (by omega) (fw_s4 (Nat.le_of_ble_eq_true rfl)) dX0_acquits_21 (w_X0_isGuilty (f := f - 1) (by omega) hx h) (fun _ _ h9 _ _ => h9.elim) (fun v9 μ6 q9 hs7 => ?_)
      obtain ⟨v5, rfl, h⟩ := q9
      refine fw_ti ?_
      have hg8 := hs7.K hx (by decide)
      refine fw_if_eq (tgt := 28) dX0_acquits_24 (by decide) (fun c9 => ?_) (fun c9 => ?_)
      · have h := fw_it h c9
        refine fw_aload_n dX0_acquits_28 rfl rfl ?_
        refine fw_iload dX0_acquits_29 rfl ?_
        refine fw_putfI fl_X0_243 (fun q hq => Or.inl (by cases hq; rfl)) rfl hg8 dX0_acquits_31 ?_
        have h := h _ rfl
        refine fw_aload_n dX0_acquits_34 rfl rfl ?_
        refine fw_getfP fl_X0_53 rfl hg8 dX0_acquits_35 ?_
        refine fw_iconst (v := 0) dX0_acquits_38 (by decide) ?_
        refine fw_aload_n dX0_acquits_39 rfl rfl ?_
        refine fw_getfP fl_X0_57 rfl hg8 dX0_acquits_40 ?_
        refine fw_iconst (v := 0) dX0_acquits_43 (by decide) ?_
        refine fw_iload_n dX0_acquits_44 rfl rfl ?_
        obtain ⟨hg11, h⟩ := h
        obtain ⟨hg12, h⟩ := h
        obtain ⟨hc13, h⟩ := h
        obtain ⟨hc14, h⟩ := h
        obtain ⟨hc15, h⟩ := h
        obtain ⟨hc16, h⟩ := h
        obtain ⟨hc17, h⟩ := h
        refine fw_copy q925 q311 q310 q80 hg11 hg12 hc13 hc14 hc15 hc16 hc17 (by omega) (fw_s4 (Nat.le_of_ble_eq_true rfl)) dX0_acquits_45 ?_
        have h := h _ rfl
        exact fw_return dX0_acquits_48 rfl ⟨rfl, h⟩
      · have h := fw_if h c9
        exact fw_return dX0_acquits_27 rfl ⟨rfl, h⟩
def p_X0_acquits_d : Nat → Nat → Int32 → Int32 → Int32 → Int32 → fw_M → (fw_M → Prop) → Prop
  | 0 => fun _ _ _ _ _ _ _ => False
  | d + 1 => p_X0_acquits (p_X0_acquits_d d)
theorem w_X0_acquits_d {g : fw_G} : ∀ (d f : Nat) {z0 : Nat} {z1 : Int32} {z2 : Int32} {z3 : Int32} {z4 : Int32} {μ : fw_M} {Q : fw_M → Prop}, 805 + d ≤ f → m_K μ z0 = 1 → p_X0_acquits_d d z0 z1 z2 z3 z4 μ Q → fw_C g f 0 0 yX0_acquits (ws_ yX0_acquits cX0_acquits 8 (none)) [fw_rv g z0, Value.int z1, Value.int z2, Value.int z3, Value.int z4] μ (fw_Qv Q) fw_nX := by
  intro d
  induction d with
  | zero => intro f z0 z1 z2 z3 z4 μ Q _ _ h; exact h.elim
  | succ d ih =>
    intro f z0 z1 z2 z3 z4 μ Q hf hx h
    exact w_X0_acquits (k_X0_acquits := p_X0_acquits_d d) (by omega) (fun hx9 h9 => ih (f - 1) (by omega) hx9 h9) hx h
def pc_X0_acquits (z0 : Nat) (z1 : Int32) (z2 : Int32) (z3 : Int32) (z4 : Int32) (μ : fw_M) (Q : fw_M → Prop) : Prop := ∃ d, d ≤ 20 ∧ p_X0_acquits_d d z0 z1 z2 z3 z4 μ Q
theorem wc_X0_acquits {g : fw_G} {f : Nat} {z0 : Nat} {z1 : Int32} {z2 : Int32} {z3 : Int32} {z4 : Int32} {μ : fw_M} {Q : fw_M → Prop} (hf : 825 ≤ f) (hx : m_K μ z0 = 1) (h : pc_X0_acquits z0 z1 z2 z3 z4 μ Q) : fw_C g f 0 0 yX0_acquits (ws_ yX0_acquits cX0_acquits 8 (none)) [fw_rv g z0, Value.int z1, Value.int z2, Value.int z3, Value.int z4] μ (fw_Qv Q) fw_nX := by
  obtain ⟨d, hd, h⟩ := h
  exact w_X0_acquits_d d f (by omega) hx h
abbrev K_X11_init : fw_Kt := (RX11, "<init>", cX11_init, 4, none, [])
def p_X11_init (r0 : Nat) (i1 : Int32) (r2 : Nat) (r3 : Nat) (μ : fw_M) (Q : fw_M → Prop) : Prop :=
  (∀ μ1, μ1 = m_uI μ r0 0 i1 →
  (∀ μ2, μ2 = m_uP μ1 r0 1 r2 →
  (∀ μ3, μ3 = m_uP μ2 r0 2 r3 →
  Q μ3)))
set_option maxHeartbeats 4000000 in
theorem w_X11_init {g : fw_G} {f bc bs : Nat} {r0 : Nat} {i1 : Int32} {r2 : Nat} {r3 : Nat} {μ : fw_M} {Q : fw_M → Prop} (hf : 1 ≤ f) (hx : m_K μ r0 = 12) (h : p_X11_init r0 i1 r2 r3 μ Q) : fw_C g f bc bs yX11_init (ws_ yX11_init cX11_init 4 (none)) [fw_rv g r0, Value.int i1, fw_rv g r2, fw_rv g r3] μ (fw_Qv Q) fw_nX := by
  unfold p_X11_init at h
  refine fw_intro' (Ls := [(0, fw_rv g r0), (1, Value.int i1), (2, fw_rv g r2), (3, fw_rv g r3)]) (by decide +kernel) (by simp [lg_sl, fw_cat, fw_ci, fw_clo]) (by simp [lv_args, fw_cat, fw_ci, fw_clo]) ?_
  show fw_V g K_X11_init f bc bs 0 [(0, fw_rv g r0), (1, Value.int i1), (2, fw_rv g r2), (3, fw_rv g r3)] [] μ (fw_Qv Q) fw_nX
  refine fw_aload_n dX11_init_0 rfl rfl ?_
  refine fw_objInit (k := 12) rfl hx q737 q110 q111 (by omega) (fw_s4 (Nat.le_of_ble_eq_true rfl)) dX11_init_1 ?_
  refine fw_aload_n dX11_init_4 rfl rfl ?_
  refine fw_iload_n dX11_init_5 rfl rfl ?_
  refine fw_putfI fl_X11_7 (fun q hq => Or.inr ⟨rfl, by cases hq; rfl⟩) rfl hx dX11_init_6 ?_
  have h := h _ rfl
  refine fw_aload_n dX11_init_9 rfl rfl ?_
  refine fw_aload_n dX11_init_10 rfl rfl ?_
  refine fw_putfP fl_X11_13 (fun q hq => Or.inr ⟨rfl, by cases hq; rfl⟩) rfl hx dX11_init_11 ?_
  have h := h _ rfl
  refine fw_aload_n dX11_init_14 rfl rfl ?_
  refine fw_aload_n dX11_init_15 rfl rfl ?_
  refine fw_putfP fl_X11_17 (fun q hq => Or.inr ⟨rfl, by cases hq; rfl⟩) rfl hx dX11_init_16 ?_
  have h := h _ rfl
  exact fw_return dX11_init_19 rfl ⟨rfl, h⟩
abbrev K_X0_in : fw_Kt := (RX0, "in", cX0_in, 3, some .boolean, [])
def p_X0_in (i0 : Int32) (i1 : Int32) (i2 : Int32) (μ : fw_M) (Q : Int32 → fw_M → Prop) : Prop :=
  (if i0 < i1 then
  (Q (0 : Int32) μ)
  else
  ((if i2 < i0 then
   (Q (0 : Int32) μ)
   else
   (Q (1 : Int32) μ))))
set_option maxHeartbeats 4000000 in
theorem w_X0_in {g : fw_G} {f bc bs : Nat} {i0 : Int32} {i1 : Int32} {i2 : Int32} {μ : fw_M} {Q : Int32 → fw_M → Prop} (hf : 1 ≤ f) (h : p_X0_in i0 i1 i2 μ Q) : fw_C g f bc bs yX0_in (ws_ yX0_in cX0_in 3 (some .boolean)) [Value.int i0, Value.int i1, Value.int i2] μ (fw_Qi Q) fw_nX := by
  unfold p_X0_in at h
  refine fw_intro' (Ls := [(0, Value.int i0), (1, Value.int i1), (2, Value.int i2)]) (by decide +kernel) (by simp [lg_sl, fw_cat, fw_ci, fw_clo]) (by simp [lv_args, fw_cat, fw_ci, fw_clo]) ?_
  show fw_V g K_X0_in f bc bs 0 [(0, Value.int i0), (1, Value.int i1), (2, Value.int i2)] [] μ (fw_Qi Q) fw_nX
  refine fw_iload_n dX0_in_0 rfl rfl ?_
  refine fw_iload_n dX0_in_1 rfl rfl ?_
  refine fw_icmp_lt (tgt := 14) dX0_in_2 (by decide) (fun c1 => ?_) (fun c1 => ?_)
  · have h := fw_it h c1
    refine fw_iconst (v := 0) dX0_in_14 (by decide) ?_
    exact fw_ireturn dX0_in_15 rfl (by decide +kernel) ⟨_, rfl, h⟩
  · have h := fw_if h c1
    refine fw_iload_n dX0_in_5 rfl rfl ?_
    refine fw_iload_n dX0_in_6 rfl rfl ?_
    refine fw_icmp_gt (tgt := 14) dX0_in_7 (by decide) (fun c2 => ?_) (fun c2 => ?_)
    · have h := fw_it h c2
      refine fw_iconst (v := 0) dX0_in_14 (by decide) ?_
      exact fw_ireturn dX0_in_15 rfl (by decide +kernel) ⟨_, rfl, h⟩
    · have h := fw_if h c2
      refine fw_iconst (v := 1) dX0_in_10 (by decide) ?_
      refine fw_goto (tgt := 15) dX0_in_11 (by decide) ?_
      exact fw_ireturn dX0_in_15 rfl (by decide +kernel) ⟨_, rfl, h⟩
abbrev K_X6_see : fw_Kt := (RX6, "see", cX6_see, 1, some .int, [])
def p_X6_see (r0 : Nat) (μ : fw_M) (Q : Int32 → fw_M → Prop) : Prop :=
  (if (m_I μ r0 1) ≤ (m_I μ r0 2) then
  (Q (-1 : Int32) μ)
  else
  ((m_K μ (m_P μ r0 0) = 101 ∧ (vp_in (m_I μ r0 2) (m_N μ (m_P μ r0 0)) ∧ Q ((m_I μ (m_P μ r0 0) (m_I μ r0 2).toNatClampNeg) &&& (255 : Int32)) μ))))
set_option maxHeartbeats 4000000 in
theorem w_X6_see {g : fw_G} {f bc bs : Nat} {r0 : Nat} {μ : fw_M} {Q : Int32 → fw_M → Prop} (hf : 1 ≤ f) (hx : m_K μ r0 = 7) (h : p_X6_see r0 μ Q) : fw_C g f bc bs yX6_see (ws_ yX6_see cX6_see 1 (some .int)) [fw_rv g r0] μ (fw_Qi Q) fw_nX := by
  unfold p_X6_see at h
  refine fw_intro' (Ls := [(0, fw_rv g r0)]) (by decide +kernel) (by simp [lg_sl, fw_cat, fw_ci, fw_clo]) (by simp [lv_args, fw_cat, fw_ci, fw_clo]) ?_
  show fw_V g K_X6_see f bc bs 0 [(0, fw_rv g r0)] [] μ (fw_Qi Q) fw_nX
  refine fw_aload_n dX6_see_0 rfl rfl ?_
  refine fw_getfI fl_X6_19 rfl hx dX6_see_1 ?_
  refine fw_aload_n dX6_see_4 rfl rfl ?_
  refine fw_getfI fl_X6_15 rfl hx dX6_see_5 ?_
  refine fw_icmp_ge (tgt := 27) dX6_see_8 (by decide) (fun c1 => ?_) (fun c1 => ?_)
  · have h := fw_it h c1
    refine fw_iconst (v := -1) dX6_see_27 (by decide) ?_
    exact fw_ireturn dX6_see_28 rfl rfl ⟨_, rfl, h⟩
  · have h := fw_if h c1
    refine fw_aload_n dX6_see_11 rfl rfl ?_
    refine fw_getfP fl_X6_9 rfl hx dX6_see_12 ?_
    refine fw_aload_n dX6_see_15 rfl rfl ?_
    refine fw_getfI fl_X6_19 rfl hx dX6_see_16 ?_
    obtain ⟨hg2, h⟩ := h
    obtain ⟨hc3, h⟩ := h
    refine fw_bald hg2 hc3 dX6_see_19 ?_
    refine fw_sipush (v := 255) dX6_see_20 (by decide) ?_
    refine fw_iand dX6_see_23 ?_
    refine fw_goto (tgt := 28) dX6_see_24 (by decide) ?_
    exact fw_ireturn dX6_see_28 rfl rfl ⟨_, rfl, h⟩
abbrev K_X6_isDigit : fw_Kt := (RX6, "isDigit", cX6_isDigit, 1, some .boolean, [])
def p_X6_isDigit (r0 : Nat) (μ : fw_M) (Q : Int32 → fw_M → Prop) : Prop :=
  (p_X6_see r0 μ (fun v1 μ2 =>
  (p_X0_in v1 (48 : Int32) (57 : Int32) μ2 (fun v5 μ6 =>
  ((v5 = 0 ∨ v5 = 1) ∧ Q v5 μ6)))))
set_option maxHeartbeats 4000000 in
theorem w_X6_isDigit {g : fw_G} {f bc bs : Nat} {r0 : Nat} {μ : fw_M} {Q : Int32 → fw_M → Prop} (hf : 2 ≤ f) (hx : m_K μ r0 = 7) (h : p_X6_isDigit r0 μ Q) : fw_C g f bc bs yX6_isDigit (ws_ yX6_isDigit cX6_isDigit 1 (some .boolean)) [fw_rv g r0] μ (fw_Qi Q) fw_nX := by
  unfold p_X6_isDigit at h
  refine fw_intro' (Ls := [(0, fw_rv g r0)]) (by decide +kernel) (by simp [lg_sl, fw_cat, fw_ci, fw_clo]) (by simp [lv_args, fw_cat, fw_ci, fw_clo]) ?_
  show fw_V g K_X6_isDigit f bc bs 0 [(0, fw_rv g r0)] [] μ (fw_Qi Q) fw_nX
  refine fw_aload_n dX6_isDigit_0 rfl rfl ?_
  refine fw_callV0z (f1 := f - 1) cl_X6_22 rfl hx (by decide) (by omega) (fw_s4 (Nat.le_of_ble_eq_true rfl)) dX6_isDigit_1 (w_X6_see (f := f - 1) (by omega) hx h) (fun _ _ h9 _ _ => h9.elim) (fun v9 μ2 q9 hs3 => ?_)
  obtain ⟨v1, rfl, h⟩ := q9
  refine fw_ti ?_
  have hg4 := hs3.K hx (by decide)
  refine fw_bipush (v := 48) dX6_isDigit_4 (by decide) ?_
  refine fw_bipush (v := 57) dX6_isDigit_6 (by decide) ?_
  refine fw_callSN3z (f1 := f - 1) cl_X6_26 (by decide) (by omega) (fw_s4 (Nat.le_of_ble_eq_true rfl)) dX6_isDigit_8 (w_X0_in (f := f - 1) (by omega) h) (fun _ _ h9 _ _ => h9.elim) (fun v9 μ6 q9 hs7 => ?_)
  obtain ⟨v5, rfl, h⟩ := q9
  refine fw_ti ?_
  have hg8 := hs7.K hg4 (by decide)
  obtain ⟨hc9, h⟩ := h
  exact fw_ireturn dX6_isDigit_11 rfl (by rcases hc9 with e9 | e9 <;> rw [e9] <;> decide +kernel) ⟨_, rfl, h⟩
abbrev K_X6_isLetter : fw_Kt := (RX6, "isLetter", cX6_isLetter, 1, some .boolean, [])
def p_X6_isLetter_L28 (r0 : Nat) (μ : fw_M) (Q : Int32 → fw_M → Prop) : Prop :=
  Q (1 : Int32) μ
set_option maxHeartbeats 4000000 in
theorem w_X6_isLetter_L28 {g : fw_G} {f bc bs : Nat} {r0 : Nat} {μ : fw_M} {Q : Int32 → fw_M → Prop} (hf : 2 ≤ f) (hx : m_K μ r0 = 7) (h : p_X6_isLetter_L28 r0 μ Q) : fw_V g K_X6_isLetter f bc bs 28 [(0, fw_rv g r0)] [] μ (fw_Qi Q) fw_nX := by
  unfold p_X6_isLetter_L28 at h
  refine fw_iconst (v := 1) dX6_isLetter_28 (by decide) ?_
  refine fw_goto (tgt := 33) dX6_isLetter_29 (by decide) ?_
  exact fw_ireturn dX6_isLetter_33 rfl (by decide +kernel) ⟨_, rfl, h⟩
def p_X6_isLetter (r0 : Nat) (μ : fw_M) (Q : Int32 → fw_M → Prop) : Prop :=
  (p_X6_see r0 μ (fun v1 μ2 =>
  (p_X0_in v1 (97 : Int32) (122 : Int32) μ2 (fun v5 μ6 =>
  (if v5 = 0 then
  ((p_X6_see r0 μ6 (fun v10 μ11 =>
   (p_X0_in v10 (65 : Int32) (90 : Int32) μ11 (fun v14 μ15 =>
   (if v14 = 0 then
   (Q (0 : Int32) μ15)
   else
   (p_X6_isLetter_L28 r0 μ15 Q)))))))
  else
  (p_X6_isLetter_L28 r0 μ6 Q))))))
set_option maxHeartbeats 4000000 in
theorem w_X6_isLetter {g : fw_G} {f bc bs : Nat} {r0 : Nat} {μ : fw_M} {Q : Int32 → fw_M → Prop} (hf : 2 ≤ f) (hx : m_K μ r0 = 7) (h : p_X6_isLetter r0 μ Q) : fw_C g f bc bs yX6_isLetter (ws_ yX6_isLetter cX6_isLetter 1 (some .boolean)) [fw_rv g r0] μ (fw_Qi Q) fw_nX := by
  unfold p_X6_isLetter at h
  refine fw_intro' (Ls := [(0, fw_rv g r0)]) (by decide +kernel) (by simp [lg_sl, fw_cat, fw_ci, fw_clo]) (by simp [lv_args, fw_cat, fw_ci, fw_clo]) ?_
  show fw_V g K_X6_isLetter f bc bs 0 [(0, fw_rv g r0)] [] μ (fw_Qi Q) fw_nX
  refine fw_aload_n dX6_isLetter_0 rfl rfl ?_
  refine fw_callV0z (f1 := f - 1) cl_X6_22 rfl hx (by decide) (by omega) (fw_s4 (Nat.le_of_ble_eq_true rfl)) dX6_isLetter_1 (w_X6_see (f := f - 1) (by omega) hx h) (fun _ _ h9 _ _ => h9.elim) (fun v9 μ2 q9 hs3 => ?_)
  obtain ⟨v1, rfl, h⟩ := q9
  refine fw_ti ?_
  have hg4 := hs3.K hx (by decide)
  refine fw_bipush (v := 97) dX6_isLetter_4 (by decide) ?_
  refine fw_bipush (v := 122) dX6_isLetter_6 (by decide) ?_
  refine fw_callSN3z (f1 := f - 1) cl_X6_26 (by decide) (by omega) (fw_s4 (Nat.le_of_ble_eq_true rfl)) dX6_isLetter_8 (w_X0_in (f := f - 1) (by omega) h) (fun _ _ h9 _ _ => h9.elim) (fun v9 μ6 q9 hs7 => ?_)
  obtain ⟨v5, rfl, h⟩ := q9
  refine fw_ti ?_
  have hg8 := hs7.K hg4 (by decide)
  refine fw_if_ne (tgt := 28) dX6_isLetter_11 (by decide) (fun c9 => ?_) (fun c9 => ?_)
  · have h := fw_if h c9
    exact w_X6_isLetter_L28 hf hg8 h
  · have h := fw_it h c9
    refine fw_aload_n dX6_isLetter_14 rfl rfl ?_
    refine fw_callV0z (f1 := f - 1) cl_X6_22 rfl hg8 (by decide) (by omega) (fw_s4 (Nat.le_of_ble_eq_true rfl)) dX6_isLetter_15 (w_X6_see (f := f - 1) (by omega) hg8 h) (fun _ _ h9 _ _ => h9.elim) (fun v9 μ11 q9 hs12 => ?_)
    obtain ⟨v10, rfl, h⟩ := q9
    refine fw_ti ?_
    have hg13 := hs12.K hg8 (by decide)
    refine fw_bipush (v := 65) dX6_isLetter_18 (by decide) ?_
    refine fw_bipush (v := 90) dX6_isLetter_20 (by decide) ?_
    refine fw_callSN3z (f1 := f - 1) cl_X6_26 (by decide) (by omega) (fw_s4 (Nat.le_of_ble_eq_true rfl)) dX6_isLetter_22 (w_X0_in (f := f - 1) (by omega) h) (fun _ _ h9 _ _ => h9.elim) (fun v9 μ15 q9 hs16 => ?_)
    obtain ⟨v14, rfl, h⟩ := q9
    refine fw_ti ?_
    have hg17 := hs16.K hg13 (by decide)
    refine fw_if_eq (tgt := 32) dX6_isLetter_25 (by decide) (fun c18 => ?_) (fun c18 => ?_)
    · have h := fw_it h c18
      refine fw_iconst (v := 0) dX6_isLetter_32 (by decide) ?_
      exact fw_ireturn dX6_isLetter_33 rfl (by decide +kernel) ⟨_, rfl, h⟩
    · have h := fw_if h c18
      exact w_X6_isLetter_L28 hf hg17 h
abbrev K_X6_isSign : fw_Kt := (RX6, "isSign", cX6_isSign, 1, some .boolean, [])
def p_X6_isSign (i0 : Int32) (μ : fw_M) (Q : Int32 → fw_M → Prop) : Prop :=
  (if i0 = 35 then
  (Q (1 : Int32) μ)
  else (if i0 = 36 then
  (Q (0 : Int32) μ)
  else (if i0 = 37 then
  (Q (0 : Int32) μ)
  else (if i0 = 38 then
  (Q (0 : Int32) μ)
  else (if i0 = 39 then
  (Q (0 : Int32) μ)
  else (if i0 = 40 then
  (Q (1 : Int32) μ)
  else (if i0 = 41 then
  (Q (1 : Int32) μ)
  else (if i0 = 42 then
  (Q (1 : Int32) μ)
  else (if i0 = 43 then
  (Q (1 : Int32) μ)
  else (if i0 = 44 then
  (Q (0 : Int32) μ)
  else (if i0 = 45 then
  (Q (1 : Int32) μ)
  else (if i0 = 46 then
  (Q (0 : Int32) μ)
  else (if i0 = 47 then
  (Q (1 : Int32) μ)
  else (if i0 = 48 then
  (Q (0 : Int32) μ)
  else (if i0 = 49 then
  (Q (0 : Int32) μ)
  else (if i0 = 50 then
  (Q (0 : Int32) μ)
  else (if i0 = 51 then
  (Q (0 : Int32) μ)
  else (if i0 = 52 then
  (Q (0 : Int32) μ)
  else (if i0 = 53 then
  (Q (0 : Int32) μ)
  else (if i0 = 54 then
  (Q (0 : Int32) μ)
  else (if i0 = 55 then
  (Q (0 : Int32) μ)
  else (if i0 = 56 then
  (Q (0 : Int32) μ)
  else (if i0 = 57 then
  (Q (0 : Int32) μ)
  else (if i0 = 58 then
  (Q (0 : Int32) μ)
  else (if i0 = 59 then
  (Q (1 : Int32) μ)
  else (if i0 = 60 then
  (Q (1 : Int32) μ)
  else (if i0 = 61 then
  (Q (1 : Int32) μ)
  else (if i0 = 62 then
  (Q (1 : Int32) μ)
  else Q (0 : Int32) μ))))))))))))))))))))))))))))
set_option maxHeartbeats 4000000 in
theorem w_X6_isSign {g : fw_G} {f bc bs : Nat} {i0 : Int32} {μ : fw_M} {Q : Int32 → fw_M → Prop} (hf : 1 ≤ f) (h : p_X6_isSign i0 μ Q) : fw_C g f bc bs yX6_isSign (ws_ yX6_isSign cX6_isSign 1 (some .boolean)) [Value.int i0] μ (fw_Qi Q) fw_nX := by
  unfold p_X6_isSign at h
  refine fw_intro' (Ls := [(0, Value.int i0)]) (by decide +kernel) (by simp [lg_sl, fw_cat, fw_ci, fw_clo]) (by simp [lv_args, fw_cat, fw_ci, fw_clo]) ?_
  show fw_V g K_X6_isSign f bc bs 0 [(0, Value.int i0)] [] μ (fw_Qi Q) fw_nX
  refine fw_iload_n dX6_isSign_0 rfl rfl ?_
  refine fw_sw (k := 35) h (fun c1 h => ?_) (fun c1 h => ?_)
  · refine fw_tableIn (tgt := 128) dX6_isSign_1 (by rw [c1]; decide) (by rw [c1]; decide) (by rw [c1]; rfl) (by decide) ?_
    refine fw_iconst (v := 1) dX6_isSign_128 (by decide) ?_
    exact fw_ireturn dX6_isSign_129 rfl (by decide +kernel) ⟨_, rfl, h⟩
  · refine fw_sw (k := 36) h (fun c2 h => ?_) (fun c2 h => ?_)
    · refine fw_tableIn (tgt := 130) dX6_isSign_1 (by rw [c2]; decide) (by rw [c2]; decide) (by rw [c2]; rfl) (by decide) ?_
      refine fw_iconst (v := 0) dX6_isSign_130 (by decide) ?_
      exact fw_ireturn dX6_isSign_131 rfl (by decide +kernel) ⟨_, rfl, h⟩
    · refine fw_sw (k := 37) h (fun c3 h => ?_) (fun c3 h => ?_)
      · refine fw_tableIn (tgt := 130) dX6_isSign_1 (by rw [c3]; decide) (by rw [c3]; decide) (by rw [c3]; rfl) (by decide) ?_
        refine fw_iconst (v := 0) dX6_isSign_130 (by decide) ?_
        exact fw_ireturn dX6_isSign_131 rfl (by decide +kernel) ⟨_, rfl, h⟩
      · refine fw_sw (k := 38) h (fun c4 h => ?_) (fun c4 h => ?_)
        · refine fw_tableIn (tgt := 130) dX6_isSign_1 (by rw [c4]; decide) (by rw [c4]; decide) (by rw [c4]; rfl) (by decide) ?_
          refine fw_iconst (v := 0) dX6_isSign_130 (by decide) ?_
          exact fw_ireturn dX6_isSign_131 rfl (by decide +kernel) ⟨_, rfl, h⟩
        · refine fw_sw (k := 39) h (fun c5 h => ?_) (fun c5 h => ?_)
          · refine fw_tableIn (tgt := 130) dX6_isSign_1 (by rw [c5]; decide) (by rw [c5]; decide) (by rw [c5]; rfl) (by decide) ?_
            refine fw_iconst (v := 0) dX6_isSign_130 (by decide) ?_
            exact fw_ireturn dX6_isSign_131 rfl (by decide +kernel) ⟨_, rfl, h⟩
          · refine fw_sw (k := 40) h (fun c6 h => ?_) (fun c6 h => ?_)
            · refine fw_tableIn (tgt := 128) dX6_isSign_1 (by rw [c6]; decide) (by rw [c6]; decide) (by rw [c6]; rfl) (by decide) ?_
              refine fw_iconst (v := 1) dX6_isSign_128 (by decide) ?_
              exact fw_ireturn dX6_isSign_129 rfl (by decide +kernel) ⟨_, rfl, h⟩
            · refine fw_sw (k := 41) h (fun c7 h => ?_) (fun c7 h => ?_)
              · refine fw_tableIn (tgt := 128) dX6_isSign_1 (by rw [c7]; decide) (by rw [c7]; decide) (by rw [c7]; rfl) (by decide) ?_
                refine fw_iconst (v := 1) dX6_isSign_128 (by decide) ?_
                exact fw_ireturn dX6_isSign_129 rfl (by decide +kernel) ⟨_, rfl, h⟩
              · refine fw_sw (k := 42) h (fun c8 h => ?_) (fun c8 h => ?_)
                · refine fw_tableIn (tgt := 128) dX6_isSign_1 (by rw [c8]; decide) (by rw [c8]; decide) (by rw [c8]; rfl) (by decide) ?_
                  refine fw_iconst (v := 1) dX6_isSign_128 (by decide) ?_
                  exact fw_ireturn dX6_isSign_129 rfl (by decide +kernel) ⟨_, rfl, h⟩
                · refine fw_sw (k := 43) h (fun c9 h => ?_) (fun c9 h => ?_)
                  · refine fw_tableIn (tgt := 128) dX6_isSign_1 (by rw [c9]; decide) (by rw [c9]; decide) (by rw [c9]; rfl) (by decide) ?_
                    refine fw_iconst (v := 1) dX6_isSign_128 (by decide) ?_
                    exact fw_ireturn dX6_isSign_129 rfl (by decide +kernel) ⟨_, rfl, h⟩
                  · refine fw_sw (k := 44) h (fun c10 h => ?_) (fun c10 h => ?_)
                    · refine fw_tableIn (tgt := 130) dX6_isSign_1 (by rw [c10]; decide) (by rw [c10]; decide) (by rw [c10]; rfl) (by decide) ?_
                      refine fw_iconst (v := 0) dX6_isSign_130 (by decide) ?_
                      exact fw_ireturn dX6_isSign_131 rfl (by decide +kernel) ⟨_, rfl, h⟩
                    · refine fw_sw (k := 45) h (fun c11 h => ?_) (fun c11 h => ?_)
                      · refine fw_tableIn (tgt := 128) dX6_isSign_1 (by rw [c11]; decide) (by rw [c11]; decide) (by rw [c11]; rfl) (by decide) ?_
                        refine fw_iconst (v := 1) dX6_isSign_128 (by decide) ?_
                        exact fw_ireturn dX6_isSign_129 rfl (by decide +kernel) ⟨_, rfl, h⟩
                      · refine fw_sw (k := 46) h (fun c12 h => ?_) (fun c12 h => ?_)
                        · refine fw_tableIn (tgt := 130) dX6_isSign_1 (by rw [c12]; decide) (by rw [c12]; decide) (by rw [c12]; rfl) (by decide) ?_
                          refine fw_iconst (v := 0) dX6_isSign_130 (by decide) ?_
                          exact fw_ireturn dX6_isSign_131 rfl (by decide +kernel) ⟨_, rfl, h⟩
                        · refine fw_sw (k := 47) h (fun c13 h => ?_) (fun c13 h => ?_)
                          · refine fw_tableIn (tgt := 128) dX6_isSign_1 (by rw [c13]; decide) (by rw [c13]; decide) (by rw [c13]; rfl) (by decide) ?_
                            refine fw_iconst (v := 1) dX6_isSign_128 (by decide) ?_
                            exact fw_ireturn dX6_isSign_129 rfl (by decide +kernel) ⟨_, rfl, h⟩
                          · refine fw_sw (k := 48) h (fun c14 h => ?_) (fun c14 h => ?_)
                            · refine fw_tableIn (tgt := 130) dX6_isSign_1 (by rw [c14]; decide) (by rw [c14]; decide) (by rw [c14]; rfl) (by decide) ?_
                              refine fw_iconst (v := 0) dX6_isSign_130 (by decide) ?_
                              exact fw_ireturn dX6_isSign_131 rfl (by decide +kernel) ⟨_, rfl, h⟩
                            · refine fw_sw (k := 49) h (fun c15 h => ?_) (fun c15 h => ?_)
                              · refine fw_tableIn (tgt := 130) dX6_isSign_1 (by rw [c15]; decide) (by rw [c15]; decide) (by rw [c15]; rfl) (by decide) ?_
                                refine fw_iconst (v := 0) dX6_isSign_130 (by decide) ?_
                                exact fw_ireturn dX6_isSign_131 rfl (by decide +kernel) ⟨_, rfl, h⟩
                              · refine fw_sw (k := 50) h (fun c16 h => ?_) (fun c16 h => ?_)
                                · refine fw_tableIn (tgt := 130) dX6_isSign_1 (by rw [c16]; decide) (by rw [c16]; decide) (by rw [c16]; rfl) (by decide) ?_
                                  refine fw_iconst (v := 0) dX6_isSign_130 (by decide) ?_
                                  exact fw_ireturn dX6_isSign_131 rfl (by decide +kernel) ⟨_, rfl, h⟩
                                · refine fw_sw (k := 51) h (fun c17 h => ?_) (fun c17 h => ?_)
                                  · refine fw_tableIn (tgt := 130) dX6_isSign_1 (by rw [c17]; decide) (by rw [c17]; decide) (by rw [c17]; rfl) (by decide) ?_
                                    refine fw_iconst (v := 0) dX6_isSign_130 (by decide) ?_
                                    exact fw_ireturn dX6_isSign_131 rfl (by decide +kernel) ⟨_, rfl, h⟩
                                  · refine fw_sw (k := 52) h (fun c18 h => ?_) (fun c18 h => ?_)
                                    · refine fw_tableIn (tgt := 130) dX6_isSign_1 (by rw [c18]; decide) (by rw [c18]; decide) (by rw [c18]; rfl) (by decide) ?_
                                      refine fw_iconst (v := 0) dX6_isSign_130 (by decide) ?_
                                      exact fw_ireturn dX6_isSign_131 rfl (by decide +kernel) ⟨_, rfl, h⟩
                                    · refine fw_sw (k := 53) h (fun c19 h => ?_) (fun c19 h => ?_)
                                      · refine fw_tableIn (tgt := 130) dX6_isSign_1 (by rw [c19]; decide) (by rw [c19]; decide) (by rw [c19]; rfl) (by decide) ?_
                                        refine fw_iconst (v := 0) dX6_isSign_130 (by decide) ?_
                                        exact fw_ireturn dX6_isSign_131 rfl (by decide +kernel) ⟨_, rfl, h⟩
                                      · refine fw_sw (k := 54) h (fun c20 h => ?_) (fun c20 h => ?_)
                                        · refine fw_tableIn (tgt := 130) dX6_isSign_1 (by rw [c20]; decide) (by rw [c20]; decide) (by rw [c20]; rfl) (by decide) ?_
                                          refine fw_iconst (v := 0) dX6_isSign_130 (by decide) ?_
                                          exact fw_ireturn dX6_isSign_131 rfl (by decide +kernel) ⟨_, rfl, h⟩
                                        · refine fw_sw (k := 55) h (fun c21 h => ?_) (fun c21 h => ?_)
                                          · refine fw_tableIn (tgt := 130) dX6_isSign_1 (by rw [c21]; decide) (by rw [c21]; decide) (by rw [c21]; rfl) (by decide) ?_
                                            refine fw_iconst (v := 0) dX6_isSign_130 (by decide) ?_
                                            exact fw_ireturn dX6_isSign_131 rfl (by decide +kernel) ⟨_, rfl, h⟩
                                          · refine fw_sw (k := 56) h (fun c22 h => ?_) (fun c22 h => ?_)
                                            · refine fw_tableIn (tgt := 130) dX6_isSign_1 (by rw [c22]; decide) (by rw [c22]; decide) (by rw [c22]; rfl) (by decide) ?_
                                              refine fw_iconst (v := 0) dX6_isSign_130 (by decide) ?_
                                              exact fw_ireturn dX6_isSign_131 rfl (by decide +kernel) ⟨_, rfl, h⟩
                                            · refine fw_sw (k := 57) h (fun c23 h => ?_) (fun c23 h => ?_)
                                              · refine fw_tableIn (tgt := 130) dX6_isSign_1 (by rw [c23]; decide) (by rw [c23]; decide) (by rw [c23]; rfl) (by decide) ?_
                                                refine fw_iconst (v := 0) dX6_isSign_130 (by decide) ?_
                                                exact fw_ireturn dX6_isSign_131 rfl (by decide +kernel) ⟨_, rfl, h⟩
                                              · refine fw_sw (k := 58) h (fun c24 h => ?_) (fun c24 h => ?_)
                                                · refine fw_tableIn (tgt := 130) dX6_isSign_1 (by rw [c24]; decide) (by rw [c24]; decide) (by rw [c24]; rfl) (by decide) ?_
                                                  refine fw_iconst (v := 0) dX6_isSign_130 (by decide) ?_
                                                  exact fw_ireturn dX6_isSign_131 rfl (by decide +kernel) ⟨_, rfl, h⟩
                                                · refine fw_sw (k := 59) h (fun c25 h => ?_) (fun c25 h => ?_)
                                                  · refine fw_tableIn (tgt := 128) dX6_isSign_1 (by rw [c25]; decide) (by rw [c25]; decide) (by rw [c25]; rfl) (by decide) ?_
                                                    refine fw_iconst (v := 1) dX6_isSign_128 (by decide) ?_
                                                    exact fw_ireturn dX6_isSign_129 rfl (by decide +kernel) ⟨_, rfl, h⟩
                                                  · refine fw_sw (k := 60) h (fun c26 h => ?_) (fun c26 h => ?_)
                                                    · refine fw_tableIn (tgt := 128) dX6_isSign_1 (by rw [c26]; decide) (by rw [c26]; decide) (by rw [c26]; rfl) (by decide) ?_
                                                      refine fw_iconst (v := 1) dX6_isSign_128 (by decide) ?_
                                                      exact fw_ireturn dX6_isSign_129 rfl (by decide +kernel) ⟨_, rfl, h⟩
                                                    · refine fw_sw (k := 61) h (fun c27 h => ?_) (fun c27 h => ?_)
                                                      · refine fw_tableIn (tgt := 128) dX6_isSign_1 (by rw [c27]; decide) (by rw [c27]; decide) (by rw [c27]; rfl) (by decide) ?_
                                                        refine fw_iconst (v := 1) dX6_isSign_128 (by decide) ?_
                                                        exact fw_ireturn dX6_isSign_129 rfl (by decide +kernel) ⟨_, rfl, h⟩
                                                      · refine fw_sw (k := 62) h (fun c28 h => ?_) (fun c28 h => ?_)
                                                        · refine fw_tableIn (tgt := 128) dX6_isSign_1 (by rw [c28]; decide) (by rw [c28]; decide) (by rw [c28]; rfl) (by decide) ?_
                                                          refine fw_iconst (v := 1) dX6_isSign_128 (by decide) ?_
                                                          exact fw_ireturn dX6_isSign_129 rfl (by decide +kernel) ⟨_, rfl, h⟩
                                                        · have nc1 := lv_neT c1 (k := 35) (a := 35) (by decide)
                                                          have nc2 := lv_neT c2 (k := 36) (a := 36) (by decide)
                                                          have nc3 := lv_neT c3 (k := 37) (a := 37) (by decide)
                                                          have nc4 := lv_neT c4 (k := 38) (a := 38) (by decide)
                                                          have nc5 := lv_neT c5 (k := 39) (a := 39) (by decide)
                                                          have nc6 := lv_neT c6 (k := 40) (a := 40) (by decide)
                                                          have nc7 := lv_neT c7 (k := 41) (a := 41) (by decide)
                                                          have nc8 := lv_neT c8 (k := 42) (a := 42) (by decide)
                                                          have nc9 := lv_neT c9 (k := 43) (a := 43) (by decide)
                                                          have nc10 := lv_neT c10 (k := 44) (a := 44) (by decide)
                                                          have nc11 := lv_neT c11 (k := 45) (a := 45) (by decide)
                                                          have nc12 := lv_neT c12 (k := 46) (a := 46) (by decide)
                                                          have nc13 := lv_neT c13 (k := 47) (a := 47) (by decide)
                                                          have nc14 := lv_neT c14 (k := 48) (a := 48) (by decide)
                                                          have nc15 := lv_neT c15 (k := 49) (a := 49) (by decide)
                                                          have nc16 := lv_neT c16 (k := 50) (a := 50) (by decide)
                                                          have nc17 := lv_neT c17 (k := 51) (a := 51) (by decide)
                                                          have nc18 := lv_neT c18 (k := 52) (a := 52) (by decide)
                                                          have nc19 := lv_neT c19 (k := 53) (a := 53) (by decide)
                                                          have nc20 := lv_neT c20 (k := 54) (a := 54) (by decide)
                                                          have nc21 := lv_neT c21 (k := 55) (a := 55) (by decide)
                                                          have nc22 := lv_neT c22 (k := 56) (a := 56) (by decide)
                                                          have nc23 := lv_neT c23 (k := 57) (a := 57) (by decide)
                                                          have nc24 := lv_neT c24 (k := 58) (a := 58) (by decide)
                                                          have nc25 := lv_neT c25 (k := 59) (a := 59) (by decide)
                                                          have nc26 := lv_neT c26 (k := 60) (a := 60) (by decide)
                                                          have nc27 := lv_neT c27 (k := 61) (a := 61) (by decide)
                                                          have nc28 := lv_neT c28 (k := 62) (a := 62) (by decide)
                                                          refine fw_tableOut (tgt := 130) dX6_isSign_1 (by omega) (by decide) ?_
                                                          refine fw_iconst (v := 0) dX6_isSign_130 (by decide) ?_
                                                          exact fw_ireturn dX6_isSign_131 rfl (by decide +kernel) ⟨_, rfl, h⟩
abbrev K_J1_isLatin1 : fw_Kt := (RJ1, "isLatin1", cJ1_isLatin1, 1, some .boolean, [])
def p_J1_isLatin1 (r0 : Nat) (μ : fw_M) (Q : Int32 → fw_M → Prop) : Prop :=
  (if (1 : Int32) = 0 then
  (Q (0 : Int32) μ)
  else
  (((0 < r0 ∧ r0 < 64) ∧ (if (0 : Int32) = 0 then
   (Q (1 : Int32) μ)
   else
   (Q (0 : Int32) μ)))))
set_option maxHeartbeats 4000000 in
theorem w_J1_isLatin1 {g : fw_G} {f bc bs : Nat} {r0 : Nat} {μ : fw_M} {Q : Int32 → fw_M → Prop} (hf : 1 ≤ f) (hx : m_K μ r0 = 152) (h : p_J1_isLatin1 r0 μ Q) : fw_C g f bc bs yJ1_isLatin1 (ws_ yJ1_isLatin1 cJ1_isLatin1 1 (some .boolean)) [fw_rv g r0] μ (fw_Qi Q) fw_nX := by
  unfold p_J1_isLatin1 at h
  refine fw_intro' (Ls := [(0, fw_rv g r0)]) (by decide +kernel) (by simp [lg_sl, fw_cat, fw_ci, fw_clo]) (by simp [lv_args, fw_cat, fw_ci, fw_clo]) ?_
  show fw_V g K_J1_isLatin1 f bc bs 0 [(0, fw_rv g r0)] [] μ (fw_Qi Q) fw_nX
  refine fw_getc q547 dJ1_isLatin1_0 ?_
  refine fw_if_eq (tgt := 17) dJ1_isLatin1_3 (by decide) (fun c1 => ?_) (fun c1 => ?_)
  · have h := fw_it h c1
    refine fw_iconst (v := 0) dJ1_isLatin1_17 (by decide) ?_
    exact fw_ireturn dJ1_isLatin1_18 rfl (by decide +kernel) ⟨_, rfl, h⟩
  · have h := fw_if h c1
    refine fw_aload_n dJ1_isLatin1_6 rfl rfl ?_
    obtain ⟨hc2, h⟩ := h
    refine fw_xcod hc2 hx q1557 dJ1_isLatin1_7 ?_
    refine fw_if_ne (tgt := 17) dJ1_isLatin1_10 (by decide) (fun c3 => ?_) (fun c3 => ?_)
    · have h := fw_if h c3
      refine fw_iconst (v := 0) dJ1_isLatin1_17 (by decide) ?_
      exact fw_ireturn dJ1_isLatin1_18 rfl (by decide +kernel) ⟨_, rfl, h⟩
    · have h := fw_it h c3
      refine fw_iconst (v := 1) dJ1_isLatin1_13 (by decide) ?_
      refine fw_goto (tgt := 18) dJ1_isLatin1_14 (by decide) ?_
      exact fw_ireturn dJ1_isLatin1_18 rfl (by decide +kernel) ⟨_, rfl, h⟩
abbrev K_J3_checkIndex : fw_Kt := (RJ3, "checkIndex", cJ3_checkIndex, 3, some .int, [])
def p_J3_checkIndex_L9 (i0 : Int32) (i1 : Int32) (r2 : Nat) (μ : fw_M) (Q : Int32 → fw_M → Prop) : Prop :=
  False
set_option maxHeartbeats 4000000 in
theorem w_J3_checkIndex_L9 {g : fw_G} {f bc bs : Nat} {i0 : Int32} {i1 : Int32} {r2 : Nat} {μ : fw_M} {Q : Int32 → fw_M → Prop} (hf : 1 ≤ f) (h : p_J3_checkIndex_L9 i0 i1 r2 μ Q) : fw_V g K_J3_checkIndex f bc bs 9 [(0, Value.int i0), (1, Value.int i1), (2, fw_rv g r2)] [] μ (fw_Qi Q) fw_nX := by
  unfold p_J3_checkIndex_L9 at h
  refine fw_aload_n dJ3_checkIndex_9 rfl rfl ?_
  refine fw_iload_n dJ3_checkIndex_10 rfl rfl ?_
  refine fw_iload_n dJ3_checkIndex_11 rfl rfl ?_
  exact h.elim
def p_J3_checkIndex (i0 : Int32) (i1 : Int32) (r2 : Nat) (μ : fw_M) (Q : Int32 → fw_M → Prop) : Prop :=
  (if i0 < 0 then
  (p_J3_checkIndex_L9 i0 i1 r2 μ Q)
  else
  ((if i0 < i1 then
   (Q i0 μ)
   else
   (p_J3_checkIndex_L9 i0 i1 r2 μ Q))))
set_option maxHeartbeats 4000000 in
theorem w_J3_checkIndex {g : fw_G} {f bc bs : Nat} {i0 : Int32} {i1 : Int32} {r2 : Nat} {μ : fw_M} {Q : Int32 → fw_M → Prop} (hf : 1 ≤ f) (h : p_J3_checkIndex i0 i1 r2 μ Q) : fw_C g f bc bs yJ3_checkIndex (ws_ yJ3_checkIndex cJ3_checkIndex 3 (some .int)) [Value.int i0, Value.int i1, fw_rv g r2] μ (fw_Qi Q) fw_nX := by
  unfold p_J3_checkIndex at h
  refine fw_intro' (Ls := [(0, Value.int i0), (1, Value.int i1), (2, fw_rv g r2)]) (by decide +kernel) (by simp [lg_sl, fw_cat, fw_ci, fw_clo]) (by simp [lv_args, fw_cat, fw_ci, fw_clo]) ?_
  show fw_V g K_J3_checkIndex f bc bs 0 [(0, Value.int i0), (1, Value.int i1), (2, fw_rv g r2)] [] μ (fw_Qi Q) fw_nX
  refine fw_iload_n dJ3_checkIndex_0 rfl rfl ?_
  refine fw_if_lt (tgt := 9) dJ3_checkIndex_1 (by decide) (fun c1 => ?_) (fun c1 => ?_)
  · have h := fw_it h c1
    exact w_J3_checkIndex_L9 hf h
  · have h := fw_if h c1
    refine fw_iload_n dJ3_checkIndex_4 rfl rfl ?_
    refine fw_iload_n dJ3_checkIndex_5 rfl rfl ?_
    refine fw_icmp_lt (tgt := 16) dJ3_checkIndex_6 (by decide) (fun c2 => ?_) (fun c2 => ?_)
    · have h := fw_it h c2
      refine fw_iload_n dJ3_checkIndex_16 rfl rfl ?_
      exact fw_ireturn dJ3_checkIndex_17 rfl rfl ⟨_, rfl, h⟩
    · have h := fw_if h c2
      exact w_J3_checkIndex_L9 hf h
abbrev K_J1_checkIndex : fw_Kt := (RJ1, "checkIndex", cJ1_checkIndex, 2, none, [])
def p_J1_checkIndex (i0 : Int32) (i1 : Int32) (μ : fw_M) (Q : fw_M → Prop) : Prop :=
  (p_J3_checkIndex i0 i1 (m_P μ 63 62) μ (fun v1 μ2 =>
  Q μ2))
set_option maxHeartbeats 4000000 in
theorem w_J1_checkIndex {g : fw_G} {f bc bs : Nat} {i0 : Int32} {i1 : Int32} {μ : fw_M} {Q : fw_M → Prop} (hf : 2 ≤ f) (h : p_J1_checkIndex i0 i1 μ Q) : fw_C g f bc bs yJ1_checkIndex (ws_ yJ1_checkIndex cJ1_checkIndex 2 (none)) [Value.int i0, Value.int i1] μ (fw_Qv Q) fw_nX := by
  unfold p_J1_checkIndex at h
  refine fw_intro' (Ls := [(0, Value.int i0), (1, Value.int i1)]) (by decide +kernel) (by simp [lg_sl, fw_cat, fw_ci, fw_clo]) (by simp [lv_args, fw_cat, fw_ci, fw_clo]) ?_
  show fw_V g K_J1_checkIndex f bc bs 0 [(0, Value.int i0), (1, Value.int i1)] [] μ (fw_Qv Q) fw_nX
  refine fw_iload_n dJ1_checkIndex_0 rfl rfl ?_
  refine fw_iload_n dJ1_checkIndex_1 rfl rfl ?_
  refine fw_getz (t := ("jdk/internal/util/Preconditions", "SIOOBE_FORMATTER", "Ljava/util/function/BiFunction;", 62)) (by decide +kernel) q563 dJ1_checkIndex_2 ?_
  refine fw_callS3z (f1 := f - 1) cl_J1_1059 (by decide) (by omega) (fw_s4 (Nat.le_of_ble_eq_true rfl)) dJ1_checkIndex_5 (w_J3_checkIndex (f := f - 1) (by omega) h) (fun _ _ h9 _ _ => h9.elim) (fun v9 μ2 q9 hs3 => ?_)
  obtain ⟨v1, rfl, h⟩ := q9
  refine fw_ti ?_
  refine fw_pop dJ1_checkIndex_8 rfl ?_
  exact fw_return dJ1_checkIndex_9 rfl ⟨rfl, h⟩
abbrev K_J2_charAt : fw_Kt := (RJ2, "charAt", cJ2_charAt, 2, some .char, [])
def p_J2_charAt (r0 : Nat) (i1 : Int32) (μ : fw_M) (Q : Int32 → fw_M → Prop) : Prop :=
  (m_K μ r0 = 153 ∧ ((0 < r0 ∧ r0 < 64) ∧ (p_J1_checkIndex i1 (Int32.ofNat (m_N μ r0)) μ (fun μ4 =>
  ((0 < r0 ∧ r0 < 64) ∧ (vp_in i1 (m_N μ4 r0) ∧ (narrow .char (.int ((((m_I μ4 r0 i1.toNatClampNeg) &&& (255 : Int32)).toUInt32 % 65536).toInt32)) = .int ((((m_I μ4 r0 i1.toNatClampNeg) &&& (255 : Int32)).toUInt32 % 65536).toInt32) ∧ Q ((((m_I μ4 r0 i1.toNatClampNeg) &&& (255 : Int32)).toUInt32 % 65536).toInt32) μ4)))))))
set_option maxHeartbeats 4000000 in
theorem w_J2_charAt {g : fw_G} {f bc bs : Nat} {r0 : Nat} {i1 : Int32} {μ : fw_M} {Q : Int32 → fw_M → Prop} (hf : 3 ≤ f) (h : p_J2_charAt r0 i1 μ Q) : fw_C g f bc bs yJ2_charAt (ws_ yJ2_charAt cJ2_charAt 2 (some .char)) [fw_rv g r0, Value.int i1] μ (fw_Qi Q) fw_nX := by
  unfold p_J2_charAt at h
  refine fw_intro' (Ls := [(0, fw_rv g r0), (1, Value.int i1)]) (by decide +kernel) (by simp [lg_sl, fw_cat, fw_ci, fw_clo]) (by simp [lv_args, fw_cat, fw_ci, fw_clo]) ?_
  show fw_V g K_J2_charAt f bc bs 0 [(0, fw_rv g r0), (1, Value.int i1)] [] μ (fw_Qi Q) fw_nX
  refine fw_iload_n dJ2_charAt_0 rfl rfl ?_
  refine fw_aload_n dJ2_charAt_1 rfl rfl ?_
  obtain ⟨hg1, h⟩ := h
  obtain ⟨hc2, h⟩ := h
  refine fw_xlen153 hc2 hg1 dJ2_charAt_2 ?_
  refine fw_callS2z (f1 := f - 1) cl_J2_9 (by decide) (by omega) (fw_s4 (Nat.le_of_ble_eq_true rfl)) dJ2_charAt_3 (w_J1_checkIndex (f := f - 1) (by omega) h) (fun _ _ h9 _ _ => h9.elim) (fun v9 μ4 q9 hs5 => ?_)
  obtain ⟨rfl, h⟩ := q9
  refine fw_tv ?_
  have hg6 := hs5.K hg1 (by decide)
  refine fw_aload_n dJ2_charAt_6 rfl rfl ?_
  refine fw_iload_n dJ2_charAt_7 rfl rfl ?_
  obtain ⟨hc7, h⟩ := h
  obtain ⟨hc8, h⟩ := h
  refine fw_xbald hc7 hg6 hc8 dJ2_charAt_8 ?_
  refine fw_sipush (v := 255) dJ2_charAt_9 (by decide) ?_
  refine fw_iand dJ2_charAt_12 ?_
  refine fw_i2c dJ2_charAt_13 ?_
  obtain ⟨hc9, h⟩ := h
  exact fw_ireturn dJ2_charAt_14 rfl hc9 ⟨_, rfl, h⟩
abbrev K_J1_charAt : fw_Kt := (RJ1, "charAt", cJ1_charAt, 2, some .char, [])
def p_J1_charAt (r0 : Nat) (i1 : Int32) (μ : fw_M) (Q : Int32 → fw_M → Prop) : Prop :=
  ((0 < r0 ∧ r0 < 64) ∧ (p_J1_isLatin1 r0 μ (fun v2 μ3 =>
  (if v2 = 0 then
  (((0 < r0 ∧ r0 < 64) ∧ False))
  else
  (((0 < r0 ∧ r0 < 64) ∧ (p_J2_charAt (m_P μ3 r0 0) i1 μ3 (fun v9 μ10 =>
   (narrow .char (.int v9) = .int v9 ∧ Q v9 μ10)))))))))
set_option maxHeartbeats 4000000 in
theorem w_J1_charAt {g : fw_G} {f bc bs : Nat} {r0 : Nat} {i1 : Int32} {μ : fw_M} {Q : Int32 → fw_M → Prop} (hf : 4 ≤ f) (hx : m_K μ r0 = 152) (h : p_J1_charAt r0 i1 μ Q) : fw_C g f bc bs yJ1_charAt (ws_ yJ1_charAt cJ1_charAt 2 (some .char)) [fw_rv g r0, Value.int i1] μ (fw_Qi Q) fw_nX := by
  unfold p_J1_charAt at h
  refine fw_intro' (Ls := [(0, fw_rv g r0), (1, Value.int i1)]) (by decide +kernel) (by simp [lg_sl, fw_cat, fw_ci, fw_clo]) (by simp [lv_args, fw_cat, fw_ci, fw_clo]) ?_
  show fw_V g K_J1_charAt f bc bs 0 [(0, fw_rv g r0), (1, Value.int i1)] [] μ (fw_Qi Q) fw_nX
  refine fw_aload_n dJ1_charAt_0 rfl rfl ?_
  obtain ⟨hc1, h⟩ := h
  refine fw_callX0z (f1 := f - 1) cl_J1_492 hc1 hx (by decide) (by omega) (fw_s4 (Nat.le_of_ble_eq_true rfl)) dJ1_charAt_1 (w_J1_isLatin1 (f := f - 1) (by omega) hx h) (fun _ _ h9 _ _ => h9.elim) (fun v9 μ3 q9 hs4 => ?_)
  obtain ⟨v2, rfl, h⟩ := q9
  refine fw_ti ?_
  have hg5 := hs4.K hx (by decide)
  refine fw_if_eq (tgt := 16) dJ1_charAt_4 (by decide) (fun c6 => ?_) (fun c6 => ?_)
  · have h := fw_it h c6
    refine fw_aload_n dJ1_charAt_16 rfl rfl ?_
    obtain ⟨hc7, h⟩ := h
    refine fw_xval hc7 hg5 q1556 dJ1_charAt_17 ?_
    refine fw_iload_n dJ1_charAt_20 rfl rfl ?_
    exact h.elim
  · have h := fw_if h c6
    refine fw_aload_n dJ1_charAt_7 rfl rfl ?_
    obtain ⟨hc8, h⟩ := h
    refine fw_xval hc8 hg5 q1556 dJ1_charAt_8 ?_
    refine fw_iload_n dJ1_charAt_11 rfl rfl ?_
    refine fw_callS2z (f1 := f - 1) cl_J1_495 (by decide) (by omega) (fw_s4 (Nat.le_of_ble_eq_true rfl)) dJ1_charAt_12 (w_J2_charAt (f := f - 1) (by omega) h) (fun _ _ h9 _ _ => h9.elim) (fun v9 μ10 q9 hs11 => ?_)
    obtain ⟨v9, rfl, h⟩ := q9
    refine fw_ti ?_
    have hg12 := hs11.K hg5 (by decide)
    obtain ⟨hc13, h⟩ := h
    exact fw_ireturn dJ1_charAt_15 rfl hc13 ⟨_, rfl, h⟩
abbrev K_J1_coder : fw_Kt := (RJ1, "coder", cJ1_coder, 1, some .byte, [])
def p_J1_coder (r0 : Nat) (μ : fw_M) (Q : Int32 → fw_M → Prop) : Prop :=
  (if (1 : Int32) = 0 then
  (Q (1 : Int32) μ)
  else
  (((0 < r0 ∧ r0 < 64) ∧ Q (0 : Int32) μ)))
set_option maxHeartbeats 4000000 in
theorem w_J1_coder {g : fw_G} {f bc bs : Nat} {r0 : Nat} {μ : fw_M} {Q : Int32 → fw_M → Prop} (hf : 1 ≤ f) (hx : m_K μ r0 = 152) (h : p_J1_coder r0 μ Q) : fw_C g f bc bs yJ1_coder (ws_ yJ1_coder cJ1_coder 1 (some .byte)) [fw_rv g r0] μ (fw_Qi Q) fw_nX := by
  unfold p_J1_coder at h
  refine fw_intro' (Ls := [(0, fw_rv g r0)]) (by decide +kernel) (by simp [lg_sl, fw_cat, fw_ci, fw_clo]) (by simp [lv_args, fw_cat, fw_ci, fw_clo]) ?_
  show fw_V g K_J1_coder f bc bs 0 [(0, fw_rv g r0)] [] μ (fw_Qi Q) fw_nX
  refine fw_getc q547 dJ1_coder_0 ?_
  refine fw_if_eq (tgt := 13) dJ1_coder_3 (by decide) (fun c1 => ?_) (fun c1 => ?_)
  · have h := fw_it h c1
    refine fw_iconst (v := 1) dJ1_coder_13 (by decide) ?_
    exact fw_ireturn dJ1_coder_14 rfl (by decide +kernel) ⟨_, rfl, h⟩
  · have h := fw_if h c1
    refine fw_aload_n dJ1_coder_6 rfl rfl ?_
    obtain ⟨hc2, h⟩ := h
    refine fw_xcod hc2 hx q1557 dJ1_coder_7 ?_
    refine fw_goto (tgt := 14) dJ1_coder_10 (by decide) ?_
    exact fw_ireturn dJ1_coder_14 rfl (by decide +kernel) ⟨_, rfl, h⟩
abbrev K_J1_length : fw_Kt := (RJ1, "length", cJ1_length, 1, some .int, [])
def p_J1_length (r0 : Nat) (μ : fw_M) (Q : Int32 → fw_M → Prop) : Prop :=
  ((0 < r0 ∧ r0 < 64) ∧ (m_K μ (m_P μ r0 0) = 153 ∧ ((0 < (m_P μ r0 0) ∧ (m_P μ r0 0) < 64) ∧ ((0 < r0 ∧ r0 < 64) ∧ (p_J1_coder r0 μ (fun v5 μ6 =>
  Q ((Int32.ofNat (m_N μ (m_P μ r0 0))) >>> (v5 &&& 31)) μ6))))))
set_option maxHeartbeats 4000000 in
theorem w_J1_length {g : fw_G} {f bc bs : Nat} {r0 : Nat} {μ : fw_M} {Q : Int32 → fw_M → Prop} (hf : 2 ≤ f) (hx : m_K μ r0 = 152) (h : p_J1_length r0 μ Q) : fw_C g f bc bs yJ1_length (ws_ yJ1_length cJ1_length 1 (some .int)) [fw_rv g r0] μ (fw_Qi Q) fw_nX := by
  unfold p_J1_length at h
  refine fw_intro' (Ls := [(0, fw_rv g r0)]) (by decide +kernel) (by simp [lg_sl, fw_cat, fw_ci, fw_clo]) (by simp [lv_args, fw_cat, fw_ci, fw_clo]) ?_
  show fw_V g K_J1_length f bc bs 0 [(0, fw_rv g r0)] [] μ (fw_Qi Q) fw_nX
  refine fw_aload_n dJ1_length_0 rfl rfl ?_
  obtain ⟨hc1, h⟩ := h
  refine fw_xval hc1 hx q1556 dJ1_length_1 ?_
  obtain ⟨hg2, h⟩ := h
  obtain ⟨hc3, h⟩ := h
  refine fw_xlen153 hc3 hg2 dJ1_length_4 ?_
  refine fw_aload_n dJ1_length_5 rfl rfl ?_
  obtain ⟨hc4, h⟩ := h
  refine fw_callX0z (f1 := f - 1) cl_J1_335 hc4 hx (by decide) (by omega) (fw_s4 (Nat.le_of_ble_eq_true rfl)) dJ1_length_6 (w_J1_coder (f := f - 1) (by omega) hx h) (fun _ _ h9 _ _ => h9.elim) (fun v9 μ6 q9 hs7 => ?_)
  obtain ⟨v5, rfl, h⟩ := q9
  refine fw_ti ?_
  have hg8 := hs7.K hx (by decide)
  refine fw_ishr dJ1_length_9 ?_
  exact fw_ireturn dJ1_length_10 rfl rfl ⟨_, rfl, h⟩
abbrev K_X6_wordOf : fw_Kt := (RX6, "wordOf", cX6_wordOf, 5, some .int, [])
def p_X6_wordOf_L85 (k2 : Int32 → fw_M → Prop) (r0 : Nat) (r1 : Nat) (i2 : Int32) (i3 : Int32) (μ : fw_M) (Q : Int32 → fw_M → Prop) : Prop :=
  (if i3 = 0 then
  ((∀ i2_2 : Int32, i2_2 = i2 + (1 : Int32) →
   k2 i2_2 μ))
  else
  (Q i2 μ))
set_option maxHeartbeats 4000000 in
theorem w_X6_wordOf_L85 {g : fw_G} {f bc bs : Nat} {k2 : Int32 → fw_M → Prop} {r0 : Nat} {r1 : Nat} {i2 : Int32} {i3 : Int32} {μ : fw_M} {Q : Int32 → fw_M → Prop} (hf : 5 ≤ f) (hk2 : ∀ {i2 : Int32} {μ : fw_M}, m_K μ r0 = 7 → k2 i2 μ → fw_V g K_X6_wordOf f bc bs 2 [(0, fw_rv g r0), (1, fw_rv g r1), (2, Value.int i2)] [] μ (fw_Qi Q) fw_nX) (hx : m_K μ r0 = 7) (h : p_X6_wordOf_L85 k2 r0 r1 i2 i3 μ Q) : fw_V g K_X6_wordOf f bc bs 85 [(0, fw_rv g r0), (1, fw_rv g r1), (2, Value.int i2), (3, Value.int i3)] [] μ (fw_Qi Q) fw_nX := by
  unfold p_X6_wordOf_L85 at h
  refine fw_iload_n dX6_wordOf_85 rfl rfl ?_
  refine fw_if_eq (tgt := 91) dX6_wordOf_86 (by decide) (fun c1 => ?_) (fun c1 => ?_)
  · have h := fw_it h c1
    obtain ⟨i2_2, e3⟩ : ∃ y : Int32, y = i2 + (1 : Int32) := ⟨_, rfl⟩
    have h := h i2_2 e3
    refine fw_iincN (k := 2) (v := i2_2) (Ls' := [(2, Value.int i2_2), (1, fw_rv g r1), (0, fw_rv g r0), (3, Value.int i3)]) [0, 3] dX6_wordOf_91 rfl (by rw [e3]; rfl) (by decide) rfl rfl rfl (fw_cat _) rfl ?_
    refine fw_goto (tgt := 2) dX6_wordOf_94 (by decide) ?_
    refine fw_ls [2, 1, 0] rfl ?_
    exact hk2 hx h
  · have h := fw_if h c1
    refine fw_iload_n dX6_wordOf_89 rfl rfl ?_
    exact fw_ireturn dX6_wordOf_90 rfl rfl ⟨_, rfl, h⟩
def p_X6_wordOf_L35b (k2 : Int32 → fw_M → Prop) (r0 : Nat) (r1 : Nat) (i2 : Int32) (k35 : Int32 → Int32 → fw_M → Prop) (i3 : Int32) (i4 : Int32) (μ : fw_M) (Q : Int32 → fw_M → Prop) : Prop :=
  (m_K μ r1 = 151 ∧ ((0 < r1 ∧ r1 < 64) ∧ (vp_in i2 (m_N μ r1) ∧ (m_K μ (m_P μ r1 i2.toNatClampNeg) = 152 ∧ ((0 < (m_P μ r1 i2.toNatClampNeg) ∧ (m_P μ r1 i2.toNatClampNeg) < 64) ∧ (p_J1_length (m_P μ r1 i2.toNatClampNeg) μ (fun v6 μ7 =>
  (if v6 ≤ i4 then
  (p_X6_wordOf_L85 k2 r0 r1 i2 i3 μ7 Q)
  else
  ((if i3 = 0 then
   (p_X6_wordOf_L85 k2 r0 r1 i2 i3 μ7 Q)
   else
   ((m_K μ7 (m_P μ7 r0 0) = 101 ∧ (vp_in ((m_I μ7 r0 3) + i4) (m_N μ7 (m_P μ7 r0 0)) ∧ ((0 < r1 ∧ r1 < 64) ∧ (vp_in i2 (m_N μ7 r1) ∧ (m_K μ7 (m_P μ7 r1 i2.toNatClampNeg) = 152 ∧ ((0 < (m_P μ7 r1 i2.toNatClampNeg) ∧ (m_P μ7 r1 i2.toNatClampNeg) < 64) ∧ (p_J1_charAt (m_P μ7 r1 i2.toNatClampNeg) i4 μ7 (fun v19 μ20 =>
    (if (m_I μ7 (m_P μ7 r0 0) ((m_I μ7 r0 3) + i4).toNatClampNeg) = v19 then
    ((∀ i4_27 : Int32, i4_27 = i4 + (1 : Int32) →
     k35 (1 : Int32) i4_27 μ20))
    else
    ((∀ i4_25 : Int32, i4_25 = i4 + (1 : Int32) →
     k35 (0 : Int32) i4_25 μ20))))))))))))))))))))))
def p_X6_wordOf_L35 (k2 : Int32 → fw_M → Prop) (r0 : Nat) (r1 : Nat) (i2 : Int32) (i3 : Int32) (i4 : Int32) (μ : fw_M) (Q : Int32 → fw_M → Prop) : Prop := fw_lp (fun (k : Int32 × Int32 × fw_M → Prop) (a : Int32 × Int32 × fw_M) => p_X6_wordOf_L35b k2 r0 r1 i2 (fun i3 i4 μ => k (i3, i4, μ)) a.1 a.2.1 a.2.2 Q) (i3, i4, μ)
theorem r_X6_wordOf_L35 {k2 : Int32 → fw_M → Prop} {r0 : Nat} {r1 : Nat} {i2 : Int32} {Q : Int32 → fw_M → Prop} (I : Int32 → Int32 → fw_M → Prop) (v : Int32 → Int32 → fw_M → Nat) (hs : ∀ (k : Int32 → Int32 → fw_M → Prop) (i3 : Int32) (i4 : Int32) (μ : fw_M), I i3 i4 μ → (∀ (i3' : Int32) (i4' : Int32) (ν : fw_M), I i3' i4' ν → v i3' i4' ν < v i3 i4 μ → k i3' i4' ν) → p_X6_wordOf_L35b k2 r0 r1 i2 k i3 i4 μ Q) (i3 : Int32) (i4 : Int32) (μ : fw_M) (h : I i3 i4 μ) : p_X6_wordOf_L35 k2 r0 r1 i2 i3 i4 μ Q :=
  fw_lp_in (A := Int32 × Int32 × fw_M) (fun a => I a.1 a.2.1 a.2.2) (fun a => v a.1 a.2.1 a.2.2) (fun k a ha hk => hs (fun i3 i4 μ => k (i3, i4, μ)) a.1 a.2.1 a.2.2 ha (fun i3' i4' ν hb hlt => hk (i3', i4', ν) hb hlt)) (i3, i4, μ) h
set_option maxHeartbeats 4000000 in
theorem w_X6_wordOf_L35b {g : fw_G} {f bc bs : Nat} {k2 : Int32 → fw_M → Prop} {r0 : Nat} {r1 : Nat} {i2 : Int32} {k35 : Int32 → Int32 → fw_M → Prop} {i3 : Int32} {i4 : Int32} {μ : fw_M} {Q : Int32 → fw_M → Prop} (hf : 5 ≤ f) (hk2 : ∀ {i2 : Int32} {μ : fw_M}, m_K μ r0 = 7 → k2 i2 μ → fw_V g K_X6_wordOf f bc bs 2 [(0, fw_rv g r0), (1, fw_rv g r1), (2, Value.int i2)] [] μ (fw_Qi Q) fw_nX) (hk35 : ∀ {i3 : Int32} {i4 : Int32} {μ : fw_M}, m_K μ r0 = 7 → k35 i3 i4 μ → fw_V g K_X6_wordOf f bc bs 35 [(0, fw_rv g r0), (1, fw_rv g r1), (2, Value.int i2), (3, Value.int i3), (4, Value.int i4)] [] μ (fw_Qi Q) fw_nX) (hx : m_K μ r0 = 7) (h : p_X6_wordOf_L35b k2 r0 r1 i2 k35 i3 i4 μ Q) : fw_V g K_X6_wordOf f bc bs 35 [(0, fw_rv g r0), (1, fw_rv g r1), (2, Value.int i2), (3, Value.int i3), (4, Value.int i4)] [] μ (fw_Qi Q) fw_nX := by
  unfold p_X6_wordOf_L35b at h
  refine fw_iload dX6_wordOf_35 rfl ?_
  refine fw_aload_n dX6_wordOf_37 rfl rfl ?_
  refine fw_iload_n dX6_wordOf_38 rfl rfl ?_
  obtain ⟨hg1, h⟩ := h
  obtain ⟨hc2, h⟩ := h
  obtain ⟨hc3, h⟩ := h
  refine fw_xaald hc2 hg1 hc3 dX6_wordOf_39 ?_
  obtain ⟨hg4, h⟩ := h
  obtain ⟨hc5, h⟩ := h
  refine fw_callX0z (f1 := f - 1) cl_X6_30 hc5 hg4 (by decide) (by omega) (fw_s4 (Nat.le_of_ble_eq_true rfl)) dX6_wordOf_40 (w_J1_length (f := f - 1) (by omega) hg4 h) (fun _ _ h9 _ _ => h9.elim) (fun v9 μ7 q9 hs8 => ?_)
  obtain ⟨v6, rfl, h⟩ := q9
  refine fw_ti ?_
  have hg9 := hs8.K hx (by decide)
  have hg10 := hs8.K hg1 (by decide)
  refine fw_icmp_ge (tgt := 85) dX6_wordOf_43 (by decide) (fun c11 => ?_) (fun c11 => ?_)
  · have h := fw_it h c11
    refine fw_ls [0, 1, 2, 3] rfl ?_
    exact w_X6_wordOf_L85 hf hk2 hg9 h
  · have h := fw_if h c11
    refine fw_iload_n dX6_wordOf_46 rfl rfl ?_
    refine fw_if_eq (tgt := 85) dX6_wordOf_47 (by decide) (fun c12 => ?_) (fun c12 => ?_)
    · have h := fw_it h c12
      refine fw_ls [0, 1, 2, 3] rfl ?_
      exact w_X6_wordOf_L85 hf hk2 hg9 h
    · have h := fw_if h c12
      refine fw_aload_n dX6_wordOf_50 rfl rfl ?_
      refine fw_getfP fl_X6_9 rfl hg9 dX6_wordOf_51 ?_
      refine fw_aload_n dX6_wordOf_54 rfl rfl ?_
      refine fw_getfI fl_X6_35 rfl hg9 dX6_wordOf_55 ?_
      refine fw_iload dX6_wordOf_58 rfl ?_
      refine fw_iadd dX6_wordOf_60 ?_
      obtain ⟨hg13, h⟩ := h
      obtain ⟨hc14, h⟩ := h
      refine fw_bald hg13 hc14 dX6_wordOf_61 ?_
      refine fw_aload_n dX6_wordOf_62 rfl rfl ?_
      refine fw_iload_n dX6_wordOf_63 rfl rfl ?_
      obtain ⟨hc15, h⟩ := h
      obtain ⟨hc16, h⟩ := h
      refine fw_xaald hc15 hg10 hc16 dX6_wordOf_64 ?_
      refine fw_iload dX6_wordOf_65 rfl ?_
      obtain ⟨hg17, h⟩ := h
      obtain ⟨hc18, h⟩ := h
      refine fw_callX1z (f1 := f - 1) cl_X6_38 hc18 hg17 (by decide) (by omega) (fw_s4 (Nat.le_of_ble_eq_true rfl)) dX6_wordOf_67 (w_J1_charAt (f := f - 1) (by omega) hg17 h) (fun _ _ h9 _ _ => h9.elim) (fun v9 μ20 q9 hs21 => ?_)
      obtain ⟨v19, rfl, h⟩ := q9
      refine fw_ti ?_
      have hg22 := hs21.K hg9 (by decide)
      have hg23 := hs21.K hg10 (by decide)
      refine fw_icmp_ne (tgt := 77) dX6_wordOf_70 (by decide) (fun c24 => ?_) (fun c24 => ?_)
      · have h := fw_if h c24
        refine fw_iconst (v := 0) dX6_wordOf_77 (by decide) ?_
        refine fw_istore_nN (Ls' := [(3, Value.int (0 : Int32)), (2, Value.int i2), (0, fw_rv g r0), (1, fw_rv g r1), (4, Value.int i4)]) [0, 1, 4] dX6_wordOf_78 rfl (by decide) rfl rfl rfl rfl rfl ?_
        obtain ⟨i4_25, e26⟩ : ∃ y : Int32, y = i4 + (1 : Int32) := ⟨_, rfl⟩
        have h := h i4_25 e26
        refine fw_iincN (k := 4) (v := i4_25) (Ls' := [(4, Value.int i4_25), (3, Value.int (0 : Int32)), (2, Value.int i2), (0, fw_rv g r0), (1, fw_rv g r1)]) [1, 2, 3] dX6_wordOf_79 rfl (by rw [e26]; rfl) (by decide) rfl rfl rfl rfl rfl ?_
        refine fw_goto (tgt := 35) dX6_wordOf_82 (by decide) ?_
        refine fw_ls [3, 4, 2, 1, 0] rfl ?_
        exact hk35 hg22 h
      · have h := fw_it h c24
        refine fw_iconst (v := 1) dX6_wordOf_73 (by decide) ?_
        refine fw_goto (tgt := 78) dX6_wordOf_74 (by decide) ?_
        refine fw_istore_nN (Ls' := [(3, Value.int (1 : Int32)), (2, Value.int i2), (0, fw_rv g r0), (1, fw_rv g r1), (4, Value.int i4)]) [0, 1, 4] dX6_wordOf_78 rfl (by decide) rfl rfl rfl rfl rfl ?_
        obtain ⟨i4_27, e28⟩ : ∃ y : Int32, y = i4 + (1 : Int32) := ⟨_, rfl⟩
        have h := h i4_27 e28
        refine fw_iincN (k := 4) (v := i4_27) (Ls' := [(4, Value.int i4_27), (3, Value.int (1 : Int32)), (2, Value.int i2), (0, fw_rv g r0), (1, fw_rv g r1)]) [1, 2, 3] dX6_wordOf_79 rfl (by rw [e28]; rfl) (by decide) rfl rfl rfl rfl rfl ?_
        refine fw_goto (tgt := 35) dX6_wordOf_82 (by decide) ?_
        refine fw_ls [3, 4, 2, 1, 0] rfl ?_
        exact hk35 hg22 h
theorem w_X6_wordOf_L35 {g : fw_G} {f bc bs : Nat} {k2 : Int32 → fw_M → Prop} {r0 : Nat} {r1 : Nat} {i2 : Int32} {i3 : Int32} {i4 : Int32} {μ : fw_M} {Q : Int32 → fw_M → Prop} (hf : 5 ≤ f) (hk2 : ∀ {i2 : Int32} {μ : fw_M}, m_K μ r0 = 7 → k2 i2 μ → fw_V g K_X6_wordOf f bc bs 2 [(0, fw_rv g r0), (1, fw_rv g r1), (2, Value.int i2)] [] μ (fw_Qi Q) fw_nX) (hx : m_K μ r0 = 7) (h : p_X6_wordOf_L35 k2 r0 r1 i2 i3 i4 μ Q) : fw_V g K_X6_wordOf f bc bs 35 [(0, fw_rv g r0), (1, fw_rv g r1), (2, Value.int i2), (3, Value.int i3), (4, Value.int i4)] [] μ (fw_Qi Q) fw_nX := by
  have key := fw_lp_out (R := fun (a : Int32 × Int32 × fw_M) => m_K a.2.2 r0 = 7 → fw_V g K_X6_wordOf f bc bs 35 [(0, fw_rv g r0), (1, fw_rv g r1), (2, Value.int i2), (3, Value.int a.1), (4, Value.int a.2.1)] [] a.2.2 (fw_Qi Q) fw_nX) (fun k hk9 a ha hx2 => w_X6_wordOf_L35b hf hk2 (fun {i3 i4} {μ} hx3 h3 => hk9 (i3, i4, μ) h3 hx3) hx2 ha) h
  exact key hx
def p_X6_wordOf_L2b (r0 : Nat) (r1 : Nat) (k2 : Int32 → fw_M → Prop) (i2 : Int32) (μ : fw_M) (Q : Int32 → fw_M → Prop) : Prop :=
  (m_K μ r1 = 151 ∧ ((0 < r1 ∧ r1 < 64) ∧ (if (Int32.ofNat (m_N μ r1)) ≤ i2 then
  (Q (-1 : Int32) μ)
  else
  (((0 < r1 ∧ r1 < 64) ∧ (vp_in i2 (m_N μ r1) ∧ (m_K μ (m_P μ r1 i2.toNatClampNeg) = 152 ∧ ((0 < (m_P μ r1 i2.toNatClampNeg) ∧ (m_P μ r1 i2.toNatClampNeg) < 64) ∧ (p_J1_length (m_P μ r1 i2.toNatClampNeg) μ (fun v8 μ9 =>
   (if v8 = ((m_I μ9 r0 2) - (m_I μ9 r0 3)) then
   (p_X6_wordOf_L35 k2 r0 r1 i2 (1 : Int32) (0 : Int32) μ9 Q)
   else
   (p_X6_wordOf_L35 k2 r0 r1 i2 (0 : Int32) (0 : Int32) μ9 Q))))))))))))
def p_X6_wordOf_L2 (r0 : Nat) (r1 : Nat) (i2 : Int32) (μ : fw_M) (Q : Int32 → fw_M → Prop) : Prop := fw_lp (fun (k : Int32 × fw_M → Prop) (a : Int32 × fw_M) => p_X6_wordOf_L2b r0 r1 (fun i2 μ => k (i2, μ)) a.1 a.2 Q) (i2, μ)
theorem r_X6_wordOf_L2 {r0 : Nat} {r1 : Nat} {Q : Int32 → fw_M → Prop} (I : Int32 → fw_M → Prop) (v : Int32 → fw_M → Nat) (hs : ∀ (k : Int32 → fw_M → Prop) (i2 : Int32) (μ : fw_M), I i2 μ → (∀ (i2' : Int32) (ν : fw_M), I i2' ν → v i2' ν < v i2 μ → k i2' ν) → p_X6_wordOf_L2b r0 r1 k i2 μ Q) (i2 : Int32) (μ : fw_M) (h : I i2 μ) : p_X6_wordOf_L2 r0 r1 i2 μ Q :=
  fw_lp_in (A := Int32 × fw_M) (fun a => I a.1 a.2) (fun a => v a.1 a.2) (fun k a ha hk => hs (fun i2 μ => k (i2, μ)) a.1 a.2 ha (fun i2' ν hb hlt => hk (i2', ν) hb hlt)) (i2, μ) h
set_option maxHeartbeats 4000000 in
theorem w_X6_wordOf_L2b {g : fw_G} {f bc bs : Nat} {r0 : Nat} {r1 : Nat} {k2 : Int32 → fw_M → Prop} {i2 : Int32} {μ : fw_M} {Q : Int32 → fw_M → Prop} (hf : 5 ≤ f) (hk2 : ∀ {i2 : Int32} {μ : fw_M}, m_K μ r0 = 7 → k2 i2 μ → fw_V g K_X6_wordOf f bc bs 2 [(0, fw_rv g r0), (1, fw_rv g r1), (2, Value.int i2)] [] μ (fw_Qi Q) fw_nX) (hx : m_K μ r0 = 7) (h : p_X6_wordOf_L2b r0 r1 k2 i2 μ Q) : fw_V g K_X6_wordOf f bc bs 2 [(0, fw_rv g r0), (1, fw_rv g r1), (2, Value.int i2)] [] μ (fw_Qi Q) fw_nX := by
  unfold p_X6_wordOf_L2b at h
  refine fw_iload_n dX6_wordOf_2 rfl rfl ?_
  refine fw_aload_n dX6_wordOf_3 rfl rfl ?_
  obtain ⟨hg1, h⟩ := h
  obtain ⟨hc2, h⟩ := h
  refine fw_xlen151 hc2 hg1 dX6_wordOf_4 ?_
  refine fw_icmp_ge (tgt := 97) dX6_wordOf_5 (by decide) (fun c3 => ?_) (fun c3 => ?_)
  · have h := fw_it h c3
    refine fw_iconst (v := -1) dX6_wordOf_97 (by decide) ?_
    exact fw_ireturn dX6_wordOf_98 rfl rfl ⟨_, rfl, h⟩
  · have h := fw_if h c3
    refine fw_aload_n dX6_wordOf_8 rfl rfl ?_
    refine fw_iload_n dX6_wordOf_9 rfl rfl ?_
    obtain ⟨hc4, h⟩ := h
    obtain ⟨hc5, h⟩ := h
    refine fw_xaald hc4 hg1 hc5 dX6_wordOf_10 ?_
    obtain ⟨hg6, h⟩ := h
    obtain ⟨hc7, h⟩ := h
    refine fw_callX0z (f1 := f - 1) cl_X6_30 hc7 hg6 (by decide) (by omega) (fw_s4 (Nat.le_of_ble_eq_true rfl)) dX6_wordOf_11 (w_J1_length (f := f - 1) (by omega) hg6 h) (fun _ _ h9 _ _ => h9.elim) (fun v9 μ9 q9 hs10 => ?_)
    obtain ⟨v8, rfl, h⟩ := q9
    refine fw_ti ?_
    have hg11 := hs10.K hx (by decide)
    have hg12 := hs10.K hg1 (by decide)
    refine fw_aload_n dX6_wordOf_14 rfl rfl ?_
    refine fw_getfI fl_X6_19 rfl hg11 dX6_wordOf_15 ?_
    refine fw_aload_n dX6_wordOf_18 rfl rfl ?_
    refine fw_getfI fl_X6_35 rfl hg11 dX6_wordOf_19 ?_
    refine fw_isub dX6_wordOf_22 ?_
    refine fw_icmp_ne (tgt := 30) dX6_wordOf_23 (by decide) (fun c13 => ?_) (fun c13 => ?_)
    · have h := fw_if h c13
      refine fw_iconst (v := 0) dX6_wordOf_30 (by decide) ?_
      refine fw_istore_nN (Ls' := [(3, Value.int (0 : Int32)), (2, Value.int i2), (0, fw_rv g r0), (1, fw_rv g r1)]) [0, 1] dX6_wordOf_31 rfl (by decide) rfl rfl rfl rfl rfl ?_
      refine fw_iconst (v := 0) dX6_wordOf_32 (by decide) ?_
      refine fw_istoreN (Ls' := [(4, Value.int (0 : Int32)), (3, Value.int (0 : Int32)), (2, Value.int i2), (0, fw_rv g r0), (1, fw_rv g r1)]) [1, 2, 3] dX6_wordOf_33 (by decide) rfl rfl rfl rfl rfl ?_
      refine fw_ls [3, 4, 2, 1, 0] rfl ?_
      exact w_X6_wordOf_L35 hf hk2 hg11 h
    · have h := fw_it h c13
      refine fw_iconst (v := 1) dX6_wordOf_26 (by decide) ?_
      refine fw_goto (tgt := 31) dX6_wordOf_27 (by decide) ?_
      refine fw_istore_nN (Ls' := [(3, Value.int (1 : Int32)), (2, Value.int i2), (0, fw_rv g r0), (1, fw_rv g r1)]) [0, 1] dX6_wordOf_31 rfl (by decide) rfl rfl rfl rfl rfl ?_
      refine fw_iconst (v := 0) dX6_wordOf_32 (by decide) ?_
      refine fw_istoreN (Ls' := [(4, Value.int (0 : Int32)), (3, Value.int (1 : Int32)), (2, Value.int i2), (0, fw_rv g r0), (1, fw_rv g r1)]) [1, 2, 3] dX6_wordOf_33 (by decide) rfl rfl rfl rfl rfl ?_
      refine fw_ls [3, 4, 2, 1, 0] rfl ?_
      exact w_X6_wordOf_L35 hf hk2 hg11 h
theorem w_X6_wordOf_L2 {g : fw_G} {f bc bs : Nat} {r0 : Nat} {r1 : Nat} {i2 : Int32} {μ : fw_M} {Q : Int32 → fw_M → Prop} (hf : 5 ≤ f) (hx : m_K μ r0 = 7) (h : p_X6_wordOf_L2 r0 r1 i2 μ Q) : fw_V g K_X6_wordOf f bc bs 2 [(0, fw_rv g r0), (1, fw_rv g r1), (2, Value.int i2)] [] μ (fw_Qi Q) fw_nX := by
  have key := fw_lp_out (R := fun (a : Int32 × fw_M) => m_K a.2 r0 = 7 → fw_V g K_X6_wordOf f bc bs 2 [(0, fw_rv g r0), (1, fw_rv g r1), (2, Value.int a.1)] [] a.2 (fw_Qi Q) fw_nX) (fun k hk9 a ha hx2 => w_X6_wordOf_L2b hf (fun {i2} {μ} hx3 h3 => hk9 (i2, μ) h3 hx3) hx2 ha) h
  exact key hx
def p_X6_wordOf (r0 : Nat) (r1 : Nat) (μ : fw_M) (Q : Int32 → fw_M → Prop) : Prop :=
  p_X6_wordOf_L2 r0 r1 (0 : Int32) μ Q
set_option maxHeartbeats 4000000 in
theorem w_X6_wordOf {g : fw_G} {f bc bs : Nat} {r0 : Nat} {r1 : Nat} {μ : fw_M} {Q : Int32 → fw_M → Prop} (hf : 5 ≤ f) (hx : m_K μ r0 = 7) (h : p_X6_wordOf r0 r1 μ Q) : fw_C g f bc bs yX6_wordOf (ws_ yX6_wordOf cX6_wordOf 5 (some .int)) [fw_rv g r0, fw_rv g r1] μ (fw_Qi Q) fw_nX := by
  unfold p_X6_wordOf at h
  refine fw_intro' (Ls := [(0, fw_rv g r0), (1, fw_rv g r1)]) (by decide +kernel) (by simp [lg_sl, fw_cat, fw_ci, fw_clo]) (by simp [lv_args, fw_cat, fw_ci, fw_clo]) ?_
  show fw_V g K_X6_wordOf f bc bs 0 [(0, fw_rv g r0), (1, fw_rv g r1)] [] μ (fw_Qi Q) fw_nX
  refine fw_iconst (v := 0) dX6_wordOf_0 (by decide) ?_
  refine fw_istore_nN (Ls' := [(2, Value.int (0 : Int32)), (1, fw_rv g r1), (0, fw_rv g r0)]) [0] dX6_wordOf_1 rfl (by decide) rfl rfl rfl (fw_cat _) rfl ?_
  refine fw_ls [2, 1, 0] rfl ?_
  exact w_X6_wordOf_L2 hf hx h
abbrev K_X6_word : fw_Kt := (RX6, "word", cX6_word, 2, none, [])
def p_X6_word_L0b (r0 : Nat) (k0 : fw_M → Prop) (μ : fw_M) (Q : fw_M → Prop) : Prop :=
  (p_X6_isLetter r0 μ (fun v1 μ2 =>
  (if v1 = 0 then
  ((p_X6_wordOf r0 2 μ2 (fun v6 μ7 =>
   (p_X6_wordOf r0 3 μ7 (fun v10 μ11 =>
   (∀ μ14, μ14 = m_uI μ11 r0 6 v10 →
   (if v6 < 0 then
   ((if (m_I μ14 r0 6) < 0 then
    ((∀ μ17, μ17 = m_uI μ14 r0 4 (303 : Int32) →
     Q μ17))
    else
    ((∀ μ18, μ18 = m_uI μ14 r0 4 (302 : Int32) →
     Q μ18))))
   else
   ((∀ μ19, μ19 = m_uI μ14 r0 4 ((310 : Int32) + v6) →
    Q μ19)))))))))
  else
  ((∀ μ20, μ20 = m_uI μ2 r0 2 ((m_I μ2 r0 2) + (1 : Int32)) →
   k0 μ20)))))
def p_X6_word_L0 (r0 : Nat) (μ : fw_M) (Q : fw_M → Prop) : Prop := fw_lp (fun (k : fw_M → Prop) (a : fw_M) => p_X6_word_L0b r0 (fun μ => k μ) a Q) μ
theorem r_X6_word_L0 {r0 : Nat} {Q : fw_M → Prop} (I : fw_M → Prop) (v : fw_M → Nat) (hs : ∀ (k : fw_M → Prop) (μ : fw_M), I μ → (∀ (ν : fw_M), I ν → v ν < v μ → k ν) → p_X6_word_L0b r0 k μ Q) (μ : fw_M) (h : I μ) : p_X6_word_L0 r0 μ Q :=
  fw_lp_in (A := fw_M) (fun a => I a) (fun a => v a) (fun k a ha hk => hs (fun μ => k μ) a ha (fun ν hb hlt => hk ν hb hlt)) μ h
set_option maxHeartbeats 4000000 in
theorem w_X6_word_L0b {g : fw_G} {f bc bs : Nat} {r0 : Nat} {k0 : fw_M → Prop} {μ : fw_M} {Q : fw_M → Prop} (hf : 6 ≤ f) (hk0 : ∀ {μ : fw_M}, m_K μ r0 = 7 → k0 μ → fw_V g K_X6_word f bc bs 0 [(0, fw_rv g r0)] [] μ (fw_Qv Q) fw_nX) (hx : m_K μ r0 = 7) (h : p_X6_word_L0b r0 k0 μ Q) : fw_V g K_X6_word f bc bs 0 [(0, fw_rv g r0)] [] μ (fw_Qv Q) fw_nX := by
  unfold p_X6_word_L0b at h
  refine fw_aload_n dX6_word_0 rfl rfl ?_
  refine fw_callV0z (f1 := f - 1) cl_X6_42 rfl hx (by decide) (by omega) (fw_s4 (Nat.le_of_ble_eq_true rfl)) dX6_word_1 (w_X6_isLetter (f := f - 1) (by omega) hx h) (fun _ _ h9 _ _ => h9.elim) (fun v9 μ2 q9 hs3 => ?_)
  obtain ⟨v1, rfl, h⟩ := q9
  refine fw_ti ?_
  have hg4 := hs3.K hx (by decide)
  refine fw_if_eq (tgt := 20) dX6_word_4 (by decide) (fun c5 => ?_) (fun c5 => ?_)
  · have h := fw_it h c5
    refine fw_aload_n dX6_word_20 rfl rfl ?_
    refine fw_gets (t := ("SpoonScales$Reader", "HEADS", "[Ljava/lang/String;", 2)) (by decide +kernel) q533 dX6_word_21 ?_
    refine fw_callV1z (f1 := f - 1) cl_X6_50 rfl hg4 (by decide) (by omega) (fw_s4 (Nat.le_of_ble_eq_true rfl)) dX6_word_24 (w_X6_wordOf (f := f - 1) (by omega) hg4 h) (fun _ _ h9 _ _ => h9.elim) (fun v9 μ7 q9 hs8 => ?_)
    obtain ⟨v6, rfl, h⟩ := q9
    refine fw_ti ?_
    have hg9 := hs8.K hg4 (by decide)
    refine fw_istore_nN (Ls' := [(1, Value.int v6), (0, fw_rv g r0)]) [] dX6_word_27 rfl (by decide) rfl rfl rfl (fw_cat _) rfl ?_
    refine fw_aload_n dX6_word_28 rfl rfl ?_
    refine fw_aload_n dX6_word_29 rfl rfl ?_
    refine fw_gets (t := ("SpoonScales$Reader", "CALLED", "[Ljava/lang/String;", 3)) (by decide +kernel) q587 dX6_word_30 ?_
    refine fw_callV1z (f1 := f - 1) cl_X6_50 rfl hg9 (by decide) (by omega) (fw_s4 (Nat.le_of_ble_eq_true rfl)) dX6_word_33 (w_X6_wordOf (f := f - 1) (by omega) hg9 h) (fun _ _ h9 _ _ => h9.elim) (fun v9 μ11 q9 hs12 => ?_)
    obtain ⟨v10, rfl, h⟩ := q9
    refine fw_ti ?_
    have hg13 := hs12.K hg9 (by decide)
    refine fw_putfI fl_X6_57 (fun q hq => Or.inl (by cases hq; rfl)) rfl hg13 dX6_word_36 ?_
    have h := h _ rfl
    refine fw_aload_n dX6_word_39 rfl rfl ?_
    refine fw_iload_n dX6_word_40 rfl rfl ?_
    refine fw_if_lt (tgt := 52) dX6_word_41 (by decide) (fun c15 => ?_) (fun c15 => ?_)
    · have h := fw_it h c15
      refine fw_aload_n dX6_word_52 rfl rfl ?_
      refine fw_getfI fl_X6_57 rfl hg13 dX6_word_53 ?_
      refine fw_if_lt (tgt := 65) dX6_word_56 (by decide) (fun c16 => ?_) (fun c16 => ?_)
      · have h := fw_it h c16
        refine fw_sipush (v := 303) dX6_word_65 (by decide) ?_
        refine fw_putfI fl_X6_60 (fun q hq => Or.inl (by cases hq; rfl)) rfl hg13 dX6_word_68 ?_
        have h := h _ rfl
        exact fw_return dX6_word_71 rfl ⟨rfl, h⟩
      · have h := fw_if h c16
        refine fw_sipush (v := 302) dX6_word_59 (by decide) ?_
        refine fw_goto (tgt := 68) dX6_word_62 (by decide) ?_
        refine fw_putfI fl_X6_60 (fun q hq => Or.inl (by cases hq; rfl)) rfl hg13 dX6_word_68 ?_
        have h := h _ rfl
        exact fw_return dX6_word_71 rfl ⟨rfl, h⟩
    · have h := fw_if h c15
      refine fw_sipush (v := 310) dX6_word_44 (by decide) ?_
      refine fw_iload_n dX6_word_47 rfl rfl ?_
      refine fw_iadd dX6_word_48 ?_
      refine fw_goto (tgt := 68) dX6_word_49 (by decide) ?_
      refine fw_putfI fl_X6_60 (fun q hq => Or.inl (by cases hq; rfl)) rfl hg13 dX6_word_68 ?_
      have h := h _ rfl
      exact fw_return dX6_word_71 rfl ⟨rfl, h⟩
  · have h := fw_if h c5
    refine fw_aload_n dX6_word_7 rfl rfl ?_
    refine fw_dup dX6_word_8 (fw_cat _) ?_
    refine fw_getfI fl_X6_19 rfl hg4 dX6_word_9 ?_
    refine fw_iconst (v := 1) dX6_word_12 (by decide) ?_
    refine fw_iadd dX6_word_13 ?_
    refine fw_putfI fl_X6_19 (fun q hq => Or.inl (by cases hq; rfl)) rfl hg4 dX6_word_14 ?_
    have h := h _ rfl
    refine fw_goto (tgt := 0) dX6_word_17 (by decide) ?_
    exact hk0 hg4 h
theorem w_X6_word_L0 {g : fw_G} {f bc bs : Nat} {r0 : Nat} {μ : fw_M} {Q : fw_M → Prop} (hf : 6 ≤ f) (hx : m_K μ r0 = 7) (h : p_X6_word_L0 r0 μ Q) : fw_V g K_X6_word f bc bs 0 [(0, fw_rv g r0)] [] μ (fw_Qv Q) fw_nX := by
  have key := fw_lp_out (R := fun (a : fw_M) => m_K a r0 = 7 → fw_V g K_X6_word f bc bs 0 [(0, fw_rv g r0)] [] a (fw_Qv Q) fw_nX) (fun k hk9 a ha hx2 => w_X6_word_L0b hf (fun {μ} hx3 h3 => hk9 μ h3 hx3) hx2 ha) h
  exact key hx
def p_X6_word (r0 : Nat) (μ : fw_M) (Q : fw_M → Prop) : Prop :=
  p_X6_word_L0 r0 μ Q
set_option maxHeartbeats 4000000 in
theorem w_X6_word {g : fw_G} {f bc bs : Nat} {r0 : Nat} {μ : fw_M} {Q : fw_M → Prop} (hf : 6 ≤ f) (hx : m_K μ r0 = 7) (h : p_X6_word r0 μ Q) : fw_C g f bc bs yX6_word (ws_ yX6_word cX6_word 2 (none)) [fw_rv g r0] μ (fw_Qv Q) fw_nX := by
  unfold p_X6_word at h
  refine fw_intro' (Ls := [(0, fw_rv g r0)]) (by decide +kernel) (by simp [lg_sl, fw_cat, fw_ci, fw_clo]) (by simp [lv_args, fw_cat, fw_ci, fw_clo]) ?_
  show fw_V g K_X6_word f bc bs 0 [(0, fw_rv g r0)] [] μ (fw_Qv Q) fw_nX
  exact w_X6_word_L0 hf hx h
