set_option maxRecDepth 100000
abbrev K_X5_about : fw_Kt := (RX5, "about", cX5_about, 2, some .int, [])
def p_X5_about (r0 : Nat) (i1 : Int32) (μ : fw_M) (Q : Int32 → fw_M → Prop) : Prop :=
  (if i1 = 0 then
  ((m_K μ (m_P μ r0 0) = 100 ∧ (vp_in (0 : Int32) (m_N μ (m_P μ r0 0)) ∧ Q (m_I μ (m_P μ r0 0) (0 : Int32).toNatClampNeg) μ)))
  else (if i1 = 1 then
  ((m_K μ (m_P μ r0 0) = 100 ∧ (vp_in (110 : Int32) (m_N μ (m_P μ r0 0)) ∧ (vp_in (111 : Int32) (m_N μ (m_P μ r0 0)) ∧ (vp_in (112 : Int32) (m_N μ (m_P μ r0 0)) ∧ (vp_in (113 : Int32) (m_N μ (m_P μ r0 0)) ∧ Q (((((m_I μ (m_P μ r0 0) (110 : Int32).toNatClampNeg) + (m_I μ (m_P μ r0 0) (111 : Int32).toNatClampNeg)) - (m_I μ (m_P μ r0 0) (112 : Int32).toNatClampNeg)) - (m_I μ (m_P μ r0 0) (113 : Int32).toNatClampNeg)) + (10000 : Int32)) μ))))))
  else (if i1 = 2 then
  ((m_K μ (m_P μ r0 0) = 100 ∧ (vp_in (373 : Int32) (m_N μ (m_P μ r0 0)) ∧ Q (m_I μ (m_P μ r0 0) (373 : Int32).toNatClampNeg) μ)))
  else (if i1 = 3 then
  ((m_K μ (m_P μ r0 0) = 100 ∧ (vp_in (464 : Int32) (m_N μ (m_P μ r0 0)) ∧ Q (m_I μ (m_P μ r0 0) (464 : Int32).toNatClampNeg) μ)))
  else (if i1 = 4 then
  ((m_K μ (m_P μ r0 0) = 100 ∧ (vp_in (1 : Int32) (m_N μ (m_P μ r0 0)) ∧ Q (m_I μ (m_P μ r0 0) (1 : Int32).toNatClampNeg) μ)))
  else (if i1 = 5 then
  ((m_K μ (m_P μ r0 0) = 100 ∧ (vp_in (2 : Int32) (m_N μ (m_P μ r0 0)) ∧ Q (m_I μ (m_P μ r0 0) (2 : Int32).toNatClampNeg) μ)))
  else (if i1 = 6 then
  ((m_K μ (m_P μ r0 0) = 100 ∧ (vp_in (3 : Int32) (m_N μ (m_P μ r0 0)) ∧ Q (m_I μ (m_P μ r0 0) (3 : Int32).toNatClampNeg) μ)))
  else (if i1 = 7 then
  ((m_K μ (m_P μ r0 0) = 100 ∧ (vp_in (4 : Int32) (m_N μ (m_P μ r0 0)) ∧ Q (m_I μ (m_P μ r0 0) (4 : Int32).toNatClampNeg) μ)))
  else (if i1 = 8 then
  ((m_K μ (m_P μ r0 0) = 100 ∧ (vp_in (5 : Int32) (m_N μ (m_P μ r0 0)) ∧ Q (m_I μ (m_P μ r0 0) (5 : Int32).toNatClampNeg) μ)))
  else (if i1 = 9 then
  (Q (m_I μ r0 3) μ)
  else (p_X5_in i1 (10 : Int32) (13 : Int32) μ (fun v32 μ33 =>
   (if v32 = 0 then
   (Q (-2 : Int32) μ33)
   else
   ((m_K μ33 (m_P μ33 r0 0) = 100 ∧ (vp_in (((110 : Int32) + i1) - (10 : Int32)) (m_N μ33 (m_P μ33 r0 0)) ∧ Q (m_I μ33 (m_P μ33 r0 0) (((110 : Int32) + i1) - (10 : Int32)).toNatClampNeg) μ33))))))))))))))))
set_option maxHeartbeats 4000000 in
theorem w_X5_about {g : fw_G} {f bc bs : Nat} {r0 : Nat} {i1 : Int32} {μ : fw_M} {Q : Int32 → fw_M → Prop} (hf : 2 ≤ f) (hx : m_K μ r0 = 6) (h : p_X5_about r0 i1 μ Q) : fw_C g f bc bs yX5_about (ws_ yX5_about cX5_about 2 (some .int)) [fw_rv g r0, Value.int i1] μ (fw_Qi Q) fw_nX := by
  unfold p_X5_about at h
  refine fw_intro' (Ls := [(0, fw_rv g r0), (1, Value.int i1)]) (by decide +kernel) (by simp [lg_sl, fw_cat, fw_ci, fw_clo]) (by simp [lv_args, fw_cat, fw_ci, fw_clo]) ?_
  show fw_V g K_X5_about f bc bs 0 [(0, fw_rv g r0), (1, Value.int i1)] [] μ (fw_Qi Q) fw_nX
  refine fw_iload_n dX5_about_0 rfl rfl ?_
  refine fw_sw (k := 0) h (fun c1 h => ?_) (fun c1 h => ?_)
  · refine fw_tableIn (tgt := 56) dX5_about_1 (by rw [c1]; decide) (by rw [c1]; decide) (by rw [c1]; rfl) (by decide) ?_
    refine fw_aload_n dX5_about_56 rfl rfl ?_
    refine fw_getfP fl_X5_7 rfl hx dX5_about_57 ?_
    refine fw_iconst (v := 0) dX5_about_60 (by decide) ?_
    obtain ⟨hg2, h⟩ := h
    obtain ⟨hc3, h⟩ := h
    refine fw_iald hg2 hc3 dX5_about_61 ?_
    exact fw_ireturn dX5_about_62 rfl rfl ⟨_, rfl, h⟩
  · refine fw_sw (k := 1) h (fun c4 h => ?_) (fun c4 h => ?_)
    · refine fw_tableIn (tgt := 63) dX5_about_1 (by rw [c4]; decide) (by rw [c4]; decide) (by rw [c4]; rfl) (by decide) ?_
      refine fw_aload_n dX5_about_63 rfl rfl ?_
      refine fw_getfP fl_X5_7 rfl hx dX5_about_64 ?_
      refine fw_bipush (v := 110) dX5_about_67 (by decide) ?_
      obtain ⟨hg5, h⟩ := h
      obtain ⟨hc6, h⟩ := h
      refine fw_iald hg5 hc6 dX5_about_69 ?_
      refine fw_aload_n dX5_about_70 rfl rfl ?_
      refine fw_getfP fl_X5_7 rfl hx dX5_about_71 ?_
      refine fw_bipush (v := 111) dX5_about_74 (by decide) ?_
      obtain ⟨hc7, h⟩ := h
      refine fw_iald hg5 hc7 dX5_about_76 ?_
      refine fw_iadd dX5_about_77 ?_
      refine fw_aload_n dX5_about_78 rfl rfl ?_
      refine fw_getfP fl_X5_7 rfl hx dX5_about_79 ?_
      refine fw_bipush (v := 112) dX5_about_82 (by decide) ?_
      obtain ⟨hc8, h⟩ := h
      refine fw_iald hg5 hc8 dX5_about_84 ?_
      refine fw_isub dX5_about_85 ?_
      refine fw_aload_n dX5_about_86 rfl rfl ?_
      refine fw_getfP fl_X5_7 rfl hx dX5_about_87 ?_
      refine fw_bipush (v := 113) dX5_about_90 (by decide) ?_
      obtain ⟨hc9, h⟩ := h
      refine fw_iald hg5 hc9 dX5_about_92 ?_
      refine fw_isub dX5_about_93 ?_
      refine fw_sipush (v := 10000) dX5_about_94 (by decide) ?_
      refine fw_iadd dX5_about_97 ?_
      exact fw_ireturn dX5_about_98 rfl rfl ⟨_, rfl, h⟩
    · refine fw_sw (k := 2) h (fun c10 h => ?_) (fun c10 h => ?_)
      · refine fw_tableIn (tgt := 99) dX5_about_1 (by rw [c10]; decide) (by rw [c10]; decide) (by rw [c10]; rfl) (by decide) ?_
        refine fw_aload_n dX5_about_99 rfl rfl ?_
        refine fw_getfP fl_X5_7 rfl hx dX5_about_100 ?_
        refine fw_sipush (v := 373) dX5_about_103 (by decide) ?_
        obtain ⟨hg11, h⟩ := h
        obtain ⟨hc12, h⟩ := h
        refine fw_iald hg11 hc12 dX5_about_106 ?_
        exact fw_ireturn dX5_about_107 rfl rfl ⟨_, rfl, h⟩
      · refine fw_sw (k := 3) h (fun c13 h => ?_) (fun c13 h => ?_)
        · refine fw_tableIn (tgt := 108) dX5_about_1 (by rw [c13]; decide) (by rw [c13]; decide) (by rw [c13]; rfl) (by decide) ?_
          refine fw_aload_n dX5_about_108 rfl rfl ?_
          refine fw_getfP fl_X5_7 rfl hx dX5_about_109 ?_
          refine fw_sipush (v := 464) dX5_about_112 (by decide) ?_
          obtain ⟨hg14, h⟩ := h
          obtain ⟨hc15, h⟩ := h
          refine fw_iald hg14 hc15 dX5_about_115 ?_
          exact fw_ireturn dX5_about_116 rfl rfl ⟨_, rfl, h⟩
        · refine fw_sw (k := 4) h (fun c16 h => ?_) (fun c16 h => ?_)
          · refine fw_tableIn (tgt := 117) dX5_about_1 (by rw [c16]; decide) (by rw [c16]; decide) (by rw [c16]; rfl) (by decide) ?_
            refine fw_aload_n dX5_about_117 rfl rfl ?_
            refine fw_getfP fl_X5_7 rfl hx dX5_about_118 ?_
            refine fw_iconst (v := 1) dX5_about_121 (by decide) ?_
            obtain ⟨hg17, h⟩ := h
            obtain ⟨hc18, h⟩ := h
            refine fw_iald hg17 hc18 dX5_about_122 ?_
            exact fw_ireturn dX5_about_123 rfl rfl ⟨_, rfl, h⟩
          · refine fw_sw (k := 5) h (fun c19 h => ?_) (fun c19 h => ?_)
            · refine fw_tableIn (tgt := 124) dX5_about_1 (by rw [c19]; decide) (by rw [c19]; decide) (by rw [c19]; rfl) (by decide) ?_
              refine fw_aload_n dX5_about_124 rfl rfl ?_
              refine fw_getfP fl_X5_7 rfl hx dX5_about_125 ?_
              refine fw_iconst (v := 2) dX5_about_128 (by decide) ?_
              obtain ⟨hg20, h⟩ := h
              obtain ⟨hc21, h⟩ := h
              refine fw_iald hg20 hc21 dX5_about_129 ?_
              exact fw_ireturn dX5_about_130 rfl rfl ⟨_, rfl, h⟩
            · refine fw_sw (k := 6) h (fun c22 h => ?_) (fun c22 h => ?_)
              · refine fw_tableIn (tgt := 131) dX5_about_1 (by rw [c22]; decide) (by rw [c22]; decide) (by rw [c22]; rfl) (by decide) ?_
                refine fw_aload_n dX5_about_131 rfl rfl ?_
                refine fw_getfP fl_X5_7 rfl hx dX5_about_132 ?_
                refine fw_iconst (v := 3) dX5_about_135 (by decide) ?_
                obtain ⟨hg23, h⟩ := h
                obtain ⟨hc24, h⟩ := h
                refine fw_iald hg23 hc24 dX5_about_136 ?_
                exact fw_ireturn dX5_about_137 rfl rfl ⟨_, rfl, h⟩
              · refine fw_sw (k := 7) h (fun c25 h => ?_) (fun c25 h => ?_)
                · refine fw_tableIn (tgt := 138) dX5_about_1 (by rw [c25]; decide) (by rw [c25]; decide) (by rw [c25]; rfl) (by decide) ?_
                  refine fw_aload_n dX5_about_138 rfl rfl ?_
                  refine fw_getfP fl_X5_7 rfl hx dX5_about_139 ?_
                  refine fw_iconst (v := 4) dX5_about_142 (by decide) ?_
                  obtain ⟨hg26, h⟩ := h
                  obtain ⟨hc27, h⟩ := h
                  refine fw_iald hg26 hc27 dX5_about_143 ?_
                  exact fw_ireturn dX5_about_144 rfl rfl ⟨_, rfl, h⟩
                · refine fw_sw (k := 8) h (fun c28 h => ?_) (fun c28 h => ?_)
                  · refine fw_tableIn (tgt := 145) dX5_about_1 (by rw [c28]; decide) (by rw [c28]; decide) (by rw [c28]; rfl) (by decide) ?_
                    refine fw_aload_n dX5_about_145 rfl rfl ?_
                    refine fw_getfP fl_X5_7 rfl hx dX5_about_146 ?_
                    refine fw_iconst (v := 5) dX5_about_149 (by decide) ?_
                    obtain ⟨hg29, h⟩ := h
                    obtain ⟨hc30, h⟩ := h
                    refine fw_iald hg29 hc30 dX5_about_150 ?_
                    exact fw_ireturn dX5_about_151 rfl rfl ⟨_, rfl, h⟩
                  · refine fw_sw (k := 9) h (fun c31 h => ?_) (fun c31 h => ?_)
                    · refine fw_tableIn (tgt := 152) dX5_about_1 (by rw [c31]; decide) (by rw [c31]; decide) (by rw [c31]; rfl) (by decide) ?_
                      refine fw_aload_n dX5_about_152 rfl rfl ?_
                      refine fw_getfI fl_X5_118 rfl hx dX5_about_153 ?_
                      exact fw_ireturn dX5_about_156 rfl rfl ⟨_, rfl, h⟩
                    · have nc1 := lv_neT c1 (k := 0) (a := 0) (by decide)
                      have nc4 := lv_neT c4 (k := 1) (a := 1) (by decide)
                      have nc10 := lv_neT c10 (k := 2) (a := 2) (by decide)
                      have nc13 := lv_neT c13 (k := 3) (a := 3) (by decide)
                      have nc16 := lv_neT c16 (k := 4) (a := 4) (by decide)
                      have nc19 := lv_neT c19 (k := 5) (a := 5) (by decide)
                      have nc22 := lv_neT c22 (k := 6) (a := 6) (by decide)
                      have nc25 := lv_neT c25 (k := 7) (a := 7) (by decide)
                      have nc28 := lv_neT c28 (k := 8) (a := 8) (by decide)
                      have nc31 := lv_neT c31 (k := 9) (a := 9) (by decide)
                      refine fw_tableOut (tgt := 157) dX5_about_1 (by omega) (by decide) ?_
                      refine fw_iload_n dX5_about_157 rfl rfl ?_
                      refine fw_bipush (v := 10) dX5_about_158 (by decide) ?_
                      refine fw_bipush (v := 13) dX5_about_160 (by decide) ?_
                      refine fw_callS3z (f1 := f - 1) cl_X5_110 (by decide) (by omega) (fw_s4 (Nat.le_of_ble_eq_true rfl)) dX5_about_162 (w_X5_in (f := f - 1) (by omega) h) (fun _ _ h9 _ _ => h9.elim) (fun v9 μ33 q9 hs34 => ?_)
                      obtain ⟨v32, rfl, h⟩ := q9
                      refine fw_ti ?_
                      have hg35 := hs34.K hx (by decide)
                      refine fw_if_eq (tgt := 183) dX5_about_165 (by decide) (fun c36 => ?_) (fun c36 => ?_)
                      · have h := fw_it h c36
                        refine fw_bipush (v := -2) dX5_about_183 (by decide) ?_
                        exact fw_ireturn dX5_about_185 rfl rfl ⟨_, rfl, h⟩
                      · have h := fw_if h c36
                        refine fw_aload_n dX5_about_168 rfl rfl ?_
                        refine fw_getfP fl_X5_7 rfl hg35 dX5_about_169 ?_
                        refine fw_bipush (v := 110) dX5_about_172 (by decide) ?_
                        refine fw_iload_n dX5_about_174 rfl rfl ?_
                        refine fw_iadd dX5_about_175 ?_
                        refine fw_bipush (v := 10) dX5_about_176 (by decide) ?_
                        refine fw_isub dX5_about_178 ?_
                        obtain ⟨hg37, h⟩ := h
                        obtain ⟨hc38, h⟩ := h
                        refine fw_iald hg37 hc38 dX5_about_179 ?_
                        refine fw_goto (tgt := 185) dX5_about_180 (by decide) ?_
                        exact fw_ireturn dX5_about_185 rfl rfl ⟨_, rfl, h⟩
abbrev K_L_law (nm9 : String) (hh9 : List (Nat × Nat × Nat × Nat)) : fw_Kt := (RL, nm9, cL_law, 4, some .boolean, hh9)
def p_L_law_L952 (k18 : Nat → Nat → Int32 → fw_M → Prop) (r0 : Nat) (r1 : Nat) (r2 : Nat) (i3 : Int32) (ls0 : Int64) (rs1 : Nat) (is2 : Int32) (is3 : Int32) (is4 : Int32) (bc : Nat) (bs : Nat) (μ : fw_M) (Q : Int32 → fw_M → Prop) : Prop :=
  (m_K μ rs1 = 6 ∧ (p_X5_odds rs1 is2 is3 is4 μ (fun w2 μ3 =>
  (if ls0 = w2 then
  ((∀ i3_7 : Int32, i3_7 = i3 + (6 : Int32) →
   k18 bc bs i3_7 μ3))
  else
  (Q (0 : Int32) μ3)))))
set_option maxHeartbeats 4000000 in
theorem w_L_law_L952 {g : fw_G} {nm9 : String} {hh9 : List (Nat × Nat × Nat × Nat)} {f : Nat} {k18 : Nat → Nat → Int32 → fw_M → Prop} {r0 : Nat} {r1 : Nat} {r2 : Nat} {i3 : Int32} {ls0 : Int64} {rs1 : Nat} {is2 : Int32} {is3 : Int32} {is4 : Int32} {bc : Nat} {bs : Nat} {μ : fw_M} {Q : Int32 → fw_M → Prop} (hf : 827 ≤ f) (hk18 : ∀ {bc : Nat} {bs : Nat} {i3 : Int32} {μ : fw_M}, k18 bc bs i3 μ → fw_V g (K_L_law nm9 hh9) f bc bs 18 [(0, fw_rv g r0), (1, fw_rv g r1), (2, fw_rv g r2), (3, Value.int i3)] [] μ (fw_Qi Q) fw_nX) (h : p_L_law_L952 k18 r0 r1 r2 i3 ls0 rs1 is2 is3 is4 bc bs μ Q) : fw_V g (K_L_law nm9 hh9) f bc bs 952 [(0, fw_rv g r0), (1, fw_rv g r1), (2, fw_rv g r2), (3, Value.int i3)] [Value.int is4, Value.int is3, Value.int is2, fw_rv g rs1, Value.long ls0] μ (fw_Qi Q) fw_nX := by
  unfold p_L_law_L952 at h
  obtain ⟨hg1, h⟩ := h
  refine fw_callV3z (f1 := f - 1) cl_L_126 rfl hg1 (by decide) (by omega) (fw_s4 (Nat.le_of_ble_eq_true rfl)) dL_law_952 (w_X5_odds (f := f - 1) (by omega) hg1 h) (fun _ _ h9 _ _ => h9.elim) (fun v9 μ3 q9 hs4 => ?_)
  obtain ⟨w2, rfl, h⟩ := q9
  refine fw_tl ?_
  have hg5 := hs4.K hg1 (by decide)
  refine fw_leq (tgt := 1079) dL_law_955 dL_law_956 (by decide) (fun c6 => ?_) (fun c6 => ?_)
  · have h := fw_it h c6
    obtain ⟨i3_7, e8⟩ : ∃ y : Int32, y = i3 + (6 : Int32) := ⟨_, rfl⟩
    have h := h i3_7 e8
    refine fw_iincN (k := 3) (v := i3_7) (Ls' := [(3, Value.int i3_7), (2, fw_rv g r2), (0, fw_rv g r0), (1, fw_rv g r1)]) [0, 1] dL_law_1079 rfl (by rw [e8]; rfl) (show _ < 4 by decide) rfl rfl rfl (fw_cat _) rfl ?_
    refine fw_goto (tgt := 18) dL_law_1082 (by decide) ?_
    refine fw_ls [2, 3, 1, 0] rfl ?_
    exact hk18 h
  · have h := fw_if h c6
    refine fw_iconst (v := 0) dL_law_959 (by decide) ?_
    exact fw_ireturn dL_law_960 rfl (by decide +kernel) ⟨_, rfl, h⟩
def p_L_law_L925 (k18 : Nat → Nat → Int32 → fw_M → Prop) (r0 : Nat) (r1 : Nat) (r2 : Nat) (i3 : Int32) (rs0 : Nat) (is1 : Int32) (is2 : Int32) (is3 : Int32) (bc : Nat) (bs : Nat) (μ : fw_M) (Q : Int32 → fw_M → Prop) : Prop :=
  (m_K μ rs0 = 1 ∧ (∃ b4 b5, b4 ≤ bc ∧ b5 ≤ bs ∧ (p_X0_odds b4 b5 rs0 is1 is2 is3 μ (fun w2 μ3 =>
  (m_K μ3 r0 = 150 ∧ ((0 < r0 ∧ r0 < 64) ∧ (vp_in (i3 + (1 : Int32)) (m_N μ3 r0) ∧ ((0 < r0 ∧ r0 < 64) ∧ (vp_in (i3 + (2 : Int32)) (m_N μ3 r0) ∧ ((0 < r0 ∧ r0 < 64) ∧ (vp_in (i3 + (3 : Int32)) (m_N μ3 r0) ∧ (if (m_I μ3 r0 (i3 + (3 : Int32)).toNatClampNeg) = 0 then
  (p_L_law_L952 k18 r0 r1 r2 i3 w2 r2 (m_I μ3 r0 (i3 + (1 : Int32)).toNatClampNeg) (m_I μ3 r0 (i3 + (2 : Int32)).toNatClampNeg) (0 : Int32) (bc - b4) (bs - b5) μ3 Q)
  else
  (p_L_law_L952 k18 r0 r1 r2 i3 w2 r2 (m_I μ3 r0 (i3 + (1 : Int32)).toNatClampNeg) (m_I μ3 r0 (i3 + (2 : Int32)).toNatClampNeg) (1 : Int32) (bc - b4) (bs - b5) μ3 Q)))))))))))))
set_option maxHeartbeats 4000000 in
theorem w_L_law_L925 {g : fw_G} {nm9 : String} {hh9 : List (Nat × Nat × Nat × Nat)} {f : Nat} {k18 : Nat → Nat → Int32 → fw_M → Prop} {r0 : Nat} {r1 : Nat} {r2 : Nat} {i3 : Int32} {rs0 : Nat} {is1 : Int32} {is2 : Int32} {is3 : Int32} {bc : Nat} {bs : Nat} {μ : fw_M} {Q : Int32 → fw_M → Prop} (hf : 827 ≤ f) (hk18 : ∀ {bc : Nat} {bs : Nat} {i3 : Int32} {μ : fw_M}, k18 bc bs i3 μ → fw_V g (K_L_law nm9 hh9) f bc bs 18 [(0, fw_rv g r0), (1, fw_rv g r1), (2, fw_rv g r2), (3, Value.int i3)] [] μ (fw_Qi Q) fw_nX) (h : p_L_law_L925 k18 r0 r1 r2 i3 rs0 is1 is2 is3 bc bs μ Q) : fw_V g (K_L_law nm9 hh9) f bc bs 925 [(0, fw_rv g r0), (1, fw_rv g r1), (2, fw_rv g r2), (3, Value.int i3)] [Value.int is3, Value.int is2, Value.int is1, fw_rv g rs0] μ (fw_Qi Q) fw_nX := by
  unfold p_L_law_L925 at h
  obtain ⟨hg1, h⟩ := h
  obtain ⟨b4, b5, hb6, hb7, h⟩ := h
  refine fw_callV3 (f1 := f - 1) (b1 := b4) (b2 := b5) cl_L_122 rfl hg1 (by decide) (by omega) hb6 hb7 (fw_s4 (Nat.le_of_ble_eq_true rfl)) dL_law_925 (w_X0_odds (f := f - 1) (by omega) hg1 h) (fun _ _ h9 _ _ => h9.elim) (fun v9 μ3 q9 hs8 => ?_)
  obtain ⟨w2, rfl, h⟩ := q9
  refine fw_tl ?_
  have hg9 := hs8.K hg1 (by decide)
  refine fw_aload_n dL_law_928 rfl rfl ?_
  refine fw_aload_n dL_law_929 rfl rfl ?_
  refine fw_iload_n dL_law_930 rfl rfl ?_
  refine fw_iconst (v := 1) dL_law_931 (by decide) ?_
  refine fw_iadd dL_law_932 ?_
  obtain ⟨hg10, h⟩ := h
  obtain ⟨hc11, h⟩ := h
  obtain ⟨hc12, h⟩ := h
  refine fw_xiald hc11 hg10 hc12 dL_law_933 ?_
  refine fw_aload_n dL_law_934 rfl rfl ?_
  refine fw_iload_n dL_law_935 rfl rfl ?_
  refine fw_iconst (v := 2) dL_law_936 (by decide) ?_
  refine fw_iadd dL_law_937 ?_
  obtain ⟨hc13, h⟩ := h
  obtain ⟨hc14, h⟩ := h
  refine fw_xiald hc13 hg10 hc14 dL_law_938 ?_
  refine fw_aload_n dL_law_939 rfl rfl ?_
  refine fw_iload_n dL_law_940 rfl rfl ?_
  refine fw_iconst (v := 3) dL_law_941 (by decide) ?_
  refine fw_iadd dL_law_942 ?_
  obtain ⟨hc15, h⟩ := h
  obtain ⟨hc16, h⟩ := h
  refine fw_xiald hc15 hg10 hc16 dL_law_943 ?_
  refine fw_if_eq (tgt := 951) dL_law_944 (by decide) (fun c17 => ?_) (fun c17 => ?_)
  · have h := fw_it h c17
    refine fw_iconst (v := 0) dL_law_951 (by decide) ?_
    exact w_L_law_L952 hf hk18 h
  · have h := fw_if h c17
    refine fw_iconst (v := 1) dL_law_947 (by decide) ?_
    refine fw_goto (tgt := 952) dL_law_948 (by decide) ?_
    exact w_L_law_L952 hf hk18 h
def p_L_law_L18b (r0 : Nat) (r1 : Nat) (r2 : Nat) (k18 : Nat → Nat → Int32 → fw_M → Prop) (bc : Nat) (bs : Nat) (i3 : Int32) (μ : fw_M) (Q : Int32 → fw_M → Prop) : Prop :=
  (m_K μ r0 = 150 ∧ ((0 < r0 ∧ r0 < 64) ∧ (if ((Int32.ofNat (m_N μ r0)) - (6 : Int32)) < i3 then
  (Q (1 : Int32) μ)
  else
  (((0 < r0 ∧ r0 < 64) ∧ (vp_in i3 (m_N μ r0) ∧ (if ((m_I μ r0 i3.toNatClampNeg) &&& (31 : Int32)) = 0 then
   (((0 < r0 ∧ r0 < 64) ∧ (vp_in (i3 + (1 : Int32)) (m_N μ r0) ∧ ((0 < r0 ∧ r0 < 64) ∧ (vp_in (i3 + (2 : Int32)) (m_N μ r0) ∧ ((0 < r0 ∧ r0 < 64) ∧ (vp_in (i3 + (3 : Int32)) (m_N μ r0) ∧ (m_K μ r1 = 1 ∧ (p_X0_pot r1 (m_I μ r0 (i3 + (1 : Int32)).toNatClampNeg) (m_I μ r0 (i3 + (2 : Int32)).toNatClampNeg) (m_I μ r0 (i3 + (3 : Int32)).toNatClampNeg) μ (fun v14 μ15 =>
    ((0 < r0 ∧ r0 < 64) ∧ (vp_in (i3 + (1 : Int32)) (m_N μ15 r0) ∧ ((0 < r0 ∧ r0 < 64) ∧ (vp_in (i3 + (2 : Int32)) (m_N μ15 r0) ∧ ((0 < r0 ∧ r0 < 64) ∧ (vp_in (i3 + (3 : Int32)) (m_N μ15 r0) ∧ (m_K μ15 r2 = 6 ∧ (p_X5_pot r2 (m_I μ15 r0 (i3 + (1 : Int32)).toNatClampNeg) (m_I μ15 r0 (i3 + (2 : Int32)).toNatClampNeg) (m_I μ15 r0 (i3 + (3 : Int32)).toNatClampNeg) μ15 (fun v26 μ27 =>
    (if v14 = v26 then
    ((∀ i3_33 : Int32, i3_33 = i3 + (6 : Int32) →
     k18 bc bs i3_33 μ27))
    else
    (Q (0 : Int32) μ27)))))))))))))))))))))
   else (if ((m_I μ r0 i3.toNatClampNeg) &&& (31 : Int32)) = 1 then
   (((0 < r0 ∧ r0 < 64) ∧ (vp_in (i3 + (1 : Int32)) (m_N μ r0) ∧ ((0 < r0 ∧ r0 < 64) ∧ (vp_in (i3 + (2 : Int32)) (m_N μ r0) ∧ ((0 < r0 ∧ r0 < 64) ∧ (vp_in (i3 + (3 : Int32)) (m_N μ r0) ∧ (m_K μ r1 = 1 ∧ (p_X0_eater r1 (m_I μ r0 (i3 + (1 : Int32)).toNatClampNeg) (m_I μ r0 (i3 + (2 : Int32)).toNatClampNeg) (m_I μ r0 (i3 + (3 : Int32)).toNatClampNeg) μ (fun v43 μ44 =>
    ((0 < r0 ∧ r0 < 64) ∧ (vp_in (i3 + (1 : Int32)) (m_N μ44 r0) ∧ ((0 < r0 ∧ r0 < 64) ∧ (vp_in (i3 + (2 : Int32)) (m_N μ44 r0) ∧ ((0 < r0 ∧ r0 < 64) ∧ (vp_in (i3 + (3 : Int32)) (m_N μ44 r0) ∧ (m_K μ44 r2 = 6 ∧ (p_X5_eater r2 (m_I μ44 r0 (i3 + (1 : Int32)).toNatClampNeg) (m_I μ44 r0 (i3 + (2 : Int32)).toNatClampNeg) (m_I μ44 r0 (i3 + (3 : Int32)).toNatClampNeg) μ44 (fun v55 μ56 =>
    (if v43 = v55 then
    ((∀ i3_62 : Int32, i3_62 = i3 + (6 : Int32) →
     k18 bc bs i3_62 μ56))
    else
    (Q (0 : Int32) μ56)))))))))))))))))))))
   else (if ((m_I μ r0 i3.toNatClampNeg) &&& (31 : Int32)) = 2 then
   (((0 < r0 ∧ r0 < 64) ∧ (vp_in (i3 + (1 : Int32)) (m_N μ r0) ∧ (m_K μ r1 = 1 ∧ (p_X0_seed r1 (m_I μ r0 (i3 + (1 : Int32)).toNatClampNeg) μ (fun v68 μ69 =>
    ((0 < r0 ∧ r0 < 64) ∧ (vp_in (i3 + (1 : Int32)) (m_N μ69 r0) ∧ (m_K μ69 r2 = 6 ∧ (p_X5_seed r2 (m_I μ69 r0 (i3 + (1 : Int32)).toNatClampNeg) μ69 (fun v76 μ77 =>
    (if v68 = v76 then
    ((∀ i3_83 : Int32, i3_83 = i3 + (6 : Int32) →
     k18 bc bs i3_83 μ77))
    else
    (Q (0 : Int32) μ77)))))))))))))
   else (if ((m_I μ r0 i3.toNatClampNeg) &&& (31 : Int32)) = 3 then
   (((0 < r0 ∧ r0 < 64) ∧ (vp_in (i3 + (1 : Int32)) (m_N μ r0) ∧ ((0 < r0 ∧ r0 < 64) ∧ (vp_in (i3 + (2 : Int32)) (m_N μ r0) ∧ (m_K μ r1 = 1 ∧ (p_X0_sit r1 (m_I μ r0 (i3 + (1 : Int32)).toNatClampNeg) (m_I μ r0 (i3 + (2 : Int32)).toNatClampNeg) μ (fun v91 μ92 =>
    ((0 < r0 ∧ r0 < 64) ∧ (vp_in (i3 + (1 : Int32)) (m_N μ92 r0) ∧ ((0 < r0 ∧ r0 < 64) ∧ (vp_in (i3 + (2 : Int32)) (m_N μ92 r0) ∧ (m_K μ92 r2 = 6 ∧ (p_X5_sit r2 (m_I μ92 r0 (i3 + (1 : Int32)).toNatClampNeg) (m_I μ92 r0 (i3 + (2 : Int32)).toNatClampNeg) μ92 (fun v101 μ102 =>
    (if v91 = v101 then
    ((∀ i3_108 : Int32, i3_108 = i3 + (6 : Int32) →
     k18 bc bs i3_108 μ102))
    else
    (Q (0 : Int32) μ102)))))))))))))))))
   else (if ((m_I μ r0 i3.toNatClampNeg) &&& (31 : Int32)) = 4 then
   (((0 < r0 ∧ r0 < 64) ∧ (vp_in (i3 + (1 : Int32)) (m_N μ r0) ∧ ((0 < r0 ∧ r0 < 64) ∧ (vp_in (i3 + (2 : Int32)) (m_N μ r0) ∧ (m_K μ r1 = 1 ∧ (p_X0_spoon r1 (m_I μ r0 (i3 + (1 : Int32)).toNatClampNeg) (m_I μ r0 (i3 + (2 : Int32)).toNatClampNeg) μ (fun v116 μ117 =>
    ((0 < r0 ∧ r0 < 64) ∧ (vp_in (i3 + (1 : Int32)) (m_N μ117 r0) ∧ ((0 < r0 ∧ r0 < 64) ∧ (vp_in (i3 + (2 : Int32)) (m_N μ117 r0) ∧ (m_K μ117 r2 = 6 ∧ (p_X5_spoon r2 (m_I μ117 r0 (i3 + (1 : Int32)).toNatClampNeg) (m_I μ117 r0 (i3 + (2 : Int32)).toNatClampNeg) μ117 (fun v126 μ127 =>
    (if v116 = v126 then
    ((∀ i3_133 : Int32, i3_133 = i3 + (6 : Int32) →
     k18 bc bs i3_133 μ127))
    else
    (Q (0 : Int32) μ127)))))))))))))))))
   else (if ((m_I μ r0 i3.toNatClampNeg) &&& (31 : Int32)) = 5 then
   (((0 < r0 ∧ r0 < 64) ∧ (vp_in (i3 + (1 : Int32)) (m_N μ r0) ∧ (m_K μ r1 = 1 ∧ (p_X0_judge r1 (m_I μ r0 (i3 + (1 : Int32)).toNatClampNeg) μ (fun v139 μ140 =>
    ((0 < r0 ∧ r0 < 64) ∧ (vp_in (i3 + (1 : Int32)) (m_N μ140 r0) ∧ (m_K μ140 r2 = 6 ∧ (p_X5_judge r2 (m_I μ140 r0 (i3 + (1 : Int32)).toNatClampNeg) μ140 (fun v147 μ148 =>
    (if v139 = v147 then
    ((∀ i3_154 : Int32, i3_154 = i3 + (6 : Int32) →
     k18 bc bs i3_154 μ148))
    else
    (Q (0 : Int32) μ148)))))))))))))
   else (if ((m_I μ r0 i3.toNatClampNeg) &&& (31 : Int32)) = 6 then
   (((0 < r0 ∧ r0 < 64) ∧ (vp_in (i3 + (1 : Int32)) (m_N μ r0) ∧ (m_K μ r1 = 1 ∧ (p_X0_flies r1 (m_I μ r0 (i3 + (1 : Int32)).toNatClampNeg) μ (fun v160 μ161 =>
    ((0 < r0 ∧ r0 < 64) ∧ (vp_in (i3 + (1 : Int32)) (m_N μ161 r0) ∧ (m_K μ161 r2 = 6 ∧ (p_X5_flies r2 (m_I μ161 r0 (i3 + (1 : Int32)).toNatClampNeg) μ161 (fun v168 μ169 =>
    (if v160 = v168 then
    ((∀ i3_175 : Int32, i3_175 = i3 + (6 : Int32) →
     k18 bc bs i3_175 μ169))
    else
    (Q (0 : Int32) μ169)))))))))))))
   else (if ((m_I μ r0 i3.toNatClampNeg) &&& (31 : Int32)) = 7 then
   (((0 < r0 ∧ r0 < 64) ∧ (vp_in (i3 + (1 : Int32)) (m_N μ r0) ∧ ((0 < r0 ∧ r0 < 64) ∧ (vp_in (i3 + (2 : Int32)) (m_N μ r0) ∧ ((0 < r0 ∧ r0 < 64) ∧ (vp_in (i3 + (3 : Int32)) (m_N μ r0) ∧ ((0 < r0 ∧ r0 < 64) ∧ (vp_in (i3 + (4 : Int32)) (m_N μ r0) ∧ ((0 < r0 ∧ r0 < 64) ∧ (vp_in (i3 + (5 : Int32)) (m_N μ r0) ∧ (m_K μ r1 = 1 ∧ (p_X0_feed r1 (m_I μ r0 (i3 + (1 : Int32)).toNatClampNeg) (m_I μ r0 (i3 + (2 : Int32)).toNatClampNeg) (m_I μ r0 (i3 + (3 : Int32)).toNatClampNeg) (m_I μ r0 (i3 + (4 : Int32)).toNatClampNeg) (m_I μ r0 (i3 + (5 : Int32)).toNatClampNeg) μ (fun v189 μ190 =>
    ((0 < r0 ∧ r0 < 64) ∧ (vp_in (i3 + (1 : Int32)) (m_N μ190 r0) ∧ ((0 < r0 ∧ r0 < 64) ∧ (vp_in (i3 + (2 : Int32)) (m_N μ190 r0) ∧ ((0 < r0 ∧ r0 < 64) ∧ (vp_in (i3 + (3 : Int32)) (m_N μ190 r0) ∧ ((0 < r0 ∧ r0 < 64) ∧ (vp_in (i3 + (4 : Int32)) (m_N μ190 r0) ∧ ((0 < r0 ∧ r0 < 64) ∧ (vp_in (i3 + (5 : Int32)) (m_N μ190 r0) ∧ (m_K μ190 r2 = 6 ∧ (p_X5_feed r2 (m_I μ190 r0 (i3 + (1 : Int32)).toNatClampNeg) (m_I μ190 r0 (i3 + (2 : Int32)).toNatClampNeg) (m_I μ190 r0 (i3 + (3 : Int32)).toNatClampNeg) (m_I μ190 r0 (i3 + (4 : Int32)).toNatClampNeg) (m_I μ190 r0 (i3 + (5 : Int32)).toNatClampNeg) μ190 (fun v205 μ206 =>
    (if v189 = v205 then
    ((∀ i3_212 : Int32, i3_212 = i3 + (6 : Int32) →
     k18 bc bs i3_212 μ206))
    else
    (Q (0 : Int32) μ206)))))))))))))))))))))))))))))
   else (if ((m_I μ r0 i3.toNatClampNeg) &&& (31 : Int32)) = 8 then
   (((0 < r0 ∧ r0 < 64) ∧ (vp_in (i3 + (1 : Int32)) (m_N μ r0) ∧ (m_K μ r1 = 1 ∧ (p_X0_end r1 (m_I μ r0 (i3 + (1 : Int32)).toNatClampNeg) μ (fun v218 μ219 =>
    ((0 < r0 ∧ r0 < 64) ∧ (vp_in (i3 + (1 : Int32)) (m_N μ219 r0) ∧ (m_K μ219 r2 = 6 ∧ (p_X5_end r2 (m_I μ219 r0 (i3 + (1 : Int32)).toNatClampNeg) μ219 (fun v226 μ227 =>
    (if v218 = v226 then
    ((∀ i3_233 : Int32, i3_233 = i3 + (6 : Int32) →
     k18 bc bs i3_233 μ227))
    else
    (Q (0 : Int32) μ227)))))))))))))
   else (if ((m_I μ r0 i3.toNatClampNeg) &&& (31 : Int32)) = 9 then
   ((m_K μ r1 = 1 ∧ (∃ b239 b240, b239 ≤ bc ∧ b240 ≤ bs ∧ (p_X0_text b239 b240 r1 μ (fun v237 μ238 =>
    (m_K μ238 r2 = 6 ∧ (p_X5_text r2 μ238 (fun v247 μ248 =>
    (if v237 = v247 then
    ((∀ i3_254 : Int32, i3_254 = i3 + (6 : Int32) →
     k18 (bc - b239) (bs - b240) i3_254 μ248))
    else
    (Q (0 : Int32) μ248))))))))))
   else (if ((m_I μ r0 i3.toNatClampNeg) &&& (31 : Int32)) = 10 then
   (((0 < r0 ∧ r0 < 64) ∧ (vp_in (i3 + (1 : Int32)) (m_N μ r0) ∧ (m_K μ r1 = 1 ∧ (p_X0_fault r1 (m_I μ r0 (i3 + (1 : Int32)).toNatClampNeg) μ (fun v260 μ261 =>
    ((0 < r0 ∧ r0 < 64) ∧ (vp_in (i3 + (1 : Int32)) (m_N μ261 r0) ∧ (m_K μ261 r2 = 6 ∧ (p_X5_fault r2 (m_I μ261 r0 (i3 + (1 : Int32)).toNatClampNeg) μ261 (fun v268 μ269 =>
    (if v260 = v268 then
    ((∀ i3_275 : Int32, i3_275 = i3 + (6 : Int32) →
     k18 bc bs i3_275 μ269))
    else
    (Q (0 : Int32) μ269)))))))))))))
   else (if ((m_I μ r0 i3.toNatClampNeg) &&& (31 : Int32)) = 11 then
   (((0 < r0 ∧ r0 < 64) ∧ (vp_in (i3 + (1 : Int32)) (m_N μ r0) ∧ (m_K μ r1 = 1 ∧ (p_X0_by r1 (m_I μ r0 (i3 + (1 : Int32)).toNatClampNeg) μ (fun v281 μ282 =>
    ((0 < r0 ∧ r0 < 64) ∧ (vp_in (i3 + (1 : Int32)) (m_N μ282 r0) ∧ (m_K μ282 r2 = 6 ∧ (p_X5_by r2 (m_I μ282 r0 (i3 + (1 : Int32)).toNatClampNeg) μ282 (fun v289 μ290 =>
    (if v281 = v289 then
    ((∀ i3_296 : Int32, i3_296 = i3 + (6 : Int32) →
     k18 bc bs i3_296 μ290))
    else
    (Q (0 : Int32) μ290)))))))))))))
   else (if ((m_I μ r0 i3.toNatClampNeg) &&& (31 : Int32)) = 12 then
   (((0 < r0 ∧ r0 < 64) ∧ (vp_in (i3 + (1 : Int32)) (m_N μ r0) ∧ (m_K μ r1 = 1 ∧ (p_X0_played r1 (m_I μ r0 (i3 + (1 : Int32)).toNatClampNeg) μ (fun v302 μ303 =>
    ((0 < r0 ∧ r0 < 64) ∧ (vp_in (i3 + (1 : Int32)) (m_N μ303 r0) ∧ (m_K μ303 r2 = 6 ∧ (p_X5_played r2 (m_I μ303 r0 (i3 + (1 : Int32)).toNatClampNeg) μ303 (fun v310 μ311 =>
    (if v302 = v310 then
    ((∀ i3_317 : Int32, i3_317 = i3 + (6 : Int32) →
     k18 bc bs i3_317 μ311))
    else
    (Q (0 : Int32) μ311)))))))))))))
   else (if ((m_I μ r0 i3.toNatClampNeg) &&& (31 : Int32)) = 13 then
   ((m_K μ r1 = 1 ∧ (p_X0_undo r1 μ (fun v321 μ322 =>
    (m_K μ322 r2 = 6 ∧ (p_X5_undo r2 μ322 (fun v327 μ328 =>
    (if v321 = v327 then
    ((∀ i3_334 : Int32, i3_334 = i3 + (6 : Int32) →
     k18 bc bs i3_334 μ328))
    else
    (Q (0 : Int32) μ328)))))))))
   else (if ((m_I μ r0 i3.toNatClampNeg) &&& (31 : Int32)) = 14 then
   (((0 < r0 ∧ r0 < 64) ∧ (vp_in (i3 + (1 : Int32)) (m_N μ r0) ∧ ((0 < r0 ∧ r0 < 64) ∧ (vp_in (i3 + (2 : Int32)) (m_N μ r0) ∧ (m_K μ r1 = 1 ∧ (p_X0_of r1 (m_I μ r0 (i3 + (1 : Int32)).toNatClampNeg) (m_I μ r0 (i3 + (2 : Int32)).toNatClampNeg) μ (fun v342 μ343 =>
    ((0 < r0 ∧ r0 < 64) ∧ (vp_in (i3 + (1 : Int32)) (m_N μ343 r0) ∧ ((0 < r0 ∧ r0 < 64) ∧ (vp_in (i3 + (2 : Int32)) (m_N μ343 r0) ∧ (m_K μ343 r2 = 6 ∧ (p_X5_of r2 (m_I μ343 r0 (i3 + (1 : Int32)).toNatClampNeg) (m_I μ343 r0 (i3 + (2 : Int32)).toNatClampNeg) μ343 (fun v352 μ353 =>
    (if v342 = v352 then
    ((∀ i3_359 : Int32, i3_359 = i3 + (6 : Int32) →
     k18 bc bs i3_359 μ353))
    else
    (Q (0 : Int32) μ353)))))))))))))))))
   else (if ((m_I μ r0 i3.toNatClampNeg) &&& (31 : Int32)) = 15 then
   (((0 < r0 ∧ r0 < 64) ∧ (vp_in (i3 + (1 : Int32)) (m_N μ r0) ∧ ((0 < r0 ∧ r0 < 64) ∧ (vp_in (i3 + (2 : Int32)) (m_N μ r0) ∧ (m_K μ r1 = 1 ∧ (p_X0_written r1 (m_I μ r0 (i3 + (1 : Int32)).toNatClampNeg) (m_I μ r0 (i3 + (2 : Int32)).toNatClampNeg) μ (fun v367 μ368 =>
    ((0 < r0 ∧ r0 < 64) ∧ (vp_in (i3 + (1 : Int32)) (m_N μ368 r0) ∧ ((0 < r0 ∧ r0 < 64) ∧ (vp_in (i3 + (2 : Int32)) (m_N μ368 r0) ∧ (m_K μ368 r2 = 6 ∧ (p_X5_written r2 (m_I μ368 r0 (i3 + (1 : Int32)).toNatClampNeg) (m_I μ368 r0 (i3 + (2 : Int32)).toNatClampNeg) μ368 (fun v377 μ378 =>
    (if v367 = v377 then
    ((∀ i3_384 : Int32, i3_384 = i3 + (6 : Int32) →
     k18 bc bs i3_384 μ378))
    else
    (Q (0 : Int32) μ378)))))))))))))))))
   else (if ((m_I μ r0 i3.toNatClampNeg) &&& (31 : Int32)) = 16 then
   (((0 < r0 ∧ r0 < 64) ∧ (vp_in (i3 + (1 : Int32)) (m_N μ r0) ∧ ((0 < r0 ∧ r0 < 64) ∧ (vp_in (i3 + (2 : Int32)) (m_N μ r0) ∧ (m_K μ r1 = 1 ∧ (p_X0_dent r1 (m_I μ r0 (i3 + (1 : Int32)).toNatClampNeg) (m_I μ r0 (i3 + (2 : Int32)).toNatClampNeg) μ (fun v392 μ393 =>
    ((0 < r0 ∧ r0 < 64) ∧ (vp_in (i3 + (1 : Int32)) (m_N μ393 r0) ∧ ((0 < r0 ∧ r0 < 64) ∧ (vp_in (i3 + (2 : Int32)) (m_N μ393 r0) ∧ (m_K μ393 r2 = 6 ∧ (p_X5_dent r2 (m_I μ393 r0 (i3 + (1 : Int32)).toNatClampNeg) (m_I μ393 r0 (i3 + (2 : Int32)).toNatClampNeg) μ393 (fun v402 μ403 =>
    (if v392 = v402 then
    ((∀ i3_409 : Int32, i3_409 = i3 + (6 : Int32) →
     k18 bc bs i3_409 μ403))
    else
    (Q (0 : Int32) μ403)))))))))))))))))
   else (if ((m_I μ r0 i3.toNatClampNeg) &&& (31 : Int32)) = 17 then
   (((0 < r0 ∧ r0 < 64) ∧ (vp_in (i3 + (1 : Int32)) (m_N μ r0) ∧ ((0 < r0 ∧ r0 < 64) ∧ (vp_in (i3 + (2 : Int32)) (m_N μ r0) ∧ ((0 < r0 ∧ r0 < 64) ∧ (vp_in (i3 + (3 : Int32)) (m_N μ r0) ∧ (m_K μ r1 = 1 ∧ (p_X0_called r1 (m_I μ r0 (i3 + (1 : Int32)).toNatClampNeg) (m_I μ r0 (i3 + (2 : Int32)).toNatClampNeg) (m_I μ r0 (i3 + (3 : Int32)).toNatClampNeg) μ (fun v419 μ420 =>
    ((0 < r0 ∧ r0 < 64) ∧ (vp_in (i3 + (1 : Int32)) (m_N μ420 r0) ∧ ((0 < r0 ∧ r0 < 64) ∧ (vp_in (i3 + (2 : Int32)) (m_N μ420 r0) ∧ ((0 < r0 ∧ r0 < 64) ∧ (vp_in (i3 + (3 : Int32)) (m_N μ420 r0) ∧ (m_K μ420 r2 = 6 ∧ (p_X5_called r2 (m_I μ420 r0 (i3 + (1 : Int32)).toNatClampNeg) (m_I μ420 r0 (i3 + (2 : Int32)).toNatClampNeg) (m_I μ420 r0 (i3 + (3 : Int32)).toNatClampNeg) μ420 (fun v431 μ432 =>
    (if v419 = v431 then
    ((∀ i3_438 : Int32, i3_438 = i3 + (6 : Int32) →
     k18 bc bs i3_438 μ432))
    else
    (Q (0 : Int32) μ432)))))))))))))))))))))
   else (if ((m_I μ r0 i3.toNatClampNeg) &&& (31 : Int32)) = 18 then
   (((0 < r0 ∧ r0 < 64) ∧ (vp_in (i3 + (1 : Int32)) (m_N μ r0) ∧ ((0 < r0 ∧ r0 < 64) ∧ (vp_in (i3 + (2 : Int32)) (m_N μ r0) ∧ (m_K μ r1 = 1 ∧ (p_X0_acquitted r1 (m_I μ r0 (i3 + (1 : Int32)).toNatClampNeg) (m_I μ r0 (i3 + (2 : Int32)).toNatClampNeg) μ (fun v446 μ447 =>
    ((0 < r0 ∧ r0 < 64) ∧ (vp_in (i3 + (1 : Int32)) (m_N μ447 r0) ∧ ((0 < r0 ∧ r0 < 64) ∧ (vp_in (i3 + (2 : Int32)) (m_N μ447 r0) ∧ (m_K μ447 r2 = 6 ∧ (p_X5_acquitted r2 (m_I μ447 r0 (i3 + (1 : Int32)).toNatClampNeg) (m_I μ447 r0 (i3 + (2 : Int32)).toNatClampNeg) μ447 (fun v456 μ457 =>
    (if v446 = v456 then
    ((∀ i3_463 : Int32, i3_463 = i3 + (6 : Int32) →
     k18 bc bs i3_463 μ457))
    else
    (Q (0 : Int32) μ457)))))))))))))))))
   else (if ((m_I μ r0 i3.toNatClampNeg) &&& (31 : Int32)) = 19 then
   (((0 < r0 ∧ r0 < 64) ∧ (vp_in (i3 + (1 : Int32)) (m_N μ r0) ∧ ((0 < r0 ∧ r0 < 64) ∧ (vp_in (i3 + (2 : Int32)) (m_N μ r0) ∧ ((0 < r0 ∧ r0 < 64) ∧ (vp_in (i3 + (3 : Int32)) (m_N μ r0) ∧ ((0 < r0 ∧ r0 < 64) ∧ (vp_in (i3 + (4 : Int32)) (m_N μ r0) ∧ (m_K μ r1 = 1 ∧ (p_X0_sets r1 (m_I μ r0 (i3 + (1 : Int32)).toNatClampNeg) (m_I μ r0 (i3 + (2 : Int32)).toNatClampNeg) (m_I μ r0 (i3 + (3 : Int32)).toNatClampNeg) (m_I μ r0 (i3 + (4 : Int32)).toNatClampNeg) μ (fun v475 μ476 =>
    ((0 < r0 ∧ r0 < 64) ∧ (vp_in (i3 + (1 : Int32)) (m_N μ476 r0) ∧ ((0 < r0 ∧ r0 < 64) ∧ (vp_in (i3 + (2 : Int32)) (m_N μ476 r0) ∧ ((0 < r0 ∧ r0 < 64) ∧ (vp_in (i3 + (3 : Int32)) (m_N μ476 r0) ∧ ((0 < r0 ∧ r0 < 64) ∧ (vp_in (i3 + (4 : Int32)) (m_N μ476 r0) ∧ (m_K μ476 r2 = 6 ∧ (p_X5_sets r2 (m_I μ476 r0 (i3 + (1 : Int32)).toNatClampNeg) (m_I μ476 r0 (i3 + (2 : Int32)).toNatClampNeg) (m_I μ476 r0 (i3 + (3 : Int32)).toNatClampNeg) (m_I μ476 r0 (i3 + (4 : Int32)).toNatClampNeg) μ476 (fun v489 μ490 =>
    (if v475 = v489 then
    ((∀ i3_496 : Int32, i3_496 = i3 + (6 : Int32) →
     k18 bc bs i3_496 μ490))
    else
    (Q (0 : Int32) μ490)))))))))))))))))))))))))
   else (if ((m_I μ r0 i3.toNatClampNeg) &&& (31 : Int32)) = 20 then
   (((0 < r0 ∧ r0 < 64) ∧ (vp_in (i3 + (1 : Int32)) (m_N μ r0) ∧ ((0 < r0 ∧ r0 < 64) ∧ (vp_in (i3 + (2 : Int32)) (m_N μ r0) ∧ (m_K μ r1 = 1 ∧ (p_X0_tested r1 (m_I μ r0 (i3 + (1 : Int32)).toNatClampNeg) (m_I μ r0 (i3 + (2 : Int32)).toNatClampNeg) μ (fun v504 μ505 =>
    ((0 < r0 ∧ r0 < 64) ∧ (vp_in (i3 + (1 : Int32)) (m_N μ505 r0) ∧ ((0 < r0 ∧ r0 < 64) ∧ (vp_in (i3 + (2 : Int32)) (m_N μ505 r0) ∧ (m_K μ505 r2 = 6 ∧ (p_X5_tested r2 (m_I μ505 r0 (i3 + (1 : Int32)).toNatClampNeg) (m_I μ505 r0 (i3 + (2 : Int32)).toNatClampNeg) μ505 (fun v514 μ515 =>
    (if v504 = v514 then
    ((∀ i3_521 : Int32, i3_521 = i3 + (6 : Int32) →
     k18 bc bs i3_521 μ515))
    else
    (Q (0 : Int32) μ515)))))))))))))))))
   else (if ((m_I μ r0 i3.toNatClampNeg) &&& (31 : Int32)) = 21 then
   ((m_K μ r1 = 1 ∧ (p_X0_fits r1 μ (fun v525 μ526 =>
    (m_K μ526 r2 = 6 ∧ (p_X5_fits r2 μ526 (fun v531 μ532 =>
    (if v525 = v531 then
    ((∀ i3_538 : Int32, i3_538 = i3 + (6 : Int32) →
     k18 bc bs i3_538 μ532))
    else
    (Q (0 : Int32) μ532)))))))))
   else (if ((m_I μ r0 i3.toNatClampNeg) &&& (31 : Int32)) = 22 then
   ((m_K μ r1 = 1 ∧ (∃ b544 b545, b544 ≤ bc ∧ b545 ≤ bs ∧ (p_X0_next b544 b545 r1 μ (fun v542 μ543 =>
    (m_K μ543 r2 = 6 ∧ (p_X5_next r2 μ543 (fun v552 μ553 =>
    (if v542 = v552 then
    ((∀ i3_559 : Int32, i3_559 = i3 + (6 : Int32) →
     k18 (bc - b544) (bs - b545) i3_559 μ553))
    else
    (Q (0 : Int32) μ553))))))))))
   else (if ((m_I μ r0 i3.toNatClampNeg) &&& (31 : Int32)) = 23 then
   (((0 < r0 ∧ r0 < 64) ∧ (vp_in (i3 + (1 : Int32)) (m_N μ r0) ∧ (m_K μ r1 = 1 ∧ (p_X0_hired r1 (m_I μ r0 (i3 + (1 : Int32)).toNatClampNeg) μ (fun v565 μ566 =>
    ((0 < r0 ∧ r0 < 64) ∧ (vp_in (i3 + (1 : Int32)) (m_N μ566 r0) ∧ (m_K μ566 r2 = 6 ∧ (p_X5_hired r2 (m_I μ566 r0 (i3 + (1 : Int32)).toNatClampNeg) μ566 (fun v573 μ574 =>
    (if v565 = v573 then
    ((∀ i3_580 : Int32, i3_580 = i3 + (6 : Int32) →
     k18 bc bs i3_580 μ574))
    else
    (Q (0 : Int32) μ574)))))))))))))
   else (if ((m_I μ r0 i3.toNatClampNeg) &&& (31 : Int32)) = 24 then
   ((m_K μ r1 = 1 ∧ (p_X0_contrary r1 μ (fun v584 μ585 =>
    (m_K μ585 r2 = 6 ∧ (p_X5_contrary r2 μ585 (fun v590 μ591 =>
    (if v584 = v590 then
    ((∀ i3_597 : Int32, i3_597 = i3 + (6 : Int32) →
     k18 bc bs i3_597 μ591))
    else
    (Q (0 : Int32) μ591)))))))))
   else (if ((m_I μ r0 i3.toNatClampNeg) &&& (31 : Int32)) = 25 then
   (((0 < r0 ∧ r0 < 64) ∧ (vp_in (i3 + (1 : Int32)) (m_N μ r0) ∧ ((0 < r0 ∧ r0 < 64) ∧ (vp_in (i3 + (2 : Int32)) (m_N μ r0) ∧ ((0 < r0 ∧ r0 < 64) ∧ (vp_in (i3 + (3 : Int32)) (m_N μ r0) ∧ (if (m_I μ r0 (i3 + (3 : Int32)).toNatClampNeg) = 0 then
    (p_L_law_L925 k18 r0 r1 r2 i3 r1 (m_I μ r0 (i3 + (1 : Int32)).toNatClampNeg) (m_I μ r0 (i3 + (2 : Int32)).toNatClampNeg) (0 : Int32) bc bs μ Q)
    else
    (p_L_law_L925 k18 r0 r1 r2 i3 r1 (m_I μ r0 (i3 + (1 : Int32)).toNatClampNeg) (m_I μ r0 (i3 + (2 : Int32)).toNatClampNeg) (1 : Int32) bc bs μ Q)))))))))
   else (if ((m_I μ r0 i3.toNatClampNeg) &&& (31 : Int32)) = 26 then
   (((0 < r0 ∧ r0 < 64) ∧ (vp_in (i3 + (1 : Int32)) (m_N μ r0) ∧ ((0 < r0 ∧ r0 < 64) ∧ (vp_in (i3 + (2 : Int32)) (m_N μ r0) ∧ (m_K μ r1 = 1 ∧ (p_X0_tell r1 (m_I μ r0 (i3 + (1 : Int32)).toNatClampNeg) (m_I μ r0 (i3 + (2 : Int32)).toNatClampNeg) μ (fun v613 μ614 =>
    ((0 < r0 ∧ r0 < 64) ∧ (vp_in (i3 + (1 : Int32)) (m_N μ614 r0) ∧ ((0 < r0 ∧ r0 < 64) ∧ (vp_in (i3 + (2 : Int32)) (m_N μ614 r0) ∧ (m_K μ614 r2 = 6 ∧ (p_X5_tell r2 (m_I μ614 r0 (i3 + (1 : Int32)).toNatClampNeg) (m_I μ614 r0 (i3 + (2 : Int32)).toNatClampNeg) μ614 (fun v623 μ624 =>
    (if v613 = v623 then
    ((∀ i3_630 : Int32, i3_630 = i3 + (6 : Int32) →
     k18 bc bs i3_630 μ624))
    else
    (Q (0 : Int32) μ624)))))))))))))))))
   else (if ((m_I μ r0 i3.toNatClampNeg) &&& (31 : Int32)) = 27 then
   ((m_K μ r1 = 1 ∧ (p_X0_liars r1 μ (fun v634 μ635 =>
    (m_K μ635 r2 = 6 ∧ (p_X5_liars r2 μ635 (fun v640 μ641 =>
    (if v634 = v640 then
    ((∀ i3_647 : Int32, i3_647 = i3 + (6 : Int32) →
     k18 bc bs i3_647 μ641))
    else
    (Q (0 : Int32) μ641)))))))))
   else (if ((m_I μ r0 i3.toNatClampNeg) &&& (31 : Int32)) = 28 then
   (((0 < r0 ∧ r0 < 64) ∧ (vp_in (i3 + (1 : Int32)) (m_N μ r0) ∧ (m_K μ r1 = 1 ∧ (p_X0_inWhoseName r1 (m_I μ r0 (i3 + (1 : Int32)).toNatClampNeg) μ (fun v653 μ654 =>
    ((0 < r0 ∧ r0 < 64) ∧ (vp_in (i3 + (1 : Int32)) (m_N μ654 r0) ∧ (m_K μ654 r2 = 6 ∧ (p_X5_inWhoseName r2 (m_I μ654 r0 (i3 + (1 : Int32)).toNatClampNeg) μ654 (fun v661 μ662 =>
    (if v653 = v661 then
    ((∀ i3_668 : Int32, i3_668 = i3 + (6 : Int32) →
     k18 bc bs i3_668 μ662))
    else
    (Q (0 : Int32) μ662)))))))))))))
   else (if ((m_I μ r0 i3.toNatClampNeg) &&& (31 : Int32)) = 29 then
   ((m_K μ r1 = 1 ∧ (p_X0_image r1 μ (fun v672 μ673 =>
    (m_K μ673 r2 = 6 ∧ (p_X5_image r2 μ673 (fun v678 μ679 =>
    (if v672 = v678 then
    ((∀ i3_685 : Int32, i3_685 = i3 + (6 : Int32) →
     k18 bc bs i3_685 μ679))
    else
    (Q (0 : Int32) μ679)))))))))
   else (if ((m_I μ r0 i3.toNatClampNeg) &&& (31 : Int32)) = 30 then
   ((m_K μ r1 = 1 ∧ (p_X0_back r1 μ (fun v689 μ690 =>
    (m_K μ690 r2 = 6 ∧ (p_X5_back r2 μ690 (fun v695 μ696 =>
    (if v689 = v695 then
    ((∀ i3_702 : Int32, i3_702 = i3 + (6 : Int32) →
     k18 bc bs i3_702 μ696))
    else
    (Q (0 : Int32) μ696)))))))))
   else (if ((m_I μ r0 i3.toNatClampNeg) &&& (31 : Int32)) = 31 then
   (((0 < r0 ∧ r0 < 64) ∧ (vp_in (i3 + (1 : Int32)) (m_N μ r0) ∧ (m_K μ r1 = 1 ∧ (p_X0_about r1 (m_I μ r0 (i3 + (1 : Int32)).toNatClampNeg) μ (fun v708 μ709 =>
    ((0 < r0 ∧ r0 < 64) ∧ (vp_in (i3 + (1 : Int32)) (m_N μ709 r0) ∧ (m_K μ709 r2 = 6 ∧ (p_X5_about r2 (m_I μ709 r0 (i3 + (1 : Int32)).toNatClampNeg) μ709 (fun v716 μ717 =>
    (if v708 = v716 then
    ((∀ i3_723 : Int32, i3_723 = i3 + (6 : Int32) →
     k18 bc bs i3_723 μ717))
    else
    (Q (0 : Int32) μ717)))))))))))))
   else (∀ i3_725 : Int32, i3_725 = i3 + (6 : Int32) →
    k18 bc bs i3_725 μ)))))))))))))))))))))))))))))))))))))))
def p_L_law_L18 (r0 : Nat) (r1 : Nat) (r2 : Nat) (bc : Nat) (bs : Nat) (i3 : Int32) (μ : fw_M) (Q : Int32 → fw_M → Prop) : Prop := fw_lp (fun (k : Nat × Nat × Int32 × fw_M → Prop) (a : Nat × Nat × Int32 × fw_M) => p_L_law_L18b r0 r1 r2 (fun bc bs i3 μ => k (bc, bs, i3, μ)) a.1 a.2.1 a.2.2.1 a.2.2.2 Q) (bc, bs, i3, μ)
theorem r_L_law_L18 {r0 : Nat} {r1 : Nat} {r2 : Nat} {Q : Int32 → fw_M → Prop} (I : Nat → Nat → Int32 → fw_M → Prop) (v : Nat → Nat → Int32 → fw_M → Nat) (hs : ∀ (k : Nat → Nat → Int32 → fw_M → Prop) (bc : Nat) (bs : Nat) (i3 : Int32) (μ : fw_M), I bc bs i3 μ → (∀ (bc' : Nat) (bs' : Nat) (i3' : Int32) (ν : fw_M), I bc' bs' i3' ν → v bc' bs' i3' ν < v bc bs i3 μ → k bc' bs' i3' ν) → p_L_law_L18b r0 r1 r2 k bc bs i3 μ Q) (bc : Nat) (bs : Nat) (i3 : Int32) (μ : fw_M) (h : I bc bs i3 μ) : p_L_law_L18 r0 r1 r2 bc bs i3 μ Q :=
  fw_lp_in (A := Nat × Nat × Int32 × fw_M) (fun a => I a.1 a.2.1 a.2.2.1 a.2.2.2) (fun a => v a.1 a.2.1 a.2.2.1 a.2.2.2) (fun k a ha hk => hs (fun bc bs i3 μ => k (bc, bs, i3, μ)) a.1 a.2.1 a.2.2.1 a.2.2.2 ha (fun bc' bs' i3' ν hb hlt => hk (bc', bs', i3', ν) hb hlt)) (bc, bs, i3, μ) h
set_option maxHeartbeats 4000000 in
theorem w_L_law_L18b {g : fw_G} {nm9 : String} {hh9 : List (Nat × Nat × Nat × Nat)} {f : Nat} {r0 : Nat} {r1 : Nat} {r2 : Nat} {k18 : Nat → Nat → Int32 → fw_M → Prop} {bc : Nat} {bs : Nat} {i3 : Int32} {μ : fw_M} {Q : Int32 → fw_M → Prop} (hf : 827 ≤ f) (hk18 : ∀ {bc : Nat} {bs : Nat} {i3 : Int32} {μ : fw_M}, k18 bc bs i3 μ → fw_V g (K_L_law nm9 hh9) f bc bs 18 [(0, fw_rv g r0), (1, fw_rv g r1), (2, fw_rv g r2), (3, Value.int i3)] [] μ (fw_Qi Q) fw_nX) (h : p_L_law_L18b r0 r1 r2 k18 bc bs i3 μ Q) : fw_V g (K_L_law nm9 hh9) f bc bs 18 [(0, fw_rv g r0), (1, fw_rv g r1), (2, fw_rv g r2), (3, Value.int i3)] [] μ (fw_Qi Q) fw_nX := by
  unfold p_L_law_L18b at h
  refine fw_iload_n dL_law_18 rfl rfl ?_
  refine fw_aload_n dL_law_19 rfl rfl ?_
  obtain ⟨hg1, h⟩ := h
  obtain ⟨hc2, h⟩ := h
  refine fw_xlen150 hc2 hg1 dL_law_20 ?_
  refine fw_bipush (v := 6) dL_law_21 (by decide) ?_
  refine fw_isub dL_law_23 ?_
  refine fw_icmp_gt (tgt := 1085) dL_law_24 (by decide) (fun c3 => ?_) (fun c3 => ?_)
  · have h := fw_it h c3
    refine fw_iconst (v := 1) dL_law_1085 (by decide) ?_
    exact fw_ireturn dL_law_1086 rfl (by decide +kernel) ⟨_, rfl, h⟩
  · have h := fw_if h c3
    refine fw_aload_n dL_law_27 rfl rfl ?_
    refine fw_iload_n dL_law_28 rfl rfl ?_
    obtain ⟨hc4, h⟩ := h
    obtain ⟨hc5, h⟩ := h
    refine fw_xiald hc4 hg1 hc5 dL_law_29 ?_
    refine fw_bipush (v := 31) dL_law_30 (by decide) ?_
    refine fw_iand dL_law_32 ?_
    refine fw_sw (k := 0) h (fun c6 h => ?_) (fun c6 h => ?_)
    · refine fw_tableIn (tgt := 176) dL_law_33 (by rw [c6]; decide) (by rw [c6]; decide) (by rw [c6]; rfl) (by decide) ?_
      refine fw_aload_n dL_law_176 rfl rfl ?_
      refine fw_aload_n dL_law_177 rfl rfl ?_
      refine fw_iload_n dL_law_178 rfl rfl ?_
      refine fw_iconst (v := 1) dL_law_179 (by decide) ?_
      refine fw_iadd dL_law_180 ?_
      obtain ⟨hc7, h⟩ := h
      obtain ⟨hc8, h⟩ := h
      refine fw_xiald hc7 hg1 hc8 dL_law_181 ?_
      refine fw_aload_n dL_law_182 rfl rfl ?_
      refine fw_iload_n dL_law_183 rfl rfl ?_
      refine fw_iconst (v := 2) dL_law_184 (by decide) ?_
      refine fw_iadd dL_law_185 ?_
      obtain ⟨hc9, h⟩ := h
      obtain ⟨hc10, h⟩ := h
      refine fw_xiald hc9 hg1 hc10 dL_law_186 ?_
      refine fw_aload_n dL_law_187 rfl rfl ?_
      refine fw_iload_n dL_law_188 rfl rfl ?_
      refine fw_iconst (v := 3) dL_law_189 (by decide) ?_
      refine fw_iadd dL_law_190 ?_
      obtain ⟨hc11, h⟩ := h
      obtain ⟨hc12, h⟩ := h
      refine fw_xiald hc11 hg1 hc12 dL_law_191 ?_
      obtain ⟨hg13, h⟩ := h
      refine fw_callV3z (f1 := f - 1) cl_L_13 rfl hg13 (by decide) (by omega) (fw_s4 (Nat.le_of_ble_eq_true rfl)) dL_law_192 (w_X0_pot (f := f - 1) (by omega) hg13 h) (fun _ _ h9 _ _ => h9.elim) (fun v9 μ15 q9 hs16 => ?_)
      obtain ⟨v14, rfl, h⟩ := q9
      refine fw_ti ?_
      have hg17 := hs16.K hg1 (by decide)
      have hg18 := hs16.K hg13 (by decide)
      refine fw_aload_n dL_law_195 rfl rfl ?_
      refine fw_aload_n dL_law_196 rfl rfl ?_
      refine fw_iload_n dL_law_197 rfl rfl ?_
      refine fw_iconst (v := 1) dL_law_198 (by decide) ?_
      refine fw_iadd dL_law_199 ?_
      obtain ⟨hc19, h⟩ := h
      obtain ⟨hc20, h⟩ := h
      refine fw_xiald hc19 hg17 hc20 dL_law_200 ?_
      refine fw_aload_n dL_law_201 rfl rfl ?_
      refine fw_iload_n dL_law_202 rfl rfl ?_
      refine fw_iconst (v := 2) dL_law_203 (by decide) ?_
      refine fw_iadd dL_law_204 ?_
      obtain ⟨hc21, h⟩ := h
      obtain ⟨hc22, h⟩ := h
      refine fw_xiald hc21 hg17 hc22 dL_law_205 ?_
      refine fw_aload_n dL_law_206 rfl rfl ?_
      refine fw_iload_n dL_law_207 rfl rfl ?_
      refine fw_iconst (v := 3) dL_law_208 (by decide) ?_
      refine fw_iadd dL_law_209 ?_
      obtain ⟨hc23, h⟩ := h
      obtain ⟨hc24, h⟩ := h
      refine fw_xiald hc23 hg17 hc24 dL_law_210 ?_
      obtain ⟨hg25, h⟩ := h
      refine fw_callV3z (f1 := f - 1) cl_L_17 rfl hg25 (by decide) (by omega) (fw_s4 (Nat.le_of_ble_eq_true rfl)) dL_law_211 (w_X5_pot (f := f - 1) (by omega) hg25 h) (fun _ _ h9 _ _ => h9.elim) (fun v9 μ27 q9 hs28 => ?_)
      obtain ⟨v26, rfl, h⟩ := q9
      refine fw_ti ?_
      have hg29 := hs28.K hg17 (by decide)
      have hg30 := hs28.K hg18 (by decide)
      have hg31 := hs28.K hg25 (by decide)
      refine fw_icmp_eq (tgt := 1079) dL_law_214 (by decide) (fun c32 => ?_) (fun c32 => ?_)
      · have h := fw_it h c32
        obtain ⟨i3_33, e34⟩ : ∃ y : Int32, y = i3 + (6 : Int32) := ⟨_, rfl⟩
        have h := h i3_33 e34
        refine fw_iincN (k := 3) (v := i3_33) (Ls' := [(3, Value.int i3_33), (2, fw_rv g r2), (0, fw_rv g r0), (1, fw_rv g r1)]) [0, 1] dL_law_1079 rfl (by rw [e34]; rfl) (show _ < 4 by decide) rfl rfl rfl (fw_cat _) rfl ?_
        refine fw_goto (tgt := 18) dL_law_1082 (by decide) ?_
        refine fw_ls [2, 3, 1, 0] rfl ?_
        exact hk18 h
      · have h := fw_if h c32
        refine fw_iconst (v := 0) dL_law_217 (by decide) ?_
        exact fw_ireturn dL_law_218 rfl (by decide +kernel) ⟨_, rfl, h⟩
    · refine fw_sw (k := 1) h (fun c35 h => ?_) (fun c35 h => ?_)
      · refine fw_tableIn (tgt := 219) dL_law_33 (by rw [c35]; decide) (by rw [c35]; decide) (by rw [c35]; rfl) (by decide) ?_
        refine fw_aload_n dL_law_219 rfl rfl ?_
        refine fw_aload_n dL_law_220 rfl rfl ?_
        refine fw_iload_n dL_law_221 rfl rfl ?_
        refine fw_iconst (v := 1) dL_law_222 (by decide) ?_
        refine fw_iadd dL_law_223 ?_
        obtain ⟨hc36, h⟩ := h
        obtain ⟨hc37, h⟩ := h
        refine fw_xiald hc36 hg1 hc37 dL_law_224 ?_
        refine fw_aload_n dL_law_225 rfl rfl ?_
        refine fw_iload_n dL_law_226 rfl rfl ?_
        refine fw_iconst (v := 2) dL_law_227 (by decide) ?_
        refine fw_iadd dL_law_228 ?_
        obtain ⟨hc38, h⟩ := h
        obtain ⟨hc39, h⟩ := h
        refine fw_xiald hc38 hg1 hc39 dL_law_229 ?_
        refine fw_aload_n dL_law_230 rfl rfl ?_
        refine fw_iload_n dL_law_231 rfl rfl ?_
        refine fw_iconst (v := 3) dL_law_232 (by decide) ?_
        refine fw_iadd dL_law_233 ?_
        obtain ⟨hc40, h⟩ := h
        obtain ⟨hc41, h⟩ := h
        refine fw_xiald hc40 hg1 hc41 dL_law_234 ?_
        obtain ⟨hg42, h⟩ := h
        refine fw_callV3z (f1 := f - 1) cl_L_18 rfl hg42 (by decide) (by omega) (fw_s4 (Nat.le_of_ble_eq_true rfl)) dL_law_235 (w_X0_eater (f := f - 1) (by omega) hg42 h) (fun _ _ h9 _ _ => h9.elim) (fun v9 μ44 q9 hs45 => ?_)
        obtain ⟨v43, rfl, h⟩ := q9
        refine fw_ti ?_
        have hg46 := hs45.K hg1 (by decide)
        have hg47 := hs45.K hg42 (by decide)
        refine fw_aload_n dL_law_238 rfl rfl ?_
        refine fw_aload_n dL_law_239 rfl rfl ?_
        refine fw_iload_n dL_law_240 rfl rfl ?_
        refine fw_iconst (v := 1) dL_law_241 (by decide) ?_
        refine fw_iadd dL_law_242 ?_
        obtain ⟨hc48, h⟩ := h
        obtain ⟨hc49, h⟩ := h
        refine fw_xiald hc48 hg46 hc49 dL_law_243 ?_
        refine fw_aload_n dL_law_244 rfl rfl ?_
        refine fw_iload_n dL_law_245 rfl rfl ?_
        refine fw_iconst (v := 2) dL_law_246 (by decide) ?_
        refine fw_iadd dL_law_247 ?_
        obtain ⟨hc50, h⟩ := h
        obtain ⟨hc51, h⟩ := h
        refine fw_xiald hc50 hg46 hc51 dL_law_248 ?_
        refine fw_aload_n dL_law_249 rfl rfl ?_
        refine fw_iload_n dL_law_250 rfl rfl ?_
        refine fw_iconst (v := 3) dL_law_251 (by decide) ?_
        refine fw_iadd dL_law_252 ?_
        obtain ⟨hc52, h⟩ := h
        obtain ⟨hc53, h⟩ := h
        refine fw_xiald hc52 hg46 hc53 dL_law_253 ?_
        obtain ⟨hg54, h⟩ := h
        refine fw_callV3z (f1 := f - 1) cl_L_22 rfl hg54 (by decide) (by omega) (fw_s4 (Nat.le_of_ble_eq_true rfl)) dL_law_254 (w_X5_eater (f := f - 1) (by omega) hg54 h) (fun _ _ h9 _ _ => h9.elim) (fun v9 μ56 q9 hs57 => ?_)
        obtain ⟨v55, rfl, h⟩ := q9
        refine fw_ti ?_
        have hg58 := hs57.K hg46 (by decide)
        have hg59 := hs57.K hg47 (by decide)
        have hg60 := hs57.K hg54 (by decide)
        refine fw_icmp_eq (tgt := 1079) dL_law_257 (by decide) (fun c61 => ?_) (fun c61 => ?_)
        · have h := fw_it h c61
          obtain ⟨i3_62, e63⟩ : ∃ y : Int32, y = i3 + (6 : Int32) := ⟨_, rfl⟩
          have h := h i3_62 e63
          refine fw_iincN (k := 3) (v := i3_62) (Ls' := [(3, Value.int i3_62), (2, fw_rv g r2), (0, fw_rv g r0), (1, fw_rv g r1)]) [0, 1] dL_law_1079 rfl (by rw [e63]; rfl) (show _ < 4 by decide) rfl rfl rfl (fw_cat _) rfl ?_
          refine fw_goto (tgt := 18) dL_law_1082 (by decide) ?_
          refine fw_ls [2, 3, 1, 0] rfl ?_
          exact hk18 h
        · have h := fw_if h c61
          refine fw_iconst (v := 0) dL_law_260 (by decide) ?_
          exact fw_ireturn dL_law_261 rfl (by decide +kernel) ⟨_, rfl, h⟩
      · refine fw_sw (k := 2) h (fun c64 h => ?_) (fun c64 h => ?_)
        · refine fw_tableIn (tgt := 262) dL_law_33 (by rw [c64]; decide) (by rw [c64]; decide) (by rw [c64]; rfl) (by decide) ?_
          refine fw_aload_n dL_law_262 rfl rfl ?_
          refine fw_aload_n dL_law_263 rfl rfl ?_
          refine fw_iload_n dL_law_264 rfl rfl ?_
          refine fw_iconst (v := 1) dL_law_265 (by decide) ?_
          refine fw_iadd dL_law_266 ?_
          obtain ⟨hc65, h⟩ := h
          obtain ⟨hc66, h⟩ := h
          refine fw_xiald hc65 hg1 hc66 dL_law_267 ?_
          obtain ⟨hg67, h⟩ := h
          refine fw_callV1z (f1 := f - 1) cl_L_23 rfl hg67 (by decide) (by omega) (fw_s4 (Nat.le_of_ble_eq_true rfl)) dL_law_268 (w_X0_seed (f := f - 1) (by omega) hg67 h) (fun _ _ h9 _ _ => h9.elim) (fun v9 μ69 q9 hs70 => ?_)
          obtain ⟨v68, rfl, h⟩ := q9
          refine fw_ti ?_
          have hg71 := hs70.K hg1 (by decide)
          have hg72 := hs70.K hg67 (by decide)
          refine fw_aload_n dL_law_271 rfl rfl ?_
          refine fw_aload_n dL_law_272 rfl rfl ?_
          refine fw_iload_n dL_law_273 rfl rfl ?_
          refine fw_iconst (v := 1) dL_law_274 (by decide) ?_
          refine fw_iadd dL_law_275 ?_
          obtain ⟨hc73, h⟩ := h
          obtain ⟨hc74, h⟩ := h
          refine fw_xiald hc73 hg71 hc74 dL_law_276 ?_
          obtain ⟨hg75, h⟩ := h
          refine fw_callV1z (f1 := f - 1) cl_L_27 rfl hg75 (by decide) (by omega) (fw_s4 (Nat.le_of_ble_eq_true rfl)) dL_law_277 (w_X5_seed (f := f - 1) (by omega) hg75 h) (fun _ _ h9 _ _ => h9.elim) (fun v9 μ77 q9 hs78 => ?_)
          obtain ⟨v76, rfl, h⟩ := q9
          refine fw_ti ?_
          have hg79 := hs78.K hg71 (by decide)
          have hg80 := hs78.K hg72 (by decide)
          have hg81 := hs78.K hg75 (by decide)
          refine fw_icmp_eq (tgt := 1079) dL_law_280 (by decide) (fun c82 => ?_) (fun c82 => ?_)
          · have h := fw_it h c82
            obtain ⟨i3_83, e84⟩ : ∃ y : Int32, y = i3 + (6 : Int32) := ⟨_, rfl⟩
            have h := h i3_83 e84
            refine fw_iincN (k := 3) (v := i3_83) (Ls' := [(3, Value.int i3_83), (2, fw_rv g r2), (0, fw_rv g r0), (1, fw_rv g r1)]) [0, 1] dL_law_1079 rfl (by rw [e84]; rfl) (show _ < 4 by decide) rfl rfl rfl (fw_cat _) rfl ?_
            refine fw_goto (tgt := 18) dL_law_1082 (by decide) ?_
            refine fw_ls [2, 3, 1, 0] rfl ?_
            exact hk18 h
          · have h := fw_if h c82
            refine fw_iconst (v := 0) dL_law_283 (by decide) ?_
            exact fw_ireturn dL_law_284 rfl (by decide +kernel) ⟨_, rfl, h⟩
        · refine fw_sw (k := 3) h (fun c85 h => ?_) (fun c85 h => ?_)
          · refine fw_tableIn (tgt := 285) dL_law_33 (by rw [c85]; decide) (by rw [c85]; decide) (by rw [c85]; rfl) (by decide) ?_
            refine fw_aload_n dL_law_285 rfl rfl ?_
            refine fw_aload_n dL_law_286 rfl rfl ?_
            refine fw_iload_n dL_law_287 rfl rfl ?_
            refine fw_iconst (v := 1) dL_law_288 (by decide) ?_
            refine fw_iadd dL_law_289 ?_
            obtain ⟨hc86, h⟩ := h
            obtain ⟨hc87, h⟩ := h
            refine fw_xiald hc86 hg1 hc87 dL_law_290 ?_
            refine fw_aload_n dL_law_291 rfl rfl ?_
            refine fw_iload_n dL_law_292 rfl rfl ?_
            refine fw_iconst (v := 2) dL_law_293 (by decide) ?_
            refine fw_iadd dL_law_294 ?_
            obtain ⟨hc88, h⟩ := h
            obtain ⟨hc89, h⟩ := h
            refine fw_xiald hc88 hg1 hc89 dL_law_295 ?_
            obtain ⟨hg90, h⟩ := h
            refine fw_callV2z (f1 := f - 1) cl_L_28 rfl hg90 (by decide) (by omega) (fw_s4 (Nat.le_of_ble_eq_true rfl)) dL_law_296 (w_X0_sit (f := f - 1) (by omega) hg90 h) (fun _ _ h9 _ _ => h9.elim) (fun v9 μ92 q9 hs93 => ?_)
            obtain ⟨v91, rfl, h⟩ := q9
            refine fw_ti ?_
            have hg94 := hs93.K hg1 (by decide)
            have hg95 := hs93.K hg90 (by decide)
            refine fw_aload_n dL_law_299 rfl rfl ?_
            refine fw_aload_n dL_law_300 rfl rfl ?_
            refine fw_iload_n dL_law_301 rfl rfl ?_
            refine fw_iconst (v := 1) dL_law_302 (by decide) ?_
            refine fw_iadd dL_law_303 ?_
            obtain ⟨hc96, h⟩ := h
            obtain ⟨hc97, h⟩ := h
            refine fw_xiald hc96 hg94 hc97 dL_law_304 ?_
            refine fw_aload_n dL_law_305 rfl rfl ?_
            refine fw_iload_n dL_law_306 rfl rfl ?_
            refine fw_iconst (v := 2) dL_law_307 (by decide) ?_
            refine fw_iadd dL_law_308 ?_
            obtain ⟨hc98, h⟩ := h
            obtain ⟨hc99, h⟩ := h
            refine fw_xiald hc98 hg94 hc99 dL_law_309 ?_
            obtain ⟨hg100, h⟩ := h
            refine fw_callV2z (f1 := f - 1) cl_L_32 rfl hg100 (by decide) (by omega) (fw_s4 (Nat.le_of_ble_eq_true rfl)) dL_law_310 (w_X5_sit (f := f - 1) (by omega) hg100 h) (fun _ _ h9 _ _ => h9.elim) (fun v9 μ102 q9 hs103 => ?_)
            obtain ⟨v101, rfl, h⟩ := q9
            refine fw_ti ?_
            have hg104 := hs103.K hg94 (by decide)
            have hg105 := hs103.K hg95 (by decide)
            have hg106 := hs103.K hg100 (by decide)
            refine fw_icmp_eq (tgt := 1079) dL_law_313 (by decide) (fun c107 => ?_) (fun c107 => ?_)
            · have h := fw_it h c107
              obtain ⟨i3_108, e109⟩ : ∃ y : Int32, y = i3 + (6 : Int32) := ⟨_, rfl⟩
              have h := h i3_108 e109
              refine fw_iincN (k := 3) (v := i3_108) (Ls' := [(3, Value.int i3_108), (2, fw_rv g r2), (0, fw_rv g r0), (1, fw_rv g r1)]) [0, 1] dL_law_1079 rfl (by rw [e109]; rfl) (show _ < 4 by decide) rfl rfl rfl (fw_cat _) rfl ?_
              refine fw_goto (tgt := 18) dL_law_1082 (by decide) ?_
              refine fw_ls [2, 3, 1, 0] rfl ?_
              exact hk18 h
            · have h := fw_if h c107
              refine fw_iconst (v := 0) dL_law_316 (by decide) ?_
              exact fw_ireturn dL_law_317 rfl (by decide +kernel) ⟨_, rfl, h⟩
          · refine fw_sw (k := 4) h (fun c110 h => ?_) (fun c110 h => ?_)
            · refine fw_tableIn (tgt := 318) dL_law_33 (by rw [c110]; decide) (by rw [c110]; decide) (by rw [c110]; rfl) (by decide) ?_
              refine fw_aload_n dL_law_318 rfl rfl ?_
              refine fw_aload_n dL_law_319 rfl rfl ?_
              refine fw_iload_n dL_law_320 rfl rfl ?_
              refine fw_iconst (v := 1) dL_law_321 (by decide) ?_
              refine fw_iadd dL_law_322 ?_
              obtain ⟨hc111, h⟩ := h
              obtain ⟨hc112, h⟩ := h
              refine fw_xiald hc111 hg1 hc112 dL_law_323 ?_
              refine fw_aload_n dL_law_324 rfl rfl ?_
              refine fw_iload_n dL_law_325 rfl rfl ?_
              refine fw_iconst (v := 2) dL_law_326 (by decide) ?_
              refine fw_iadd dL_law_327 ?_
              obtain ⟨hc113, h⟩ := h
              obtain ⟨hc114, h⟩ := h
              refine fw_xiald hc113 hg1 hc114 dL_law_328 ?_
              obtain ⟨hg115, h⟩ := h
              refine fw_callV2z (f1 := f - 1) cl_L_33 rfl hg115 (by decide) (by omega) (fw_s4 (Nat.le_of_ble_eq_true rfl)) dL_law_329 (w_X0_spoon (f := f - 1) (by omega) hg115 h) (fun _ _ h9 _ _ => h9.elim) (fun v9 μ117 q9 hs118 => ?_)
              obtain ⟨v116, rfl, h⟩ := q9
              refine fw_ti ?_
              have hg119 := hs118.K hg1 (by decide)
              have hg120 := hs118.K hg115 (by decide)
              refine fw_aload_n dL_law_332 rfl rfl ?_
              refine fw_aload_n dL_law_333 rfl rfl ?_
              refine fw_iload_n dL_law_334 rfl rfl ?_
              refine fw_iconst (v := 1) dL_law_335 (by decide) ?_
              refine fw_iadd dL_law_336 ?_
              obtain ⟨hc121, h⟩ := h
              obtain ⟨hc122, h⟩ := h
              refine fw_xiald hc121 hg119 hc122 dL_law_337 ?_
              refine fw_aload_n dL_law_338 rfl rfl ?_
              refine fw_iload_n dL_law_339 rfl rfl ?_
              refine fw_iconst (v := 2) dL_law_340 (by decide) ?_
              refine fw_iadd dL_law_341 ?_
              obtain ⟨hc123, h⟩ := h
              obtain ⟨hc124, h⟩ := h
              refine fw_xiald hc123 hg119 hc124 dL_law_342 ?_
              obtain ⟨hg125, h⟩ := h
              refine fw_callV2z (f1 := f - 1) cl_L_37 rfl hg125 (by decide) (by omega) (fw_s4 (Nat.le_of_ble_eq_true rfl)) dL_law_343 (w_X5_spoon (f := f - 1) (by omega) hg125 h) (fun _ _ h9 _ _ => h9.elim) (fun v9 μ127 q9 hs128 => ?_)
              obtain ⟨v126, rfl, h⟩ := q9
              refine fw_ti ?_
              have hg129 := hs128.K hg119 (by decide)
              have hg130 := hs128.K hg120 (by decide)
              have hg131 := hs128.K hg125 (by decide)
              refine fw_icmp_eq (tgt := 1079) dL_law_346 (by decide) (fun c132 => ?_) (fun c132 => ?_)
              · have h := fw_it h c132
                obtain ⟨i3_133, e134⟩ : ∃ y : Int32, y = i3 + (6 : Int32) := ⟨_, rfl⟩
                have h := h i3_133 e134
                refine fw_iincN (k := 3) (v := i3_133) (Ls' := [(3, Value.int i3_133), (2, fw_rv g r2), (0, fw_rv g r0), (1, fw_rv g r1)]) [0, 1] dL_law_1079 rfl (by rw [e134]; rfl) (show _ < 4 by decide) rfl rfl rfl (fw_cat _) rfl ?_
                refine fw_goto (tgt := 18) dL_law_1082 (by decide) ?_
                refine fw_ls [2, 3, 1, 0] rfl ?_
                exact hk18 h
              · have h := fw_if h c132
                refine fw_iconst (v := 0) dL_law_349 (by decide) ?_
                exact fw_ireturn dL_law_350 rfl (by decide +kernel) ⟨_, rfl, h⟩
            · refine fw_sw (k := 5) h (fun c135 h => ?_) (fun c135 h => ?_)
              · refine fw_tableIn (tgt := 351) dL_law_33 (by rw [c135]; decide) (by rw [c135]; decide) (by rw [c135]; rfl) (by decide) ?_
                refine fw_aload_n dL_law_351 rfl rfl ?_
                refine fw_aload_n dL_law_352 rfl rfl ?_
                refine fw_iload_n dL_law_353 rfl rfl ?_
                refine fw_iconst (v := 1) dL_law_354 (by decide) ?_
                refine fw_iadd dL_law_355 ?_
                obtain ⟨hc136, h⟩ := h
                obtain ⟨hc137, h⟩ := h
                refine fw_xiald hc136 hg1 hc137 dL_law_356 ?_
                obtain ⟨hg138, h⟩ := h
                refine fw_callV1z (f1 := f - 1) cl_L_38 rfl hg138 (by decide) (by omega) (fw_s4 (Nat.le_of_ble_eq_true rfl)) dL_law_357 (w_X0_judge (f := f - 1) (by omega) hg138 h) (fun _ _ h9 _ _ => h9.elim) (fun v9 μ140 q9 hs141 => ?_)
                obtain ⟨v139, rfl, h⟩ := q9
                refine fw_ti ?_
                have hg142 := hs141.K hg1 (by decide)
                have hg143 := hs141.K hg138 (by decide)
                refine fw_aload_n dL_law_360 rfl rfl ?_
                refine fw_aload_n dL_law_361 rfl rfl ?_
                refine fw_iload_n dL_law_362 rfl rfl ?_
                refine fw_iconst (v := 1) dL_law_363 (by decide) ?_
                refine fw_iadd dL_law_364 ?_
                obtain ⟨hc144, h⟩ := h
                obtain ⟨hc145, h⟩ := h
                refine fw_xiald hc144 hg142 hc145 dL_law_365 ?_
                obtain ⟨hg146, h⟩ := h
                refine fw_callV1z (f1 := f - 1) cl_L_42 rfl hg146 (by decide) (by omega) (fw_s4 (Nat.le_of_ble_eq_true rfl)) dL_law_366 (w_X5_judge (f := f - 1) (by omega) hg146 h) (fun _ _ h9 _ _ => h9.elim) (fun v9 μ148 q9 hs149 => ?_)
                obtain ⟨v147, rfl, h⟩ := q9
                refine fw_ti ?_
                have hg150 := hs149.K hg142 (by decide)
                have hg151 := hs149.K hg143 (by decide)
                have hg152 := hs149.K hg146 (by decide)
                refine fw_icmp_eq (tgt := 1079) dL_law_369 (by decide) (fun c153 => ?_) (fun c153 => ?_)
                · have h := fw_it h c153
                  obtain ⟨i3_154, e155⟩ : ∃ y : Int32, y = i3 + (6 : Int32) := ⟨_, rfl⟩
                  have h := h i3_154 e155
                  refine fw_iincN (k := 3) (v := i3_154) (Ls' := [(3, Value.int i3_154), (2, fw_rv g r2), (0, fw_rv g r0), (1, fw_rv g r1)]) [0, 1] dL_law_1079 rfl (by rw [e155]; rfl) (show _ < 4 by decide) rfl rfl rfl (fw_cat _) rfl ?_
                  refine fw_goto (tgt := 18) dL_law_1082 (by decide) ?_
                  refine fw_ls [2, 3, 1, 0] rfl ?_
                  exact hk18 h
                · have h := fw_if h c153
                  refine fw_iconst (v := 0) dL_law_372 (by decide) ?_
                  exact fw_ireturn dL_law_373 rfl (by decide +kernel) ⟨_, rfl, h⟩
              · refine fw_sw (k := 6) h (fun c156 h => ?_) (fun c156 h => ?_)
                · refine fw_tableIn (tgt := 374) dL_law_33 (by rw [c156]; decide) (by rw [c156]; decide) (by rw [c156]; rfl) (by decide) ?_
                  refine fw_aload_n dL_law_374 rfl rfl ?_
                  refine fw_aload_n dL_law_375 rfl rfl ?_
                  refine fw_iload_n dL_law_376 rfl rfl ?_
                  refine fw_iconst (v := 1) dL_law_377 (by decide) ?_
                  refine fw_iadd dL_law_378 ?_
                  obtain ⟨hc157, h⟩ := h
                  obtain ⟨hc158, h⟩ := h
                  refine fw_xiald hc157 hg1 hc158 dL_law_379 ?_
                  obtain ⟨hg159, h⟩ := h
                  refine fw_callV1z (f1 := f - 1) cl_L_43 rfl hg159 (by decide) (by omega) (fw_s4 (Nat.le_of_ble_eq_true rfl)) dL_law_380 (w_X0_flies (f := f - 1) (by omega) hg159 h) (fun _ _ h9 _ _ => h9.elim) (fun v9 μ161 q9 hs162 => ?_)
                  obtain ⟨v160, rfl, h⟩ := q9
                  refine fw_ti ?_
                  have hg163 := hs162.K hg1 (by decide)
                  have hg164 := hs162.K hg159 (by decide)
                  refine fw_aload_n dL_law_383 rfl rfl ?_
                  refine fw_aload_n dL_law_384 rfl rfl ?_
                  refine fw_iload_n dL_law_385 rfl rfl ?_
                  refine fw_iconst (v := 1) dL_law_386 (by decide) ?_
                  refine fw_iadd dL_law_387 ?_
                  obtain ⟨hc165, h⟩ := h
                  obtain ⟨hc166, h⟩ := h
                  refine fw_xiald hc165 hg163 hc166 dL_law_388 ?_
                  obtain ⟨hg167, h⟩ := h
                  refine fw_callV1z (f1 := f - 1) cl_L_46 rfl hg167 (by decide) (by omega) (fw_s4 (Nat.le_of_ble_eq_true rfl)) dL_law_389 (w_X5_flies (f := f - 1) (by omega) hg167 h) (fun _ _ h9 _ _ => h9.elim) (fun v9 μ169 q9 hs170 => ?_)
                  obtain ⟨v168, rfl, h⟩ := q9
                  refine fw_ti ?_
                  have hg171 := hs170.K hg163 (by decide)
                  have hg172 := hs170.K hg164 (by decide)
                  have hg173 := hs170.K hg167 (by decide)
                  refine fw_icmp_eq (tgt := 1079) dL_law_392 (by decide) (fun c174 => ?_) (fun c174 => ?_)
                  · have h := fw_it h c174
                    obtain ⟨i3_175, e176⟩ : ∃ y : Int32, y = i3 + (6 : Int32) := ⟨_, rfl⟩
                    have h := h i3_175 e176
                    refine fw_iincN (k := 3) (v := i3_175) (Ls' := [(3, Value.int i3_175), (2, fw_rv g r2), (0, fw_rv g r0), (1, fw_rv g r1)]) [0, 1] dL_law_1079 rfl (by rw [e176]; rfl) (show _ < 4 by decide) rfl rfl rfl (fw_cat _) rfl ?_
                    refine fw_goto (tgt := 18) dL_law_1082 (by decide) ?_
                    refine fw_ls [2, 3, 1, 0] rfl ?_
                    exact hk18 h
                  · have h := fw_if h c174
                    refine fw_iconst (v := 0) dL_law_395 (by decide) ?_
                    exact fw_ireturn dL_law_396 rfl (by decide +kernel) ⟨_, rfl, h⟩
                · refine fw_sw (k := 7) h (fun c177 h => ?_) (fun c177 h => ?_)
                  · refine fw_tableIn (tgt := 397) dL_law_33 (by rw [c177]; decide) (by rw [c177]; decide) (by rw [c177]; rfl) (by decide) ?_
                    refine fw_aload_n dL_law_397 rfl rfl ?_
                    refine fw_aload_n dL_law_398 rfl rfl ?_
                    refine fw_iload_n dL_law_399 rfl rfl ?_
                    refine fw_iconst (v := 1) dL_law_400 (by decide) ?_
                    refine fw_iadd dL_law_401 ?_
                    obtain ⟨hc178, h⟩ := h
                    obtain ⟨hc179, h⟩ := h
                    refine fw_xiald hc178 hg1 hc179 dL_law_402 ?_
                    refine fw_aload_n dL_law_403 rfl rfl ?_
                    refine fw_iload_n dL_law_404 rfl rfl ?_
                    refine fw_iconst (v := 2) dL_law_405 (by decide) ?_
                    refine fw_iadd dL_law_406 ?_
                    obtain ⟨hc180, h⟩ := h
                    obtain ⟨hc181, h⟩ := h
                    refine fw_xiald hc180 hg1 hc181 dL_law_407 ?_
                    refine fw_aload_n dL_law_408 rfl rfl ?_
                    refine fw_iload_n dL_law_409 rfl rfl ?_
                    refine fw_iconst (v := 3) dL_law_410 (by decide) ?_
                    refine fw_iadd dL_law_411 ?_
                    obtain ⟨hc182, h⟩ := h
                    obtain ⟨hc183, h⟩ := h
                    refine fw_xiald hc182 hg1 hc183 dL_law_412 ?_
                    refine fw_aload_n dL_law_413 rfl rfl ?_
                    refine fw_iload_n dL_law_414 rfl rfl ?_
                    refine fw_iconst (v := 4) dL_law_415 (by decide) ?_
                    refine fw_iadd dL_law_416 ?_
                    obtain ⟨hc184, h⟩ := h
                    obtain ⟨hc185, h⟩ := h
                    refine fw_xiald hc184 hg1 hc185 dL_law_417 ?_
                    refine fw_aload_n dL_law_418 rfl rfl ?_
                    refine fw_iload_n dL_law_419 rfl rfl ?_
                    refine fw_iconst (v := 5) dL_law_420 (by decide) ?_
                    refine fw_iadd dL_law_421 ?_
                    obtain ⟨hc186, h⟩ := h
                    obtain ⟨hc187, h⟩ := h
                    refine fw_xiald hc186 hg1 hc187 dL_law_422 ?_
                    obtain ⟨hg188, h⟩ := h
                    refine fw_callV5z (f1 := f - 1) cl_L_47 rfl hg188 (by decide) (by omega) (fw_s4 (Nat.le_of_ble_eq_true rfl)) dL_law_423 (w_X0_feed (f := f - 1) (by omega) hg188 h) (fun _ _ h9 _ _ => h9.elim) (fun v9 μ190 q9 hs191 => ?_)
                    obtain ⟨v189, rfl, h⟩ := q9
                    refine fw_ti ?_
                    have hg192 := hs191.K hg1 (by decide)
                    have hg193 := hs191.K hg188 (by decide)
                    refine fw_aload_n dL_law_426 rfl rfl ?_
                    refine fw_aload_n dL_law_427 rfl rfl ?_
                    refine fw_iload_n dL_law_428 rfl rfl ?_
                    refine fw_iconst (v := 1) dL_law_429 (by decide) ?_
                    refine fw_iadd dL_law_430 ?_
                    obtain ⟨hc194, h⟩ := h
                    obtain ⟨hc195, h⟩ := h
                    refine fw_xiald hc194 hg192 hc195 dL_law_431 ?_
                    refine fw_aload_n dL_law_432 rfl rfl ?_
                    refine fw_iload_n dL_law_433 rfl rfl ?_
                    refine fw_iconst (v := 2) dL_law_434 (by decide) ?_
                    refine fw_iadd dL_law_435 ?_
                    obtain ⟨hc196, h⟩ := h
                    obtain ⟨hc197, h⟩ := h
                    refine fw_xiald hc196 hg192 hc197 dL_law_436 ?_
                    refine fw_aload_n dL_law_437 rfl rfl ?_
                    refine fw_iload_n dL_law_438 rfl rfl ?_
                    refine fw_iconst (v := 3) dL_law_439 (by decide) ?_
                    refine fw_iadd dL_law_440 ?_
                    obtain ⟨hc198, h⟩ := h
                    obtain ⟨hc199, h⟩ := h
                    refine fw_xiald hc198 hg192 hc199 dL_law_441 ?_
                    refine fw_aload_n dL_law_442 rfl rfl ?_
                    refine fw_iload_n dL_law_443 rfl rfl ?_
                    refine fw_iconst (v := 4) dL_law_444 (by decide) ?_
                    refine fw_iadd dL_law_445 ?_
                    obtain ⟨hc200, h⟩ := h
                    obtain ⟨hc201, h⟩ := h
                    refine fw_xiald hc200 hg192 hc201 dL_law_446 ?_
                    refine fw_aload_n dL_law_447 rfl rfl ?_
                    refine fw_iload_n dL_law_448 rfl rfl ?_
                    refine fw_iconst (v := 5) dL_law_449 (by decide) ?_
                    refine fw_iadd dL_law_450 ?_
                    obtain ⟨hc202, h⟩ := h
                    obtain ⟨hc203, h⟩ := h
                    refine fw_xiald hc202 hg192 hc203 dL_law_451 ?_
                    obtain ⟨hg204, h⟩ := h
                    refine fw_callV5z (f1 := f - 1) cl_L_51 rfl hg204 (by decide) (by omega) (fw_s4 (Nat.le_of_ble_eq_true rfl)) dL_law_452 (w_X5_feed (f := f - 1) (by omega) hg204 h) (fun _ _ h9 _ _ => h9.elim) (fun v9 μ206 q9 hs207 => ?_)
                    obtain ⟨v205, rfl, h⟩ := q9
                    refine fw_ti ?_
                    have hg208 := hs207.K hg192 (by decide)
                    have hg209 := hs207.K hg193 (by decide)
                    have hg210 := hs207.K hg204 (by decide)
                    refine fw_icmp_eq (tgt := 1079) dL_law_455 (by decide) (fun c211 => ?_) (fun c211 => ?_)
                    · have h := fw_it h c211
                      obtain ⟨i3_212, e213⟩ : ∃ y : Int32, y = i3 + (6 : Int32) := ⟨_, rfl⟩
                      have h := h i3_212 e213
                      refine fw_iincN (k := 3) (v := i3_212) (Ls' := [(3, Value.int i3_212), (2, fw_rv g r2), (0, fw_rv g r0), (1, fw_rv g r1)]) [0, 1] dL_law_1079 rfl (by rw [e213]; rfl) (show _ < 4 by decide) rfl rfl rfl (fw_cat _) rfl ?_
                      refine fw_goto (tgt := 18) dL_law_1082 (by decide) ?_
                      refine fw_ls [2, 3, 1, 0] rfl ?_
                      exact hk18 h
                    · have h := fw_if h c211
                      refine fw_iconst (v := 0) dL_law_458 (by decide) ?_
                      exact fw_ireturn dL_law_459 rfl (by decide +kernel) ⟨_, rfl, h⟩
                  · refine fw_sw (k := 8) h (fun c214 h => ?_) (fun c214 h => ?_)
                    · refine fw_tableIn (tgt := 460) dL_law_33 (by rw [c214]; decide) (by rw [c214]; decide) (by rw [c214]; rfl) (by decide) ?_
                      refine fw_aload_n dL_law_460 rfl rfl ?_
                      refine fw_aload_n dL_law_461 rfl rfl ?_
                      refine fw_iload_n dL_law_462 rfl rfl ?_
                      refine fw_iconst (v := 1) dL_law_463 (by decide) ?_
                      refine fw_iadd dL_law_464 ?_
                      obtain ⟨hc215, h⟩ := h
                      obtain ⟨hc216, h⟩ := h
                      refine fw_xiald hc215 hg1 hc216 dL_law_465 ?_
                      obtain ⟨hg217, h⟩ := h
                      refine fw_callV1z (f1 := f - 1) cl_L_52 rfl hg217 (by decide) (by omega) (fw_s4 (Nat.le_of_ble_eq_true rfl)) dL_law_466 (w_X0_end (f := f - 1) (by omega) hg217 h) (fun _ _ h9 _ _ => h9.elim) (fun v9 μ219 q9 hs220 => ?_)
                      obtain ⟨v218, rfl, h⟩ := q9
                      refine fw_ti ?_
                      have hg221 := hs220.K hg1 (by decide)
                      have hg222 := hs220.K hg217 (by decide)
                      refine fw_aload_n dL_law_469 rfl rfl ?_
                      refine fw_aload_n dL_law_470 rfl rfl ?_
                      refine fw_iload_n dL_law_471 rfl rfl ?_
                      refine fw_iconst (v := 1) dL_law_472 (by decide) ?_
                      refine fw_iadd dL_law_473 ?_
                      obtain ⟨hc223, h⟩ := h
                      obtain ⟨hc224, h⟩ := h
                      refine fw_xiald hc223 hg221 hc224 dL_law_474 ?_
                      obtain ⟨hg225, h⟩ := h
                      refine fw_callV1z (f1 := f - 1) cl_L_55 rfl hg225 (by decide) (by omega) (fw_s4 (Nat.le_of_ble_eq_true rfl)) dL_law_475 (w_X5_end (f := f - 1) (by omega) hg225 h) (fun _ _ h9 _ _ => h9.elim) (fun v9 μ227 q9 hs228 => ?_)
                      obtain ⟨v226, rfl, h⟩ := q9
                      refine fw_ti ?_
                      have hg229 := hs228.K hg221 (by decide)
                      have hg230 := hs228.K hg222 (by decide)
                      have hg231 := hs228.K hg225 (by decide)
                      refine fw_icmp_eq (tgt := 1079) dL_law_478 (by decide) (fun c232 => ?_) (fun c232 => ?_)
                      · have h := fw_it h c232
                        obtain ⟨i3_233, e234⟩ : ∃ y : Int32, y = i3 + (6 : Int32) := ⟨_, rfl⟩
                        have h := h i3_233 e234
                        refine fw_iincN (k := 3) (v := i3_233) (Ls' := [(3, Value.int i3_233), (2, fw_rv g r2), (0, fw_rv g r0), (1, fw_rv g r1)]) [0, 1] dL_law_1079 rfl (by rw [e234]; rfl) (show _ < 4 by decide) rfl rfl rfl (fw_cat _) rfl ?_
                        refine fw_goto (tgt := 18) dL_law_1082 (by decide) ?_
                        refine fw_ls [2, 3, 1, 0] rfl ?_
                        exact hk18 h
                      · have h := fw_if h c232
                        refine fw_iconst (v := 0) dL_law_481 (by decide) ?_
                        exact fw_ireturn dL_law_482 rfl (by decide +kernel) ⟨_, rfl, h⟩
                    · refine fw_sw (k := 9) h (fun c235 h => ?_) (fun c235 h => ?_)
                      · refine fw_tableIn (tgt := 483) dL_law_33 (by rw [c235]; decide) (by rw [c235]; decide) (by rw [c235]; rfl) (by decide) ?_
                        refine fw_aload_n dL_law_483 rfl rfl ?_
                        obtain ⟨hg236, h⟩ := h
                        obtain ⟨b239, b240, hb241, hb242, h⟩ := h
                        refine fw_callVW0 (f1 := f - 1) (b1 := b239) (b2 := b240) cl_L_56 rfl hg236 (by decide) (by omega) hb241 hb242 (fw_s4 (Nat.le_of_ble_eq_true rfl)) dL_law_484 (w_X0_text (f := f - 1) (by omega) hg236 h) (fun _ _ h9 _ _ => h9.elim) (fun v9 μ238 q9 hs243 => ?_)
                        obtain ⟨v237, rfl, h⟩ := q9
                        refine fw_ti ?_
                        have hg244 := hs243.K hg1 (by decide)
                        have hg245 := hs243.K hg236 (by decide)
                        refine fw_aload_n dL_law_487 rfl rfl ?_
                        obtain ⟨hg246, h⟩ := h
                        refine fw_callV0z (f1 := f - 1) cl_L_60 rfl hg246 (by decide) (by omega) (fw_s4 (Nat.le_of_ble_eq_true rfl)) dL_law_488 (w_X5_text (f := f - 1) (by omega) hg246 h) (fun _ _ h9 _ _ => h9.elim) (fun v9 μ248 q9 hs249 => ?_)
                        obtain ⟨v247, rfl, h⟩ := q9
                        refine fw_ti ?_
                        have hg250 := hs249.K hg244 (by decide)
                        have hg251 := hs249.K hg245 (by decide)
                        have hg252 := hs249.K hg246 (by decide)
                        refine fw_icmp_eq (tgt := 1079) dL_law_491 (by decide) (fun c253 => ?_) (fun c253 => ?_)
                        · have h := fw_it h c253
                          obtain ⟨i3_254, e255⟩ : ∃ y : Int32, y = i3 + (6 : Int32) := ⟨_, rfl⟩
                          have h := h i3_254 e255
                          refine fw_iincN (k := 3) (v := i3_254) (Ls' := [(3, Value.int i3_254), (2, fw_rv g r2), (0, fw_rv g r0), (1, fw_rv g r1)]) [0, 1] dL_law_1079 rfl (by rw [e255]; rfl) (show _ < 4 by decide) rfl rfl rfl (fw_cat _) rfl ?_
                          refine fw_goto (tgt := 18) dL_law_1082 (by decide) ?_
                          refine fw_ls [2, 3, 1, 0] rfl ?_
                          exact hk18 h
                        · have h := fw_if h c253
                          refine fw_iconst (v := 0) dL_law_494 (by decide) ?_
                          exact fw_ireturn dL_law_495 rfl (by decide +kernel) ⟨_, rfl, h⟩
                      · refine fw_sw (k := 10) h (fun c256 h => ?_) (fun c256 h => ?_)
                        · refine fw_tableIn (tgt := 496) dL_law_33 (by rw [c256]; decide) (by rw [c256]; decide) (by rw [c256]; rfl) (by decide) ?_
                          refine fw_aload_n dL_law_496 rfl rfl ?_
                          refine fw_aload_n dL_law_497 rfl rfl ?_
                          refine fw_iload_n dL_law_498 rfl rfl ?_
                          refine fw_iconst (v := 1) dL_law_499 (by decide) ?_
                          refine fw_iadd dL_law_500 ?_
                          obtain ⟨hc257, h⟩ := h
                          obtain ⟨hc258, h⟩ := h
                          refine fw_xiald hc257 hg1 hc258 dL_law_501 ?_
                          obtain ⟨hg259, h⟩ := h
                          refine fw_callV1z (f1 := f - 1) cl_L_61 rfl hg259 (by decide) (by omega) (fw_s4 (Nat.le_of_ble_eq_true rfl)) dL_law_502 (w_X0_fault (f := f - 1) (by omega) hg259 h) (fun _ _ h9 _ _ => h9.elim) (fun v9 μ261 q9 hs262 => ?_)
                          obtain ⟨v260, rfl, h⟩ := q9
                          refine fw_ti ?_
                          have hg263 := hs262.K hg1 (by decide)
                          have hg264 := hs262.K hg259 (by decide)
                          refine fw_aload_n dL_law_505 rfl rfl ?_
                          refine fw_aload_n dL_law_506 rfl rfl ?_
                          refine fw_iload_n dL_law_507 rfl rfl ?_
                          refine fw_iconst (v := 1) dL_law_508 (by decide) ?_
                          refine fw_iadd dL_law_509 ?_
                          obtain ⟨hc265, h⟩ := h
                          obtain ⟨hc266, h⟩ := h
                          refine fw_xiald hc265 hg263 hc266 dL_law_510 ?_
                          obtain ⟨hg267, h⟩ := h
                          refine fw_callV1z (f1 := f - 1) cl_L_64 rfl hg267 (by decide) (by omega) (fw_s4 (Nat.le_of_ble_eq_true rfl)) dL_law_511 (w_X5_fault (f := f - 1) (by omega) hg267 h) (fun _ _ h9 _ _ => h9.elim) (fun v9 μ269 q9 hs270 => ?_)
                          obtain ⟨v268, rfl, h⟩ := q9
                          refine fw_ti ?_
                          have hg271 := hs270.K hg263 (by decide)
                          have hg272 := hs270.K hg264 (by decide)
                          have hg273 := hs270.K hg267 (by decide)
                          refine fw_icmp_eq (tgt := 1079) dL_law_514 (by decide) (fun c274 => ?_) (fun c274 => ?_)
                          · have h := fw_it h c274
                            obtain ⟨i3_275, e276⟩ : ∃ y : Int32, y = i3 + (6 : Int32) := ⟨_, rfl⟩
                            have h := h i3_275 e276
                            refine fw_iincN (k := 3) (v := i3_275) (Ls' := [(3, Value.int i3_275), (2, fw_rv g r2), (0, fw_rv g r0), (1, fw_rv g r1)]) [0, 1] dL_law_1079 rfl (by rw [e276]; rfl) (show _ < 4 by decide) rfl rfl rfl (fw_cat _) rfl ?_
                            refine fw_goto (tgt := 18) dL_law_1082 (by decide) ?_
                            refine fw_ls [2, 3, 1, 0] rfl ?_
                            exact hk18 h
                          · have h := fw_if h c274
                            refine fw_iconst (v := 0) dL_law_517 (by decide) ?_
                            exact fw_ireturn dL_law_518 rfl (by decide +kernel) ⟨_, rfl, h⟩
                        · refine fw_sw (k := 11) h (fun c277 h => ?_) (fun c277 h => ?_)
                          · refine fw_tableIn (tgt := 519) dL_law_33 (by rw [c277]; decide) (by rw [c277]; decide) (by rw [c277]; rfl) (by decide) ?_
                            refine fw_aload_n dL_law_519 rfl rfl ?_
                            refine fw_aload_n dL_law_520 rfl rfl ?_
                            refine fw_iload_n dL_law_521 rfl rfl ?_
                            refine fw_iconst (v := 1) dL_law_522 (by decide) ?_
                            refine fw_iadd dL_law_523 ?_
                            obtain ⟨hc278, h⟩ := h
                            obtain ⟨hc279, h⟩ := h
                            refine fw_xiald hc278 hg1 hc279 dL_law_524 ?_
                            obtain ⟨hg280, h⟩ := h
                            refine fw_callV1z (f1 := f - 1) cl_L_65 rfl hg280 (by decide) (by omega) (fw_s4 (Nat.le_of_ble_eq_true rfl)) dL_law_525 (w_X0_by (f := f - 1) (by omega) hg280 h) (fun _ _ h9 _ _ => h9.elim) (fun v9 μ282 q9 hs283 => ?_)
                            obtain ⟨v281, rfl, h⟩ := q9
                            refine fw_ti ?_
                            have hg284 := hs283.K hg1 (by decide)
                            have hg285 := hs283.K hg280 (by decide)
                            refine fw_aload_n dL_law_528 rfl rfl ?_
                            refine fw_aload_n dL_law_529 rfl rfl ?_
                            refine fw_iload_n dL_law_530 rfl rfl ?_
                            refine fw_iconst (v := 1) dL_law_531 (by decide) ?_
                            refine fw_iadd dL_law_532 ?_
                            obtain ⟨hc286, h⟩ := h
                            obtain ⟨hc287, h⟩ := h
                            refine fw_xiald hc286 hg284 hc287 dL_law_533 ?_
                            obtain ⟨hg288, h⟩ := h
                            refine fw_callV1z (f1 := f - 1) cl_L_68 rfl hg288 (by decide) (by omega) (fw_s4 (Nat.le_of_ble_eq_true rfl)) dL_law_534 (w_X5_by (f := f - 1) (by omega) hg288 h) (fun _ _ h9 _ _ => h9.elim) (fun v9 μ290 q9 hs291 => ?_)
                            obtain ⟨v289, rfl, h⟩ := q9
                            refine fw_ti ?_
                            have hg292 := hs291.K hg284 (by decide)
                            have hg293 := hs291.K hg285 (by decide)
                            have hg294 := hs291.K hg288 (by decide)
                            refine fw_icmp_eq (tgt := 1079) dL_law_537 (by decide) (fun c295 => ?_) (fun c295 => ?_)
                            · have h := fw_it h c295
                              obtain ⟨i3_296, e297⟩ : ∃ y : Int32, y = i3 + (6 : Int32) := ⟨_, rfl⟩
                              have h := h i3_296 e297
                              refine fw_iincN (k := 3) (v := i3_296) (Ls' := [(3, Value.int i3_296), (2, fw_rv g r2), (0, fw_rv g r0), (1, fw_rv g r1)]) [0, 1] dL_law_1079 rfl (by rw [e297]; rfl) (show _ < 4 by decide) rfl rfl rfl (fw_cat _) rfl ?_
                              refine fw_goto (tgt := 18) dL_law_1082 (by decide) ?_
                              refine fw_ls [2, 3, 1, 0] rfl ?_
                              exact hk18 h
                            · have h := fw_if h c295
                              refine fw_iconst (v := 0) dL_law_540 (by decide) ?_
                              exact fw_ireturn dL_law_541 rfl (by decide +kernel) ⟨_, rfl, h⟩
                          · refine fw_sw (k := 12) h (fun c298 h => ?_) (fun c298 h => ?_)
                            · refine fw_tableIn (tgt := 542) dL_law_33 (by rw [c298]; decide) (by rw [c298]; decide) (by rw [c298]; rfl) (by decide) ?_
                              refine fw_aload_n dL_law_542 rfl rfl ?_
                              refine fw_aload_n dL_law_543 rfl rfl ?_
                              refine fw_iload_n dL_law_544 rfl rfl ?_
                              refine fw_iconst (v := 1) dL_law_545 (by decide) ?_
                              refine fw_iadd dL_law_546 ?_
                              obtain ⟨hc299, h⟩ := h
                              obtain ⟨hc300, h⟩ := h
                              refine fw_xiald hc299 hg1 hc300 dL_law_547 ?_
                              obtain ⟨hg301, h⟩ := h
                              refine fw_callV1z (f1 := f - 1) cl_L_69 rfl hg301 (by decide) (by omega) (fw_s4 (Nat.le_of_ble_eq_true rfl)) dL_law_548 (w_X0_played (f := f - 1) (by omega) hg301 h) (fun _ _ h9 _ _ => h9.elim) (fun v9 μ303 q9 hs304 => ?_)
                              obtain ⟨v302, rfl, h⟩ := q9
                              refine fw_ti ?_
                              have hg305 := hs304.K hg1 (by decide)
                              have hg306 := hs304.K hg301 (by decide)
                              refine fw_aload_n dL_law_551 rfl rfl ?_
                              refine fw_aload_n dL_law_552 rfl rfl ?_
                              refine fw_iload_n dL_law_553 rfl rfl ?_
                              refine fw_iconst (v := 1) dL_law_554 (by decide) ?_
                              refine fw_iadd dL_law_555 ?_
                              obtain ⟨hc307, h⟩ := h
                              obtain ⟨hc308, h⟩ := h
                              refine fw_xiald hc307 hg305 hc308 dL_law_556 ?_
                              obtain ⟨hg309, h⟩ := h
                              refine fw_callV1z (f1 := f - 1) cl_L_72 rfl hg309 (by decide) (by omega) (fw_s4 (Nat.le_of_ble_eq_true rfl)) dL_law_557 (w_X5_played (f := f - 1) (by omega) hg309 h) (fun _ _ h9 _ _ => h9.elim) (fun v9 μ311 q9 hs312 => ?_)
                              obtain ⟨v310, rfl, h⟩ := q9
                              refine fw_ti ?_
                              have hg313 := hs312.K hg305 (by decide)
                              have hg314 := hs312.K hg306 (by decide)
                              have hg315 := hs312.K hg309 (by decide)
                              refine fw_icmp_eq (tgt := 1079) dL_law_560 (by decide) (fun c316 => ?_) (fun c316 => ?_)
                              · have h := fw_it h c316
                                obtain ⟨i3_317, e318⟩ : ∃ y : Int32, y = i3 + (6 : Int32) := ⟨_, rfl⟩
                                have h := h i3_317 e318
                                refine fw_iincN (k := 3) (v := i3_317) (Ls' := [(3, Value.int i3_317), (2, fw_rv g r2), (0, fw_rv g r0), (1, fw_rv g r1)]) [0, 1] dL_law_1079 rfl (by rw [e318]; rfl) (show _ < 4 by decide) rfl rfl rfl (fw_cat _) rfl ?_
                                refine fw_goto (tgt := 18) dL_law_1082 (by decide) ?_
                                refine fw_ls [2, 3, 1, 0] rfl ?_
                                exact hk18 h
                              · have h := fw_if h c316
                                refine fw_iconst (v := 0) dL_law_563 (by decide) ?_
                                exact fw_ireturn dL_law_564 rfl (by decide +kernel) ⟨_, rfl, h⟩
                            · refine fw_sw (k := 13) h (fun c319 h => ?_) (fun c319 h => ?_)
                              · refine fw_tableIn (tgt := 565) dL_law_33 (by rw [c319]; decide) (by rw [c319]; decide) (by rw [c319]; rfl) (by decide) ?_
                                refine fw_aload_n dL_law_565 rfl rfl ?_
                                obtain ⟨hg320, h⟩ := h
                                refine fw_callV0z (f1 := f - 1) cl_L_73 rfl hg320 (by decide) (by omega) (fw_s4 (Nat.le_of_ble_eq_true rfl)) dL_law_566 (w_X0_undo (f := f - 1) (by omega) hg320 h) (fun _ _ h9 _ _ => h9.elim) (fun v9 μ322 q9 hs323 => ?_)
                                obtain ⟨v321, rfl, h⟩ := q9
                                refine fw_ti ?_
                                have hg324 := hs323.K hg1 (by decide)
                                have hg325 := hs323.K hg320 (by decide)
                                refine fw_aload_n dL_law_569 rfl rfl ?_
                                obtain ⟨hg326, h⟩ := h
                                refine fw_callV0z (f1 := f - 1) cl_L_76 rfl hg326 (by decide) (by omega) (fw_s4 (Nat.le_of_ble_eq_true rfl)) dL_law_570 (w_X5_undo (f := f - 1) (by omega) hg326 h) (fun _ _ h9 _ _ => h9.elim) (fun v9 μ328 q9 hs329 => ?_)
                                obtain ⟨v327, rfl, h⟩ := q9
                                refine fw_ti ?_
                                have hg330 := hs329.K hg324 (by decide)
                                have hg331 := hs329.K hg325 (by decide)
                                have hg332 := hs329.K hg326 (by decide)
                                refine fw_icmp_eq (tgt := 1079) dL_law_573 (by decide) (fun c333 => ?_) (fun c333 => ?_)
                                · have h := fw_it h c333
                                  obtain ⟨i3_334, e335⟩ : ∃ y : Int32, y = i3 + (6 : Int32) := ⟨_, rfl⟩
                                  have h := h i3_334 e335
                                  refine fw_iincN (k := 3) (v := i3_334) (Ls' := [(3, Value.int i3_334), (2, fw_rv g r2), (0, fw_rv g r0), (1, fw_rv g r1)]) [0, 1] dL_law_1079 rfl (by rw [e335]; rfl) (show _ < 4 by decide) rfl rfl rfl (fw_cat _) rfl ?_
                                  refine fw_goto (tgt := 18) dL_law_1082 (by decide) ?_
                                  refine fw_ls [2, 3, 1, 0] rfl ?_
                                  exact hk18 h
                                · have h := fw_if h c333
                                  refine fw_iconst (v := 0) dL_law_576 (by decide) ?_
                                  exact fw_ireturn dL_law_577 rfl (by decide +kernel) ⟨_, rfl, h⟩
                              · refine fw_sw (k := 14) h (fun c336 h => ?_) (fun c336 h => ?_)
                                · refine fw_tableIn (tgt := 578) dL_law_33 (by rw [c336]; decide) (by rw [c336]; decide) (by rw [c336]; rfl) (by decide) ?_
                                  refine fw_aload_n dL_law_578 rfl rfl ?_
                                  refine fw_aload_n dL_law_579 rfl rfl ?_
                                  refine fw_iload_n dL_law_580 rfl rfl ?_
                                  refine fw_iconst (v := 1) dL_law_581 (by decide) ?_
                                  refine fw_iadd dL_law_582 ?_
                                  obtain ⟨hc337, h⟩ := h
                                  obtain ⟨hc338, h⟩ := h
                                  refine fw_xiald hc337 hg1 hc338 dL_law_583 ?_
                                  refine fw_aload_n dL_law_584 rfl rfl ?_
                                  refine fw_iload_n dL_law_585 rfl rfl ?_
                                  refine fw_iconst (v := 2) dL_law_586 (by decide) ?_
                                  refine fw_iadd dL_law_587 ?_
                                  obtain ⟨hc339, h⟩ := h
                                  obtain ⟨hc340, h⟩ := h
                                  refine fw_xiald hc339 hg1 hc340 dL_law_588 ?_
                                  obtain ⟨hg341, h⟩ := h
                                  refine fw_callV2z (f1 := f - 1) cl_L_77 rfl hg341 (by decide) (by omega) (fw_s4 (Nat.le_of_ble_eq_true rfl)) dL_law_589 (w_X0_of (f := f - 1) (by omega) hg341 h) (fun _ _ h9 _ _ => h9.elim) (fun v9 μ343 q9 hs344 => ?_)
                                  obtain ⟨v342, rfl, h⟩ := q9
                                  refine fw_ti ?_
                                  have hg345 := hs344.K hg1 (by decide)
                                  have hg346 := hs344.K hg341 (by decide)
                                  refine fw_aload_n dL_law_592 rfl rfl ?_
                                  refine fw_aload_n dL_law_593 rfl rfl ?_
                                  refine fw_iload_n dL_law_594 rfl rfl ?_
                                  refine fw_iconst (v := 1) dL_law_595 (by decide) ?_
                                  refine fw_iadd dL_law_596 ?_
                                  obtain ⟨hc347, h⟩ := h
                                  obtain ⟨hc348, h⟩ := h
                                  refine fw_xiald hc347 hg345 hc348 dL_law_597 ?_
                                  refine fw_aload_n dL_law_598 rfl rfl ?_
                                  refine fw_iload_n dL_law_599 rfl rfl ?_
                                  refine fw_iconst (v := 2) dL_law_600 (by decide) ?_
                                  refine fw_iadd dL_law_601 ?_
                                  obtain ⟨hc349, h⟩ := h
                                  obtain ⟨hc350, h⟩ := h
                                  refine fw_xiald hc349 hg345 hc350 dL_law_602 ?_
                                  obtain ⟨hg351, h⟩ := h
                                  refine fw_callV2z (f1 := f - 1) cl_L_80 rfl hg351 (by decide) (by omega) (fw_s4 (Nat.le_of_ble_eq_true rfl)) dL_law_603 (w_X5_of (f := f - 1) (by omega) hg351 h) (fun _ _ h9 _ _ => h9.elim) (fun v9 μ353 q9 hs354 => ?_)
                                  obtain ⟨v352, rfl, h⟩ := q9
                                  refine fw_ti ?_
                                  have hg355 := hs354.K hg345 (by decide)
                                  have hg356 := hs354.K hg346 (by decide)
                                  have hg357 := hs354.K hg351 (by decide)
                                  refine fw_icmp_eq (tgt := 1079) dL_law_606 (by decide) (fun c358 => ?_) (fun c358 => ?_)
                                  · have h := fw_it h c358
                                    obtain ⟨i3_359, e360⟩ : ∃ y : Int32, y = i3 + (6 : Int32) := ⟨_, rfl⟩
                                    have h := h i3_359 e360
                                    refine fw_iincN (k := 3) (v := i3_359) (Ls' := [(3, Value.int i3_359), (2, fw_rv g r2), (0, fw_rv g r0), (1, fw_rv g r1)]) [0, 1] dL_law_1079 rfl (by rw [e360]; rfl) (show _ < 4 by decide) rfl rfl rfl (fw_cat _) rfl ?_
                                    refine fw_goto (tgt := 18) dL_law_1082 (by decide) ?_
                                    refine fw_ls [2, 3, 1, 0] rfl ?_
                                    exact hk18 h
                                  · have h := fw_if h c358
                                    refine fw_iconst (v := 0) dL_law_609 (by decide) ?_
                                    exact fw_ireturn dL_law_610 rfl (by decide +kernel) ⟨_, rfl, h⟩
                                · refine fw_sw (k := 15) h (fun c361 h => ?_) (fun c361 h => ?_)
                                  · refine fw_tableIn (tgt := 611) dL_law_33 (by rw [c361]; decide) (by rw [c361]; decide) (by rw [c361]; rfl) (by decide) ?_
                                    refine fw_aload_n dL_law_611 rfl rfl ?_
                                    refine fw_aload_n dL_law_612 rfl rfl ?_
                                    refine fw_iload_n dL_law_613 rfl rfl ?_
                                    refine fw_iconst (v := 1) dL_law_614 (by decide) ?_
                                    refine fw_iadd dL_law_615 ?_
                                    obtain ⟨hc362, h⟩ := h
                                    obtain ⟨hc363, h⟩ := h
                                    refine fw_xiald hc362 hg1 hc363 dL_law_616 ?_
                                    refine fw_aload_n dL_law_617 rfl rfl ?_
                                    refine fw_iload_n dL_law_618 rfl rfl ?_
                                    refine fw_iconst (v := 2) dL_law_619 (by decide) ?_
                                    refine fw_iadd dL_law_620 ?_
                                    obtain ⟨hc364, h⟩ := h
                                    obtain ⟨hc365, h⟩ := h
                                    refine fw_xiald hc364 hg1 hc365 dL_law_621 ?_
                                    obtain ⟨hg366, h⟩ := h
                                    refine fw_callV2z (f1 := f - 1) cl_L_81 rfl hg366 (by decide) (by omega) (fw_s4 (Nat.le_of_ble_eq_true rfl)) dL_law_622 (w_X0_written (f := f - 1) (by omega) hg366 h) (fun _ _ h9 _ _ => h9.elim) (fun v9 μ368 q9 hs369 => ?_)
                                    obtain ⟨v367, rfl, h⟩ := q9
                                    refine fw_ti ?_
                                    have hg370 := hs369.K hg1 (by decide)
                                    have hg371 := hs369.K hg366 (by decide)
                                    refine fw_aload_n dL_law_625 rfl rfl ?_
                                    refine fw_aload_n dL_law_626 rfl rfl ?_
                                    refine fw_iload_n dL_law_627 rfl rfl ?_
                                    refine fw_iconst (v := 1) dL_law_628 (by decide) ?_
                                    refine fw_iadd dL_law_629 ?_
                                    obtain ⟨hc372, h⟩ := h
                                    obtain ⟨hc373, h⟩ := h
                                    refine fw_xiald hc372 hg370 hc373 dL_law_630 ?_
                                    refine fw_aload_n dL_law_631 rfl rfl ?_
                                    refine fw_iload_n dL_law_632 rfl rfl ?_
                                    refine fw_iconst (v := 2) dL_law_633 (by decide) ?_
                                    refine fw_iadd dL_law_634 ?_
                                    obtain ⟨hc374, h⟩ := h
                                    obtain ⟨hc375, h⟩ := h
                                    refine fw_xiald hc374 hg370 hc375 dL_law_635 ?_
                                    obtain ⟨hg376, h⟩ := h
                                    refine fw_callV2z (f1 := f - 1) cl_L_84 rfl hg376 (by decide) (by omega) (fw_s4 (Nat.le_of_ble_eq_true rfl)) dL_law_636 (w_X5_written (f := f - 1) (by omega) hg376 h) (fun _ _ h9 _ _ => h9.elim) (fun v9 μ378 q9 hs379 => ?_)
                                    obtain ⟨v377, rfl, h⟩ := q9
                                    refine fw_ti ?_
                                    have hg380 := hs379.K hg370 (by decide)
                                    have hg381 := hs379.K hg371 (by decide)
                                    have hg382 := hs379.K hg376 (by decide)
                                    refine fw_icmp_eq (tgt := 1079) dL_law_639 (by decide) (fun c383 => ?_) (fun c383 => ?_)
                                    · have h := fw_it h c383
                                      obtain ⟨i3_384, e385⟩ : ∃ y : Int32, y = i3 + (6 : Int32) := ⟨_, rfl⟩
                                      have h := h i3_384 e385
                                      refine fw_iincN (k := 3) (v := i3_384) (Ls' := [(3, Value.int i3_384), (2, fw_rv g r2), (0, fw_rv g r0), (1, fw_rv g r1)]) [0, 1] dL_law_1079 rfl (by rw [e385]; rfl) (show _ < 4 by decide) rfl rfl rfl (fw_cat _) rfl ?_
                                      refine fw_goto (tgt := 18) dL_law_1082 (by decide) ?_
                                      refine fw_ls [2, 3, 1, 0] rfl ?_
                                      exact hk18 h
                                    · have h := fw_if h c383
                                      refine fw_iconst (v := 0) dL_law_642 (by decide) ?_
                                      exact fw_ireturn dL_law_643 rfl (by decide +kernel) ⟨_, rfl, h⟩
                                  · refine fw_sw (k := 16) h (fun c386 h => ?_) (fun c386 h => ?_)
                                    · refine fw_tableIn (tgt := 644) dL_law_33 (by rw [c386]; decide) (by rw [c386]; decide) (by rw [c386]; rfl) (by decide) ?_
                                      refine fw_aload_n dL_law_644 rfl rfl ?_
                                      refine fw_aload_n dL_law_645 rfl rfl ?_
                                      refine fw_iload_n dL_law_646 rfl rfl ?_
                                      refine fw_iconst (v := 1) dL_law_647 (by decide) ?_
                                      refine fw_iadd dL_law_648 ?_
                                      obtain ⟨hc387, h⟩ := h
                                      obtain ⟨hc388, h⟩ := h
                                      refine fw_xiald hc387 hg1 hc388 dL_law_649 ?_
                                      refine fw_aload_n dL_law_650 rfl rfl ?_
                                      refine fw_iload_n dL_law_651 rfl rfl ?_
                                      refine fw_iconst (v := 2) dL_law_652 (by decide) ?_
                                      refine fw_iadd dL_law_653 ?_
                                      obtain ⟨hc389, h⟩ := h
                                      obtain ⟨hc390, h⟩ := h
                                      refine fw_xiald hc389 hg1 hc390 dL_law_654 ?_
                                      obtain ⟨hg391, h⟩ := h
                                      refine fw_callV2z (f1 := f - 1) cl_L_85 rfl hg391 (by decide) (by omega) (fw_s4 (Nat.le_of_ble_eq_true rfl)) dL_law_655 (w_X0_dent (f := f - 1) (by omega) hg391 h) (fun _ _ h9 _ _ => h9.elim) (fun v9 μ393 q9 hs394 => ?_)
                                      obtain ⟨v392, rfl, h⟩ := q9
                                      refine fw_ti ?_
                                      have hg395 := hs394.K hg1 (by decide)
                                      have hg396 := hs394.K hg391 (by decide)
                                      refine fw_aload_n dL_law_658 rfl rfl ?_
                                      refine fw_aload_n dL_law_659 rfl rfl ?_
                                      refine fw_iload_n dL_law_660 rfl rfl ?_
                                      refine fw_iconst (v := 1) dL_law_661 (by decide) ?_
                                      refine fw_iadd dL_law_662 ?_
                                      obtain ⟨hc397, h⟩ := h
                                      obtain ⟨hc398, h⟩ := h
                                      refine fw_xiald hc397 hg395 hc398 dL_law_663 ?_
                                      refine fw_aload_n dL_law_664 rfl rfl ?_
                                      refine fw_iload_n dL_law_665 rfl rfl ?_
                                      refine fw_iconst (v := 2) dL_law_666 (by decide) ?_
                                      refine fw_iadd dL_law_667 ?_
                                      obtain ⟨hc399, h⟩ := h
                                      obtain ⟨hc400, h⟩ := h
                                      refine fw_xiald hc399 hg395 hc400 dL_law_668 ?_
                                      obtain ⟨hg401, h⟩ := h
                                      refine fw_callV2z (f1 := f - 1) cl_L_88 rfl hg401 (by decide) (by omega) (fw_s4 (Nat.le_of_ble_eq_true rfl)) dL_law_669 (w_X5_dent (f := f - 1) (by omega) hg401 h) (fun _ _ h9 _ _ => h9.elim) (fun v9 μ403 q9 hs404 => ?_)
                                      obtain ⟨v402, rfl, h⟩ := q9
                                      refine fw_ti ?_
                                      have hg405 := hs404.K hg395 (by decide)
                                      have hg406 := hs404.K hg396 (by decide)
                                      have hg407 := hs404.K hg401 (by decide)
                                      refine fw_icmp_eq (tgt := 1079) dL_law_672 (by decide) (fun c408 => ?_) (fun c408 => ?_)
                                      · have h := fw_it h c408
                                        obtain ⟨i3_409, e410⟩ : ∃ y : Int32, y = i3 + (6 : Int32) := ⟨_, rfl⟩
                                        have h := h i3_409 e410
                                        refine fw_iincN (k := 3) (v := i3_409) (Ls' := [(3, Value.int i3_409), (2, fw_rv g r2), (0, fw_rv g r0), (1, fw_rv g r1)]) [0, 1] dL_law_1079 rfl (by rw [e410]; rfl) (show _ < 4 by decide) rfl rfl rfl (fw_cat _) rfl ?_
                                        refine fw_goto (tgt := 18) dL_law_1082 (by decide) ?_
                                        refine fw_ls [2, 3, 1, 0] rfl ?_
                                        exact hk18 h
                                      · have h := fw_if h c408
                                        refine fw_iconst (v := 0) dL_law_675 (by decide) ?_
                                        exact fw_ireturn dL_law_676 rfl (by decide +kernel) ⟨_, rfl, h⟩
                                    · refine fw_sw (k := 17) h (fun c411 h => ?_) (fun c411 h => ?_)
                                      · refine fw_tableIn (tgt := 677) dL_law_33 (by rw [c411]; decide) (by rw [c411]; decide) (by rw [c411]; rfl) (by decide) ?_
                                        refine fw_aload_n dL_law_677 rfl rfl ?_
                                        refine fw_aload_n dL_law_678 rfl rfl ?_
                                        refine fw_iload_n dL_law_679 rfl rfl ?_
                                        refine fw_iconst (v := 1) dL_law_680 (by decide) ?_
                                        refine fw_iadd dL_law_681 ?_
                                        obtain ⟨hc412, h⟩ := h
                                        obtain ⟨hc413, h⟩ := h
                                        refine fw_xiald hc412 hg1 hc413 dL_law_682 ?_
                                        refine fw_aload_n dL_law_683 rfl rfl ?_
                                        refine fw_iload_n dL_law_684 rfl rfl ?_
                                        refine fw_iconst (v := 2) dL_law_685 (by decide) ?_
                                        refine fw_iadd dL_law_686 ?_
                                        obtain ⟨hc414, h⟩ := h
                                        obtain ⟨hc415, h⟩ := h
                                        refine fw_xiald hc414 hg1 hc415 dL_law_687 ?_
                                        refine fw_aload_n dL_law_688 rfl rfl ?_
                                        refine fw_iload_n dL_law_689 rfl rfl ?_
                                        refine fw_iconst (v := 3) dL_law_690 (by decide) ?_
                                        refine fw_iadd dL_law_691 ?_
                                        obtain ⟨hc416, h⟩ := h
                                        obtain ⟨hc417, h⟩ := h
                                        refine fw_xiald hc416 hg1 hc417 dL_law_692 ?_
                                        obtain ⟨hg418, h⟩ := h
                                        refine fw_callV3z (f1 := f - 1) cl_L_89 rfl hg418 (by decide) (by omega) (fw_s4 (Nat.le_of_ble_eq_true rfl)) dL_law_693 (w_X0_called (f := f - 1) (by omega) hg418 h) (fun _ _ h9 _ _ => h9.elim) (fun v9 μ420 q9 hs421 => ?_)
                                        obtain ⟨v419, rfl, h⟩ := q9
                                        refine fw_ti ?_
                                        have hg422 := hs421.K hg1 (by decide)
                                        have hg423 := hs421.K hg418 (by decide)
                                        refine fw_aload_n dL_law_696 rfl rfl ?_
                                        refine fw_aload_n dL_law_697 rfl rfl ?_
                                        refine fw_iload_n dL_law_698 rfl rfl ?_
                                        refine fw_iconst (v := 1) dL_law_699 (by decide) ?_
                                        refine fw_iadd dL_law_700 ?_
                                        obtain ⟨hc424, h⟩ := h
                                        obtain ⟨hc425, h⟩ := h
                                        refine fw_xiald hc424 hg422 hc425 dL_law_701 ?_
                                        refine fw_aload_n dL_law_702 rfl rfl ?_
                                        refine fw_iload_n dL_law_703 rfl rfl ?_
                                        refine fw_iconst (v := 2) dL_law_704 (by decide) ?_
                                        refine fw_iadd dL_law_705 ?_
                                        obtain ⟨hc426, h⟩ := h
                                        obtain ⟨hc427, h⟩ := h
                                        refine fw_xiald hc426 hg422 hc427 dL_law_706 ?_
                                        refine fw_aload_n dL_law_707 rfl rfl ?_
                                        refine fw_iload_n dL_law_708 rfl rfl ?_
                                        refine fw_iconst (v := 3) dL_law_709 (by decide) ?_
                                        refine fw_iadd dL_law_710 ?_
                                        obtain ⟨hc428, h⟩ := h
                                        obtain ⟨hc429, h⟩ := h
                                        refine fw_xiald hc428 hg422 hc429 dL_law_711 ?_
                                        obtain ⟨hg430, h⟩ := h
                                        refine fw_callV3z (f1 := f - 1) cl_L_92 rfl hg430 (by decide) (by omega) (fw_s4 (Nat.le_of_ble_eq_true rfl)) dL_law_712 (w_X5_called (f := f - 1) (by omega) hg430 h) (fun _ _ h9 _ _ => h9.elim) (fun v9 μ432 q9 hs433 => ?_)
                                        obtain ⟨v431, rfl, h⟩ := q9
                                        refine fw_ti ?_
                                        have hg434 := hs433.K hg422 (by decide)
                                        have hg435 := hs433.K hg423 (by decide)
                                        have hg436 := hs433.K hg430 (by decide)
                                        refine fw_icmp_eq (tgt := 1079) dL_law_715 (by decide) (fun c437 => ?_) (fun c437 => ?_)
                                        · have h := fw_it h c437
                                          obtain ⟨i3_438, e439⟩ : ∃ y : Int32, y = i3 + (6 : Int32) := ⟨_, rfl⟩
                                          have h := h i3_438 e439
                                          refine fw_iincN (k := 3) (v := i3_438) (Ls' := [(3, Value.int i3_438), (2, fw_rv g r2), (0, fw_rv g r0), (1, fw_rv g r1)]) [0, 1] dL_law_1079 rfl (by rw [e439]; rfl) (show _ < 4 by decide) rfl rfl rfl (fw_cat _) rfl ?_
                                          refine fw_goto (tgt := 18) dL_law_1082 (by decide) ?_
                                          refine fw_ls [2, 3, 1, 0] rfl ?_
                                          exact hk18 h
                                        · have h := fw_if h c437
                                          refine fw_iconst (v := 0) dL_law_718 (by decide) ?_
                                          exact fw_ireturn dL_law_719 rfl (by decide +kernel) ⟨_, rfl, h⟩
                                      · refine fw_sw (k := 18) h (fun c440 h => ?_) (fun c440 h => ?_)
                                        · refine fw_tableIn (tgt := 720) dL_law_33 (by rw [c440]; decide) (by rw [c440]; decide) (by rw [c440]; rfl) (by decide) ?_
                                          refine fw_aload_n dL_law_720 rfl rfl ?_
                                          refine fw_aload_n dL_law_721 rfl rfl ?_
                                          refine fw_iload_n dL_law_722 rfl rfl ?_
                                          refine fw_iconst (v := 1) dL_law_723 (by decide) ?_
                                          refine fw_iadd dL_law_724 ?_
                                          obtain ⟨hc441, h⟩ := h
                                          obtain ⟨hc442, h⟩ := h
                                          refine fw_xiald hc441 hg1 hc442 dL_law_725 ?_
                                          refine fw_aload_n dL_law_726 rfl rfl ?_
                                          refine fw_iload_n dL_law_727 rfl rfl ?_
                                          refine fw_iconst (v := 2) dL_law_728 (by decide) ?_
                                          refine fw_iadd dL_law_729 ?_
                                          obtain ⟨hc443, h⟩ := h
                                          obtain ⟨hc444, h⟩ := h
                                          refine fw_xiald hc443 hg1 hc444 dL_law_730 ?_
                                          obtain ⟨hg445, h⟩ := h
                                          refine fw_callV2z (f1 := f - 1) cl_L_93 rfl hg445 (by decide) (by omega) (fw_s4 (Nat.le_of_ble_eq_true rfl)) dL_law_731 (w_X0_acquitted (f := f - 1) (by omega) hg445 h) (fun _ _ h9 _ _ => h9.elim) (fun v9 μ447 q9 hs448 => ?_)
                                          obtain ⟨v446, rfl, h⟩ := q9
                                          refine fw_ti ?_
                                          have hg449 := hs448.K hg1 (by decide)
                                          have hg450 := hs448.K hg445 (by decide)
                                          refine fw_aload_n dL_law_734 rfl rfl ?_
                                          refine fw_aload_n dL_law_735 rfl rfl ?_
                                          refine fw_iload_n dL_law_736 rfl rfl ?_
                                          refine fw_iconst (v := 1) dL_law_737 (by decide) ?_
                                          refine fw_iadd dL_law_738 ?_
                                          obtain ⟨hc451, h⟩ := h
                                          obtain ⟨hc452, h⟩ := h
                                          refine fw_xiald hc451 hg449 hc452 dL_law_739 ?_
                                          refine fw_aload_n dL_law_740 rfl rfl ?_
                                          refine fw_iload_n dL_law_741 rfl rfl ?_
                                          refine fw_iconst (v := 2) dL_law_742 (by decide) ?_
                                          refine fw_iadd dL_law_743 ?_
                                          obtain ⟨hc453, h⟩ := h
                                          obtain ⟨hc454, h⟩ := h
                                          refine fw_xiald hc453 hg449 hc454 dL_law_744 ?_
                                          obtain ⟨hg455, h⟩ := h
                                          refine fw_callV2z (f1 := f - 1) cl_L_96 rfl hg455 (by decide) (by omega) (fw_s4 (Nat.le_of_ble_eq_true rfl)) dL_law_745 (w_X5_acquitted (f := f - 1) (by omega) hg455 h) (fun _ _ h9 _ _ => h9.elim) (fun v9 μ457 q9 hs458 => ?_)
                                          obtain ⟨v456, rfl, h⟩ := q9
                                          refine fw_ti ?_
                                          have hg459 := hs458.K hg449 (by decide)
                                          have hg460 := hs458.K hg450 (by decide)
                                          have hg461 := hs458.K hg455 (by decide)
                                          refine fw_icmp_eq (tgt := 1079) dL_law_748 (by decide) (fun c462 => ?_) (fun c462 => ?_)
                                          · have h := fw_it h c462
                                            obtain ⟨i3_463, e464⟩ : ∃ y : Int32, y = i3 + (6 : Int32) := ⟨_, rfl⟩
                                            have h := h i3_463 e464
                                            refine fw_iincN (k := 3) (v := i3_463) (Ls' := [(3, Value.int i3_463), (2, fw_rv g r2), (0, fw_rv g r0), (1, fw_rv g r1)]) [0, 1] dL_law_1079 rfl (by rw [e464]; rfl) (show _ < 4 by decide) rfl rfl rfl (fw_cat _) rfl ?_
                                            refine fw_goto (tgt := 18) dL_law_1082 (by decide) ?_
                                            refine fw_ls [2, 3, 1, 0] rfl ?_
                                            exact hk18 h
                                          · have h := fw_if h c462
                                            refine fw_iconst (v := 0) dL_law_751 (by decide) ?_
                                            exact fw_ireturn dL_law_752 rfl (by decide +kernel) ⟨_, rfl, h⟩
                                        · refine fw_sw (k := 19) h (fun c465 h => ?_) (fun c465 h => ?_)
                                          · refine fw_tableIn (tgt := 753) dL_law_33 (by rw [c465]; decide) (by rw [c465]; decide) (by rw [c465]; rfl) (by decide) ?_
                                            refine fw_aload_n dL_law_753 rfl rfl ?_
                                            refine fw_aload_n dL_law_754 rfl rfl ?_
                                            refine fw_iload_n dL_law_755 rfl rfl ?_
                                            refine fw_iconst (v := 1) dL_law_756 (by decide) ?_
                                            refine fw_iadd dL_law_757 ?_
                                            obtain ⟨hc466, h⟩ := h
                                            obtain ⟨hc467, h⟩ := h
                                            refine fw_xiald hc466 hg1 hc467 dL_law_758 ?_
                                            refine fw_aload_n dL_law_759 rfl rfl ?_
                                            refine fw_iload_n dL_law_760 rfl rfl ?_
                                            refine fw_iconst (v := 2) dL_law_761 (by decide) ?_
                                            refine fw_iadd dL_law_762 ?_
                                            obtain ⟨hc468, h⟩ := h
                                            obtain ⟨hc469, h⟩ := h
                                            refine fw_xiald hc468 hg1 hc469 dL_law_763 ?_
                                            refine fw_aload_n dL_law_764 rfl rfl ?_
                                            refine fw_iload_n dL_law_765 rfl rfl ?_
                                            refine fw_iconst (v := 3) dL_law_766 (by decide) ?_
                                            refine fw_iadd dL_law_767 ?_
                                            obtain ⟨hc470, h⟩ := h
                                            obtain ⟨hc471, h⟩ := h
                                            refine fw_xiald hc470 hg1 hc471 dL_law_768 ?_
                                            refine fw_aload_n dL_law_769 rfl rfl ?_
                                            refine fw_iload_n dL_law_770 rfl rfl ?_
                                            refine fw_iconst (v := 4) dL_law_771 (by decide) ?_
                                            refine fw_iadd dL_law_772 ?_
                                            obtain ⟨hc472, h⟩ := h
                                            obtain ⟨hc473, h⟩ := h
                                            refine fw_xiald hc472 hg1 hc473 dL_law_773 ?_
                                            obtain ⟨hg474, h⟩ := h
                                            refine fw_callV4z (f1 := f - 1) cl_L_97 rfl hg474 (by decide) (by omega) (fw_s4 (Nat.le_of_ble_eq_true rfl)) dL_law_774 (w_X0_sets (f := f - 1) (by omega) hg474 h) (fun _ _ h9 _ _ => h9.elim) (fun v9 μ476 q9 hs477 => ?_)
                                            obtain ⟨v475, rfl, h⟩ := q9
                                            refine fw_ti ?_
                                            have hg478 := hs477.K hg1 (by decide)
                                            have hg479 := hs477.K hg474 (by decide)
                                            refine fw_aload_n dL_law_777 rfl rfl ?_
                                            refine fw_aload_n dL_law_778 rfl rfl ?_
                                            refine fw_iload_n dL_law_779 rfl rfl ?_
                                            refine fw_iconst (v := 1) dL_law_780 (by decide) ?_
                                            refine fw_iadd dL_law_781 ?_
                                            obtain ⟨hc480, h⟩ := h
                                            obtain ⟨hc481, h⟩ := h
                                            refine fw_xiald hc480 hg478 hc481 dL_law_782 ?_
                                            refine fw_aload_n dL_law_783 rfl rfl ?_
                                            refine fw_iload_n dL_law_784 rfl rfl ?_
                                            refine fw_iconst (v := 2) dL_law_785 (by decide) ?_
                                            refine fw_iadd dL_law_786 ?_
                                            obtain ⟨hc482, h⟩ := h
                                            obtain ⟨hc483, h⟩ := h
                                            refine fw_xiald hc482 hg478 hc483 dL_law_787 ?_
                                            refine fw_aload_n dL_law_788 rfl rfl ?_
                                            refine fw_iload_n dL_law_789 rfl rfl ?_
                                            refine fw_iconst (v := 3) dL_law_790 (by decide) ?_
                                            refine fw_iadd dL_law_791 ?_
                                            obtain ⟨hc484, h⟩ := h
                                            obtain ⟨hc485, h⟩ := h
                                            refine fw_xiald hc484 hg478 hc485 dL_law_792 ?_
                                            refine fw_aload_n dL_law_793 rfl rfl ?_
                                            refine fw_iload_n dL_law_794 rfl rfl ?_
                                            refine fw_iconst (v := 4) dL_law_795 (by decide) ?_
                                            refine fw_iadd dL_law_796 ?_
                                            obtain ⟨hc486, h⟩ := h
                                            obtain ⟨hc487, h⟩ := h
                                            refine fw_xiald hc486 hg478 hc487 dL_law_797 ?_
                                            obtain ⟨hg488, h⟩ := h
                                            refine fw_callV4z (f1 := f - 1) cl_L_101 rfl hg488 (by decide) (by omega) (fw_s4 (Nat.le_of_ble_eq_true rfl)) dL_law_798 (w_X5_sets (f := f - 1) (by omega) hg488 h) (fun _ _ h9 _ _ => h9.elim) (fun v9 μ490 q9 hs491 => ?_)
                                            obtain ⟨v489, rfl, h⟩ := q9
                                            refine fw_ti ?_
                                            have hg492 := hs491.K hg478 (by decide)
                                            have hg493 := hs491.K hg479 (by decide)
                                            have hg494 := hs491.K hg488 (by decide)
                                            refine fw_icmp_eq (tgt := 1079) dL_law_801 (by decide) (fun c495 => ?_) (fun c495 => ?_)
                                            · have h := fw_it h c495
                                              obtain ⟨i3_496, e497⟩ : ∃ y : Int32, y = i3 + (6 : Int32) := ⟨_, rfl⟩
                                              have h := h i3_496 e497
                                              refine fw_iincN (k := 3) (v := i3_496) (Ls' := [(3, Value.int i3_496), (2, fw_rv g r2), (0, fw_rv g r0), (1, fw_rv g r1)]) [0, 1] dL_law_1079 rfl (by rw [e497]; rfl) (show _ < 4 by decide) rfl rfl rfl (fw_cat _) rfl ?_
                                              refine fw_goto (tgt := 18) dL_law_1082 (by decide) ?_
                                              refine fw_ls [2, 3, 1, 0] rfl ?_
                                              exact hk18 h
                                            · have h := fw_if h c495
                                              refine fw_iconst (v := 0) dL_law_804 (by decide) ?_
                                              exact fw_ireturn dL_law_805 rfl (by decide +kernel) ⟨_, rfl, h⟩
                                          · refine fw_sw (k := 20) h (fun c498 h => ?_) (fun c498 h => ?_)
                                            · refine fw_tableIn (tgt := 806) dL_law_33 (by rw [c498]; decide) (by rw [c498]; decide) (by rw [c498]; rfl) (by decide) ?_
                                              refine fw_aload_n dL_law_806 rfl rfl ?_
                                              refine fw_aload_n dL_law_807 rfl rfl ?_
                                              refine fw_iload_n dL_law_808 rfl rfl ?_
                                              refine fw_iconst (v := 1) dL_law_809 (by decide) ?_
                                              refine fw_iadd dL_law_810 ?_
                                              obtain ⟨hc499, h⟩ := h
                                              obtain ⟨hc500, h⟩ := h
                                              refine fw_xiald hc499 hg1 hc500 dL_law_811 ?_
                                              refine fw_aload_n dL_law_812 rfl rfl ?_
                                              refine fw_iload_n dL_law_813 rfl rfl ?_
                                              refine fw_iconst (v := 2) dL_law_814 (by decide) ?_
                                              refine fw_iadd dL_law_815 ?_
                                              obtain ⟨hc501, h⟩ := h
                                              obtain ⟨hc502, h⟩ := h
                                              refine fw_xiald hc501 hg1 hc502 dL_law_816 ?_
                                              obtain ⟨hg503, h⟩ := h
                                              refine fw_callV2z (f1 := f - 1) cl_L_102 rfl hg503 (by decide) (by omega) (fw_s4 (Nat.le_of_ble_eq_true rfl)) dL_law_817 (w_X0_tested (f := f - 1) (by omega) hg503 h) (fun _ _ h9 _ _ => h9.elim) (fun v9 μ505 q9 hs506 => ?_)
                                              obtain ⟨v504, rfl, h⟩ := q9
                                              refine fw_ti ?_
                                              have hg507 := hs506.K hg1 (by decide)
                                              have hg508 := hs506.K hg503 (by decide)
                                              refine fw_aload_n dL_law_820 rfl rfl ?_
                                              refine fw_aload_n dL_law_821 rfl rfl ?_
                                              refine fw_iload_n dL_law_822 rfl rfl ?_
                                              refine fw_iconst (v := 1) dL_law_823 (by decide) ?_
                                              refine fw_iadd dL_law_824 ?_
                                              obtain ⟨hc509, h⟩ := h
                                              obtain ⟨hc510, h⟩ := h
                                              refine fw_xiald hc509 hg507 hc510 dL_law_825 ?_
                                              refine fw_aload_n dL_law_826 rfl rfl ?_
                                              refine fw_iload_n dL_law_827 rfl rfl ?_
                                              refine fw_iconst (v := 2) dL_law_828 (by decide) ?_
                                              refine fw_iadd dL_law_829 ?_
                                              obtain ⟨hc511, h⟩ := h
                                              obtain ⟨hc512, h⟩ := h
                                              refine fw_xiald hc511 hg507 hc512 dL_law_830 ?_
                                              obtain ⟨hg513, h⟩ := h
                                              refine fw_callV2z (f1 := f - 1) cl_L_105 rfl hg513 (by decide) (by omega) (fw_s4 (Nat.le_of_ble_eq_true rfl)) dL_law_831 (w_X5_tested (f := f - 1) (by omega) hg513 h) (fun _ _ h9 _ _ => h9.elim) (fun v9 μ515 q9 hs516 => ?_)
                                              obtain ⟨v514, rfl, h⟩ := q9
                                              refine fw_ti ?_
                                              have hg517 := hs516.K hg507 (by decide)
                                              have hg518 := hs516.K hg508 (by decide)
                                              have hg519 := hs516.K hg513 (by decide)
                                              refine fw_icmp_eq (tgt := 1079) dL_law_834 (by decide) (fun c520 => ?_) (fun c520 => ?_)
                                              · have h := fw_it h c520
                                                obtain ⟨i3_521, e522⟩ : ∃ y : Int32, y = i3 + (6 : Int32) := ⟨_, rfl⟩
                                                have h := h i3_521 e522
                                                refine fw_iincN (k := 3) (v := i3_521) (Ls' := [(3, Value.int i3_521), (2, fw_rv g r2), (0, fw_rv g r0), (1, fw_rv g r1)]) [0, 1] dL_law_1079 rfl (by rw [e522]; rfl) (show _ < 4 by decide) rfl rfl rfl (fw_cat _) rfl ?_
                                                refine fw_goto (tgt := 18) dL_law_1082 (by decide) ?_
                                                refine fw_ls [2, 3, 1, 0] rfl ?_
                                                exact hk18 h
                                              · have h := fw_if h c520
                                                refine fw_iconst (v := 0) dL_law_837 (by decide) ?_
                                                exact fw_ireturn dL_law_838 rfl (by decide +kernel) ⟨_, rfl, h⟩
                                            · refine fw_sw (k := 21) h (fun c523 h => ?_) (fun c523 h => ?_)
                                              · refine fw_tableIn (tgt := 839) dL_law_33 (by rw [c523]; decide) (by rw [c523]; decide) (by rw [c523]; rfl) (by decide) ?_
                                                refine fw_aload_n dL_law_839 rfl rfl ?_
                                                obtain ⟨hg524, h⟩ := h
                                                refine fw_callV0z (f1 := f - 1) cl_L_106 rfl hg524 (by decide) (by omega) (fw_s4 (Nat.le_of_ble_eq_true rfl)) dL_law_840 (w_X0_fits (f := f - 1) (by omega) hg524 h) (fun _ _ h9 _ _ => h9.elim) (fun v9 μ526 q9 hs527 => ?_)
                                                obtain ⟨v525, rfl, h⟩ := q9
                                                refine fw_ti ?_
                                                have hg528 := hs527.K hg1 (by decide)
                                                have hg529 := hs527.K hg524 (by decide)
                                                refine fw_aload_n dL_law_843 rfl rfl ?_
                                                obtain ⟨hg530, h⟩ := h
                                                refine fw_callV0z (f1 := f - 1) cl_L_109 rfl hg530 (by decide) (by omega) (fw_s4 (Nat.le_of_ble_eq_true rfl)) dL_law_844 (w_X5_fits (f := f - 1) (by omega) hg530 h) (fun _ _ h9 _ _ => h9.elim) (fun v9 μ532 q9 hs533 => ?_)
                                                obtain ⟨v531, rfl, h⟩ := q9
                                                refine fw_ti ?_
                                                have hg534 := hs533.K hg528 (by decide)
                                                have hg535 := hs533.K hg529 (by decide)
                                                have hg536 := hs533.K hg530 (by decide)
                                                refine fw_icmp_eq (tgt := 1079) dL_law_847 (by decide) (fun c537 => ?_) (fun c537 => ?_)
                                                · have h := fw_it h c537
                                                  obtain ⟨i3_538, e539⟩ : ∃ y : Int32, y = i3 + (6 : Int32) := ⟨_, rfl⟩
                                                  have h := h i3_538 e539
                                                  refine fw_iincN (k := 3) (v := i3_538) (Ls' := [(3, Value.int i3_538), (2, fw_rv g r2), (0, fw_rv g r0), (1, fw_rv g r1)]) [0, 1] dL_law_1079 rfl (by rw [e539]; rfl) (show _ < 4 by decide) rfl rfl rfl (fw_cat _) rfl ?_
                                                  refine fw_goto (tgt := 18) dL_law_1082 (by decide) ?_
                                                  refine fw_ls [2, 3, 1, 0] rfl ?_
                                                  exact hk18 h
                                                · have h := fw_if h c537
                                                  refine fw_iconst (v := 0) dL_law_850 (by decide) ?_
                                                  exact fw_ireturn dL_law_851 rfl (by decide +kernel) ⟨_, rfl, h⟩
                                              · refine fw_sw (k := 22) h (fun c540 h => ?_) (fun c540 h => ?_)
                                                · refine fw_tableIn (tgt := 852) dL_law_33 (by rw [c540]; decide) (by rw [c540]; decide) (by rw [c540]; rfl) (by decide) ?_
                                                  refine fw_aload_n dL_law_852 rfl rfl ?_
                                                  obtain ⟨hg541, h⟩ := h
                                                  obtain ⟨b544, b545, hb546, hb547, h⟩ := h
                                                  refine fw_callV0 (f1 := f - 1) (b1 := b544) (b2 := b545) cl_L_110 rfl hg541 (by decide) (by omega) hb546 hb547 (fw_s4 (Nat.le_of_ble_eq_true rfl)) dL_law_853 (w_X0_next (f := f - 1) (by omega) hg541 h) (fun _ _ h9 _ _ => h9.elim) (fun v9 μ543 q9 hs548 => ?_)
                                                  obtain ⟨v542, rfl, h⟩ := q9
                                                  refine fw_ti ?_
                                                  have hg549 := hs548.K hg1 (by decide)
                                                  have hg550 := hs548.K hg541 (by decide)
                                                  refine fw_aload_n dL_law_856 rfl rfl ?_
                                                  obtain ⟨hg551, h⟩ := h
                                                  refine fw_callV0z (f1 := f - 1) cl_L_113 rfl hg551 (by decide) (by omega) (fw_s4 (Nat.le_of_ble_eq_true rfl)) dL_law_857 (w_X5_next (f := f - 1) (by omega) hg551 h) (fun _ _ h9 _ _ => h9.elim) (fun v9 μ553 q9 hs554 => ?_)
                                                  obtain ⟨v552, rfl, h⟩ := q9
                                                  refine fw_ti ?_
                                                  have hg555 := hs554.K hg549 (by decide)
                                                  have hg556 := hs554.K hg550 (by decide)
                                                  have hg557 := hs554.K hg551 (by decide)
                                                  refine fw_icmp_eq (tgt := 1079) dL_law_860 (by decide) (fun c558 => ?_) (fun c558 => ?_)
                                                  · have h := fw_it h c558
                                                    obtain ⟨i3_559, e560⟩ : ∃ y : Int32, y = i3 + (6 : Int32) := ⟨_, rfl⟩
                                                    have h := h i3_559 e560
                                                    refine fw_iincN (k := 3) (v := i3_559) (Ls' := [(3, Value.int i3_559), (2, fw_rv g r2), (0, fw_rv g r0), (1, fw_rv g r1)]) [0, 1] dL_law_1079 rfl (by rw [e560]; rfl) (show _ < 4 by decide) rfl rfl rfl (fw_cat _) rfl ?_
                                                    refine fw_goto (tgt := 18) dL_law_1082 (by decide) ?_
                                                    refine fw_ls [2, 3, 1, 0] rfl ?_
                                                    exact hk18 h
                                                  · have h := fw_if h c558
                                                    refine fw_iconst (v := 0) dL_law_863 (by decide) ?_
                                                    exact fw_ireturn dL_law_864 rfl (by decide +kernel) ⟨_, rfl, h⟩
                                                · refine fw_sw (k := 23) h (fun c561 h => ?_) (fun c561 h => ?_)
                                                  · refine fw_tableIn (tgt := 865) dL_law_33 (by rw [c561]; decide) (by rw [c561]; decide) (by rw [c561]; rfl) (by decide) ?_
                                                    refine fw_aload_n dL_law_865 rfl rfl ?_
                                                    refine fw_aload_n dL_law_866 rfl rfl ?_
                                                    refine fw_iload_n dL_law_867 rfl rfl ?_
                                                    refine fw_iconst (v := 1) dL_law_868 (by decide) ?_
                                                    refine fw_iadd dL_law_869 ?_
                                                    obtain ⟨hc562, h⟩ := h
                                                    obtain ⟨hc563, h⟩ := h
                                                    refine fw_xiald hc562 hg1 hc563 dL_law_870 ?_
                                                    obtain ⟨hg564, h⟩ := h
                                                    refine fw_callV1z (f1 := f - 1) cl_L_114 rfl hg564 (by decide) (by omega) (fw_s4 (Nat.le_of_ble_eq_true rfl)) dL_law_871 (w_X0_hired (f := f - 1) (by omega) hg564 h) (fun _ _ h9 _ _ => h9.elim) (fun v9 μ566 q9 hs567 => ?_)
                                                    obtain ⟨v565, rfl, h⟩ := q9
                                                    refine fw_ti ?_
                                                    have hg568 := hs567.K hg1 (by decide)
                                                    have hg569 := hs567.K hg564 (by decide)
                                                    refine fw_aload_n dL_law_874 rfl rfl ?_
                                                    refine fw_aload_n dL_law_875 rfl rfl ?_
                                                    refine fw_iload_n dL_law_876 rfl rfl ?_
                                                    refine fw_iconst (v := 1) dL_law_877 (by decide) ?_
                                                    refine fw_iadd dL_law_878 ?_
                                                    obtain ⟨hc570, h⟩ := h
                                                    obtain ⟨hc571, h⟩ := h
                                                    refine fw_xiald hc570 hg568 hc571 dL_law_879 ?_
                                                    obtain ⟨hg572, h⟩ := h
                                                    refine fw_callV1z (f1 := f - 1) cl_L_117 rfl hg572 (by decide) (by omega) (fw_s4 (Nat.le_of_ble_eq_true rfl)) dL_law_880 (w_X5_hired (f := f - 1) (by omega) hg572 h) (fun _ _ h9 _ _ => h9.elim) (fun v9 μ574 q9 hs575 => ?_)
                                                    obtain ⟨v573, rfl, h⟩ := q9
                                                    refine fw_ti ?_
                                                    have hg576 := hs575.K hg568 (by decide)
                                                    have hg577 := hs575.K hg569 (by decide)
                                                    have hg578 := hs575.K hg572 (by decide)
                                                    refine fw_icmp_eq (tgt := 1079) dL_law_883 (by decide) (fun c579 => ?_) (fun c579 => ?_)
                                                    · have h := fw_it h c579
                                                      obtain ⟨i3_580, e581⟩ : ∃ y : Int32, y = i3 + (6 : Int32) := ⟨_, rfl⟩
                                                      have h := h i3_580 e581
                                                      refine fw_iincN (k := 3) (v := i3_580) (Ls' := [(3, Value.int i3_580), (2, fw_rv g r2), (0, fw_rv g r0), (1, fw_rv g r1)]) [0, 1] dL_law_1079 rfl (by rw [e581]; rfl) (show _ < 4 by decide) rfl rfl rfl (fw_cat _) rfl ?_
                                                      refine fw_goto (tgt := 18) dL_law_1082 (by decide) ?_
                                                      refine fw_ls [2, 3, 1, 0] rfl ?_
                                                      exact hk18 h
                                                    · have h := fw_if h c579
                                                      refine fw_iconst (v := 0) dL_law_886 (by decide) ?_
                                                      exact fw_ireturn dL_law_887 rfl (by decide +kernel) ⟨_, rfl, h⟩
                                                  · refine fw_sw (k := 24) h (fun c582 h => ?_) (fun c582 h => ?_)
                                                    · refine fw_tableIn (tgt := 888) dL_law_33 (by rw [c582]; decide) (by rw [c582]; decide) (by rw [c582]; rfl) (by decide) ?_
                                                      refine fw_aload_n dL_law_888 rfl rfl ?_
                                                      obtain ⟨hg583, h⟩ := h
                                                      refine fw_callV0z (f1 := f - 1) cl_L_118 rfl hg583 (by decide) (by omega) (fw_s4 (Nat.le_of_ble_eq_true rfl)) dL_law_889 (w_X0_contrary (f := f - 1) (by omega) hg583 h) (fun _ _ h9 _ _ => h9.elim) (fun v9 μ585 q9 hs586 => ?_)
                                                      obtain ⟨v584, rfl, h⟩ := q9
                                                      refine fw_ti ?_
                                                      have hg587 := hs586.K hg1 (by decide)
                                                      have hg588 := hs586.K hg583 (by decide)
                                                      refine fw_aload_n dL_law_892 rfl rfl ?_
                                                      obtain ⟨hg589, h⟩ := h
                                                      refine fw_callV0z (f1 := f - 1) cl_L_121 rfl hg589 (by decide) (by omega) (fw_s4 (Nat.le_of_ble_eq_true rfl)) dL_law_893 (w_X5_contrary (f := f - 1) (by omega) hg589 h) (fun _ _ h9 _ _ => h9.elim) (fun v9 μ591 q9 hs592 => ?_)
                                                      obtain ⟨v590, rfl, h⟩ := q9
                                                      refine fw_ti ?_
                                                      have hg593 := hs592.K hg587 (by decide)
                                                      have hg594 := hs592.K hg588 (by decide)
                                                      have hg595 := hs592.K hg589 (by decide)
                                                      refine fw_icmp_eq (tgt := 1079) dL_law_896 (by decide) (fun c596 => ?_) (fun c596 => ?_)
                                                      · have h := fw_it h c596
                                                        obtain ⟨i3_597, e598⟩ : ∃ y : Int32, y = i3 + (6 : Int32) := ⟨_, rfl⟩
                                                        have h := h i3_597 e598
                                                        refine fw_iincN (k := 3) (v := i3_597) (Ls' := [(3, Value.int i3_597), (2, fw_rv g r2), (0, fw_rv g r0), (1, fw_rv g r1)]) [0, 1] dL_law_1079 rfl (by rw [e598]; rfl) (show _ < 4 by decide) rfl rfl rfl (fw_cat _) rfl ?_
                                                        refine fw_goto (tgt := 18) dL_law_1082 (by decide) ?_
                                                        refine fw_ls [2, 3, 1, 0] rfl ?_
                                                        exact hk18 h
                                                      · have h := fw_if h c596
                                                        refine fw_iconst (v := 0) dL_law_899 (by decide) ?_
                                                        exact fw_ireturn dL_law_900 rfl (by decide +kernel) ⟨_, rfl, h⟩
                                                    · refine fw_sw (k := 25) h (fun c599 h => ?_) (fun c599 h => ?_)
                                                      · refine fw_tableIn (tgt := 901) dL_law_33 (by rw [c599]; decide) (by rw [c599]; decide) (by rw [c599]; rfl) (by decide) ?_
                                                        refine fw_aload_n dL_law_901 rfl rfl ?_
                                                        refine fw_aload_n dL_law_902 rfl rfl ?_
                                                        refine fw_iload_n dL_law_903 rfl rfl ?_
                                                        refine fw_iconst (v := 1) dL_law_904 (by decide) ?_
                                                        refine fw_iadd dL_law_905 ?_
                                                        obtain ⟨hc600, h⟩ := h
                                                        obtain ⟨hc601, h⟩ := h
                                                        refine fw_xiald hc600 hg1 hc601 dL_law_906 ?_
                                                        refine fw_aload_n dL_law_907 rfl rfl ?_
                                                        refine fw_iload_n dL_law_908 rfl rfl ?_
                                                        refine fw_iconst (v := 2) dL_law_909 (by decide) ?_
                                                        refine fw_iadd dL_law_910 ?_
                                                        obtain ⟨hc602, h⟩ := h
                                                        obtain ⟨hc603, h⟩ := h
                                                        refine fw_xiald hc602 hg1 hc603 dL_law_911 ?_
                                                        refine fw_aload_n dL_law_912 rfl rfl ?_
                                                        refine fw_iload_n dL_law_913 rfl rfl ?_
                                                        refine fw_iconst (v := 3) dL_law_914 (by decide) ?_
                                                        refine fw_iadd dL_law_915 ?_
                                                        obtain ⟨hc604, h⟩ := h
                                                        obtain ⟨hc605, h⟩ := h
                                                        refine fw_xiald hc604 hg1 hc605 dL_law_916 ?_
                                                        refine fw_if_eq (tgt := 924) dL_law_917 (by decide) (fun c606 => ?_) (fun c606 => ?_)
                                                        · have h := fw_it h c606
                                                          refine fw_iconst (v := 0) dL_law_924 (by decide) ?_
                                                          exact w_L_law_L925 hf hk18 h
                                                        · have h := fw_if h c606
                                                          refine fw_iconst (v := 1) dL_law_920 (by decide) ?_
                                                          refine fw_goto (tgt := 925) dL_law_921 (by decide) ?_
                                                          exact w_L_law_L925 hf hk18 h
                                                      · refine fw_sw (k := 26) h (fun c607 h => ?_) (fun c607 h => ?_)
                                                        · refine fw_tableIn (tgt := 961) dL_law_33 (by rw [c607]; decide) (by rw [c607]; decide) (by rw [c607]; rfl) (by decide) ?_
                                                          refine fw_aload_n dL_law_961 rfl rfl ?_
                                                          refine fw_aload_n dL_law_962 rfl rfl ?_
                                                          refine fw_iload_n dL_law_963 rfl rfl ?_
                                                          refine fw_iconst (v := 1) dL_law_964 (by decide) ?_
                                                          refine fw_iadd dL_law_965 ?_
                                                          obtain ⟨hc608, h⟩ := h
                                                          obtain ⟨hc609, h⟩ := h
                                                          refine fw_xiald hc608 hg1 hc609 dL_law_966 ?_
                                                          refine fw_aload_n dL_law_967 rfl rfl ?_
                                                          refine fw_iload_n dL_law_968 rfl rfl ?_
                                                          refine fw_iconst (v := 2) dL_law_969 (by decide) ?_
                                                          refine fw_iadd dL_law_970 ?_
                                                          obtain ⟨hc610, h⟩ := h
                                                          obtain ⟨hc611, h⟩ := h
                                                          refine fw_xiald hc610 hg1 hc611 dL_law_971 ?_
                                                          obtain ⟨hg612, h⟩ := h
                                                          refine fw_callV2z (f1 := f - 1) cl_L_127 rfl hg612 (by decide) (by omega) (fw_s4 (Nat.le_of_ble_eq_true rfl)) dL_law_972 (w_X0_tell (f := f - 1) (by omega) hg612 h) (fun _ _ h9 _ _ => h9.elim) (fun v9 μ614 q9 hs615 => ?_)
                                                          obtain ⟨v613, rfl, h⟩ := q9
                                                          refine fw_ti ?_
                                                          have hg616 := hs615.K hg1 (by decide)
                                                          have hg617 := hs615.K hg612 (by decide)
                                                          refine fw_aload_n dL_law_975 rfl rfl ?_
                                                          refine fw_aload_n dL_law_976 rfl rfl ?_
                                                          refine fw_iload_n dL_law_977 rfl rfl ?_
                                                          refine fw_iconst (v := 1) dL_law_978 (by decide) ?_
                                                          refine fw_iadd dL_law_979 ?_
                                                          obtain ⟨hc618, h⟩ := h
                                                          obtain ⟨hc619, h⟩ := h
                                                          refine fw_xiald hc618 hg616 hc619 dL_law_980 ?_
                                                          refine fw_aload_n dL_law_981 rfl rfl ?_
                                                          refine fw_iload_n dL_law_982 rfl rfl ?_
                                                          refine fw_iconst (v := 2) dL_law_983 (by decide) ?_
                                                          refine fw_iadd dL_law_984 ?_
                                                          obtain ⟨hc620, h⟩ := h
                                                          obtain ⟨hc621, h⟩ := h
                                                          refine fw_xiald hc620 hg616 hc621 dL_law_985 ?_
                                                          obtain ⟨hg622, h⟩ := h
                                                          refine fw_callV2z (f1 := f - 1) cl_L_130 rfl hg622 (by decide) (by omega) (fw_s4 (Nat.le_of_ble_eq_true rfl)) dL_law_986 (w_X5_tell (f := f - 1) (by omega) hg622 h) (fun _ _ h9 _ _ => h9.elim) (fun v9 μ624 q9 hs625 => ?_)
                                                          obtain ⟨v623, rfl, h⟩ := q9
                                                          refine fw_ti ?_
                                                          have hg626 := hs625.K hg616 (by decide)
                                                          have hg627 := hs625.K hg617 (by decide)
                                                          have hg628 := hs625.K hg622 (by decide)
                                                          refine fw_icmp_eq (tgt := 1079) dL_law_989 (by decide) (fun c629 => ?_) (fun c629 => ?_)
                                                          · have h := fw_it h c629
                                                            obtain ⟨i3_630, e631⟩ : ∃ y : Int32, y = i3 + (6 : Int32) := ⟨_, rfl⟩
                                                            have h := h i3_630 e631
                                                            refine fw_iincN (k := 3) (v := i3_630) (Ls' := [(3, Value.int i3_630), (2, fw_rv g r2), (0, fw_rv g r0), (1, fw_rv g r1)]) [0, 1] dL_law_1079 rfl (by rw [e631]; rfl) (show _ < 4 by decide) rfl rfl rfl (fw_cat _) rfl ?_
                                                            refine fw_goto (tgt := 18) dL_law_1082 (by decide) ?_
                                                            refine fw_ls [2, 3, 1, 0] rfl ?_
                                                            exact hk18 h
                                                          · have h := fw_if h c629
                                                            refine fw_iconst (v := 0) dL_law_992 (by decide) ?_
                                                            exact fw_ireturn dL_law_993 rfl (by decide +kernel) ⟨_, rfl, h⟩
                                                        · refine fw_sw (k := 27) h (fun c632 h => ?_) (fun c632 h => ?_)
                                                          · refine fw_tableIn (tgt := 994) dL_law_33 (by rw [c632]; decide) (by rw [c632]; decide) (by rw [c632]; rfl) (by decide) ?_
                                                            refine fw_aload_n dL_law_994 rfl rfl ?_
                                                            obtain ⟨hg633, h⟩ := h
                                                            refine fw_callV0z (f1 := f - 1) cl_L_131 rfl hg633 (by decide) (by omega) (fw_s4 (Nat.le_of_ble_eq_true rfl)) dL_law_995 (w_X0_liars (f := f - 1) (by omega) hg633 h) (fun _ _ h9 _ _ => h9.elim) (fun v9 μ635 q9 hs636 => ?_)
                                                            obtain ⟨v634, rfl, h⟩ := q9
                                                            refine fw_ti ?_
                                                            have hg637 := hs636.K hg1 (by decide)
                                                            have hg638 := hs636.K hg633 (by decide)
                                                            refine fw_aload_n dL_law_998 rfl rfl ?_
                                                            obtain ⟨hg639, h⟩ := h
                                                            refine fw_callV0z (f1 := f - 1) cl_L_134 rfl hg639 (by decide) (by omega) (fw_s4 (Nat.le_of_ble_eq_true rfl)) dL_law_999 (w_X5_liars (f := f - 1) (by omega) hg639 h) (fun _ _ h9 _ _ => h9.elim) (fun v9 μ641 q9 hs642 => ?_)
                                                            obtain ⟨v640, rfl, h⟩ := q9
                                                            refine fw_ti ?_
                                                            have hg643 := hs642.K hg637 (by decide)
                                                            have hg644 := hs642.K hg638 (by decide)
                                                            have hg645 := hs642.K hg639 (by decide)
                                                            refine fw_icmp_eq (tgt := 1079) dL_law_1002 (by decide) (fun c646 => ?_) (fun c646 => ?_)
                                                            · have h := fw_it h c646
                                                              obtain ⟨i3_647, e648⟩ : ∃ y : Int32, y = i3 + (6 : Int32) := ⟨_, rfl⟩
                                                              have h := h i3_647 e648
                                                              refine fw_iincN (k := 3) (v := i3_647) (Ls' := [(3, Value.int i3_647), (2, fw_rv g r2), (0, fw_rv g r0), (1, fw_rv g r1)]) [0, 1] dL_law_1079 rfl (by rw [e648]; rfl) (show _ < 4 by decide) rfl rfl rfl (fw_cat _) rfl ?_
                                                              refine fw_goto (tgt := 18) dL_law_1082 (by decide) ?_
                                                              refine fw_ls [2, 3, 1, 0] rfl ?_
                                                              exact hk18 h
                                                            · have h := fw_if h c646
                                                              refine fw_iconst (v := 0) dL_law_1005 (by decide) ?_
                                                              exact fw_ireturn dL_law_1006 rfl (by decide +kernel) ⟨_, rfl, h⟩
                                                          · refine fw_sw (k := 28) h (fun c649 h => ?_) (fun c649 h => ?_)
                                                            · refine fw_tableIn (tgt := 1007) dL_law_33 (by rw [c649]; decide) (by rw [c649]; decide) (by rw [c649]; rfl) (by decide) ?_
                                                              refine fw_aload_n dL_law_1007 rfl rfl ?_
                                                              refine fw_aload_n dL_law_1008 rfl rfl ?_
                                                              refine fw_iload_n dL_law_1009 rfl rfl ?_
                                                              refine fw_iconst (v := 1) dL_law_1010 (by decide) ?_
                                                              refine fw_iadd dL_law_1011 ?_
                                                              obtain ⟨hc650, h⟩ := h
                                                              obtain ⟨hc651, h⟩ := h
                                                              refine fw_xiald hc650 hg1 hc651 dL_law_1012 ?_
                                                              obtain ⟨hg652, h⟩ := h
                                                              refine fw_callV1z (f1 := f - 1) cl_L_135 rfl hg652 (by decide) (by omega) (fw_s4 (Nat.le_of_ble_eq_true rfl)) dL_law_1013 (w_X0_inWhoseName (f := f - 1) (by omega) hg652 h) (fun _ _ h9 _ _ => h9.elim) (fun v9 μ654 q9 hs655 => ?_)
                                                              obtain ⟨v653, rfl, h⟩ := q9
                                                              refine fw_ti ?_
                                                              have hg656 := hs655.K hg1 (by decide)
                                                              have hg657 := hs655.K hg652 (by decide)
                                                              refine fw_aload_n dL_law_1016 rfl rfl ?_
                                                              refine fw_aload_n dL_law_1017 rfl rfl ?_
                                                              refine fw_iload_n dL_law_1018 rfl rfl ?_
                                                              refine fw_iconst (v := 1) dL_law_1019 (by decide) ?_
                                                              refine fw_iadd dL_law_1020 ?_
                                                              obtain ⟨hc658, h⟩ := h
                                                              obtain ⟨hc659, h⟩ := h
                                                              refine fw_xiald hc658 hg656 hc659 dL_law_1021 ?_
                                                              obtain ⟨hg660, h⟩ := h
                                                              refine fw_callV1z (f1 := f - 1) cl_L_138 rfl hg660 (by decide) (by omega) (fw_s4 (Nat.le_of_ble_eq_true rfl)) dL_law_1022 (w_X5_inWhoseName (f := f - 1) (by omega) hg660 h) (fun _ _ h9 _ _ => h9.elim) (fun v9 μ662 q9 hs663 => ?_)
                                                              obtain ⟨v661, rfl, h⟩ := q9
                                                              refine fw_ti ?_
                                                              have hg664 := hs663.K hg656 (by decide)
                                                              have hg665 := hs663.K hg657 (by decide)
                                                              have hg666 := hs663.K hg660 (by decide)
                                                              refine fw_icmp_eq (tgt := 1079) dL_law_1025 (by decide) (fun c667 => ?_) (fun c667 => ?_)
                                                              · have h := fw_it h c667
                                                                obtain ⟨i3_668, e669⟩ : ∃ y : Int32, y = i3 + (6 : Int32) := ⟨_, rfl⟩
                                                                have h := h i3_668 e669
                                                                refine fw_iincN (k := 3) (v := i3_668) (Ls' := [(3, Value.int i3_668), (2, fw_rv g r2), (0, fw_rv g r0), (1, fw_rv g r1)]) [0, 1] dL_law_1079 rfl (by rw [e669]; rfl) (show _ < 4 by decide) rfl rfl rfl (fw_cat _) rfl ?_
                                                                refine fw_goto (tgt := 18) dL_law_1082 (by decide) ?_
                                                                refine fw_ls [2, 3, 1, 0] rfl ?_
                                                                exact hk18 h
                                                              · have h := fw_if h c667
                                                                refine fw_iconst (v := 0) dL_law_1028 (by decide) ?_
                                                                exact fw_ireturn dL_law_1029 rfl (by decide +kernel) ⟨_, rfl, h⟩
                                                            · refine fw_sw (k := 29) h (fun c670 h => ?_) (fun c670 h => ?_)
                                                              · refine fw_tableIn (tgt := 1030) dL_law_33 (by rw [c670]; decide) (by rw [c670]; decide) (by rw [c670]; rfl) (by decide) ?_
                                                                refine fw_aload_n dL_law_1030 rfl rfl ?_
                                                                obtain ⟨hg671, h⟩ := h
                                                                refine fw_callV0z (f1 := f - 1) cl_L_139 rfl hg671 (by decide) (by omega) (fw_s4 (Nat.le_of_ble_eq_true rfl)) dL_law_1031 (w_X0_image (f := f - 1) (by omega) hg671 h) (fun _ _ h9 _ _ => h9.elim) (fun v9 μ673 q9 hs674 => ?_)
                                                                obtain ⟨v672, rfl, h⟩ := q9
                                                                refine fw_ti ?_
                                                                have hg675 := hs674.K hg1 (by decide)
                                                                have hg676 := hs674.K hg671 (by decide)
                                                                refine fw_aload_n dL_law_1034 rfl rfl ?_
                                                                obtain ⟨hg677, h⟩ := h
                                                                refine fw_callV0z (f1 := f - 1) cl_L_142 rfl hg677 (by decide) (by omega) (fw_s4 (Nat.le_of_ble_eq_true rfl)) dL_law_1035 (w_X5_image (f := f - 1) (by omega) hg677 h) (fun _ _ h9 _ _ => h9.elim) (fun v9 μ679 q9 hs680 => ?_)
                                                                obtain ⟨v678, rfl, h⟩ := q9
                                                                refine fw_ti ?_
                                                                have hg681 := hs680.K hg675 (by decide)
                                                                have hg682 := hs680.K hg676 (by decide)
                                                                have hg683 := hs680.K hg677 (by decide)
                                                                refine fw_icmp_eq (tgt := 1079) dL_law_1038 (by decide) (fun c684 => ?_) (fun c684 => ?_)
                                                                · have h := fw_it h c684
                                                                  obtain ⟨i3_685, e686⟩ : ∃ y : Int32, y = i3 + (6 : Int32) := ⟨_, rfl⟩
                                                                  have h := h i3_685 e686
                                                                  refine fw_iincN (k := 3) (v := i3_685) (Ls' := [(3, Value.int i3_685), (2, fw_rv g r2), (0, fw_rv g r0), (1, fw_rv g r1)]) [0, 1] dL_law_1079 rfl (by rw [e686]; rfl) (show _ < 4 by decide) rfl rfl rfl (fw_cat _) rfl ?_
                                                                  refine fw_goto (tgt := 18) dL_law_1082 (by decide) ?_
                                                                  refine fw_ls [2, 3, 1, 0] rfl ?_
                                                                  exact hk18 h
                                                                · have h := fw_if h c684
                                                                  refine fw_iconst (v := 0) dL_law_1041 (by decide) ?_
                                                                  exact fw_ireturn dL_law_1042 rfl (by decide +kernel) ⟨_, rfl, h⟩
                                                              · refine fw_sw (k := 30) h (fun c687 h => ?_) (fun c687 h => ?_)
                                                                · refine fw_tableIn (tgt := 1043) dL_law_33 (by rw [c687]; decide) (by rw [c687]; decide) (by rw [c687]; rfl) (by decide) ?_
                                                                  refine fw_aload_n dL_law_1043 rfl rfl ?_
                                                                  obtain ⟨hg688, h⟩ := h
                                                                  refine fw_callV0z (f1 := f - 1) cl_L_143 rfl hg688 (by decide) (by omega) (fw_s4 (Nat.le_of_ble_eq_true rfl)) dL_law_1044 (w_X0_back (f := f - 1) (by omega) hg688 h) (fun _ _ h9 _ _ => h9.elim) (fun v9 μ690 q9 hs691 => ?_)
                                                                  obtain ⟨v689, rfl, h⟩ := q9
                                                                  refine fw_ti ?_
                                                                  have hg692 := hs691.K hg1 (by decide)
                                                                  have hg693 := hs691.K hg688 (by decide)
                                                                  refine fw_aload_n dL_law_1047 rfl rfl ?_
                                                                  obtain ⟨hg694, h⟩ := h
                                                                  refine fw_callV0z (f1 := f - 1) cl_L_146 rfl hg694 (by decide) (by omega) (fw_s4 (Nat.le_of_ble_eq_true rfl)) dL_law_1048 (w_X5_back (f := f - 1) (by omega) hg694 h) (fun _ _ h9 _ _ => h9.elim) (fun v9 μ696 q9 hs697 => ?_)
                                                                  obtain ⟨v695, rfl, h⟩ := q9
                                                                  refine fw_ti ?_
                                                                  have hg698 := hs697.K hg692 (by decide)
                                                                  have hg699 := hs697.K hg693 (by decide)
                                                                  have hg700 := hs697.K hg694 (by decide)
                                                                  refine fw_icmp_eq (tgt := 1079) dL_law_1051 (by decide) (fun c701 => ?_) (fun c701 => ?_)
                                                                  · have h := fw_it h c701
                                                                    obtain ⟨i3_702, e703⟩ : ∃ y : Int32, y = i3 + (6 : Int32) := ⟨_, rfl⟩
                                                                    have h := h i3_702 e703
                                                                    refine fw_iincN (k := 3) (v := i3_702) (Ls' := [(3, Value.int i3_702), (2, fw_rv g r2), (0, fw_rv g r0), (1, fw_rv g r1)]) [0, 1] dL_law_1079 rfl (by rw [e703]; rfl) (show _ < 4 by decide) rfl rfl rfl (fw_cat _) rfl ?_
                                                                    refine fw_goto (tgt := 18) dL_law_1082 (by decide) ?_
                                                                    refine fw_ls [2, 3, 1, 0] rfl ?_
                                                                    exact hk18 h
                                                                  · have h := fw_if h c701
                                                                    refine fw_iconst (v := 0) dL_law_1054 (by decide) ?_
                                                                    exact fw_ireturn dL_law_1055 rfl (by decide +kernel) ⟨_, rfl, h⟩
                                                                · refine fw_sw (k := 31) h (fun c704 h => ?_) (fun c704 h => ?_)
                                                                  · refine fw_tableIn (tgt := 1056) dL_law_33 (by rw [c704]; decide) (by rw [c704]; decide) (by rw [c704]; rfl) (by decide) ?_
                                                                    refine fw_aload_n dL_law_1056 rfl rfl ?_
                                                                    refine fw_aload_n dL_law_1057 rfl rfl ?_
                                                                    refine fw_iload_n dL_law_1058 rfl rfl ?_
                                                                    refine fw_iconst (v := 1) dL_law_1059 (by decide) ?_
                                                                    refine fw_iadd dL_law_1060 ?_
                                                                    obtain ⟨hc705, h⟩ := h
                                                                    obtain ⟨hc706, h⟩ := h
                                                                    refine fw_xiald hc705 hg1 hc706 dL_law_1061 ?_
                                                                    obtain ⟨hg707, h⟩ := h
                                                                    refine fw_callV1z (f1 := f - 1) cl_L_147 rfl hg707 (by decide) (by omega) (fw_s4 (Nat.le_of_ble_eq_true rfl)) dL_law_1062 (w_X0_about (f := f - 1) (by omega) hg707 h) (fun _ _ h9 _ _ => h9.elim) (fun v9 μ709 q9 hs710 => ?_)
                                                                    obtain ⟨v708, rfl, h⟩ := q9
                                                                    refine fw_ti ?_
                                                                    have hg711 := hs710.K hg1 (by decide)
                                                                    have hg712 := hs710.K hg707 (by decide)
                                                                    refine fw_aload_n dL_law_1065 rfl rfl ?_
                                                                    refine fw_aload_n dL_law_1066 rfl rfl ?_
                                                                    refine fw_iload_n dL_law_1067 rfl rfl ?_
                                                                    refine fw_iconst (v := 1) dL_law_1068 (by decide) ?_
                                                                    refine fw_iadd dL_law_1069 ?_
                                                                    obtain ⟨hc713, h⟩ := h
                                                                    obtain ⟨hc714, h⟩ := h
                                                                    refine fw_xiald hc713 hg711 hc714 dL_law_1070 ?_
                                                                    obtain ⟨hg715, h⟩ := h
                                                                    refine fw_callV1z (f1 := f - 1) cl_L_150 rfl hg715 (by decide) (by omega) (fw_s4 (Nat.le_of_ble_eq_true rfl)) dL_law_1071 (w_X5_about (f := f - 1) (by omega) hg715 h) (fun _ _ h9 _ _ => h9.elim) (fun v9 μ717 q9 hs718 => ?_)
                                                                    obtain ⟨v716, rfl, h⟩ := q9
                                                                    refine fw_ti ?_
                                                                    have hg719 := hs718.K hg711 (by decide)
                                                                    have hg720 := hs718.K hg712 (by decide)
                                                                    have hg721 := hs718.K hg715 (by decide)
                                                                    refine fw_icmp_eq (tgt := 1079) dL_law_1074 (by decide) (fun c722 => ?_) (fun c722 => ?_)
                                                                    · have h := fw_it h c722
                                                                      obtain ⟨i3_723, e724⟩ : ∃ y : Int32, y = i3 + (6 : Int32) := ⟨_, rfl⟩
                                                                      have h := h i3_723 e724
                                                                      refine fw_iincN (k := 3) (v := i3_723) (Ls' := [(3, Value.int i3_723), (2, fw_rv g r2), (0, fw_rv g r0), (1, fw_rv g r1)]) [0, 1] dL_law_1079 rfl (by rw [e724]; rfl) (show _ < 4 by decide) rfl rfl rfl (fw_cat _) rfl ?_
                                                                      refine fw_goto (tgt := 18) dL_law_1082 (by decide) ?_
                                                                      refine fw_ls [2, 3, 1, 0] rfl ?_
                                                                      exact hk18 h
                                                                    · have h := fw_if h c722
                                                                      refine fw_iconst (v := 0) dL_law_1077 (by decide) ?_
                                                                      exact fw_ireturn dL_law_1078 rfl (by decide +kernel) ⟨_, rfl, h⟩
                                                                  · have nc6 := lv_neT c6 (k := 0) (a := 0) (by decide)
                                                                    have nc35 := lv_neT c35 (k := 1) (a := 1) (by decide)
                                                                    have nc64 := lv_neT c64 (k := 2) (a := 2) (by decide)
                                                                    have nc85 := lv_neT c85 (k := 3) (a := 3) (by decide)
                                                                    have nc110 := lv_neT c110 (k := 4) (a := 4) (by decide)
                                                                    have nc135 := lv_neT c135 (k := 5) (a := 5) (by decide)
                                                                    have nc156 := lv_neT c156 (k := 6) (a := 6) (by decide)
                                                                    have nc177 := lv_neT c177 (k := 7) (a := 7) (by decide)
                                                                    have nc214 := lv_neT c214 (k := 8) (a := 8) (by decide)
                                                                    have nc235 := lv_neT c235 (k := 9) (a := 9) (by decide)
                                                                    have nc256 := lv_neT c256 (k := 10) (a := 10) (by decide)
                                                                    have nc277 := lv_neT c277 (k := 11) (a := 11) (by decide)
                                                                    have nc298 := lv_neT c298 (k := 12) (a := 12) (by decide)
                                                                    have nc319 := lv_neT c319 (k := 13) (a := 13) (by decide)
                                                                    have nc336 := lv_neT c336 (k := 14) (a := 14) (by decide)
                                                                    have nc361 := lv_neT c361 (k := 15) (a := 15) (by decide)
                                                                    have nc386 := lv_neT c386 (k := 16) (a := 16) (by decide)
                                                                    have nc411 := lv_neT c411 (k := 17) (a := 17) (by decide)
                                                                    have nc440 := lv_neT c440 (k := 18) (a := 18) (by decide)
                                                                    have nc465 := lv_neT c465 (k := 19) (a := 19) (by decide)
                                                                    have nc498 := lv_neT c498 (k := 20) (a := 20) (by decide)
                                                                    have nc523 := lv_neT c523 (k := 21) (a := 21) (by decide)
                                                                    have nc540 := lv_neT c540 (k := 22) (a := 22) (by decide)
                                                                    have nc561 := lv_neT c561 (k := 23) (a := 23) (by decide)
                                                                    have nc582 := lv_neT c582 (k := 24) (a := 24) (by decide)
                                                                    have nc599 := lv_neT c599 (k := 25) (a := 25) (by decide)
                                                                    have nc607 := lv_neT c607 (k := 26) (a := 26) (by decide)
                                                                    have nc632 := lv_neT c632 (k := 27) (a := 27) (by decide)
                                                                    have nc649 := lv_neT c649 (k := 28) (a := 28) (by decide)
                                                                    have nc670 := lv_neT c670 (k := 29) (a := 29) (by decide)
                                                                    have nc687 := lv_neT c687 (k := 30) (a := 30) (by decide)
                                                                    have nc704 := lv_neT c704 (k := 31) (a := 31) (by decide)
                                                                    refine fw_tableOut (tgt := 1079) dL_law_33 (by omega) (by decide) ?_
                                                                    obtain ⟨i3_725, e726⟩ : ∃ y : Int32, y = i3 + (6 : Int32) := ⟨_, rfl⟩
                                                                    have h := h i3_725 e726
                                                                    refine fw_iincN (k := 3) (v := i3_725) (Ls' := [(3, Value.int i3_725), (2, fw_rv g r2), (0, fw_rv g r0), (1, fw_rv g r1)]) [0, 1] dL_law_1079 rfl (by rw [e726]; rfl) (show _ < 4 by decide) rfl rfl rfl (fw_cat _) rfl ?_
                                                                    refine fw_goto (tgt := 18) dL_law_1082 (by decide) ?_
                                                                    refine fw_ls [2, 3, 1, 0] rfl ?_
                                                                    exact hk18 h
theorem w_L_law_L18 {g : fw_G} {nm9 : String} {hh9 : List (Nat × Nat × Nat × Nat)} {f : Nat} {r0 : Nat} {r1 : Nat} {r2 : Nat} {bc : Nat} {bs : Nat} {i3 : Int32} {μ : fw_M} {Q : Int32 → fw_M → Prop} (hf : 827 ≤ f) (h : p_L_law_L18 r0 r1 r2 bc bs i3 μ Q) : fw_V g (K_L_law nm9 hh9) f bc bs 18 [(0, fw_rv g r0), (1, fw_rv g r1), (2, fw_rv g r2), (3, Value.int i3)] [] μ (fw_Qi Q) fw_nX := by
  have key := fw_lp_out (R := fun (a : Nat × Nat × Int32 × fw_M) => fw_V g (K_L_law nm9 hh9) f a.1 a.2.1 18 [(0, fw_rv g r0), (1, fw_rv g r1), (2, fw_rv g r2), (3, Value.int a.2.2.1)] [] a.2.2.2 (fw_Qi Q) fw_nX) (fun k hk9 a ha => w_L_law_L18b hf (fun {bc bs i3} {μ} h3 => hk9 (bc, bs, i3, μ) h3) ha) h
  exact key
def p_L_law (bc : Nat) (bs : Nat) (r0 : Nat) (μ : fw_M) (Q : Int32 → fw_M → Prop) : Prop :=
  (1 ≤ bc ∧ (14 ≤ bs ∧ (∀ rn3 : Nat, rn3 = m_x μ →
  (∀ μ6, μ6 = m_al μ 1 14 →
  (∃ b10 b11, b10 ≤ (bc - 1) ∧ b11 ≤ (bs - 14) ∧ (p_X0_init b10 b11 rn3 μ6 (fun μ9 =>
  (1 ≤ ((bc - 1) - b10) ∧ (48 ≤ ((bs - 14) - b11) ∧ (∀ rn18 : Nat, rn18 = m_x μ9 →
  (∀ μ21, μ21 = m_al μ9 6 48 →
  (∃ b26 b27, b26 ≤ (((bc - 1) - b10) - 1) ∧ b27 ≤ (((bs - 14) - b11) - 48) ∧ (p_X5_init b26 b27 rn18 μ21 (fun μ25 =>
  p_L_law_L18 r0 rn3 rn18 ((((bc - 1) - b10) - 1) - b26) ((((bs - 14) - b11) - 48) - b27) (0 : Int32) μ25 Q))))))))))))))
set_option maxHeartbeats 4000000 in
theorem v_L_law {g : fw_G} {nm9 : String} {hh9 : List (Nat × Nat × Nat × Nat)} {f bc bs : Nat} {r0 : Nat} {μ : fw_M} {Q : Int32 → fw_M → Prop} (hf : 827 ≤ f) (h : p_L_law bc bs r0 μ Q) : fw_V g (K_L_law nm9 hh9) f bc bs 0 [(0, fw_rv g r0)] [] μ (fw_Qi Q) fw_nX := by
  unfold p_L_law at h
  refine fw_x (fun hX => ?_)
  obtain ⟨hc1, h⟩ := h
  obtain ⟨hc2, h⟩ := h
  refine fw_newo (k := 1) rfl q104 q105 q74 hc1 hc2 dL_law_0 ?_
  refine fw_topr (fun rn3 e4 => ?_)
  have h := h rn3 e4
  refine fw_topm (fun μ6 e7 => ?_)
  have hg5 := fw_al_KE e7 e4
  have h := h μ6 e7
  refine fw_dup dL_law_3 (fw_cat _) ?_
  obtain ⟨b10, b11, hb12, hb13, h⟩ := h
  refine fw_callI0 (f1 := f - 1) (b1 := b10) (b2 := b11) cl_L_9 (k := 1) rfl hg5 (by decide) (by omega) hb12 hb13 (fw_s4 (Nat.le_of_ble_eq_true rfl)) dL_law_4 (w_X0_init (f := f - 1) (by omega) hg5 h) (fun _ _ h9 _ _ => h9.elim) (fun v9 μ9 q9 hs14 => ?_)
  obtain ⟨rfl, h⟩ := q9
  refine fw_tv ?_
  have hg15 := hs14.K hg5 (by decide)
  refine fw_astore_nN (Ls' := [(1, fw_rv g rn3), (0, fw_rv g r0)]) [] dL_law_7 rfl (show _ < 4 by decide) rfl rfl rfl (fw_cat _) rfl ?_
  refine fw_x (fun hX => ?_)
  obtain ⟨hc16, h⟩ := h
  obtain ⟨hc17, h⟩ := h
  refine fw_newo (k := 6) rfl q1039 q1040 q79 hc16 hc17 dL_law_8 ?_
  refine fw_topr (fun rn18 e19 => ?_)
  have h := h rn18 e19
  refine fw_topm (fun μ21 e22 => ?_)
  have hg23 := fw_al_sE e22 hg15 (by decide) hX
  have hg20 := fw_al_KE e22 e19
  have h := h μ21 e22
  refine fw_dup dL_law_11 (fw_cat _) ?_
  obtain ⟨b26, b27, hb28, hb29, h⟩ := h
  refine fw_callI0 (f1 := f - 1) (b1 := b26) (b2 := b27) cl_L_12 (k := 6) rfl hg20 (by decide) (by omega) hb28 hb29 (fw_s4 (Nat.le_of_ble_eq_true rfl)) dL_law_12 (w_X5_init (f := f - 1) (by omega) hg20 h) (fun _ _ h9 _ _ => h9.elim) (fun v9 μ25 q9 hs30 => ?_)
  obtain ⟨rfl, h⟩ := q9
  refine fw_tv ?_
  have hg31 := hs30.K hg23 (by decide)
  have hg32 := hs30.K hg20 (by decide)
  refine fw_astore_nN (Ls' := [(2, fw_rv g rn18), (1, fw_rv g rn3), (0, fw_rv g r0)]) [1] dL_law_15 rfl (show _ < 4 by decide) rfl rfl rfl (fw_cat _) rfl ?_
  refine fw_iconst (v := 0) dL_law_16 (by decide) ?_
  refine fw_istore_nN (Ls' := [(3, Value.int (0 : Int32)), (2, fw_rv g rn18), (1, fw_rv g rn3), (0, fw_rv g r0)]) [1, 2] dL_law_17 rfl (show _ < 4 by decide) rfl rfl rfl (fw_cat _) rfl ?_
  refine fw_ls [3, 2, 1, 0] rfl ?_
  exact w_L_law_L18 hf h
