set_option maxRecDepth 100000
abbrev K_X5_held : fw_Kt := (RX5, "held", cX5_held, 4, some .int, [])
def p_X5_held (l0 : Int64) (i2 : Int32) (i3 : Int32) (μ : fw_M) (Q : Int32 → fw_M → Prop) : Prop :=
  (if l0 < i2.toInt64 then
  (Q i2 μ)
  else
  ((if i3.toInt64 < l0 then
   (Q i3 μ)
   else
   (Q l0.toInt32 μ))))
set_option maxHeartbeats 4000000 in
theorem w_X5_held {g : fw_G} {f bc bs : Nat} {l0 : Int64} {i2 : Int32} {i3 : Int32} {μ : fw_M} {Q : Int32 → fw_M → Prop} (hf : 1 ≤ f) (h : p_X5_held l0 i2 i3 μ Q) : fw_C g f bc bs yX5_held (ws_ yX5_held cX5_held 4 (some .int)) [Value.long l0, Value.int i2, Value.int i3] μ (fw_Qi Q) fw_nX := by
  unfold p_X5_held at h
  refine fw_intro' (Ls := [(0, Value.long l0), (2, Value.int i2), (3, Value.int i3)]) (by decide +kernel) (by simp [lg_sl, fw_cat, fw_ci, fw_clo]) (by simp [lv_args, fw_cat, fw_ci, fw_clo]) ?_
  show fw_V g K_X5_held f bc bs 0 [(0, Value.long l0), (2, Value.int i2), (3, Value.int i3)] [] μ (fw_Qi Q) fw_nX
  refine fw_lload_n dX5_held_0 rfl rfl ?_
  refine fw_iload_n dX5_held_1 rfl rfl ?_
  refine fw_i2l dX5_held_2 ?_
  refine fw_lge (tgt := 11) dX5_held_3 dX5_held_4 (by decide) (fun c1 => ?_) (fun c1 => ?_)
  · have h := fw_if h c1
    refine fw_lload_n dX5_held_11 rfl rfl ?_
    refine fw_iload_n dX5_held_12 rfl rfl ?_
    refine fw_i2l dX5_held_13 ?_
    refine fw_lle (tgt := 22) dX5_held_14 dX5_held_15 (by decide) (fun c2 => ?_) (fun c2 => ?_)
    · have h := fw_if h c2
      refine fw_lload_n dX5_held_22 rfl rfl ?_
      refine fw_l2i dX5_held_23 ?_
      exact fw_ireturn dX5_held_24 rfl rfl ⟨_, rfl, h⟩
    · have h := fw_it h c2
      refine fw_iload_n dX5_held_18 rfl rfl ?_
      refine fw_goto (tgt := 24) dX5_held_19 (by decide) ?_
      exact fw_ireturn dX5_held_24 rfl rfl ⟨_, rfl, h⟩
  · have h := fw_it h c1
    refine fw_iload_n dX5_held_7 rfl rfl ?_
    refine fw_goto (tgt := 24) dX5_held_8 (by decide) ?_
    exact fw_ireturn dX5_held_24 rfl rfl ⟨_, rfl, h⟩
abbrev K_X5_least : fw_Kt := (RX5, "least", cX5_least, 2, some .int, [])
def p_X5_least (i0 : Int32) (i1 : Int32) (μ : fw_M) (Q : Int32 → fw_M → Prop) : Prop :=
  (if i1 ≤ i0 then
  (Q i1 μ)
  else
  (Q i0 μ))
set_option maxHeartbeats 4000000 in
theorem w_X5_least {g : fw_G} {f bc bs : Nat} {i0 : Int32} {i1 : Int32} {μ : fw_M} {Q : Int32 → fw_M → Prop} (hf : 1 ≤ f) (h : p_X5_least i0 i1 μ Q) : fw_C g f bc bs yX5_least (ws_ yX5_least cX5_least 2 (some .int)) [Value.int i0, Value.int i1] μ (fw_Qi Q) fw_nX := by
  unfold p_X5_least at h
  refine fw_intro' (Ls := [(0, Value.int i0), (1, Value.int i1)]) (by decide +kernel) (by simp [lg_sl, fw_cat, fw_ci, fw_clo]) (by simp [lv_args, fw_cat, fw_ci, fw_clo]) ?_
  show fw_V g K_X5_least f bc bs 0 [(0, Value.int i0), (1, Value.int i1)] [] μ (fw_Qi Q) fw_nX
  refine fw_iload_n dX5_least_0 rfl rfl ?_
  refine fw_iload_n dX5_least_1 rfl rfl ?_
  refine fw_icmp_ge (tgt := 9) dX5_least_2 (by decide) (fun c1 => ?_) (fun c1 => ?_)
  · have h := fw_it h c1
    refine fw_iload_n dX5_least_9 rfl rfl ?_
    exact fw_ireturn dX5_least_10 rfl rfl ⟨_, rfl, h⟩
  · have h := fw_if h c1
    refine fw_iload_n dX5_least_5 rfl rfl ?_
    refine fw_goto (tgt := 10) dX5_least_6 (by decide) ?_
    exact fw_ireturn dX5_least_10 rfl rfl ⟨_, rfl, h⟩
abbrev K_X5_names : fw_Kt := (RX5, "names", cX5_names, 2, none, [])
def p_X5_names (r0 : Nat) (i1 : Int32) (μ : fw_M) (Q : fw_M → Prop) : Prop :=
  (m_K μ (m_P μ r0 37) = 100 ∧ (vp_in (0 : Int32) (m_N μ (m_P μ r0 37)) ∧ (∀ μ3, μ3 = m_uI μ (m_P μ r0 37) (0 : Int32).toNatClampNeg i1 →
  (m_K μ3 (m_P μ3 r0 0) = 100 ∧ (vp_in ((10 : Int32) + ((3 : Int32) * i1)) (m_N μ3 (m_P μ3 r0 0)) ∧ (m_K μ3 (m_P μ3 r0 37) = 100 ∧ (vp_in (1 : Int32) (m_N μ3 (m_P μ3 r0 37)) ∧ (∀ μ8, μ8 = m_uI μ3 (m_P μ3 r0 37) (1 : Int32).toNatClampNeg (m_I μ3 (m_P μ3 r0 0) ((10 : Int32) + ((3 : Int32) * i1)).toNatClampNeg) →
  (m_K μ8 (m_P μ8 r0 0) = 100 ∧ (vp_in (((10 : Int32) + ((3 : Int32) * i1)) + (1 : Int32)) (m_N μ8 (m_P μ8 r0 0)) ∧ (m_K μ8 (m_P μ8 r0 37) = 100 ∧ (vp_in (2 : Int32) (m_N μ8 (m_P μ8 r0 37)) ∧ (∀ μ13, μ13 = m_uI μ8 (m_P μ8 r0 37) (2 : Int32).toNatClampNeg (m_I μ8 (m_P μ8 r0 0) (((10 : Int32) + ((3 : Int32) * i1)) + (1 : Int32)).toNatClampNeg) →
  (m_K μ13 (m_P μ13 r0 40) = 100 ∧ (vp_in i1 (m_N μ13 (m_P μ13 r0 40)) ∧ (m_K μ13 (m_P μ13 r0 37) = 100 ∧ (vp_in (3 : Int32) (m_N μ13 (m_P μ13 r0 37)) ∧ (∀ μ18, μ18 = m_uI μ13 (m_P μ13 r0 37) (3 : Int32).toNatClampNeg (m_I μ13 (m_P μ13 r0 40) i1.toNatClampNeg) →
  Q μ18))))))))))))))))))
set_option maxHeartbeats 4000000 in
theorem w_X5_names {g : fw_G} {f bc bs : Nat} {r0 : Nat} {i1 : Int32} {μ : fw_M} {Q : fw_M → Prop} (hf : 1 ≤ f) (hx : m_K μ r0 = 6) (h : p_X5_names r0 i1 μ Q) : fw_C g f bc bs yX5_names (ws_ yX5_names cX5_names 2 (none)) [fw_rv g r0, Value.int i1] μ (fw_Qv Q) fw_nX := by
  unfold p_X5_names at h
  refine fw_intro' (Ls := [(0, fw_rv g r0), (1, Value.int i1)]) (by decide +kernel) (by simp [lg_sl, fw_cat, fw_ci, fw_clo]) (by simp [lv_args, fw_cat, fw_ci, fw_clo]) ?_
  show fw_V g K_X5_names f bc bs 0 [(0, fw_rv g r0), (1, Value.int i1)] [] μ (fw_Qv Q) fw_nX
  refine fw_aload_n dX5_names_0 rfl rfl ?_
  refine fw_getfP fl_X5_78 rfl hx dX5_names_1 ?_
  refine fw_iconst (v := 0) dX5_names_4 (by decide) ?_
  refine fw_iload_n dX5_names_5 rfl rfl ?_
  obtain ⟨hg1, h⟩ := h
  obtain ⟨hc2, h⟩ := h
  refine fw_iast hg1 hc2 dX5_names_6 ?_
  have h := h _ rfl
  refine fw_aload_n dX5_names_7 rfl rfl ?_
  refine fw_getfP fl_X5_78 rfl hx dX5_names_8 ?_
  refine fw_iconst (v := 1) dX5_names_11 (by decide) ?_
  refine fw_aload_n dX5_names_12 rfl rfl ?_
  refine fw_getfP fl_X5_7 rfl hx dX5_names_13 ?_
  refine fw_bipush (v := 10) dX5_names_16 (by decide) ?_
  refine fw_iconst (v := 3) dX5_names_18 (by decide) ?_
  refine fw_iload_n dX5_names_19 rfl rfl ?_
  refine fw_imul dX5_names_20 ?_
  refine fw_iadd dX5_names_21 ?_
  obtain ⟨hg4, h⟩ := h
  obtain ⟨hc5, h⟩ := h
  refine fw_iald hg4 hc5 dX5_names_22 ?_
  obtain ⟨hg6, h⟩ := h
  obtain ⟨hc7, h⟩ := h
  refine fw_iast hg6 hc7 dX5_names_23 ?_
  have h := h _ rfl
  refine fw_aload_n dX5_names_24 rfl rfl ?_
  refine fw_getfP fl_X5_78 rfl hx dX5_names_25 ?_
  refine fw_iconst (v := 2) dX5_names_28 (by decide) ?_
  refine fw_aload_n dX5_names_29 rfl rfl ?_
  refine fw_getfP fl_X5_7 rfl hx dX5_names_30 ?_
  refine fw_bipush (v := 10) dX5_names_33 (by decide) ?_
  refine fw_iconst (v := 3) dX5_names_35 (by decide) ?_
  refine fw_iload_n dX5_names_36 rfl rfl ?_
  refine fw_imul dX5_names_37 ?_
  refine fw_iadd dX5_names_38 ?_
  refine fw_iconst (v := 1) dX5_names_39 (by decide) ?_
  refine fw_iadd dX5_names_40 ?_
  obtain ⟨hg9, h⟩ := h
  obtain ⟨hc10, h⟩ := h
  refine fw_iald hg9 hc10 dX5_names_41 ?_
  obtain ⟨hg11, h⟩ := h
  obtain ⟨hc12, h⟩ := h
  refine fw_iast hg11 hc12 dX5_names_42 ?_
  have h := h _ rfl
  refine fw_aload_n dX5_names_43 rfl rfl ?_
  refine fw_getfP fl_X5_78 rfl hx dX5_names_44 ?_
  refine fw_iconst (v := 3) dX5_names_47 (by decide) ?_
  refine fw_aload_n dX5_names_48 rfl rfl ?_
  refine fw_getfP fl_X5_88 rfl hx dX5_names_49 ?_
  refine fw_iload_n dX5_names_52 rfl rfl ?_
  obtain ⟨hg14, h⟩ := h
  obtain ⟨hc15, h⟩ := h
  refine fw_iald hg14 hc15 dX5_names_53 ?_
  obtain ⟨hg16, h⟩ := h
  obtain ⟨hc17, h⟩ := h
  refine fw_iast hg16 hc17 dX5_names_54 ?_
  have h := h _ rfl
  exact fw_return dX5_names_55 rfl ⟨rfl, h⟩
abbrev K_X5_ordersOf : fw_Kt := (RX5, "ordersOf", cX5_ordersOf, 5, some .int, [])
def p_X5_ordersOf_L4b (r0 : Nat) (i1 : Int32) (k4 : Int32 → Int32 → fw_M → Prop) (i2 : Int32) (i3 : Int32) (μ : fw_M) (Q : Int32 → fw_M → Prop) : Prop :=
  (m_K μ (m_P μ r0 0) = 100 ∧ (vp_in (2 : Int32) (m_N μ (m_P μ r0 0)) ∧ (if (m_I μ (m_P μ r0 0) (2 : Int32).toNatClampNeg) = (-1 : Int32) then
  (Q i2 μ)
  else
  ((vp_in (2 : Int32) (m_N μ (m_P μ r0 0)) ∧ (m_K μ (m_P μ r0 6) = 100 ∧ (vp_in (m_I μ (m_P μ r0 0) (2 : Int32).toNatClampNeg) (m_N μ (m_P μ r0 6)) ∧ (if (m_I μ (m_P μ r0 6) (m_I μ (m_P μ r0 0) (2 : Int32).toNatClampNeg).toNatClampNeg) ≤ i3 then
   (Q i2 μ)
   else
   ((vp_in (2 : Int32) (m_N μ (m_P μ r0 0)) ∧ (∀ i4_9 : Int32, i4_9 = (((24 : Int32) * (m_I μ (m_P μ r0 0) (2 : Int32).toNatClampNeg)) + i3) →
    (m_K μ (m_P μ r0 7) = 100 ∧ (vp_in i4_9 (m_N μ (m_P μ r0 7)) ∧ (if (m_I μ (m_P μ r0 7) i4_9.toNatClampNeg) = i1 then
    ((m_K μ (m_P μ r0 8) = 100 ∧ (vp_in i4_9 (m_N μ (m_P μ r0 8)) ∧ (∀ i2_18 : Int32, i2_18 = (m_I μ (m_P μ r0 8) i4_9.toNatClampNeg) →
     (∀ i3_20 : Int32, i3_20 = i3 + (1 : Int32) →
     k4 i2_18 i3_20 μ)))))
    else
    ((∀ i3_14 : Int32, i3_14 = i3 + (1 : Int32) →
     k4 i2 i3_14 μ))))))))))))))))
def p_X5_ordersOf_L4 (r0 : Nat) (i1 : Int32) (i2 : Int32) (i3 : Int32) (μ : fw_M) (Q : Int32 → fw_M → Prop) : Prop := fw_lp (fun (k : Int32 × Int32 × fw_M → Prop) (a : Int32 × Int32 × fw_M) => p_X5_ordersOf_L4b r0 i1 (fun i2 i3 μ => k (i2, i3, μ)) a.1 a.2.1 a.2.2 Q) (i2, i3, μ)
theorem r_X5_ordersOf_L4 {r0 : Nat} {i1 : Int32} {Q : Int32 → fw_M → Prop} (I : Int32 → Int32 → fw_M → Prop) (v : Int32 → Int32 → fw_M → Nat) (hs : ∀ (k : Int32 → Int32 → fw_M → Prop) (i2 : Int32) (i3 : Int32) (μ : fw_M), I i2 i3 μ → (∀ (i2' : Int32) (i3' : Int32) (ν : fw_M), I i2' i3' ν → v i2' i3' ν < v i2 i3 μ → k i2' i3' ν) → p_X5_ordersOf_L4b r0 i1 k i2 i3 μ Q) (i2 : Int32) (i3 : Int32) (μ : fw_M) (h : I i2 i3 μ) : p_X5_ordersOf_L4 r0 i1 i2 i3 μ Q :=
  fw_lp_in (A := Int32 × Int32 × fw_M) (fun a => I a.1 a.2.1 a.2.2) (fun a => v a.1 a.2.1 a.2.2) (fun k a ha hk => hs (fun i2 i3 μ => k (i2, i3, μ)) a.1 a.2.1 a.2.2 ha (fun i2' i3' ν hb hlt => hk (i2', i3', ν) hb hlt)) (i2, i3, μ) h
set_option maxHeartbeats 4000000 in
theorem w_X5_ordersOf_L4b {g : fw_G} {f bc bs : Nat} {r0 : Nat} {i1 : Int32} {k4 : Int32 → Int32 → fw_M → Prop} {i2 : Int32} {i3 : Int32} {μ : fw_M} {Q : Int32 → fw_M → Prop} (hf : 1 ≤ f) (hk4 : ∀ {i2 : Int32} {i3 : Int32} {μ : fw_M}, m_K μ r0 = 6 → k4 i2 i3 μ → fw_V g K_X5_ordersOf f bc bs 4 [(0, fw_rv g r0), (1, Value.int i1), (2, Value.int i2), (3, Value.int i3)] [] μ (fw_Qi Q) fw_nX) (hx : m_K μ r0 = 6) (h : p_X5_ordersOf_L4b r0 i1 k4 i2 i3 μ Q) : fw_V g K_X5_ordersOf f bc bs 4 [(0, fw_rv g r0), (1, Value.int i1), (2, Value.int i2), (3, Value.int i3)] [] μ (fw_Qi Q) fw_nX := by
  unfold p_X5_ordersOf_L4b at h
  refine fw_aload_n dX5_ordersOf_4 rfl rfl ?_
  refine fw_getfP fl_X5_7 rfl hx dX5_ordersOf_5 ?_
  refine fw_iconst (v := 2) dX5_ordersOf_8 (by decide) ?_
  obtain ⟨hg1, h⟩ := h
  obtain ⟨hc2, h⟩ := h
  refine fw_iald hg1 hc2 dX5_ordersOf_9 ?_
  refine fw_iconst (v := -1) dX5_ordersOf_10 (by decide) ?_
  refine fw_icmp_eq (tgt := 71) dX5_ordersOf_11 (by decide) (fun c3 => ?_) (fun c3 => ?_)
  · have h := fw_it h c3
    refine fw_iload_n dX5_ordersOf_71 rfl rfl ?_
    exact fw_ireturn dX5_ordersOf_72 rfl rfl ⟨_, rfl, h⟩
  · have h := fw_if h c3
    refine fw_iload_n dX5_ordersOf_14 rfl rfl ?_
    refine fw_aload_n dX5_ordersOf_15 rfl rfl ?_
    refine fw_getfP fl_X5_27 rfl hx dX5_ordersOf_16 ?_
    refine fw_aload_n dX5_ordersOf_19 rfl rfl ?_
    refine fw_getfP fl_X5_7 rfl hx dX5_ordersOf_20 ?_
    refine fw_iconst (v := 2) dX5_ordersOf_23 (by decide) ?_
    obtain ⟨hc4, h⟩ := h
    refine fw_iald hg1 hc4 dX5_ordersOf_24 ?_
    obtain ⟨hg5, h⟩ := h
    obtain ⟨hc6, h⟩ := h
    refine fw_iald hg5 hc6 dX5_ordersOf_25 ?_
    refine fw_icmp_ge (tgt := 71) dX5_ordersOf_26 (by decide) (fun c7 => ?_) (fun c7 => ?_)
    · have h := fw_it h c7
      refine fw_iload_n dX5_ordersOf_71 rfl rfl ?_
      exact fw_ireturn dX5_ordersOf_72 rfl rfl ⟨_, rfl, h⟩
    · have h := fw_if h c7
      refine fw_bipush (v := 24) dX5_ordersOf_29 (by decide) ?_
      refine fw_aload_n dX5_ordersOf_31 rfl rfl ?_
      refine fw_getfP fl_X5_7 rfl hx dX5_ordersOf_32 ?_
      refine fw_iconst (v := 2) dX5_ordersOf_35 (by decide) ?_
      obtain ⟨hc8, h⟩ := h
      refine fw_iald hg1 hc8 dX5_ordersOf_36 ?_
      refine fw_imul dX5_ordersOf_37 ?_
      refine fw_iload_n dX5_ordersOf_38 rfl rfl ?_
      refine fw_iadd dX5_ordersOf_39 ?_
      refine fw_topi (fun i4_9 e10 => ?_)
      have h := h i4_9 e10
      refine fw_istoreN (Ls' := [(4, Value.int i4_9), (3, Value.int i3), (0, fw_rv g r0), (1, Value.int i1), (2, Value.int i2)]) [0, 1, 2] dX5_ordersOf_40 (by decide) rfl rfl rfl rfl rfl ?_
      refine fw_aload_n dX5_ordersOf_42 rfl rfl ?_
      refine fw_getfP fl_X5_30 rfl hx dX5_ordersOf_43 ?_
      refine fw_iload dX5_ordersOf_46 rfl ?_
      obtain ⟨hg11, h⟩ := h
      obtain ⟨hc12, h⟩ := h
      refine fw_iald hg11 hc12 dX5_ordersOf_48 ?_
      refine fw_iload_n dX5_ordersOf_49 rfl rfl ?_
      refine fw_icmp_ne (tgt := 63) dX5_ordersOf_50 (by decide) (fun c13 => ?_) (fun c13 => ?_)
      · have h := fw_if h c13
        refine fw_iload_n dX5_ordersOf_63 rfl rfl ?_
        refine fw_istore_nN (Ls' := [(2, Value.int i2), (1, Value.int i1), (4, Value.int i4_9), (3, Value.int i3), (0, fw_rv g r0)]) [0, 1, 2] dX5_ordersOf_64 rfl (by decide) rfl rfl rfl rfl rfl ?_
        obtain ⟨i3_14, e15⟩ : ∃ y : Int32, y = i3 + (1 : Int32) := ⟨_, rfl⟩
        have h := h i3_14 e15
        refine fw_iincN (k := 3) (v := i3_14) (Ls' := [(3, Value.int i3_14), (2, Value.int i2), (1, Value.int i1), (4, Value.int i4_9), (0, fw_rv g r0)]) [1, 2, 4] dX5_ordersOf_65 rfl (by rw [e15]; rfl) (by decide) rfl rfl rfl rfl rfl ?_
        refine fw_goto (tgt := 4) dX5_ordersOf_68 (by decide) ?_
        refine fw_ls [4, 2, 1, 0] rfl ?_
        exact hk4 hx h
      · have h := fw_it h c13
        refine fw_aload_n dX5_ordersOf_53 rfl rfl ?_
        refine fw_getfP fl_X5_33 rfl hx dX5_ordersOf_54 ?_
        refine fw_iload dX5_ordersOf_57 rfl ?_
        obtain ⟨hg16, h⟩ := h
        obtain ⟨hc17, h⟩ := h
        refine fw_iald hg16 hc17 dX5_ordersOf_59 ?_
        refine fw_goto (tgt := 64) dX5_ordersOf_60 (by decide) ?_
        refine fw_topi (fun i2_18 e19 => ?_)
        have h := h i2_18 e19
        refine fw_istore_nN (Ls' := [(2, Value.int i2_18), (1, Value.int i1), (4, Value.int i4_9), (3, Value.int i3), (0, fw_rv g r0)]) [0, 1, 2] dX5_ordersOf_64 rfl (by decide) rfl rfl rfl rfl rfl ?_
        obtain ⟨i3_20, e21⟩ : ∃ y : Int32, y = i3 + (1 : Int32) := ⟨_, rfl⟩
        have h := h i3_20 e21
        refine fw_iincN (k := 3) (v := i3_20) (Ls' := [(3, Value.int i3_20), (2, Value.int i2_18), (1, Value.int i1), (4, Value.int i4_9), (0, fw_rv g r0)]) [1, 2, 4] dX5_ordersOf_65 rfl (by rw [e21]; rfl) (by decide) rfl rfl rfl rfl rfl ?_
        refine fw_goto (tgt := 4) dX5_ordersOf_68 (by decide) ?_
        refine fw_ls [4, 2, 1, 0] rfl ?_
        exact hk4 hx h
theorem w_X5_ordersOf_L4 {g : fw_G} {f bc bs : Nat} {r0 : Nat} {i1 : Int32} {i2 : Int32} {i3 : Int32} {μ : fw_M} {Q : Int32 → fw_M → Prop} (hf : 1 ≤ f) (hx : m_K μ r0 = 6) (h : p_X5_ordersOf_L4 r0 i1 i2 i3 μ Q) : fw_V g K_X5_ordersOf f bc bs 4 [(0, fw_rv g r0), (1, Value.int i1), (2, Value.int i2), (3, Value.int i3)] [] μ (fw_Qi Q) fw_nX := by
  have key := fw_lp_out (R := fun (a : Int32 × Int32 × fw_M) => m_K a.2.2 r0 = 6 → fw_V g K_X5_ordersOf f bc bs 4 [(0, fw_rv g r0), (1, Value.int i1), (2, Value.int a.1), (3, Value.int a.2.1)] [] a.2.2 (fw_Qi Q) fw_nX) (fun k hk9 a ha hx2 => w_X5_ordersOf_L4b hf (fun {i2 i3} {μ} hx3 h3 => hk9 (i2, i3, μ) h3 hx3) hx2 ha) h
  exact key hx
def p_X5_ordersOf (r0 : Nat) (i1 : Int32) (μ : fw_M) (Q : Int32 → fw_M → Prop) : Prop :=
  p_X5_ordersOf_L4 r0 i1 (-1 : Int32) (0 : Int32) μ Q
set_option maxHeartbeats 4000000 in
theorem w_X5_ordersOf {g : fw_G} {f bc bs : Nat} {r0 : Nat} {i1 : Int32} {μ : fw_M} {Q : Int32 → fw_M → Prop} (hf : 1 ≤ f) (hx : m_K μ r0 = 6) (h : p_X5_ordersOf r0 i1 μ Q) : fw_C g f bc bs yX5_ordersOf (ws_ yX5_ordersOf cX5_ordersOf 5 (some .int)) [fw_rv g r0, Value.int i1] μ (fw_Qi Q) fw_nX := by
  unfold p_X5_ordersOf at h
  refine fw_intro' (Ls := [(0, fw_rv g r0), (1, Value.int i1)]) (by decide +kernel) (by simp [lg_sl, fw_cat, fw_ci, fw_clo]) (by simp [lv_args, fw_cat, fw_ci, fw_clo]) ?_
  show fw_V g K_X5_ordersOf f bc bs 0 [(0, fw_rv g r0), (1, Value.int i1)] [] μ (fw_Qi Q) fw_nX
  refine fw_iconst (v := -1) dX5_ordersOf_0 (by decide) ?_
  refine fw_istore_nN (Ls' := [(2, Value.int (-1 : Int32)), (1, Value.int i1), (0, fw_rv g r0)]) [0] dX5_ordersOf_1 rfl (by decide) rfl rfl rfl rfl rfl ?_
  refine fw_iconst (v := 0) dX5_ordersOf_2 (by decide) ?_
  refine fw_istore_nN (Ls' := [(3, Value.int (0 : Int32)), (2, Value.int (-1 : Int32)), (1, Value.int i1), (0, fw_rv g r0)]) [1, 2] dX5_ordersOf_3 rfl (by decide) rfl rfl rfl rfl rfl ?_
  refine fw_ls [3, 2, 1, 0] rfl ?_
  exact w_X5_ordersOf_L4 hf hx h
abbrev K_X5_bound : fw_Kt := (RX5, "bound", cX5_bound, 2, some .long, [])
def p_X5_bound (l0 : Int64) (μ : fw_M) (Q : Int64 → fw_M → Prop) : Prop :=
  (if (1000000 : Int64) < l0 then
  (Q (1000000 : Int64) μ)
  else
  ((if l0 < (-1000000 : Int64) then
   (Q (-1000000 : Int64) μ)
   else
   (Q l0 μ))))
set_option maxHeartbeats 4000000 in
theorem w_X5_bound {g : fw_G} {f bc bs : Nat} {l0 : Int64} {μ : fw_M} {Q : Int64 → fw_M → Prop} (hf : 1 ≤ f) (h : p_X5_bound l0 μ Q) : fw_C g f bc bs yX5_bound (ws_ yX5_bound cX5_bound 2 (some .long)) [Value.long l0] μ (fw_Ql Q) fw_nX := by
  unfold p_X5_bound at h
  refine fw_intro' (Ls := [(0, Value.long l0)]) (by decide +kernel) (by simp [lg_sl, fw_cat, fw_ci, fw_clo]) (by simp [lv_args, fw_cat, fw_ci, fw_clo]) ?_
  show fw_V g K_X5_bound f bc bs 0 [(0, Value.long l0)] [] μ (fw_Ql Q) fw_nX
  refine fw_lload_n dX5_bound_0 rfl rfl ?_
  refine fw_ldc2 q1412 dX5_bound_1 ?_
  refine fw_lle (tgt := 14) dX5_bound_4 dX5_bound_5 (by decide) (fun c1 => ?_) (fun c1 => ?_)
  · have h := fw_if h c1
    refine fw_lload_n dX5_bound_14 rfl rfl ?_
    refine fw_ldc2 q1413 dX5_bound_15 ?_
    refine fw_lge (tgt := 28) dX5_bound_18 dX5_bound_19 (by decide) (fun c2 => ?_) (fun c2 => ?_)
    · have h := fw_if h c2
      refine fw_lload_n dX5_bound_28 rfl rfl ?_
      exact fw_lreturn dX5_bound_29 rfl ⟨_, rfl, h⟩
    · have h := fw_it h c2
      refine fw_ldc2 q1413 dX5_bound_22 ?_
      refine fw_goto (tgt := 29) dX5_bound_25 (by decide) ?_
      exact fw_lreturn dX5_bound_29 rfl ⟨_, rfl, h⟩
  · have h := fw_it h c1
    refine fw_ldc2 q1412 dX5_bound_8 ?_
    refine fw_goto (tgt := 29) dX5_bound_11 (by decide) ?_
    exact fw_lreturn dX5_bound_29 rfl ⟨_, rfl, h⟩
abbrev K_X5_worked : fw_Kt := (RX5, "worked", cX5_worked, 5, some .long, [])
def p_X5_worked (i0 : Int32) (l1 : Int64) (l3 : Int64) (μ : fw_M) (Q : Int64 → fw_M → Prop) : Prop :=
  (if i0 = 35 then
  ((if l1 = l3 then
   (Q (0 : Int64) μ)
   else
   (Q (1 : Int64) μ)))
  else (if i0 = 42 then
  ((p_X5_bound (l1 * l3) μ (fun w4 μ5 =>
   Q w4 μ5)))
  else (if i0 = 43 then
  ((p_X5_bound (l1 + l3) μ (fun w8 μ9 =>
   Q w8 μ9)))
  else (if i0 = 45 then
  ((p_X5_bound (l1 - l3) μ (fun w12 μ13 =>
   Q w12 μ13)))
  else (if i0 = 47 then
  ((if l3 = (0 : Int64) then
   (Q (0 : Int64) μ)
   else
   ((¬ l3 = 0 ∧ Q (l1 / l3) μ))))
  else (if i0 = 60 then
  ((if l1 < l3 then
   (Q (1 : Int64) μ)
   else
   (Q (0 : Int64) μ)))
  else (if i0 = 61 then
  ((if l1 = l3 then
   (Q (1 : Int64) μ)
   else
   (Q (0 : Int64) μ)))
  else (if i0 = 62 then
  ((if l3 < l1 then
   (Q (1 : Int64) μ)
   else
   (Q (0 : Int64) μ)))
  else (if i0 = 300 then
  ((if l3 < l1 then
   (Q (0 : Int64) μ)
   else
   (Q (1 : Int64) μ)))
  else (if i0 = 301 then
  ((if l1 < l3 then
   (Q (0 : Int64) μ)
   else
   (Q (1 : Int64) μ)))
  else (if i0 = 406 then
  (Q (l1 * l3) μ)
  else (if (0 : Int64) < (l1 + l3) then
   (Q (1 : Int64) μ)
   else
   (Q (0 : Int64) μ)))))))))))))
set_option maxHeartbeats 4000000 in
theorem w_X5_worked {g : fw_G} {f bc bs : Nat} {i0 : Int32} {l1 : Int64} {l3 : Int64} {μ : fw_M} {Q : Int64 → fw_M → Prop} (hf : 2 ≤ f) (h : p_X5_worked i0 l1 l3 μ Q) : fw_C g f bc bs yX5_worked (ws_ yX5_worked cX5_worked 5 (some .long)) [Value.int i0, Value.long l1, Value.long l3] μ (fw_Ql Q) fw_nX := by
  unfold p_X5_worked at h
  refine fw_intro' (Ls := [(0, Value.int i0), (1, Value.long l1), (3, Value.long l3)]) (by decide +kernel) (by simp [lg_sl, fw_cat, fw_ci, fw_clo]) (by simp [lv_args, fw_cat, fw_ci, fw_clo]) ?_
  show fw_V g K_X5_worked f bc bs 0 [(0, Value.int i0), (1, Value.long l1), (3, Value.long l3)] [] μ (fw_Ql Q) fw_nX
  refine fw_iload_n dX5_worked_0 rfl rfl ?_
  refine fw_sw (k := 35) h (fun c1 h => ?_) (fun c1 h => ?_)
  · refine fw_lookup (tgt := 171) (off := 170) dX5_worked_1 (by decide) (by rw [c1]; try rfl) (by decide) ?_
    refine fw_lload_n dX5_worked_171 rfl rfl ?_
    refine fw_lload_n dX5_worked_172 rfl rfl ?_
    refine fw_leq (tgt := 181) dX5_worked_173 dX5_worked_174 (by decide) (fun c2 => ?_) (fun c2 => ?_)
    · have h := fw_it h c2
      refine fw_lconst (v := 0) dX5_worked_181 (by decide) ?_
      exact fw_lreturn dX5_worked_182 rfl ⟨_, rfl, h⟩
    · have h := fw_if h c2
      refine fw_lconst (v := 1) dX5_worked_177 (by decide) ?_
      refine fw_goto (tgt := 182) dX5_worked_178 (by decide) ?_
      exact fw_lreturn dX5_worked_182 rfl ⟨_, rfl, h⟩
  · refine fw_sw (k := 42) h (fun c3 h => ?_) (fun c3 h => ?_)
    · refine fw_lookup (tgt := 114) (off := 113) dX5_worked_1 (by decide) (by rw [c3]; try rfl) (by decide) ?_
      refine fw_lload_n dX5_worked_114 rfl rfl ?_
      refine fw_lload_n dX5_worked_115 rfl rfl ?_
      refine fw_lmul dX5_worked_116 ?_
      refine fw_callS1z (f1 := f - 1) cl_X5_306 (by decide) (by omega) (fw_s4 (Nat.le_of_ble_eq_true rfl)) dX5_worked_117 (w_X5_bound (f := f - 1) (by omega) h) (fun _ _ h9 _ _ => h9.elim) (fun v9 μ5 q9 hs6 => ?_)
      obtain ⟨w4, rfl, h⟩ := q9
      refine fw_tl ?_
      exact fw_lreturn dX5_worked_120 rfl ⟨_, rfl, h⟩
    · refine fw_sw (k := 43) h (fun c7 h => ?_) (fun c7 h => ?_)
      · refine fw_lookup (tgt := 100) (off := 99) dX5_worked_1 (by decide) (by rw [c7]; try rfl) (by decide) ?_
        refine fw_lload_n dX5_worked_100 rfl rfl ?_
        refine fw_lload_n dX5_worked_101 rfl rfl ?_
        refine fw_ladd dX5_worked_102 ?_
        refine fw_callS1z (f1 := f - 1) cl_X5_306 (by decide) (by omega) (fw_s4 (Nat.le_of_ble_eq_true rfl)) dX5_worked_103 (w_X5_bound (f := f - 1) (by omega) h) (fun _ _ h9 _ _ => h9.elim) (fun v9 μ9 q9 hs10 => ?_)
        obtain ⟨w8, rfl, h⟩ := q9
        refine fw_tl ?_
        exact fw_lreturn dX5_worked_106 rfl ⟨_, rfl, h⟩
      · refine fw_sw (k := 45) h (fun c11 h => ?_) (fun c11 h => ?_)
        · refine fw_lookup (tgt := 107) (off := 106) dX5_worked_1 (by decide) (by rw [c11]; try rfl) (by decide) ?_
          refine fw_lload_n dX5_worked_107 rfl rfl ?_
          refine fw_lload_n dX5_worked_108 rfl rfl ?_
          refine fw_lsub dX5_worked_109 ?_
          refine fw_callS1z (f1 := f - 1) cl_X5_306 (by decide) (by omega) (fw_s4 (Nat.le_of_ble_eq_true rfl)) dX5_worked_110 (w_X5_bound (f := f - 1) (by omega) h) (fun _ _ h9 _ _ => h9.elim) (fun v9 μ13 q9 hs14 => ?_)
          obtain ⟨w12, rfl, h⟩ := q9
          refine fw_tl ?_
          exact fw_lreturn dX5_worked_113 rfl ⟨_, rfl, h⟩
        · refine fw_sw (k := 47) h (fun c15 h => ?_) (fun c15 h => ?_)
          · refine fw_lookup (tgt := 121) (off := 120) dX5_worked_1 (by decide) (by rw [c15]; try rfl) (by decide) ?_
            refine fw_lload_n dX5_worked_121 rfl rfl ?_
            refine fw_lconst (v := 0) dX5_worked_122 (by decide) ?_
            refine fw_lne (tgt := 131) dX5_worked_123 dX5_worked_124 (by decide) (fun c16 => ?_) (fun c16 => ?_)
            · have h := fw_if h c16
              refine fw_lload_n dX5_worked_131 rfl rfl ?_
              refine fw_lload_n dX5_worked_132 rfl rfl ?_
              obtain ⟨hc17, h⟩ := h
              refine fw_ldiv dX5_worked_133 hc17 ?_
              exact fw_lreturn dX5_worked_134 rfl ⟨_, rfl, h⟩
            · have h := fw_it h c16
              refine fw_lconst (v := 0) dX5_worked_127 (by decide) ?_
              refine fw_goto (tgt := 134) dX5_worked_128 (by decide) ?_
              exact fw_lreturn dX5_worked_134 rfl ⟨_, rfl, h⟩
          · refine fw_sw (k := 60) h (fun c18 h => ?_) (fun c18 h => ?_)
            · refine fw_lookup (tgt := 135) (off := 134) dX5_worked_1 (by decide) (by rw [c18]; try rfl) (by decide) ?_
              refine fw_lload_n dX5_worked_135 rfl rfl ?_
              refine fw_lload_n dX5_worked_136 rfl rfl ?_
              refine fw_lge (tgt := 145) dX5_worked_137 dX5_worked_138 (by decide) (fun c19 => ?_) (fun c19 => ?_)
              · have h := fw_if h c19
                refine fw_lconst (v := 0) dX5_worked_145 (by decide) ?_
                exact fw_lreturn dX5_worked_146 rfl ⟨_, rfl, h⟩
              · have h := fw_it h c19
                refine fw_lconst (v := 1) dX5_worked_141 (by decide) ?_
                refine fw_goto (tgt := 146) dX5_worked_142 (by decide) ?_
                exact fw_lreturn dX5_worked_146 rfl ⟨_, rfl, h⟩
            · refine fw_sw (k := 61) h (fun c20 h => ?_) (fun c20 h => ?_)
              · refine fw_lookup (tgt := 159) (off := 158) dX5_worked_1 (by decide) (by rw [c20]; try rfl) (by decide) ?_
                refine fw_lload_n dX5_worked_159 rfl rfl ?_
                refine fw_lload_n dX5_worked_160 rfl rfl ?_
                refine fw_lne (tgt := 169) dX5_worked_161 dX5_worked_162 (by decide) (fun c21 => ?_) (fun c21 => ?_)
                · have h := fw_if h c21
                  refine fw_lconst (v := 0) dX5_worked_169 (by decide) ?_
                  exact fw_lreturn dX5_worked_170 rfl ⟨_, rfl, h⟩
                · have h := fw_it h c21
                  refine fw_lconst (v := 1) dX5_worked_165 (by decide) ?_
                  refine fw_goto (tgt := 170) dX5_worked_166 (by decide) ?_
                  exact fw_lreturn dX5_worked_170 rfl ⟨_, rfl, h⟩
              · refine fw_sw (k := 62) h (fun c22 h => ?_) (fun c22 h => ?_)
                · refine fw_lookup (tgt := 147) (off := 146) dX5_worked_1 (by decide) (by rw [c22]; try rfl) (by decide) ?_
                  refine fw_lload_n dX5_worked_147 rfl rfl ?_
                  refine fw_lload_n dX5_worked_148 rfl rfl ?_
                  refine fw_lle (tgt := 157) dX5_worked_149 dX5_worked_150 (by decide) (fun c23 => ?_) (fun c23 => ?_)
                  · have h := fw_if h c23
                    refine fw_lconst (v := 0) dX5_worked_157 (by decide) ?_
                    exact fw_lreturn dX5_worked_158 rfl ⟨_, rfl, h⟩
                  · have h := fw_it h c23
                    refine fw_lconst (v := 1) dX5_worked_153 (by decide) ?_
                    refine fw_goto (tgt := 158) dX5_worked_154 (by decide) ?_
                    exact fw_lreturn dX5_worked_158 rfl ⟨_, rfl, h⟩
                · refine fw_sw (k := 300) h (fun c24 h => ?_) (fun c24 h => ?_)
                  · refine fw_lookup (tgt := 183) (off := 182) dX5_worked_1 (by decide) (by rw [c24]; try rfl) (by decide) ?_
                    refine fw_lload_n dX5_worked_183 rfl rfl ?_
                    refine fw_lload_n dX5_worked_184 rfl rfl ?_
                    refine fw_lgt (tgt := 193) dX5_worked_185 dX5_worked_186 (by decide) (fun c25 => ?_) (fun c25 => ?_)
                    · have h := fw_it h c25
                      refine fw_lconst (v := 0) dX5_worked_193 (by decide) ?_
                      exact fw_lreturn dX5_worked_194 rfl ⟨_, rfl, h⟩
                    · have h := fw_if h c25
                      refine fw_lconst (v := 1) dX5_worked_189 (by decide) ?_
                      refine fw_goto (tgt := 194) dX5_worked_190 (by decide) ?_
                      exact fw_lreturn dX5_worked_194 rfl ⟨_, rfl, h⟩
                  · refine fw_sw (k := 301) h (fun c26 h => ?_) (fun c26 h => ?_)
                    · refine fw_lookup (tgt := 195) (off := 194) dX5_worked_1 (by decide) (by rw [c26]; try rfl) (by decide) ?_
                      refine fw_lload_n dX5_worked_195 rfl rfl ?_
                      refine fw_lload_n dX5_worked_196 rfl rfl ?_
                      refine fw_llt (tgt := 205) dX5_worked_197 dX5_worked_198 (by decide) (fun c27 => ?_) (fun c27 => ?_)
                      · have h := fw_it h c27
                        refine fw_lconst (v := 0) dX5_worked_205 (by decide) ?_
                        exact fw_lreturn dX5_worked_206 rfl ⟨_, rfl, h⟩
                      · have h := fw_if h c27
                        refine fw_lconst (v := 1) dX5_worked_201 (by decide) ?_
                        refine fw_goto (tgt := 206) dX5_worked_202 (by decide) ?_
                        exact fw_lreturn dX5_worked_206 rfl ⟨_, rfl, h⟩
                    · refine fw_sw (k := 406) h (fun c28 h => ?_) (fun c28 h => ?_)
                      · refine fw_lookup (tgt := 207) (off := 206) dX5_worked_1 (by decide) (by rw [c28]; try rfl) (by decide) ?_
                        refine fw_lload_n dX5_worked_207 rfl rfl ?_
                        refine fw_lload_n dX5_worked_208 rfl rfl ?_
                        refine fw_lmul dX5_worked_209 ?_
                        exact fw_lreturn dX5_worked_210 rfl ⟨_, rfl, h⟩
                      · refine fw_lookup (tgt := 211) (off := 210) dX5_worked_1 (by decide) (by rw [lv_osw c1 (by decide), lv_osw c3 (by decide), lv_osw c7 (by decide), lv_osw c11 (by decide), lv_osw c15 (by decide), lv_osw c18 (by decide), lv_osw c20 (by decide), lv_osw c22 (by decide), lv_osw c24 (by decide), lv_osw c26 (by decide), lv_osw c28 (by decide)]; try rfl) (by decide) ?_
                        refine fw_lload_n dX5_worked_211 rfl rfl ?_
                        refine fw_lload_n dX5_worked_212 rfl rfl ?_
                        refine fw_ladd dX5_worked_213 ?_
                        refine fw_lconst (v := 0) dX5_worked_214 (by decide) ?_
                        refine fw_lle (tgt := 223) dX5_worked_215 dX5_worked_216 (by decide) (fun c29 => ?_) (fun c29 => ?_)
                        · have h := fw_if h c29
                          refine fw_lconst (v := 0) dX5_worked_223 (by decide) ?_
                          exact fw_lreturn dX5_worked_224 rfl ⟨_, rfl, h⟩
                        · have h := fw_it h c29
                          refine fw_lconst (v := 1) dX5_worked_219 (by decide) ?_
                          refine fw_goto (tgt := 224) dX5_worked_220 (by decide) ?_
                          exact fw_lreturn dX5_worked_224 rfl ⟨_, rfl, h⟩
abbrev K_X5_saysOf : fw_Kt := (RX5, "saysOf", cX5_saysOf, 5, some .long, [])
def p_X5_saysOf_L75 (k4 : Int32 → Int32 → fw_M → Prop) (r0 : Nat) (i2 : Int32) (i3 : Int32) (rs0 : Nat) (is1 : Int32) (ls2 : Int64) (μ : fw_M) (Q : Int64 → fw_M → Prop) : Prop :=
  (m_K μ rs0 = 102 ∧ (vp_in is1 (m_N μ rs0) ∧ (∀ μ3, μ3 = m_uL μ rs0 is1.toNatClampNeg ls2 →
  (∀ i2_4 : Int32, i2_4 = i2 + (1 : Int32) →
  (∀ i3_6 : Int32, i3_6 = i3 + (1 : Int32) →
  k4 i2_4 i3_6 μ3)))))
set_option maxHeartbeats 4000000 in
theorem w_X5_saysOf_L75 {g : fw_G} {f bc bs : Nat} {k4 : Int32 → Int32 → fw_M → Prop} {r0 : Nat} {i2 : Int32} {i3 : Int32} {rs0 : Nat} {is1 : Int32} {ls2 : Int64} {μ : fw_M} {Q : Int64 → fw_M → Prop} (hf : 3 ≤ f) (hk4 : ∀ {i2 : Int32} {i3 : Int32} {μ : fw_M}, m_K μ r0 = 6 → k4 i2 i3 μ → fw_V g K_X5_saysOf f bc bs 4 [(0, fw_rv g r0), (2, Value.int i2), (3, Value.int i3)] [] μ (fw_Ql Q) fw_nX) (hx : m_K μ r0 = 6) (h : p_X5_saysOf_L75 k4 r0 i2 i3 rs0 is1 ls2 μ Q) : fw_V g K_X5_saysOf f bc bs 75 [(0, fw_rv g r0), (2, Value.int i2), (3, Value.int i3)] [Value.long ls2, Value.int is1, fw_rv g rs0] μ (fw_Ql Q) fw_nX := by
  unfold p_X5_saysOf_L75 at h
  obtain ⟨hg1, h⟩ := h
  obtain ⟨hc2, h⟩ := h
  refine fw_last hg1 hc2 dX5_saysOf_75 ?_
  have h := h _ rfl
  obtain ⟨i2_4, e5⟩ : ∃ y : Int32, y = i2 + (1 : Int32) := ⟨_, rfl⟩
  have h := h i2_4 e5
  refine fw_iinc (k := 1) (v := i2_4) (Ls' := [(2, Value.int i2_4), (0, fw_rv g r0), (3, Value.int i3)]) [0, 2] dX5_saysOf_76 rfl (by rw [e5]; rfl) (by decide) rfl rfl ?_
  refine fw_goto (tgt := 169) dX5_saysOf_79 (by decide) ?_
  obtain ⟨i3_6, e7⟩ : ∃ y : Int32, y = i3 + (1 : Int32) := ⟨_, rfl⟩
  have h := h i3_6 e7
  refine fw_iincN (k := 2) (v := i3_6) (Ls' := [(3, Value.int i3_6), (2, Value.int i2_4), (0, fw_rv g r0)]) [1] dX5_saysOf_169 rfl (by rw [e7]; rfl) (by decide) rfl rfl rfl rfl rfl ?_
  refine fw_goto (tgt := 4) dX5_saysOf_172 (by decide) ?_
  refine fw_ls [2, 1, 0] rfl ?_
  exact hk4 hx h
def p_X5_saysOf_L40 (k4 : Int32 → Int32 → fw_M → Prop) (r0 : Nat) (i2 : Int32) (i3 : Int32) (i4 : Int32) (μ : fw_M) (Q : Int64 → fw_M → Prop) : Prop :=
  (if i4 = (400 : Int32) then
  ((m_K μ (m_P μ r0 12) = 100 ∧ (vp_in i3 (m_N μ (m_P μ r0 12)) ∧ p_X5_saysOf_L75 k4 r0 i2 i3 (m_P μ r0 38) i2 ((m_I μ (m_P μ r0 12) i3.toNatClampNeg).toInt64) μ Q)))
  else
  ((m_K μ (m_P μ r0 12) = 100 ∧ (vp_in i3 (m_N μ (m_P μ r0 12)) ∧ (m_K μ (m_P μ r0 37) = 100 ∧ (vp_in (m_I μ (m_P μ r0 12) i3.toNatClampNeg) (m_N μ (m_P μ r0 37)) ∧ p_X5_saysOf_L75 k4 r0 i2 i3 (m_P μ r0 38) i2 ((m_I μ (m_P μ r0 37) (m_I μ (m_P μ r0 12) i3.toNatClampNeg).toNatClampNeg).toInt64) μ Q))))))
set_option maxHeartbeats 4000000 in
theorem w_X5_saysOf_L40 {g : fw_G} {f bc bs : Nat} {k4 : Int32 → Int32 → fw_M → Prop} {r0 : Nat} {i2 : Int32} {i3 : Int32} {i4 : Int32} {μ : fw_M} {Q : Int64 → fw_M → Prop} (hf : 3 ≤ f) (hk4 : ∀ {i2 : Int32} {i3 : Int32} {μ : fw_M}, m_K μ r0 = 6 → k4 i2 i3 μ → fw_V g K_X5_saysOf f bc bs 4 [(0, fw_rv g r0), (2, Value.int i2), (3, Value.int i3)] [] μ (fw_Ql Q) fw_nX) (hx : m_K μ r0 = 6) (h : p_X5_saysOf_L40 k4 r0 i2 i3 i4 μ Q) : fw_V g K_X5_saysOf f bc bs 40 [(0, fw_rv g r0), (2, Value.int i2), (3, Value.int i3), (4, Value.int i4)] [] μ (fw_Ql Q) fw_nX := by
  unfold p_X5_saysOf_L40 at h
  refine fw_aload_n dX5_saysOf_40 rfl rfl ?_
  refine fw_getfP fl_X5_81 rfl hx dX5_saysOf_41 ?_
  refine fw_iload_n dX5_saysOf_44 rfl rfl ?_
  refine fw_iload dX5_saysOf_45 rfl ?_
  refine fw_sipush (v := 400) dX5_saysOf_47 (by decide) ?_
  refine fw_icmp_ne (tgt := 63) dX5_saysOf_50 (by decide) (fun c1 => ?_) (fun c1 => ?_)
  · have h := fw_if h c1
    refine fw_aload_n dX5_saysOf_63 rfl rfl ?_
    refine fw_getfP fl_X5_78 rfl hx dX5_saysOf_64 ?_
    refine fw_aload_n dX5_saysOf_67 rfl rfl ?_
    refine fw_getfP fl_X5_45 rfl hx dX5_saysOf_68 ?_
    refine fw_iload_n dX5_saysOf_71 rfl rfl ?_
    obtain ⟨hg2, h⟩ := h
    obtain ⟨hc3, h⟩ := h
    refine fw_iald hg2 hc3 dX5_saysOf_72 ?_
    obtain ⟨hg4, h⟩ := h
    obtain ⟨hc5, h⟩ := h
    refine fw_iald hg4 hc5 dX5_saysOf_73 ?_
    refine fw_i2l dX5_saysOf_74 ?_
    refine fw_ls [0, 1, 2] rfl ?_
    exact w_X5_saysOf_L75 hf hk4 hx h
  · have h := fw_it h c1
    refine fw_aload_n dX5_saysOf_53 rfl rfl ?_
    refine fw_getfP fl_X5_45 rfl hx dX5_saysOf_54 ?_
    refine fw_iload_n dX5_saysOf_57 rfl rfl ?_
    obtain ⟨hg6, h⟩ := h
    obtain ⟨hc7, h⟩ := h
    refine fw_iald hg6 hc7 dX5_saysOf_58 ?_
    refine fw_i2l dX5_saysOf_59 ?_
    refine fw_goto (tgt := 75) dX5_saysOf_60 (by decide) ?_
    refine fw_ls [0, 1, 2] rfl ?_
    exact w_X5_saysOf_L75 hf hk4 hx h
def p_X5_saysOf_L4b (r0 : Nat) (k4 : Int32 → Int32 → fw_M → Prop) (i2 : Int32) (i3 : Int32) (μ : fw_M) (Q : Int64 → fw_M → Prop) : Prop :=
  (m_K μ (m_P μ r0 11) = 100 ∧ (vp_in i3 (m_N μ (m_P μ r0 11)) ∧ (if (m_I μ (m_P μ r0 11) i3.toNatClampNeg) = (408 : Int32) then
  ((m_K μ (m_P μ r0 38) = 102 ∧ (vp_in (0 : Int32) (m_N μ (m_P μ r0 38)) ∧ Q (m_L μ (m_P μ r0 38) (0 : Int32).toNatClampNeg) μ)))
  else
  ((vp_in i3 (m_N μ (m_P μ r0 11)) ∧ (∀ i4_7 : Int32, i4_7 = (m_I μ (m_P μ r0 11) i3.toNatClampNeg) →
   (if i4_7 = (400 : Int32) then
   (p_X5_saysOf_L40 k4 r0 i2 i3 i4_7 μ Q)
   else
   ((if i4_7 = (401 : Int32) then
    (p_X5_saysOf_L40 k4 r0 i2 i3 i4_7 μ Q)
    else
    ((if i4_7 = (402 : Int32) then
     ((m_K μ (m_P μ r0 38) = 102 ∧ (vp_in (i2 - (1 : Int32)) (m_N μ (m_P μ r0 38)) ∧ (vp_in (i2 - (1 : Int32)) (m_N μ (m_P μ r0 38)) ∧ (∀ μ36, μ36 = m_uL μ (m_P μ r0 38) (i2 - (1 : Int32)).toNatClampNeg (-(m_L μ (m_P μ r0 38) (i2 - (1 : Int32)).toNatClampNeg)) →
      (∀ i3_37 : Int32, i3_37 = i3 + (1 : Int32) →
      k4 i2 i3_37 μ36))))))
     else
     ((if i4_7 = (405 : Int32) then
      ((m_K μ (m_P μ r0 38) = 102 ∧ (vp_in (i2 - (1 : Int32)) (m_N μ (m_P μ r0 38)) ∧ (vp_in (i2 - (1 : Int32)) (m_N μ (m_P μ r0 38)) ∧ (∀ μ30, μ30 = m_uL μ (m_P μ r0 38) (i2 - (1 : Int32)).toNatClampNeg ((1 : Int64) - (m_L μ (m_P μ r0 38) (i2 - (1 : Int32)).toNatClampNeg)) →
       (∀ i3_31 : Int32, i3_31 = i3 + (1 : Int32) →
       k4 i2 i3_31 μ30))))))
      else
      ((∀ i2_13 : Int32, i2_13 = i2 + (-1 : Int32) →
       (m_K μ (m_P μ r0 38) = 102 ∧ (vp_in (i2_13 - (1 : Int32)) (m_N μ (m_P μ r0 38)) ∧ (vp_in i2_13 (m_N μ (m_P μ r0 38)) ∧ (p_X5_worked i4_7 (m_L μ (m_P μ r0 38) (i2_13 - (1 : Int32)).toNatClampNeg) (m_L μ (m_P μ r0 38) i2_13.toNatClampNeg) μ (fun w18 μ19 =>
       (m_K μ19 (m_P μ r0 38) = 102 ∧ (vp_in (i2_13 - (1 : Int32)) (m_N μ19 (m_P μ r0 38)) ∧ (∀ μ24, μ24 = m_uL μ19 (m_P μ r0 38) (i2_13 - (1 : Int32)).toNatClampNeg w18 →
       (∀ i3_25 : Int32, i3_25 = i3 + (1 : Int32) →
       k4 i2_13 i3_25 μ24))))))))))))))))))))))))
def p_X5_saysOf_L4 (r0 : Nat) (i2 : Int32) (i3 : Int32) (μ : fw_M) (Q : Int64 → fw_M → Prop) : Prop := fw_lp (fun (k : Int32 × Int32 × fw_M → Prop) (a : Int32 × Int32 × fw_M) => p_X5_saysOf_L4b r0 (fun i2 i3 μ => k (i2, i3, μ)) a.1 a.2.1 a.2.2 Q) (i2, i3, μ)
theorem r_X5_saysOf_L4 {r0 : Nat} {Q : Int64 → fw_M → Prop} (I : Int32 → Int32 → fw_M → Prop) (v : Int32 → Int32 → fw_M → Nat) (hs : ∀ (k : Int32 → Int32 → fw_M → Prop) (i2 : Int32) (i3 : Int32) (μ : fw_M), I i2 i3 μ → (∀ (i2' : Int32) (i3' : Int32) (ν : fw_M), I i2' i3' ν → v i2' i3' ν < v i2 i3 μ → k i2' i3' ν) → p_X5_saysOf_L4b r0 k i2 i3 μ Q) (i2 : Int32) (i3 : Int32) (μ : fw_M) (h : I i2 i3 μ) : p_X5_saysOf_L4 r0 i2 i3 μ Q :=
  fw_lp_in (A := Int32 × Int32 × fw_M) (fun a => I a.1 a.2.1 a.2.2) (fun a => v a.1 a.2.1 a.2.2) (fun k a ha hk => hs (fun i2 i3 μ => k (i2, i3, μ)) a.1 a.2.1 a.2.2 ha (fun i2' i3' ν hb hlt => hk (i2', i3', ν) hb hlt)) (i2, i3, μ) h
set_option maxHeartbeats 4000000 in
theorem w_X5_saysOf_L4b {g : fw_G} {f bc bs : Nat} {r0 : Nat} {k4 : Int32 → Int32 → fw_M → Prop} {i2 : Int32} {i3 : Int32} {μ : fw_M} {Q : Int64 → fw_M → Prop} (hf : 3 ≤ f) (hk4 : ∀ {i2 : Int32} {i3 : Int32} {μ : fw_M}, m_K μ r0 = 6 → k4 i2 i3 μ → fw_V g K_X5_saysOf f bc bs 4 [(0, fw_rv g r0), (2, Value.int i2), (3, Value.int i3)] [] μ (fw_Ql Q) fw_nX) (hx : m_K μ r0 = 6) (h : p_X5_saysOf_L4b r0 k4 i2 i3 μ Q) : fw_V g K_X5_saysOf f bc bs 4 [(0, fw_rv g r0), (2, Value.int i2), (3, Value.int i3)] [] μ (fw_Ql Q) fw_nX := by
  unfold p_X5_saysOf_L4b at h
  refine fw_aload_n dX5_saysOf_4 rfl rfl ?_
  refine fw_getfP fl_X5_42 rfl hx dX5_saysOf_5 ?_
  refine fw_iload_n dX5_saysOf_8 rfl rfl ?_
  obtain ⟨hg1, h⟩ := h
  obtain ⟨hc2, h⟩ := h
  refine fw_iald hg1 hc2 dX5_saysOf_9 ?_
  refine fw_sipush (v := 408) dX5_saysOf_10 (by decide) ?_
  refine fw_icmp_eq (tgt := 175) dX5_saysOf_13 (by decide) (fun c3 => ?_) (fun c3 => ?_)
  · have h := fw_it h c3
    refine fw_aload_n dX5_saysOf_175 rfl rfl ?_
    refine fw_getfP fl_X5_81 rfl hx dX5_saysOf_176 ?_
    refine fw_iconst (v := 0) dX5_saysOf_179 (by decide) ?_
    obtain ⟨hg4, h⟩ := h
    obtain ⟨hc5, h⟩ := h
    refine fw_lald hg4 hc5 dX5_saysOf_180 ?_
    exact fw_lreturn dX5_saysOf_181 rfl ⟨_, rfl, h⟩
  · have h := fw_if h c3
    refine fw_aload_n dX5_saysOf_16 rfl rfl ?_
    refine fw_getfP fl_X5_42 rfl hx dX5_saysOf_17 ?_
    refine fw_iload_n dX5_saysOf_20 rfl rfl ?_
    obtain ⟨hc6, h⟩ := h
    refine fw_iald hg1 hc6 dX5_saysOf_21 ?_
    refine fw_topi (fun i4_7 e8 => ?_)
    have h := h i4_7 e8
    refine fw_istoreN (Ls' := [(4, Value.int i4_7), (3, Value.int i3), (0, fw_rv g r0), (2, Value.int i2)]) [0, 1] dX5_saysOf_22 (by decide) rfl rfl rfl rfl rfl ?_
    refine fw_iload dX5_saysOf_24 rfl ?_
    refine fw_sipush (v := 400) dX5_saysOf_26 (by decide) ?_
    refine fw_icmp_eq (tgt := 40) dX5_saysOf_29 (by decide) (fun c9 => ?_) (fun c9 => ?_)
    · have h := fw_it h c9
      refine fw_ls [2, 3, 1, 0] rfl ?_
      exact w_X5_saysOf_L40 hf hk4 hx h
    · have h := fw_if h c9
      refine fw_iload dX5_saysOf_32 rfl ?_
      refine fw_sipush (v := 401) dX5_saysOf_34 (by decide) ?_
      refine fw_icmp_ne (tgt := 82) dX5_saysOf_37 (by decide) (fun c10 => ?_) (fun c10 => ?_)
      · have h := fw_if h c10
        refine fw_iload dX5_saysOf_82 rfl ?_
        refine fw_sipush (v := 402) dX5_saysOf_84 (by decide) ?_
        refine fw_icmp_ne (tgt := 110) dX5_saysOf_87 (by decide) (fun c11 => ?_) (fun c11 => ?_)
        · have h := fw_if h c11
          refine fw_iload dX5_saysOf_110 rfl ?_
          refine fw_sipush (v := 405) dX5_saysOf_112 (by decide) ?_
          refine fw_icmp_ne (tgt := 139) dX5_saysOf_115 (by decide) (fun c12 => ?_) (fun c12 => ?_)
          · have h := fw_if h c12
            obtain ⟨i2_13, e14⟩ : ∃ y : Int32, y = i2 + (-1 : Int32) := ⟨_, rfl⟩
            have h := h i2_13 e14
            refine fw_iinc (k := 3) (v := i2_13) (Ls' := [(2, Value.int i2_13), (4, Value.int i4_7), (3, Value.int i3), (0, fw_rv g r0)]) [0, 1, 2] dX5_saysOf_139 rfl (by rw [e14]; rfl) (by decide) rfl rfl ?_
            refine fw_aload_n dX5_saysOf_142 rfl rfl ?_
            refine fw_getfP fl_X5_81 rfl hx dX5_saysOf_143 ?_
            refine fw_iload_n dX5_saysOf_146 rfl rfl ?_
            refine fw_iconst (v := 1) dX5_saysOf_147 (by decide) ?_
            refine fw_isub dX5_saysOf_148 ?_
            refine fw_iload dX5_saysOf_149 rfl ?_
            refine fw_aload_n dX5_saysOf_151 rfl rfl ?_
            refine fw_getfP fl_X5_81 rfl hx dX5_saysOf_152 ?_
            refine fw_iload_n dX5_saysOf_155 rfl rfl ?_
            refine fw_iconst (v := 1) dX5_saysOf_156 (by decide) ?_
            refine fw_isub dX5_saysOf_157 ?_
            obtain ⟨hg15, h⟩ := h
            obtain ⟨hc16, h⟩ := h
            refine fw_lald hg15 hc16 dX5_saysOf_158 ?_
            refine fw_aload_n dX5_saysOf_159 rfl rfl ?_
            refine fw_getfP fl_X5_81 rfl hx dX5_saysOf_160 ?_
            refine fw_iload_n dX5_saysOf_163 rfl rfl ?_
            obtain ⟨hc17, h⟩ := h
            refine fw_lald hg15 hc17 dX5_saysOf_164 ?_
            refine fw_callS3z (f1 := f - 1) cl_X5_310 (by decide) (by omega) (fw_s4 (Nat.le_of_ble_eq_true rfl)) dX5_saysOf_165 (w_X5_worked (f := f - 1) (by omega) h) (fun _ _ h9 _ _ => h9.elim) (fun v9 μ19 q9 hs20 => ?_)
            obtain ⟨w18, rfl, h⟩ := q9
            refine fw_tl ?_
            have hg21 := hs20.K hx (by decide)
            obtain ⟨hg22, h⟩ := h
            obtain ⟨hc23, h⟩ := h
            refine fw_last hg22 hc23 dX5_saysOf_168 ?_
            have h := h _ rfl
            obtain ⟨i3_25, e26⟩ : ∃ y : Int32, y = i3 + (1 : Int32) := ⟨_, rfl⟩
            have h := h i3_25 e26
            refine fw_iincN (k := 2) (v := i3_25) (Ls' := [(3, Value.int i3_25), (2, Value.int i2_13), (4, Value.int i4_7), (0, fw_rv g r0)]) [1, 3] dX5_saysOf_169 rfl (by rw [e26]; rfl) (by decide) rfl rfl rfl rfl rfl ?_
            refine fw_goto (tgt := 4) dX5_saysOf_172 (by decide) ?_
            refine fw_ls [3, 1, 0] rfl ?_
            exact hk4 hg21 h
          · have h := fw_it h c12
            refine fw_aload_n dX5_saysOf_118 rfl rfl ?_
            refine fw_getfP fl_X5_81 rfl hx dX5_saysOf_119 ?_
            refine fw_iload_n dX5_saysOf_122 rfl rfl ?_
            refine fw_iconst (v := 1) dX5_saysOf_123 (by decide) ?_
            refine fw_isub dX5_saysOf_124 ?_
            refine fw_lconst (v := 1) dX5_saysOf_125 (by decide) ?_
            refine fw_aload_n dX5_saysOf_126 rfl rfl ?_
            refine fw_getfP fl_X5_81 rfl hx dX5_saysOf_127 ?_
            refine fw_iload_n dX5_saysOf_130 rfl rfl ?_
            refine fw_iconst (v := 1) dX5_saysOf_131 (by decide) ?_
            refine fw_isub dX5_saysOf_132 ?_
            obtain ⟨hg27, h⟩ := h
            obtain ⟨hc28, h⟩ := h
            refine fw_lald hg27 hc28 dX5_saysOf_133 ?_
            refine fw_lsub dX5_saysOf_134 ?_
            obtain ⟨hc29, h⟩ := h
            refine fw_last hg27 hc29 dX5_saysOf_135 ?_
            have h := h _ rfl
            refine fw_goto (tgt := 169) dX5_saysOf_136 (by decide) ?_
            obtain ⟨i3_31, e32⟩ : ∃ y : Int32, y = i3 + (1 : Int32) := ⟨_, rfl⟩
            have h := h i3_31 e32
            refine fw_iincN (k := 1) (v := i3_31) (Ls' := [(3, Value.int i3_31), (2, Value.int i2), (4, Value.int i4_7), (0, fw_rv g r0)]) [0, 2] dX5_saysOf_169 rfl (by rw [e32]; rfl) (by decide) rfl rfl rfl rfl rfl ?_
            refine fw_goto (tgt := 4) dX5_saysOf_172 (by decide) ?_
            refine fw_ls [3, 1, 0] rfl ?_
            exact hk4 hx h
        · have h := fw_it h c11
          refine fw_aload_n dX5_saysOf_90 rfl rfl ?_
          refine fw_getfP fl_X5_81 rfl hx dX5_saysOf_91 ?_
          refine fw_iload_n dX5_saysOf_94 rfl rfl ?_
          refine fw_iconst (v := 1) dX5_saysOf_95 (by decide) ?_
          refine fw_isub dX5_saysOf_96 ?_
          refine fw_aload_n dX5_saysOf_97 rfl rfl ?_
          refine fw_getfP fl_X5_81 rfl hx dX5_saysOf_98 ?_
          refine fw_iload_n dX5_saysOf_101 rfl rfl ?_
          refine fw_iconst (v := 1) dX5_saysOf_102 (by decide) ?_
          refine fw_isub dX5_saysOf_103 ?_
          obtain ⟨hg33, h⟩ := h
          obtain ⟨hc34, h⟩ := h
          refine fw_lald hg33 hc34 dX5_saysOf_104 ?_
          refine fw_lneg dX5_saysOf_105 ?_
          obtain ⟨hc35, h⟩ := h
          refine fw_last hg33 hc35 dX5_saysOf_106 ?_
          have h := h _ rfl
          refine fw_goto (tgt := 169) dX5_saysOf_107 (by decide) ?_
          obtain ⟨i3_37, e38⟩ : ∃ y : Int32, y = i3 + (1 : Int32) := ⟨_, rfl⟩
          have h := h i3_37 e38
          refine fw_iincN (k := 1) (v := i3_37) (Ls' := [(3, Value.int i3_37), (2, Value.int i2), (4, Value.int i4_7), (0, fw_rv g r0)]) [0, 2] dX5_saysOf_169 rfl (by rw [e38]; rfl) (by decide) rfl rfl rfl rfl rfl ?_
          refine fw_goto (tgt := 4) dX5_saysOf_172 (by decide) ?_
          refine fw_ls [3, 1, 0] rfl ?_
          exact hk4 hx h
      · have h := fw_it h c10
        refine fw_ls [2, 3, 1, 0] rfl ?_
        exact w_X5_saysOf_L40 hf hk4 hx h
theorem w_X5_saysOf_L4 {g : fw_G} {f bc bs : Nat} {r0 : Nat} {i2 : Int32} {i3 : Int32} {μ : fw_M} {Q : Int64 → fw_M → Prop} (hf : 3 ≤ f) (hx : m_K μ r0 = 6) (h : p_X5_saysOf_L4 r0 i2 i3 μ Q) : fw_V g K_X5_saysOf f bc bs 4 [(0, fw_rv g r0), (2, Value.int i2), (3, Value.int i3)] [] μ (fw_Ql Q) fw_nX := by
  have key := fw_lp_out (R := fun (a : Int32 × Int32 × fw_M) => m_K a.2.2 r0 = 6 → fw_V g K_X5_saysOf f bc bs 4 [(0, fw_rv g r0), (2, Value.int a.1), (3, Value.int a.2.1)] [] a.2.2 (fw_Ql Q) fw_nX) (fun k hk9 a ha hx2 => w_X5_saysOf_L4b hf (fun {i2 i3} {μ} hx3 h3 => hk9 (i2, i3, μ) h3 hx3) hx2 ha) h
  exact key hx
def p_X5_saysOf (r0 : Nat) (i1 : Int32) (μ : fw_M) (Q : Int64 → fw_M → Prop) : Prop :=
  p_X5_saysOf_L4 r0 (0 : Int32) i1 μ Q
set_option maxHeartbeats 4000000 in
theorem w_X5_saysOf {g : fw_G} {f bc bs : Nat} {r0 : Nat} {i1 : Int32} {μ : fw_M} {Q : Int64 → fw_M → Prop} (hf : 3 ≤ f) (hx : m_K μ r0 = 6) (h : p_X5_saysOf r0 i1 μ Q) : fw_C g f bc bs yX5_saysOf (ws_ yX5_saysOf cX5_saysOf 5 (some .long)) [fw_rv g r0, Value.int i1] μ (fw_Ql Q) fw_nX := by
  unfold p_X5_saysOf at h
  refine fw_intro' (Ls := [(0, fw_rv g r0), (1, Value.int i1)]) (by decide +kernel) (by simp [lg_sl, fw_cat, fw_ci, fw_clo]) (by simp [lv_args, fw_cat, fw_ci, fw_clo]) ?_
  show fw_V g K_X5_saysOf f bc bs 0 [(0, fw_rv g r0), (1, Value.int i1)] [] μ (fw_Ql Q) fw_nX
  refine fw_iconst (v := 0) dX5_saysOf_0 (by decide) ?_
  refine fw_istore_nN (Ls' := [(2, Value.int (0 : Int32)), (1, Value.int i1), (0, fw_rv g r0)]) [0] dX5_saysOf_1 rfl (by decide) rfl rfl rfl rfl rfl ?_
  refine fw_iload_n dX5_saysOf_2 rfl rfl ?_
  refine fw_istore_nN (Ls' := [(3, Value.int i1), (2, Value.int (0 : Int32)), (1, Value.int i1), (0, fw_rv g r0)]) [1, 2] dX5_saysOf_3 rfl (by decide) rfl rfl rfl rfl rfl ?_
  refine fw_ls [3, 1, 0] rfl ?_
  exact w_X5_saysOf_L4 hf hx h
abbrev K_X5_stillHolds : fw_Kt := (RX5, "stillHolds", cX5_stillHolds, 4, some .int, [])
def p_X5_stillHolds_L47 (r0 : Nat) (i1 : Int32) (is0 : Int32) (μ : fw_M) (Q : Int32 → fw_M → Prop) : Prop :=
  (m_K μ (m_P μ r0 40) = 100 ∧ (vp_in i1 (m_N μ (m_P μ r0 40)) ∧ (if is0 ≤ (m_I μ (m_P μ r0 40) i1.toNatClampNeg) then
  (Q (0 : Int32) μ)
  else
  ((vp_in i1 (m_N μ (m_P μ r0 40)) ∧ Q (is0 - (m_I μ (m_P μ r0 40) i1.toNatClampNeg)) μ)))))
set_option maxHeartbeats 4000000 in
theorem w_X5_stillHolds_L47 {g : fw_G} {f bc bs : Nat} {r0 : Nat} {i1 : Int32} {is0 : Int32} {μ : fw_M} {Q : Int32 → fw_M → Prop} (hf : 4 ≤ f) (hx : m_K μ r0 = 6) (h : p_X5_stillHolds_L47 r0 i1 is0 μ Q) : fw_V g K_X5_stillHolds f bc bs 47 [(0, fw_rv g r0), (1, Value.int i1)] [Value.int is0] μ (fw_Qi Q) fw_nX := by
  unfold p_X5_stillHolds_L47 at h
  refine fw_istore_n (Ls' := [(3, Value.int is0), (0, fw_rv g r0), (1, Value.int i1)]) [0, 1] dX5_stillHolds_47 rfl (by decide) rfl rfl ?_
  refine fw_iload_n dX5_stillHolds_48 rfl rfl ?_
  refine fw_aload_n dX5_stillHolds_49 rfl rfl ?_
  refine fw_getfP fl_X5_88 rfl hx dX5_stillHolds_50 ?_
  refine fw_iload_n dX5_stillHolds_53 rfl rfl ?_
  obtain ⟨hg1, h⟩ := h
  obtain ⟨hc2, h⟩ := h
  refine fw_iald hg1 hc2 dX5_stillHolds_54 ?_
  refine fw_icmp_le (tgt := 69) dX5_stillHolds_55 (by decide) (fun c3 => ?_) (fun c3 => ?_)
  · have h := fw_it h c3
    refine fw_iconst (v := 0) dX5_stillHolds_69 (by decide) ?_
    exact fw_ireturn dX5_stillHolds_70 rfl rfl ⟨_, rfl, h⟩
  · have h := fw_if h c3
    refine fw_iload_n dX5_stillHolds_58 rfl rfl ?_
    refine fw_aload_n dX5_stillHolds_59 rfl rfl ?_
    refine fw_getfP fl_X5_88 rfl hx dX5_stillHolds_60 ?_
    refine fw_iload_n dX5_stillHolds_63 rfl rfl ?_
    obtain ⟨hc4, h⟩ := h
    refine fw_iald hg1 hc4 dX5_stillHolds_64 ?_
    refine fw_isub dX5_stillHolds_65 ?_
    refine fw_goto (tgt := 70) dX5_stillHolds_66 (by decide) ?_
    exact fw_ireturn dX5_stillHolds_70 rfl rfl ⟨_, rfl, h⟩
def p_X5_stillHolds (r0 : Nat) (i1 : Int32) (μ : fw_M) (Q : Int32 → fw_M → Prop) : Prop :=
  (p_X5_ordersOf r0 (1 : Int32) μ (fun v1 μ2 =>
  (p_X5_names r0 i1 μ2 (fun μ6 =>
  (if v1 = (-1 : Int32) then
  ((m_K μ6 (m_P μ6 r0 0) = 100 ∧ (vp_in (((10 : Int32) + ((3 : Int32) * i1)) + (1 : Int32)) (m_N μ6 (m_P μ6 r0 0)) ∧ p_X5_stillHolds_L47 r0 i1 ((20 : Int32) * (m_I μ6 (m_P μ6 r0 0) (((10 : Int32) + ((3 : Int32) * i1)) + (1 : Int32)).toNatClampNeg)) μ6 Q)))
  else
  ((p_X5_saysOf r0 v1 μ6 (fun w10 μ11 =>
   (p_X5_held w10 (0 : Int32) (9999 : Int32) μ11 (fun v14 μ15 =>
   p_X5_stillHolds_L47 r0 i1 v14 μ15 Q))))))))))
set_option maxHeartbeats 4000000 in
theorem w_X5_stillHolds {g : fw_G} {f bc bs : Nat} {r0 : Nat} {i1 : Int32} {μ : fw_M} {Q : Int32 → fw_M → Prop} (hf : 4 ≤ f) (hx : m_K μ r0 = 6) (h : p_X5_stillHolds r0 i1 μ Q) : fw_C g f bc bs yX5_stillHolds (ws_ yX5_stillHolds cX5_stillHolds 4 (some .int)) [fw_rv g r0, Value.int i1] μ (fw_Qi Q) fw_nX := by
  unfold p_X5_stillHolds at h
  refine fw_intro' (Ls := [(0, fw_rv g r0), (1, Value.int i1)]) (by decide +kernel) (by simp [lg_sl, fw_cat, fw_ci, fw_clo]) (by simp [lv_args, fw_cat, fw_ci, fw_clo]) ?_
  show fw_V g K_X5_stillHolds f bc bs 0 [(0, fw_rv g r0), (1, Value.int i1)] [] μ (fw_Qi Q) fw_nX
  refine fw_aload_n dX5_stillHolds_0 rfl rfl ?_
  refine fw_iconst (v := 1) dX5_stillHolds_1 (by decide) ?_
  refine fw_callV1z (f1 := f - 1) cl_X5_317 rfl hx (by decide) (by omega) (fw_s4 (Nat.le_of_ble_eq_true rfl)) dX5_stillHolds_2 (w_X5_ordersOf (f := f - 1) (by omega) hx h) (fun _ _ h9 _ _ => h9.elim) (fun v9 μ2 q9 hs3 => ?_)
  obtain ⟨v1, rfl, h⟩ := q9
  refine fw_ti ?_
  have hg4 := hs3.K hx (by decide)
  refine fw_istore_nN (Ls' := [(2, Value.int v1), (1, Value.int i1), (0, fw_rv g r0)]) [0] dX5_stillHolds_5 rfl (by decide) rfl rfl rfl rfl rfl ?_
  refine fw_aload_n dX5_stillHolds_6 rfl rfl ?_
  refine fw_iload_n dX5_stillHolds_7 rfl rfl ?_
  refine fw_callV1z (f1 := f - 1) cl_X5_320 rfl hg4 (by decide) (by omega) (fw_s4 (Nat.le_of_ble_eq_true rfl)) dX5_stillHolds_8 (w_X5_names (f := f - 1) (by omega) hg4 h) (fun _ _ h9 _ _ => h9.elim) (fun v9 μ6 q9 hs7 => ?_)
  obtain ⟨rfl, h⟩ := q9
  refine fw_tv ?_
  have hg8 := hs7.K hg4 (by decide)
  refine fw_iload_n dX5_stillHolds_11 rfl rfl ?_
  refine fw_iconst (v := -1) dX5_stillHolds_12 (by decide) ?_
  refine fw_icmp_ne (tgt := 35) dX5_stillHolds_13 (by decide) (fun c9 => ?_) (fun c9 => ?_)
  · have h := fw_if h c9
    refine fw_aload_n dX5_stillHolds_35 rfl rfl ?_
    refine fw_iload_n dX5_stillHolds_36 rfl rfl ?_
    refine fw_callV1z (f1 := f - 1) cl_X5_323 rfl hg8 (by decide) (by omega) (fw_s4 (Nat.le_of_ble_eq_true rfl)) dX5_stillHolds_37 (w_X5_saysOf (f := f - 1) (by omega) hg8 h) (fun _ _ h9 _ _ => h9.elim) (fun v9 μ11 q9 hs12 => ?_)
    obtain ⟨w10, rfl, h⟩ := q9
    refine fw_tl ?_
    have hg13 := hs12.K hg8 (by decide)
    refine fw_iconst (v := 0) dX5_stillHolds_40 (by decide) ?_
    refine fw_sipush (v := 9999) dX5_stillHolds_41 (by decide) ?_
    refine fw_callS3z (f1 := f - 1) cl_X5_327 (by decide) (by omega) (fw_s4 (Nat.le_of_ble_eq_true rfl)) dX5_stillHolds_44 (w_X5_held (f := f - 1) (by omega) h) (fun _ _ h9 _ _ => h9.elim) (fun v9 μ15 q9 hs16 => ?_)
    obtain ⟨v14, rfl, h⟩ := q9
    refine fw_ti ?_
    have hg17 := hs16.K hg13 (by decide)
    refine fw_ls [2, 1] rfl ?_
    exact w_X5_stillHolds_L47 hf hg17 h
  · have h := fw_it h c9
    refine fw_bipush (v := 20) dX5_stillHolds_16 (by decide) ?_
    refine fw_aload_n dX5_stillHolds_18 rfl rfl ?_
    refine fw_getfP fl_X5_7 rfl hg8 dX5_stillHolds_19 ?_
    refine fw_bipush (v := 10) dX5_stillHolds_22 (by decide) ?_
    refine fw_iconst (v := 3) dX5_stillHolds_24 (by decide) ?_
    refine fw_iload_n dX5_stillHolds_25 rfl rfl ?_
    refine fw_imul dX5_stillHolds_26 ?_
    refine fw_iadd dX5_stillHolds_27 ?_
    refine fw_iconst (v := 1) dX5_stillHolds_28 (by decide) ?_
    refine fw_iadd dX5_stillHolds_29 ?_
    obtain ⟨hg18, h⟩ := h
    obtain ⟨hc19, h⟩ := h
    refine fw_iald hg18 hc19 dX5_stillHolds_30 ?_
    refine fw_imul dX5_stillHolds_31 ?_
    refine fw_goto (tgt := 47) dX5_stillHolds_32 (by decide) ?_
    refine fw_ls [2, 1] rfl ?_
    exact w_X5_stillHolds_L47 hf hg8 h
abbrev K_X5_spoonOf : fw_Kt := (RX5, "spoonOf", cX5_spoonOf, 8, some .int, [])
def p_X5_spoonOf_L116 (r0 : Nat) (i4 : Int32) (i5 : Int32) (is0 : Int32) (μ : fw_M) (Q : Int32 → fw_M → Prop) : Prop :=
  (p_X5_least i4 i5 μ (fun v1 μ2 =>
  (p_X5_least is0 v1 μ2 (fun v5 μ6 =>
  Q v5 μ6))))
set_option maxHeartbeats 4000000 in
theorem w_X5_spoonOf_L116 {g : fw_G} {f bc bs : Nat} {r0 : Nat} {i4 : Int32} {i5 : Int32} {is0 : Int32} {μ : fw_M} {Q : Int32 → fw_M → Prop} (hf : 5 ≤ f) (hx : m_K μ r0 = 6) (h : p_X5_spoonOf_L116 r0 i4 i5 is0 μ Q) : fw_V g K_X5_spoonOf f bc bs 116 [(0, fw_rv g r0), (4, Value.int i4), (5, Value.int i5)] [Value.int is0] μ (fw_Qi Q) fw_nX := by
  unfold p_X5_spoonOf_L116 at h
  refine fw_istore (Ls' := [(7, Value.int is0), (0, fw_rv g r0), (4, Value.int i4), (5, Value.int i5)]) [0, 1, 2] dX5_spoonOf_116 (by decide) rfl rfl ?_
  refine fw_iload dX5_spoonOf_118 rfl ?_
  refine fw_iload dX5_spoonOf_120 rfl ?_
  refine fw_iload dX5_spoonOf_122 rfl ?_
  refine fw_callS2z (f1 := f - 1) cl_X5_334 (by decide) (by omega) (fw_s4 (Nat.le_of_ble_eq_true rfl)) dX5_spoonOf_124 (w_X5_least (f := f - 1) (by omega) h) (fun _ _ h9 _ _ => h9.elim) (fun v9 μ2 q9 hs3 => ?_)
  obtain ⟨v1, rfl, h⟩ := q9
  refine fw_ti ?_
  have hg4 := hs3.K hx (by decide)
  refine fw_callS2z (f1 := f - 1) cl_X5_334 (by decide) (by omega) (fw_s4 (Nat.le_of_ble_eq_true rfl)) dX5_spoonOf_127 (w_X5_least (f := f - 1) (by omega) h) (fun _ _ h9 _ _ => h9.elim) (fun v9 μ6 q9 hs7 => ?_)
  obtain ⟨v5, rfl, h⟩ := q9
  refine fw_ti ?_
  have hg8 := hs7.K hg4 (by decide)
  exact fw_ireturn dX5_spoonOf_130 rfl rfl ⟨_, rfl, h⟩
def p_X5_spoonOf (r0 : Nat) (i1 : Int32) (i2 : Int32) (μ : fw_M) (Q : Int32 → fw_M → Prop) : Prop :=
  (m_K μ (m_P μ r0 0) = 100 ∧ (vp_in ((114 : Int32) + i1) (m_N μ (m_P μ r0 0)) ∧ (∀ i3_3 : Int32, i3_3 = (m_I μ (m_P μ r0 0) ((114 : Int32) + i1).toNatClampNeg) →
  (if i3_3 = (2 : Int32) then
  (Q (0 : Int32) μ)
  else
  ((m_K μ (m_P μ r0 39) = 100 ∧ (vp_in (((2 : Int32) * i3_3) + i2) (m_N μ (m_P μ r0 39)) ∧ (∀ i4_8 : Int32, i4_8 = (m_I μ (m_P μ r0 39) (((2 : Int32) * i3_3) + i2).toNatClampNeg) →
   (p_X5_stillHolds r0 i1 μ (fun v10 μ11 =>
   (p_X5_ordersOf r0 (0 : Int32) μ11 (fun v14 μ15 =>
   (p_X5_names r0 i1 μ15 (fun μ19 =>
   (m_K μ19 (m_P μ19 r0 37) = 100 ∧ (vp_in (4 : Int32) (m_N μ19 (m_P μ19 r0 37)) ∧ (∀ μ24, μ24 = m_uI μ19 (m_P μ19 r0 37) (4 : Int32).toNatClampNeg i2 →
   (m_K μ24 (m_P μ24 r0 37) = 100 ∧ (vp_in (5 : Int32) (m_N μ24 (m_P μ24 r0 37)) ∧ (∀ μ27, μ27 = m_uI μ24 (m_P μ24 r0 37) (5 : Int32).toNatClampNeg i4_8 →
   (m_K μ27 (m_P μ27 r0 37) = 100 ∧ (vp_in (6 : Int32) (m_N μ27 (m_P μ27 r0 37)) ∧ (∀ μ30, μ30 = m_uI μ27 (m_P μ27 r0 37) (6 : Int32).toNatClampNeg (m_I μ27 r0 41) →
   (m_K μ30 (m_P μ30 r0 37) = 100 ∧ (vp_in (7 : Int32) (m_N μ30 (m_P μ30 r0 37)) ∧ (∀ μ33, μ33 = m_uI μ30 (m_P μ30 r0 37) (7 : Int32).toNatClampNeg i3_3 →
   (if v14 = (-1 : Int32) then
   ((m_K μ33 (m_P μ33 r0 0) = 100 ∧ (vp_in ((10 : Int32) + ((3 : Int32) * i1)) (m_N μ33 (m_P μ33 r0 0)) ∧ p_X5_spoonOf_L116 r0 i4_8 v10 ((m_I μ33 (m_P μ33 r0 0) ((10 : Int32) + ((3 : Int32) * i1)).toNatClampNeg) + (1 : Int32)) μ33 Q)))
   else
   ((p_X5_saysOf r0 v14 μ33 (fun w35 μ36 =>
    (p_X5_held w35 (0 : Int32) (99 : Int32) μ36 (fun v39 μ40 =>
    p_X5_spoonOf_L116 r0 i4_8 v10 v39 μ40 Q))))))))))))))))))))))))))))))))
set_option maxHeartbeats 4000000 in
theorem w_X5_spoonOf {g : fw_G} {f bc bs : Nat} {r0 : Nat} {i1 : Int32} {i2 : Int32} {μ : fw_M} {Q : Int32 → fw_M → Prop} (hf : 5 ≤ f) (hx : m_K μ r0 = 6) (h : p_X5_spoonOf r0 i1 i2 μ Q) : fw_C g f bc bs yX5_spoonOf (ws_ yX5_spoonOf cX5_spoonOf 8 (some .int)) [fw_rv g r0, Value.int i1, Value.int i2] μ (fw_Qi Q) fw_nX := by
  unfold p_X5_spoonOf at h
  refine fw_intro' (Ls := [(0, fw_rv g r0), (1, Value.int i1), (2, Value.int i2)]) (by decide +kernel) (by simp [lg_sl, fw_cat, fw_ci, fw_clo]) (by simp [lv_args, fw_cat, fw_ci, fw_clo]) ?_
  show fw_V g K_X5_spoonOf f bc bs 0 [(0, fw_rv g r0), (1, Value.int i1), (2, Value.int i2)] [] μ (fw_Qi Q) fw_nX
  refine fw_aload_n dX5_spoonOf_0 rfl rfl ?_
  refine fw_getfP fl_X5_7 rfl hx dX5_spoonOf_1 ?_
  refine fw_bipush (v := 114) dX5_spoonOf_4 (by decide) ?_
  refine fw_iload_n dX5_spoonOf_6 rfl rfl ?_
  refine fw_iadd dX5_spoonOf_7 ?_
  obtain ⟨hg1, h⟩ := h
  obtain ⟨hc2, h⟩ := h
  refine fw_iald hg1 hc2 dX5_spoonOf_8 ?_
  refine fw_topi (fun i3_3 e4 => ?_)
  have h := h i3_3 e4
  refine fw_istore_nN (Ls' := [(3, Value.int i3_3), (2, Value.int i2), (0, fw_rv g r0), (1, Value.int i1)]) [0, 1] dX5_spoonOf_9 rfl (by decide) rfl rfl rfl rfl rfl ?_
  refine fw_iload_n dX5_spoonOf_10 rfl rfl ?_
  refine fw_iconst (v := 2) dX5_spoonOf_11 (by decide) ?_
  refine fw_icmp_ne (tgt := 17) dX5_spoonOf_12 (by decide) (fun c5 => ?_) (fun c5 => ?_)
  · have h := fw_if h c5
    refine fw_aload_n dX5_spoonOf_17 rfl rfl ?_
    refine fw_getfP fl_X5_85 rfl hx dX5_spoonOf_18 ?_
    refine fw_iconst (v := 2) dX5_spoonOf_21 (by decide) ?_
    refine fw_iload_n dX5_spoonOf_22 rfl rfl ?_
    refine fw_imul dX5_spoonOf_23 ?_
    refine fw_iload_n dX5_spoonOf_24 rfl rfl ?_
    refine fw_iadd dX5_spoonOf_25 ?_
    obtain ⟨hg6, h⟩ := h
    obtain ⟨hc7, h⟩ := h
    refine fw_iald hg6 hc7 dX5_spoonOf_26 ?_
    refine fw_topi (fun i4_8 e9 => ?_)
    have h := h i4_8 e9
    refine fw_istoreN (Ls' := [(4, Value.int i4_8), (3, Value.int i3_3), (2, Value.int i2), (0, fw_rv g r0), (1, Value.int i1)]) [1, 2, 3] dX5_spoonOf_27 (by decide) rfl rfl rfl rfl rfl ?_
    refine fw_aload_n dX5_spoonOf_29 rfl rfl ?_
    refine fw_iload_n dX5_spoonOf_30 rfl rfl ?_
    refine fw_callV1z (f1 := f - 1) cl_X5_331 rfl hx (by decide) (by omega) (fw_s4 (Nat.le_of_ble_eq_true rfl)) dX5_spoonOf_31 (w_X5_stillHolds (f := f - 1) (by omega) hx h) (fun _ _ h9 _ _ => h9.elim) (fun v9 μ11 q9 hs12 => ?_)
    obtain ⟨v10, rfl, h⟩ := q9
    refine fw_ti ?_
    have hg13 := hs12.K hx (by decide)
    refine fw_istoreN (Ls' := [(5, Value.int v10), (4, Value.int i4_8), (3, Value.int i3_3), (2, Value.int i2), (0, fw_rv g r0), (1, Value.int i1)]) [1, 2, 3, 4] dX5_spoonOf_34 (by decide) rfl rfl rfl rfl rfl ?_
    refine fw_aload_n dX5_spoonOf_36 rfl rfl ?_
    refine fw_iconst (v := 0) dX5_spoonOf_37 (by decide) ?_
    refine fw_callV1z (f1 := f - 1) cl_X5_317 rfl hg13 (by decide) (by omega) (fw_s4 (Nat.le_of_ble_eq_true rfl)) dX5_spoonOf_38 (w_X5_ordersOf (f := f - 1) (by omega) hg13 h) (fun _ _ h9 _ _ => h9.elim) (fun v9 μ15 q9 hs16 => ?_)
    obtain ⟨v14, rfl, h⟩ := q9
    refine fw_ti ?_
    have hg17 := hs16.K hg13 (by decide)
    refine fw_istoreN (Ls' := [(6, Value.int v14), (5, Value.int v10), (4, Value.int i4_8), (3, Value.int i3_3), (2, Value.int i2), (0, fw_rv g r0), (1, Value.int i1)]) [1, 2, 3, 4, 5] dX5_spoonOf_41 (by decide) rfl rfl rfl rfl rfl ?_
    refine fw_aload_n dX5_spoonOf_43 rfl rfl ?_
    refine fw_iload_n dX5_spoonOf_44 rfl rfl ?_
    refine fw_callV1z (f1 := f - 1) cl_X5_320 rfl hg17 (by decide) (by omega) (fw_s4 (Nat.le_of_ble_eq_true rfl)) dX5_spoonOf_45 (w_X5_names (f := f - 1) (by omega) hg17 h) (fun _ _ h9 _ _ => h9.elim) (fun v9 μ19 q9 hs20 => ?_)
    obtain ⟨rfl, h⟩ := q9
    refine fw_tv ?_
    have hg21 := hs20.K hg17 (by decide)
    refine fw_aload_n dX5_spoonOf_48 rfl rfl ?_
    refine fw_getfP fl_X5_78 rfl hg21 dX5_spoonOf_49 ?_
    refine fw_iconst (v := 4) dX5_spoonOf_52 (by decide) ?_
    refine fw_iload_n dX5_spoonOf_53 rfl rfl ?_
    obtain ⟨hg22, h⟩ := h
    obtain ⟨hc23, h⟩ := h
    refine fw_iast hg22 hc23 dX5_spoonOf_54 ?_
    have h := h _ rfl
    refine fw_aload_n dX5_spoonOf_55 rfl rfl ?_
    refine fw_getfP fl_X5_78 rfl hg21 dX5_spoonOf_56 ?_
    refine fw_iconst (v := 5) dX5_spoonOf_59 (by decide) ?_
    refine fw_iload dX5_spoonOf_60 rfl ?_
    obtain ⟨hg25, h⟩ := h
    obtain ⟨hc26, h⟩ := h
    refine fw_iast hg25 hc26 dX5_spoonOf_62 ?_
    have h := h _ rfl
    refine fw_aload_n dX5_spoonOf_63 rfl rfl ?_
    refine fw_getfP fl_X5_78 rfl hg21 dX5_spoonOf_64 ?_
    refine fw_bipush (v := 6) dX5_spoonOf_67 (by decide) ?_
    refine fw_aload_n dX5_spoonOf_69 rfl rfl ?_
    refine fw_getfI fl_X5_314 rfl hg21 dX5_spoonOf_70 ?_
    obtain ⟨hg28, h⟩ := h
    obtain ⟨hc29, h⟩ := h
    refine fw_iast hg28 hc29 dX5_spoonOf_73 ?_
    have h := h _ rfl
    refine fw_aload_n dX5_spoonOf_74 rfl rfl ?_
    refine fw_getfP fl_X5_78 rfl hg21 dX5_spoonOf_75 ?_
    refine fw_bipush (v := 7) dX5_spoonOf_78 (by decide) ?_
    refine fw_iload_n dX5_spoonOf_80 rfl rfl ?_
    obtain ⟨hg31, h⟩ := h
    obtain ⟨hc32, h⟩ := h
    refine fw_iast hg31 hc32 dX5_spoonOf_81 ?_
    have h := h _ rfl
    refine fw_iload dX5_spoonOf_82 rfl ?_
    refine fw_iconst (v := -1) dX5_spoonOf_84 (by decide) ?_
    refine fw_icmp_ne (tgt := 104) dX5_spoonOf_85 (by decide) (fun c34 => ?_) (fun c34 => ?_)
    · have h := fw_if h c34
      refine fw_aload_n dX5_spoonOf_104 rfl rfl ?_
      refine fw_iload dX5_spoonOf_105 rfl ?_
      refine fw_callV1z (f1 := f - 1) cl_X5_323 rfl hg21 (by decide) (by omega) (fw_s4 (Nat.le_of_ble_eq_true rfl)) dX5_spoonOf_107 (w_X5_saysOf (f := f - 1) (by omega) hg21 h) (fun _ _ h9 _ _ => h9.elim) (fun v9 μ36 q9 hs37 => ?_)
      obtain ⟨w35, rfl, h⟩ := q9
      refine fw_tl ?_
      have hg38 := hs37.K hg21 (by decide)
      refine fw_iconst (v := 0) dX5_spoonOf_110 (by decide) ?_
      refine fw_bipush (v := 99) dX5_spoonOf_111 (by decide) ?_
      refine fw_callS3z (f1 := f - 1) cl_X5_327 (by decide) (by omega) (fw_s4 (Nat.le_of_ble_eq_true rfl)) dX5_spoonOf_113 (w_X5_held (f := f - 1) (by omega) h) (fun _ _ h9 _ _ => h9.elim) (fun v9 μ40 q9 hs41 => ?_)
      obtain ⟨v39, rfl, h⟩ := q9
      refine fw_ti ?_
      have hg42 := hs41.K hg38 (by decide)
      refine fw_ls [5, 2, 1] rfl ?_
      exact w_X5_spoonOf_L116 hf hg42 h
    · have h := fw_it h c34
      refine fw_aload_n dX5_spoonOf_88 rfl rfl ?_
      refine fw_getfP fl_X5_7 rfl hg21 dX5_spoonOf_89 ?_
      refine fw_bipush (v := 10) dX5_spoonOf_92 (by decide) ?_
      refine fw_iconst (v := 3) dX5_spoonOf_94 (by decide) ?_
      refine fw_iload_n dX5_spoonOf_95 rfl rfl ?_
      refine fw_imul dX5_spoonOf_96 ?_
      refine fw_iadd dX5_spoonOf_97 ?_
      obtain ⟨hg43, h⟩ := h
      obtain ⟨hc44, h⟩ := h
      refine fw_iald hg43 hc44 dX5_spoonOf_98 ?_
      refine fw_iconst (v := 1) dX5_spoonOf_99 (by decide) ?_
      refine fw_iadd dX5_spoonOf_100 ?_
      refine fw_goto (tgt := 116) dX5_spoonOf_101 (by decide) ?_
      refine fw_ls [5, 2, 1] rfl ?_
      exact w_X5_spoonOf_L116 hf hg21 h
  · have h := fw_it h c5
    refine fw_iconst (v := 0) dX5_spoonOf_15 (by decide) ?_
    exact fw_ireturn dX5_spoonOf_16 rfl rfl ⟨_, rfl, h⟩
abbrev K_X5_spoon : fw_Kt := (RX5, "spoon", cX5_spoon, 6, some .int, [])
def p_X5_spoon (r0 : Nat) (i1 : Int32) (i2 : Int32) (μ : fw_M) (Q : Int32 → fw_M → Prop) : Prop :=
  (p_X5_isEater r0 i1 μ (fun v1 μ2 =>
  (if v1 = 0 then
  (Q (-1 : Int32) μ2)
  else
  ((p_X5_isOne i2 μ2 (fun v6 μ7 =>
   (if v6 = 0 then
   (Q (-1 : Int32) μ7)
   else
   ((m_K μ7 (m_P μ7 r0 0) = 100 ∧ (vp_in (132 : Int32) (m_N μ7 (m_P μ7 r0 0)) ∧ (if (m_I μ7 (m_P μ7 r0 0) (132 : Int32).toNatClampNeg) = (60 : Int32) then
    (Q (-1 : Int32) μ7)
    else
    ((p_X5_laysWorld r0 μ7 (fun μ15 =>
     (p_X5_spoonOf r0 i1 i2 μ15 (fun v18 μ19 =>
     (if v18 = 0 then
     (Q (-1 : Int32) μ19)
     else
     ((p_X5_keepsStep r0 μ19 (fun μ24 =>
      (m_K μ24 (m_P μ24 r0 0) = 100 ∧ (vp_in ((114 : Int32) + i1) (m_N μ24 (m_P μ24 r0 0)) ∧ (∀ i4_29 : Int32, i4_29 = (m_I μ24 (m_P μ24 r0 0) ((114 : Int32) + i1).toNatClampNeg) →
      (vp_in (((110 : Int32) + ((2 : Int32) * i4_29)) + i2) (m_N μ24 (m_P μ24 r0 0)) ∧ (vp_in (((110 : Int32) + ((2 : Int32) * i4_29)) + i2) (m_N μ24 (m_P μ24 r0 0)) ∧ (∀ μ33, μ33 = m_uI μ24 (m_P μ24 r0 0) (((110 : Int32) + ((2 : Int32) * i4_29)) + i2).toNatClampNeg ((m_I μ24 (m_P μ24 r0 0) (((110 : Int32) + ((2 : Int32) * i4_29)) + i2).toNatClampNeg) - v18) →
      (m_K μ33 (m_P μ33 r0 0) = 100 ∧ (vp_in ((123 : Int32) + i1) (m_N μ33 (m_P μ33 r0 0)) ∧ (vp_in ((123 : Int32) + i1) (m_N μ33 (m_P μ33 r0 0)) ∧ (∀ μ37, μ37 = m_uI μ33 (m_P μ33 r0 0) ((123 : Int32) + i1).toNatClampNeg ((m_I μ33 (m_P μ33 r0 0) ((123 : Int32) + i1).toNatClampNeg) + v18) →
      (m_K μ37 (m_P μ37 r0 0) = 100 ∧ (vp_in (132 : Int32) (m_N μ37 (m_P μ37 r0 0)) ∧ (∀ i5_40 : Int32, i5_40 = ((133 : Int32) + ((4 : Int32) * (m_I μ37 (m_P μ37 r0 0) (132 : Int32).toNatClampNeg))) →
      (vp_in i5_40 (m_N μ37 (m_P μ37 r0 0)) ∧ (∀ μ43, μ43 = m_uI μ37 (m_P μ37 r0 0) i5_40.toNatClampNeg i1 →
      (m_K μ43 (m_P μ43 r0 0) = 100 ∧ (vp_in (i5_40 + (1 : Int32)) (m_N μ43 (m_P μ43 r0 0)) ∧ (∀ μ46, μ46 = m_uI μ43 (m_P μ43 r0 0) (i5_40 + (1 : Int32)).toNatClampNeg i4_29 →
      (m_K μ46 (m_P μ46 r0 0) = 100 ∧ (vp_in (i5_40 + (2 : Int32)) (m_N μ46 (m_P μ46 r0 0)) ∧ (∀ μ49, μ49 = m_uI μ46 (m_P μ46 r0 0) (i5_40 + (2 : Int32)).toNatClampNeg i2 →
      (m_K μ49 (m_P μ49 r0 0) = 100 ∧ (vp_in (i5_40 + (3 : Int32)) (m_N μ49 (m_P μ49 r0 0)) ∧ (∀ μ52, μ52 = m_uI μ49 (m_P μ49 r0 0) (i5_40 + (3 : Int32)).toNatClampNeg v18 →
      (m_K μ52 (m_P μ52 r0 0) = 100 ∧ (vp_in (132 : Int32) (m_N μ52 (m_P μ52 r0 0)) ∧ (vp_in (132 : Int32) (m_N μ52 (m_P μ52 r0 0)) ∧ (∀ μ56, μ56 = m_uI μ52 (m_P μ52 r0 0) (132 : Int32).toNatClampNeg ((m_I μ52 (m_P μ52 r0 0) (132 : Int32).toNatClampNeg) + (1 : Int32)) →
      Q v18 μ56))))))))))))))))))))))))))))))))))))))))))))))))
set_option maxHeartbeats 4000000 in
theorem w_X5_spoon {g : fw_G} {f bc bs : Nat} {r0 : Nat} {i1 : Int32} {i2 : Int32} {μ : fw_M} {Q : Int32 → fw_M → Prop} (hf : 6 ≤ f) (hx : m_K μ r0 = 6) (h : p_X5_spoon r0 i1 i2 μ Q) : fw_C g f bc bs yX5_spoon (ws_ yX5_spoon cX5_spoon 6 (some .int)) [fw_rv g r0, Value.int i1, Value.int i2] μ (fw_Qi Q) fw_nX := by
  unfold p_X5_spoon at h
  refine fw_intro' (Ls := [(0, fw_rv g r0), (1, Value.int i1), (2, Value.int i2)]) (by decide +kernel) (by simp [lg_sl, fw_cat, fw_ci, fw_clo]) (by simp [lv_args, fw_cat, fw_ci, fw_clo]) ?_
  show fw_V g K_X5_spoon f bc bs 0 [(0, fw_rv g r0), (1, Value.int i1), (2, Value.int i2)] [] μ (fw_Qi Q) fw_nX
  refine fw_aload_n dX5_spoon_0 rfl rfl ?_
  refine fw_iload_n dX5_spoon_1 rfl rfl ?_
  refine fw_callV1z (f1 := f - 1) cl_X5_343 rfl hx (by decide) (by omega) (fw_s4 (Nat.le_of_ble_eq_true rfl)) dX5_spoon_2 (w_X5_isEater (f := f - 1) (by omega) hx h) (fun _ _ h9 _ _ => h9.elim) (fun v9 μ2 q9 hs3 => ?_)
  obtain ⟨v1, rfl, h⟩ := q9
  refine fw_ti ?_
  have hg4 := hs3.K hx (by decide)
  refine fw_if_eq (tgt := 28) dX5_spoon_5 (by decide) (fun c5 => ?_) (fun c5 => ?_)
  · have h := fw_it h c5
    refine fw_iconst (v := -1) dX5_spoon_28 (by decide) ?_
    exact fw_ireturn dX5_spoon_29 rfl rfl ⟨_, rfl, h⟩
  · have h := fw_if h c5
    refine fw_iload_n dX5_spoon_8 rfl rfl ?_
    refine fw_callS1z (f1 := f - 1) cl_X5_114 (by decide) (by omega) (fw_s4 (Nat.le_of_ble_eq_true rfl)) dX5_spoon_9 (w_X5_isOne (f := f - 1) (by omega) h) (fun _ _ h9 _ _ => h9.elim) (fun v9 μ7 q9 hs8 => ?_)
    obtain ⟨v6, rfl, h⟩ := q9
    refine fw_ti ?_
    have hg9 := hs8.K hg4 (by decide)
    refine fw_if_eq (tgt := 28) dX5_spoon_12 (by decide) (fun c10 => ?_) (fun c10 => ?_)
    · have h := fw_it h c10
      refine fw_iconst (v := -1) dX5_spoon_28 (by decide) ?_
      exact fw_ireturn dX5_spoon_29 rfl rfl ⟨_, rfl, h⟩
    · have h := fw_if h c10
      refine fw_aload_n dX5_spoon_15 rfl rfl ?_
      refine fw_getfP fl_X5_7 rfl hg9 dX5_spoon_16 ?_
      refine fw_sipush (v := 132) dX5_spoon_19 (by decide) ?_
      obtain ⟨hg11, h⟩ := h
      obtain ⟨hc12, h⟩ := h
      refine fw_iald hg11 hc12 dX5_spoon_22 ?_
      refine fw_bipush (v := 60) dX5_spoon_23 (by decide) ?_
      refine fw_icmp_ne (tgt := 30) dX5_spoon_25 (by decide) (fun c13 => ?_) (fun c13 => ?_)
      · have h := fw_if h c13
        refine fw_aload_n dX5_spoon_30 rfl rfl ?_
        refine fw_callV0z (f1 := f - 1) cl_X5_349 rfl hg9 (by decide) (by omega) (fw_s4 (Nat.le_of_ble_eq_true rfl)) dX5_spoon_31 (w_X5_laysWorld (f := f - 1) (by omega) hg9 h) (fun _ _ h9 _ _ => h9.elim) (fun v9 μ15 q9 hs16 => ?_)
        obtain ⟨rfl, h⟩ := q9
        refine fw_tv ?_
        have hg17 := hs16.K hg9 (by decide)
        refine fw_aload_n dX5_spoon_34 rfl rfl ?_
        refine fw_iload_n dX5_spoon_35 rfl rfl ?_
        refine fw_iload_n dX5_spoon_36 rfl rfl ?_
        refine fw_callV2z (f1 := f - 1) cl_X5_337 rfl hg17 (by decide) (by omega) (fw_s4 (Nat.le_of_ble_eq_true rfl)) dX5_spoon_37 (w_X5_spoonOf (f := f - 1) (by omega) hg17 h) (fun _ _ h9 _ _ => h9.elim) (fun v9 μ19 q9 hs20 => ?_)
        obtain ⟨v18, rfl, h⟩ := q9
        refine fw_ti ?_
        have hg21 := hs20.K hg17 (by decide)
        refine fw_istore_nN (Ls' := [(3, Value.int v18), (2, Value.int i2), (0, fw_rv g r0), (1, Value.int i1)]) [0, 1] dX5_spoon_40 rfl (by decide) rfl rfl rfl rfl rfl ?_
        refine fw_iload_n dX5_spoon_41 rfl rfl ?_
        refine fw_if_ne (tgt := 47) dX5_spoon_42 (by decide) (fun c22 => ?_) (fun c22 => ?_)
        · have h := fw_if h c22
          refine fw_aload_n dX5_spoon_47 rfl rfl ?_
          refine fw_callV0z (f1 := f - 1) cl_X5_346 rfl hg21 (by decide) (by omega) (fw_s4 (Nat.le_of_ble_eq_true rfl)) dX5_spoon_48 (w_X5_keepsStep (f := f - 1) (by omega) hg21 h) (fun _ _ h9 _ _ => h9.elim) (fun v9 μ24 q9 hs25 => ?_)
          obtain ⟨rfl, h⟩ := q9
          refine fw_tv ?_
          have hg26 := hs25.K hg21 (by decide)
          refine fw_aload_n dX5_spoon_51 rfl rfl ?_
          refine fw_getfP fl_X5_7 rfl hg26 dX5_spoon_52 ?_
          refine fw_bipush (v := 114) dX5_spoon_55 (by decide) ?_
          refine fw_iload_n dX5_spoon_57 rfl rfl ?_
          refine fw_iadd dX5_spoon_58 ?_
          obtain ⟨hg27, h⟩ := h
          obtain ⟨hc28, h⟩ := h
          refine fw_iald hg27 hc28 dX5_spoon_59 ?_
          refine fw_topi (fun i4_29 e30 => ?_)
          have h := h i4_29 e30
          refine fw_istoreN (Ls' := [(4, Value.int i4_29), (3, Value.int v18), (2, Value.int i2), (0, fw_rv g r0), (1, Value.int i1)]) [1, 2, 3] dX5_spoon_60 (by decide) rfl rfl rfl rfl rfl ?_
          refine fw_aload_n dX5_spoon_62 rfl rfl ?_
          refine fw_getfP fl_X5_7 rfl hg26 dX5_spoon_63 ?_
          refine fw_bipush (v := 110) dX5_spoon_66 (by decide) ?_
          refine fw_iconst (v := 2) dX5_spoon_68 (by decide) ?_
          refine fw_iload dX5_spoon_69 rfl ?_
          refine fw_imul dX5_spoon_71 ?_
          refine fw_iadd dX5_spoon_72 ?_
          refine fw_iload_n dX5_spoon_73 rfl rfl ?_
          refine fw_iadd dX5_spoon_74 ?_
          refine fw_dup2 dX5_spoon_75 rfl (fw_cat _) ?_
          obtain ⟨hc31, h⟩ := h
          refine fw_iald hg27 hc31 dX5_spoon_76 ?_
          refine fw_iload_n dX5_spoon_77 rfl rfl ?_
          refine fw_isub dX5_spoon_78 ?_
          obtain ⟨hc32, h⟩ := h
          refine fw_iast hg27 hc32 dX5_spoon_79 ?_
          have h := h _ rfl
          refine fw_aload_n dX5_spoon_80 rfl rfl ?_
          refine fw_getfP fl_X5_7 rfl hg26 dX5_spoon_81 ?_
          refine fw_bipush (v := 123) dX5_spoon_84 (by decide) ?_
          refine fw_iload_n dX5_spoon_86 rfl rfl ?_
          refine fw_iadd dX5_spoon_87 ?_
          refine fw_dup2 dX5_spoon_88 rfl (fw_cat _) ?_
          obtain ⟨hg34, h⟩ := h
          obtain ⟨hc35, h⟩ := h
          refine fw_iald hg34 hc35 dX5_spoon_89 ?_
          refine fw_iload_n dX5_spoon_90 rfl rfl ?_
          refine fw_iadd dX5_spoon_91 ?_
          obtain ⟨hc36, h⟩ := h
          refine fw_iast hg34 hc36 dX5_spoon_92 ?_
          have h := h _ rfl
          refine fw_sipush (v := 133) dX5_spoon_93 (by decide) ?_
          refine fw_iconst (v := 4) dX5_spoon_96 (by decide) ?_
          refine fw_aload_n dX5_spoon_97 rfl rfl ?_
          refine fw_getfP fl_X5_7 rfl hg26 dX5_spoon_98 ?_
          refine fw_sipush (v := 132) dX5_spoon_101 (by decide) ?_
          obtain ⟨hg38, h⟩ := h
          obtain ⟨hc39, h⟩ := h
          refine fw_iald hg38 hc39 dX5_spoon_104 ?_
          refine fw_imul dX5_spoon_105 ?_
          refine fw_iadd dX5_spoon_106 ?_
          refine fw_topi (fun i5_40 e41 => ?_)
          have h := h i5_40 e41
          refine fw_istoreN (Ls' := [(5, Value.int i5_40), (4, Value.int i4_29), (3, Value.int v18), (2, Value.int i2), (0, fw_rv g r0), (1, Value.int i1)]) [1, 2, 3, 4] dX5_spoon_107 (by decide) rfl rfl rfl rfl rfl ?_
          refine fw_aload_n dX5_spoon_109 rfl rfl ?_
          refine fw_getfP fl_X5_7 rfl hg26 dX5_spoon_110 ?_
          refine fw_iload dX5_spoon_113 rfl ?_
          refine fw_iload_n dX5_spoon_115 rfl rfl ?_
          obtain ⟨hc42, h⟩ := h
          refine fw_iast hg38 hc42 dX5_spoon_116 ?_
          have h := h _ rfl
          refine fw_aload_n dX5_spoon_117 rfl rfl ?_
          refine fw_getfP fl_X5_7 rfl hg26 dX5_spoon_118 ?_
          refine fw_iload dX5_spoon_121 rfl ?_
          refine fw_iconst (v := 1) dX5_spoon_123 (by decide) ?_
          refine fw_iadd dX5_spoon_124 ?_
          refine fw_iload dX5_spoon_125 rfl ?_
          obtain ⟨hg44, h⟩ := h
          obtain ⟨hc45, h⟩ := h
          refine fw_iast hg44 hc45 dX5_spoon_127 ?_
          have h := h _ rfl
          refine fw_aload_n dX5_spoon_128 rfl rfl ?_
          refine fw_getfP fl_X5_7 rfl hg26 dX5_spoon_129 ?_
          refine fw_iload dX5_spoon_132 rfl ?_
          refine fw_iconst (v := 2) dX5_spoon_134 (by decide) ?_
          refine fw_iadd dX5_spoon_135 ?_
          refine fw_iload_n dX5_spoon_136 rfl rfl ?_
          obtain ⟨hg47, h⟩ := h
          obtain ⟨hc48, h⟩ := h
          refine fw_iast hg47 hc48 dX5_spoon_137 ?_
          have h := h _ rfl
          refine fw_aload_n dX5_spoon_138 rfl rfl ?_
          refine fw_getfP fl_X5_7 rfl hg26 dX5_spoon_139 ?_
          refine fw_iload dX5_spoon_142 rfl ?_
          refine fw_iconst (v := 3) dX5_spoon_144 (by decide) ?_
          refine fw_iadd dX5_spoon_145 ?_
          refine fw_iload_n dX5_spoon_146 rfl rfl ?_
          obtain ⟨hg50, h⟩ := h
          obtain ⟨hc51, h⟩ := h
          refine fw_iast hg50 hc51 dX5_spoon_147 ?_
          have h := h _ rfl
          refine fw_aload_n dX5_spoon_148 rfl rfl ?_
          refine fw_getfP fl_X5_7 rfl hg26 dX5_spoon_149 ?_
          refine fw_sipush (v := 132) dX5_spoon_152 (by decide) ?_
          refine fw_dup2 dX5_spoon_155 rfl (fw_cat _) ?_
          obtain ⟨hg53, h⟩ := h
          obtain ⟨hc54, h⟩ := h
          refine fw_iald hg53 hc54 dX5_spoon_156 ?_
          refine fw_iconst (v := 1) dX5_spoon_157 (by decide) ?_
          refine fw_iadd dX5_spoon_158 ?_
          obtain ⟨hc55, h⟩ := h
          refine fw_iast hg53 hc55 dX5_spoon_159 ?_
          have h := h _ rfl
          refine fw_iload_n dX5_spoon_160 rfl rfl ?_
          exact fw_ireturn dX5_spoon_161 rfl rfl ⟨_, rfl, h⟩
        · have h := fw_it h c22
          refine fw_iconst (v := -1) dX5_spoon_45 (by decide) ?_
          exact fw_ireturn dX5_spoon_46 rfl rfl ⟨_, rfl, h⟩
      · have h := fw_it h c13
        refine fw_iconst (v := -1) dX5_spoon_28 (by decide) ?_
        exact fw_ireturn dX5_spoon_29 rfl rfl ⟨_, rfl, h⟩
abbrev K_X5_tilt : fw_Kt := (RX5, "tilt", cX5_tilt, 1, some .int, [])
def p_X5_tilt (r0 : Nat) (μ : fw_M) (Q : Int32 → fw_M → Prop) : Prop :=
  (m_K μ (m_P μ r0 39) = 100 ∧ (vp_in (0 : Int32) (m_N μ (m_P μ r0 39)) ∧ (vp_in (1 : Int32) (m_N μ (m_P μ r0 39)) ∧ (vp_in (2 : Int32) (m_N μ (m_P μ r0 39)) ∧ (vp_in (3 : Int32) (m_N μ (m_P μ r0 39)) ∧ Q ((((m_I μ (m_P μ r0 39) (0 : Int32).toNatClampNeg) + (m_I μ (m_P μ r0 39) (1 : Int32).toNatClampNeg)) - (m_I μ (m_P μ r0 39) (2 : Int32).toNatClampNeg)) - (m_I μ (m_P μ r0 39) (3 : Int32).toNatClampNeg)) μ)))))
set_option maxHeartbeats 4000000 in
theorem w_X5_tilt {g : fw_G} {f bc bs : Nat} {r0 : Nat} {μ : fw_M} {Q : Int32 → fw_M → Prop} (hf : 1 ≤ f) (hx : m_K μ r0 = 6) (h : p_X5_tilt r0 μ Q) : fw_C g f bc bs yX5_tilt (ws_ yX5_tilt cX5_tilt 1 (some .int)) [fw_rv g r0] μ (fw_Qi Q) fw_nX := by
  unfold p_X5_tilt at h
  refine fw_intro' (Ls := [(0, fw_rv g r0)]) (by decide +kernel) (by simp [lg_sl, fw_cat, fw_ci, fw_clo]) (by simp [lv_args, fw_cat, fw_ci, fw_clo]) ?_
  show fw_V g K_X5_tilt f bc bs 0 [(0, fw_rv g r0)] [] μ (fw_Qi Q) fw_nX
  refine fw_aload_n dX5_tilt_0 rfl rfl ?_
  refine fw_getfP fl_X5_85 rfl hx dX5_tilt_1 ?_
  refine fw_iconst (v := 0) dX5_tilt_4 (by decide) ?_
  obtain ⟨hg1, h⟩ := h
  obtain ⟨hc2, h⟩ := h
  refine fw_iald hg1 hc2 dX5_tilt_5 ?_
  refine fw_aload_n dX5_tilt_6 rfl rfl ?_
  refine fw_getfP fl_X5_85 rfl hx dX5_tilt_7 ?_
  refine fw_iconst (v := 1) dX5_tilt_10 (by decide) ?_
  obtain ⟨hc3, h⟩ := h
  refine fw_iald hg1 hc3 dX5_tilt_11 ?_
  refine fw_iadd dX5_tilt_12 ?_
  refine fw_aload_n dX5_tilt_13 rfl rfl ?_
  refine fw_getfP fl_X5_85 rfl hx dX5_tilt_14 ?_
  refine fw_iconst (v := 2) dX5_tilt_17 (by decide) ?_
  obtain ⟨hc4, h⟩ := h
  refine fw_iald hg1 hc4 dX5_tilt_18 ?_
  refine fw_isub dX5_tilt_19 ?_
  refine fw_aload_n dX5_tilt_20 rfl rfl ?_
  refine fw_getfP fl_X5_85 rfl hx dX5_tilt_21 ?_
  refine fw_iconst (v := 3) dX5_tilt_24 (by decide) ?_
  obtain ⟨hc5, h⟩ := h
  refine fw_iald hg1 hc5 dX5_tilt_25 ?_
  refine fw_isub dX5_tilt_26 ?_
  exact fw_ireturn dX5_tilt_27 rfl rfl ⟨_, rfl, h⟩
abbrev K_X5_isGuilty : fw_Kt := (RX5, "isGuilty", cX5_isGuilty, 4, some .boolean, [])
def p_X5_isGuilty (r0 : Nat) (i1 : Int32) (μ : fw_M) (Q : Int32 → fw_M → Prop) : Prop :=
  (p_X5_ordersOf r0 (2 : Int32) μ (fun v1 μ2 =>
  (p_X5_tilt r0 μ2 (fun v5 μ6 =>
  (if v1 = (-1 : Int32) then
  ((if i1 = 0 then
   ((if 0 ≤ v5 then
    (Q (0 : Int32) μ6)
    else
    (Q (1 : Int32) μ6)))
   else
   ((if v5 ≤ 0 then
    (Q (0 : Int32) μ6)
    else
    (Q (1 : Int32) μ6)))))
  else
  ((m_K μ6 (m_P μ6 r0 37) = 100 ∧ (vp_in (7 : Int32) (m_N μ6 (m_P μ6 r0 37)) ∧ (∀ μ12, μ12 = m_uI μ6 (m_P μ6 r0 37) (7 : Int32).toNatClampNeg i1 →
   (m_K μ12 (m_P μ12 r0 37) = 100 ∧ (vp_in (8 : Int32) (m_N μ12 (m_P μ12 r0 37)) ∧ (∀ μ15, μ15 = m_uI μ12 (m_P μ12 r0 37) (8 : Int32).toNatClampNeg v5 →
   (m_K μ15 (m_P μ15 r0 39) = 100 ∧ (vp_in ((2 : Int32) * i1) (m_N μ15 (m_P μ15 r0 39)) ∧ (m_K μ15 (m_P μ15 r0 37) = 100 ∧ (vp_in (9 : Int32) (m_N μ15 (m_P μ15 r0 37)) ∧ (∀ μ20, μ20 = m_uI μ15 (m_P μ15 r0 37) (9 : Int32).toNatClampNeg (m_I μ15 (m_P μ15 r0 39) ((2 : Int32) * i1).toNatClampNeg) →
   (m_K μ20 (m_P μ20 r0 39) = 100 ∧ (vp_in (((2 : Int32) * i1) + (1 : Int32)) (m_N μ20 (m_P μ20 r0 39)) ∧ (m_K μ20 (m_P μ20 r0 37) = 100 ∧ (vp_in (10 : Int32) (m_N μ20 (m_P μ20 r0 37)) ∧ (∀ μ25, μ25 = m_uI μ20 (m_P μ20 r0 37) (10 : Int32).toNatClampNeg (m_I μ20 (m_P μ20 r0 39) (((2 : Int32) * i1) + (1 : Int32)).toNatClampNeg) →
   (m_K μ25 (m_P μ25 r0 0) = 100 ∧ (vp_in (373 : Int32) (m_N μ25 (m_P μ25 r0 0)) ∧ (m_K μ25 (m_P μ25 r0 37) = 100 ∧ (vp_in (11 : Int32) (m_N μ25 (m_P μ25 r0 37)) ∧ (∀ μ30, μ30 = m_uI μ25 (m_P μ25 r0 37) (11 : Int32).toNatClampNeg (m_I μ25 (m_P μ25 r0 0) (373 : Int32).toNatClampNeg) →
   (p_X5_saysOf r0 v1 μ30 (fun w31 μ32 =>
   (if (0 : Int64) < w31 then
   (Q (1 : Int32) μ32)
   else
   (Q (0 : Int32) μ32)))))))))))))))))))))))))))))))
set_option maxHeartbeats 4000000 in
theorem w_X5_isGuilty {g : fw_G} {f bc bs : Nat} {r0 : Nat} {i1 : Int32} {μ : fw_M} {Q : Int32 → fw_M → Prop} (hf : 4 ≤ f) (hx : m_K μ r0 = 6) (h : p_X5_isGuilty r0 i1 μ Q) : fw_C g f bc bs yX5_isGuilty (ws_ yX5_isGuilty cX5_isGuilty 4 (some .boolean)) [fw_rv g r0, Value.int i1] μ (fw_Qi Q) fw_nX := by
  unfold p_X5_isGuilty at h
  refine fw_intro' (Ls := [(0, fw_rv g r0), (1, Value.int i1)]) (by decide +kernel) (by simp [lg_sl, fw_cat, fw_ci, fw_clo]) (by simp [lv_args, fw_cat, fw_ci, fw_clo]) ?_
  show fw_V g K_X5_isGuilty f bc bs 0 [(0, fw_rv g r0), (1, Value.int i1)] [] μ (fw_Qi Q) fw_nX
  refine fw_aload_n dX5_isGuilty_0 rfl rfl ?_
  refine fw_iconst (v := 2) dX5_isGuilty_1 (by decide) ?_
  refine fw_callV1z (f1 := f - 1) cl_X5_317 rfl hx (by decide) (by omega) (fw_s4 (Nat.le_of_ble_eq_true rfl)) dX5_isGuilty_2 (w_X5_ordersOf (f := f - 1) (by omega) hx h) (fun _ _ h9 _ _ => h9.elim) (fun v9 μ2 q9 hs3 => ?_)
  obtain ⟨v1, rfl, h⟩ := q9
  refine fw_ti ?_
  have hg4 := hs3.K hx (by decide)
  refine fw_istore_nN (Ls' := [(2, Value.int v1), (1, Value.int i1), (0, fw_rv g r0)]) [0] dX5_isGuilty_5 rfl (by decide) rfl rfl rfl rfl rfl ?_
  refine fw_aload_n dX5_isGuilty_6 rfl rfl ?_
  refine fw_callV0z (f1 := f - 1) cl_X5_340 rfl hg4 (by decide) (by omega) (fw_s4 (Nat.le_of_ble_eq_true rfl)) dX5_isGuilty_7 (w_X5_tilt (f := f - 1) (by omega) hg4 h) (fun _ _ h9 _ _ => h9.elim) (fun v9 μ6 q9 hs7 => ?_)
  obtain ⟨v5, rfl, h⟩ := q9
  refine fw_ti ?_
  have hg8 := hs7.K hg4 (by decide)
  refine fw_istore_nN (Ls' := [(3, Value.int v5), (2, Value.int v1), (1, Value.int i1), (0, fw_rv g r0)]) [1, 2] dX5_isGuilty_10 rfl (by decide) rfl rfl rfl rfl rfl ?_
  refine fw_iload_n dX5_isGuilty_11 rfl rfl ?_
  refine fw_iconst (v := -1) dX5_isGuilty_12 (by decide) ?_
  refine fw_icmp_ne (tgt := 42) dX5_isGuilty_13 (by decide) (fun c9 => ?_) (fun c9 => ?_)
  · have h := fw_if h c9
    refine fw_aload_n dX5_isGuilty_42 rfl rfl ?_
    refine fw_getfP fl_X5_78 rfl hg8 dX5_isGuilty_43 ?_
    refine fw_bipush (v := 7) dX5_isGuilty_46 (by decide) ?_
    refine fw_iload_n dX5_isGuilty_48 rfl rfl ?_
    obtain ⟨hg10, h⟩ := h
    obtain ⟨hc11, h⟩ := h
    refine fw_iast hg10 hc11 dX5_isGuilty_49 ?_
    have h := h _ rfl
    refine fw_aload_n dX5_isGuilty_50 rfl rfl ?_
    refine fw_getfP fl_X5_78 rfl hg8 dX5_isGuilty_51 ?_
    refine fw_bipush (v := 8) dX5_isGuilty_54 (by decide) ?_
    refine fw_iload_n dX5_isGuilty_56 rfl rfl ?_
    obtain ⟨hg13, h⟩ := h
    obtain ⟨hc14, h⟩ := h
    refine fw_iast hg13 hc14 dX5_isGuilty_57 ?_
    have h := h _ rfl
    refine fw_aload_n dX5_isGuilty_58 rfl rfl ?_
    refine fw_getfP fl_X5_78 rfl hg8 dX5_isGuilty_59 ?_
    refine fw_bipush (v := 9) dX5_isGuilty_62 (by decide) ?_
    refine fw_aload_n dX5_isGuilty_64 rfl rfl ?_
    refine fw_getfP fl_X5_85 rfl hg8 dX5_isGuilty_65 ?_
    refine fw_iconst (v := 2) dX5_isGuilty_68 (by decide) ?_
    refine fw_iload_n dX5_isGuilty_69 rfl rfl ?_
    refine fw_imul dX5_isGuilty_70 ?_
    obtain ⟨hg16, h⟩ := h
    obtain ⟨hc17, h⟩ := h
    refine fw_iald hg16 hc17 dX5_isGuilty_71 ?_
    obtain ⟨hg18, h⟩ := h
    obtain ⟨hc19, h⟩ := h
    refine fw_iast hg18 hc19 dX5_isGuilty_72 ?_
    have h := h _ rfl
    refine fw_aload_n dX5_isGuilty_73 rfl rfl ?_
    refine fw_getfP fl_X5_78 rfl hg8 dX5_isGuilty_74 ?_
    refine fw_bipush (v := 10) dX5_isGuilty_77 (by decide) ?_
    refine fw_aload_n dX5_isGuilty_79 rfl rfl ?_
    refine fw_getfP fl_X5_85 rfl hg8 dX5_isGuilty_80 ?_
    refine fw_iconst (v := 2) dX5_isGuilty_83 (by decide) ?_
    refine fw_iload_n dX5_isGuilty_84 rfl rfl ?_
    refine fw_imul dX5_isGuilty_85 ?_
    refine fw_iconst (v := 1) dX5_isGuilty_86 (by decide) ?_
    refine fw_iadd dX5_isGuilty_87 ?_
    obtain ⟨hg21, h⟩ := h
    obtain ⟨hc22, h⟩ := h
    refine fw_iald hg21 hc22 dX5_isGuilty_88 ?_
    obtain ⟨hg23, h⟩ := h
    obtain ⟨hc24, h⟩ := h
    refine fw_iast hg23 hc24 dX5_isGuilty_89 ?_
    have h := h _ rfl
    refine fw_aload_n dX5_isGuilty_90 rfl rfl ?_
    refine fw_getfP fl_X5_78 rfl hg8 dX5_isGuilty_91 ?_
    refine fw_bipush (v := 11) dX5_isGuilty_94 (by decide) ?_
    refine fw_aload_n dX5_isGuilty_96 rfl rfl ?_
    refine fw_getfP fl_X5_7 rfl hg8 dX5_isGuilty_97 ?_
    refine fw_sipush (v := 373) dX5_isGuilty_100 (by decide) ?_
    obtain ⟨hg26, h⟩ := h
    obtain ⟨hc27, h⟩ := h
    refine fw_iald hg26 hc27 dX5_isGuilty_103 ?_
    obtain ⟨hg28, h⟩ := h
    obtain ⟨hc29, h⟩ := h
    refine fw_iast hg28 hc29 dX5_isGuilty_104 ?_
    have h := h _ rfl
    refine fw_aload_n dX5_isGuilty_105 rfl rfl ?_
    refine fw_iload_n dX5_isGuilty_106 rfl rfl ?_
    refine fw_callV1z (f1 := f - 1) cl_X5_323 rfl hg8 (by decide) (by omega) (fw_s4 (Nat.le_of_ble_eq_true rfl)) dX5_isGuilty_107 (w_X5_saysOf (f := f - 1) (by omega) hg8 h) (fun _ _ h9 _ _ => h9.elim) (fun v9 μ32 q9 hs33 => ?_)
    obtain ⟨w31, rfl, h⟩ := q9
    refine fw_tl ?_
    have hg34 := hs33.K hg8 (by decide)
    refine fw_lconst (v := 0) dX5_isGuilty_110 (by decide) ?_
    refine fw_lle (tgt := 119) dX5_isGuilty_111 dX5_isGuilty_112 (by decide) (fun c35 => ?_) (fun c35 => ?_)
    · have h := fw_if h c35
      refine fw_iconst (v := 0) dX5_isGuilty_119 (by decide) ?_
      exact fw_ireturn dX5_isGuilty_120 rfl (by decide +kernel) ⟨_, rfl, h⟩
    · have h := fw_it h c35
      refine fw_iconst (v := 1) dX5_isGuilty_115 (by decide) ?_
      refine fw_goto (tgt := 120) dX5_isGuilty_116 (by decide) ?_
      exact fw_ireturn dX5_isGuilty_120 rfl (by decide +kernel) ⟨_, rfl, h⟩
  · have h := fw_it h c9
    refine fw_iload_n dX5_isGuilty_16 rfl rfl ?_
    refine fw_if_ne (tgt := 32) dX5_isGuilty_17 (by decide) (fun c36 => ?_) (fun c36 => ?_)
    · have h := fw_if h c36
      refine fw_iload_n dX5_isGuilty_32 rfl rfl ?_
      refine fw_if_le (tgt := 40) dX5_isGuilty_33 (by decide) (fun c37 => ?_) (fun c37 => ?_)
      · have h := fw_it h c37
        refine fw_iconst (v := 0) dX5_isGuilty_40 (by decide) ?_
        exact fw_ireturn dX5_isGuilty_41 rfl (by decide +kernel) ⟨_, rfl, h⟩
      · have h := fw_if h c37
        refine fw_iconst (v := 1) dX5_isGuilty_36 (by decide) ?_
        refine fw_goto (tgt := 41) dX5_isGuilty_37 (by decide) ?_
        exact fw_ireturn dX5_isGuilty_41 rfl (by decide +kernel) ⟨_, rfl, h⟩
    · have h := fw_it h c36
      refine fw_iload_n dX5_isGuilty_20 rfl rfl ?_
      refine fw_if_ge (tgt := 28) dX5_isGuilty_21 (by decide) (fun c38 => ?_) (fun c38 => ?_)
      · have h := fw_it h c38
        refine fw_iconst (v := 0) dX5_isGuilty_28 (by decide) ?_
        refine fw_goto (tgt := 41) dX5_isGuilty_29 (by decide) ?_
        exact fw_ireturn dX5_isGuilty_41 rfl (by decide +kernel) ⟨_, rfl, h⟩
      · have h := fw_if h c38
        refine fw_iconst (v := 1) dX5_isGuilty_24 (by decide) ?_
        refine fw_goto (tgt := 41) dX5_isGuilty_25 (by decide) ?_
        exact fw_ireturn dX5_isGuilty_41 rfl (by decide +kernel) ⟨_, rfl, h⟩
abbrev K_X5_judge : fw_Kt := (RX5, "judge", cX5_judge, 4, some .int, [])
def p_X5_judge_L39 (r0 : Nat) (i1 : Int32) (is0 : Int32) (μ : fw_M) (Q : Int32 → fw_M → Prop) : Prop :=
  (p_X5_keepsStep r0 μ (fun μ2 =>
  (m_K μ2 (m_P μ2 r0 0) = 100 ∧ (vp_in (373 : Int32) (m_N μ2 (m_P μ2 r0 0)) ∧ (∀ i3_7 : Int32, i3_7 = ((374 : Int32) + ((3 : Int32) * (m_I μ2 (m_P μ2 r0 0) (373 : Int32).toNatClampNeg))) →
  (vp_in i3_7 (m_N μ2 (m_P μ2 r0 0)) ∧ (∀ μ10, μ10 = m_uI μ2 (m_P μ2 r0 0) i3_7.toNatClampNeg i1 →
  (p_X5_tilt r0 μ10 (fun v11 μ12 =>
  (m_K μ12 (m_P μ10 r0 0) = 100 ∧ (vp_in (i3_7 + (1 : Int32)) (m_N μ12 (m_P μ10 r0 0)) ∧ (∀ μ17, μ17 = m_uI μ12 (m_P μ10 r0 0) (i3_7 + (1 : Int32)).toNatClampNeg v11 →
  (m_K μ17 (m_P μ17 r0 0) = 100 ∧ (vp_in (i3_7 + (2 : Int32)) (m_N μ17 (m_P μ17 r0 0)) ∧ (∀ μ20, μ20 = m_uI μ17 (m_P μ17 r0 0) (i3_7 + (2 : Int32)).toNatClampNeg is0 →
  (m_K μ20 (m_P μ20 r0 0) = 100 ∧ (vp_in (373 : Int32) (m_N μ20 (m_P μ20 r0 0)) ∧ (vp_in (373 : Int32) (m_N μ20 (m_P μ20 r0 0)) ∧ (∀ μ24, μ24 = m_uI μ20 (m_P μ20 r0 0) (373 : Int32).toNatClampNeg ((m_I μ20 (m_P μ20 r0 0) (373 : Int32).toNatClampNeg) + (1 : Int32)) →
  Q is0 μ24)))))))))))))))))))
set_option maxHeartbeats 4000000 in
theorem w_X5_judge_L39 {g : fw_G} {f bc bs : Nat} {r0 : Nat} {i1 : Int32} {is0 : Int32} {μ : fw_M} {Q : Int32 → fw_M → Prop} (hf : 5 ≤ f) (hx : m_K μ r0 = 6) (h : p_X5_judge_L39 r0 i1 is0 μ Q) : fw_V g K_X5_judge f bc bs 39 [(0, fw_rv g r0), (1, Value.int i1)] [Value.int is0] μ (fw_Qi Q) fw_nX := by
  unfold p_X5_judge_L39 at h
  refine fw_istore_nN (Ls' := [(2, Value.int is0), (1, Value.int i1), (0, fw_rv g r0)]) [0] dX5_judge_39 rfl (by decide) rfl rfl rfl rfl rfl ?_
  refine fw_aload_n dX5_judge_40 rfl rfl ?_
  refine fw_callV0z (f1 := f - 1) cl_X5_346 rfl hx (by decide) (by omega) (fw_s4 (Nat.le_of_ble_eq_true rfl)) dX5_judge_41 (w_X5_keepsStep (f := f - 1) (by omega) hx h) (fun _ _ h9 _ _ => h9.elim) (fun v9 μ2 q9 hs3 => ?_)
  obtain ⟨rfl, h⟩ := q9
  refine fw_tv ?_
  have hg4 := hs3.K hx (by decide)
  refine fw_sipush (v := 374) dX5_judge_44 (by decide) ?_
  refine fw_iconst (v := 3) dX5_judge_47 (by decide) ?_
  refine fw_aload_n dX5_judge_48 rfl rfl ?_
  refine fw_getfP fl_X5_7 rfl hg4 dX5_judge_49 ?_
  refine fw_sipush (v := 373) dX5_judge_52 (by decide) ?_
  obtain ⟨hg5, h⟩ := h
  obtain ⟨hc6, h⟩ := h
  refine fw_iald hg5 hc6 dX5_judge_55 ?_
  refine fw_imul dX5_judge_56 ?_
  refine fw_iadd dX5_judge_57 ?_
  refine fw_topi (fun i3_7 e8 => ?_)
  have h := h i3_7 e8
  refine fw_istore_nN (Ls' := [(3, Value.int i3_7), (2, Value.int is0), (1, Value.int i1), (0, fw_rv g r0)]) [1, 2] dX5_judge_58 rfl (by decide) rfl rfl rfl rfl rfl ?_
  refine fw_aload_n dX5_judge_59 rfl rfl ?_
  refine fw_getfP fl_X5_7 rfl hg4 dX5_judge_60 ?_
  refine fw_iload_n dX5_judge_63 rfl rfl ?_
  refine fw_iload_n dX5_judge_64 rfl rfl ?_
  obtain ⟨hc9, h⟩ := h
  refine fw_iast hg5 hc9 dX5_judge_65 ?_
  have h := h _ rfl
  refine fw_aload_n dX5_judge_66 rfl rfl ?_
  refine fw_getfP fl_X5_7 rfl hg4 dX5_judge_67 ?_
  refine fw_iload_n dX5_judge_70 rfl rfl ?_
  refine fw_iconst (v := 1) dX5_judge_71 (by decide) ?_
  refine fw_iadd dX5_judge_72 ?_
  refine fw_aload_n dX5_judge_73 rfl rfl ?_
  refine fw_callV0z (f1 := f - 1) cl_X5_340 rfl hg4 (by decide) (by omega) (fw_s4 (Nat.le_of_ble_eq_true rfl)) dX5_judge_74 (w_X5_tilt (f := f - 1) (by omega) hg4 h) (fun _ _ h9 _ _ => h9.elim) (fun v9 μ12 q9 hs13 => ?_)
  obtain ⟨v11, rfl, h⟩ := q9
  refine fw_ti ?_
  have hg14 := hs13.K hg4 (by decide)
  obtain ⟨hg15, h⟩ := h
  obtain ⟨hc16, h⟩ := h
  refine fw_iast hg15 hc16 dX5_judge_77 ?_
  have h := h _ rfl
  refine fw_aload_n dX5_judge_78 rfl rfl ?_
  refine fw_getfP fl_X5_7 rfl hg14 dX5_judge_79 ?_
  refine fw_iload_n dX5_judge_82 rfl rfl ?_
  refine fw_iconst (v := 2) dX5_judge_83 (by decide) ?_
  refine fw_iadd dX5_judge_84 ?_
  refine fw_iload_n dX5_judge_85 rfl rfl ?_
  obtain ⟨hg18, h⟩ := h
  obtain ⟨hc19, h⟩ := h
  refine fw_iast hg18 hc19 dX5_judge_86 ?_
  have h := h _ rfl
  refine fw_aload_n dX5_judge_87 rfl rfl ?_
  refine fw_getfP fl_X5_7 rfl hg14 dX5_judge_88 ?_
  refine fw_sipush (v := 373) dX5_judge_91 (by decide) ?_
  refine fw_dup2 dX5_judge_94 rfl (fw_cat _) ?_
  obtain ⟨hg21, h⟩ := h
  obtain ⟨hc22, h⟩ := h
  refine fw_iald hg21 hc22 dX5_judge_95 ?_
  refine fw_iconst (v := 1) dX5_judge_96 (by decide) ?_
  refine fw_iadd dX5_judge_97 ?_
  obtain ⟨hc23, h⟩ := h
  refine fw_iast hg21 hc23 dX5_judge_98 ?_
  have h := h _ rfl
  refine fw_iload_n dX5_judge_99 rfl rfl ?_
  exact fw_ireturn dX5_judge_100 rfl rfl ⟨_, rfl, h⟩
def p_X5_judge (r0 : Nat) (i1 : Int32) (μ : fw_M) (Q : Int32 → fw_M → Prop) : Prop :=
  (p_X5_isOne i1 μ (fun v1 μ2 =>
  (if v1 = 0 then
  (Q (-1 : Int32) μ2)
  else
  ((m_K μ2 (m_P μ2 r0 0) = 100 ∧ (vp_in (373 : Int32) (m_N μ2 (m_P μ2 r0 0)) ∧ (if (m_I μ2 (m_P μ2 r0 0) (373 : Int32).toNatClampNeg) = (30 : Int32) then
   (Q (-1 : Int32) μ2)
   else
   ((p_X5_laysWorld r0 μ2 (fun μ10 =>
    (p_X5_isGuilty r0 i1 μ10 (fun v13 μ14 =>
    (if v13 = 0 then
    (p_X5_judge_L39 r0 i1 (0 : Int32) μ14 Q)
    else
    (p_X5_judge_L39 r0 i1 (1 : Int32) μ14 Q))))))))))))))
set_option maxHeartbeats 4000000 in
theorem w_X5_judge {g : fw_G} {f bc bs : Nat} {r0 : Nat} {i1 : Int32} {μ : fw_M} {Q : Int32 → fw_M → Prop} (hf : 5 ≤ f) (hx : m_K μ r0 = 6) (h : p_X5_judge r0 i1 μ Q) : fw_C g f bc bs yX5_judge (ws_ yX5_judge cX5_judge 4 (some .int)) [fw_rv g r0, Value.int i1] μ (fw_Qi Q) fw_nX := by
  unfold p_X5_judge at h
  refine fw_intro' (Ls := [(0, fw_rv g r0), (1, Value.int i1)]) (by decide +kernel) (by simp [lg_sl, fw_cat, fw_ci, fw_clo]) (by simp [lv_args, fw_cat, fw_ci, fw_clo]) ?_
  show fw_V g K_X5_judge f bc bs 0 [(0, fw_rv g r0), (1, Value.int i1)] [] μ (fw_Qi Q) fw_nX
  refine fw_iload_n dX5_judge_0 rfl rfl ?_
  refine fw_callS1z (f1 := f - 1) cl_X5_114 (by decide) (by omega) (fw_s4 (Nat.le_of_ble_eq_true rfl)) dX5_judge_1 (w_X5_isOne (f := f - 1) (by omega) h) (fun _ _ h9 _ _ => h9.elim) (fun v9 μ2 q9 hs3 => ?_)
  obtain ⟨v1, rfl, h⟩ := q9
  refine fw_ti ?_
  have hg4 := hs3.K hx (by decide)
  refine fw_if_eq (tgt := 20) dX5_judge_4 (by decide) (fun c5 => ?_) (fun c5 => ?_)
  · have h := fw_it h c5
    refine fw_iconst (v := -1) dX5_judge_20 (by decide) ?_
    exact fw_ireturn dX5_judge_21 rfl rfl ⟨_, rfl, h⟩
  · have h := fw_if h c5
    refine fw_aload_n dX5_judge_7 rfl rfl ?_
    refine fw_getfP fl_X5_7 rfl hg4 dX5_judge_8 ?_
    refine fw_sipush (v := 373) dX5_judge_11 (by decide) ?_
    obtain ⟨hg6, h⟩ := h
    obtain ⟨hc7, h⟩ := h
    refine fw_iald hg6 hc7 dX5_judge_14 ?_
    refine fw_bipush (v := 30) dX5_judge_15 (by decide) ?_
    refine fw_icmp_ne (tgt := 22) dX5_judge_17 (by decide) (fun c8 => ?_) (fun c8 => ?_)
    · have h := fw_if h c8
      refine fw_aload_n dX5_judge_22 rfl rfl ?_
      refine fw_callV0z (f1 := f - 1) cl_X5_349 rfl hg4 (by decide) (by omega) (fw_s4 (Nat.le_of_ble_eq_true rfl)) dX5_judge_23 (w_X5_laysWorld (f := f - 1) (by omega) hg4 h) (fun _ _ h9 _ _ => h9.elim) (fun v9 μ10 q9 hs11 => ?_)
      obtain ⟨rfl, h⟩ := q9
      refine fw_tv ?_
      have hg12 := hs11.K hg4 (by decide)
      refine fw_aload_n dX5_judge_26 rfl rfl ?_
      refine fw_iload_n dX5_judge_27 rfl rfl ?_
      refine fw_callV1z (f1 := f - 1) cl_X5_352 rfl hg12 (by decide) (by omega) (fw_s4 (Nat.le_of_ble_eq_true rfl)) dX5_judge_28 (w_X5_isGuilty (f := f - 1) (by omega) hg12 h) (fun _ _ h9 _ _ => h9.elim) (fun v9 μ14 q9 hs15 => ?_)
      obtain ⟨v13, rfl, h⟩ := q9
      refine fw_ti ?_
      have hg16 := hs15.K hg12 (by decide)
      refine fw_if_eq (tgt := 38) dX5_judge_31 (by decide) (fun c17 => ?_) (fun c17 => ?_)
      · have h := fw_it h c17
        refine fw_iconst (v := 0) dX5_judge_38 (by decide) ?_
        exact w_X5_judge_L39 hf hg16 h
      · have h := fw_if h c17
        refine fw_iconst (v := 1) dX5_judge_34 (by decide) ?_
        refine fw_goto (tgt := 39) dX5_judge_35 (by decide) ?_
        exact w_X5_judge_L39 hf hg16 h
    · have h := fw_it h c8
      refine fw_iconst (v := -1) dX5_judge_20 (by decide) ?_
      exact fw_ireturn dX5_judge_21 rfl rfl ⟨_, rfl, h⟩
abbrev K_X5_draw : fw_Kt := (RX5, "draw", cX5_draw, 3, some .int, [])
def p_X5_draw (r0 : Nat) (i1 : Int32) (μ : fw_M) (Q : Int32 → fw_M → Prop) : Prop :=
  (m_K μ (m_P μ r0 0) = 100 ∧ (vp_in (464 : Int32) (m_N μ (m_P μ r0 0)) ∧ (¬ i1 = 0 ∧ (∀ i2_4 : Int32, i2_4 = ((m_I μ (m_P μ r0 0) (464 : Int32).toNatClampNeg) - (m_I μ (m_P μ r0 0) (464 : Int32).toNatClampNeg) / i1 * i1) →
  (vp_in (464 : Int32) (m_N μ (m_P μ r0 0)) ∧ (vp_in (464 : Int32) (m_N μ (m_P μ r0 0)) ∧ (∀ μ8, μ8 = m_uI μ (m_P μ r0 0) (464 : Int32).toNatClampNeg ((((m_I μ (m_P μ r0 0) (464 : Int32).toNatClampNeg) * (181 : Int32)) + (101 : Int32)) - (((m_I μ (m_P μ r0 0) (464 : Int32).toNatClampNeg) * (181 : Int32)) + (101 : Int32)) / (30029 : Int32) * (30029 : Int32)) →
  Q i2_4 μ8)))))))
set_option maxHeartbeats 4000000 in
theorem w_X5_draw {g : fw_G} {f bc bs : Nat} {r0 : Nat} {i1 : Int32} {μ : fw_M} {Q : Int32 → fw_M → Prop} (hf : 1 ≤ f) (hx : m_K μ r0 = 6) (h : p_X5_draw r0 i1 μ Q) : fw_C g f bc bs yX5_draw (ws_ yX5_draw cX5_draw 3 (some .int)) [fw_rv g r0, Value.int i1] μ (fw_Qi Q) fw_nX := by
  unfold p_X5_draw at h
  refine fw_intro' (Ls := [(0, fw_rv g r0), (1, Value.int i1)]) (by decide +kernel) (by simp [lg_sl, fw_cat, fw_ci, fw_clo]) (by simp [lv_args, fw_cat, fw_ci, fw_clo]) ?_
  show fw_V g K_X5_draw f bc bs 0 [(0, fw_rv g r0), (1, Value.int i1)] [] μ (fw_Qi Q) fw_nX
  refine fw_aload_n dX5_draw_0 rfl rfl ?_
  refine fw_getfP fl_X5_7 rfl hx dX5_draw_1 ?_
  refine fw_sipush (v := 464) dX5_draw_4 (by decide) ?_
  obtain ⟨hg1, h⟩ := h
  obtain ⟨hc2, h⟩ := h
  refine fw_iald hg1 hc2 dX5_draw_7 ?_
  refine fw_iload_n dX5_draw_8 rfl rfl ?_
  obtain ⟨hc3, h⟩ := h
  refine fw_irem dX5_draw_9 hc3 ?_
  refine fw_topi (fun i2_4 e5 => ?_)
  have h := h i2_4 e5
  refine fw_istore_nN (Ls' := [(2, Value.int i2_4), (1, Value.int i1), (0, fw_rv g r0)]) [0] dX5_draw_10 rfl (by decide) rfl rfl rfl rfl rfl ?_
  refine fw_aload_n dX5_draw_11 rfl rfl ?_
  refine fw_getfP fl_X5_7 rfl hx dX5_draw_12 ?_
  refine fw_sipush (v := 464) dX5_draw_15 (by decide) ?_
  refine fw_aload_n dX5_draw_18 rfl rfl ?_
  refine fw_getfP fl_X5_7 rfl hx dX5_draw_19 ?_
  refine fw_sipush (v := 464) dX5_draw_22 (by decide) ?_
  obtain ⟨hc6, h⟩ := h
  refine fw_iald hg1 hc6 dX5_draw_25 ?_
  refine fw_sipush (v := 181) dX5_draw_26 (by decide) ?_
  refine fw_imul dX5_draw_29 ?_
  refine fw_bipush (v := 101) dX5_draw_30 (by decide) ?_
  refine fw_iadd dX5_draw_32 ?_
  refine fw_sipush (v := 30029) dX5_draw_33 (by decide) ?_
  refine fw_irem dX5_draw_36 (by decide) ?_
  obtain ⟨hc7, h⟩ := h
  refine fw_iast hg1 hc7 dX5_draw_37 ?_
  have h := h _ rfl
  refine fw_iload_n dX5_draw_38 rfl rfl ?_
  exact fw_ireturn dX5_draw_39 rfl rfl ⟨_, rfl, h⟩
abbrev K_X5_flies : fw_Kt := (RX5, "flies", cX5_flies, 5, some .int, [])
def p_X5_flies_L20b (r0 : Nat) (i1 : Int32) (k20 : Int32 → Int32 → fw_M → Prop) (i2 : Int32) (i3 : Int32) (μ : fw_M) (Q : Int32 → fw_M → Prop) : Prop :=
  (if i1 ≤ i3 then
  (Q i2 μ)
  else
  ((p_X5_draw r0 (4 : Int32) μ (fun v2 μ3 =>
   (m_K μ3 (m_P μ3 r0 0) = 100 ∧ (vp_in ((110 : Int32) + v2) (m_N μ3 (m_P μ3 r0 0)) ∧ (if (m_I μ3 (m_P μ3 r0 0) ((110 : Int32) + v2).toNatClampNeg) ≤ 0 then
   ((∀ i3_9 : Int32, i3_9 = i3 + (1 : Int32) →
    k20 i2 i3_9 μ3))
   else
   ((vp_in ((110 : Int32) + v2) (m_N μ3 (m_P μ3 r0 0)) ∧ (vp_in ((110 : Int32) + v2) (m_N μ3 (m_P μ3 r0 0)) ∧ (∀ μ13, μ13 = m_uI μ3 (m_P μ3 r0 0) ((110 : Int32) + v2).toNatClampNeg ((m_I μ3 (m_P μ3 r0 0) ((110 : Int32) + v2).toNatClampNeg) - (1 : Int32)) →
    (∀ i2_14 : Int32, i2_14 = i2 + (1 : Int32) →
    (∀ i3_16 : Int32, i3_16 = i3 + (1 : Int32) →
    k20 i2_14 i3_16 μ13)))))))))))))
def p_X5_flies_L20 (r0 : Nat) (i1 : Int32) (i2 : Int32) (i3 : Int32) (μ : fw_M) (Q : Int32 → fw_M → Prop) : Prop := fw_lp (fun (k : Int32 × Int32 × fw_M → Prop) (a : Int32 × Int32 × fw_M) => p_X5_flies_L20b r0 i1 (fun i2 i3 μ => k (i2, i3, μ)) a.1 a.2.1 a.2.2 Q) (i2, i3, μ)
theorem r_X5_flies_L20 {r0 : Nat} {i1 : Int32} {Q : Int32 → fw_M → Prop} (I : Int32 → Int32 → fw_M → Prop) (v : Int32 → Int32 → fw_M → Nat) (hs : ∀ (k : Int32 → Int32 → fw_M → Prop) (i2 : Int32) (i3 : Int32) (μ : fw_M), I i2 i3 μ → (∀ (i2' : Int32) (i3' : Int32) (ν : fw_M), I i2' i3' ν → v i2' i3' ν < v i2 i3 μ → k i2' i3' ν) → p_X5_flies_L20b r0 i1 k i2 i3 μ Q) (i2 : Int32) (i3 : Int32) (μ : fw_M) (h : I i2 i3 μ) : p_X5_flies_L20 r0 i1 i2 i3 μ Q :=
  fw_lp_in (A := Int32 × Int32 × fw_M) (fun a => I a.1 a.2.1 a.2.2) (fun a => v a.1 a.2.1 a.2.2) (fun k a ha hk => hs (fun i2 i3 μ => k (i2, i3, μ)) a.1 a.2.1 a.2.2 ha (fun i2' i3' ν hb hlt => hk (i2', i3', ν) hb hlt)) (i2, i3, μ) h
set_option maxHeartbeats 4000000 in
theorem w_X5_flies_L20b {g : fw_G} {f bc bs : Nat} {r0 : Nat} {i1 : Int32} {k20 : Int32 → Int32 → fw_M → Prop} {i2 : Int32} {i3 : Int32} {μ : fw_M} {Q : Int32 → fw_M → Prop} (hf : 2 ≤ f) (hk20 : ∀ {i2 : Int32} {i3 : Int32} {μ : fw_M}, m_K μ r0 = 6 → k20 i2 i3 μ → fw_V g K_X5_flies f bc bs 20 [(0, fw_rv g r0), (1, Value.int i1), (2, Value.int i2), (3, Value.int i3)] [] μ (fw_Qi Q) fw_nX) (hx : m_K μ r0 = 6) (h : p_X5_flies_L20b r0 i1 k20 i2 i3 μ Q) : fw_V g K_X5_flies f bc bs 20 [(0, fw_rv g r0), (1, Value.int i1), (2, Value.int i2), (3, Value.int i3)] [] μ (fw_Qi Q) fw_nX := by
  unfold p_X5_flies_L20b at h
  refine fw_iload_n dX5_flies_20 rfl rfl ?_
  refine fw_iload_n dX5_flies_21 rfl rfl ?_
  refine fw_icmp_ge (tgt := 68) dX5_flies_22 (by decide) (fun c1 => ?_) (fun c1 => ?_)
  · have h := fw_it h c1
    refine fw_iload_n dX5_flies_68 rfl rfl ?_
    exact fw_ireturn dX5_flies_69 rfl rfl ⟨_, rfl, h⟩
  · have h := fw_if h c1
    refine fw_aload_n dX5_flies_25 rfl rfl ?_
    refine fw_iconst (v := 4) dX5_flies_26 (by decide) ?_
    refine fw_callV1z (f1 := f - 1) cl_X5_355 rfl hx (by decide) (by omega) (fw_s4 (Nat.le_of_ble_eq_true rfl)) dX5_flies_27 (w_X5_draw (f := f - 1) (by omega) hx h) (fun _ _ h9 _ _ => h9.elim) (fun v9 μ3 q9 hs4 => ?_)
    obtain ⟨v2, rfl, h⟩ := q9
    refine fw_ti ?_
    have hg5 := hs4.K hx (by decide)
    refine fw_istoreN (Ls' := [(4, Value.int v2), (3, Value.int i3), (0, fw_rv g r0), (1, Value.int i1), (2, Value.int i2)]) [0, 1, 2] dX5_flies_30 (by decide) rfl rfl rfl rfl rfl ?_
    refine fw_aload_n dX5_flies_32 rfl rfl ?_
    refine fw_getfP fl_X5_7 rfl hg5 dX5_flies_33 ?_
    refine fw_bipush (v := 110) dX5_flies_36 (by decide) ?_
    refine fw_iload dX5_flies_38 rfl ?_
    refine fw_iadd dX5_flies_40 ?_
    obtain ⟨hg6, h⟩ := h
    obtain ⟨hc7, h⟩ := h
    refine fw_iald hg6 hc7 dX5_flies_41 ?_
    refine fw_if_le (tgt := 62) dX5_flies_42 (by decide) (fun c8 => ?_) (fun c8 => ?_)
    · have h := fw_it h c8
      obtain ⟨i3_9, e10⟩ : ∃ y : Int32, y = i3 + (1 : Int32) := ⟨_, rfl⟩
      have h := h i3_9 e10
      refine fw_iincN (k := 1) (v := i3_9) (Ls' := [(3, Value.int i3_9), (2, Value.int i2), (4, Value.int v2), (0, fw_rv g r0), (1, Value.int i1)]) [0, 2, 3] dX5_flies_62 rfl (by rw [e10]; rfl) (by decide) rfl rfl rfl rfl rfl ?_
      refine fw_goto (tgt := 20) dX5_flies_65 (by decide) ?_
      refine fw_ls [3, 4, 1, 0] rfl ?_
      exact hk20 hg5 h
    · have h := fw_if h c8
      refine fw_aload_n dX5_flies_45 rfl rfl ?_
      refine fw_getfP fl_X5_7 rfl hg5 dX5_flies_46 ?_
      refine fw_bipush (v := 110) dX5_flies_49 (by decide) ?_
      refine fw_iload dX5_flies_51 rfl ?_
      refine fw_iadd dX5_flies_53 ?_
      refine fw_dup2 dX5_flies_54 rfl (fw_cat _) ?_
      obtain ⟨hc11, h⟩ := h
      refine fw_iald hg6 hc11 dX5_flies_55 ?_
      refine fw_iconst (v := 1) dX5_flies_56 (by decide) ?_
      refine fw_isub dX5_flies_57 ?_
      obtain ⟨hc12, h⟩ := h
      refine fw_iast hg6 hc12 dX5_flies_58 ?_
      have h := h _ rfl
      obtain ⟨i2_14, e15⟩ : ∃ y : Int32, y = i2 + (1 : Int32) := ⟨_, rfl⟩
      have h := h i2_14 e15
      refine fw_iincN (k := 4) (v := i2_14) (Ls' := [(2, Value.int i2_14), (1, Value.int i1), (4, Value.int v2), (3, Value.int i3), (0, fw_rv g r0)]) [0, 1, 2] dX5_flies_59 rfl (by rw [e15]; rfl) (by decide) rfl rfl rfl rfl rfl ?_
      obtain ⟨i3_16, e17⟩ : ∃ y : Int32, y = i3 + (1 : Int32) := ⟨_, rfl⟩
      have h := h i3_16 e17
      refine fw_iincN (k := 3) (v := i3_16) (Ls' := [(3, Value.int i3_16), (2, Value.int i2_14), (1, Value.int i1), (4, Value.int v2), (0, fw_rv g r0)]) [1, 2, 4] dX5_flies_62 rfl (by rw [e17]; rfl) (by decide) rfl rfl rfl rfl rfl ?_
      refine fw_goto (tgt := 20) dX5_flies_65 (by decide) ?_
      refine fw_ls [4, 2, 1, 0] rfl ?_
      exact hk20 hg5 h
theorem w_X5_flies_L20 {g : fw_G} {f bc bs : Nat} {r0 : Nat} {i1 : Int32} {i2 : Int32} {i3 : Int32} {μ : fw_M} {Q : Int32 → fw_M → Prop} (hf : 2 ≤ f) (hx : m_K μ r0 = 6) (h : p_X5_flies_L20 r0 i1 i2 i3 μ Q) : fw_V g K_X5_flies f bc bs 20 [(0, fw_rv g r0), (1, Value.int i1), (2, Value.int i2), (3, Value.int i3)] [] μ (fw_Qi Q) fw_nX := by
  have key := fw_lp_out (R := fun (a : Int32 × Int32 × fw_M) => m_K a.2.2 r0 = 6 → fw_V g K_X5_flies f bc bs 20 [(0, fw_rv g r0), (1, Value.int i1), (2, Value.int a.1), (3, Value.int a.2.1)] [] a.2.2 (fw_Qi Q) fw_nX) (fun k hk9 a ha hx2 => w_X5_flies_L20b hf (fun {i2 i3} {μ} hx3 h3 => hk9 (i2, i3, μ) h3 hx3) hx2 ha) h
  exact key hx
def p_X5_flies (r0 : Nat) (i1 : Int32) (μ : fw_M) (Q : Int32 → fw_M → Prop) : Prop :=
  (p_X5_in i1 (1 : Int32) (40 : Int32) μ (fun v1 μ2 =>
  (if v1 = 0 then
  (Q (-1 : Int32) μ2)
  else
  ((p_X5_keepsStep r0 μ2 (fun μ7 =>
   p_X5_flies_L20 r0 i1 (0 : Int32) (0 : Int32) μ7 Q))))))
set_option maxHeartbeats 4000000 in
theorem w_X5_flies {g : fw_G} {f bc bs : Nat} {r0 : Nat} {i1 : Int32} {μ : fw_M} {Q : Int32 → fw_M → Prop} (hf : 2 ≤ f) (hx : m_K μ r0 = 6) (h : p_X5_flies r0 i1 μ Q) : fw_C g f bc bs yX5_flies (ws_ yX5_flies cX5_flies 5 (some .int)) [fw_rv g r0, Value.int i1] μ (fw_Qi Q) fw_nX := by
  unfold p_X5_flies at h
  refine fw_intro' (Ls := [(0, fw_rv g r0), (1, Value.int i1)]) (by decide +kernel) (by simp [lg_sl, fw_cat, fw_ci, fw_clo]) (by simp [lv_args, fw_cat, fw_ci, fw_clo]) ?_
  show fw_V g K_X5_flies f bc bs 0 [(0, fw_rv g r0), (1, Value.int i1)] [] μ (fw_Qi Q) fw_nX
  refine fw_iload_n dX5_flies_0 rfl rfl ?_
  refine fw_iconst (v := 1) dX5_flies_1 (by decide) ?_
  refine fw_bipush (v := 40) dX5_flies_2 (by decide) ?_
  refine fw_callS3z (f1 := f - 1) cl_X5_110 (by decide) (by omega) (fw_s4 (Nat.le_of_ble_eq_true rfl)) dX5_flies_4 (w_X5_in (f := f - 1) (by omega) h) (fun _ _ h9 _ _ => h9.elim) (fun v9 μ2 q9 hs3 => ?_)
  obtain ⟨v1, rfl, h⟩ := q9
  refine fw_ti ?_
  have hg4 := hs3.K hx (by decide)
  refine fw_if_ne (tgt := 12) dX5_flies_7 (by decide) (fun c5 => ?_) (fun c5 => ?_)
  · have h := fw_if h c5
    refine fw_aload_n dX5_flies_12 rfl rfl ?_
    refine fw_callV0z (f1 := f - 1) cl_X5_346 rfl hg4 (by decide) (by omega) (fw_s4 (Nat.le_of_ble_eq_true rfl)) dX5_flies_13 (w_X5_keepsStep (f := f - 1) (by omega) hg4 h) (fun _ _ h9 _ _ => h9.elim) (fun v9 μ7 q9 hs8 => ?_)
    obtain ⟨rfl, h⟩ := q9
    refine fw_tv ?_
    have hg9 := hs8.K hg4 (by decide)
    refine fw_iconst (v := 0) dX5_flies_16 (by decide) ?_
    refine fw_istore_nN (Ls' := [(2, Value.int (0 : Int32)), (1, Value.int i1), (0, fw_rv g r0)]) [0] dX5_flies_17 rfl (by decide) rfl rfl rfl rfl rfl ?_
    refine fw_iconst (v := 0) dX5_flies_18 (by decide) ?_
    refine fw_istore_nN (Ls' := [(3, Value.int (0 : Int32)), (2, Value.int (0 : Int32)), (1, Value.int i1), (0, fw_rv g r0)]) [1, 2] dX5_flies_19 rfl (by decide) rfl rfl rfl rfl rfl ?_
    refine fw_ls [3, 2, 1, 0] rfl ?_
    exact w_X5_flies_L20 hf hg9 h
  · have h := fw_it h c5
    refine fw_iconst (v := -1) dX5_flies_10 (by decide) ?_
    exact fw_ireturn dX5_flies_11 rfl rfl ⟨_, rfl, h⟩
abbrev K_X5_played : fw_Kt := (RX5, "played", cX5_played, 5, some .int, [])
def p_X5_played_L175 (k21 : Int32 → fw_M → Prop) (r0 : Nat) (i1 : Int32) (i2 : Int32) (i4 : Int32) (μ : fw_M) (Q : Int32 → fw_M → Prop) : Prop :=
  (if i4 = 0 then
  (Q i2 μ)
  else
  ((∀ i2_2 : Int32, i2_2 = i2 + (1 : Int32) →
   k21 i2_2 μ)))
set_option maxHeartbeats 4000000 in
theorem w_X5_played_L175 {g : fw_G} {f bc bs : Nat} {k21 : Int32 → fw_M → Prop} {r0 : Nat} {i1 : Int32} {i2 : Int32} {i4 : Int32} {μ : fw_M} {Q : Int32 → fw_M → Prop} (hf : 7 ≤ f) (hk21 : ∀ {i2 : Int32} {μ : fw_M}, m_K μ r0 = 6 → k21 i2 μ → fw_V g K_X5_played f bc bs 21 [(0, fw_rv g r0), (1, Value.int i1), (2, Value.int i2)] [] μ (fw_Qi Q) fw_nX) (hx : m_K μ r0 = 6) (h : p_X5_played_L175 k21 r0 i1 i2 i4 μ Q) : fw_V g K_X5_played f bc bs 175 [(0, fw_rv g r0), (1, Value.int i1), (2, Value.int i2), (4, Value.int i4)] [] μ (fw_Qi Q) fw_nX := by
  unfold p_X5_played_L175 at h
  refine fw_iload dX5_played_175 rfl ?_
  refine fw_if_ne (tgt := 182) dX5_played_177 (by decide) (fun c1 => ?_) (fun c1 => ?_)
  · have h := fw_if h c1
    obtain ⟨i2_2, e3⟩ : ∃ y : Int32, y = i2 + (1 : Int32) := ⟨_, rfl⟩
    have h := h i2_2 e3
    refine fw_iincN (k := 2) (v := i2_2) (Ls' := [(2, Value.int i2_2), (1, Value.int i1), (0, fw_rv g r0), (4, Value.int i4)]) [0, 3] dX5_played_182 rfl (by rw [e3]; rfl) (by decide) rfl rfl rfl rfl rfl ?_
    refine fw_goto (tgt := 21) dX5_played_185 (by decide) ?_
    refine fw_ls [2, 1, 0] rfl ?_
    exact hk21 hx h
  · have h := fw_it h c1
    refine fw_iload_n dX5_played_180 rfl rfl ?_
    exact fw_ireturn dX5_played_181 rfl rfl ⟨_, rfl, h⟩
def p_X5_played_L122 (k21 : Int32 → fw_M → Prop) (r0 : Nat) (i1 : Int32) (i2 : Int32) (is0 : Int32) (μ : fw_M) (Q : Int32 → fw_M → Prop) : Prop :=
  p_X5_played_L175 k21 r0 i1 i2 is0 μ Q
set_option maxHeartbeats 4000000 in
theorem w_X5_played_L122 {g : fw_G} {f bc bs : Nat} {k21 : Int32 → fw_M → Prop} {r0 : Nat} {i1 : Int32} {i2 : Int32} {is0 : Int32} {μ : fw_M} {Q : Int32 → fw_M → Prop} (hf : 7 ≤ f) (hk21 : ∀ {i2 : Int32} {μ : fw_M}, m_K μ r0 = 6 → k21 i2 μ → fw_V g K_X5_played f bc bs 21 [(0, fw_rv g r0), (1, Value.int i1), (2, Value.int i2)] [] μ (fw_Qi Q) fw_nX) (hx : m_K μ r0 = 6) (h : p_X5_played_L122 k21 r0 i1 i2 is0 μ Q) : fw_V g K_X5_played f bc bs 122 [(0, fw_rv g r0), (1, Value.int i1), (2, Value.int i2)] [Value.int is0] μ (fw_Qi Q) fw_nX := by
  unfold p_X5_played_L122 at h
  refine fw_istore (Ls' := [(4, Value.int is0), (0, fw_rv g r0), (1, Value.int i1), (2, Value.int i2)]) [0, 1, 2] dX5_played_122 (by decide) rfl rfl ?_
  refine fw_goto (tgt := 175) dX5_played_124 (by decide) ?_
  refine fw_ls [1, 2, 3, 0] rfl ?_
  exact w_X5_played_L175 hf hk21 hx h
def p_X5_played_L146 (k21 : Int32 → fw_M → Prop) (r0 : Nat) (i1 : Int32) (i2 : Int32) (is0 : Int32) (μ : fw_M) (Q : Int32 → fw_M → Prop) : Prop :=
  p_X5_played_L175 k21 r0 i1 i2 is0 μ Q
set_option maxHeartbeats 4000000 in
theorem w_X5_played_L146 {g : fw_G} {f bc bs : Nat} {k21 : Int32 → fw_M → Prop} {r0 : Nat} {i1 : Int32} {i2 : Int32} {is0 : Int32} {μ : fw_M} {Q : Int32 → fw_M → Prop} (hf : 7 ≤ f) (hk21 : ∀ {i2 : Int32} {μ : fw_M}, m_K μ r0 = 6 → k21 i2 μ → fw_V g K_X5_played f bc bs 21 [(0, fw_rv g r0), (1, Value.int i1), (2, Value.int i2)] [] μ (fw_Qi Q) fw_nX) (hx : m_K μ r0 = 6) (h : p_X5_played_L146 k21 r0 i1 i2 is0 μ Q) : fw_V g K_X5_played f bc bs 146 [(0, fw_rv g r0), (1, Value.int i1), (2, Value.int i2)] [Value.int is0] μ (fw_Qi Q) fw_nX := by
  unfold p_X5_played_L146 at h
  refine fw_istore (Ls' := [(4, Value.int is0), (0, fw_rv g r0), (1, Value.int i1), (2, Value.int i2)]) [0, 1, 2] dX5_played_146 (by decide) rfl rfl ?_
  refine fw_goto (tgt := 175) dX5_played_148 (by decide) ?_
  refine fw_ls [1, 2, 3, 0] rfl ?_
  exact w_X5_played_L175 hf hk21 hx h
def p_X5_played_L170 (k21 : Int32 → fw_M → Prop) (r0 : Nat) (i1 : Int32) (i2 : Int32) (is0 : Int32) (μ : fw_M) (Q : Int32 → fw_M → Prop) : Prop :=
  p_X5_played_L175 k21 r0 i1 i2 is0 μ Q
set_option maxHeartbeats 4000000 in
theorem w_X5_played_L170 {g : fw_G} {f bc bs : Nat} {k21 : Int32 → fw_M → Prop} {r0 : Nat} {i1 : Int32} {i2 : Int32} {is0 : Int32} {μ : fw_M} {Q : Int32 → fw_M → Prop} (hf : 7 ≤ f) (hk21 : ∀ {i2 : Int32} {μ : fw_M}, m_K μ r0 = 6 → k21 i2 μ → fw_V g K_X5_played f bc bs 21 [(0, fw_rv g r0), (1, Value.int i1), (2, Value.int i2)] [] μ (fw_Qi Q) fw_nX) (hx : m_K μ r0 = 6) (h : p_X5_played_L170 k21 r0 i1 i2 is0 μ Q) : fw_V g K_X5_played f bc bs 170 [(0, fw_rv g r0), (1, Value.int i1), (2, Value.int i2)] [Value.int is0] μ (fw_Qi Q) fw_nX := by
  unfold p_X5_played_L170 at h
  refine fw_istore (Ls' := [(4, Value.int is0), (0, fw_rv g r0), (1, Value.int i1), (2, Value.int i2)]) [0, 1, 2] dX5_played_170 (by decide) rfl rfl ?_
  refine fw_goto (tgt := 175) dX5_played_172 (by decide) ?_
  refine fw_ls [1, 2, 3, 0] rfl ?_
  exact w_X5_played_L175 hf hk21 hx h
def p_X5_played_L21b (r0 : Nat) (i1 : Int32) (k21 : Int32 → fw_M → Prop) (i2 : Int32) (μ : fw_M) (Q : Int32 → fw_M → Prop) : Prop :=
  (m_K μ (m_P μ r0 6) = 100 ∧ (vp_in i1 (m_N μ (m_P μ r0 6)) ∧ (if (m_I μ (m_P μ r0 6) i1.toNatClampNeg) ≤ i2 then
  (Q (-1 : Int32) μ)
  else
  ((∀ i3_4 : Int32, i3_4 = (((24 : Int32) * i1) + i2) →
   (m_K μ (m_P μ r0 7) = 100 ∧ (vp_in i3_4 (m_N μ (m_P μ r0 7)) ∧ (if (m_I μ (m_P μ r0 7) i3_4.toNatClampNeg) = 3 then
   ((m_K μ (m_P μ r0 9) = 100 ∧ (vp_in i3_4 (m_N μ (m_P μ r0 9)) ∧ (m_K μ (m_P μ r0 10) = 100 ∧ (vp_in i3_4 (m_N μ (m_P μ r0 10)) ∧ (p_X5_sit r0 (m_I μ (m_P μ r0 9) i3_4.toNatClampNeg) (m_I μ (m_P μ r0 10) i3_4.toNatClampNeg) μ (fun v13 μ14 =>
    p_X5_played_L175 k21 r0 i1 i2 v13 μ14 Q)))))))
   else (if (m_I μ (m_P μ r0 7) i3_4.toNatClampNeg) = 4 then
   ((m_K μ (m_P μ r0 9) = 100 ∧ (vp_in i3_4 (m_N μ (m_P μ r0 9)) ∧ (m_K μ (m_P μ r0 10) = 100 ∧ (vp_in i3_4 (m_N μ (m_P μ r0 10)) ∧ (p_X5_spoon r0 (m_I μ (m_P μ r0 9) i3_4.toNatClampNeg) (m_I μ (m_P μ r0 10) i3_4.toNatClampNeg) μ (fun v22 μ23 =>
    (if v22 = (-1 : Int32) then
    (p_X5_played_L122 k21 r0 i1 i2 (0 : Int32) μ23 Q)
    else
    (p_X5_played_L122 k21 r0 i1 i2 (1 : Int32) μ23 Q)))))))))
   else (if (m_I μ (m_P μ r0 7) i3_4.toNatClampNeg) = 5 then
   ((m_K μ (m_P μ r0 9) = 100 ∧ (vp_in i3_4 (m_N μ (m_P μ r0 9)) ∧ (p_X5_judge r0 (m_I μ (m_P μ r0 9) i3_4.toNatClampNeg) μ (fun v30 μ31 =>
    (if v30 = (-1 : Int32) then
    (p_X5_played_L146 k21 r0 i1 i2 (0 : Int32) μ31 Q)
    else
    (p_X5_played_L146 k21 r0 i1 i2 (1 : Int32) μ31 Q)))))))
   else (if (m_I μ (m_P μ r0 7) i3_4.toNatClampNeg) = 6 then
   ((m_K μ (m_P μ r0 9) = 100 ∧ (vp_in i3_4 (m_N μ (m_P μ r0 9)) ∧ (p_X5_flies r0 (m_I μ (m_P μ r0 9) i3_4.toNatClampNeg) μ (fun v38 μ39 =>
    (if v38 = (-1 : Int32) then
    (p_X5_played_L170 k21 r0 i1 i2 (0 : Int32) μ39 Q)
    else
    (p_X5_played_L170 k21 r0 i1 i2 (1 : Int32) μ39 Q)))))))
   else p_X5_played_L175 k21 r0 i1 i2 (1 : Int32) μ Q)))))))))))
def p_X5_played_L21 (r0 : Nat) (i1 : Int32) (i2 : Int32) (μ : fw_M) (Q : Int32 → fw_M → Prop) : Prop := fw_lp (fun (k : Int32 × fw_M → Prop) (a : Int32 × fw_M) => p_X5_played_L21b r0 i1 (fun i2 μ => k (i2, μ)) a.1 a.2 Q) (i2, μ)
theorem r_X5_played_L21 {r0 : Nat} {i1 : Int32} {Q : Int32 → fw_M → Prop} (I : Int32 → fw_M → Prop) (v : Int32 → fw_M → Nat) (hs : ∀ (k : Int32 → fw_M → Prop) (i2 : Int32) (μ : fw_M), I i2 μ → (∀ (i2' : Int32) (ν : fw_M), I i2' ν → v i2' ν < v i2 μ → k i2' ν) → p_X5_played_L21b r0 i1 k i2 μ Q) (i2 : Int32) (μ : fw_M) (h : I i2 μ) : p_X5_played_L21 r0 i1 i2 μ Q :=
  fw_lp_in (A := Int32 × fw_M) (fun a => I a.1 a.2) (fun a => v a.1 a.2) (fun k a ha hk => hs (fun i2 μ => k (i2, μ)) a.1 a.2 ha (fun i2' ν hb hlt => hk (i2', ν) hb hlt)) (i2, μ) h
set_option maxHeartbeats 4000000 in
theorem w_X5_played_L21b {g : fw_G} {f bc bs : Nat} {r0 : Nat} {i1 : Int32} {k21 : Int32 → fw_M → Prop} {i2 : Int32} {μ : fw_M} {Q : Int32 → fw_M → Prop} (hf : 7 ≤ f) (hk21 : ∀ {i2 : Int32} {μ : fw_M}, m_K μ r0 = 6 → k21 i2 μ → fw_V g K_X5_played f bc bs 21 [(0, fw_rv g r0), (1, Value.int i1), (2, Value.int i2)] [] μ (fw_Qi Q) fw_nX) (hx : m_K μ r0 = 6) (h : p_X5_played_L21b r0 i1 k21 i2 μ Q) : fw_V g K_X5_played f bc bs 21 [(0, fw_rv g r0), (1, Value.int i1), (2, Value.int i2)] [] μ (fw_Qi Q) fw_nX := by
  unfold p_X5_played_L21b at h
  refine fw_iload_n dX5_played_21 rfl rfl ?_
  refine fw_aload_n dX5_played_22 rfl rfl ?_
  refine fw_getfP fl_X5_27 rfl hx dX5_played_23 ?_
  refine fw_iload_n dX5_played_26 rfl rfl ?_
  obtain ⟨hg1, h⟩ := h
  obtain ⟨hc2, h⟩ := h
  refine fw_iald hg1 hc2 dX5_played_27 ?_
  refine fw_icmp_ge (tgt := 188) dX5_played_28 (by decide) (fun c3 => ?_) (fun c3 => ?_)
  · have h := fw_it h c3
    refine fw_iconst (v := -1) dX5_played_188 (by decide) ?_
    exact fw_ireturn dX5_played_189 rfl rfl ⟨_, rfl, h⟩
  · have h := fw_if h c3
    refine fw_bipush (v := 24) dX5_played_31 (by decide) ?_
    refine fw_iload_n dX5_played_33 rfl rfl ?_
    refine fw_imul dX5_played_34 ?_
    refine fw_iload_n dX5_played_35 rfl rfl ?_
    refine fw_iadd dX5_played_36 ?_
    refine fw_topi (fun i3_4 e5 => ?_)
    have h := h i3_4 e5
    refine fw_istore_nN (Ls' := [(3, Value.int i3_4), (2, Value.int i2), (0, fw_rv g r0), (1, Value.int i1)]) [0, 1] dX5_played_37 rfl (by decide) rfl rfl rfl rfl rfl ?_
    refine fw_iconst (v := 1) dX5_played_38 (by decide) ?_
    refine fw_istoreN (Ls' := [(4, Value.int (1 : Int32)), (3, Value.int i3_4), (2, Value.int i2), (0, fw_rv g r0), (1, Value.int i1)]) [1, 2, 3] dX5_played_39 (by decide) rfl rfl rfl rfl rfl ?_
    refine fw_aload_n dX5_played_41 rfl rfl ?_
    refine fw_getfP fl_X5_30 rfl hx dX5_played_42 ?_
    refine fw_iload_n dX5_played_45 rfl rfl ?_
    obtain ⟨hg6, h⟩ := h
    obtain ⟨hc7, h⟩ := h
    refine fw_iald hg6 hc7 dX5_played_46 ?_
    refine fw_sw (k := 3) h (fun c8 h => ?_) (fun c8 h => ?_)
    · refine fw_tableIn (tgt := 76) dX5_played_47 (by rw [c8]; decide) (by rw [c8]; decide) (by rw [c8]; rfl) (by decide) ?_
      refine fw_aload_n dX5_played_76 rfl rfl ?_
      refine fw_aload_n dX5_played_77 rfl rfl ?_
      refine fw_getfP fl_X5_36 rfl hx dX5_played_78 ?_
      refine fw_iload_n dX5_played_81 rfl rfl ?_
      obtain ⟨hg9, h⟩ := h
      obtain ⟨hc10, h⟩ := h
      refine fw_iald hg9 hc10 dX5_played_82 ?_
      refine fw_aload_n dX5_played_83 rfl rfl ?_
      refine fw_getfP fl_X5_39 rfl hx dX5_played_84 ?_
      refine fw_iload_n dX5_played_87 rfl rfl ?_
      obtain ⟨hg11, h⟩ := h
      obtain ⟨hc12, h⟩ := h
      refine fw_iald hg11 hc12 dX5_played_88 ?_
      refine fw_callV2z (f1 := f - 1) cl_X5_358 rfl hx (by decide) (by omega) (fw_s4 (Nat.le_of_ble_eq_true rfl)) dX5_played_89 (w_X5_sit (f := f - 1) (by omega) hx h) (fun _ _ h9 _ _ => h9.elim) (fun v9 μ14 q9 hs15 => ?_)
      obtain ⟨v13, rfl, h⟩ := q9
      refine fw_ti ?_
      have hg16 := hs15.K hx (by decide)
      refine fw_istoreN (Ls' := [(4, Value.int v13), (3, Value.int i3_4), (2, Value.int i2), (0, fw_rv g r0), (1, Value.int i1)]) [2, 3, 4] dX5_played_92 (by decide) rfl rfl rfl rfl rfl ?_
      refine fw_goto (tgt := 175) dX5_played_94 (by decide) ?_
      refine fw_ls [3, 4, 2, 0] rfl ?_
      exact w_X5_played_L175 hf hk21 hg16 h
    · refine fw_sw (k := 4) h (fun c17 h => ?_) (fun c17 h => ?_)
      · refine fw_tableIn (tgt := 97) dX5_played_47 (by rw [c17]; decide) (by rw [c17]; decide) (by rw [c17]; rfl) (by decide) ?_
        refine fw_aload_n dX5_played_97 rfl rfl ?_
        refine fw_aload_n dX5_played_98 rfl rfl ?_
        refine fw_getfP fl_X5_36 rfl hx dX5_played_99 ?_
        refine fw_iload_n dX5_played_102 rfl rfl ?_
        obtain ⟨hg18, h⟩ := h
        obtain ⟨hc19, h⟩ := h
        refine fw_iald hg18 hc19 dX5_played_103 ?_
        refine fw_aload_n dX5_played_104 rfl rfl ?_
        refine fw_getfP fl_X5_39 rfl hx dX5_played_105 ?_
        refine fw_iload_n dX5_played_108 rfl rfl ?_
        obtain ⟨hg20, h⟩ := h
        obtain ⟨hc21, h⟩ := h
        refine fw_iald hg20 hc21 dX5_played_109 ?_
        refine fw_callV2z (f1 := f - 1) cl_X5_361 rfl hx (by decide) (by omega) (fw_s4 (Nat.le_of_ble_eq_true rfl)) dX5_played_110 (w_X5_spoon (f := f - 1) (by omega) hx h) (fun _ _ h9 _ _ => h9.elim) (fun v9 μ23 q9 hs24 => ?_)
        obtain ⟨v22, rfl, h⟩ := q9
        refine fw_ti ?_
        have hg25 := hs24.K hx (by decide)
        refine fw_iconst (v := -1) dX5_played_113 (by decide) ?_
        refine fw_icmp_eq (tgt := 121) dX5_played_114 (by decide) (fun c26 => ?_) (fun c26 => ?_)
        · have h := fw_it h c26
          refine fw_iconst (v := 0) dX5_played_121 (by decide) ?_
          refine fw_ls [3, 4, 2] rfl ?_
          exact w_X5_played_L122 hf hk21 hg25 h
        · have h := fw_if h c26
          refine fw_iconst (v := 1) dX5_played_117 (by decide) ?_
          refine fw_goto (tgt := 122) dX5_played_118 (by decide) ?_
          refine fw_ls [3, 4, 2] rfl ?_
          exact w_X5_played_L122 hf hk21 hg25 h
      · refine fw_sw (k := 5) h (fun c27 h => ?_) (fun c27 h => ?_)
        · refine fw_tableIn (tgt := 127) dX5_played_47 (by rw [c27]; decide) (by rw [c27]; decide) (by rw [c27]; rfl) (by decide) ?_
          refine fw_aload_n dX5_played_127 rfl rfl ?_
          refine fw_aload_n dX5_played_128 rfl rfl ?_
          refine fw_getfP fl_X5_36 rfl hx dX5_played_129 ?_
          refine fw_iload_n dX5_played_132 rfl rfl ?_
          obtain ⟨hg28, h⟩ := h
          obtain ⟨hc29, h⟩ := h
          refine fw_iald hg28 hc29 dX5_played_133 ?_
          refine fw_callV1z (f1 := f - 1) cl_X5_364 rfl hx (by decide) (by omega) (fw_s4 (Nat.le_of_ble_eq_true rfl)) dX5_played_134 (w_X5_judge (f := f - 1) (by omega) hx h) (fun _ _ h9 _ _ => h9.elim) (fun v9 μ31 q9 hs32 => ?_)
          obtain ⟨v30, rfl, h⟩ := q9
          refine fw_ti ?_
          have hg33 := hs32.K hx (by decide)
          refine fw_iconst (v := -1) dX5_played_137 (by decide) ?_
          refine fw_icmp_eq (tgt := 145) dX5_played_138 (by decide) (fun c34 => ?_) (fun c34 => ?_)
          · have h := fw_it h c34
            refine fw_iconst (v := 0) dX5_played_145 (by decide) ?_
            refine fw_ls [3, 4, 2] rfl ?_
            exact w_X5_played_L146 hf hk21 hg33 h
          · have h := fw_if h c34
            refine fw_iconst (v := 1) dX5_played_141 (by decide) ?_
            refine fw_goto (tgt := 146) dX5_played_142 (by decide) ?_
            refine fw_ls [3, 4, 2] rfl ?_
            exact w_X5_played_L146 hf hk21 hg33 h
        · refine fw_sw (k := 6) h (fun c35 h => ?_) (fun c35 h => ?_)
          · refine fw_tableIn (tgt := 151) dX5_played_47 (by rw [c35]; decide) (by rw [c35]; decide) (by rw [c35]; rfl) (by decide) ?_
            refine fw_aload_n dX5_played_151 rfl rfl ?_
            refine fw_aload_n dX5_played_152 rfl rfl ?_
            refine fw_getfP fl_X5_36 rfl hx dX5_played_153 ?_
            refine fw_iload_n dX5_played_156 rfl rfl ?_
            obtain ⟨hg36, h⟩ := h
            obtain ⟨hc37, h⟩ := h
            refine fw_iald hg36 hc37 dX5_played_157 ?_
            refine fw_callV1z (f1 := f - 1) cl_X5_367 rfl hx (by decide) (by omega) (fw_s4 (Nat.le_of_ble_eq_true rfl)) dX5_played_158 (w_X5_flies (f := f - 1) (by omega) hx h) (fun _ _ h9 _ _ => h9.elim) (fun v9 μ39 q9 hs40 => ?_)
            obtain ⟨v38, rfl, h⟩ := q9
            refine fw_ti ?_
            have hg41 := hs40.K hx (by decide)
            refine fw_iconst (v := -1) dX5_played_161 (by decide) ?_
            refine fw_icmp_eq (tgt := 169) dX5_played_162 (by decide) (fun c42 => ?_) (fun c42 => ?_)
            · have h := fw_it h c42
              refine fw_iconst (v := 0) dX5_played_169 (by decide) ?_
              refine fw_ls [3, 4, 2] rfl ?_
              exact w_X5_played_L170 hf hk21 hg41 h
            · have h := fw_if h c42
              refine fw_iconst (v := 1) dX5_played_165 (by decide) ?_
              refine fw_goto (tgt := 170) dX5_played_166 (by decide) ?_
              refine fw_ls [3, 4, 2] rfl ?_
              exact w_X5_played_L170 hf hk21 hg41 h
          · have nc8 := lv_neT c8 (k := 3) (a := 3) (by decide)
            have nc17 := lv_neT c17 (k := 4) (a := 4) (by decide)
            have nc27 := lv_neT c27 (k := 5) (a := 5) (by decide)
            have nc35 := lv_neT c35 (k := 6) (a := 6) (by decide)
            refine fw_tableOut (tgt := 175) dX5_played_47 (by omega) (by decide) ?_
            refine fw_ls [3, 4, 2, 0] rfl ?_
            exact w_X5_played_L175 hf hk21 hx h
theorem w_X5_played_L21 {g : fw_G} {f bc bs : Nat} {r0 : Nat} {i1 : Int32} {i2 : Int32} {μ : fw_M} {Q : Int32 → fw_M → Prop} (hf : 7 ≤ f) (hx : m_K μ r0 = 6) (h : p_X5_played_L21 r0 i1 i2 μ Q) : fw_V g K_X5_played f bc bs 21 [(0, fw_rv g r0), (1, Value.int i1), (2, Value.int i2)] [] μ (fw_Qi Q) fw_nX := by
  have key := fw_lp_out (R := fun (a : Int32 × fw_M) => m_K a.2 r0 = 6 → fw_V g K_X5_played f bc bs 21 [(0, fw_rv g r0), (1, Value.int i1), (2, Value.int a.1)] [] a.2 (fw_Qi Q) fw_nX) (fun k hk9 a ha hx2 => w_X5_played_L21b hf (fun {i2} {μ} hx3 h3 => hk9 (i2, μ) h3 hx3) hx2 ha) h
  exact key hx
def p_X5_played (r0 : Nat) (i1 : Int32) (μ : fw_M) (Q : Int32 → fw_M → Prop) : Prop :=
  (m_K μ (m_P μ r0 0) = 100 ∧ (vp_in (1 : Int32) (m_N μ (m_P μ r0 0)) ∧ (p_X5_in i1 (0 : Int32) ((m_I μ (m_P μ r0 0) (1 : Int32).toNatClampNeg) - (1 : Int32)) μ (fun v3 μ4 =>
  (if v3 = 0 then
  (Q (-2 : Int32) μ4)
  else
  (p_X5_played_L21 r0 i1 (0 : Int32) μ4 Q))))))
set_option maxHeartbeats 4000000 in
theorem w_X5_played {g : fw_G} {f bc bs : Nat} {r0 : Nat} {i1 : Int32} {μ : fw_M} {Q : Int32 → fw_M → Prop} (hf : 7 ≤ f) (hx : m_K μ r0 = 6) (h : p_X5_played r0 i1 μ Q) : fw_C g f bc bs yX5_played (ws_ yX5_played cX5_played 5 (some .int)) [fw_rv g r0, Value.int i1] μ (fw_Qi Q) fw_nX := by
  unfold p_X5_played at h
  refine fw_intro' (Ls := [(0, fw_rv g r0), (1, Value.int i1)]) (by decide +kernel) (by simp [lg_sl, fw_cat, fw_ci, fw_clo]) (by simp [lv_args, fw_cat, fw_ci, fw_clo]) ?_
  show fw_V g K_X5_played f bc bs 0 [(0, fw_rv g r0), (1, Value.int i1)] [] μ (fw_Qi Q) fw_nX
  refine fw_iload_n dX5_played_0 rfl rfl ?_
  refine fw_iconst (v := 0) dX5_played_1 (by decide) ?_
  refine fw_aload_n dX5_played_2 rfl rfl ?_
  refine fw_getfP fl_X5_7 rfl hx dX5_played_3 ?_
  refine fw_iconst (v := 1) dX5_played_6 (by decide) ?_
  obtain ⟨hg1, h⟩ := h
  obtain ⟨hc2, h⟩ := h
  refine fw_iald hg1 hc2 dX5_played_7 ?_
  refine fw_iconst (v := 1) dX5_played_8 (by decide) ?_
  refine fw_isub dX5_played_9 ?_
  refine fw_callS3z (f1 := f - 1) cl_X5_110 (by decide) (by omega) (fw_s4 (Nat.le_of_ble_eq_true rfl)) dX5_played_10 (w_X5_in (f := f - 1) (by omega) h) (fun _ _ h9 _ _ => h9.elim) (fun v9 μ4 q9 hs5 => ?_)
  obtain ⟨v3, rfl, h⟩ := q9
  refine fw_ti ?_
  have hg6 := hs5.K hx (by decide)
  refine fw_if_ne (tgt := 19) dX5_played_13 (by decide) (fun c7 => ?_) (fun c7 => ?_)
  · have h := fw_if h c7
    refine fw_iconst (v := 0) dX5_played_19 (by decide) ?_
    refine fw_istore_nN (Ls' := [(2, Value.int (0 : Int32)), (1, Value.int i1), (0, fw_rv g r0)]) [0] dX5_played_20 rfl (by decide) rfl rfl rfl rfl rfl ?_
    refine fw_ls [2, 1, 0] rfl ?_
    exact w_X5_played_L21 hf hg6 h
  · have h := fw_it h c7
    refine fw_bipush (v := -2) dX5_played_16 (by decide) ?_
    exact fw_ireturn dX5_played_18 rfl rfl ⟨_, rfl, h⟩
abbrev K_X5_of : fw_Kt := (RX5, "of", cX5_of, 3, some .int, [])
def p_X5_of (r0 : Nat) (i1 : Int32) (i2 : Int32) (μ : fw_M) (Q : Int32 → fw_M → Prop) : Prop :=
  (p_X5_isEater r0 i1 μ (fun v1 μ2 =>
  (if v1 = 0 then
  (Q (-2 : Int32) μ2)
  else
  ((p_X5_laysWorld r0 μ2 (fun μ7 =>
   (if i2 = 0 then
   ((m_K μ7 (m_P μ7 r0 0) = 100 ∧ (vp_in ((10 : Int32) + ((3 : Int32) * i1)) (m_N μ7 (m_P μ7 r0 0)) ∧ Q (m_I μ7 (m_P μ7 r0 0) ((10 : Int32) + ((3 : Int32) * i1)).toNatClampNeg) μ7)))
   else (if i2 = 1 then
   ((m_K μ7 (m_P μ7 r0 0) = 100 ∧ (vp_in (((10 : Int32) + ((3 : Int32) * i1)) + (1 : Int32)) (m_N μ7 (m_P μ7 r0 0)) ∧ Q (m_I μ7 (m_P μ7 r0 0) (((10 : Int32) + ((3 : Int32) * i1)) + (1 : Int32)).toNatClampNeg) μ7)))
   else (if i2 = 2 then
   ((m_K μ7 (m_P μ7 r0 0) = 100 ∧ (vp_in (((10 : Int32) + ((3 : Int32) * i1)) + (2 : Int32)) (m_N μ7 (m_P μ7 r0 0)) ∧ Q (m_I μ7 (m_P μ7 r0 0) (((10 : Int32) + ((3 : Int32) * i1)) + (2 : Int32)).toNatClampNeg) μ7)))
   else (if i2 = 3 then
   ((m_K μ7 (m_P μ7 r0 0) = 100 ∧ (vp_in ((114 : Int32) + i1) (m_N μ7 (m_P μ7 r0 0)) ∧ Q (m_I μ7 (m_P μ7 r0 0) ((114 : Int32) + i1).toNatClampNeg) μ7)))
   else (if i2 = 4 then
   ((m_K μ7 (m_P μ7 r0 0) = 100 ∧ (vp_in ((123 : Int32) + i1) (m_N μ7 (m_P μ7 r0 0)) ∧ Q (m_I μ7 (m_P μ7 r0 0) ((123 : Int32) + i1).toNatClampNeg) μ7)))
   else (if i2 = 5 then
   ((p_X5_stillHolds r0 i1 μ7 (fun v26 μ27 =>
    Q v26 μ27)))
   else (if i2 = 6 then
   ((p_X5_spoonOf r0 i1 (0 : Int32) μ7 (fun v31 μ32 =>
    Q v31 μ32)))
   else (if i2 = 7 then
   ((p_X5_spoonOf r0 i1 (1 : Int32) μ7 (fun v36 μ37 =>
    Q v36 μ37)))
   else Q (-2 : Int32) μ7))))))))))))))
set_option maxHeartbeats 4000000 in
theorem w_X5_of {g : fw_G} {f bc bs : Nat} {r0 : Nat} {i1 : Int32} {i2 : Int32} {μ : fw_M} {Q : Int32 → fw_M → Prop} (hf : 6 ≤ f) (hx : m_K μ r0 = 6) (h : p_X5_of r0 i1 i2 μ Q) : fw_C g f bc bs yX5_of (ws_ yX5_of cX5_of 3 (some .int)) [fw_rv g r0, Value.int i1, Value.int i2] μ (fw_Qi Q) fw_nX := by
  unfold p_X5_of at h
  refine fw_intro' (Ls := [(0, fw_rv g r0), (1, Value.int i1), (2, Value.int i2)]) (by decide +kernel) (by simp [lg_sl, fw_cat, fw_ci, fw_clo]) (by simp [lv_args, fw_cat, fw_ci, fw_clo]) ?_
  show fw_V g K_X5_of f bc bs 0 [(0, fw_rv g r0), (1, Value.int i1), (2, Value.int i2)] [] μ (fw_Qi Q) fw_nX
  refine fw_aload_n dX5_of_0 rfl rfl ?_
  refine fw_iload_n dX5_of_1 rfl rfl ?_
  refine fw_callV1z (f1 := f - 1) cl_X5_343 rfl hx (by decide) (by omega) (fw_s4 (Nat.le_of_ble_eq_true rfl)) dX5_of_2 (w_X5_isEater (f := f - 1) (by omega) hx h) (fun _ _ h9 _ _ => h9.elim) (fun v9 μ2 q9 hs3 => ?_)
  obtain ⟨v1, rfl, h⟩ := q9
  refine fw_ti ?_
  have hg4 := hs3.K hx (by decide)
  refine fw_if_ne (tgt := 11) dX5_of_5 (by decide) (fun c5 => ?_) (fun c5 => ?_)
  · have h := fw_if h c5
    refine fw_aload_n dX5_of_11 rfl rfl ?_
    refine fw_callV0z (f1 := f - 1) cl_X5_349 rfl hg4 (by decide) (by omega) (fw_s4 (Nat.le_of_ble_eq_true rfl)) dX5_of_12 (w_X5_laysWorld (f := f - 1) (by omega) hg4 h) (fun _ _ h9 _ _ => h9.elim) (fun v9 μ7 q9 hs8 => ?_)
    obtain ⟨rfl, h⟩ := q9
    refine fw_tv ?_
    have hg9 := hs8.K hg4 (by decide)
    refine fw_iload_n dX5_of_15 rfl rfl ?_
    refine fw_sw (k := 0) h (fun c10 h => ?_) (fun c10 h => ?_)
    · refine fw_tableIn (tgt := 64) dX5_of_16 (by rw [c10]; decide) (by rw [c10]; decide) (by rw [c10]; rfl) (by decide) ?_
      refine fw_aload_n dX5_of_64 rfl rfl ?_
      refine fw_getfP fl_X5_7 rfl hg9 dX5_of_65 ?_
      refine fw_bipush (v := 10) dX5_of_68 (by decide) ?_
      refine fw_iconst (v := 3) dX5_of_70 (by decide) ?_
      refine fw_iload_n dX5_of_71 rfl rfl ?_
      refine fw_imul dX5_of_72 ?_
      refine fw_iadd dX5_of_73 ?_
      obtain ⟨hg11, h⟩ := h
      obtain ⟨hc12, h⟩ := h
      refine fw_iald hg11 hc12 dX5_of_74 ?_
      exact fw_ireturn dX5_of_75 rfl rfl ⟨_, rfl, h⟩
    · refine fw_sw (k := 1) h (fun c13 h => ?_) (fun c13 h => ?_)
      · refine fw_tableIn (tgt := 76) dX5_of_16 (by rw [c13]; decide) (by rw [c13]; decide) (by rw [c13]; rfl) (by decide) ?_
        refine fw_aload_n dX5_of_76 rfl rfl ?_
        refine fw_getfP fl_X5_7 rfl hg9 dX5_of_77 ?_
        refine fw_bipush (v := 10) dX5_of_80 (by decide) ?_
        refine fw_iconst (v := 3) dX5_of_82 (by decide) ?_
        refine fw_iload_n dX5_of_83 rfl rfl ?_
        refine fw_imul dX5_of_84 ?_
        refine fw_iadd dX5_of_85 ?_
        refine fw_iconst (v := 1) dX5_of_86 (by decide) ?_
        refine fw_iadd dX5_of_87 ?_
        obtain ⟨hg14, h⟩ := h
        obtain ⟨hc15, h⟩ := h
        refine fw_iald hg14 hc15 dX5_of_88 ?_
        exact fw_ireturn dX5_of_89 rfl rfl ⟨_, rfl, h⟩
      · refine fw_sw (k := 2) h (fun c16 h => ?_) (fun c16 h => ?_)
        · refine fw_tableIn (tgt := 90) dX5_of_16 (by rw [c16]; decide) (by rw [c16]; decide) (by rw [c16]; rfl) (by decide) ?_
          refine fw_aload_n dX5_of_90 rfl rfl ?_
          refine fw_getfP fl_X5_7 rfl hg9 dX5_of_91 ?_
          refine fw_bipush (v := 10) dX5_of_94 (by decide) ?_
          refine fw_iconst (v := 3) dX5_of_96 (by decide) ?_
          refine fw_iload_n dX5_of_97 rfl rfl ?_
          refine fw_imul dX5_of_98 ?_
          refine fw_iadd dX5_of_99 ?_
          refine fw_iconst (v := 2) dX5_of_100 (by decide) ?_
          refine fw_iadd dX5_of_101 ?_
          obtain ⟨hg17, h⟩ := h
          obtain ⟨hc18, h⟩ := h
          refine fw_iald hg17 hc18 dX5_of_102 ?_
          exact fw_ireturn dX5_of_103 rfl rfl ⟨_, rfl, h⟩
        · refine fw_sw (k := 3) h (fun c19 h => ?_) (fun c19 h => ?_)
          · refine fw_tableIn (tgt := 104) dX5_of_16 (by rw [c19]; decide) (by rw [c19]; decide) (by rw [c19]; rfl) (by decide) ?_
            refine fw_aload_n dX5_of_104 rfl rfl ?_
            refine fw_getfP fl_X5_7 rfl hg9 dX5_of_105 ?_
            refine fw_bipush (v := 114) dX5_of_108 (by decide) ?_
            refine fw_iload_n dX5_of_110 rfl rfl ?_
            refine fw_iadd dX5_of_111 ?_
            obtain ⟨hg20, h⟩ := h
            obtain ⟨hc21, h⟩ := h
            refine fw_iald hg20 hc21 dX5_of_112 ?_
            exact fw_ireturn dX5_of_113 rfl rfl ⟨_, rfl, h⟩
          · refine fw_sw (k := 4) h (fun c22 h => ?_) (fun c22 h => ?_)
            · refine fw_tableIn (tgt := 114) dX5_of_16 (by rw [c22]; decide) (by rw [c22]; decide) (by rw [c22]; rfl) (by decide) ?_
              refine fw_aload_n dX5_of_114 rfl rfl ?_
              refine fw_getfP fl_X5_7 rfl hg9 dX5_of_115 ?_
              refine fw_bipush (v := 123) dX5_of_118 (by decide) ?_
              refine fw_iload_n dX5_of_120 rfl rfl ?_
              refine fw_iadd dX5_of_121 ?_
              obtain ⟨hg23, h⟩ := h
              obtain ⟨hc24, h⟩ := h
              refine fw_iald hg23 hc24 dX5_of_122 ?_
              exact fw_ireturn dX5_of_123 rfl rfl ⟨_, rfl, h⟩
            · refine fw_sw (k := 5) h (fun c25 h => ?_) (fun c25 h => ?_)
              · refine fw_tableIn (tgt := 124) dX5_of_16 (by rw [c25]; decide) (by rw [c25]; decide) (by rw [c25]; rfl) (by decide) ?_
                refine fw_aload_n dX5_of_124 rfl rfl ?_
                refine fw_iload_n dX5_of_125 rfl rfl ?_
                refine fw_callV1z (f1 := f - 1) cl_X5_331 rfl hg9 (by decide) (by omega) (fw_s4 (Nat.le_of_ble_eq_true rfl)) dX5_of_126 (w_X5_stillHolds (f := f - 1) (by omega) hg9 h) (fun _ _ h9 _ _ => h9.elim) (fun v9 μ27 q9 hs28 => ?_)
                obtain ⟨v26, rfl, h⟩ := q9
                refine fw_ti ?_
                have hg29 := hs28.K hg9 (by decide)
                exact fw_ireturn dX5_of_129 rfl rfl ⟨_, rfl, h⟩
              · refine fw_sw (k := 6) h (fun c30 h => ?_) (fun c30 h => ?_)
                · refine fw_tableIn (tgt := 130) dX5_of_16 (by rw [c30]; decide) (by rw [c30]; decide) (by rw [c30]; rfl) (by decide) ?_
                  refine fw_aload_n dX5_of_130 rfl rfl ?_
                  refine fw_iload_n dX5_of_131 rfl rfl ?_
                  refine fw_iconst (v := 0) dX5_of_132 (by decide) ?_
                  refine fw_callV2z (f1 := f - 1) cl_X5_337 rfl hg9 (by decide) (by omega) (fw_s4 (Nat.le_of_ble_eq_true rfl)) dX5_of_133 (w_X5_spoonOf (f := f - 1) (by omega) hg9 h) (fun _ _ h9 _ _ => h9.elim) (fun v9 μ32 q9 hs33 => ?_)
                  obtain ⟨v31, rfl, h⟩ := q9
                  refine fw_ti ?_
                  have hg34 := hs33.K hg9 (by decide)
                  exact fw_ireturn dX5_of_136 rfl rfl ⟨_, rfl, h⟩
                · refine fw_sw (k := 7) h (fun c35 h => ?_) (fun c35 h => ?_)
                  · refine fw_tableIn (tgt := 137) dX5_of_16 (by rw [c35]; decide) (by rw [c35]; decide) (by rw [c35]; rfl) (by decide) ?_
                    refine fw_aload_n dX5_of_137 rfl rfl ?_
                    refine fw_iload_n dX5_of_138 rfl rfl ?_
                    refine fw_iconst (v := 1) dX5_of_139 (by decide) ?_
                    refine fw_callV2z (f1 := f - 1) cl_X5_337 rfl hg9 (by decide) (by omega) (fw_s4 (Nat.le_of_ble_eq_true rfl)) dX5_of_140 (w_X5_spoonOf (f := f - 1) (by omega) hg9 h) (fun _ _ h9 _ _ => h9.elim) (fun v9 μ37 q9 hs38 => ?_)
                    obtain ⟨v36, rfl, h⟩ := q9
                    refine fw_ti ?_
                    have hg39 := hs38.K hg9 (by decide)
                    exact fw_ireturn dX5_of_143 rfl rfl ⟨_, rfl, h⟩
                  · have nc10 := lv_neT c10 (k := 0) (a := 0) (by decide)
                    have nc13 := lv_neT c13 (k := 1) (a := 1) (by decide)
                    have nc16 := lv_neT c16 (k := 2) (a := 2) (by decide)
                    have nc19 := lv_neT c19 (k := 3) (a := 3) (by decide)
                    have nc22 := lv_neT c22 (k := 4) (a := 4) (by decide)
                    have nc25 := lv_neT c25 (k := 5) (a := 5) (by decide)
                    have nc30 := lv_neT c30 (k := 6) (a := 6) (by decide)
                    have nc35 := lv_neT c35 (k := 7) (a := 7) (by decide)
                    refine fw_tableOut (tgt := 144) dX5_of_16 (by omega) (by decide) ?_
                    refine fw_bipush (v := -2) dX5_of_144 (by decide) ?_
                    exact fw_ireturn dX5_of_146 rfl rfl ⟨_, rfl, h⟩
  · have h := fw_it h c5
    refine fw_bipush (v := -2) dX5_of_8 (by decide) ?_
    exact fw_ireturn dX5_of_10 rfl rfl ⟨_, rfl, h⟩
abbrev K_X5_written : fw_Kt := (RX5, "written", cX5_written, 3, some .int, [])
def p_X5_written (r0 : Nat) (i1 : Int32) (i2 : Int32) (μ : fw_M) (Q : Int32 → fw_M → Prop) : Prop :=
  (if i1 = (-1 : Int32) then
  ((m_K μ (m_P μ r0 0) = 100 ∧ (vp_in (132 : Int32) (m_N μ (m_P μ r0 0)) ∧ Q (m_I μ (m_P μ r0 0) (132 : Int32).toNatClampNeg) μ)))
  else
  ((m_K μ (m_P μ r0 0) = 100 ∧ (vp_in (132 : Int32) (m_N μ (m_P μ r0 0)) ∧ (p_X5_in i1 (0 : Int32) ((m_I μ (m_P μ r0 0) (132 : Int32).toNatClampNeg) - (1 : Int32)) μ (fun v4 μ5 =>
   (if v4 = 0 then
   (Q (-2 : Int32) μ5)
   else
   ((p_X5_in i2 (0 : Int32) (3 : Int32) μ5 (fun v9 μ10 =>
    (if v9 = 0 then
    (Q (-2 : Int32) μ10)
    else
    ((m_K μ10 (m_P μ10 r0 0) = 100 ∧ (vp_in (((133 : Int32) + ((4 : Int32) * i1)) + i2) (m_N μ10 (m_P μ10 r0 0)) ∧ Q (m_I μ10 (m_P μ10 r0 0) (((133 : Int32) + ((4 : Int32) * i1)) + i2).toNatClampNeg) μ10))))))))))))))
set_option maxHeartbeats 4000000 in
theorem w_X5_written {g : fw_G} {f bc bs : Nat} {r0 : Nat} {i1 : Int32} {i2 : Int32} {μ : fw_M} {Q : Int32 → fw_M → Prop} (hf : 2 ≤ f) (hx : m_K μ r0 = 6) (h : p_X5_written r0 i1 i2 μ Q) : fw_C g f bc bs yX5_written (ws_ yX5_written cX5_written 3 (some .int)) [fw_rv g r0, Value.int i1, Value.int i2] μ (fw_Qi Q) fw_nX := by
  unfold p_X5_written at h
  refine fw_intro' (Ls := [(0, fw_rv g r0), (1, Value.int i1), (2, Value.int i2)]) (by decide +kernel) (by simp [lg_sl, fw_cat, fw_ci, fw_clo]) (by simp [lv_args, fw_cat, fw_ci, fw_clo]) ?_
  show fw_V g K_X5_written f bc bs 0 [(0, fw_rv g r0), (1, Value.int i1), (2, Value.int i2)] [] μ (fw_Qi Q) fw_nX
  refine fw_iload_n dX5_written_0 rfl rfl ?_
  refine fw_iconst (v := -1) dX5_written_1 (by decide) ?_
  refine fw_icmp_ne (tgt := 14) dX5_written_2 (by decide) (fun c1 => ?_) (fun c1 => ?_)
  · have h := fw_if h c1
    refine fw_iload_n dX5_written_14 rfl rfl ?_
    refine fw_iconst (v := 0) dX5_written_15 (by decide) ?_
    refine fw_aload_n dX5_written_16 rfl rfl ?_
    refine fw_getfP fl_X5_7 rfl hx dX5_written_17 ?_
    refine fw_sipush (v := 132) dX5_written_20 (by decide) ?_
    obtain ⟨hg2, h⟩ := h
    obtain ⟨hc3, h⟩ := h
    refine fw_iald hg2 hc3 dX5_written_23 ?_
    refine fw_iconst (v := 1) dX5_written_24 (by decide) ?_
    refine fw_isub dX5_written_25 ?_
    refine fw_callS3z (f1 := f - 1) cl_X5_110 (by decide) (by omega) (fw_s4 (Nat.le_of_ble_eq_true rfl)) dX5_written_26 (w_X5_in (f := f - 1) (by omega) h) (fun _ _ h9 _ _ => h9.elim) (fun v9 μ5 q9 hs6 => ?_)
    obtain ⟨v4, rfl, h⟩ := q9
    refine fw_ti ?_
    have hg7 := hs6.K hx (by decide)
    refine fw_if_eq (tgt := 58) dX5_written_29 (by decide) (fun c8 => ?_) (fun c8 => ?_)
    · have h := fw_it h c8
      refine fw_bipush (v := -2) dX5_written_58 (by decide) ?_
      exact fw_ireturn dX5_written_60 rfl rfl ⟨_, rfl, h⟩
    · have h := fw_if h c8
      refine fw_iload_n dX5_written_32 rfl rfl ?_
      refine fw_iconst (v := 0) dX5_written_33 (by decide) ?_
      refine fw_iconst (v := 3) dX5_written_34 (by decide) ?_
      refine fw_callS3z (f1 := f - 1) cl_X5_110 (by decide) (by omega) (fw_s4 (Nat.le_of_ble_eq_true rfl)) dX5_written_35 (w_X5_in (f := f - 1) (by omega) h) (fun _ _ h9 _ _ => h9.elim) (fun v9 μ10 q9 hs11 => ?_)
      obtain ⟨v9, rfl, h⟩ := q9
      refine fw_ti ?_
      have hg12 := hs11.K hg7 (by decide)
      refine fw_if_eq (tgt := 58) dX5_written_38 (by decide) (fun c13 => ?_) (fun c13 => ?_)
      · have h := fw_it h c13
        refine fw_bipush (v := -2) dX5_written_58 (by decide) ?_
        exact fw_ireturn dX5_written_60 rfl rfl ⟨_, rfl, h⟩
      · have h := fw_if h c13
        refine fw_aload_n dX5_written_41 rfl rfl ?_
        refine fw_getfP fl_X5_7 rfl hg12 dX5_written_42 ?_
        refine fw_sipush (v := 133) dX5_written_45 (by decide) ?_
        refine fw_iconst (v := 4) dX5_written_48 (by decide) ?_
        refine fw_iload_n dX5_written_49 rfl rfl ?_
        refine fw_imul dX5_written_50 ?_
        refine fw_iadd dX5_written_51 ?_
        refine fw_iload_n dX5_written_52 rfl rfl ?_
        refine fw_iadd dX5_written_53 ?_
        obtain ⟨hg14, h⟩ := h
        obtain ⟨hc15, h⟩ := h
        refine fw_iald hg14 hc15 dX5_written_54 ?_
        refine fw_goto (tgt := 60) dX5_written_55 (by decide) ?_
        exact fw_ireturn dX5_written_60 rfl rfl ⟨_, rfl, h⟩
  · have h := fw_it h c1
    refine fw_aload_n dX5_written_5 rfl rfl ?_
    refine fw_getfP fl_X5_7 rfl hx dX5_written_6 ?_
    refine fw_sipush (v := 132) dX5_written_9 (by decide) ?_
    obtain ⟨hg16, h⟩ := h
    obtain ⟨hc17, h⟩ := h
    refine fw_iald hg16 hc17 dX5_written_12 ?_
    exact fw_ireturn dX5_written_13 rfl rfl ⟨_, rfl, h⟩
abbrev K_X5_dent : fw_Kt := (RX5, "dent", cX5_dent, 3, some .int, [])
def p_X5_dent (r0 : Nat) (i1 : Int32) (i2 : Int32) (μ : fw_M) (Q : Int32 → fw_M → Prop) : Prop :=
  (if i1 = (-1 : Int32) then
  ((m_K μ (m_P μ r0 0) = 100 ∧ (vp_in (373 : Int32) (m_N μ (m_P μ r0 0)) ∧ Q (m_I μ (m_P μ r0 0) (373 : Int32).toNatClampNeg) μ)))
  else
  ((m_K μ (m_P μ r0 0) = 100 ∧ (vp_in (373 : Int32) (m_N μ (m_P μ r0 0)) ∧ (p_X5_in i1 (0 : Int32) ((m_I μ (m_P μ r0 0) (373 : Int32).toNatClampNeg) - (1 : Int32)) μ (fun v4 μ5 =>
   (if v4 = 0 then
   (Q (-9999 : Int32) μ5)
   else
   ((p_X5_in i2 (0 : Int32) (2 : Int32) μ5 (fun v9 μ10 =>
    (if v9 = 0 then
    (Q (-9999 : Int32) μ10)
    else
    ((m_K μ10 (m_P μ10 r0 0) = 100 ∧ (vp_in (((374 : Int32) + ((3 : Int32) * i1)) + i2) (m_N μ10 (m_P μ10 r0 0)) ∧ Q (m_I μ10 (m_P μ10 r0 0) (((374 : Int32) + ((3 : Int32) * i1)) + i2).toNatClampNeg) μ10))))))))))))))
set_option maxHeartbeats 4000000 in
theorem w_X5_dent {g : fw_G} {f bc bs : Nat} {r0 : Nat} {i1 : Int32} {i2 : Int32} {μ : fw_M} {Q : Int32 → fw_M → Prop} (hf : 2 ≤ f) (hx : m_K μ r0 = 6) (h : p_X5_dent r0 i1 i2 μ Q) : fw_C g f bc bs yX5_dent (ws_ yX5_dent cX5_dent 3 (some .int)) [fw_rv g r0, Value.int i1, Value.int i2] μ (fw_Qi Q) fw_nX := by
  unfold p_X5_dent at h
  refine fw_intro' (Ls := [(0, fw_rv g r0), (1, Value.int i1), (2, Value.int i2)]) (by decide +kernel) (by simp [lg_sl, fw_cat, fw_ci, fw_clo]) (by simp [lv_args, fw_cat, fw_ci, fw_clo]) ?_
  show fw_V g K_X5_dent f bc bs 0 [(0, fw_rv g r0), (1, Value.int i1), (2, Value.int i2)] [] μ (fw_Qi Q) fw_nX
  refine fw_iload_n dX5_dent_0 rfl rfl ?_
  refine fw_iconst (v := -1) dX5_dent_1 (by decide) ?_
  refine fw_icmp_ne (tgt := 14) dX5_dent_2 (by decide) (fun c1 => ?_) (fun c1 => ?_)
  · have h := fw_if h c1
    refine fw_iload_n dX5_dent_14 rfl rfl ?_
    refine fw_iconst (v := 0) dX5_dent_15 (by decide) ?_
    refine fw_aload_n dX5_dent_16 rfl rfl ?_
    refine fw_getfP fl_X5_7 rfl hx dX5_dent_17 ?_
    refine fw_sipush (v := 373) dX5_dent_20 (by decide) ?_
    obtain ⟨hg2, h⟩ := h
    obtain ⟨hc3, h⟩ := h
    refine fw_iald hg2 hc3 dX5_dent_23 ?_
    refine fw_iconst (v := 1) dX5_dent_24 (by decide) ?_
    refine fw_isub dX5_dent_25 ?_
    refine fw_callS3z (f1 := f - 1) cl_X5_110 (by decide) (by omega) (fw_s4 (Nat.le_of_ble_eq_true rfl)) dX5_dent_26 (w_X5_in (f := f - 1) (by omega) h) (fun _ _ h9 _ _ => h9.elim) (fun v9 μ5 q9 hs6 => ?_)
    obtain ⟨v4, rfl, h⟩ := q9
    refine fw_ti ?_
    have hg7 := hs6.K hx (by decide)
    refine fw_if_eq (tgt := 58) dX5_dent_29 (by decide) (fun c8 => ?_) (fun c8 => ?_)
    · have h := fw_it h c8
      refine fw_sipush (v := -9999) dX5_dent_58 (by decide) ?_
      exact fw_ireturn dX5_dent_61 rfl rfl ⟨_, rfl, h⟩
    · have h := fw_if h c8
      refine fw_iload_n dX5_dent_32 rfl rfl ?_
      refine fw_iconst (v := 0) dX5_dent_33 (by decide) ?_
      refine fw_iconst (v := 2) dX5_dent_34 (by decide) ?_
      refine fw_callS3z (f1 := f - 1) cl_X5_110 (by decide) (by omega) (fw_s4 (Nat.le_of_ble_eq_true rfl)) dX5_dent_35 (w_X5_in (f := f - 1) (by omega) h) (fun _ _ h9 _ _ => h9.elim) (fun v9 μ10 q9 hs11 => ?_)
      obtain ⟨v9, rfl, h⟩ := q9
      refine fw_ti ?_
      have hg12 := hs11.K hg7 (by decide)
      refine fw_if_eq (tgt := 58) dX5_dent_38 (by decide) (fun c13 => ?_) (fun c13 => ?_)
      · have h := fw_it h c13
        refine fw_sipush (v := -9999) dX5_dent_58 (by decide) ?_
        exact fw_ireturn dX5_dent_61 rfl rfl ⟨_, rfl, h⟩
      · have h := fw_if h c13
        refine fw_aload_n dX5_dent_41 rfl rfl ?_
        refine fw_getfP fl_X5_7 rfl hg12 dX5_dent_42 ?_
        refine fw_sipush (v := 374) dX5_dent_45 (by decide) ?_
        refine fw_iconst (v := 3) dX5_dent_48 (by decide) ?_
        refine fw_iload_n dX5_dent_49 rfl rfl ?_
        refine fw_imul dX5_dent_50 ?_
        refine fw_iadd dX5_dent_51 ?_
        refine fw_iload_n dX5_dent_52 rfl rfl ?_
        refine fw_iadd dX5_dent_53 ?_
        obtain ⟨hg14, h⟩ := h
        obtain ⟨hc15, h⟩ := h
        refine fw_iald hg14 hc15 dX5_dent_54 ?_
        refine fw_goto (tgt := 61) dX5_dent_55 (by decide) ?_
        exact fw_ireturn dX5_dent_61 rfl rfl ⟨_, rfl, h⟩
  · have h := fw_it h c1
    refine fw_aload_n dX5_dent_5 rfl rfl ?_
    refine fw_getfP fl_X5_7 rfl hx dX5_dent_6 ?_
    refine fw_sipush (v := 373) dX5_dent_9 (by decide) ?_
    obtain ⟨hg16, h⟩ := h
    obtain ⟨hc17, h⟩ := h
    refine fw_iald hg16 hc17 dX5_dent_12 ?_
    exact fw_ireturn dX5_dent_13 rfl rfl ⟨_, rfl, h⟩
abbrev K_X5_eats : fw_Kt := (RX5, "eats", cX5_eats, 4, some .int, [])
def p_X5_eats (r0 : Nat) (i1 : Int32) (i2 : Int32) (μ : fw_M) (Q : Int32 → fw_M → Prop) : Prop :=
  (p_X5_spoonOf r0 i1 i2 μ (fun v1 μ2 =>
  (if v1 ≤ 0 then
  (Q v1 μ2)
  else
  ((m_K μ2 (m_P μ2 r0 0) = 100 ∧ (vp_in ((114 : Int32) + i1) (m_N μ2 (m_P μ2 r0 0)) ∧ (m_K μ2 (m_P μ2 r0 39) = 100 ∧ (vp_in (((2 : Int32) * (m_I μ2 (m_P μ2 r0 0) ((114 : Int32) + i1).toNatClampNeg)) + i2) (m_N μ2 (m_P μ2 r0 39)) ∧ (vp_in (((2 : Int32) * (m_I μ2 (m_P μ2 r0 0) ((114 : Int32) + i1).toNatClampNeg)) + i2) (m_N μ2 (m_P μ2 r0 39)) ∧ (∀ μ11, μ11 = m_uI μ2 (m_P μ2 r0 39) (((2 : Int32) * (m_I μ2 (m_P μ2 r0 0) ((114 : Int32) + i1).toNatClampNeg)) + i2).toNatClampNeg ((m_I μ2 (m_P μ2 r0 39) (((2 : Int32) * (m_I μ2 (m_P μ2 r0 0) ((114 : Int32) + i1).toNatClampNeg)) + i2).toNatClampNeg) - v1) →
   (m_K μ11 (m_P μ11 r0 40) = 100 ∧ (vp_in i1 (m_N μ11 (m_P μ11 r0 40)) ∧ (vp_in i1 (m_N μ11 (m_P μ11 r0 40)) ∧ (∀ μ15, μ15 = m_uI μ11 (m_P μ11 r0 40) i1.toNatClampNeg ((m_I μ11 (m_P μ11 r0 40) i1.toNatClampNeg) + v1) →
   (∀ μ16, μ16 = m_uI μ15 r0 41 ((m_I μ15 r0 41) + (1 : Int32)) →
   Q v1 μ16)))))))))))))))
set_option maxHeartbeats 4000000 in
theorem w_X5_eats {g : fw_G} {f bc bs : Nat} {r0 : Nat} {i1 : Int32} {i2 : Int32} {μ : fw_M} {Q : Int32 → fw_M → Prop} (hf : 6 ≤ f) (hx : m_K μ r0 = 6) (h : p_X5_eats r0 i1 i2 μ Q) : fw_C g f bc bs yX5_eats (ws_ yX5_eats cX5_eats 4 (some .int)) [fw_rv g r0, Value.int i1, Value.int i2] μ (fw_Qi Q) fw_nX := by
  unfold p_X5_eats at h
  refine fw_intro' (Ls := [(0, fw_rv g r0), (1, Value.int i1), (2, Value.int i2)]) (by decide +kernel) (by simp [lg_sl, fw_cat, fw_ci, fw_clo]) (by simp [lv_args, fw_cat, fw_ci, fw_clo]) ?_
  show fw_V g K_X5_eats f bc bs 0 [(0, fw_rv g r0), (1, Value.int i1), (2, Value.int i2)] [] μ (fw_Qi Q) fw_nX
  refine fw_aload_n dX5_eats_0 rfl rfl ?_
  refine fw_iload_n dX5_eats_1 rfl rfl ?_
  refine fw_iload_n dX5_eats_2 rfl rfl ?_
  refine fw_callV2z (f1 := f - 1) cl_X5_337 rfl hx (by decide) (by omega) (fw_s4 (Nat.le_of_ble_eq_true rfl)) dX5_eats_3 (w_X5_spoonOf (f := f - 1) (by omega) hx h) (fun _ _ h9 _ _ => h9.elim) (fun v9 μ2 q9 hs3 => ?_)
  obtain ⟨v1, rfl, h⟩ := q9
  refine fw_ti ?_
  have hg4 := hs3.K hx (by decide)
  refine fw_istore_nN (Ls' := [(3, Value.int v1), (2, Value.int i2), (0, fw_rv g r0), (1, Value.int i1)]) [0, 1] dX5_eats_6 rfl (by decide) rfl rfl rfl rfl rfl ?_
  refine fw_iload_n dX5_eats_7 rfl rfl ?_
  refine fw_if_le (tgt := 53) dX5_eats_8 (by decide) (fun c5 => ?_) (fun c5 => ?_)
  · have h := fw_it h c5
    refine fw_iload_n dX5_eats_53 rfl rfl ?_
    exact fw_ireturn dX5_eats_54 rfl rfl ⟨_, rfl, h⟩
  · have h := fw_if h c5
    refine fw_aload_n dX5_eats_11 rfl rfl ?_
    refine fw_getfP fl_X5_85 rfl hg4 dX5_eats_12 ?_
    refine fw_iconst (v := 2) dX5_eats_15 (by decide) ?_
    refine fw_aload_n dX5_eats_16 rfl rfl ?_
    refine fw_getfP fl_X5_7 rfl hg4 dX5_eats_17 ?_
    refine fw_bipush (v := 114) dX5_eats_20 (by decide) ?_
    refine fw_iload_n dX5_eats_22 rfl rfl ?_
    refine fw_iadd dX5_eats_23 ?_
    obtain ⟨hg6, h⟩ := h
    obtain ⟨hc7, h⟩ := h
    refine fw_iald hg6 hc7 dX5_eats_24 ?_
    refine fw_imul dX5_eats_25 ?_
    refine fw_iload_n dX5_eats_26 rfl rfl ?_
    refine fw_iadd dX5_eats_27 ?_
    refine fw_dup2 dX5_eats_28 rfl (fw_cat _) ?_
    obtain ⟨hg8, h⟩ := h
    obtain ⟨hc9, h⟩ := h
    refine fw_iald hg8 hc9 dX5_eats_29 ?_
    refine fw_iload_n dX5_eats_30 rfl rfl ?_
    refine fw_isub dX5_eats_31 ?_
    obtain ⟨hc10, h⟩ := h
    refine fw_iast hg8 hc10 dX5_eats_32 ?_
    have h := h _ rfl
    refine fw_aload_n dX5_eats_33 rfl rfl ?_
    refine fw_getfP fl_X5_88 rfl hg4 dX5_eats_34 ?_
    refine fw_iload_n dX5_eats_37 rfl rfl ?_
    refine fw_dup2 dX5_eats_38 rfl (fw_cat _) ?_
    obtain ⟨hg12, h⟩ := h
    obtain ⟨hc13, h⟩ := h
    refine fw_iald hg12 hc13 dX5_eats_39 ?_
    refine fw_iload_n dX5_eats_40 rfl rfl ?_
    refine fw_iadd dX5_eats_41 ?_
    obtain ⟨hc14, h⟩ := h
    refine fw_iast hg12 hc14 dX5_eats_42 ?_
    have h := h _ rfl
    refine fw_aload_n dX5_eats_43 rfl rfl ?_
    refine fw_dup dX5_eats_44 (fw_cat _) ?_
    refine fw_getfI fl_X5_314 rfl hg4 dX5_eats_45 ?_
    refine fw_iconst (v := 1) dX5_eats_48 (by decide) ?_
    refine fw_iadd dX5_eats_49 ?_
    refine fw_putfI fl_X5_314 (fun q hq => Or.inl (by cases hq; rfl)) rfl hg4 dX5_eats_50 ?_
    have h := h _ rfl
    refine fw_iload_n dX5_eats_53 rfl rfl ?_
    exact fw_ireturn dX5_eats_54 rfl rfl ⟨_, rfl, h⟩
abbrev K_X5_rows : fw_Kt := (RX5, "rows", cX5_rows, 3, some .int, [])
def p_X5_rows_L4b (i0 : Int32) (k4 : Int32 → Int32 → fw_M → Prop) (i1 : Int32) (i2 : Int32) (μ : fw_M) (Q : Int32 → fw_M → Prop) : Prop :=
  (if i0 < i2 then
  (Q i1 μ)
  else
  ((∀ i1_2 : Int32, i1_2 = (i1 * i2) →
   (∀ i2_4 : Int32, i2_4 = i2 + (1 : Int32) →
   k4 i1_2 i2_4 μ))))
def p_X5_rows_L4 (i0 : Int32) (i1 : Int32) (i2 : Int32) (μ : fw_M) (Q : Int32 → fw_M → Prop) : Prop := fw_lp (fun (k : Int32 × Int32 × fw_M → Prop) (a : Int32 × Int32 × fw_M) => p_X5_rows_L4b i0 (fun i1 i2 μ => k (i1, i2, μ)) a.1 a.2.1 a.2.2 Q) (i1, i2, μ)
theorem r_X5_rows_L4 {i0 : Int32} {Q : Int32 → fw_M → Prop} (I : Int32 → Int32 → fw_M → Prop) (v : Int32 → Int32 → fw_M → Nat) (hs : ∀ (k : Int32 → Int32 → fw_M → Prop) (i1 : Int32) (i2 : Int32) (μ : fw_M), I i1 i2 μ → (∀ (i1' : Int32) (i2' : Int32) (ν : fw_M), I i1' i2' ν → v i1' i2' ν < v i1 i2 μ → k i1' i2' ν) → p_X5_rows_L4b i0 k i1 i2 μ Q) (i1 : Int32) (i2 : Int32) (μ : fw_M) (h : I i1 i2 μ) : p_X5_rows_L4 i0 i1 i2 μ Q :=
  fw_lp_in (A := Int32 × Int32 × fw_M) (fun a => I a.1 a.2.1 a.2.2) (fun a => v a.1 a.2.1 a.2.2) (fun k a ha hk => hs (fun i1 i2 μ => k (i1, i2, μ)) a.1 a.2.1 a.2.2 ha (fun i1' i2' ν hb hlt => hk (i1', i2', ν) hb hlt)) (i1, i2, μ) h
set_option maxHeartbeats 4000000 in
theorem w_X5_rows_L4b {g : fw_G} {f bc bs : Nat} {i0 : Int32} {k4 : Int32 → Int32 → fw_M → Prop} {i1 : Int32} {i2 : Int32} {μ : fw_M} {Q : Int32 → fw_M → Prop} (hf : 1 ≤ f) (hk4 : ∀ {i1 : Int32} {i2 : Int32} {μ : fw_M}, k4 i1 i2 μ → fw_V g K_X5_rows f bc bs 4 [(0, Value.int i0), (1, Value.int i1), (2, Value.int i2)] [] μ (fw_Qi Q) fw_nX) (h : p_X5_rows_L4b i0 k4 i1 i2 μ Q) : fw_V g K_X5_rows f bc bs 4 [(0, Value.int i0), (1, Value.int i1), (2, Value.int i2)] [] μ (fw_Qi Q) fw_nX := by
  unfold p_X5_rows_L4b at h
  refine fw_iload_n dX5_rows_4 rfl rfl ?_
  refine fw_iload_n dX5_rows_5 rfl rfl ?_
  refine fw_icmp_gt (tgt := 19) dX5_rows_6 (by decide) (fun c1 => ?_) (fun c1 => ?_)
  · have h := fw_it h c1
    refine fw_iload_n dX5_rows_19 rfl rfl ?_
    exact fw_ireturn dX5_rows_20 rfl rfl ⟨_, rfl, h⟩
  · have h := fw_if h c1
    refine fw_iload_n dX5_rows_9 rfl rfl ?_
    refine fw_iload_n dX5_rows_10 rfl rfl ?_
    refine fw_imul dX5_rows_11 ?_
    refine fw_topi (fun i1_2 e3 => ?_)
    have h := h i1_2 e3
    refine fw_istore_nN (Ls' := [(1, Value.int i1_2), (0, Value.int i0), (2, Value.int i2)]) [2] dX5_rows_12 rfl (by decide) rfl rfl rfl rfl rfl ?_
    obtain ⟨i2_4, e5⟩ : ∃ y : Int32, y = i2 + (1 : Int32) := ⟨_, rfl⟩
    have h := h i2_4 e5
    refine fw_iincN (k := 2) (v := i2_4) (Ls' := [(2, Value.int i2_4), (1, Value.int i1_2), (0, Value.int i0)]) [1] dX5_rows_13 rfl (by rw [e5]; rfl) (by decide) rfl rfl rfl rfl rfl ?_
    refine fw_goto (tgt := 4) dX5_rows_16 (by decide) ?_
    refine fw_ls [2, 1, 0] rfl ?_
    exact hk4 h
theorem w_X5_rows_L4 {g : fw_G} {f bc bs : Nat} {i0 : Int32} {i1 : Int32} {i2 : Int32} {μ : fw_M} {Q : Int32 → fw_M → Prop} (hf : 1 ≤ f) (h : p_X5_rows_L4 i0 i1 i2 μ Q) : fw_V g K_X5_rows f bc bs 4 [(0, Value.int i0), (1, Value.int i1), (2, Value.int i2)] [] μ (fw_Qi Q) fw_nX := by
  have key := fw_lp_out (R := fun (a : Int32 × Int32 × fw_M) => fw_V g K_X5_rows f bc bs 4 [(0, Value.int i0), (1, Value.int a.1), (2, Value.int a.2.1)] [] a.2.2 (fw_Qi Q) fw_nX) (fun k hk9 a ha => w_X5_rows_L4b hf (fun {i1 i2} {μ} h3 => hk9 (i1, i2, μ) h3) ha) h
  exact key
def p_X5_rows (i0 : Int32) (μ : fw_M) (Q : Int32 → fw_M → Prop) : Prop :=
  p_X5_rows_L4 i0 (1 : Int32) (2 : Int32) μ Q
set_option maxHeartbeats 4000000 in
theorem w_X5_rows {g : fw_G} {f bc bs : Nat} {i0 : Int32} {μ : fw_M} {Q : Int32 → fw_M → Prop} (hf : 1 ≤ f) (h : p_X5_rows i0 μ Q) : fw_C g f bc bs yX5_rows (ws_ yX5_rows cX5_rows 3 (some .int)) [Value.int i0] μ (fw_Qi Q) fw_nX := by
  unfold p_X5_rows at h
  refine fw_intro' (Ls := [(0, Value.int i0)]) (by decide +kernel) (by simp [lg_sl, fw_cat, fw_ci, fw_clo]) (by simp [lv_args, fw_cat, fw_ci, fw_clo]) ?_
  show fw_V g K_X5_rows f bc bs 0 [(0, Value.int i0)] [] μ (fw_Qi Q) fw_nX
  refine fw_iconst (v := 1) dX5_rows_0 (by decide) ?_
  refine fw_istore_nN (Ls' := [(1, Value.int (1 : Int32)), (0, Value.int i0)]) [] dX5_rows_1 rfl (by decide) rfl rfl rfl rfl rfl ?_
  refine fw_iconst (v := 2) dX5_rows_2 (by decide) ?_
  refine fw_istore_nN (Ls' := [(2, Value.int (2 : Int32)), (1, Value.int (1 : Int32)), (0, Value.int i0)]) [1] dX5_rows_3 rfl (by decide) rfl rfl rfl rfl rfl ?_
  refine fw_ls [2, 1, 0] rfl ?_
  exact w_X5_rows_L4 hf h
abbrev K_X5_laysOrder : fw_Kt := (RX5, "laysOrder", cX5_laysOrder, 8, none, [])
def p_X5_laysOrder_L58 (k8 : Int32 → Int32 → Int32 → fw_M → Prop) (k42 : Int32 → Int32 → fw_M → Prop) (r0 : Nat) (i1 : Int32) (i3 : Int32) (i4 : Int32) (i5 : Int32) (i6 : Int32) (i7 : Int32) (μ : fw_M) (Q : fw_M → Prop) : Prop :=
  (if ((i4 >>> (i7 &&& 31)) &&& (1 : Int32)) = (1 : Int32) then
  ((∀ i6_6 : Int32, i6_6 = (i6 - (0 : Int32)) →
   (∀ i7_8 : Int32, i7_8 = i7 + (1 : Int32) →
   k42 i6_6 i7_8 μ)))
  else
  ((∀ i6_2 : Int32, i6_2 = (i6 - (1 : Int32)) →
   (∀ i7_4 : Int32, i7_4 = i7 + (1 : Int32) →
   k42 i6_2 i7_4 μ))))
set_option maxHeartbeats 4000000 in
theorem w_X5_laysOrder_L58 {g : fw_G} {f bc bs : Nat} {k8 : Int32 → Int32 → Int32 → fw_M → Prop} {k42 : Int32 → Int32 → fw_M → Prop} {r0 : Nat} {i1 : Int32} {i3 : Int32} {i4 : Int32} {i5 : Int32} {i6 : Int32} {i7 : Int32} {μ : fw_M} {Q : fw_M → Prop} (hf : 2 ≤ f) (hk8 : ∀ {i3 : Int32} {i4 : Int32} {i5 : Int32} {μ : fw_M}, m_K μ r0 = 6 → k8 i3 i4 i5 μ → fw_V g K_X5_laysOrder f bc bs 8 [(0, fw_rv g r0), (1, Value.int i1), (3, Value.int i3), (4, Value.int i4), (5, Value.int i5)] [] μ (fw_Qv Q) fw_nX) (hk42 : ∀ {i6 : Int32} {i7 : Int32} {μ : fw_M}, m_K μ r0 = 6 → k42 i6 i7 μ → fw_V g K_X5_laysOrder f bc bs 42 [(0, fw_rv g r0), (1, Value.int i1), (3, Value.int i3), (4, Value.int i4), (5, Value.int i5), (6, Value.int i6), (7, Value.int i7)] [] μ (fw_Qv Q) fw_nX) (hx : m_K μ r0 = 6) (h : p_X5_laysOrder_L58 k8 k42 r0 i1 i3 i4 i5 i6 i7 μ Q) : fw_V g K_X5_laysOrder f bc bs 58 [(0, fw_rv g r0), (1, Value.int i1), (3, Value.int i3), (4, Value.int i4), (5, Value.int i5), (6, Value.int i6), (7, Value.int i7)] [] μ (fw_Qv Q) fw_nX := by
  unfold p_X5_laysOrder_L58 at h
  refine fw_iload dX5_laysOrder_58 rfl ?_
  refine fw_iload dX5_laysOrder_60 rfl ?_
  refine fw_iload dX5_laysOrder_62 rfl ?_
  refine fw_ishr dX5_laysOrder_64 ?_
  refine fw_iconst (v := 1) dX5_laysOrder_65 (by decide) ?_
  refine fw_iand dX5_laysOrder_66 ?_
  refine fw_iconst (v := 1) dX5_laysOrder_67 (by decide) ?_
  refine fw_icmp_ne (tgt := 75) dX5_laysOrder_68 (by decide) (fun c1 => ?_) (fun c1 => ?_)
  · have h := fw_if h c1
    refine fw_iconst (v := 1) dX5_laysOrder_75 (by decide) ?_
    refine fw_isub dX5_laysOrder_76 ?_
    refine fw_topi (fun i6_2 e3 => ?_)
    have h := h i6_2 e3
    refine fw_istoreN (Ls' := [(6, Value.int i6_2), (5, Value.int i5), (0, fw_rv g r0), (1, Value.int i1), (3, Value.int i3), (4, Value.int i4), (7, Value.int i7)]) [0, 1, 2, 3, 6] dX5_laysOrder_77 (by decide) rfl rfl rfl rfl rfl ?_
    obtain ⟨i7_4, e5⟩ : ∃ y : Int32, y = i7 + (1 : Int32) := ⟨_, rfl⟩
    have h := h i7_4 e5
    refine fw_iincN (k := 6) (v := i7_4) (Ls' := [(7, Value.int i7_4), (6, Value.int i6_2), (5, Value.int i5), (0, fw_rv g r0), (1, Value.int i1), (3, Value.int i3), (4, Value.int i4)]) [1, 2, 3, 4, 5] dX5_laysOrder_79 rfl (by rw [e5]; rfl) (by decide) rfl rfl rfl rfl rfl ?_
    refine fw_goto (tgt := 42) dX5_laysOrder_82 (by decide) ?_
    refine fw_ls [3, 4, 5, 6, 2, 1, 0] rfl ?_
    exact hk42 hx h
  · have h := fw_it h c1
    refine fw_iconst (v := 0) dX5_laysOrder_71 (by decide) ?_
    refine fw_goto (tgt := 76) dX5_laysOrder_72 (by decide) ?_
    refine fw_isub dX5_laysOrder_76 ?_
    refine fw_topi (fun i6_6 e7 => ?_)
    have h := h i6_6 e7
    refine fw_istoreN (Ls' := [(6, Value.int i6_6), (5, Value.int i5), (0, fw_rv g r0), (1, Value.int i1), (3, Value.int i3), (4, Value.int i4), (7, Value.int i7)]) [0, 1, 2, 3, 6] dX5_laysOrder_77 (by decide) rfl rfl rfl rfl rfl ?_
    obtain ⟨i7_8, e9⟩ : ∃ y : Int32, y = i7 + (1 : Int32) := ⟨_, rfl⟩
    have h := h i7_8 e9
    refine fw_iincN (k := 6) (v := i7_8) (Ls' := [(7, Value.int i7_8), (6, Value.int i6_6), (5, Value.int i5), (0, fw_rv g r0), (1, Value.int i1), (3, Value.int i3), (4, Value.int i4)]) [1, 2, 3, 4, 5] dX5_laysOrder_79 rfl (by rw [e9]; rfl) (by decide) rfl rfl rfl rfl rfl ?_
    refine fw_goto (tgt := 42) dX5_laysOrder_82 (by decide) ?_
    refine fw_ls [3, 4, 5, 6, 2, 1, 0] rfl ?_
    exact hk42 hx h
def p_X5_laysOrder_L42b (k8 : Int32 → Int32 → Int32 → fw_M → Prop) (r0 : Nat) (i1 : Int32) (i3 : Int32) (i4 : Int32) (i5 : Int32) (k42 : Int32 → Int32 → fw_M → Prop) (i6 : Int32) (i7 : Int32) (μ : fw_M) (Q : fw_M → Prop) : Prop :=
  (if ((i4 >>> (i7 &&& 31)) &&& (1 : Int32)) = (1 : Int32) then
  (p_X5_laysOrder_L58 k8 k42 r0 i1 i3 i4 i5 i6 i7 μ Q)
  else
  ((if i6 ≤ 0 then
   ((∀ i4_3 : Int32, i4_3 = (i4 ||| ((1 : Int32) <<< (i7 &&& 31))) →
    (m_K μ (m_P μ r0 42) = 100 ∧ (vp_in i7 (m_N μ (m_P μ r0 42)) ∧ (m_K μ (m_P μ r0 43) = 100 ∧ (vp_in i5 (m_N μ (m_P μ r0 43)) ∧ (∀ μ9, μ9 = m_uI μ (m_P μ r0 43) i5.toNatClampNeg (m_I μ (m_P μ r0 42) i7.toNatClampNeg) →
    (∀ i5_10 : Int32, i5_10 = i5 + (1 : Int32) →
    k8 i3 i4_3 i5_10 μ9))))))))
   else
   (p_X5_laysOrder_L58 k8 k42 r0 i1 i3 i4 i5 i6 i7 μ Q))))
def p_X5_laysOrder_L42 (k8 : Int32 → Int32 → Int32 → fw_M → Prop) (r0 : Nat) (i1 : Int32) (i3 : Int32) (i4 : Int32) (i5 : Int32) (i6 : Int32) (i7 : Int32) (μ : fw_M) (Q : fw_M → Prop) : Prop := fw_lp (fun (k : Int32 × Int32 × fw_M → Prop) (a : Int32 × Int32 × fw_M) => p_X5_laysOrder_L42b k8 r0 i1 i3 i4 i5 (fun i6 i7 μ => k (i6, i7, μ)) a.1 a.2.1 a.2.2 Q) (i6, i7, μ)
theorem r_X5_laysOrder_L42 {k8 : Int32 → Int32 → Int32 → fw_M → Prop} {r0 : Nat} {i1 : Int32} {i3 : Int32} {i4 : Int32} {i5 : Int32} {Q : fw_M → Prop} (I : Int32 → Int32 → fw_M → Prop) (v : Int32 → Int32 → fw_M → Nat) (hs : ∀ (k : Int32 → Int32 → fw_M → Prop) (i6 : Int32) (i7 : Int32) (μ : fw_M), I i6 i7 μ → (∀ (i6' : Int32) (i7' : Int32) (ν : fw_M), I i6' i7' ν → v i6' i7' ν < v i6 i7 μ → k i6' i7' ν) → p_X5_laysOrder_L42b k8 r0 i1 i3 i4 i5 k i6 i7 μ Q) (i6 : Int32) (i7 : Int32) (μ : fw_M) (h : I i6 i7 μ) : p_X5_laysOrder_L42 k8 r0 i1 i3 i4 i5 i6 i7 μ Q :=
  fw_lp_in (A := Int32 × Int32 × fw_M) (fun a => I a.1 a.2.1 a.2.2) (fun a => v a.1 a.2.1 a.2.2) (fun k a ha hk => hs (fun i6 i7 μ => k (i6, i7, μ)) a.1 a.2.1 a.2.2 ha (fun i6' i7' ν hb hlt => hk (i6', i7', ν) hb hlt)) (i6, i7, μ) h
set_option maxHeartbeats 4000000 in
theorem w_X5_laysOrder_L42b {g : fw_G} {f bc bs : Nat} {k8 : Int32 → Int32 → Int32 → fw_M → Prop} {r0 : Nat} {i1 : Int32} {i3 : Int32} {i4 : Int32} {i5 : Int32} {k42 : Int32 → Int32 → fw_M → Prop} {i6 : Int32} {i7 : Int32} {μ : fw_M} {Q : fw_M → Prop} (hf : 2 ≤ f) (hk8 : ∀ {i3 : Int32} {i4 : Int32} {i5 : Int32} {μ : fw_M}, m_K μ r0 = 6 → k8 i3 i4 i5 μ → fw_V g K_X5_laysOrder f bc bs 8 [(0, fw_rv g r0), (1, Value.int i1), (3, Value.int i3), (4, Value.int i4), (5, Value.int i5)] [] μ (fw_Qv Q) fw_nX) (hk42 : ∀ {i6 : Int32} {i7 : Int32} {μ : fw_M}, m_K μ r0 = 6 → k42 i6 i7 μ → fw_V g K_X5_laysOrder f bc bs 42 [(0, fw_rv g r0), (1, Value.int i1), (3, Value.int i3), (4, Value.int i4), (5, Value.int i5), (6, Value.int i6), (7, Value.int i7)] [] μ (fw_Qv Q) fw_nX) (hx : m_K μ r0 = 6) (h : p_X5_laysOrder_L42b k8 r0 i1 i3 i4 i5 k42 i6 i7 μ Q) : fw_V g K_X5_laysOrder f bc bs 42 [(0, fw_rv g r0), (1, Value.int i1), (3, Value.int i3), (4, Value.int i4), (5, Value.int i5), (6, Value.int i6), (7, Value.int i7)] [] μ (fw_Qv Q) fw_nX := by
  unfold p_X5_laysOrder_L42b at h
  refine fw_iload dX5_laysOrder_42 rfl ?_
  refine fw_iload dX5_laysOrder_44 rfl ?_
  refine fw_ishr dX5_laysOrder_46 ?_
  refine fw_iconst (v := 1) dX5_laysOrder_47 (by decide) ?_
  refine fw_iand dX5_laysOrder_48 ?_
  refine fw_iconst (v := 1) dX5_laysOrder_49 (by decide) ?_
  refine fw_icmp_eq (tgt := 58) dX5_laysOrder_50 (by decide) (fun c1 => ?_) (fun c1 => ?_)
  · have h := fw_it h c1
    exact w_X5_laysOrder_L58 hf hk8 hk42 hx h
  · have h := fw_if h c1
    refine fw_iload dX5_laysOrder_53 rfl ?_
    refine fw_if_le (tgt := 85) dX5_laysOrder_55 (by decide) (fun c2 => ?_) (fun c2 => ?_)
    · have h := fw_it h c2
      refine fw_iload dX5_laysOrder_85 rfl ?_
      refine fw_iconst (v := 1) dX5_laysOrder_87 (by decide) ?_
      refine fw_iload dX5_laysOrder_88 rfl ?_
      refine fw_ishl dX5_laysOrder_90 ?_
      refine fw_ior dX5_laysOrder_91 ?_
      refine fw_topi (fun i4_3 e4 => ?_)
      have h := h i4_3 e4
      refine fw_istoreN (Ls' := [(4, Value.int i4_3), (3, Value.int i3), (0, fw_rv g r0), (1, Value.int i1), (5, Value.int i5), (6, Value.int i6), (7, Value.int i7)]) [0, 1, 4, 5, 6] dX5_laysOrder_92 (by decide) rfl rfl rfl rfl rfl ?_
      refine fw_aload_n dX5_laysOrder_94 rfl rfl ?_
      refine fw_getfP fl_X5_94 rfl hx dX5_laysOrder_95 ?_
      refine fw_iload dX5_laysOrder_98 rfl ?_
      refine fw_aload_n dX5_laysOrder_100 rfl rfl ?_
      refine fw_getfP fl_X5_91 rfl hx dX5_laysOrder_101 ?_
      refine fw_iload dX5_laysOrder_104 rfl ?_
      obtain ⟨hg5, h⟩ := h
      obtain ⟨hc6, h⟩ := h
      refine fw_iald hg5 hc6 dX5_laysOrder_106 ?_
      obtain ⟨hg7, h⟩ := h
      obtain ⟨hc8, h⟩ := h
      refine fw_iast hg7 hc8 dX5_laysOrder_107 ?_
      have h := h _ rfl
      obtain ⟨i5_10, e11⟩ : ∃ y : Int32, y = i5 + (1 : Int32) := ⟨_, rfl⟩
      have h := h i5_10 e11
      refine fw_iincN (k := 4) (v := i5_10) (Ls' := [(5, Value.int i5_10), (4, Value.int i4_3), (3, Value.int i3), (0, fw_rv g r0), (1, Value.int i1), (6, Value.int i6), (7, Value.int i7)]) [1, 2, 3, 5, 6] dX5_laysOrder_108 rfl (by rw [e11]; rfl) (by decide) rfl rfl rfl rfl rfl ?_
      refine fw_goto (tgt := 8) dX5_laysOrder_111 (by decide) ?_
      refine fw_ls [3, 4, 2, 1, 0] rfl ?_
      exact hk8 hx h
    · have h := fw_if h c2
      exact w_X5_laysOrder_L58 hf hk8 hk42 hx h
theorem w_X5_laysOrder_L42 {g : fw_G} {f bc bs : Nat} {k8 : Int32 → Int32 → Int32 → fw_M → Prop} {r0 : Nat} {i1 : Int32} {i3 : Int32} {i4 : Int32} {i5 : Int32} {i6 : Int32} {i7 : Int32} {μ : fw_M} {Q : fw_M → Prop} (hf : 2 ≤ f) (hk8 : ∀ {i3 : Int32} {i4 : Int32} {i5 : Int32} {μ : fw_M}, m_K μ r0 = 6 → k8 i3 i4 i5 μ → fw_V g K_X5_laysOrder f bc bs 8 [(0, fw_rv g r0), (1, Value.int i1), (3, Value.int i3), (4, Value.int i4), (5, Value.int i5)] [] μ (fw_Qv Q) fw_nX) (hx : m_K μ r0 = 6) (h : p_X5_laysOrder_L42 k8 r0 i1 i3 i4 i5 i6 i7 μ Q) : fw_V g K_X5_laysOrder f bc bs 42 [(0, fw_rv g r0), (1, Value.int i1), (3, Value.int i3), (4, Value.int i4), (5, Value.int i5), (6, Value.int i6), (7, Value.int i7)] [] μ (fw_Qv Q) fw_nX := by
  have key := fw_lp_out (R := fun (a : Int32 × Int32 × fw_M) => m_K a.2.2 r0 = 6 → fw_V g K_X5_laysOrder f bc bs 42 [(0, fw_rv g r0), (1, Value.int i1), (3, Value.int i3), (4, Value.int i4), (5, Value.int i5), (6, Value.int a.1), (7, Value.int a.2.1)] [] a.2.2 (fw_Qv Q) fw_nX) (fun k hk9 a ha hx2 => w_X5_laysOrder_L42b hf hk8 (fun {i6 i7} {μ} hx3 h3 => hk9 (i6, i7, μ) h3 hx3) hx2 ha) h
  exact key hx
def p_X5_laysOrder_L8b (r0 : Nat) (i1 : Int32) (k8 : Int32 → Int32 → Int32 → fw_M → Prop) (i3 : Int32) (i4 : Int32) (i5 : Int32) (μ : fw_M) (Q : fw_M → Prop) : Prop :=
  (if i1 ≤ i5 then
  (Q μ)
  else
  ((p_X5_rows ((i1 - (1 : Int32)) - i5) μ (fun v2 μ3 =>
   (¬ v2 = 0 ∧ (∀ i6_7 : Int32, i6_7 = (i3 / v2) →
   (p_X5_rows ((i1 - (1 : Int32)) - i5) μ3 (fun v9 μ10 =>
   (¬ v9 = 0 ∧ (∀ i3_14 : Int32, i3_14 = (i3 - i3 / v9 * v9) →
   p_X5_laysOrder_L42 k8 r0 i1 i3_14 i4 i5 i6_7 (0 : Int32) μ10 Q))))))))))
def p_X5_laysOrder_L8 (r0 : Nat) (i1 : Int32) (i3 : Int32) (i4 : Int32) (i5 : Int32) (μ : fw_M) (Q : fw_M → Prop) : Prop := fw_lp (fun (k : Int32 × Int32 × Int32 × fw_M → Prop) (a : Int32 × Int32 × Int32 × fw_M) => p_X5_laysOrder_L8b r0 i1 (fun i3 i4 i5 μ => k (i3, i4, i5, μ)) a.1 a.2.1 a.2.2.1 a.2.2.2 Q) (i3, i4, i5, μ)
theorem r_X5_laysOrder_L8 {r0 : Nat} {i1 : Int32} {Q : fw_M → Prop} (I : Int32 → Int32 → Int32 → fw_M → Prop) (v : Int32 → Int32 → Int32 → fw_M → Nat) (hs : ∀ (k : Int32 → Int32 → Int32 → fw_M → Prop) (i3 : Int32) (i4 : Int32) (i5 : Int32) (μ : fw_M), I i3 i4 i5 μ → (∀ (i3' : Int32) (i4' : Int32) (i5' : Int32) (ν : fw_M), I i3' i4' i5' ν → v i3' i4' i5' ν < v i3 i4 i5 μ → k i3' i4' i5' ν) → p_X5_laysOrder_L8b r0 i1 k i3 i4 i5 μ Q) (i3 : Int32) (i4 : Int32) (i5 : Int32) (μ : fw_M) (h : I i3 i4 i5 μ) : p_X5_laysOrder_L8 r0 i1 i3 i4 i5 μ Q :=
  fw_lp_in (A := Int32 × Int32 × Int32 × fw_M) (fun a => I a.1 a.2.1 a.2.2.1 a.2.2.2) (fun a => v a.1 a.2.1 a.2.2.1 a.2.2.2) (fun k a ha hk => hs (fun i3 i4 i5 μ => k (i3, i4, i5, μ)) a.1 a.2.1 a.2.2.1 a.2.2.2 ha (fun i3' i4' i5' ν hb hlt => hk (i3', i4', i5', ν) hb hlt)) (i3, i4, i5, μ) h
set_option maxHeartbeats 4000000 in
theorem w_X5_laysOrder_L8b {g : fw_G} {f bc bs : Nat} {r0 : Nat} {i1 : Int32} {k8 : Int32 → Int32 → Int32 → fw_M → Prop} {i3 : Int32} {i4 : Int32} {i5 : Int32} {μ : fw_M} {Q : fw_M → Prop} (hf : 2 ≤ f) (hk8 : ∀ {i3 : Int32} {i4 : Int32} {i5 : Int32} {μ : fw_M}, m_K μ r0 = 6 → k8 i3 i4 i5 μ → fw_V g K_X5_laysOrder f bc bs 8 [(0, fw_rv g r0), (1, Value.int i1), (3, Value.int i3), (4, Value.int i4), (5, Value.int i5)] [] μ (fw_Qv Q) fw_nX) (hx : m_K μ r0 = 6) (h : p_X5_laysOrder_L8b r0 i1 k8 i3 i4 i5 μ Q) : fw_V g K_X5_laysOrder f bc bs 8 [(0, fw_rv g r0), (1, Value.int i1), (3, Value.int i3), (4, Value.int i4), (5, Value.int i5)] [] μ (fw_Qv Q) fw_nX := by
  unfold p_X5_laysOrder_L8b at h
  refine fw_iload dX5_laysOrder_8 rfl ?_
  refine fw_iload_n dX5_laysOrder_10 rfl rfl ?_
  refine fw_icmp_ge (tgt := 114) dX5_laysOrder_11 (by decide) (fun c1 => ?_) (fun c1 => ?_)
  · have h := fw_it h c1
    exact fw_return dX5_laysOrder_114 rfl ⟨rfl, h⟩
  · have h := fw_if h c1
    refine fw_iload_n dX5_laysOrder_14 rfl rfl ?_
    refine fw_iload_n dX5_laysOrder_15 rfl rfl ?_
    refine fw_iconst (v := 1) dX5_laysOrder_16 (by decide) ?_
    refine fw_isub dX5_laysOrder_17 ?_
    refine fw_iload dX5_laysOrder_18 rfl ?_
    refine fw_isub dX5_laysOrder_20 ?_
    refine fw_callS1z (f1 := f - 1) cl_X5_370 (by decide) (by omega) (fw_s4 (Nat.le_of_ble_eq_true rfl)) dX5_laysOrder_21 (w_X5_rows (f := f - 1) (by omega) h) (fun _ _ h9 _ _ => h9.elim) (fun v9 μ3 q9 hs4 => ?_)
    obtain ⟨v2, rfl, h⟩ := q9
    refine fw_ti ?_
    have hg5 := hs4.K hx (by decide)
    obtain ⟨hc6, h⟩ := h
    refine fw_idiv dX5_laysOrder_24 hc6 ?_
    refine fw_topi (fun i6_7 e8 => ?_)
    have h := h i6_7 e8
    refine fw_istoreN (Ls' := [(6, Value.int i6_7), (5, Value.int i5), (0, fw_rv g r0), (1, Value.int i1), (3, Value.int i3), (4, Value.int i4)]) [0, 1, 2, 3] dX5_laysOrder_25 (by decide) rfl rfl rfl rfl rfl ?_
    refine fw_iload_n dX5_laysOrder_27 rfl rfl ?_
    refine fw_iload_n dX5_laysOrder_28 rfl rfl ?_
    refine fw_iconst (v := 1) dX5_laysOrder_29 (by decide) ?_
    refine fw_isub dX5_laysOrder_30 ?_
    refine fw_iload dX5_laysOrder_31 rfl ?_
    refine fw_isub dX5_laysOrder_33 ?_
    refine fw_callS1z (f1 := f - 1) cl_X5_370 (by decide) (by omega) (fw_s4 (Nat.le_of_ble_eq_true rfl)) dX5_laysOrder_34 (w_X5_rows (f := f - 1) (by omega) h) (fun _ _ h9 _ _ => h9.elim) (fun v9 μ10 q9 hs11 => ?_)
    obtain ⟨v9, rfl, h⟩ := q9
    refine fw_ti ?_
    have hg12 := hs11.K hg5 (by decide)
    obtain ⟨hc13, h⟩ := h
    refine fw_irem dX5_laysOrder_37 hc13 ?_
    refine fw_topi (fun i3_14 e15 => ?_)
    have h := h i3_14 e15
    refine fw_istore_n (Ls' := [(3, Value.int i3_14), (6, Value.int i6_7), (5, Value.int i5), (0, fw_rv g r0), (1, Value.int i1), (4, Value.int i4)]) [0, 1, 2, 3, 5] dX5_laysOrder_38 rfl (by decide) rfl rfl ?_
    refine fw_iconst (v := 0) dX5_laysOrder_39 (by decide) ?_
    refine fw_istoreN (Ls' := [(7, Value.int (0 : Int32)), (6, Value.int i6_7), (3, Value.int i3_14), (5, Value.int i5), (0, fw_rv g r0), (1, Value.int i1), (4, Value.int i4)]) [0, 2, 3, 4, 5] dX5_laysOrder_40 (by decide) rfl rfl rfl rfl rfl ?_
    refine fw_ls [4, 5, 2, 6, 3, 1, 0] rfl ?_
    exact w_X5_laysOrder_L42 hf hk8 hg12 h
theorem w_X5_laysOrder_L8 {g : fw_G} {f bc bs : Nat} {r0 : Nat} {i1 : Int32} {i3 : Int32} {i4 : Int32} {i5 : Int32} {μ : fw_M} {Q : fw_M → Prop} (hf : 2 ≤ f) (hx : m_K μ r0 = 6) (h : p_X5_laysOrder_L8 r0 i1 i3 i4 i5 μ Q) : fw_V g K_X5_laysOrder f bc bs 8 [(0, fw_rv g r0), (1, Value.int i1), (3, Value.int i3), (4, Value.int i4), (5, Value.int i5)] [] μ (fw_Qv Q) fw_nX := by
  have key := fw_lp_out (R := fun (a : Int32 × Int32 × Int32 × fw_M) => m_K a.2.2.2 r0 = 6 → fw_V g K_X5_laysOrder f bc bs 8 [(0, fw_rv g r0), (1, Value.int i1), (3, Value.int a.1), (4, Value.int a.2.1), (5, Value.int a.2.2.1)] [] a.2.2.2 (fw_Qv Q) fw_nX) (fun k hk9 a ha hx2 => w_X5_laysOrder_L8b hf (fun {i3 i4 i5} {μ} hx3 h3 => hk9 (i3, i4, i5, μ) h3 hx3) hx2 ha) h
  exact key hx
def p_X5_laysOrder (r0 : Nat) (i1 : Int32) (i2 : Int32) (μ : fw_M) (Q : fw_M → Prop) : Prop :=
  p_X5_laysOrder_L8 r0 i1 i2 (0 : Int32) (0 : Int32) μ Q
set_option maxHeartbeats 4000000 in
theorem w_X5_laysOrder {g : fw_G} {f bc bs : Nat} {r0 : Nat} {i1 : Int32} {i2 : Int32} {μ : fw_M} {Q : fw_M → Prop} (hf : 2 ≤ f) (hx : m_K μ r0 = 6) (h : p_X5_laysOrder r0 i1 i2 μ Q) : fw_C g f bc bs yX5_laysOrder (ws_ yX5_laysOrder cX5_laysOrder 8 (none)) [fw_rv g r0, Value.int i1, Value.int i2] μ (fw_Qv Q) fw_nX := by
  unfold p_X5_laysOrder at h
  refine fw_intro' (Ls := [(0, fw_rv g r0), (1, Value.int i1), (2, Value.int i2)]) (by decide +kernel) (by simp [lg_sl, fw_cat, fw_ci, fw_clo]) (by simp [lv_args, fw_cat, fw_ci, fw_clo]) ?_
  show fw_V g K_X5_laysOrder f bc bs 0 [(0, fw_rv g r0), (1, Value.int i1), (2, Value.int i2)] [] μ (fw_Qv Q) fw_nX
  refine fw_iload_n dX5_laysOrder_0 rfl rfl ?_
  refine fw_istore_nN (Ls' := [(3, Value.int i2), (2, Value.int i2), (0, fw_rv g r0), (1, Value.int i1)]) [0, 1] dX5_laysOrder_1 rfl (by decide) rfl rfl rfl rfl rfl ?_
  refine fw_iconst (v := 0) dX5_laysOrder_2 (by decide) ?_
  refine fw_istoreN (Ls' := [(4, Value.int (0 : Int32)), (3, Value.int i2), (2, Value.int i2), (0, fw_rv g r0), (1, Value.int i1)]) [1, 2, 3] dX5_laysOrder_3 (by decide) rfl rfl rfl rfl rfl ?_
  refine fw_iconst (v := 0) dX5_laysOrder_5 (by decide) ?_
  refine fw_istoreN (Ls' := [(5, Value.int (0 : Int32)), (4, Value.int (0 : Int32)), (3, Value.int i2), (2, Value.int i2), (0, fw_rv g r0), (1, Value.int i1)]) [1, 2, 3, 4] dX5_laysOrder_6 (by decide) rfl rfl rfl rfl rfl ?_
  refine fw_ls [4, 5, 2, 1, 0] rfl ?_
  exact w_X5_laysOrder_L8 hf hx h
abbrev K_X5_size : fw_Kt := (RX5, "size", cX5_size, 1, some .int, [])
def p_X5_size (i0 : Int32) (μ : fw_M) (Q : Int32 → fw_M → Prop) : Prop :=
  (if 0 ≤ i0 then
  (Q i0 μ)
  else
  (Q (-i0) μ))
set_option maxHeartbeats 4000000 in
theorem w_X5_size {g : fw_G} {f bc bs : Nat} {i0 : Int32} {μ : fw_M} {Q : Int32 → fw_M → Prop} (hf : 1 ≤ f) (h : p_X5_size i0 μ Q) : fw_C g f bc bs yX5_size (ws_ yX5_size cX5_size 1 (some .int)) [Value.int i0] μ (fw_Qi Q) fw_nX := by
  unfold p_X5_size at h
  refine fw_intro' (Ls := [(0, Value.int i0)]) (by decide +kernel) (by simp [lg_sl, fw_cat, fw_ci, fw_clo]) (by simp [lv_args, fw_cat, fw_ci, fw_clo]) ?_
  show fw_V g K_X5_size f bc bs 0 [(0, Value.int i0)] [] μ (fw_Qi Q) fw_nX
  refine fw_iload_n dX5_size_0 rfl rfl ?_
  refine fw_if_ge (tgt := 9) dX5_size_1 (by decide) (fun c1 => ?_) (fun c1 => ?_)
  · have h := fw_it h c1
    refine fw_iload_n dX5_size_9 rfl rfl ?_
    exact fw_ireturn dX5_size_10 rfl rfl ⟨_, rfl, h⟩
  · have h := fw_if h c1
    refine fw_iload_n dX5_size_4 rfl rfl ?_
    refine fw_ineg dX5_size_5 ?_
    refine fw_goto (tgt := 10) dX5_size_6 (by decide) ?_
    exact fw_ireturn dX5_size_10 rfl rfl ⟨_, rfl, h⟩
abbrev K_X5_called : fw_Kt := (RX5, "called", cX5_called, 10, some .int, [])
def p_X5_called_L209b (k123 : Int32 → Int32 → Int32 → fw_M → Prop) (r0 : Nat) (i2 : Int32) (i3 : Int32) (i4 : Int32) (i5 : Int32) (i6 : Int32) (i7 : Int32) (k209 : Int32 → fw_M → Prop) (i9 : Int32) (μ : fw_M) (Q : Int32 → fw_M → Prop) : Prop :=
  (if i4 ≤ i9 then
  ((∀ i7_2 : Int32, i7_2 = i7 + (1 : Int32) →
   k123 i5 i6 i7_2 μ))
  else
  ((m_K μ (m_P μ r0 43) = 100 ∧ (vp_in i9 (m_N μ (m_P μ r0 43)) ∧ (m_K μ (m_P μ r0 44) = 100 ∧ (vp_in i9 (m_N μ (m_P μ r0 44)) ∧ (∀ μ8, μ8 = m_uI μ (m_P μ r0 44) i9.toNatClampNeg (m_I μ (m_P μ r0 43) i9.toNatClampNeg) →
   (∀ i9_9 : Int32, i9_9 = i9 + (1 : Int32) →
   k209 i9_9 μ8))))))))
def p_X5_called_L209 (k123 : Int32 → Int32 → Int32 → fw_M → Prop) (r0 : Nat) (i2 : Int32) (i3 : Int32) (i4 : Int32) (i5 : Int32) (i6 : Int32) (i7 : Int32) (i9 : Int32) (μ : fw_M) (Q : Int32 → fw_M → Prop) : Prop := fw_lp (fun (k : Int32 × fw_M → Prop) (a : Int32 × fw_M) => p_X5_called_L209b k123 r0 i2 i3 i4 i5 i6 i7 (fun i9 μ => k (i9, μ)) a.1 a.2 Q) (i9, μ)
theorem r_X5_called_L209 {k123 : Int32 → Int32 → Int32 → fw_M → Prop} {r0 : Nat} {i2 : Int32} {i3 : Int32} {i4 : Int32} {i5 : Int32} {i6 : Int32} {i7 : Int32} {Q : Int32 → fw_M → Prop} (I : Int32 → fw_M → Prop) (v : Int32 → fw_M → Nat) (hs : ∀ (k : Int32 → fw_M → Prop) (i9 : Int32) (μ : fw_M), I i9 μ → (∀ (i9' : Int32) (ν : fw_M), I i9' ν → v i9' ν < v i9 μ → k i9' ν) → p_X5_called_L209b k123 r0 i2 i3 i4 i5 i6 i7 k i9 μ Q) (i9 : Int32) (μ : fw_M) (h : I i9 μ) : p_X5_called_L209 k123 r0 i2 i3 i4 i5 i6 i7 i9 μ Q :=
  fw_lp_in (A := Int32 × fw_M) (fun a => I a.1 a.2) (fun a => v a.1 a.2) (fun k a ha hk => hs (fun i9 μ => k (i9, μ)) a.1 a.2 ha (fun i9' ν hb hlt => hk (i9', ν) hb hlt)) (i9, μ) h
set_option maxHeartbeats 4000000 in
theorem w_X5_called_L209b {g : fw_G} {f bc bs : Nat} {k123 : Int32 → Int32 → Int32 → fw_M → Prop} {r0 : Nat} {i2 : Int32} {i3 : Int32} {i4 : Int32} {i5 : Int32} {i6 : Int32} {i7 : Int32} {k209 : Int32 → fw_M → Prop} {i9 : Int32} {μ : fw_M} {Q : Int32 → fw_M → Prop} (hf : 7 ≤ f) (hk123 : ∀ {i5 : Int32} {i6 : Int32} {i7 : Int32} {μ : fw_M}, m_K μ r0 = 6 → k123 i5 i6 i7 μ → fw_V g K_X5_called f bc bs 123 [(0, fw_rv g r0), (2, Value.int i2), (3, Value.int i3), (4, Value.int i4), (5, Value.int i5), (6, Value.int i6), (7, Value.int i7)] [] μ (fw_Qi Q) fw_nX) (hk209 : ∀ {i9 : Int32} {μ : fw_M}, m_K μ r0 = 6 → k209 i9 μ → fw_V g K_X5_called f bc bs 209 [(0, fw_rv g r0), (2, Value.int i2), (3, Value.int i3), (4, Value.int i4), (5, Value.int i5), (6, Value.int i6), (7, Value.int i7), (9, Value.int i9)] [] μ (fw_Qi Q) fw_nX) (hx : m_K μ r0 = 6) (h : p_X5_called_L209b k123 r0 i2 i3 i4 i5 i6 i7 k209 i9 μ Q) : fw_V g K_X5_called f bc bs 209 [(0, fw_rv g r0), (2, Value.int i2), (3, Value.int i3), (4, Value.int i4), (5, Value.int i5), (6, Value.int i6), (7, Value.int i7), (9, Value.int i9)] [] μ (fw_Qi Q) fw_nX := by
  unfold p_X5_called_L209b at h
  refine fw_iload dX5_called_209 rfl ?_
  refine fw_iload dX5_called_211 rfl ?_
  refine fw_icmp_ge (tgt := 236) dX5_called_213 (by decide) (fun c1 => ?_) (fun c1 => ?_)
  · have h := fw_it h c1
    obtain ⟨i7_2, e3⟩ : ∃ y : Int32, y = i7 + (1 : Int32) := ⟨_, rfl⟩
    have h := h i7_2 e3
    refine fw_iincN (k := 6) (v := i7_2) (Ls' := [(7, Value.int i7_2), (6, Value.int i6), (0, fw_rv g r0), (2, Value.int i2), (3, Value.int i3), (4, Value.int i4), (5, Value.int i5), (9, Value.int i9)]) [0, 1, 2, 3, 4, 7] dX5_called_236 rfl (by rw [e3]; rfl) (by decide) rfl rfl rfl rfl rfl ?_
    refine fw_goto (tgt := 123) dX5_called_239 (by decide) ?_
    refine fw_ls [2, 3, 4, 5, 6, 1, 0] rfl ?_
    exact hk123 hx h
  · have h := fw_if h c1
    refine fw_aload_n dX5_called_216 rfl rfl ?_
    refine fw_getfP fl_X5_97 rfl hx dX5_called_217 ?_
    refine fw_iload dX5_called_220 rfl ?_
    refine fw_aload_n dX5_called_222 rfl rfl ?_
    refine fw_getfP fl_X5_94 rfl hx dX5_called_223 ?_
    refine fw_iload dX5_called_226 rfl ?_
    obtain ⟨hg4, h⟩ := h
    obtain ⟨hc5, h⟩ := h
    refine fw_iald hg4 hc5 dX5_called_228 ?_
    obtain ⟨hg6, h⟩ := h
    obtain ⟨hc7, h⟩ := h
    refine fw_iast hg6 hc7 dX5_called_229 ?_
    have h := h _ rfl
    obtain ⟨i9_9, e10⟩ : ∃ y : Int32, y = i9 + (1 : Int32) := ⟨_, rfl⟩
    have h := h i9_9 e10
    refine fw_iinc (k := 7) (v := i9_9) (Ls' := [(9, Value.int i9_9), (0, fw_rv g r0), (2, Value.int i2), (3, Value.int i3), (4, Value.int i4), (5, Value.int i5), (6, Value.int i6), (7, Value.int i7)]) [0, 1, 2, 3, 4, 5, 6] dX5_called_230 rfl (by rw [e10]; rfl) (by decide) rfl rfl ?_
    refine fw_goto (tgt := 209) dX5_called_233 (by decide) ?_
    refine fw_ls [1, 2, 3, 4, 5, 6, 7, 0] rfl ?_
    exact hk209 hx h
theorem w_X5_called_L209 {g : fw_G} {f bc bs : Nat} {k123 : Int32 → Int32 → Int32 → fw_M → Prop} {r0 : Nat} {i2 : Int32} {i3 : Int32} {i4 : Int32} {i5 : Int32} {i6 : Int32} {i7 : Int32} {i9 : Int32} {μ : fw_M} {Q : Int32 → fw_M → Prop} (hf : 7 ≤ f) (hk123 : ∀ {i5 : Int32} {i6 : Int32} {i7 : Int32} {μ : fw_M}, m_K μ r0 = 6 → k123 i5 i6 i7 μ → fw_V g K_X5_called f bc bs 123 [(0, fw_rv g r0), (2, Value.int i2), (3, Value.int i3), (4, Value.int i4), (5, Value.int i5), (6, Value.int i6), (7, Value.int i7)] [] μ (fw_Qi Q) fw_nX) (hx : m_K μ r0 = 6) (h : p_X5_called_L209 k123 r0 i2 i3 i4 i5 i6 i7 i9 μ Q) : fw_V g K_X5_called f bc bs 209 [(0, fw_rv g r0), (2, Value.int i2), (3, Value.int i3), (4, Value.int i4), (5, Value.int i5), (6, Value.int i6), (7, Value.int i7), (9, Value.int i9)] [] μ (fw_Qi Q) fw_nX := by
  have key := fw_lp_out (R := fun (a : Int32 × fw_M) => m_K a.2 r0 = 6 → fw_V g K_X5_called f bc bs 209 [(0, fw_rv g r0), (2, Value.int i2), (3, Value.int i3), (4, Value.int i4), (5, Value.int i5), (6, Value.int i6), (7, Value.int i7), (9, Value.int a.1)] [] a.2 (fw_Qi Q) fw_nX) (fun k hk9 a ha hx2 => w_X5_called_L209b hf hk123 (fun {i9} {μ} hx3 h3 => hk9 (i9, μ) h3 hx3) hx2 ha) h
  exact key hx
def p_X5_called_L199 (k123 : Int32 → Int32 → Int32 → fw_M → Prop) (r0 : Nat) (i2 : Int32) (i3 : Int32) (i4 : Int32) (i7 : Int32) (i8 : Int32) (μ : fw_M) (Q : Int32 → fw_M → Prop) : Prop :=
  p_X5_called_L209 k123 r0 i2 i3 i4 (1 : Int32) i8 i7 (0 : Int32) μ Q
set_option maxHeartbeats 4000000 in
theorem w_X5_called_L199 {g : fw_G} {f bc bs : Nat} {k123 : Int32 → Int32 → Int32 → fw_M → Prop} {r0 : Nat} {i2 : Int32} {i3 : Int32} {i4 : Int32} {i7 : Int32} {i8 : Int32} {μ : fw_M} {Q : Int32 → fw_M → Prop} (hf : 7 ≤ f) (hk123 : ∀ {i5 : Int32} {i6 : Int32} {i7 : Int32} {μ : fw_M}, m_K μ r0 = 6 → k123 i5 i6 i7 μ → fw_V g K_X5_called f bc bs 123 [(0, fw_rv g r0), (2, Value.int i2), (3, Value.int i3), (4, Value.int i4), (5, Value.int i5), (6, Value.int i6), (7, Value.int i7)] [] μ (fw_Qi Q) fw_nX) (hx : m_K μ r0 = 6) (h : p_X5_called_L199 k123 r0 i2 i3 i4 i7 i8 μ Q) : fw_V g K_X5_called f bc bs 199 [(0, fw_rv g r0), (2, Value.int i2), (3, Value.int i3), (4, Value.int i4), (7, Value.int i7), (8, Value.int i8)] [] μ (fw_Qi Q) fw_nX := by
  unfold p_X5_called_L199 at h
  refine fw_iconst (v := 1) dX5_called_199 (by decide) ?_
  refine fw_istoreN (Ls' := [(5, Value.int (1 : Int32)), (4, Value.int i4), (0, fw_rv g r0), (2, Value.int i2), (3, Value.int i3), (7, Value.int i7), (8, Value.int i8)]) [0, 1, 2, 4, 5] dX5_called_200 (by decide) rfl rfl rfl rfl rfl ?_
  refine fw_iload dX5_called_202 rfl ?_
  refine fw_istoreN (Ls' := [(6, Value.int i8), (5, Value.int (1 : Int32)), (4, Value.int i4), (0, fw_rv g r0), (2, Value.int i2), (3, Value.int i3), (7, Value.int i7), (8, Value.int i8)]) [1, 2, 3, 4, 5, 6] dX5_called_204 (by decide) rfl rfl rfl rfl rfl ?_
  refine fw_iconst (v := 0) dX5_called_206 (by decide) ?_
  refine fw_istoreN (Ls' := [(9, Value.int (0 : Int32)), (8, Value.int i8), (6, Value.int i8), (5, Value.int (1 : Int32)), (4, Value.int i4), (0, fw_rv g r0), (2, Value.int i2), (3, Value.int i3), (7, Value.int i7)]) [0, 1, 2, 3, 4, 5, 6] dX5_called_207 (by decide) rfl rfl rfl rfl rfl ?_
  refine fw_ls [5, 6, 7, 4, 3, 2, 8, 0] rfl ?_
  exact w_X5_called_L209 hf hk123 hx h
def p_X5_called_L148b (k123 : Int32 → Int32 → Int32 → fw_M → Prop) (r0 : Nat) (i2 : Int32) (i3 : Int32) (i4 : Int32) (i5 : Int32) (i6 : Int32) (i7 : Int32) (k148 : Int32 → fw_M → Prop) (i8 : Int32) (μ : fw_M) (Q : Int32 → fw_M → Prop) : Prop :=
  (if i4 ≤ i8 then
  ((p_X5_tilt r0 μ (fun v2 μ3 =>
   (if i5 = 0 then
   (p_X5_called_L199 k123 r0 i2 i3 i4 i7 v2 μ3 Q)
   else
   ((p_X5_size v2 μ3 (fun v7 μ8 =>
    (p_X5_size i6 μ8 (fun v11 μ12 =>
    (if v11 ≤ v7 then
    ((∀ i7_16 : Int32, i7_16 = i7 + (1 : Int32) →
     k123 i5 i6 i7_16 μ12))
    else
    (p_X5_called_L199 k123 r0 i2 i3 i4 i7 v2 μ12 Q)))))))))))
  else
  ((m_K μ (m_P μ r0 43) = 100 ∧ (vp_in i8 (m_N μ (m_P μ r0 43)) ∧ (p_X5_eats r0 (m_I μ (m_P μ r0 43) i8.toNatClampNeg) i2 μ (fun v20 μ21 =>
   (∀ i8_24 : Int32, i8_24 = i8 + (1 : Int32) →
   k148 i8_24 μ21)))))))
def p_X5_called_L148 (k123 : Int32 → Int32 → Int32 → fw_M → Prop) (r0 : Nat) (i2 : Int32) (i3 : Int32) (i4 : Int32) (i5 : Int32) (i6 : Int32) (i7 : Int32) (i8 : Int32) (μ : fw_M) (Q : Int32 → fw_M → Prop) : Prop := fw_lp (fun (k : Int32 × fw_M → Prop) (a : Int32 × fw_M) => p_X5_called_L148b k123 r0 i2 i3 i4 i5 i6 i7 (fun i8 μ => k (i8, μ)) a.1 a.2 Q) (i8, μ)
theorem r_X5_called_L148 {k123 : Int32 → Int32 → Int32 → fw_M → Prop} {r0 : Nat} {i2 : Int32} {i3 : Int32} {i4 : Int32} {i5 : Int32} {i6 : Int32} {i7 : Int32} {Q : Int32 → fw_M → Prop} (I : Int32 → fw_M → Prop) (v : Int32 → fw_M → Nat) (hs : ∀ (k : Int32 → fw_M → Prop) (i8 : Int32) (μ : fw_M), I i8 μ → (∀ (i8' : Int32) (ν : fw_M), I i8' ν → v i8' ν < v i8 μ → k i8' ν) → p_X5_called_L148b k123 r0 i2 i3 i4 i5 i6 i7 k i8 μ Q) (i8 : Int32) (μ : fw_M) (h : I i8 μ) : p_X5_called_L148 k123 r0 i2 i3 i4 i5 i6 i7 i8 μ Q :=
  fw_lp_in (A := Int32 × fw_M) (fun a => I a.1 a.2) (fun a => v a.1 a.2) (fun k a ha hk => hs (fun i8 μ => k (i8, μ)) a.1 a.2 ha (fun i8' ν hb hlt => hk (i8', ν) hb hlt)) (i8, μ) h
set_option maxHeartbeats 4000000 in
theorem w_X5_called_L148b {g : fw_G} {f bc bs : Nat} {k123 : Int32 → Int32 → Int32 → fw_M → Prop} {r0 : Nat} {i2 : Int32} {i3 : Int32} {i4 : Int32} {i5 : Int32} {i6 : Int32} {i7 : Int32} {k148 : Int32 → fw_M → Prop} {i8 : Int32} {μ : fw_M} {Q : Int32 → fw_M → Prop} (hf : 7 ≤ f) (hk123 : ∀ {i5 : Int32} {i6 : Int32} {i7 : Int32} {μ : fw_M}, m_K μ r0 = 6 → k123 i5 i6 i7 μ → fw_V g K_X5_called f bc bs 123 [(0, fw_rv g r0), (2, Value.int i2), (3, Value.int i3), (4, Value.int i4), (5, Value.int i5), (6, Value.int i6), (7, Value.int i7)] [] μ (fw_Qi Q) fw_nX) (hk148 : ∀ {i8 : Int32} {μ : fw_M}, m_K μ r0 = 6 → k148 i8 μ → fw_V g K_X5_called f bc bs 148 [(0, fw_rv g r0), (2, Value.int i2), (3, Value.int i3), (4, Value.int i4), (5, Value.int i5), (6, Value.int i6), (7, Value.int i7), (8, Value.int i8)] [] μ (fw_Qi Q) fw_nX) (hx : m_K μ r0 = 6) (h : p_X5_called_L148b k123 r0 i2 i3 i4 i5 i6 i7 k148 i8 μ Q) : fw_V g K_X5_called f bc bs 148 [(0, fw_rv g r0), (2, Value.int i2), (3, Value.int i3), (4, Value.int i4), (5, Value.int i5), (6, Value.int i6), (7, Value.int i7), (8, Value.int i8)] [] μ (fw_Qi Q) fw_nX := by
  unfold p_X5_called_L148b at h
  refine fw_iload dX5_called_148 rfl ?_
  refine fw_iload dX5_called_150 rfl ?_
  refine fw_icmp_ge (tgt := 175) dX5_called_152 (by decide) (fun c1 => ?_) (fun c1 => ?_)
  · have h := fw_it h c1
    refine fw_aload_n dX5_called_175 rfl rfl ?_
    refine fw_callV0z (f1 := f - 1) cl_X5_340 rfl hx (by decide) (by omega) (fw_s4 (Nat.le_of_ble_eq_true rfl)) dX5_called_176 (w_X5_tilt (f := f - 1) (by omega) hx h) (fun _ _ h9 _ _ => h9.elim) (fun v9 μ3 q9 hs4 => ?_)
    obtain ⟨v2, rfl, h⟩ := q9
    refine fw_ti ?_
    have hg5 := hs4.K hx (by decide)
    refine fw_istoreN (Ls' := [(8, Value.int v2), (7, Value.int i7), (0, fw_rv g r0), (2, Value.int i2), (3, Value.int i3), (4, Value.int i4), (5, Value.int i5), (6, Value.int i6)]) [0, 1, 2, 3, 4, 5] dX5_called_179 (by decide) rfl rfl rfl rfl rfl ?_
    refine fw_iload dX5_called_181 rfl ?_
    refine fw_if_eq (tgt := 199) dX5_called_183 (by decide) (fun c6 => ?_) (fun c6 => ?_)
    · have h := fw_it h c6
      refine fw_ls [2, 3, 4, 5, 1, 0] rfl ?_
      exact w_X5_called_L199 hf hk123 hg5 h
    · have h := fw_if h c6
      refine fw_iload dX5_called_186 rfl ?_
      refine fw_callS1z (f1 := f - 1) cl_X5_379 (by decide) (by omega) (fw_s4 (Nat.le_of_ble_eq_true rfl)) dX5_called_188 (w_X5_size (f := f - 1) (by omega) h) (fun _ _ h9 _ _ => h9.elim) (fun v9 μ8 q9 hs9 => ?_)
      obtain ⟨v7, rfl, h⟩ := q9
      refine fw_ti ?_
      have hg10 := hs9.K hg5 (by decide)
      refine fw_iload dX5_called_191 rfl ?_
      refine fw_callS1z (f1 := f - 1) cl_X5_379 (by decide) (by omega) (fw_s4 (Nat.le_of_ble_eq_true rfl)) dX5_called_193 (w_X5_size (f := f - 1) (by omega) h) (fun _ _ h9 _ _ => h9.elim) (fun v9 μ12 q9 hs13 => ?_)
      obtain ⟨v11, rfl, h⟩ := q9
      refine fw_ti ?_
      have hg14 := hs13.K hg10 (by decide)
      refine fw_icmp_ge (tgt := 236) dX5_called_196 (by decide) (fun c15 => ?_) (fun c15 => ?_)
      · have h := fw_it h c15
        obtain ⟨i7_16, e17⟩ : ∃ y : Int32, y = i7 + (1 : Int32) := ⟨_, rfl⟩
        have h := h i7_16 e17
        refine fw_iincN (k := 1) (v := i7_16) (Ls' := [(7, Value.int i7_16), (6, Value.int i6), (8, Value.int v2), (0, fw_rv g r0), (2, Value.int i2), (3, Value.int i3), (4, Value.int i4), (5, Value.int i5)]) [0, 2, 3, 4, 5, 6] dX5_called_236 rfl (by rw [e17]; rfl) (by decide) rfl rfl rfl rfl rfl ?_
        refine fw_goto (tgt := 123) dX5_called_239 (by decide) ?_
        refine fw_ls [3, 4, 5, 6, 7, 1, 0] rfl ?_
        exact hk123 hg14 h
      · have h := fw_if h c15
        refine fw_ls [2, 3, 4, 5, 1, 0] rfl ?_
        exact w_X5_called_L199 hf hk123 hg14 h
  · have h := fw_if h c1
    refine fw_aload_n dX5_called_155 rfl rfl ?_
    refine fw_aload_n dX5_called_156 rfl rfl ?_
    refine fw_getfP fl_X5_94 rfl hx dX5_called_157 ?_
    refine fw_iload dX5_called_160 rfl ?_
    obtain ⟨hg18, h⟩ := h
    obtain ⟨hc19, h⟩ := h
    refine fw_iald hg18 hc19 dX5_called_162 ?_
    refine fw_iload_n dX5_called_163 rfl rfl ?_
    refine fw_callV2z (f1 := f - 1) cl_X5_376 rfl hx (by decide) (by omega) (fw_s4 (Nat.le_of_ble_eq_true rfl)) dX5_called_164 (w_X5_eats (f := f - 1) (by omega) hx h) (fun _ _ h9 _ _ => h9.elim) (fun v9 μ21 q9 hs22 => ?_)
    obtain ⟨v20, rfl, h⟩ := q9
    refine fw_ti ?_
    have hg23 := hs22.K hx (by decide)
    refine fw_istoreN (Ls' := [(9, Value.int v20), (8, Value.int i8), (0, fw_rv g r0), (2, Value.int i2), (3, Value.int i3), (4, Value.int i4), (5, Value.int i5), (6, Value.int i6), (7, Value.int i7)]) [0, 1, 2, 3, 4, 5, 6] dX5_called_167 (by decide) rfl rfl rfl rfl rfl ?_
    obtain ⟨i8_24, e25⟩ : ∃ y : Int32, y = i8 + (1 : Int32) := ⟨_, rfl⟩
    have h := h i8_24 e25
    refine fw_iincN (k := 1) (v := i8_24) (Ls' := [(8, Value.int i8_24), (7, Value.int i7), (9, Value.int v20), (0, fw_rv g r0), (2, Value.int i2), (3, Value.int i3), (4, Value.int i4), (5, Value.int i5), (6, Value.int i6)]) [0, 2, 3, 4, 5, 6, 7] dX5_called_169 rfl (by rw [e25]; rfl) (by decide) rfl rfl rfl rfl rfl ?_
    refine fw_goto (tgt := 148) dX5_called_172 (by decide) ?_
    refine fw_ls [3, 4, 5, 6, 7, 8, 1, 0] rfl ?_
    exact hk148 hg23 h
theorem w_X5_called_L148 {g : fw_G} {f bc bs : Nat} {k123 : Int32 → Int32 → Int32 → fw_M → Prop} {r0 : Nat} {i2 : Int32} {i3 : Int32} {i4 : Int32} {i5 : Int32} {i6 : Int32} {i7 : Int32} {i8 : Int32} {μ : fw_M} {Q : Int32 → fw_M → Prop} (hf : 7 ≤ f) (hk123 : ∀ {i5 : Int32} {i6 : Int32} {i7 : Int32} {μ : fw_M}, m_K μ r0 = 6 → k123 i5 i6 i7 μ → fw_V g K_X5_called f bc bs 123 [(0, fw_rv g r0), (2, Value.int i2), (3, Value.int i3), (4, Value.int i4), (5, Value.int i5), (6, Value.int i6), (7, Value.int i7)] [] μ (fw_Qi Q) fw_nX) (hx : m_K μ r0 = 6) (h : p_X5_called_L148 k123 r0 i2 i3 i4 i5 i6 i7 i8 μ Q) : fw_V g K_X5_called f bc bs 148 [(0, fw_rv g r0), (2, Value.int i2), (3, Value.int i3), (4, Value.int i4), (5, Value.int i5), (6, Value.int i6), (7, Value.int i7), (8, Value.int i8)] [] μ (fw_Qi Q) fw_nX := by
  have key := fw_lp_out (R := fun (a : Int32 × fw_M) => m_K a.2 r0 = 6 → fw_V g K_X5_called f bc bs 148 [(0, fw_rv g r0), (2, Value.int i2), (3, Value.int i3), (4, Value.int i4), (5, Value.int i5), (6, Value.int i6), (7, Value.int i7), (8, Value.int a.1)] [] a.2 (fw_Qi Q) fw_nX) (fun k hk9 a ha hx2 => w_X5_called_L148b hf hk123 (fun {i8} {μ} hx3 h3 => hk9 (i8, μ) h3 hx3) hx2 ha) h
  exact key hx
def p_X5_called_L123b (r0 : Nat) (i2 : Int32) (i3 : Int32) (i4 : Int32) (k123 : Int32 → Int32 → Int32 → fw_M → Prop) (i5 : Int32) (i6 : Int32) (i7 : Int32) (μ : fw_M) (Q : Int32 → fw_M → Prop) : Prop :=
  (p_X5_rows i4 μ (fun v1 μ2 =>
  (if v1 ≤ i7 then
  ((if i3 = (-1 : Int32) then
   (Q i6 μ2)
   else
   ((m_K μ2 (m_P μ2 r0 44) = 100 ∧ (vp_in i3 (m_N μ2 (m_P μ2 r0 44)) ∧ Q (m_I μ2 (m_P μ2 r0 44) i3.toNatClampNeg) μ2)))))
  else
  ((p_X5_laysOrder r0 i4 i7 μ2 (fun μ10 =>
   (p_X5_laysWorld r0 μ10 (fun μ14 =>
   p_X5_called_L148 k123 r0 i2 i3 i4 i5 i6 i7 (0 : Int32) μ14 Q))))))))
def p_X5_called_L123 (r0 : Nat) (i2 : Int32) (i3 : Int32) (i4 : Int32) (i5 : Int32) (i6 : Int32) (i7 : Int32) (μ : fw_M) (Q : Int32 → fw_M → Prop) : Prop := fw_lp (fun (k : Int32 × Int32 × Int32 × fw_M → Prop) (a : Int32 × Int32 × Int32 × fw_M) => p_X5_called_L123b r0 i2 i3 i4 (fun i5 i6 i7 μ => k (i5, i6, i7, μ)) a.1 a.2.1 a.2.2.1 a.2.2.2 Q) (i5, i6, i7, μ)
theorem r_X5_called_L123 {r0 : Nat} {i2 : Int32} {i3 : Int32} {i4 : Int32} {Q : Int32 → fw_M → Prop} (I : Int32 → Int32 → Int32 → fw_M → Prop) (v : Int32 → Int32 → Int32 → fw_M → Nat) (hs : ∀ (k : Int32 → Int32 → Int32 → fw_M → Prop) (i5 : Int32) (i6 : Int32) (i7 : Int32) (μ : fw_M), I i5 i6 i7 μ → (∀ (i5' : Int32) (i6' : Int32) (i7' : Int32) (ν : fw_M), I i5' i6' i7' ν → v i5' i6' i7' ν < v i5 i6 i7 μ → k i5' i6' i7' ν) → p_X5_called_L123b r0 i2 i3 i4 k i5 i6 i7 μ Q) (i5 : Int32) (i6 : Int32) (i7 : Int32) (μ : fw_M) (h : I i5 i6 i7 μ) : p_X5_called_L123 r0 i2 i3 i4 i5 i6 i7 μ Q :=
  fw_lp_in (A := Int32 × Int32 × Int32 × fw_M) (fun a => I a.1 a.2.1 a.2.2.1 a.2.2.2) (fun a => v a.1 a.2.1 a.2.2.1 a.2.2.2) (fun k a ha hk => hs (fun i5 i6 i7 μ => k (i5, i6, i7, μ)) a.1 a.2.1 a.2.2.1 a.2.2.2 ha (fun i5' i6' i7' ν hb hlt => hk (i5', i6', i7', ν) hb hlt)) (i5, i6, i7, μ) h
set_option maxHeartbeats 4000000 in
theorem w_X5_called_L123b {g : fw_G} {f bc bs : Nat} {r0 : Nat} {i2 : Int32} {i3 : Int32} {i4 : Int32} {k123 : Int32 → Int32 → Int32 → fw_M → Prop} {i5 : Int32} {i6 : Int32} {i7 : Int32} {μ : fw_M} {Q : Int32 → fw_M → Prop} (hf : 7 ≤ f) (hk123 : ∀ {i5 : Int32} {i6 : Int32} {i7 : Int32} {μ : fw_M}, m_K μ r0 = 6 → k123 i5 i6 i7 μ → fw_V g K_X5_called f bc bs 123 [(0, fw_rv g r0), (2, Value.int i2), (3, Value.int i3), (4, Value.int i4), (5, Value.int i5), (6, Value.int i6), (7, Value.int i7)] [] μ (fw_Qi Q) fw_nX) (hx : m_K μ r0 = 6) (h : p_X5_called_L123b r0 i2 i3 i4 k123 i5 i6 i7 μ Q) : fw_V g K_X5_called f bc bs 123 [(0, fw_rv g r0), (2, Value.int i2), (3, Value.int i3), (4, Value.int i4), (5, Value.int i5), (6, Value.int i6), (7, Value.int i7)] [] μ (fw_Qi Q) fw_nX := by
  unfold p_X5_called_L123b at h
  refine fw_iload dX5_called_123 rfl ?_
  refine fw_iload dX5_called_125 rfl ?_
  refine fw_callS1z (f1 := f - 1) cl_X5_370 (by decide) (by omega) (fw_s4 (Nat.le_of_ble_eq_true rfl)) dX5_called_127 (w_X5_rows (f := f - 1) (by omega) h) (fun _ _ h9 _ _ => h9.elim) (fun v9 μ2 q9 hs3 => ?_)
  obtain ⟨v1, rfl, h⟩ := q9
  refine fw_ti ?_
  have hg4 := hs3.K hx (by decide)
  refine fw_icmp_ge (tgt := 242) dX5_called_130 (by decide) (fun c5 => ?_) (fun c5 => ?_)
  · have h := fw_it h c5
    refine fw_iload_n dX5_called_242 rfl rfl ?_
    refine fw_iconst (v := -1) dX5_called_243 (by decide) ?_
    refine fw_icmp_ne (tgt := 252) dX5_called_244 (by decide) (fun c6 => ?_) (fun c6 => ?_)
    · have h := fw_if h c6
      refine fw_aload_n dX5_called_252 rfl rfl ?_
      refine fw_getfP fl_X5_97 rfl hg4 dX5_called_253 ?_
      refine fw_iload_n dX5_called_256 rfl rfl ?_
      obtain ⟨hg7, h⟩ := h
      obtain ⟨hc8, h⟩ := h
      refine fw_iald hg7 hc8 dX5_called_257 ?_
      exact fw_ireturn dX5_called_258 rfl rfl ⟨_, rfl, h⟩
    · have h := fw_it h c6
      refine fw_iload dX5_called_247 rfl ?_
      refine fw_goto (tgt := 258) dX5_called_249 (by decide) ?_
      exact fw_ireturn dX5_called_258 rfl rfl ⟨_, rfl, h⟩
  · have h := fw_if h c5
    refine fw_aload_n dX5_called_133 rfl rfl ?_
    refine fw_iload dX5_called_134 rfl ?_
    refine fw_iload dX5_called_136 rfl ?_
    refine fw_callV2z (f1 := f - 1) cl_X5_373 rfl hg4 (by decide) (by omega) (fw_s4 (Nat.le_of_ble_eq_true rfl)) dX5_called_138 (w_X5_laysOrder (f := f - 1) (by omega) hg4 h) (fun _ _ h9 _ _ => h9.elim) (fun v9 μ10 q9 hs11 => ?_)
    obtain ⟨rfl, h⟩ := q9
    refine fw_tv ?_
    have hg12 := hs11.K hg4 (by decide)
    refine fw_aload_n dX5_called_141 rfl rfl ?_
    refine fw_callV0z (f1 := f - 1) cl_X5_349 rfl hg12 (by decide) (by omega) (fw_s4 (Nat.le_of_ble_eq_true rfl)) dX5_called_142 (w_X5_laysWorld (f := f - 1) (by omega) hg12 h) (fun _ _ h9 _ _ => h9.elim) (fun v9 μ14 q9 hs15 => ?_)
    obtain ⟨rfl, h⟩ := q9
    refine fw_tv ?_
    have hg16 := hs15.K hg12 (by decide)
    refine fw_iconst (v := 0) dX5_called_145 (by decide) ?_
    refine fw_istoreN (Ls' := [(8, Value.int (0 : Int32)), (7, Value.int i7), (0, fw_rv g r0), (2, Value.int i2), (3, Value.int i3), (4, Value.int i4), (5, Value.int i5), (6, Value.int i6)]) [0, 1, 2, 3, 4, 5] dX5_called_146 (by decide) rfl rfl rfl rfl rfl ?_
    refine fw_ls [2, 3, 4, 5, 6, 7, 1, 0] rfl ?_
    exact w_X5_called_L148 hf hk123 hg16 h
theorem w_X5_called_L123 {g : fw_G} {f bc bs : Nat} {r0 : Nat} {i2 : Int32} {i3 : Int32} {i4 : Int32} {i5 : Int32} {i6 : Int32} {i7 : Int32} {μ : fw_M} {Q : Int32 → fw_M → Prop} (hf : 7 ≤ f) (hx : m_K μ r0 = 6) (h : p_X5_called_L123 r0 i2 i3 i4 i5 i6 i7 μ Q) : fw_V g K_X5_called f bc bs 123 [(0, fw_rv g r0), (2, Value.int i2), (3, Value.int i3), (4, Value.int i4), (5, Value.int i5), (6, Value.int i6), (7, Value.int i7)] [] μ (fw_Qi Q) fw_nX := by
  have key := fw_lp_out (R := fun (a : Int32 × Int32 × Int32 × fw_M) => m_K a.2.2.2 r0 = 6 → fw_V g K_X5_called f bc bs 123 [(0, fw_rv g r0), (2, Value.int i2), (3, Value.int i3), (4, Value.int i4), (5, Value.int a.1), (6, Value.int a.2.1), (7, Value.int a.2.2.1)] [] a.2.2.2 (fw_Qi Q) fw_nX) (fun k hk9 a ha hx2 => w_X5_called_L123b hf (fun {i5 i6 i7} {μ} hx3 h3 => hk9 (i5, i6, i7, μ) h3 hx3) hx2 ha) h
  exact key hx
def p_X5_called_L40b (r0 : Nat) (i1 : Int32) (i2 : Int32) (i3 : Int32) (k40 : Int32 → Int32 → fw_M → Prop) (i4 : Int32) (i5 : Int32) (μ : fw_M) (Q : Int32 → fw_M → Prop) : Prop :=
  (m_K μ (m_P μ r0 0) = 100 ∧ (vp_in (0 : Int32) (m_N μ (m_P μ r0 0)) ∧ (if (m_I μ (m_P μ r0 0) (0 : Int32).toNatClampNeg) ≤ i5 then
  ((if i3 < i4 then
   (p_X5_called_L123 r0 i2 i3 i4 (0 : Int32) (0 : Int32) (0 : Int32) μ Q)
   else
   (Q (-9999 : Int32) μ)))
  else
  ((if ((i1 >>> (i5 &&& 31)) &&& (1 : Int32)) = (1 : Int32) then
   ((if i4 = (6 : Int32) then
    (Q (-9999 : Int32) μ)
    else
    ((vp_in ((114 : Int32) + i5) (m_N μ (m_P μ r0 0)) ∧ (if (m_I μ (m_P μ r0 0) ((114 : Int32) + i5).toNatClampNeg) = (2 : Int32) then
     (Q (-9999 : Int32) μ)
     else
     ((m_K μ (m_P μ r0 42) = 100 ∧ (vp_in i4 (m_N μ (m_P μ r0 42)) ∧ (∀ μ13, μ13 = m_uI μ (m_P μ r0 42) i4.toNatClampNeg i5 →
      (∀ i4_14 : Int32, i4_14 = i4 + (1 : Int32) →
      (∀ i5_16 : Int32, i5_16 = i5 + (1 : Int32) →
      k40 i4_14 i5_16 μ13)))))))))))
   else
   ((∀ i5_6 : Int32, i5_6 = i5 + (1 : Int32) →
    k40 i4 i5_6 μ)))))))
def p_X5_called_L40 (r0 : Nat) (i1 : Int32) (i2 : Int32) (i3 : Int32) (i4 : Int32) (i5 : Int32) (μ : fw_M) (Q : Int32 → fw_M → Prop) : Prop := fw_lp (fun (k : Int32 × Int32 × fw_M → Prop) (a : Int32 × Int32 × fw_M) => p_X5_called_L40b r0 i1 i2 i3 (fun i4 i5 μ => k (i4, i5, μ)) a.1 a.2.1 a.2.2 Q) (i4, i5, μ)
theorem r_X5_called_L40 {r0 : Nat} {i1 : Int32} {i2 : Int32} {i3 : Int32} {Q : Int32 → fw_M → Prop} (I : Int32 → Int32 → fw_M → Prop) (v : Int32 → Int32 → fw_M → Nat) (hs : ∀ (k : Int32 → Int32 → fw_M → Prop) (i4 : Int32) (i5 : Int32) (μ : fw_M), I i4 i5 μ → (∀ (i4' : Int32) (i5' : Int32) (ν : fw_M), I i4' i5' ν → v i4' i5' ν < v i4 i5 μ → k i4' i5' ν) → p_X5_called_L40b r0 i1 i2 i3 k i4 i5 μ Q) (i4 : Int32) (i5 : Int32) (μ : fw_M) (h : I i4 i5 μ) : p_X5_called_L40 r0 i1 i2 i3 i4 i5 μ Q :=
  fw_lp_in (A := Int32 × Int32 × fw_M) (fun a => I a.1 a.2.1 a.2.2) (fun a => v a.1 a.2.1 a.2.2) (fun k a ha hk => hs (fun i4 i5 μ => k (i4, i5, μ)) a.1 a.2.1 a.2.2 ha (fun i4' i5' ν hb hlt => hk (i4', i5', ν) hb hlt)) (i4, i5, μ) h
set_option maxHeartbeats 4000000 in
theorem w_X5_called_L40b {g : fw_G} {f bc bs : Nat} {r0 : Nat} {i1 : Int32} {i2 : Int32} {i3 : Int32} {k40 : Int32 → Int32 → fw_M → Prop} {i4 : Int32} {i5 : Int32} {μ : fw_M} {Q : Int32 → fw_M → Prop} (hf : 7 ≤ f) (hk40 : ∀ {i4 : Int32} {i5 : Int32} {μ : fw_M}, m_K μ r0 = 6 → k40 i4 i5 μ → fw_V g K_X5_called f bc bs 40 [(0, fw_rv g r0), (1, Value.int i1), (2, Value.int i2), (3, Value.int i3), (4, Value.int i4), (5, Value.int i5)] [] μ (fw_Qi Q) fw_nX) (hx : m_K μ r0 = 6) (h : p_X5_called_L40b r0 i1 i2 i3 k40 i4 i5 μ Q) : fw_V g K_X5_called f bc bs 40 [(0, fw_rv g r0), (1, Value.int i1), (2, Value.int i2), (3, Value.int i3), (4, Value.int i4), (5, Value.int i5)] [] μ (fw_Qi Q) fw_nX := by
  unfold p_X5_called_L40b at h
  refine fw_iload dX5_called_40 rfl ?_
  refine fw_aload_n dX5_called_42 rfl rfl ?_
  refine fw_getfP fl_X5_7 rfl hx dX5_called_43 ?_
  refine fw_iconst (v := 0) dX5_called_46 (by decide) ?_
  obtain ⟨hg1, h⟩ := h
  obtain ⟨hc2, h⟩ := h
  refine fw_iald hg1 hc2 dX5_called_47 ?_
  refine fw_icmp_ge (tgt := 104) dX5_called_48 (by decide) (fun c3 => ?_) (fun c3 => ?_)
  · have h := fw_it h c3
    refine fw_iload_n dX5_called_104 rfl rfl ?_
    refine fw_iload dX5_called_105 rfl ?_
    refine fw_icmp_lt (tgt := 114) dX5_called_107 (by decide) (fun c4 => ?_) (fun c4 => ?_)
    · have h := fw_it h c4
      refine fw_iconst (v := 0) dX5_called_114 (by decide) ?_
      refine fw_istoreN (Ls' := [(5, Value.int (0 : Int32)), (4, Value.int i4), (0, fw_rv g r0), (1, Value.int i1), (2, Value.int i2), (3, Value.int i3)]) [0, 1, 2, 3] dX5_called_115 (by decide) rfl rfl rfl rfl rfl ?_
      refine fw_iconst (v := 0) dX5_called_117 (by decide) ?_
      refine fw_istoreN (Ls' := [(6, Value.int (0 : Int32)), (5, Value.int (0 : Int32)), (4, Value.int i4), (0, fw_rv g r0), (1, Value.int i1), (2, Value.int i2), (3, Value.int i3)]) [1, 2, 3, 4, 5] dX5_called_118 (by decide) rfl rfl rfl rfl rfl ?_
      refine fw_iconst (v := 0) dX5_called_120 (by decide) ?_
      refine fw_istoreN (Ls' := [(7, Value.int (0 : Int32)), (6, Value.int (0 : Int32)), (5, Value.int (0 : Int32)), (4, Value.int i4), (0, fw_rv g r0), (1, Value.int i1), (2, Value.int i2), (3, Value.int i3)]) [1, 2, 3, 4, 5, 6] dX5_called_121 (by decide) rfl rfl rfl rfl rfl ?_
      refine fw_ls [4, 6, 7, 3, 2, 1, 0] rfl ?_
      exact w_X5_called_L123 hf hx h
    · have h := fw_if h c4
      refine fw_sipush (v := -9999) dX5_called_110 (by decide) ?_
      exact fw_ireturn dX5_called_113 rfl rfl ⟨_, rfl, h⟩
  · have h := fw_if h c3
    refine fw_iload_n dX5_called_51 rfl rfl ?_
    refine fw_iload dX5_called_52 rfl ?_
    refine fw_ishr dX5_called_54 ?_
    refine fw_iconst (v := 1) dX5_called_55 (by decide) ?_
    refine fw_iand dX5_called_56 ?_
    refine fw_iconst (v := 1) dX5_called_57 (by decide) ?_
    refine fw_icmp_ne (tgt := 98) dX5_called_58 (by decide) (fun c5 => ?_) (fun c5 => ?_)
    · have h := fw_if h c5
      obtain ⟨i5_6, e7⟩ : ∃ y : Int32, y = i5 + (1 : Int32) := ⟨_, rfl⟩
      have h := h i5_6 e7
      refine fw_iincN (k := 5) (v := i5_6) (Ls' := [(5, Value.int i5_6), (4, Value.int i4), (0, fw_rv g r0), (1, Value.int i1), (2, Value.int i2), (3, Value.int i3)]) [0, 1, 2, 3] dX5_called_98 rfl (by rw [e7]; rfl) (by decide) rfl rfl rfl rfl rfl ?_
      refine fw_goto (tgt := 40) dX5_called_101 (by decide) ?_
      refine fw_ls [2, 3, 4, 5, 1, 0] rfl ?_
      exact hk40 hx h
    · have h := fw_it h c5
      refine fw_iload dX5_called_61 rfl ?_
      refine fw_bipush (v := 6) dX5_called_63 (by decide) ?_
      refine fw_icmp_eq (tgt := 82) dX5_called_65 (by decide) (fun c8 => ?_) (fun c8 => ?_)
      · have h := fw_it h c8
        refine fw_sipush (v := -9999) dX5_called_82 (by decide) ?_
        exact fw_ireturn dX5_called_85 rfl rfl ⟨_, rfl, h⟩
      · have h := fw_if h c8
        refine fw_aload_n dX5_called_68 rfl rfl ?_
        refine fw_getfP fl_X5_7 rfl hx dX5_called_69 ?_
        refine fw_bipush (v := 114) dX5_called_72 (by decide) ?_
        refine fw_iload dX5_called_74 rfl ?_
        refine fw_iadd dX5_called_76 ?_
        obtain ⟨hc9, h⟩ := h
        refine fw_iald hg1 hc9 dX5_called_77 ?_
        refine fw_iconst (v := 2) dX5_called_78 (by decide) ?_
        refine fw_icmp_ne (tgt := 86) dX5_called_79 (by decide) (fun c10 => ?_) (fun c10 => ?_)
        · have h := fw_if h c10
          refine fw_aload_n dX5_called_86 rfl rfl ?_
          refine fw_getfP fl_X5_91 rfl hx dX5_called_87 ?_
          refine fw_iload dX5_called_90 rfl ?_
          refine fw_iload dX5_called_92 rfl ?_
          obtain ⟨hg11, h⟩ := h
          obtain ⟨hc12, h⟩ := h
          refine fw_iast hg11 hc12 dX5_called_94 ?_
          have h := h _ rfl
          obtain ⟨i4_14, e15⟩ : ∃ y : Int32, y = i4 + (1 : Int32) := ⟨_, rfl⟩
          have h := h i4_14 e15
          refine fw_iincN (k := 4) (v := i4_14) (Ls' := [(4, Value.int i4_14), (3, Value.int i3), (0, fw_rv g r0), (1, Value.int i1), (2, Value.int i2), (5, Value.int i5)]) [0, 1, 2, 5] dX5_called_95 rfl (by rw [e15]; rfl) (by decide) rfl rfl rfl rfl rfl ?_
          obtain ⟨i5_16, e17⟩ : ∃ y : Int32, y = i5 + (1 : Int32) := ⟨_, rfl⟩
          have h := h i5_16 e17
          refine fw_iincN (k := 5) (v := i5_16) (Ls' := [(5, Value.int i5_16), (4, Value.int i4_14), (3, Value.int i3), (0, fw_rv g r0), (1, Value.int i1), (2, Value.int i2)]) [1, 2, 3, 4] dX5_called_98 rfl (by rw [e17]; rfl) (by decide) rfl rfl rfl rfl rfl ?_
          refine fw_goto (tgt := 40) dX5_called_101 (by decide) ?_
          refine fw_ls [3, 4, 5, 2, 1, 0] rfl ?_
          exact hk40 hx h
        · have h := fw_it h c10
          refine fw_sipush (v := -9999) dX5_called_82 (by decide) ?_
          exact fw_ireturn dX5_called_85 rfl rfl ⟨_, rfl, h⟩
theorem w_X5_called_L40 {g : fw_G} {f bc bs : Nat} {r0 : Nat} {i1 : Int32} {i2 : Int32} {i3 : Int32} {i4 : Int32} {i5 : Int32} {μ : fw_M} {Q : Int32 → fw_M → Prop} (hf : 7 ≤ f) (hx : m_K μ r0 = 6) (h : p_X5_called_L40 r0 i1 i2 i3 i4 i5 μ Q) : fw_V g K_X5_called f bc bs 40 [(0, fw_rv g r0), (1, Value.int i1), (2, Value.int i2), (3, Value.int i3), (4, Value.int i4), (5, Value.int i5)] [] μ (fw_Qi Q) fw_nX := by
  have key := fw_lp_out (R := fun (a : Int32 × Int32 × fw_M) => m_K a.2.2 r0 = 6 → fw_V g K_X5_called f bc bs 40 [(0, fw_rv g r0), (1, Value.int i1), (2, Value.int i2), (3, Value.int i3), (4, Value.int a.1), (5, Value.int a.2.1)] [] a.2.2 (fw_Qi Q) fw_nX) (fun k hk9 a ha hx2 => w_X5_called_L40b hf (fun {i4 i5} {μ} hx3 h3 => hk9 (i4, i5, μ) h3 hx3) hx2 ha) h
  exact key hx
def p_X5_called (r0 : Nat) (i1 : Int32) (i2 : Int32) (i3 : Int32) (μ : fw_M) (Q : Int32 → fw_M → Prop) : Prop :=
  (m_K μ (m_P μ r0 0) = 100 ∧ (vp_in (0 : Int32) (m_N μ (m_P μ r0 0)) ∧ (p_X5_in i1 (1 : Int32) (((1 : Int32) <<< ((m_I μ (m_P μ r0 0) (0 : Int32).toNatClampNeg) &&& 31)) - (1 : Int32)) μ (fun v3 μ4 =>
  (if v3 = 0 then
  (Q (-9999 : Int32) μ4)
  else
  ((p_X5_isOne i2 μ4 (fun v8 μ9 =>
   (if v8 = 0 then
   (Q (-9999 : Int32) μ9)
   else
   ((if (-1 : Int32) ≤ i3 then
    (p_X5_called_L40 r0 i1 i2 i3 (0 : Int32) (0 : Int32) μ9 Q)
    else
    (Q (-9999 : Int32) μ9))))))))))))
set_option maxHeartbeats 4000000 in
theorem w_X5_called {g : fw_G} {f bc bs : Nat} {r0 : Nat} {i1 : Int32} {i2 : Int32} {i3 : Int32} {μ : fw_M} {Q : Int32 → fw_M → Prop} (hf : 7 ≤ f) (hx : m_K μ r0 = 6) (h : p_X5_called r0 i1 i2 i3 μ Q) : fw_C g f bc bs yX5_called (ws_ yX5_called cX5_called 10 (some .int)) [fw_rv g r0, Value.int i1, Value.int i2, Value.int i3] μ (fw_Qi Q) fw_nX := by
  unfold p_X5_called at h
  refine fw_intro' (Ls := [(0, fw_rv g r0), (1, Value.int i1), (2, Value.int i2), (3, Value.int i3)]) (by decide +kernel) (by simp [lg_sl, fw_cat, fw_ci, fw_clo]) (by simp [lv_args, fw_cat, fw_ci, fw_clo]) ?_
  show fw_V g K_X5_called f bc bs 0 [(0, fw_rv g r0), (1, Value.int i1), (2, Value.int i2), (3, Value.int i3)] [] μ (fw_Qi Q) fw_nX
  refine fw_iload_n dX5_called_0 rfl rfl ?_
  refine fw_iconst (v := 1) dX5_called_1 (by decide) ?_
  refine fw_iconst (v := 1) dX5_called_2 (by decide) ?_
  refine fw_aload_n dX5_called_3 rfl rfl ?_
  refine fw_getfP fl_X5_7 rfl hx dX5_called_4 ?_
  refine fw_iconst (v := 0) dX5_called_7 (by decide) ?_
  obtain ⟨hg1, h⟩ := h
  obtain ⟨hc2, h⟩ := h
  refine fw_iald hg1 hc2 dX5_called_8 ?_
  refine fw_ishl dX5_called_9 ?_
  refine fw_iconst (v := 1) dX5_called_10 (by decide) ?_
  refine fw_isub dX5_called_11 ?_
  refine fw_callS3z (f1 := f - 1) cl_X5_110 (by decide) (by omega) (fw_s4 (Nat.le_of_ble_eq_true rfl)) dX5_called_12 (w_X5_in (f := f - 1) (by omega) h) (fun _ _ h9 _ _ => h9.elim) (fun v9 μ4 q9 hs5 => ?_)
  obtain ⟨v3, rfl, h⟩ := q9
  refine fw_ti ?_
  have hg6 := hs5.K hx (by decide)
  refine fw_if_eq (tgt := 30) dX5_called_15 (by decide) (fun c7 => ?_) (fun c7 => ?_)
  · have h := fw_it h c7
    refine fw_sipush (v := -9999) dX5_called_30 (by decide) ?_
    exact fw_ireturn dX5_called_33 rfl rfl ⟨_, rfl, h⟩
  · have h := fw_if h c7
    refine fw_iload_n dX5_called_18 rfl rfl ?_
    refine fw_callS1z (f1 := f - 1) cl_X5_114 (by decide) (by omega) (fw_s4 (Nat.le_of_ble_eq_true rfl)) dX5_called_19 (w_X5_isOne (f := f - 1) (by omega) h) (fun _ _ h9 _ _ => h9.elim) (fun v9 μ9 q9 hs10 => ?_)
    obtain ⟨v8, rfl, h⟩ := q9
    refine fw_ti ?_
    have hg11 := hs10.K hg6 (by decide)
    refine fw_if_eq (tgt := 30) dX5_called_22 (by decide) (fun c12 => ?_) (fun c12 => ?_)
    · have h := fw_it h c12
      refine fw_sipush (v := -9999) dX5_called_30 (by decide) ?_
      exact fw_ireturn dX5_called_33 rfl rfl ⟨_, rfl, h⟩
    · have h := fw_if h c12
      refine fw_iload_n dX5_called_25 rfl rfl ?_
      refine fw_iconst (v := -1) dX5_called_26 (by decide) ?_
      refine fw_icmp_ge (tgt := 34) dX5_called_27 (by decide) (fun c13 => ?_) (fun c13 => ?_)
      · have h := fw_it h c13
        refine fw_iconst (v := 0) dX5_called_34 (by decide) ?_
        refine fw_istoreN (Ls' := [(4, Value.int (0 : Int32)), (3, Value.int i3), (0, fw_rv g r0), (1, Value.int i1), (2, Value.int i2)]) [0, 1, 2] dX5_called_35 (by decide) rfl rfl rfl rfl rfl ?_
        refine fw_iconst (v := 0) dX5_called_37 (by decide) ?_
        refine fw_istoreN (Ls' := [(5, Value.int (0 : Int32)), (4, Value.int (0 : Int32)), (3, Value.int i3), (0, fw_rv g r0), (1, Value.int i1), (2, Value.int i2)]) [1, 2, 3, 4] dX5_called_38 (by decide) rfl rfl rfl rfl rfl ?_
        refine fw_ls [3, 4, 5, 2, 1, 0] rfl ?_
        exact w_X5_called_L40 hf hg11 h
      · have h := fw_if h c13
        refine fw_sipush (v := -9999) dX5_called_30 (by decide) ?_
        exact fw_ireturn dX5_called_33 rfl rfl ⟨_, rfl, h⟩
