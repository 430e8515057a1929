set_option maxRecDepth 100000
abbrev K_X0_hired : fw_Kt := (RX0, "hired", cX0_hired, 8, some .int, [])
def p_X0_hired_L141 (k20 : Int32 → Int32 → Int32 → fw_M → Prop) (r0 : Nat) (i1 : Int32) (i2 : Int32) (i3 : Int32) (i4 : Int32) (i5 : Int32) (i6 : Int32) (is0 : Int32) (μ : fw_M) (Q : Int32 → fw_M → Prop) : Prop :=
  (if i5 < i1 then
  ((∀ i4_2 : Int32, i4_2 = i4 + (1 : Int32) →
   k20 i2 i3 i4_2 μ))
  else
  ((if is0 = 0 then
   ((∀ i4_7 : Int32, i4_7 = i4 + (1 : Int32) →
    k20 i2 i3 i4_7 μ))
   else
   ((∀ i4_5 : Int32, i4_5 = i4 + (1 : Int32) →
    k20 i4 i6 i4_5 μ)))))
set_option maxHeartbeats 4000000 in
theorem w_X0_hired_L141 {g : fw_G} {f bc bs : Nat} {k20 : Int32 → Int32 → Int32 → fw_M → Prop} {r0 : Nat} {i1 : Int32} {i2 : Int32} {i3 : Int32} {i4 : Int32} {i5 : Int32} {i6 : Int32} {is0 : Int32} {μ : fw_M} {Q : Int32 → fw_M → Prop} (hf : 405 ≤ f) (hk20 : ∀ {i2 : Int32} {i3 : Int32} {i4 : Int32} {μ : fw_M}, m_K μ r0 = 1 → k20 i2 i3 i4 μ → fw_V g K_X0_hired f bc bs 20 [(0, fw_rv g r0), (1, Value.int i1), (2, Value.int i2), (3, Value.int i3), (4, Value.int i4)] [] μ (fw_Qi Q) fw_nX) (hx : m_K μ r0 = 1) (h : p_X0_hired_L141 k20 r0 i1 i2 i3 i4 i5 i6 is0 μ Q) : fw_V g K_X0_hired f bc bs 141 [(0, fw_rv g r0), (1, Value.int i1), (2, Value.int i2), (3, Value.int i3), (4, Value.int i4), (5, Value.int i5), (6, Value.int i6)] [Value.int is0] μ (fw_Qi Q) fw_nX := by
  unfold p_X0_hired_L141 at h
  refine fw_istoreN (Ls' := [(7, Value.int is0), (6, Value.int i6), (0, fw_rv g r0), (1, Value.int i1), (2, Value.int i2), (3, Value.int i3), (4, Value.int i4), (5, Value.int i5)]) [0, 1, 2, 3, 4, 5] dX0_hired_141 (by decide) rfl rfl rfl rfl rfl ?_
  refine fw_iload dX0_hired_143 rfl ?_
  refine fw_iload_n dX0_hired_145 rfl rfl ?_
  refine fw_icmp_lt (tgt := 163) dX0_hired_146 (by decide) (fun c1 => ?_) (fun c1 => ?_)
  · have h := fw_it h c1
    obtain ⟨i4_2, e3⟩ : ∃ y : Int32, y = i4 + (1 : Int32) := ⟨_, rfl⟩
    have h := h i4_2 e3
    refine fw_iincN (k := 6) (v := i4_2) (Ls' := [(4, Value.int i4_2), (3, Value.int i3), (7, Value.int is0), (6, Value.int i6), (0, fw_rv g r0), (1, Value.int i1), (2, Value.int i2), (5, Value.int i5)]) [0, 1, 2, 3, 4, 7] dX0_hired_163 rfl (by rw [e3]; rfl) (by decide) rfl rfl rfl rfl rfl ?_
    refine fw_goto (tgt := 20) dX0_hired_166 (by decide) ?_
    refine fw_ls [4, 5, 6, 1, 0] rfl ?_
    exact hk20 hx h
  · have h := fw_if h c1
    refine fw_iload dX0_hired_149 rfl ?_
    refine fw_if_ne (tgt := 157) dX0_hired_151 (by decide) (fun c4 => ?_) (fun c4 => ?_)
    · have h := fw_if h c4
      refine fw_iload dX0_hired_157 rfl ?_
      refine fw_istore_nN (Ls' := [(2, Value.int i4), (1, Value.int i1), (7, Value.int is0), (6, Value.int i6), (0, fw_rv g r0), (3, Value.int i3), (4, Value.int i4), (5, Value.int i5)]) [0, 1, 2, 5, 6, 7] dX0_hired_159 rfl (by decide) rfl rfl rfl rfl rfl ?_
      refine fw_iload dX0_hired_160 rfl ?_
      refine fw_istore_nN (Ls' := [(3, Value.int i6), (2, Value.int i4), (1, Value.int i1), (7, Value.int is0), (6, Value.int i6), (0, fw_rv g r0), (4, Value.int i4), (5, Value.int i5)]) [1, 2, 3, 4, 6, 7] dX0_hired_162 rfl (by decide) rfl rfl rfl rfl rfl ?_
      obtain ⟨i4_5, e6⟩ : ∃ y : Int32, y = i4 + (1 : Int32) := ⟨_, rfl⟩
      have h := h i4_5 e6
      refine fw_iincN (k := 6) (v := i4_5) (Ls' := [(4, Value.int i4_5), (3, Value.int i6), (2, Value.int i4), (1, Value.int i1), (7, Value.int is0), (6, Value.int i6), (0, fw_rv g r0), (5, Value.int i5)]) [1, 2, 3, 4, 5, 7] dX0_hired_163 rfl (by rw [e6]; rfl) (by decide) rfl rfl rfl rfl rfl ?_
      refine fw_goto (tgt := 20) dX0_hired_166 (by decide) ?_
      refine fw_ls [6, 3, 2, 1, 0] rfl ?_
      exact hk20 hx h
    · have h := fw_it h c4
      refine fw_goto (tgt := 163) dX0_hired_154 (by decide) ?_
      obtain ⟨i4_7, e8⟩ : ∃ y : Int32, y = i4 + (1 : Int32) := ⟨_, rfl⟩
      have h := h i4_7 e8
      refine fw_iincN (k := 6) (v := i4_7) (Ls' := [(4, Value.int i4_7), (3, Value.int i3), (7, Value.int is0), (6, Value.int i6), (0, fw_rv g r0), (1, Value.int i1), (2, Value.int i2), (5, Value.int i5)]) [0, 1, 2, 3, 4, 7] dX0_hired_163 rfl (by rw [e8]; rfl) (by decide) rfl rfl rfl rfl rfl ?_
      refine fw_goto (tgt := 20) dX0_hired_166 (by decide) ?_
      refine fw_ls [4, 5, 6, 1, 0] rfl ?_
      exact hk20 hx h
def p_X0_hired_L136 (k20 : Int32 → Int32 → Int32 → fw_M → Prop) (r0 : Nat) (i1 : Int32) (i2 : Int32) (i3 : Int32) (i4 : Int32) (i5 : Int32) (i6 : Int32) (μ : fw_M) (Q : Int32 → fw_M → Prop) : Prop :=
  p_X0_hired_L141 k20 r0 i1 i2 i3 i4 i5 i6 (1 : Int32) μ Q
set_option maxHeartbeats 4000000 in
theorem w_X0_hired_L136 {g : fw_G} {f bc bs : Nat} {k20 : Int32 → Int32 → Int32 → fw_M → Prop} {r0 : Nat} {i1 : Int32} {i2 : Int32} {i3 : Int32} {i4 : Int32} {i5 : Int32} {i6 : Int32} {μ : fw_M} {Q : Int32 → fw_M → Prop} (hf : 405 ≤ f) (hk20 : ∀ {i2 : Int32} {i3 : Int32} {i4 : Int32} {μ : fw_M}, m_K μ r0 = 1 → k20 i2 i3 i4 μ → fw_V g K_X0_hired f bc bs 20 [(0, fw_rv g r0), (1, Value.int i1), (2, Value.int i2), (3, Value.int i3), (4, Value.int i4)] [] μ (fw_Qi Q) fw_nX) (hx : m_K μ r0 = 1) (h : p_X0_hired_L136 k20 r0 i1 i2 i3 i4 i5 i6 μ Q) : fw_V g K_X0_hired f bc bs 136 [(0, fw_rv g r0), (1, Value.int i1), (2, Value.int i2), (3, Value.int i3), (4, Value.int i4), (5, Value.int i5), (6, Value.int i6)] [] μ (fw_Qi Q) fw_nX := by
  unfold p_X0_hired_L136 at h
  refine fw_iconst (v := 1) dX0_hired_136 (by decide) ?_
  refine fw_goto (tgt := 141) dX0_hired_137 (by decide) ?_
  exact w_X0_hired_L141 hf hk20 hx h
def p_X0_hired_L140 (k20 : Int32 → Int32 → Int32 → fw_M → Prop) (r0 : Nat) (i1 : Int32) (i2 : Int32) (i3 : Int32) (i4 : Int32) (i5 : Int32) (i6 : Int32) (μ : fw_M) (Q : Int32 → fw_M → Prop) : Prop :=
  p_X0_hired_L141 k20 r0 i1 i2 i3 i4 i5 i6 (0 : Int32) μ Q
set_option maxHeartbeats 4000000 in
theorem w_X0_hired_L140 {g : fw_G} {f bc bs : Nat} {k20 : Int32 → Int32 → Int32 → fw_M → Prop} {r0 : Nat} {i1 : Int32} {i2 : Int32} {i3 : Int32} {i4 : Int32} {i5 : Int32} {i6 : Int32} {μ : fw_M} {Q : Int32 → fw_M → Prop} (hf : 405 ≤ f) (hk20 : ∀ {i2 : Int32} {i3 : Int32} {i4 : Int32} {μ : fw_M}, m_K μ r0 = 1 → k20 i2 i3 i4 μ → fw_V g K_X0_hired f bc bs 20 [(0, fw_rv g r0), (1, Value.int i1), (2, Value.int i2), (3, Value.int i3), (4, Value.int i4)] [] μ (fw_Qi Q) fw_nX) (hx : m_K μ r0 = 1) (h : p_X0_hired_L140 k20 r0 i1 i2 i3 i4 i5 i6 μ Q) : fw_V g K_X0_hired f bc bs 140 [(0, fw_rv g r0), (1, Value.int i1), (2, Value.int i2), (3, Value.int i3), (4, Value.int i4), (5, Value.int i5), (6, Value.int i6)] [] μ (fw_Qi Q) fw_nX := by
  unfold p_X0_hired_L140 at h
  refine fw_iconst (v := 0) dX0_hired_140 (by decide) ?_
  exact w_X0_hired_L141 hf hk20 hx h
def p_X0_hired_L43b (k20 : Int32 → Int32 → Int32 → fw_M → Prop) (r0 : Nat) (i1 : Int32) (i2 : Int32) (i3 : Int32) (i4 : Int32) (k43 : Int32 → Int32 → Int32 → fw_M → Prop) (i5 : Int32) (i6 : Int32) (i7 : Int32) (μ : fw_M) (Q : Int32 → fw_M → Prop) : Prop :=
  (m_K μ (m_P μ r0 0) = 2 ∧ (if (m_I μ (m_P μ r0 0) 0) ≤ i7 then
  ((if i2 = (-1 : Int32) then
   (p_X0_hired_L136 k20 r0 i1 i2 i3 i4 i5 i6 μ Q)
   else
   ((if i6 < i3 then
    (p_X0_hired_L136 k20 r0 i1 i2 i3 i4 i5 i6 μ Q)
    else
    ((if i6 = i3 then
     ((p_J8_bitCount i4 μ (fun v6 μ7 =>
      (p_J8_bitCount i2 μ7 (fun v10 μ11 =>
      (if v10 ≤ v6 then
      (p_X0_hired_L140 k20 r0 i1 i2 i3 i4 i5 i6 μ11 Q)
      else
      (p_X0_hired_L136 k20 r0 i1 i2 i3 i4 i5 i6 μ11 Q)))))))
     else
     (p_X0_hired_L140 k20 r0 i1 i2 i3 i4 i5 i6 μ Q)))))))
  else
  ((if ((i4 >>> (i7 &&& 31)) &&& (1 : Int32)) = 0 then
   ((∀ i7_29 : Int32, i7_29 = i7 + (1 : Int32) →
    k43 i5 i6 i7_29 μ))
   else
   ((p_X0_holds r0 (m_P μ (m_P μ r0 0) 9) i7 μ (fun v16 μ17 =>
    (∀ i5_20 : Int32, i5_20 = (i5 + v16) →
    (m_K μ17 (m_P μ17 r0 0) = 2 ∧ (m_K μ17 (m_P μ17 (m_P μ17 r0 0) 8) = 100 ∧ (vp_in i7 (m_N μ17 (m_P μ17 (m_P μ17 r0 0) 8)) ∧ (∀ i6_25 : Int32, i6_25 = (i6 + (m_I μ17 (m_P μ17 (m_P μ17 r0 0) 8) i7.toNatClampNeg)) →
    (∀ i7_27 : Int32, i7_27 = i7 + (1 : Int32) →
    k43 i5_20 i6_25 i7_27 μ17)))))))))))))
def p_X0_hired_L43 (k20 : Int32 → Int32 → Int32 → fw_M → Prop) (r0 : Nat) (i1 : Int32) (i2 : Int32) (i3 : Int32) (i4 : Int32) (i5 : Int32) (i6 : Int32) (i7 : Int32) (μ : fw_M) (Q : Int32 → fw_M → Prop) : Prop := fw_lp (fun (k : Int32 × Int32 × Int32 × fw_M → Prop) (a : Int32 × Int32 × Int32 × fw_M) => p_X0_hired_L43b k20 r0 i1 i2 i3 i4 (fun i5 i6 i7 μ => k (i5, i6, i7, μ)) a.1 a.2.1 a.2.2.1 a.2.2.2 Q) (i5, i6, i7, μ)
theorem r_X0_hired_L43 {k20 : Int32 → Int32 → Int32 → fw_M → Prop} {r0 : Nat} {i1 : Int32} {i2 : Int32} {i3 : Int32} {i4 : Int32} {Q : Int32 → fw_M → Prop} (I : Int32 → Int32 → Int32 → fw_M → Prop) (v : Int32 → Int32 → Int32 → fw_M → Nat) (hs : ∀ (k : Int32 → Int32 → Int32 → fw_M → Prop) (i5 : Int32) (i6 : Int32) (i7 : Int32) (μ : fw_M), I i5 i6 i7 μ → (∀ (i5' : Int32) (i6' : Int32) (i7' : Int32) (ν : fw_M), I i5' i6' i7' ν → v i5' i6' i7' ν < v i5 i6 i7 μ → k i5' i6' i7' ν) → p_X0_hired_L43b k20 r0 i1 i2 i3 i4 k i5 i6 i7 μ Q) (i5 : Int32) (i6 : Int32) (i7 : Int32) (μ : fw_M) (h : I i5 i6 i7 μ) : p_X0_hired_L43 k20 r0 i1 i2 i3 i4 i5 i6 i7 μ Q :=
  fw_lp_in (A := Int32 × Int32 × Int32 × fw_M) (fun a => I a.1 a.2.1 a.2.2.1 a.2.2.2) (fun a => v a.1 a.2.1 a.2.2.1 a.2.2.2) (fun k a ha hk => hs (fun i5 i6 i7 μ => k (i5, i6, i7, μ)) a.1 a.2.1 a.2.2.1 a.2.2.2 ha (fun i5' i6' i7' ν hb hlt => hk (i5', i6', i7', ν) hb hlt)) (i5, i6, i7, μ) h
set_option maxHeartbeats 4000000 in
theorem w_X0_hired_L43b {g : fw_G} {f bc bs : Nat} {k20 : Int32 → Int32 → Int32 → fw_M → Prop} {r0 : Nat} {i1 : Int32} {i2 : Int32} {i3 : Int32} {i4 : Int32} {k43 : Int32 → Int32 → Int32 → fw_M → Prop} {i5 : Int32} {i6 : Int32} {i7 : Int32} {μ : fw_M} {Q : Int32 → fw_M → Prop} (hf : 405 ≤ f) (hk20 : ∀ {i2 : Int32} {i3 : Int32} {i4 : Int32} {μ : fw_M}, m_K μ r0 = 1 → k20 i2 i3 i4 μ → fw_V g K_X0_hired f bc bs 20 [(0, fw_rv g r0), (1, Value.int i1), (2, Value.int i2), (3, Value.int i3), (4, Value.int i4)] [] μ (fw_Qi Q) fw_nX) (hk43 : ∀ {i5 : Int32} {i6 : Int32} {i7 : Int32} {μ : fw_M}, m_K μ r0 = 1 → k43 i5 i6 i7 μ → fw_V g K_X0_hired f bc bs 43 [(0, fw_rv g r0), (1, Value.int i1), (2, Value.int i2), (3, Value.int i3), (4, Value.int i4), (5, Value.int i5), (6, Value.int i6), (7, Value.int i7)] [] μ (fw_Qi Q) fw_nX) (hx : m_K μ r0 = 1) (h : p_X0_hired_L43b k20 r0 i1 i2 i3 i4 k43 i5 i6 i7 μ Q) : fw_V g K_X0_hired f bc bs 43 [(0, fw_rv g r0), (1, Value.int i1), (2, Value.int i2), (3, Value.int i3), (4, Value.int i4), (5, Value.int i5), (6, Value.int i6), (7, Value.int i7)] [] μ (fw_Qi Q) fw_nX := by
  unfold p_X0_hired_L43b at h
  refine fw_iload dX0_hired_43 rfl ?_
  refine fw_aload_n dX0_hired_45 rfl rfl ?_
  refine fw_getfP fl_X0_12 rfl hx dX0_hired_46 ?_
  obtain ⟨hg1, h⟩ := h
  refine fw_getfI fl_X0_63 rfl hg1 dX0_hired_49 ?_
  refine fw_icmp_ge (tgt := 107) dX0_hired_52 (by decide) (fun c2 => ?_) (fun c2 => ?_)
  · have h := fw_it h c2
    refine fw_iload_n dX0_hired_107 rfl rfl ?_
    refine fw_iconst (v := -1) dX0_hired_108 (by decide) ?_
    refine fw_icmp_eq (tgt := 136) dX0_hired_109 (by decide) (fun c3 => ?_) (fun c3 => ?_)
    · have h := fw_it h c3
      refine fw_ls [0, 1, 2, 3, 4, 5, 6] rfl ?_
      exact w_X0_hired_L136 hf hk20 hx h
    · have h := fw_if h c3
      refine fw_iload dX0_hired_112 rfl ?_
      refine fw_iload_n dX0_hired_114 rfl rfl ?_
      refine fw_icmp_lt (tgt := 136) dX0_hired_115 (by decide) (fun c4 => ?_) (fun c4 => ?_)
      · have h := fw_it h c4
        refine fw_ls [0, 1, 2, 3, 4, 5, 6] rfl ?_
        exact w_X0_hired_L136 hf hk20 hx h
      · have h := fw_if h c4
        refine fw_iload dX0_hired_118 rfl ?_
        refine fw_iload_n dX0_hired_120 rfl rfl ?_
        refine fw_icmp_ne (tgt := 140) dX0_hired_121 (by decide) (fun c5 => ?_) (fun c5 => ?_)
        · have h := fw_if h c5
          refine fw_ls [0, 1, 2, 3, 4, 5, 6] rfl ?_
          exact w_X0_hired_L140 hf hk20 hx h
        · have h := fw_it h c5
          refine fw_iload dX0_hired_124 rfl ?_
          refine fw_callS1z (f1 := f - 1) cl_X0_234 (by decide) (by omega) (fw_s4 (Nat.le_of_ble_eq_true rfl)) dX0_hired_126 (w_J8_bitCount (f := f - 1) (by omega) h) (fun _ _ h9 _ _ => h9.elim) (fun v9 μ7 q9 hs8 => ?_)
          obtain ⟨v6, rfl, h⟩ := q9
          refine fw_ti ?_
          have hg9 := hs8.K hx (by decide)
          refine fw_iload_n dX0_hired_129 rfl rfl ?_
          refine fw_callS1z (f1 := f - 1) cl_X0_234 (by decide) (by omega) (fw_s4 (Nat.le_of_ble_eq_true rfl)) dX0_hired_130 (w_J8_bitCount (f := f - 1) (by omega) h) (fun _ _ h9 _ _ => h9.elim) (fun v9 μ11 q9 hs12 => ?_)
          obtain ⟨v10, rfl, h⟩ := q9
          refine fw_ti ?_
          have hg13 := hs12.K hg9 (by decide)
          refine fw_icmp_ge (tgt := 140) dX0_hired_133 (by decide) (fun c14 => ?_) (fun c14 => ?_)
          · have h := fw_it h c14
            refine fw_ls [0, 1, 2, 3, 4, 5, 6] rfl ?_
            exact w_X0_hired_L140 hf hk20 hg13 h
          · have h := fw_if h c14
            refine fw_ls [0, 1, 2, 3, 4, 5, 6] rfl ?_
            exact w_X0_hired_L136 hf hk20 hg13 h
  · have h := fw_if h c2
    refine fw_iload dX0_hired_55 rfl ?_
    refine fw_iload dX0_hired_57 rfl ?_
    refine fw_ishr dX0_hired_59 ?_
    refine fw_iconst (v := 1) dX0_hired_60 (by decide) ?_
    refine fw_iand dX0_hired_61 ?_
    refine fw_if_ne (tgt := 68) dX0_hired_62 (by decide) (fun c15 => ?_) (fun c15 => ?_)
    · have h := fw_if h c15
      refine fw_iload dX0_hired_68 rfl ?_
      refine fw_aload_n dX0_hired_70 rfl rfl ?_
      refine fw_aload_n dX0_hired_71 rfl rfl ?_
      refine fw_getfP fl_X0_12 rfl hx dX0_hired_72 ?_
      refine fw_getfP fl_X0_77 rfl hg1 dX0_hired_75 ?_
      refine fw_iload dX0_hired_78 rfl ?_
      refine fw_callV2z (f1 := f - 1) cl_X0_128 rfl hx (by decide) (by omega) (fw_s4 (Nat.le_of_ble_eq_true rfl)) dX0_hired_80 (w_X0_holds (f := f - 1) (by omega) hx h) (fun _ _ h9 _ _ => h9.elim) (fun v9 μ17 q9 hs18 => ?_)
      obtain ⟨v16, rfl, h⟩ := q9
      refine fw_ti ?_
      have hg19 := hs18.K hx (by decide)
      refine fw_iadd dX0_hired_83 ?_
      refine fw_topi (fun i5_20 e21 => ?_)
      have h := h i5_20 e21
      refine fw_istoreN (Ls' := [(5, Value.int i5_20), (4, Value.int i4), (0, fw_rv g r0), (1, Value.int i1), (2, Value.int i2), (3, Value.int i3), (6, Value.int i6), (7, Value.int i7)]) [0, 1, 2, 3, 6, 7] dX0_hired_84 (by decide) rfl rfl rfl rfl rfl ?_
      refine fw_iload dX0_hired_86 rfl ?_
      refine fw_aload_n dX0_hired_88 rfl rfl ?_
      refine fw_getfP fl_X0_12 rfl hg19 dX0_hired_89 ?_
      obtain ⟨hg22, h⟩ := h
      refine fw_getfP fl_X0_86 rfl hg22 dX0_hired_92 ?_
      refine fw_iload dX0_hired_95 rfl ?_
      obtain ⟨hg23, h⟩ := h
      obtain ⟨hc24, h⟩ := h
      refine fw_iald hg23 hc24 dX0_hired_97 ?_
      refine fw_iadd dX0_hired_98 ?_
      refine fw_topi (fun i6_25 e26 => ?_)
      have h := h i6_25 e26
      refine fw_istoreN (Ls' := [(6, Value.int i6_25), (5, Value.int i5_20), (4, Value.int i4), (0, fw_rv g r0), (1, Value.int i1), (2, Value.int i2), (3, Value.int i3), (7, Value.int i7)]) [1, 2, 3, 4, 5, 7] dX0_hired_99 (by decide) rfl rfl rfl rfl rfl ?_
      obtain ⟨i7_27, e28⟩ : ∃ y : Int32, y = i7 + (1 : Int32) := ⟨_, rfl⟩
      have h := h i7_27 e28
      refine fw_iincN (k := 7) (v := i7_27) (Ls' := [(7, Value.int i7_27), (6, Value.int i6_25), (5, Value.int i5_20), (4, Value.int i4), (0, fw_rv g r0), (1, Value.int i1), (2, Value.int i2), (3, Value.int i3)]) [1, 2, 3, 4, 5, 6] dX0_hired_101 rfl (by rw [e28]; rfl) (by decide) rfl rfl rfl rfl rfl ?_
      refine fw_goto (tgt := 43) dX0_hired_104 (by decide) ?_
      refine fw_ls [4, 5, 6, 7, 3, 2, 1, 0] rfl ?_
      exact hk43 hg19 h
    · have h := fw_it h c15
      refine fw_goto (tgt := 101) dX0_hired_65 (by decide) ?_
      obtain ⟨i7_29, e30⟩ : ∃ y : Int32, y = i7 + (1 : Int32) := ⟨_, rfl⟩
      have h := h i7_29 e30
      refine fw_iincN (k := 7) (v := i7_29) (Ls' := [(7, Value.int i7_29), (6, Value.int i6), (0, fw_rv g r0), (1, Value.int i1), (2, Value.int i2), (3, Value.int i3), (4, Value.int i4), (5, Value.int i5)]) [0, 1, 2, 3, 4, 5] dX0_hired_101 rfl (by rw [e30]; rfl) (by decide) rfl rfl rfl rfl rfl ?_
      refine fw_goto (tgt := 43) dX0_hired_104 (by decide) ?_
      refine fw_ls [2, 3, 4, 5, 6, 7, 1, 0] rfl ?_
      exact hk43 hx h
theorem w_X0_hired_L43 {g : fw_G} {f bc bs : Nat} {k20 : Int32 → Int32 → Int32 → fw_M → Prop} {r0 : Nat} {i1 : Int32} {i2 : Int32} {i3 : Int32} {i4 : Int32} {i5 : Int32} {i6 : Int32} {i7 : Int32} {μ : fw_M} {Q : Int32 → fw_M → Prop} (hf : 405 ≤ f) (hk20 : ∀ {i2 : Int32} {i3 : Int32} {i4 : Int32} {μ : fw_M}, m_K μ r0 = 1 → k20 i2 i3 i4 μ → fw_V g K_X0_hired f bc bs 20 [(0, fw_rv g r0), (1, Value.int i1), (2, Value.int i2), (3, Value.int i3), (4, Value.int i4)] [] μ (fw_Qi Q) fw_nX) (hx : m_K μ r0 = 1) (h : p_X0_hired_L43 k20 r0 i1 i2 i3 i4 i5 i6 i7 μ Q) : fw_V g K_X0_hired f bc bs 43 [(0, fw_rv g r0), (1, Value.int i1), (2, Value.int i2), (3, Value.int i3), (4, Value.int i4), (5, Value.int i5), (6, Value.int i6), (7, Value.int i7)] [] μ (fw_Qi Q) fw_nX := by
  have key := fw_lp_out (R := fun (a : Int32 × Int32 × Int32 × fw_M) => m_K a.2.2.2 r0 = 1 → fw_V g K_X0_hired f bc bs 43 [(0, fw_rv g r0), (1, Value.int i1), (2, Value.int i2), (3, Value.int i3), (4, Value.int i4), (5, Value.int a.1), (6, Value.int a.2.1), (7, Value.int a.2.2.1)] [] a.2.2.2 (fw_Qi Q) fw_nX) (fun k hk9 a ha hx2 => w_X0_hired_L43b hf hk20 (fun {i5 i6 i7} {μ} hx3 h3 => hk9 (i5, i6, i7, μ) h3 hx3) hx2 ha) h
  exact key hx
def p_X0_hired_L20b (r0 : Nat) (i1 : Int32) (k20 : Int32 → Int32 → Int32 → fw_M → Prop) (i2 : Int32) (i3 : Int32) (i4 : Int32) (μ : fw_M) (Q : Int32 → fw_M → Prop) : Prop :=
  (m_K μ (m_P μ r0 0) = 2 ∧ (if ((1 : Int32) <<< ((m_I μ (m_P μ r0 0) 0) &&& 31)) ≤ i4 then
  (Q i2 μ)
  else
  (p_X0_hired_L43 k20 r0 i1 i2 i3 i4 (0 : Int32) (0 : Int32) (0 : Int32) μ Q)))
def p_X0_hired_L20 (r0 : Nat) (i1 : Int32) (i2 : Int32) (i3 : Int32) (i4 : Int32) (μ : fw_M) (Q : Int32 → fw_M → Prop) : Prop := fw_lp (fun (k : Int32 × Int32 × Int32 × fw_M → Prop) (a : Int32 × Int32 × Int32 × fw_M) => p_X0_hired_L20b r0 i1 (fun i2 i3 i4 μ => k (i2, i3, i4, μ)) a.1 a.2.1 a.2.2.1 a.2.2.2 Q) (i2, i3, i4, μ)
theorem r_X0_hired_L20 {r0 : Nat} {i1 : Int32} {Q : Int32 → fw_M → Prop} (I : Int32 → Int32 → Int32 → fw_M → Prop) (v : Int32 → Int32 → Int32 → fw_M → Nat) (hs : ∀ (k : Int32 → Int32 → Int32 → fw_M → Prop) (i2 : Int32) (i3 : Int32) (i4 : Int32) (μ : fw_M), I i2 i3 i4 μ → (∀ (i2' : Int32) (i3' : Int32) (i4' : Int32) (ν : fw_M), I i2' i3' i4' ν → v i2' i3' i4' ν < v i2 i3 i4 μ → k i2' i3' i4' ν) → p_X0_hired_L20b r0 i1 k i2 i3 i4 μ Q) (i2 : Int32) (i3 : Int32) (i4 : Int32) (μ : fw_M) (h : I i2 i3 i4 μ) : p_X0_hired_L20 r0 i1 i2 i3 i4 μ Q :=
  fw_lp_in (A := Int32 × Int32 × Int32 × fw_M) (fun a => I a.1 a.2.1 a.2.2.1 a.2.2.2) (fun a => v a.1 a.2.1 a.2.2.1 a.2.2.2) (fun k a ha hk => hs (fun i2 i3 i4 μ => k (i2, i3, i4, μ)) a.1 a.2.1 a.2.2.1 a.2.2.2 ha (fun i2' i3' i4' ν hb hlt => hk (i2', i3', i4', ν) hb hlt)) (i2, i3, i4, μ) h
set_option maxHeartbeats 4000000 in
theorem w_X0_hired_L20b {g : fw_G} {f bc bs : Nat} {r0 : Nat} {i1 : Int32} {k20 : Int32 → Int32 → Int32 → fw_M → Prop} {i2 : Int32} {i3 : Int32} {i4 : Int32} {μ : fw_M} {Q : Int32 → fw_M → Prop} (hf : 405 ≤ f) (hk20 : ∀ {i2 : Int32} {i3 : Int32} {i4 : Int32} {μ : fw_M}, m_K μ r0 = 1 → k20 i2 i3 i4 μ → fw_V g K_X0_hired f bc bs 20 [(0, fw_rv g r0), (1, Value.int i1), (2, Value.int i2), (3, Value.int i3), (4, Value.int i4)] [] μ (fw_Qi Q) fw_nX) (hx : m_K μ r0 = 1) (h : p_X0_hired_L20b r0 i1 k20 i2 i3 i4 μ Q) : fw_V g K_X0_hired f bc bs 20 [(0, fw_rv g r0), (1, Value.int i1), (2, Value.int i2), (3, Value.int i3), (4, Value.int i4)] [] μ (fw_Qi Q) fw_nX := by
  unfold p_X0_hired_L20b at h
  refine fw_iload dX0_hired_20 rfl ?_
  refine fw_iconst (v := 1) dX0_hired_22 (by decide) ?_
  refine fw_aload_n dX0_hired_23 rfl rfl ?_
  refine fw_getfP fl_X0_12 rfl hx dX0_hired_24 ?_
  obtain ⟨hg1, h⟩ := h
  refine fw_getfI fl_X0_63 rfl hg1 dX0_hired_27 ?_
  refine fw_ishl dX0_hired_30 ?_
  refine fw_icmp_ge (tgt := 169) dX0_hired_31 (by decide) (fun c2 => ?_) (fun c2 => ?_)
  · have h := fw_it h c2
    refine fw_iload_n dX0_hired_169 rfl rfl ?_
    exact fw_ireturn dX0_hired_170 rfl rfl ⟨_, rfl, h⟩
  · have h := fw_if h c2
    refine fw_iconst (v := 0) dX0_hired_34 (by decide) ?_
    refine fw_istoreN (Ls' := [(5, Value.int (0 : Int32)), (4, Value.int i4), (0, fw_rv g r0), (1, Value.int i1), (2, Value.int i2), (3, Value.int i3)]) [0, 1, 2, 3] dX0_hired_35 (by decide) rfl rfl rfl rfl rfl ?_
    refine fw_iconst (v := 0) dX0_hired_37 (by decide) ?_
    refine fw_istoreN (Ls' := [(6, Value.int (0 : Int32)), (5, Value.int (0 : Int32)), (4, Value.int i4), (0, fw_rv g r0), (1, Value.int i1), (2, Value.int i2), (3, Value.int i3)]) [1, 2, 3, 4, 5] dX0_hired_38 (by decide) rfl rfl rfl rfl rfl ?_
    refine fw_iconst (v := 0) dX0_hired_40 (by decide) ?_
    refine fw_istoreN (Ls' := [(7, Value.int (0 : Int32)), (6, Value.int (0 : Int32)), (5, Value.int (0 : Int32)), (4, Value.int i4), (0, fw_rv g r0), (1, Value.int i1), (2, Value.int i2), (3, Value.int i3)]) [1, 2, 3, 4, 5, 6] dX0_hired_41 (by decide) rfl rfl rfl rfl rfl ?_
    refine fw_ls [4, 5, 6, 7, 3, 2, 1, 0] rfl ?_
    exact w_X0_hired_L43 hf hk20 hx h
theorem w_X0_hired_L20 {g : fw_G} {f bc bs : Nat} {r0 : Nat} {i1 : Int32} {i2 : Int32} {i3 : Int32} {i4 : Int32} {μ : fw_M} {Q : Int32 → fw_M → Prop} (hf : 405 ≤ f) (hx : m_K μ r0 = 1) (h : p_X0_hired_L20 r0 i1 i2 i3 i4 μ Q) : fw_V g K_X0_hired f bc bs 20 [(0, fw_rv g r0), (1, Value.int i1), (2, Value.int i2), (3, Value.int i3), (4, Value.int i4)] [] μ (fw_Qi Q) fw_nX := by
  have key := fw_lp_out (R := fun (a : Int32 × Int32 × Int32 × fw_M) => m_K a.2.2.2 r0 = 1 → fw_V g K_X0_hired f bc bs 20 [(0, fw_rv g r0), (1, Value.int i1), (2, Value.int a.1), (3, Value.int a.2.1), (4, Value.int a.2.2.1)] [] a.2.2.2 (fw_Qi Q) fw_nX) (fun k hk9 a ha hx2 => w_X0_hired_L20b hf (fun {i2 i3 i4} {μ} hx3 h3 => hk9 (i2, i3, i4, μ) h3 hx3) hx2 ha) h
  exact key hx
def p_X0_hired (r0 : Nat) (i1 : Int32) (μ : fw_M) (Q : Int32 → fw_M → Prop) : Prop :=
  (p_X0_in i1 (1 : Int32) (9999 : Int32) μ (fun v1 μ2 =>
  (if v1 = 0 then
  (Q (-1 : Int32) μ2)
  else
  (p_X0_hired_L20 r0 i1 (-1 : Int32) (0 : Int32) (0 : Int32) μ2 Q))))
set_option maxHeartbeats 4000000 in
theorem w_X0_hired {g : fw_G} {f bc bs : Nat} {r0 : Nat} {i1 : Int32} {μ : fw_M} {Q : Int32 → fw_M → Prop} (hf : 405 ≤ f) (hx : m_K μ r0 = 1) (h : p_X0_hired r0 i1 μ Q) : fw_C g f bc bs yX0_hired (ws_ yX0_hired cX0_hired 8 (some .int)) [fw_rv g r0, Value.int i1] μ (fw_Qi Q) fw_nX := by
  unfold p_X0_hired at h
  refine fw_intro' (Ls := [(0, fw_rv g r0), (1, Value.int i1)]) (by decide +kernel) (by simp [lg_sl, fw_cat, fw_ci, fw_clo]) (by simp [lv_args, fw_cat, fw_ci, fw_clo]) ?_
  show fw_V g K_X0_hired f bc bs 0 [(0, fw_rv g r0), (1, Value.int i1)] [] μ (fw_Qi Q) fw_nX
  refine fw_iload_n dX0_hired_0 rfl rfl ?_
  refine fw_iconst (v := 1) dX0_hired_1 (by decide) ?_
  refine fw_sipush (v := 9999) dX0_hired_2 (by decide) ?_
  refine fw_callS3z (f1 := f - 1) cl_X0_66 (by decide) (by omega) (fw_s4 (Nat.le_of_ble_eq_true rfl)) dX0_hired_5 (w_X0_in (f := f - 1) (by omega) h) (fun _ _ h9 _ _ => h9.elim) (fun v9 μ2 q9 hs3 => ?_)
  obtain ⟨v1, rfl, h⟩ := q9
  refine fw_ti ?_
  have hg4 := hs3.K hx (by decide)
  refine fw_if_ne (tgt := 13) dX0_hired_8 (by decide) (fun c5 => ?_) (fun c5 => ?_)
  · have h := fw_if h c5
    refine fw_iconst (v := -1) dX0_hired_13 (by decide) ?_
    refine fw_istore_nN (Ls' := [(2, Value.int (-1 : Int32)), (1, Value.int i1), (0, fw_rv g r0)]) [0] dX0_hired_14 rfl (by decide) rfl rfl rfl rfl rfl ?_
    refine fw_iconst (v := 0) dX0_hired_15 (by decide) ?_
    refine fw_istore_nN (Ls' := [(3, Value.int (0 : Int32)), (2, Value.int (-1 : Int32)), (1, Value.int i1), (0, fw_rv g r0)]) [1, 2] dX0_hired_16 rfl (by decide) rfl rfl rfl rfl rfl ?_
    refine fw_iconst (v := 0) dX0_hired_17 (by decide) ?_
    refine fw_istoreN (Ls' := [(4, Value.int (0 : Int32)), (3, Value.int (0 : Int32)), (2, Value.int (-1 : Int32)), (1, Value.int i1), (0, fw_rv g r0)]) [1, 2, 3] dX0_hired_18 (by decide) rfl rfl rfl rfl rfl ?_
    refine fw_ls [4, 3, 2, 1, 0] rfl ?_
    exact w_X0_hired_L20 hf hg4 h
  · have h := fw_it h c5
    refine fw_iconst (v := -1) dX0_hired_11 (by decide) ?_
    exact fw_ireturn dX0_hired_12 rfl rfl ⟨_, rfl, h⟩
abbrev K_X0_contrary : fw_Kt := (RX0, "contrary", cX0_contrary, 5, some .int, [])
def p_X0_contrary_L28b (k2 : Int32 → fw_M → Prop) (r0 : Nat) (i1 : Int32) (r2 : Nat) (k28 : Int32 → fw_M → Prop) (i3 : Int32) (μ : fw_M) (Q : Int32 → fw_M → Prop) : Prop :=
  (if i1 ≤ i3 then
  ((∀ i1_2 : Int32, i1_2 = i1 + (1 : Int32) →
   k2 i1_2 μ))
  else
  ((m_K μ (m_P μ r0 0) = 2 ∧ (m_K μ (m_P μ (m_P μ r0 0) 13) = 103 ∧ (vp_in i3 (m_N μ (m_P μ (m_P μ r0 0) 13)) ∧ (∀ r4_7 : Nat, r4_7 = (m_P μ (m_P μ (m_P μ r0 0) 13) i3.toNatClampNeg) →
   (m_K μ r4_7 = 100 ∧ (vp_in (0 : Int32) (m_N μ r4_7) ∧ (m_K μ r2 = 100 ∧ (vp_in (0 : Int32) (m_N μ r2) ∧ (if (m_I μ r4_7 (0 : Int32).toNatClampNeg) = (m_I μ r2 (0 : Int32).toNatClampNeg) then
   ((vp_in (1 : Int32) (m_N μ r4_7) ∧ (vp_in (1 : Int32) (m_N μ r2) ∧ (if (m_I μ r4_7 (1 : Int32).toNatClampNeg) = (m_I μ r2 (1 : Int32).toNatClampNeg) then
    ((vp_in (2 : Int32) (m_N μ r4_7) ∧ (vp_in (2 : Int32) (m_N μ r2) ∧ (if (m_I μ r4_7 (2 : Int32).toNatClampNeg) = (m_I μ r2 (2 : Int32).toNatClampNeg) then
     ((∀ i3_24 : Int32, i3_24 = i3 + (1 : Int32) →
      k28 i3_24 μ))
     else
     (Q (((30 : Int32) * i3) + i1) μ)))))
    else
    ((∀ i3_19 : Int32, i3_19 = i3 + (1 : Int32) →
     k28 i3_19 μ))))))
   else
   ((∀ i3_14 : Int32, i3_14 = i3 + (1 : Int32) →
    k28 i3_14 μ)))))))))))))
def p_X0_contrary_L28 (k2 : Int32 → fw_M → Prop) (r0 : Nat) (i1 : Int32) (r2 : Nat) (i3 : Int32) (μ : fw_M) (Q : Int32 → fw_M → Prop) : Prop := fw_lp (fun (k : Int32 × fw_M → Prop) (a : Int32 × fw_M) => p_X0_contrary_L28b k2 r0 i1 r2 (fun i3 μ => k (i3, μ)) a.1 a.2 Q) (i3, μ)
theorem r_X0_contrary_L28 {k2 : Int32 → fw_M → Prop} {r0 : Nat} {i1 : Int32} {r2 : Nat} {Q : Int32 → fw_M → Prop} (I : Int32 → fw_M → Prop) (v : Int32 → fw_M → Nat) (hs : ∀ (k : Int32 → fw_M → Prop) (i3 : Int32) (μ : fw_M), I i3 μ → (∀ (i3' : Int32) (ν : fw_M), I i3' ν → v i3' ν < v i3 μ → k i3' ν) → p_X0_contrary_L28b k2 r0 i1 r2 k i3 μ Q) (i3 : Int32) (μ : fw_M) (h : I i3 μ) : p_X0_contrary_L28 k2 r0 i1 r2 i3 μ Q :=
  fw_lp_in (A := Int32 × fw_M) (fun a => I a.1 a.2) (fun a => v a.1 a.2) (fun k a ha hk => hs (fun i3 μ => k (i3, μ)) a.1 a.2 ha (fun i3' ν hb hlt => hk (i3', ν) hb hlt)) (i3, μ) h
set_option maxHeartbeats 4000000 in
theorem w_X0_contrary_L28b {g : fw_G} {f bc bs : Nat} {k2 : Int32 → fw_M → Prop} {r0 : Nat} {i1 : Int32} {r2 : Nat} {k28 : Int32 → fw_M → Prop} {i3 : Int32} {μ : fw_M} {Q : Int32 → fw_M → Prop} (hf : 1 ≤ f) (hk2 : ∀ {i1 : Int32} {μ : fw_M}, m_K μ r0 = 1 → k2 i1 μ → fw_V g K_X0_contrary f bc bs 2 [(0, fw_rv g r0), (1, Value.int i1)] [] μ (fw_Qi Q) fw_nX) (hk28 : ∀ {i3 : Int32} {μ : fw_M}, m_K μ r0 = 1 → k28 i3 μ → fw_V g K_X0_contrary f bc bs 28 [(0, fw_rv g r0), (1, Value.int i1), (2, fw_rv g r2), (3, Value.int i3)] [] μ (fw_Qi Q) fw_nX) (hx : m_K μ r0 = 1) (h : p_X0_contrary_L28b k2 r0 i1 r2 k28 i3 μ Q) : fw_V g K_X0_contrary f bc bs 28 [(0, fw_rv g r0), (1, Value.int i1), (2, fw_rv g r2), (3, Value.int i3)] [] μ (fw_Qi Q) fw_nX := by
  unfold p_X0_contrary_L28b at h
  refine fw_iload_n dX0_contrary_28 rfl rfl ?_
  refine fw_iload_n dX0_contrary_29 rfl rfl ?_
  refine fw_icmp_ge (tgt := 87) dX0_contrary_30 (by decide) (fun c1 => ?_) (fun c1 => ?_)
  · have h := fw_it h c1
    obtain ⟨i1_2, e3⟩ : ∃ y : Int32, y = i1 + (1 : Int32) := ⟨_, rfl⟩
    have h := h i1_2 e3
    refine fw_iincN (k := 1) (v := i1_2) (Ls' := [(1, Value.int i1_2), (0, fw_rv g r0), (2, fw_rv g r2), (3, Value.int i3)]) [2, 3] dX0_contrary_87 rfl (by rw [e3]; rfl) (by decide) rfl rfl rfl (fw_cat _) rfl ?_
    refine fw_goto (tgt := 2) dX0_contrary_90 (by decide) ?_
    refine fw_ls [1, 0] rfl ?_
    exact hk2 hx h
  · have h := fw_if h c1
    refine fw_aload_n dX0_contrary_33 rfl rfl ?_
    refine fw_getfP fl_X0_12 rfl hx dX0_contrary_34 ?_
    obtain ⟨hg4, h⟩ := h
    refine fw_getfP fl_X0_166 rfl hg4 dX0_contrary_37 ?_
    refine fw_iload_n dX0_contrary_40 rfl rfl ?_
    obtain ⟨hg5, h⟩ := h
    obtain ⟨hc6, h⟩ := h
    refine fw_aald hg5 rfl rfl hc6 dX0_contrary_41 ?_
    refine fw_topr (fun r4_7 e8 => ?_)
    have h := h r4_7 e8
    refine fw_astoreN (Ls' := [(4, fw_rv g r4_7), (3, Value.int i3), (0, fw_rv g r0), (1, Value.int i1), (2, fw_rv g r2)]) [0, 1, 2] dX0_contrary_42 (by decide) rfl rfl rfl rfl rfl ?_
    refine fw_aload dX0_contrary_44 rfl ?_
    refine fw_iconst (v := 0) dX0_contrary_46 (by decide) ?_
    obtain ⟨hg9, h⟩ := h
    obtain ⟨hc10, h⟩ := h
    refine fw_iald hg9 hc10 dX0_contrary_47 ?_
    refine fw_aload_n dX0_contrary_48 rfl rfl ?_
    refine fw_iconst (v := 0) dX0_contrary_49 (by decide) ?_
    obtain ⟨hg11, h⟩ := h
    obtain ⟨hc12, h⟩ := h
    refine fw_iald hg11 hc12 dX0_contrary_50 ?_
    refine fw_icmp_ne (tgt := 81) dX0_contrary_51 (by decide) (fun c13 => ?_) (fun c13 => ?_)
    · have h := fw_if h c13
      obtain ⟨i3_14, e15⟩ : ∃ y : Int32, y = i3 + (1 : Int32) := ⟨_, rfl⟩
      have h := h i3_14 e15
      refine fw_iincN (k := 1) (v := i3_14) (Ls' := [(3, Value.int i3_14), (2, fw_rv g r2), (4, fw_rv g r4_7), (0, fw_rv g r0), (1, Value.int i1)]) [0, 2, 3] dX0_contrary_81 rfl (by rw [e15]; rfl) (by decide) rfl rfl rfl (fw_cat _) rfl ?_
      refine fw_goto (tgt := 28) dX0_contrary_84 (by decide) ?_
      refine fw_ls [3, 4, 1, 0] rfl ?_
      exact hk28 hx h
    · have h := fw_it h c13
      refine fw_aload dX0_contrary_54 rfl ?_
      refine fw_iconst (v := 1) dX0_contrary_56 (by decide) ?_
      obtain ⟨hc16, h⟩ := h
      refine fw_iald hg9 hc16 dX0_contrary_57 ?_
      refine fw_aload_n dX0_contrary_58 rfl rfl ?_
      refine fw_iconst (v := 1) dX0_contrary_59 (by decide) ?_
      obtain ⟨hc17, h⟩ := h
      refine fw_iald hg11 hc17 dX0_contrary_60 ?_
      refine fw_icmp_ne (tgt := 81) dX0_contrary_61 (by decide) (fun c18 => ?_) (fun c18 => ?_)
      · have h := fw_if h c18
        obtain ⟨i3_19, e20⟩ : ∃ y : Int32, y = i3 + (1 : Int32) := ⟨_, rfl⟩
        have h := h i3_19 e20
        refine fw_iincN (k := 1) (v := i3_19) (Ls' := [(3, Value.int i3_19), (2, fw_rv g r2), (4, fw_rv g r4_7), (0, fw_rv g r0), (1, Value.int i1)]) [0, 2, 3] dX0_contrary_81 rfl (by rw [e20]; rfl) (by decide) rfl rfl rfl (fw_cat _) rfl ?_
        refine fw_goto (tgt := 28) dX0_contrary_84 (by decide) ?_
        refine fw_ls [3, 4, 1, 0] rfl ?_
        exact hk28 hx h
      · have h := fw_it h c18
        refine fw_aload dX0_contrary_64 rfl ?_
        refine fw_iconst (v := 2) dX0_contrary_66 (by decide) ?_
        obtain ⟨hc21, h⟩ := h
        refine fw_iald hg9 hc21 dX0_contrary_67 ?_
        refine fw_aload_n dX0_contrary_68 rfl rfl ?_
        refine fw_iconst (v := 2) dX0_contrary_69 (by decide) ?_
        obtain ⟨hc22, h⟩ := h
        refine fw_iald hg11 hc22 dX0_contrary_70 ?_
        refine fw_icmp_eq (tgt := 81) dX0_contrary_71 (by decide) (fun c23 => ?_) (fun c23 => ?_)
        · have h := fw_it h c23
          obtain ⟨i3_24, e25⟩ : ∃ y : Int32, y = i3 + (1 : Int32) := ⟨_, rfl⟩
          have h := h i3_24 e25
          refine fw_iincN (k := 1) (v := i3_24) (Ls' := [(3, Value.int i3_24), (2, fw_rv g r2), (4, fw_rv g r4_7), (0, fw_rv g r0), (1, Value.int i1)]) [0, 2, 3] dX0_contrary_81 rfl (by rw [e25]; rfl) (by decide) rfl rfl rfl (fw_cat _) rfl ?_
          refine fw_goto (tgt := 28) dX0_contrary_84 (by decide) ?_
          refine fw_ls [3, 4, 1, 0] rfl ?_
          exact hk28 hx h
        · have h := fw_if h c23
          refine fw_bipush (v := 30) dX0_contrary_74 (by decide) ?_
          refine fw_iload_n dX0_contrary_76 rfl rfl ?_
          refine fw_imul dX0_contrary_77 ?_
          refine fw_iload_n dX0_contrary_78 rfl rfl ?_
          refine fw_iadd dX0_contrary_79 ?_
          exact fw_ireturn dX0_contrary_80 rfl rfl ⟨_, rfl, h⟩
theorem w_X0_contrary_L28 {g : fw_G} {f bc bs : Nat} {k2 : Int32 → fw_M → Prop} {r0 : Nat} {i1 : Int32} {r2 : Nat} {i3 : Int32} {μ : fw_M} {Q : Int32 → fw_M → Prop} (hf : 1 ≤ f) (hk2 : ∀ {i1 : Int32} {μ : fw_M}, m_K μ r0 = 1 → k2 i1 μ → fw_V g K_X0_contrary f bc bs 2 [(0, fw_rv g r0), (1, Value.int i1)] [] μ (fw_Qi Q) fw_nX) (hx : m_K μ r0 = 1) (h : p_X0_contrary_L28 k2 r0 i1 r2 i3 μ Q) : fw_V g K_X0_contrary f bc bs 28 [(0, fw_rv g r0), (1, Value.int i1), (2, fw_rv g r2), (3, Value.int i3)] [] μ (fw_Qi Q) fw_nX := by
  have key := fw_lp_out (R := fun (a : Int32 × fw_M) => m_K a.2 r0 = 1 → fw_V g K_X0_contrary f bc bs 28 [(0, fw_rv g r0), (1, Value.int i1), (2, fw_rv g r2), (3, Value.int a.1)] [] a.2 (fw_Qi Q) fw_nX) (fun k hk9 a ha hx2 => w_X0_contrary_L28b hf hk2 (fun {i3} {μ} hx3 h3 => hk9 (i3, μ) h3 hx3) hx2 ha) h
  exact key hx
def p_X0_contrary_L2b (r0 : Nat) (k2 : Int32 → fw_M → Prop) (i1 : Int32) (μ : fw_M) (Q : Int32 → fw_M → Prop) : Prop :=
  (m_K μ (m_P μ r0 0) = 2 ∧ (m_K μ (m_P μ (m_P μ r0 0) 9) = 100 ∧ (vp_in (24 : Int32) (m_N μ (m_P μ (m_P μ r0 0) 9)) ∧ (if (m_I μ (m_P μ (m_P μ r0 0) 9) (24 : Int32).toNatClampNeg) ≤ i1 then
  (Q (-1 : Int32) μ)
  else
  ((m_K μ (m_P μ (m_P μ r0 0) 13) = 103 ∧ (vp_in i1 (m_N μ (m_P μ (m_P μ r0 0) 13)) ∧ (∀ r2_7 : Nat, r2_7 = (m_P μ (m_P μ (m_P μ r0 0) 13) i1.toNatClampNeg) →
   p_X0_contrary_L28 k2 r0 i1 r2_7 (0 : Int32) μ Q))))))))
def p_X0_contrary_L2 (r0 : Nat) (i1 : Int32) (μ : fw_M) (Q : Int32 → fw_M → Prop) : Prop := fw_lp (fun (k : Int32 × fw_M → Prop) (a : Int32 × fw_M) => p_X0_contrary_L2b r0 (fun i1 μ => k (i1, μ)) a.1 a.2 Q) (i1, μ)
theorem r_X0_contrary_L2 {r0 : Nat} {Q : Int32 → fw_M → Prop} (I : Int32 → fw_M → Prop) (v : Int32 → fw_M → Nat) (hs : ∀ (k : Int32 → fw_M → Prop) (i1 : Int32) (μ : fw_M), I i1 μ → (∀ (i1' : Int32) (ν : fw_M), I i1' ν → v i1' ν < v i1 μ → k i1' ν) → p_X0_contrary_L2b r0 k i1 μ Q) (i1 : Int32) (μ : fw_M) (h : I i1 μ) : p_X0_contrary_L2 r0 i1 μ Q :=
  fw_lp_in (A := Int32 × fw_M) (fun a => I a.1 a.2) (fun a => v a.1 a.2) (fun k a ha hk => hs (fun i1 μ => k (i1, μ)) a.1 a.2 ha (fun i1' ν hb hlt => hk (i1', ν) hb hlt)) (i1, μ) h
set_option maxHeartbeats 4000000 in
theorem w_X0_contrary_L2b {g : fw_G} {f bc bs : Nat} {r0 : Nat} {k2 : Int32 → fw_M → Prop} {i1 : Int32} {μ : fw_M} {Q : Int32 → fw_M → Prop} (hf : 1 ≤ f) (hk2 : ∀ {i1 : Int32} {μ : fw_M}, m_K μ r0 = 1 → k2 i1 μ → fw_V g K_X0_contrary f bc bs 2 [(0, fw_rv g r0), (1, Value.int i1)] [] μ (fw_Qi Q) fw_nX) (hx : m_K μ r0 = 1) (h : p_X0_contrary_L2b r0 k2 i1 μ Q) : fw_V g K_X0_contrary f bc bs 2 [(0, fw_rv g r0), (1, Value.int i1)] [] μ (fw_Qi Q) fw_nX := by
  unfold p_X0_contrary_L2b at h
  refine fw_iload_n dX0_contrary_2 rfl rfl ?_
  refine fw_aload_n dX0_contrary_3 rfl rfl ?_
  refine fw_getfP fl_X0_12 rfl hx dX0_contrary_4 ?_
  obtain ⟨hg1, h⟩ := h
  refine fw_getfP fl_X0_77 rfl hg1 dX0_contrary_7 ?_
  refine fw_bipush (v := 24) dX0_contrary_10 (by decide) ?_
  obtain ⟨hg2, h⟩ := h
  obtain ⟨hc3, h⟩ := h
  refine fw_iald hg2 hc3 dX0_contrary_12 ?_
  refine fw_icmp_ge (tgt := 93) dX0_contrary_13 (by decide) (fun c4 => ?_) (fun c4 => ?_)
  · have h := fw_it h c4
    refine fw_iconst (v := -1) dX0_contrary_93 (by decide) ?_
    exact fw_ireturn dX0_contrary_94 rfl rfl ⟨_, rfl, h⟩
  · have h := fw_if h c4
    refine fw_aload_n dX0_contrary_16 rfl rfl ?_
    refine fw_getfP fl_X0_12 rfl hx dX0_contrary_17 ?_
    refine fw_getfP fl_X0_166 rfl hg1 dX0_contrary_20 ?_
    refine fw_iload_n dX0_contrary_23 rfl rfl ?_
    obtain ⟨hg5, h⟩ := h
    obtain ⟨hc6, h⟩ := h
    refine fw_aald hg5 rfl rfl hc6 dX0_contrary_24 ?_
    refine fw_topr (fun r2_7 e8 => ?_)
    have h := h r2_7 e8
    refine fw_astore_nN (Ls' := [(2, fw_rv g r2_7), (1, Value.int i1), (0, fw_rv g r0)]) [0] dX0_contrary_25 rfl (by decide) rfl rfl rfl rfl rfl ?_
    refine fw_iconst (v := 0) dX0_contrary_26 (by decide) ?_
    refine fw_istore_nN (Ls' := [(3, Value.int (0 : Int32)), (2, fw_rv g r2_7), (1, Value.int i1), (0, fw_rv g r0)]) [1, 2] dX0_contrary_27 rfl (by decide) rfl rfl rfl (fw_cat _) rfl ?_
    refine fw_ls [3, 2, 1, 0] rfl ?_
    exact w_X0_contrary_L28 hf hk2 hx h
theorem w_X0_contrary_L2 {g : fw_G} {f bc bs : Nat} {r0 : Nat} {i1 : Int32} {μ : fw_M} {Q : Int32 → fw_M → Prop} (hf : 1 ≤ f) (hx : m_K μ r0 = 1) (h : p_X0_contrary_L2 r0 i1 μ Q) : fw_V g K_X0_contrary f bc bs 2 [(0, fw_rv g r0), (1, Value.int i1)] [] μ (fw_Qi Q) fw_nX := by
  have key := fw_lp_out (R := fun (a : Int32 × fw_M) => m_K a.2 r0 = 1 → fw_V g K_X0_contrary f bc bs 2 [(0, fw_rv g r0), (1, Value.int a.1)] [] a.2 (fw_Qi Q) fw_nX) (fun k hk9 a ha hx2 => w_X0_contrary_L2b hf (fun {i1} {μ} hx3 h3 => hk9 (i1, μ) h3 hx3) hx2 ha) h
  exact key hx
def p_X0_contrary (r0 : Nat) (μ : fw_M) (Q : Int32 → fw_M → Prop) : Prop :=
  p_X0_contrary_L2 r0 (0 : Int32) μ Q
set_option maxHeartbeats 4000000 in
theorem w_X0_contrary {g : fw_G} {f bc bs : Nat} {r0 : Nat} {μ : fw_M} {Q : Int32 → fw_M → Prop} (hf : 1 ≤ f) (hx : m_K μ r0 = 1) (h : p_X0_contrary r0 μ Q) : fw_C g f bc bs yX0_contrary (ws_ yX0_contrary cX0_contrary 5 (some .int)) [fw_rv g r0] μ (fw_Qi Q) fw_nX := by
  unfold p_X0_contrary at h
  refine fw_intro' (Ls := [(0, fw_rv g r0)]) (by decide +kernel) (by simp [lg_sl, fw_cat, fw_ci, fw_clo]) (by simp [lv_args, fw_cat, fw_ci, fw_clo]) ?_
  show fw_V g K_X0_contrary f bc bs 0 [(0, fw_rv g r0)] [] μ (fw_Qi Q) fw_nX
  refine fw_iconst (v := 0) dX0_contrary_0 (by decide) ?_
  refine fw_istore_nN (Ls' := [(1, Value.int (0 : Int32)), (0, fw_rv g r0)]) [] dX0_contrary_1 rfl (by decide) rfl rfl rfl (fw_cat _) rfl ?_
  refine fw_ls [1, 0] rfl ?_
  exact w_X0_contrary_L2 hf hx h
abbrev K_X0_odds : fw_Kt := (RX0, "odds", cX0_odds, 8, some .long, [])
def p_X0_odds_L63 (r0 : Nat) (l4 : Int64) (l6 : Int64) (ls0 : Int64) (bc : Nat) (bs : Nat) (μ : fw_M) (Q : Int64 → fw_M → Prop) : Prop :=
  (pc_X0_common l4 l6 μ (fun w1 μ2 =>
  (¬ w1 = 0 ∧ Q (ls0 / w1) μ2)))
set_option maxHeartbeats 4000000 in
theorem w_X0_odds_L63 {g : fw_G} {f : Nat} {r0 : Nat} {l4 : Int64} {l6 : Int64} {ls0 : Int64} {bc : Nat} {bs : Nat} {μ : fw_M} {Q : Int64 → fw_M → Prop} (hf : 66 ≤ f) (hx : m_K μ r0 = 1) (h : p_X0_odds_L63 r0 l4 l6 ls0 bc bs μ Q) : fw_V g K_X0_odds f bc bs 63 [(0, fw_rv g r0), (4, Value.long l4), (6, Value.long l6)] [Value.long ls0] μ (fw_Ql Q) fw_nX := by
  unfold p_X0_odds_L63 at h
  refine fw_lload dX0_odds_63 rfl ?_
  refine fw_lload dX0_odds_65 rfl ?_
  refine fw_callS2z (f1 := f - 1) cl_X0_273 (by decide) (by omega) (fw_s4 (Nat.le_of_ble_eq_true rfl)) dX0_odds_67 (wc_X0_common (f := f - 1) (by omega) h) (fun _ _ h9 _ _ => h9.elim) (fun v9 μ2 q9 hs3 => ?_)
  obtain ⟨w1, rfl, h⟩ := q9
  refine fw_tl ?_
  have hg4 := hs3.K hx (by decide)
  obtain ⟨hc5, h⟩ := h
  refine fw_ldiv dX0_odds_70 hc5 ?_
  exact fw_lreturn dX0_odds_71 rfl ⟨_, rfl, h⟩
def p_X0_odds (bc : Nat) (bs : Nat) (r0 : Nat) (i1 : Int32) (i2 : Int32) (i3 : Int32) (μ : fw_M) (Q : Int64 → fw_M → Prop) : Prop :=
  (p_X0_in i1 (-9999 : Int32) (9999 : Int32) μ (fun v1 μ2 =>
  (if v1 = 0 then
  (Q (-1 : Int64) μ2)
  else
  ((p_X0_in i2 (0 : Int32) (6 : Int32) μ2 (fun v6 μ7 =>
   (if v6 = 0 then
   (Q (-1 : Int64) μ7)
   else
   ((m_K μ7 (m_P μ7 r0 0) = 2 ∧ (∃ b14 b15, b14 ≤ bc ∧ b15 ≤ bs ∧ (p_J9_copyOf b14 b15 (m_P μ7 (m_P μ7 r0 0) 9) (4 : Int32) μ7 (fun r12 μ13 =>
    (pc_X0_ways r12 i1 i2 μ13 (fun w20 μ21 =>
    (∀ l6_24 : Int64, l6_24 = ((1 : Int64) <<< (((2 : Int32) * i2).toInt64 &&& 63)) →
    (if i3 = 0 then
    (p_X0_odds_L63 r0 w20 l6_24 w20 (bc - b14) (bs - b15) μ21 Q)
    else
    (p_X0_odds_L63 r0 w20 l6_24 l6_24 (bc - b14) (bs - b15) μ21 Q)))))))))))))))))
set_option maxHeartbeats 4000000 in
theorem w_X0_odds {g : fw_G} {f bc bs : Nat} {r0 : Nat} {i1 : Int32} {i2 : Int32} {i3 : Int32} {μ : fw_M} {Q : Int64 → fw_M → Prop} (hf : 66 ≤ f) (hx : m_K μ r0 = 1) (h : p_X0_odds bc bs r0 i1 i2 i3 μ Q) : fw_C g f bc bs yX0_odds (ws_ yX0_odds cX0_odds 8 (some .long)) [fw_rv g r0, Value.int i1, Value.int i2, Value.int i3] μ (fw_Ql Q) fw_nX := by
  unfold p_X0_odds at h
  refine fw_intro' (Ls := [(0, fw_rv g r0), (1, Value.int i1), (2, Value.int i2), (3, Value.int i3)]) (by decide +kernel) (by simp [lg_sl, fw_cat, fw_ci, fw_clo]) (by simp [lv_args, fw_cat, fw_ci, fw_clo]) ?_
  show fw_V g K_X0_odds f bc bs 0 [(0, fw_rv g r0), (1, Value.int i1), (2, Value.int i2), (3, Value.int i3)] [] μ (fw_Ql Q) fw_nX
  refine fw_iload_n dX0_odds_0 rfl rfl ?_
  refine fw_sipush (v := -9999) dX0_odds_1 (by decide) ?_
  refine fw_sipush (v := 9999) dX0_odds_4 (by decide) ?_
  refine fw_callS3z (f1 := f - 1) cl_X0_66 (by decide) (by omega) (fw_s4 (Nat.le_of_ble_eq_true rfl)) dX0_odds_7 (w_X0_in (f := f - 1) (by omega) h) (fun _ _ h9 _ _ => h9.elim) (fun v9 μ2 q9 hs3 => ?_)
  obtain ⟨v1, rfl, h⟩ := q9
  refine fw_ti ?_
  have hg4 := hs3.K hx (by decide)
  refine fw_if_eq (tgt := 23) dX0_odds_10 (by decide) (fun c5 => ?_) (fun c5 => ?_)
  · have h := fw_it h c5
    refine fw_ldc2 q985 dX0_odds_23 ?_
    exact fw_lreturn dX0_odds_26 rfl ⟨_, rfl, h⟩
  · have h := fw_if h c5
    refine fw_iload_n dX0_odds_13 rfl rfl ?_
    refine fw_iconst (v := 0) dX0_odds_14 (by decide) ?_
    refine fw_bipush (v := 6) dX0_odds_15 (by decide) ?_
    refine fw_callS3z (f1 := f - 1) cl_X0_66 (by decide) (by omega) (fw_s4 (Nat.le_of_ble_eq_true rfl)) dX0_odds_17 (w_X0_in (f := f - 1) (by omega) h) (fun _ _ h9 _ _ => h9.elim) (fun v9 μ7 q9 hs8 => ?_)
    obtain ⟨v6, rfl, h⟩ := q9
    refine fw_ti ?_
    have hg9 := hs8.K hg4 (by decide)
    refine fw_if_ne (tgt := 27) dX0_odds_20 (by decide) (fun c10 => ?_) (fun c10 => ?_)
    · have h := fw_if h c10
      refine fw_aload_n dX0_odds_27 rfl rfl ?_
      refine fw_getfP fl_X0_12 rfl hg9 dX0_odds_28 ?_
      obtain ⟨hg11, h⟩ := h
      refine fw_getfP fl_X0_77 rfl hg11 dX0_odds_31 ?_
      refine fw_iconst (v := 4) dX0_odds_34 (by decide) ?_
      obtain ⟨b14, b15, hb16, hb17, h⟩ := h
      refine fw_callS2 (f1 := f - 1) (b1 := b14) (b2 := b15) cl_X0_282 (by decide) (by omega) hb16 hb17 (fw_s4 (Nat.le_of_ble_eq_true rfl)) dX0_odds_35 (w_J9_copyOf (f := f - 1) (by omega) h) (fun _ _ h9 _ _ => h9.elim) (fun v9 μ13 q9 hs18 => ?_)
      obtain ⟨r12, rfl, h⟩ := q9
      refine fw_tr ?_
      have hg19 := hs18.K hg9 (by decide)
      refine fw_iload_n dX0_odds_38 rfl rfl ?_
      refine fw_iload_n dX0_odds_39 rfl rfl ?_
      refine fw_callS3z (f1 := f - 1) cl_X0_276 (by decide) (by omega) (fw_s4 (Nat.le_of_ble_eq_true rfl)) dX0_odds_40 (wc_X0_ways (f := f - 1) (by omega) h) (fun _ _ h9 _ _ => h9.elim) (fun v9 μ21 q9 hs22 => ?_)
      obtain ⟨w20, rfl, h⟩ := q9
      refine fw_tl ?_
      have hg23 := hs22.K hg19 (by decide)
      refine fw_lstoreN (Ls' := [(4, Value.long w20), (3, Value.int i3), (0, fw_rv g r0), (1, Value.int i1), (2, Value.int i2)]) [0, 1, 2] dX0_odds_43 (by decide) rfl rfl rfl rfl rfl ?_
      refine fw_lconst (v := 1) dX0_odds_45 (by decide) ?_
      refine fw_iconst (v := 2) dX0_odds_46 (by decide) ?_
      refine fw_iload_n dX0_odds_47 rfl rfl ?_
      refine fw_imul dX0_odds_48 ?_
      refine fw_lshl dX0_odds_49 ?_
      refine fw_topl (fun l6_24 e25 => ?_)
      have h := h l6_24 e25
      refine fw_lstore (Ls' := [(6, Value.long l6_24), (4, Value.long w20), (3, Value.int i3), (0, fw_rv g r0), (1, Value.int i1), (2, Value.int i2)]) [0, 1, 2, 3, 4] dX0_odds_50 (by decide) rfl rfl ?_
      refine fw_iload_n dX0_odds_52 rfl rfl ?_
      refine fw_if_eq (tgt := 61) dX0_odds_53 (by decide) (fun c26 => ?_) (fun c26 => ?_)
      · have h := fw_it h c26
        refine fw_lload dX0_odds_61 rfl ?_
        refine fw_ls [3, 1, 0] rfl ?_
        exact w_X0_odds_L63 hf hg23 h
      · have h := fw_if h c26
        refine fw_lload dX0_odds_56 rfl ?_
        refine fw_goto (tgt := 63) dX0_odds_58 (by decide) ?_
        refine fw_ls [3, 1, 0] rfl ?_
        exact w_X0_odds_L63 hf hg23 h
    · have h := fw_it h c10
      refine fw_ldc2 q985 dX0_odds_23 ?_
      exact fw_lreturn dX0_odds_26 rfl ⟨_, rfl, h⟩
abbrev K_X0_tell : fw_Kt := (RX0, "tell", cX0_tell, 3, some .int, [])
def p_X0_tell (r0 : Nat) (i1 : Int32) (i2 : Int32) (μ : fw_M) (Q : Int32 → fw_M → Prop) : Prop :=
  (if i1 = (-1 : Int32) then
  ((m_K μ (m_P μ r0 0) = 2 ∧ (∀ μ28, μ28 = m_uI μ (m_P μ r0 0) 5 (0 : Int32) →
   Q (0 : Int32) μ28)))
  else
  ((p_X0_isEater r0 i1 μ (fun v2 μ3 =>
   (if v2 = 0 then
   (Q (-2 : Int32) μ3)
   else
   ((p_X0_in i2 (1 : Int32) (999 : Int32) μ3 (fun v7 μ8 =>
    (if v7 = 0 then
    (Q (-2 : Int32) μ8)
    else
    ((m_K μ8 (m_P μ8 r0 0) = 2 ∧ (if (m_I μ8 (m_P μ8 r0 0) 5) = (20 : Int32) then
     (Q (-2 : Int32) μ8)
     else
     ((m_K μ8 (m_P μ8 (m_P μ8 r0 0) 15) = 103 ∧ (vp_in (m_I μ8 (m_P μ8 r0 0) 5) (m_N μ8 (m_P μ8 (m_P μ8 r0 0) 15)) ∧ (m_K μ8 (m_P μ8 (m_P μ8 (m_P μ8 r0 0) 15) (m_I μ8 (m_P μ8 r0 0) 5).toNatClampNeg) = 100 ∧ (vp_in (0 : Int32) (m_N μ8 (m_P μ8 (m_P μ8 (m_P μ8 r0 0) 15) (m_I μ8 (m_P μ8 r0 0) 5).toNatClampNeg)) ∧ (∀ μ18, μ18 = m_uI μ8 (m_P μ8 (m_P μ8 (m_P μ8 r0 0) 15) (m_I μ8 (m_P μ8 r0 0) 5).toNatClampNeg) (0 : Int32).toNatClampNeg i1 →
      (m_K μ18 (m_P μ18 r0 0) = 2 ∧ (m_K μ18 (m_P μ18 (m_P μ18 r0 0) 15) = 103 ∧ (vp_in (m_I μ18 (m_P μ18 r0 0) 5) (m_N μ18 (m_P μ18 (m_P μ18 r0 0) 15)) ∧ (m_K μ18 (m_P μ18 (m_P μ18 (m_P μ18 r0 0) 15) (m_I μ18 (m_P μ18 r0 0) 5).toNatClampNeg) = 100 ∧ (vp_in (1 : Int32) (m_N μ18 (m_P μ18 (m_P μ18 (m_P μ18 r0 0) 15) (m_I μ18 (m_P μ18 r0 0) 5).toNatClampNeg)) ∧ (∀ μ24, μ24 = m_uI μ18 (m_P μ18 (m_P μ18 (m_P μ18 r0 0) 15) (m_I μ18 (m_P μ18 r0 0) 5).toNatClampNeg) (1 : Int32).toNatClampNeg i2 →
      (m_K μ24 (m_P μ24 r0 0) = 2 ∧ (∀ μ26, μ26 = m_uI μ24 (m_P μ24 r0 0) 5 ((m_I μ24 (m_P μ24 r0 0) 5) + (1 : Int32)) →
      Q ((m_I μ24 (m_P μ24 r0 0) 5) + (1 : Int32)) μ26))))))))))))))))))))))))))
set_option maxHeartbeats 4000000 in
theorem w_X0_tell {g : fw_G} {f bc bs : Nat} {r0 : Nat} {i1 : Int32} {i2 : Int32} {μ : fw_M} {Q : Int32 → fw_M → Prop} (hf : 3 ≤ f) (hx : m_K μ r0 = 1) (h : p_X0_tell r0 i1 i2 μ Q) : fw_C g f bc bs yX0_tell (ws_ yX0_tell cX0_tell 3 (some .int)) [fw_rv g r0, Value.int i1, Value.int i2] μ (fw_Qi Q) fw_nX := by
  unfold p_X0_tell at h
  refine fw_intro' (Ls := [(0, fw_rv g r0), (1, Value.int i1), (2, Value.int i2)]) (by decide +kernel) (by simp [lg_sl, fw_cat, fw_ci, fw_clo]) (by simp [lv_args, fw_cat, fw_ci, fw_clo]) ?_
  show fw_V g K_X0_tell f bc bs 0 [(0, fw_rv g r0), (1, Value.int i1), (2, Value.int i2)] [] μ (fw_Qi Q) fw_nX
  refine fw_iload_n dX0_tell_0 rfl rfl ?_
  refine fw_iconst (v := -1) dX0_tell_1 (by decide) ?_
  refine fw_icmp_ne (tgt := 15) dX0_tell_2 (by decide) (fun c1 => ?_) (fun c1 => ?_)
  · have h := fw_if h c1
    refine fw_aload_n dX0_tell_15 rfl rfl ?_
    refine fw_iload_n dX0_tell_16 rfl rfl ?_
    refine fw_callV1z (f1 := f - 1) cl_X0_150 rfl hx (by decide) (by omega) (fw_s4 (Nat.le_of_ble_eq_true rfl)) dX0_tell_17 (w_X0_isEater (f := f - 1) (by omega) hx h) (fun _ _ h9 _ _ => h9.elim) (fun v9 μ3 q9 hs4 => ?_)
    obtain ⟨v2, rfl, h⟩ := q9
    refine fw_ti ?_
    have hg5 := hs4.K hx (by decide)
    refine fw_if_eq (tgt := 46) dX0_tell_20 (by decide) (fun c6 => ?_) (fun c6 => ?_)
    · have h := fw_it h c6
      refine fw_bipush (v := -2) dX0_tell_46 (by decide) ?_
      exact fw_ireturn dX0_tell_48 rfl rfl ⟨_, rfl, h⟩
    · have h := fw_if h c6
      refine fw_iload_n dX0_tell_23 rfl rfl ?_
      refine fw_iconst (v := 1) dX0_tell_24 (by decide) ?_
      refine fw_sipush (v := 999) dX0_tell_25 (by decide) ?_
      refine fw_callS3z (f1 := f - 1) cl_X0_66 (by decide) (by omega) (fw_s4 (Nat.le_of_ble_eq_true rfl)) dX0_tell_28 (w_X0_in (f := f - 1) (by omega) h) (fun _ _ h9 _ _ => h9.elim) (fun v9 μ8 q9 hs9 => ?_)
      obtain ⟨v7, rfl, h⟩ := q9
      refine fw_ti ?_
      have hg10 := hs9.K hg5 (by decide)
      refine fw_if_eq (tgt := 46) dX0_tell_31 (by decide) (fun c11 => ?_) (fun c11 => ?_)
      · have h := fw_it h c11
        refine fw_bipush (v := -2) dX0_tell_46 (by decide) ?_
        exact fw_ireturn dX0_tell_48 rfl rfl ⟨_, rfl, h⟩
      · have h := fw_if h c11
        refine fw_aload_n dX0_tell_34 rfl rfl ?_
        refine fw_getfP fl_X0_12 rfl hg10 dX0_tell_35 ?_
        obtain ⟨hg12, h⟩ := h
        refine fw_getfI fl_X0_288 rfl hg12 dX0_tell_38 ?_
        refine fw_bipush (v := 20) dX0_tell_41 (by decide) ?_
        refine fw_icmp_ne (tgt := 49) dX0_tell_43 (by decide) (fun c13 => ?_) (fun c13 => ?_)
        · have h := fw_if h c13
          refine fw_aload_n dX0_tell_49 rfl rfl ?_
          refine fw_getfP fl_X0_12 rfl hg10 dX0_tell_50 ?_
          refine fw_getfP fl_X0_291 rfl hg12 dX0_tell_53 ?_
          refine fw_aload_n dX0_tell_56 rfl rfl ?_
          refine fw_getfP fl_X0_12 rfl hg10 dX0_tell_57 ?_
          refine fw_getfI fl_X0_288 rfl hg12 dX0_tell_60 ?_
          obtain ⟨hg14, h⟩ := h
          obtain ⟨hc15, h⟩ := h
          refine fw_aald hg14 rfl rfl hc15 dX0_tell_63 ?_
          refine fw_iconst (v := 0) dX0_tell_64 (by decide) ?_
          refine fw_iload_n dX0_tell_65 rfl rfl ?_
          obtain ⟨hg16, h⟩ := h
          obtain ⟨hc17, h⟩ := h
          refine fw_iast hg16 hc17 dX0_tell_66 ?_
          have h := h _ rfl
          refine fw_aload_n dX0_tell_67 rfl rfl ?_
          refine fw_getfP fl_X0_12 rfl hg10 dX0_tell_68 ?_
          obtain ⟨hg19, h⟩ := h
          refine fw_getfP fl_X0_291 rfl hg19 dX0_tell_71 ?_
          refine fw_aload_n dX0_tell_74 rfl rfl ?_
          refine fw_getfP fl_X0_12 rfl hg10 dX0_tell_75 ?_
          refine fw_getfI fl_X0_288 rfl hg19 dX0_tell_78 ?_
          obtain ⟨hg20, h⟩ := h
          obtain ⟨hc21, h⟩ := h
          refine fw_aald hg20 rfl rfl hc21 dX0_tell_81 ?_
          refine fw_iconst (v := 1) dX0_tell_82 (by decide) ?_
          refine fw_iload_n dX0_tell_83 rfl rfl ?_
          obtain ⟨hg22, h⟩ := h
          obtain ⟨hc23, h⟩ := h
          refine fw_iast hg22 hc23 dX0_tell_84 ?_
          have h := h _ rfl
          refine fw_aload_n dX0_tell_85 rfl rfl ?_
          refine fw_getfP fl_X0_12 rfl hg10 dX0_tell_86 ?_
          refine fw_dup dX0_tell_89 (fw_cat _) ?_
          obtain ⟨hg25, h⟩ := h
          refine fw_getfI fl_X0_288 rfl hg25 dX0_tell_90 ?_
          refine fw_iconst (v := 1) dX0_tell_93 (by decide) ?_
          refine fw_iadd dX0_tell_94 ?_
          refine fw_dup_x1 dX0_tell_95 rfl (fw_cat _) ?_
          refine fw_putfI fl_X0_288 (fun q hq => Or.inl (by cases hq; rfl)) rfl hg25 dX0_tell_96 ?_
          have h := h _ rfl
          exact fw_ireturn dX0_tell_99 rfl rfl ⟨_, rfl, h⟩
        · have h := fw_it h c13
          refine fw_bipush (v := -2) dX0_tell_46 (by decide) ?_
          exact fw_ireturn dX0_tell_48 rfl rfl ⟨_, rfl, h⟩
  · have h := fw_it h c1
    refine fw_aload_n dX0_tell_5 rfl rfl ?_
    refine fw_getfP fl_X0_12 rfl hx dX0_tell_6 ?_
    refine fw_iconst (v := 0) dX0_tell_9 (by decide) ?_
    obtain ⟨hg27, h⟩ := h
    refine fw_putfI fl_X0_288 (fun q hq => Or.inl (by cases hq; rfl)) rfl hg27 dX0_tell_10 ?_
    have h := h _ rfl
    refine fw_iconst (v := 0) dX0_tell_13 (by decide) ?_
    exact fw_ireturn dX0_tell_14 rfl rfl ⟨_, rfl, h⟩
abbrev K_X0_unlike : fw_Kt := (RX0, "unlike", cX0_unlike, 4, some .int, [])
def p_X0_unlike_L56b (r0 : Nat) (i1 : Int32) (k56 : Int32 → Int32 → fw_M → Prop) (i2 : Int32) (i3 : Int32) (μ : fw_M) (Q : Int32 → fw_M → Prop) : Prop :=
  (m_K μ (m_P μ r0 0) = 2 ∧ (m_K μ (m_P μ (m_P μ r0 0) 9) = 100 ∧ (vp_in (23 : Int32) (m_N μ (m_P μ (m_P μ r0 0) 9)) ∧ (if (m_I μ (m_P μ (m_P μ r0 0) 9) (23 : Int32).toNatClampNeg) ≤ i3 then
  (Q i2 μ)
  else
  ((m_K μ (m_P μ (m_P μ r0 0) 12) = 103 ∧ (vp_in i3 (m_N μ (m_P μ (m_P μ r0 0) 12)) ∧ (m_K μ (m_P μ (m_P μ (m_P μ r0 0) 12) i3.toNatClampNeg) = 100 ∧ (vp_in (0 : Int32) (m_N μ (m_P μ (m_P μ (m_P μ r0 0) 12) i3.toNatClampNeg)) ∧ (if (m_I μ (m_P μ (m_P μ (m_P μ r0 0) 12) i3.toNatClampNeg) (0 : Int32).toNatClampNeg) = i1 then
   ((vp_in i3 (m_N μ (m_P μ (m_P μ r0 0) 12)) ∧ (vp_in (3 : Int32) (m_N μ (m_P μ (m_P μ (m_P μ r0 0) 12) i3.toNatClampNeg)) ∧ (∀ i2_16 : Int32, i2_16 = (i2 - (m_I μ (m_P μ (m_P μ (m_P μ r0 0) 12) i3.toNatClampNeg) (3 : Int32).toNatClampNeg)) →
    (∀ i3_18 : Int32, i3_18 = i3 + (1 : Int32) →
    k56 i2_16 i3_18 μ)))))
   else
   ((∀ i2_10 : Int32, i2_10 = (i2 - (0 : Int32)) →
    (∀ i3_12 : Int32, i3_12 = i3 + (1 : Int32) →
    k56 i2_10 i3_12 μ)))))))))))))
def p_X0_unlike_L56 (r0 : Nat) (i1 : Int32) (i2 : Int32) (i3 : Int32) (μ : fw_M) (Q : Int32 → fw_M → Prop) : Prop := fw_lp (fun (k : Int32 × Int32 × fw_M → Prop) (a : Int32 × Int32 × fw_M) => p_X0_unlike_L56b r0 i1 (fun i2 i3 μ => k (i2, i3, μ)) a.1 a.2.1 a.2.2 Q) (i2, i3, μ)
theorem r_X0_unlike_L56 {r0 : Nat} {i1 : Int32} {Q : Int32 → fw_M → Prop} (I : Int32 → Int32 → fw_M → Prop) (v : Int32 → Int32 → fw_M → Nat) (hs : ∀ (k : Int32 → Int32 → fw_M → Prop) (i2 : Int32) (i3 : Int32) (μ : fw_M), I i2 i3 μ → (∀ (i2' : Int32) (i3' : Int32) (ν : fw_M), I i2' i3' ν → v i2' i3' ν < v i2 i3 μ → k i2' i3' ν) → p_X0_unlike_L56b r0 i1 k i2 i3 μ Q) (i2 : Int32) (i3 : Int32) (μ : fw_M) (h : I i2 i3 μ) : p_X0_unlike_L56 r0 i1 i2 i3 μ Q :=
  fw_lp_in (A := Int32 × Int32 × fw_M) (fun a => I a.1 a.2.1 a.2.2) (fun a => v a.1 a.2.1 a.2.2) (fun k a ha hk => hs (fun i2 i3 μ => k (i2, i3, μ)) a.1 a.2.1 a.2.2 ha (fun i2' i3' ν hb hlt => hk (i2', i3', ν) hb hlt)) (i2, i3, μ) h
set_option maxHeartbeats 4000000 in
theorem w_X0_unlike_L56b {g : fw_G} {f bc bs : Nat} {r0 : Nat} {i1 : Int32} {k56 : Int32 → Int32 → fw_M → Prop} {i2 : Int32} {i3 : Int32} {μ : fw_M} {Q : Int32 → fw_M → Prop} (hf : 1 ≤ f) (hk56 : ∀ {i2 : Int32} {i3 : Int32} {μ : fw_M}, m_K μ r0 = 1 → k56 i2 i3 μ → fw_V g K_X0_unlike f bc bs 56 [(0, fw_rv g r0), (1, Value.int i1), (2, Value.int i2), (3, Value.int i3)] [] μ (fw_Qi Q) fw_nX) (hx : m_K μ r0 = 1) (h : p_X0_unlike_L56b r0 i1 k56 i2 i3 μ Q) : fw_V g K_X0_unlike f bc bs 56 [(0, fw_rv g r0), (1, Value.int i1), (2, Value.int i2), (3, Value.int i3)] [] μ (fw_Qi Q) fw_nX := by
  unfold p_X0_unlike_L56b at h
  refine fw_iload_n dX0_unlike_56 rfl rfl ?_
  refine fw_aload_n dX0_unlike_57 rfl rfl ?_
  refine fw_getfP fl_X0_12 rfl hx dX0_unlike_58 ?_
  obtain ⟨hg1, h⟩ := h
  refine fw_getfP fl_X0_77 rfl hg1 dX0_unlike_61 ?_
  refine fw_bipush (v := 23) dX0_unlike_64 (by decide) ?_
  obtain ⟨hg2, h⟩ := h
  obtain ⟨hc3, h⟩ := h
  refine fw_iald hg2 hc3 dX0_unlike_66 ?_
  refine fw_icmp_ge (tgt := 109) dX0_unlike_67 (by decide) (fun c4 => ?_) (fun c4 => ?_)
  · have h := fw_it h c4
    refine fw_iload_n dX0_unlike_109 rfl rfl ?_
    exact fw_ireturn dX0_unlike_110 rfl rfl ⟨_, rfl, h⟩
  · have h := fw_if h c4
    refine fw_iload_n dX0_unlike_70 rfl rfl ?_
    refine fw_aload_n dX0_unlike_71 rfl rfl ?_
    refine fw_getfP fl_X0_12 rfl hx dX0_unlike_72 ?_
    refine fw_getfP fl_X0_156 rfl hg1 dX0_unlike_75 ?_
    refine fw_iload_n dX0_unlike_78 rfl rfl ?_
    obtain ⟨hg5, h⟩ := h
    obtain ⟨hc6, h⟩ := h
    refine fw_aald hg5 rfl rfl hc6 dX0_unlike_79 ?_
    refine fw_iconst (v := 0) dX0_unlike_80 (by decide) ?_
    obtain ⟨hg7, h⟩ := h
    obtain ⟨hc8, h⟩ := h
    refine fw_iald hg7 hc8 dX0_unlike_81 ?_
    refine fw_iload_n dX0_unlike_82 rfl rfl ?_
    refine fw_icmp_ne (tgt := 100) dX0_unlike_83 (by decide) (fun c9 => ?_) (fun c9 => ?_)
    · have h := fw_if h c9
      refine fw_iconst (v := 0) dX0_unlike_100 (by decide) ?_
      refine fw_isub dX0_unlike_101 ?_
      refine fw_topi (fun i2_10 e11 => ?_)
      have h := h i2_10 e11
      refine fw_istore_nN (Ls' := [(2, Value.int i2_10), (1, Value.int i1), (0, fw_rv g r0), (3, Value.int i3)]) [0, 3] dX0_unlike_102 rfl (by decide) rfl rfl rfl rfl rfl ?_
      obtain ⟨i3_12, e13⟩ : ∃ y : Int32, y = i3 + (1 : Int32) := ⟨_, rfl⟩
      have h := h i3_12 e13
      refine fw_iincN (k := 3) (v := i3_12) (Ls' := [(3, Value.int i3_12), (2, Value.int i2_10), (1, Value.int i1), (0, fw_rv g r0)]) [1, 2] dX0_unlike_103 rfl (by rw [e13]; rfl) (by decide) rfl rfl rfl rfl rfl ?_
      refine fw_goto (tgt := 56) dX0_unlike_106 (by decide) ?_
      refine fw_ls [3, 2, 1, 0] rfl ?_
      exact hk56 hx h
    · have h := fw_it h c9
      refine fw_aload_n dX0_unlike_86 rfl rfl ?_
      refine fw_getfP fl_X0_12 rfl hx dX0_unlike_87 ?_
      refine fw_getfP fl_X0_156 rfl hg1 dX0_unlike_90 ?_
      refine fw_iload_n dX0_unlike_93 rfl rfl ?_
      obtain ⟨hc14, h⟩ := h
      refine fw_aald hg5 rfl rfl hc14 dX0_unlike_94 ?_
      refine fw_iconst (v := 3) dX0_unlike_95 (by decide) ?_
      obtain ⟨hc15, h⟩ := h
      refine fw_iald hg7 hc15 dX0_unlike_96 ?_
      refine fw_goto (tgt := 101) dX0_unlike_97 (by decide) ?_
      refine fw_isub dX0_unlike_101 ?_
      refine fw_topi (fun i2_16 e17 => ?_)
      have h := h i2_16 e17
      refine fw_istore_nN (Ls' := [(2, Value.int i2_16), (1, Value.int i1), (0, fw_rv g r0), (3, Value.int i3)]) [0, 3] dX0_unlike_102 rfl (by decide) rfl rfl rfl rfl rfl ?_
      obtain ⟨i3_18, e19⟩ : ∃ y : Int32, y = i3 + (1 : Int32) := ⟨_, rfl⟩
      have h := h i3_18 e19
      refine fw_iincN (k := 3) (v := i3_18) (Ls' := [(3, Value.int i3_18), (2, Value.int i2_16), (1, Value.int i1), (0, fw_rv g r0)]) [1, 2] dX0_unlike_103 rfl (by rw [e19]; rfl) (by decide) rfl rfl rfl rfl rfl ?_
      refine fw_goto (tgt := 56) dX0_unlike_106 (by decide) ?_
      refine fw_ls [3, 2, 1, 0] rfl ?_
      exact hk56 hx h
theorem w_X0_unlike_L56 {g : fw_G} {f bc bs : Nat} {r0 : Nat} {i1 : Int32} {i2 : Int32} {i3 : Int32} {μ : fw_M} {Q : Int32 → fw_M → Prop} (hf : 1 ≤ f) (hx : m_K μ r0 = 1) (h : p_X0_unlike_L56 r0 i1 i2 i3 μ Q) : fw_V g K_X0_unlike f bc bs 56 [(0, fw_rv g r0), (1, Value.int i1), (2, Value.int i2), (3, Value.int i3)] [] μ (fw_Qi Q) fw_nX := by
  have key := fw_lp_out (R := fun (a : Int32 × Int32 × fw_M) => m_K a.2.2 r0 = 1 → fw_V g K_X0_unlike f bc bs 56 [(0, fw_rv g r0), (1, Value.int i1), (2, Value.int a.1), (3, Value.int a.2.1)] [] a.2.2 (fw_Qi Q) fw_nX) (fun k hk9 a ha hx2 => w_X0_unlike_L56b hf (fun {i2 i3} {μ} hx3 h3 => hk9 (i2, i3, μ) h3 hx3) hx2 ha) h
  exact key hx
def p_X0_unlike_L4b (r0 : Nat) (i1 : Int32) (k4 : Int32 → Int32 → fw_M → Prop) (i2 : Int32) (i3 : Int32) (μ : fw_M) (Q : Int32 → fw_M → Prop) : Prop :=
  (m_K μ (m_P μ r0 0) = 2 ∧ (if (m_I μ (m_P μ r0 0) 5) ≤ i3 then
  (p_X0_unlike_L56 r0 i1 i2 (0 : Int32) μ Q)
  else
  ((m_K μ (m_P μ (m_P μ r0 0) 15) = 103 ∧ (vp_in i3 (m_N μ (m_P μ (m_P μ r0 0) 15)) ∧ (m_K μ (m_P μ (m_P μ (m_P μ r0 0) 15) i3.toNatClampNeg) = 100 ∧ (vp_in (0 : Int32) (m_N μ (m_P μ (m_P μ (m_P μ r0 0) 15) i3.toNatClampNeg)) ∧ (if (m_I μ (m_P μ (m_P μ (m_P μ r0 0) 15) i3.toNatClampNeg) (0 : Int32).toNatClampNeg) = i1 then
   ((vp_in i3 (m_N μ (m_P μ (m_P μ r0 0) 15)) ∧ (vp_in (1 : Int32) (m_N μ (m_P μ (m_P μ (m_P μ r0 0) 15) i3.toNatClampNeg)) ∧ (∀ i2_14 : Int32, i2_14 = (i2 + (m_I μ (m_P μ (m_P μ (m_P μ r0 0) 15) i3.toNatClampNeg) (1 : Int32).toNatClampNeg)) →
    (∀ i3_16 : Int32, i3_16 = i3 + (1 : Int32) →
    k4 i2_14 i3_16 μ)))))
   else
   ((∀ i2_8 : Int32, i2_8 = (i2 + (0 : Int32)) →
    (∀ i3_10 : Int32, i3_10 = i3 + (1 : Int32) →
    k4 i2_8 i3_10 μ)))))))))))
def p_X0_unlike_L4 (r0 : Nat) (i1 : Int32) (i2 : Int32) (i3 : Int32) (μ : fw_M) (Q : Int32 → fw_M → Prop) : Prop := fw_lp (fun (k : Int32 × Int32 × fw_M → Prop) (a : Int32 × Int32 × fw_M) => p_X0_unlike_L4b r0 i1 (fun i2 i3 μ => k (i2, i3, μ)) a.1 a.2.1 a.2.2 Q) (i2, i3, μ)
theorem r_X0_unlike_L4 {r0 : Nat} {i1 : Int32} {Q : Int32 → fw_M → Prop} (I : Int32 → Int32 → fw_M → Prop) (v : Int32 → Int32 → fw_M → Nat) (hs : ∀ (k : Int32 → Int32 → fw_M → Prop) (i2 : Int32) (i3 : Int32) (μ : fw_M), I i2 i3 μ → (∀ (i2' : Int32) (i3' : Int32) (ν : fw_M), I i2' i3' ν → v i2' i3' ν < v i2 i3 μ → k i2' i3' ν) → p_X0_unlike_L4b r0 i1 k i2 i3 μ Q) (i2 : Int32) (i3 : Int32) (μ : fw_M) (h : I i2 i3 μ) : p_X0_unlike_L4 r0 i1 i2 i3 μ Q :=
  fw_lp_in (A := Int32 × Int32 × fw_M) (fun a => I a.1 a.2.1 a.2.2) (fun a => v a.1 a.2.1 a.2.2) (fun k a ha hk => hs (fun i2 i3 μ => k (i2, i3, μ)) a.1 a.2.1 a.2.2 ha (fun i2' i3' ν hb hlt => hk (i2', i3', ν) hb hlt)) (i2, i3, μ) h
set_option maxHeartbeats 4000000 in
theorem w_X0_unlike_L4b {g : fw_G} {f bc bs : Nat} {r0 : Nat} {i1 : Int32} {k4 : Int32 → Int32 → fw_M → Prop} {i2 : Int32} {i3 : Int32} {μ : fw_M} {Q : Int32 → fw_M → Prop} (hf : 1 ≤ f) (hk4 : ∀ {i2 : Int32} {i3 : Int32} {μ : fw_M}, m_K μ r0 = 1 → k4 i2 i3 μ → fw_V g K_X0_unlike f bc bs 4 [(0, fw_rv g r0), (1, Value.int i1), (2, Value.int i2), (3, Value.int i3)] [] μ (fw_Qi Q) fw_nX) (hx : m_K μ r0 = 1) (h : p_X0_unlike_L4b r0 i1 k4 i2 i3 μ Q) : fw_V g K_X0_unlike f bc bs 4 [(0, fw_rv g r0), (1, Value.int i1), (2, Value.int i2), (3, Value.int i3)] [] μ (fw_Qi Q) fw_nX := by
  unfold p_X0_unlike_L4b at h
  refine fw_iload_n dX0_unlike_4 rfl rfl ?_
  refine fw_aload_n dX0_unlike_5 rfl rfl ?_
  refine fw_getfP fl_X0_12 rfl hx dX0_unlike_6 ?_
  obtain ⟨hg1, h⟩ := h
  refine fw_getfI fl_X0_288 rfl hg1 dX0_unlike_9 ?_
  refine fw_icmp_ge (tgt := 54) dX0_unlike_12 (by decide) (fun c2 => ?_) (fun c2 => ?_)
  · have h := fw_it h c2
    refine fw_iconst (v := 0) dX0_unlike_54 (by decide) ?_
    refine fw_istore_nN (Ls' := [(3, Value.int (0 : Int32)), (2, Value.int i2), (0, fw_rv g r0), (1, Value.int i1)]) [0, 1] dX0_unlike_55 rfl (by decide) rfl rfl rfl rfl rfl ?_
    refine fw_ls [2, 3, 1, 0] rfl ?_
    exact w_X0_unlike_L56 hf hx h
  · have h := fw_if h c2
    refine fw_iload_n dX0_unlike_15 rfl rfl ?_
    refine fw_aload_n dX0_unlike_16 rfl rfl ?_
    refine fw_getfP fl_X0_12 rfl hx dX0_unlike_17 ?_
    refine fw_getfP fl_X0_291 rfl hg1 dX0_unlike_20 ?_
    refine fw_iload_n dX0_unlike_23 rfl rfl ?_
    obtain ⟨hg3, h⟩ := h
    obtain ⟨hc4, h⟩ := h
    refine fw_aald hg3 rfl rfl hc4 dX0_unlike_24 ?_
    refine fw_iconst (v := 0) dX0_unlike_25 (by decide) ?_
    obtain ⟨hg5, h⟩ := h
    obtain ⟨hc6, h⟩ := h
    refine fw_iald hg5 hc6 dX0_unlike_26 ?_
    refine fw_iload_n dX0_unlike_27 rfl rfl ?_
    refine fw_icmp_ne (tgt := 45) dX0_unlike_28 (by decide) (fun c7 => ?_) (fun c7 => ?_)
    · have h := fw_if h c7
      refine fw_iconst (v := 0) dX0_unlike_45 (by decide) ?_
      refine fw_iadd dX0_unlike_46 ?_
      refine fw_topi (fun i2_8 e9 => ?_)
      have h := h i2_8 e9
      refine fw_istore_nN (Ls' := [(2, Value.int i2_8), (1, Value.int i1), (0, fw_rv g r0), (3, Value.int i3)]) [0, 3] dX0_unlike_47 rfl (by decide) rfl rfl rfl rfl rfl ?_
      obtain ⟨i3_10, e11⟩ : ∃ y : Int32, y = i3 + (1 : Int32) := ⟨_, rfl⟩
      have h := h i3_10 e11
      refine fw_iincN (k := 3) (v := i3_10) (Ls' := [(3, Value.int i3_10), (2, Value.int i2_8), (1, Value.int i1), (0, fw_rv g r0)]) [1, 2] dX0_unlike_48 rfl (by rw [e11]; rfl) (by decide) rfl rfl rfl rfl rfl ?_
      refine fw_goto (tgt := 4) dX0_unlike_51 (by decide) ?_
      refine fw_ls [3, 2, 1, 0] rfl ?_
      exact hk4 hx h
    · have h := fw_it h c7
      refine fw_aload_n dX0_unlike_31 rfl rfl ?_
      refine fw_getfP fl_X0_12 rfl hx dX0_unlike_32 ?_
      refine fw_getfP fl_X0_291 rfl hg1 dX0_unlike_35 ?_
      refine fw_iload_n dX0_unlike_38 rfl rfl ?_
      obtain ⟨hc12, h⟩ := h
      refine fw_aald hg3 rfl rfl hc12 dX0_unlike_39 ?_
      refine fw_iconst (v := 1) dX0_unlike_40 (by decide) ?_
      obtain ⟨hc13, h⟩ := h
      refine fw_iald hg5 hc13 dX0_unlike_41 ?_
      refine fw_goto (tgt := 46) dX0_unlike_42 (by decide) ?_
      refine fw_iadd dX0_unlike_46 ?_
      refine fw_topi (fun i2_14 e15 => ?_)
      have h := h i2_14 e15
      refine fw_istore_nN (Ls' := [(2, Value.int i2_14), (1, Value.int i1), (0, fw_rv g r0), (3, Value.int i3)]) [0, 3] dX0_unlike_47 rfl (by decide) rfl rfl rfl rfl rfl ?_
      obtain ⟨i3_16, e17⟩ : ∃ y : Int32, y = i3 + (1 : Int32) := ⟨_, rfl⟩
      have h := h i3_16 e17
      refine fw_iincN (k := 3) (v := i3_16) (Ls' := [(3, Value.int i3_16), (2, Value.int i2_14), (1, Value.int i1), (0, fw_rv g r0)]) [1, 2] dX0_unlike_48 rfl (by rw [e17]; rfl) (by decide) rfl rfl rfl rfl rfl ?_
      refine fw_goto (tgt := 4) dX0_unlike_51 (by decide) ?_
      refine fw_ls [3, 2, 1, 0] rfl ?_
      exact hk4 hx h
theorem w_X0_unlike_L4 {g : fw_G} {f bc bs : Nat} {r0 : Nat} {i1 : Int32} {i2 : Int32} {i3 : Int32} {μ : fw_M} {Q : Int32 → fw_M → Prop} (hf : 1 ≤ f) (hx : m_K μ r0 = 1) (h : p_X0_unlike_L4 r0 i1 i2 i3 μ Q) : fw_V g K_X0_unlike f bc bs 4 [(0, fw_rv g r0), (1, Value.int i1), (2, Value.int i2), (3, Value.int i3)] [] μ (fw_Qi Q) fw_nX := by
  have key := fw_lp_out (R := fun (a : Int32 × Int32 × fw_M) => m_K a.2.2 r0 = 1 → fw_V g K_X0_unlike f bc bs 4 [(0, fw_rv g r0), (1, Value.int i1), (2, Value.int a.1), (3, Value.int a.2.1)] [] a.2.2 (fw_Qi Q) fw_nX) (fun k hk9 a ha hx2 => w_X0_unlike_L4b hf (fun {i2 i3} {μ} hx3 h3 => hk9 (i2, i3, μ) h3 hx3) hx2 ha) h
  exact key hx
def p_X0_unlike (r0 : Nat) (i1 : Int32) (μ : fw_M) (Q : Int32 → fw_M → Prop) : Prop :=
  p_X0_unlike_L4 r0 i1 (0 : Int32) (0 : Int32) μ Q
set_option maxHeartbeats 4000000 in
theorem w_X0_unlike {g : fw_G} {f bc bs : Nat} {r0 : Nat} {i1 : Int32} {μ : fw_M} {Q : Int32 → fw_M → Prop} (hf : 1 ≤ f) (hx : m_K μ r0 = 1) (h : p_X0_unlike r0 i1 μ Q) : fw_C g f bc bs yX0_unlike (ws_ yX0_unlike cX0_unlike 4 (some .int)) [fw_rv g r0, Value.int i1] μ (fw_Qi Q) fw_nX := by
  unfold p_X0_unlike at h
  refine fw_intro' (Ls := [(0, fw_rv g r0), (1, Value.int i1)]) (by decide +kernel) (by simp [lg_sl, fw_cat, fw_ci, fw_clo]) (by simp [lv_args, fw_cat, fw_ci, fw_clo]) ?_
  show fw_V g K_X0_unlike f bc bs 0 [(0, fw_rv g r0), (1, Value.int i1)] [] μ (fw_Qi Q) fw_nX
  refine fw_iconst (v := 0) dX0_unlike_0 (by decide) ?_
  refine fw_istore_nN (Ls' := [(2, Value.int (0 : Int32)), (1, Value.int i1), (0, fw_rv g r0)]) [0] dX0_unlike_1 rfl (by decide) rfl rfl rfl rfl rfl ?_
  refine fw_iconst (v := 0) dX0_unlike_2 (by decide) ?_
  refine fw_istore_nN (Ls' := [(3, Value.int (0 : Int32)), (2, Value.int (0 : Int32)), (1, Value.int i1), (0, fw_rv g r0)]) [1, 2] dX0_unlike_3 rfl (by decide) rfl rfl rfl rfl rfl ?_
  refine fw_ls [3, 2, 1, 0] rfl ?_
  exact w_X0_unlike_L4 hf hx h
abbrev K_X0_liars : fw_Kt := (RX0, "liars", cX0_liars, 3, some .int, [])
def p_X0_liars_L4b (r0 : Nat) (k4 : Int32 → Int32 → fw_M → Prop) (i1 : Int32) (i2 : Int32) (μ : fw_M) (Q : Int32 → fw_M → Prop) : Prop :=
  (m_K μ (m_P μ r0 0) = 2 ∧ (if (m_I μ (m_P μ r0 0) 0) ≤ i2 then
  (Q i1 μ)
  else
  ((p_X0_unlike r0 i2 μ (fun v3 μ4 =>
   (if v3 = 0 then
   ((∀ i1_8 : Int32, i1_8 = (i1 ||| (0 : Int32)) →
    (∀ i2_10 : Int32, i2_10 = i2 + (1 : Int32) →
    k4 i1_8 i2_10 μ4)))
   else
   ((∀ i1_12 : Int32, i1_12 = (i1 ||| ((1 : Int32) <<< (i2 &&& 31))) →
    (∀ i2_14 : Int32, i2_14 = i2 + (1 : Int32) →
    k4 i1_12 i2_14 μ4)))))))))
def p_X0_liars_L4 (r0 : Nat) (i1 : Int32) (i2 : Int32) (μ : fw_M) (Q : Int32 → fw_M → Prop) : Prop := fw_lp (fun (k : Int32 × Int32 × fw_M → Prop) (a : Int32 × Int32 × fw_M) => p_X0_liars_L4b r0 (fun i1 i2 μ => k (i1, i2, μ)) a.1 a.2.1 a.2.2 Q) (i1, i2, μ)
theorem r_X0_liars_L4 {r0 : Nat} {Q : Int32 → fw_M → Prop} (I : Int32 → Int32 → fw_M → Prop) (v : Int32 → Int32 → fw_M → Nat) (hs : ∀ (k : Int32 → Int32 → fw_M → Prop) (i1 : Int32) (i2 : Int32) (μ : fw_M), I i1 i2 μ → (∀ (i1' : Int32) (i2' : Int32) (ν : fw_M), I i1' i2' ν → v i1' i2' ν < v i1 i2 μ → k i1' i2' ν) → p_X0_liars_L4b r0 k i1 i2 μ Q) (i1 : Int32) (i2 : Int32) (μ : fw_M) (h : I i1 i2 μ) : p_X0_liars_L4 r0 i1 i2 μ Q :=
  fw_lp_in (A := Int32 × Int32 × fw_M) (fun a => I a.1 a.2.1 a.2.2) (fun a => v a.1 a.2.1 a.2.2) (fun k a ha hk => hs (fun i1 i2 μ => k (i1, i2, μ)) a.1 a.2.1 a.2.2 ha (fun i1' i2' ν hb hlt => hk (i1', i2', ν) hb hlt)) (i1, i2, μ) h
set_option maxHeartbeats 4000000 in
theorem w_X0_liars_L4b {g : fw_G} {f bc bs : Nat} {r0 : Nat} {k4 : Int32 → Int32 → fw_M → Prop} {i1 : Int32} {i2 : Int32} {μ : fw_M} {Q : Int32 → fw_M → Prop} (hf : 2 ≤ f) (hk4 : ∀ {i1 : Int32} {i2 : Int32} {μ : fw_M}, m_K μ r0 = 1 → k4 i1 i2 μ → fw_V g K_X0_liars f bc bs 4 [(0, fw_rv g r0), (1, Value.int i1), (2, Value.int i2)] [] μ (fw_Qi Q) fw_nX) (hx : m_K μ r0 = 1) (h : p_X0_liars_L4b r0 k4 i1 i2 μ Q) : fw_V g K_X0_liars f bc bs 4 [(0, fw_rv g r0), (1, Value.int i1), (2, Value.int i2)] [] μ (fw_Qi Q) fw_nX := by
  unfold p_X0_liars_L4b at h
  refine fw_iload_n dX0_liars_4 rfl rfl ?_
  refine fw_aload_n dX0_liars_5 rfl rfl ?_
  refine fw_getfP fl_X0_12 rfl hx dX0_liars_6 ?_
  obtain ⟨hg1, h⟩ := h
  refine fw_getfI fl_X0_63 rfl hg1 dX0_liars_9 ?_
  refine fw_icmp_ge (tgt := 39) dX0_liars_12 (by decide) (fun c2 => ?_) (fun c2 => ?_)
  · have h := fw_it h c2
    refine fw_iload_n dX0_liars_39 rfl rfl ?_
    exact fw_ireturn dX0_liars_40 rfl rfl ⟨_, rfl, h⟩
  · have h := fw_if h c2
    refine fw_iload_n dX0_liars_15 rfl rfl ?_
    refine fw_aload_n dX0_liars_16 rfl rfl ?_
    refine fw_iload_n dX0_liars_17 rfl rfl ?_
    refine fw_callV1z (f1 := f - 1) cl_X0_294 rfl hx (by decide) (by omega) (fw_s4 (Nat.le_of_ble_eq_true rfl)) dX0_liars_18 (w_X0_unlike (f := f - 1) (by omega) hx h) (fun _ _ h9 _ _ => h9.elim) (fun v9 μ4 q9 hs5 => ?_)
    obtain ⟨v3, rfl, h⟩ := q9
    refine fw_ti ?_
    have hg6 := hs5.K hx (by decide)
    refine fw_if_eq (tgt := 30) dX0_liars_21 (by decide) (fun c7 => ?_) (fun c7 => ?_)
    · have h := fw_it h c7
      refine fw_iconst (v := 0) dX0_liars_30 (by decide) ?_
      refine fw_ior dX0_liars_31 ?_
      refine fw_topi (fun i1_8 e9 => ?_)
      have h := h i1_8 e9
      refine fw_istore_nN (Ls' := [(1, Value.int i1_8), (0, fw_rv g r0), (2, Value.int i2)]) [2] dX0_liars_32 rfl (by decide) rfl rfl rfl (fw_cat _) rfl ?_
      obtain ⟨i2_10, e11⟩ : ∃ y : Int32, y = i2 + (1 : Int32) := ⟨_, rfl⟩
      have h := h i2_10 e11
      refine fw_iincN (k := 2) (v := i2_10) (Ls' := [(2, Value.int i2_10), (1, Value.int i1_8), (0, fw_rv g r0)]) [1] dX0_liars_33 rfl (by rw [e11]; rfl) (by decide) rfl rfl rfl rfl rfl ?_
      refine fw_goto (tgt := 4) dX0_liars_36 (by decide) ?_
      refine fw_ls [2, 1, 0] rfl ?_
      exact hk4 hg6 h
    · have h := fw_if h c7
      refine fw_iconst (v := 1) dX0_liars_24 (by decide) ?_
      refine fw_iload_n dX0_liars_25 rfl rfl ?_
      refine fw_ishl dX0_liars_26 ?_
      refine fw_goto (tgt := 31) dX0_liars_27 (by decide) ?_
      refine fw_ior dX0_liars_31 ?_
      refine fw_topi (fun i1_12 e13 => ?_)
      have h := h i1_12 e13
      refine fw_istore_nN (Ls' := [(1, Value.int i1_12), (0, fw_rv g r0), (2, Value.int i2)]) [2] dX0_liars_32 rfl (by decide) rfl rfl rfl (fw_cat _) rfl ?_
      obtain ⟨i2_14, e15⟩ : ∃ y : Int32, y = i2 + (1 : Int32) := ⟨_, rfl⟩
      have h := h i2_14 e15
      refine fw_iincN (k := 2) (v := i2_14) (Ls' := [(2, Value.int i2_14), (1, Value.int i1_12), (0, fw_rv g r0)]) [1] dX0_liars_33 rfl (by rw [e15]; rfl) (by decide) rfl rfl rfl rfl rfl ?_
      refine fw_goto (tgt := 4) dX0_liars_36 (by decide) ?_
      refine fw_ls [2, 1, 0] rfl ?_
      exact hk4 hg6 h
theorem w_X0_liars_L4 {g : fw_G} {f bc bs : Nat} {r0 : Nat} {i1 : Int32} {i2 : Int32} {μ : fw_M} {Q : Int32 → fw_M → Prop} (hf : 2 ≤ f) (hx : m_K μ r0 = 1) (h : p_X0_liars_L4 r0 i1 i2 μ Q) : fw_V g K_X0_liars f bc bs 4 [(0, fw_rv g r0), (1, Value.int i1), (2, Value.int i2)] [] μ (fw_Qi Q) fw_nX := by
  have key := fw_lp_out (R := fun (a : Int32 × Int32 × fw_M) => m_K a.2.2 r0 = 1 → fw_V g K_X0_liars f bc bs 4 [(0, fw_rv g r0), (1, Value.int a.1), (2, Value.int a.2.1)] [] a.2.2 (fw_Qi Q) fw_nX) (fun k hk9 a ha hx2 => w_X0_liars_L4b hf (fun {i1 i2} {μ} hx3 h3 => hk9 (i1, i2, μ) h3 hx3) hx2 ha) h
  exact key hx
def p_X0_liars (r0 : Nat) (μ : fw_M) (Q : Int32 → fw_M → Prop) : Prop :=
  p_X0_liars_L4 r0 (0 : Int32) (0 : Int32) μ Q
set_option maxHeartbeats 4000000 in
theorem w_X0_liars {g : fw_G} {f bc bs : Nat} {r0 : Nat} {μ : fw_M} {Q : Int32 → fw_M → Prop} (hf : 2 ≤ f) (hx : m_K μ r0 = 1) (h : p_X0_liars r0 μ Q) : fw_C g f bc bs yX0_liars (ws_ yX0_liars cX0_liars 3 (some .int)) [fw_rv g r0] μ (fw_Qi Q) fw_nX := by
  unfold p_X0_liars at h
  refine fw_intro' (Ls := [(0, fw_rv g r0)]) (by decide +kernel) (by simp [lg_sl, fw_cat, fw_ci, fw_clo]) (by simp [lv_args, fw_cat, fw_ci, fw_clo]) ?_
  show fw_V g K_X0_liars f bc bs 0 [(0, fw_rv g r0)] [] μ (fw_Qi Q) fw_nX
  refine fw_iconst (v := 0) dX0_liars_0 (by decide) ?_
  refine fw_istore_nN (Ls' := [(1, Value.int (0 : Int32)), (0, fw_rv g r0)]) [] dX0_liars_1 rfl (by decide) rfl rfl rfl (fw_cat _) rfl ?_
  refine fw_iconst (v := 0) dX0_liars_2 (by decide) ?_
  refine fw_istore_nN (Ls' := [(2, Value.int (0 : Int32)), (1, Value.int (0 : Int32)), (0, fw_rv g r0)]) [1] dX0_liars_3 rfl (by decide) rfl rfl rfl rfl rfl ?_
  refine fw_ls [2, 1, 0] rfl ?_
  exact w_X0_liars_L4 hf hx h
abbrev K_X0_inWhoseName : fw_Kt := (RX0, "inWhoseName", cX0_inWhoseName, 3, some .int, [])
def p_X0_inWhoseName_L20b (r0 : Nat) (i1 : Int32) (k20 : Int32 → fw_M → Prop) (i2 : Int32) (μ : fw_M) (Q : Int32 → fw_M → Prop) : Prop :=
  (m_K μ (m_P μ r0 0) = 2 ∧ (if (m_I μ (m_P μ r0 0) 0) ≤ i2 then
  (Q (-1 : Int32) μ)
  else
  ((p_X0_unlike r0 i2 μ (fun v3 μ4 =>
   (p_X0_unlike r0 i1 μ4 (fun v7 μ8 =>
   (if v3 = (-v7) then
   (Q i2 μ8)
   else
   ((∀ i2_12 : Int32, i2_12 = i2 + (1 : Int32) →
    k20 i2_12 μ8))))))))))
def p_X0_inWhoseName_L20 (r0 : Nat) (i1 : Int32) (i2 : Int32) (μ : fw_M) (Q : Int32 → fw_M → Prop) : Prop := fw_lp (fun (k : Int32 × fw_M → Prop) (a : Int32 × fw_M) => p_X0_inWhoseName_L20b r0 i1 (fun i2 μ => k (i2, μ)) a.1 a.2 Q) (i2, μ)
theorem r_X0_inWhoseName_L20 {r0 : Nat} {i1 : Int32} {Q : Int32 → fw_M → Prop} (I : Int32 → fw_M → Prop) (v : Int32 → fw_M → Nat) (hs : ∀ (k : Int32 → fw_M → Prop) (i2 : Int32) (μ : fw_M), I i2 μ → (∀ (i2' : Int32) (ν : fw_M), I i2' ν → v i2' ν < v i2 μ → k i2' ν) → p_X0_inWhoseName_L20b r0 i1 k i2 μ Q) (i2 : Int32) (μ : fw_M) (h : I i2 μ) : p_X0_inWhoseName_L20 r0 i1 i2 μ Q :=
  fw_lp_in (A := Int32 × fw_M) (fun a => I a.1 a.2) (fun a => v a.1 a.2) (fun k a ha hk => hs (fun i2 μ => k (i2, μ)) a.1 a.2 ha (fun i2' ν hb hlt => hk (i2', ν) hb hlt)) (i2, μ) h
set_option maxHeartbeats 4000000 in
theorem w_X0_inWhoseName_L20b {g : fw_G} {f bc bs : Nat} {r0 : Nat} {i1 : Int32} {k20 : Int32 → fw_M → Prop} {i2 : Int32} {μ : fw_M} {Q : Int32 → fw_M → Prop} (hf : 3 ≤ f) (hk20 : ∀ {i2 : Int32} {μ : fw_M}, m_K μ r0 = 1 → k20 i2 μ → fw_V g K_X0_inWhoseName f bc bs 20 [(0, fw_rv g r0), (1, Value.int i1), (2, Value.int i2)] [] μ (fw_Qi Q) fw_nX) (hx : m_K μ r0 = 1) (h : p_X0_inWhoseName_L20b r0 i1 k20 i2 μ Q) : fw_V g K_X0_inWhoseName f bc bs 20 [(0, fw_rv g r0), (1, Value.int i1), (2, Value.int i2)] [] μ (fw_Qi Q) fw_nX := by
  unfold p_X0_inWhoseName_L20b at h
  refine fw_iload_n dX0_inWhoseName_20 rfl rfl ?_
  refine fw_aload_n dX0_inWhoseName_21 rfl rfl ?_
  refine fw_getfP fl_X0_12 rfl hx dX0_inWhoseName_22 ?_
  obtain ⟨hg1, h⟩ := h
  refine fw_getfI fl_X0_63 rfl hg1 dX0_inWhoseName_25 ?_
  refine fw_icmp_ge (tgt := 53) dX0_inWhoseName_28 (by decide) (fun c2 => ?_) (fun c2 => ?_)
  · have h := fw_it h c2
    refine fw_iconst (v := -1) dX0_inWhoseName_53 (by decide) ?_
    exact fw_ireturn dX0_inWhoseName_54 rfl rfl ⟨_, rfl, h⟩
  · have h := fw_if h c2
    refine fw_aload_n dX0_inWhoseName_31 rfl rfl ?_
    refine fw_iload_n dX0_inWhoseName_32 rfl rfl ?_
    refine fw_callV1z (f1 := f - 1) cl_X0_294 rfl hx (by decide) (by omega) (fw_s4 (Nat.le_of_ble_eq_true rfl)) dX0_inWhoseName_33 (w_X0_unlike (f := f - 1) (by omega) hx h) (fun _ _ h9 _ _ => h9.elim) (fun v9 μ4 q9 hs5 => ?_)
    obtain ⟨v3, rfl, h⟩ := q9
    refine fw_ti ?_
    have hg6 := hs5.K hx (by decide)
    refine fw_aload_n dX0_inWhoseName_36 rfl rfl ?_
    refine fw_iload_n dX0_inWhoseName_37 rfl rfl ?_
    refine fw_callV1z (f1 := f - 1) cl_X0_294 rfl hg6 (by decide) (by omega) (fw_s4 (Nat.le_of_ble_eq_true rfl)) dX0_inWhoseName_38 (w_X0_unlike (f := f - 1) (by omega) hg6 h) (fun _ _ h9 _ _ => h9.elim) (fun v9 μ8 q9 hs9 => ?_)
    obtain ⟨v7, rfl, h⟩ := q9
    refine fw_ti ?_
    have hg10 := hs9.K hg6 (by decide)
    refine fw_ineg dX0_inWhoseName_41 ?_
    refine fw_icmp_ne (tgt := 47) dX0_inWhoseName_42 (by decide) (fun c11 => ?_) (fun c11 => ?_)
    · have h := fw_if h c11
      obtain ⟨i2_12, e13⟩ : ∃ y : Int32, y = i2 + (1 : Int32) := ⟨_, rfl⟩
      have h := h i2_12 e13
      refine fw_iincN (k := 2) (v := i2_12) (Ls' := [(2, Value.int i2_12), (1, Value.int i1), (0, fw_rv g r0)]) [0] dX0_inWhoseName_47 rfl (by rw [e13]; rfl) (by decide) rfl rfl rfl rfl rfl ?_
      refine fw_goto (tgt := 20) dX0_inWhoseName_50 (by decide) ?_
      refine fw_ls [2, 1, 0] rfl ?_
      exact hk20 hg10 h
    · have h := fw_it h c11
      refine fw_iload_n dX0_inWhoseName_45 rfl rfl ?_
      exact fw_ireturn dX0_inWhoseName_46 rfl rfl ⟨_, rfl, h⟩
theorem w_X0_inWhoseName_L20 {g : fw_G} {f bc bs : Nat} {r0 : Nat} {i1 : Int32} {i2 : Int32} {μ : fw_M} {Q : Int32 → fw_M → Prop} (hf : 3 ≤ f) (hx : m_K μ r0 = 1) (h : p_X0_inWhoseName_L20 r0 i1 i2 μ Q) : fw_V g K_X0_inWhoseName f bc bs 20 [(0, fw_rv g r0), (1, Value.int i1), (2, Value.int i2)] [] μ (fw_Qi Q) fw_nX := by
  have key := fw_lp_out (R := fun (a : Int32 × fw_M) => m_K a.2 r0 = 1 → fw_V g K_X0_inWhoseName f bc bs 20 [(0, fw_rv g r0), (1, Value.int i1), (2, Value.int a.1)] [] a.2 (fw_Qi Q) fw_nX) (fun k hk9 a ha hx2 => w_X0_inWhoseName_L20b hf (fun {i2} {μ} hx3 h3 => hk9 (i2, μ) h3 hx3) hx2 ha) h
  exact key hx
def p_X0_inWhoseName (r0 : Nat) (i1 : Int32) (μ : fw_M) (Q : Int32 → fw_M → Prop) : Prop :=
  (p_X0_isEater r0 i1 μ (fun v1 μ2 =>
  (if v1 = 0 then
  (Q (-1 : Int32) μ2)
  else
  ((p_X0_unlike r0 i1 μ2 (fun v6 μ7 =>
   (if v6 < 0 then
   (p_X0_inWhoseName_L20 r0 i1 (0 : Int32) μ7 Q)
   else
   (Q (-1 : Int32) μ7))))))))
set_option maxHeartbeats 4000000 in
theorem w_X0_inWhoseName {g : fw_G} {f bc bs : Nat} {r0 : Nat} {i1 : Int32} {μ : fw_M} {Q : Int32 → fw_M → Prop} (hf : 3 ≤ f) (hx : m_K μ r0 = 1) (h : p_X0_inWhoseName r0 i1 μ Q) : fw_C g f bc bs yX0_inWhoseName (ws_ yX0_inWhoseName cX0_inWhoseName 3 (some .int)) [fw_rv g r0, Value.int i1] μ (fw_Qi Q) fw_nX := by
  unfold p_X0_inWhoseName at h
  refine fw_intro' (Ls := [(0, fw_rv g r0), (1, Value.int i1)]) (by decide +kernel) (by simp [lg_sl, fw_cat, fw_ci, fw_clo]) (by simp [lv_args, fw_cat, fw_ci, fw_clo]) ?_
  show fw_V g K_X0_inWhoseName f bc bs 0 [(0, fw_rv g r0), (1, Value.int i1)] [] μ (fw_Qi Q) fw_nX
  refine fw_aload_n dX0_inWhoseName_0 rfl rfl ?_
  refine fw_iload_n dX0_inWhoseName_1 rfl rfl ?_
  refine fw_callV1z (f1 := f - 1) cl_X0_150 rfl hx (by decide) (by omega) (fw_s4 (Nat.le_of_ble_eq_true rfl)) dX0_inWhoseName_2 (w_X0_isEater (f := f - 1) (by omega) hx h) (fun _ _ h9 _ _ => h9.elim) (fun v9 μ2 q9 hs3 => ?_)
  obtain ⟨v1, rfl, h⟩ := q9
  refine fw_ti ?_
  have hg4 := hs3.K hx (by decide)
  refine fw_if_eq (tgt := 16) dX0_inWhoseName_5 (by decide) (fun c5 => ?_) (fun c5 => ?_)
  · have h := fw_it h c5
    refine fw_iconst (v := -1) dX0_inWhoseName_16 (by decide) ?_
    exact fw_ireturn dX0_inWhoseName_17 rfl rfl ⟨_, rfl, h⟩
  · have h := fw_if h c5
    refine fw_aload_n dX0_inWhoseName_8 rfl rfl ?_
    refine fw_iload_n dX0_inWhoseName_9 rfl rfl ?_
    refine fw_callV1z (f1 := f - 1) cl_X0_294 rfl hg4 (by decide) (by omega) (fw_s4 (Nat.le_of_ble_eq_true rfl)) dX0_inWhoseName_10 (w_X0_unlike (f := f - 1) (by omega) hg4 h) (fun _ _ h9 _ _ => h9.elim) (fun v9 μ7 q9 hs8 => ?_)
    obtain ⟨v6, rfl, h⟩ := q9
    refine fw_ti ?_
    have hg9 := hs8.K hg4 (by decide)
    refine fw_if_lt (tgt := 18) dX0_inWhoseName_13 (by decide) (fun c10 => ?_) (fun c10 => ?_)
    · have h := fw_it h c10
      refine fw_iconst (v := 0) dX0_inWhoseName_18 (by decide) ?_
      refine fw_istore_nN (Ls' := [(2, Value.int (0 : Int32)), (1, Value.int i1), (0, fw_rv g r0)]) [0] dX0_inWhoseName_19 rfl (by decide) rfl rfl rfl rfl rfl ?_
      refine fw_ls [2, 1, 0] rfl ?_
      exact w_X0_inWhoseName_L20 hf hg9 h
    · have h := fw_if h c10
      refine fw_iconst (v := -1) dX0_inWhoseName_16 (by decide) ?_
      exact fw_ireturn dX0_inWhoseName_17 rfl rfl ⟨_, rfl, h⟩
abbrev K_X0_image : fw_Kt := (RX0, "image", cX0_image, 1, some .int, [])
def p_X0_image (r0 : Nat) (μ : fw_M) (Q : Int32 → fw_M → Prop) : Prop :=
  (m_K μ (m_P μ r0 1) = 2 ∧ (p_X1_lay (m_P μ r0 1) (m_P μ r0 0) μ (fun μ3 =>
  (m_K μ3 (m_P μ3 r0 0) = 2 ∧ (m_K μ3 (m_P μ3 (m_P μ3 r0 0) 9) = 100 ∧ (vp_in (23 : Int32) (m_N μ3 (m_P μ3 (m_P μ3 r0 0) 9)) ∧ Q (m_I μ3 (m_P μ3 (m_P μ3 r0 0) 9) (23 : Int32).toNatClampNeg) μ3))))))
set_option maxHeartbeats 4000000 in
theorem w_X0_image {g : fw_G} {f bc bs : Nat} {r0 : Nat} {μ : fw_M} {Q : Int32 → fw_M → Prop} (hf : 4 ≤ f) (hx : m_K μ r0 = 1) (h : p_X0_image r0 μ Q) : fw_C g f bc bs yX0_image (ws_ yX0_image cX0_image 1 (some .int)) [fw_rv g r0] μ (fw_Qi Q) fw_nX := by
  unfold p_X0_image at h
  refine fw_intro' (Ls := [(0, fw_rv g r0)]) (by decide +kernel) (by simp [lg_sl, fw_cat, fw_ci, fw_clo]) (by simp [lv_args, fw_cat, fw_ci, fw_clo]) ?_
  show fw_V g K_X0_image f bc bs 0 [(0, fw_rv g r0)] [] μ (fw_Qi Q) fw_nX
  refine fw_aload_n dX0_image_0 rfl rfl ?_
  refine fw_getfP fl_X0_16 rfl hx dX0_image_1 ?_
  refine fw_aload_n dX0_image_4 rfl rfl ?_
  refine fw_getfP fl_X0_12 rfl hx dX0_image_5 ?_
  obtain ⟨hg1, h⟩ := h
  refine fw_callV1z (f1 := f - 1) cl_X0_297 rfl hg1 (by decide) (by omega) (fw_s4 (Nat.le_of_ble_eq_true rfl)) dX0_image_8 (w_X1_lay (f := f - 1) (by omega) hg1 h) (fun _ _ h9 _ _ => h9.elim) (fun v9 μ3 q9 hs4 => ?_)
  obtain ⟨rfl, h⟩ := q9
  refine fw_tv ?_
  have hg5 := hs4.K hx (by decide)
  refine fw_aload_n dX0_image_11 rfl rfl ?_
  refine fw_getfP fl_X0_12 rfl hg5 dX0_image_12 ?_
  obtain ⟨hg6, h⟩ := h
  refine fw_getfP fl_X0_77 rfl hg6 dX0_image_15 ?_
  refine fw_bipush (v := 23) dX0_image_18 (by decide) ?_
  obtain ⟨hg7, h⟩ := h
  obtain ⟨hc8, h⟩ := h
  refine fw_iald hg7 hc8 dX0_image_20 ?_
  exact fw_ireturn dX0_image_21 rfl rfl ⟨_, rfl, h⟩
abbrev K_X0_back : fw_Kt := (RX0, "back", cX0_back, 1, some .int, [])
def p_X0_back (r0 : Nat) (μ : fw_M) (Q : Int32 → fw_M → Prop) : Prop :=
  (m_K μ (m_P μ r0 0) = 2 ∧ (p_X1_lay (m_P μ r0 0) (m_P μ r0 1) μ (fun μ3 =>
  (m_K μ3 (m_P μ3 r0 0) = 2 ∧ (m_K μ3 (m_P μ3 (m_P μ3 r0 0) 9) = 100 ∧ (vp_in (23 : Int32) (m_N μ3 (m_P μ3 (m_P μ3 r0 0) 9)) ∧ Q (m_I μ3 (m_P μ3 (m_P μ3 r0 0) 9) (23 : Int32).toNatClampNeg) μ3))))))
set_option maxHeartbeats 4000000 in
theorem w_X0_back {g : fw_G} {f bc bs : Nat} {r0 : Nat} {μ : fw_M} {Q : Int32 → fw_M → Prop} (hf : 4 ≤ f) (hx : m_K μ r0 = 1) (h : p_X0_back r0 μ Q) : fw_C g f bc bs yX0_back (ws_ yX0_back cX0_back 1 (some .int)) [fw_rv g r0] μ (fw_Qi Q) fw_nX := by
  unfold p_X0_back at h
  refine fw_intro' (Ls := [(0, fw_rv g r0)]) (by decide +kernel) (by simp [lg_sl, fw_cat, fw_ci, fw_clo]) (by simp [lv_args, fw_cat, fw_ci, fw_clo]) ?_
  show fw_V g K_X0_back f bc bs 0 [(0, fw_rv g r0)] [] μ (fw_Qi Q) fw_nX
  refine fw_aload_n dX0_back_0 rfl rfl ?_
  refine fw_getfP fl_X0_12 rfl hx dX0_back_1 ?_
  refine fw_aload_n dX0_back_4 rfl rfl ?_
  refine fw_getfP fl_X0_16 rfl hx dX0_back_5 ?_
  obtain ⟨hg1, h⟩ := h
  refine fw_callV1z (f1 := f - 1) cl_X0_297 rfl hg1 (by decide) (by omega) (fw_s4 (Nat.le_of_ble_eq_true rfl)) dX0_back_8 (w_X1_lay (f := f - 1) (by omega) hg1 h) (fun _ _ h9 _ _ => h9.elim) (fun v9 μ3 q9 hs4 => ?_)
  obtain ⟨rfl, h⟩ := q9
  refine fw_tv ?_
  have hg5 := hs4.K hx (by decide)
  refine fw_aload_n dX0_back_11 rfl rfl ?_
  refine fw_getfP fl_X0_12 rfl hg5 dX0_back_12 ?_
  obtain ⟨hg6, h⟩ := h
  refine fw_getfP fl_X0_77 rfl hg6 dX0_back_15 ?_
  refine fw_bipush (v := 23) dX0_back_18 (by decide) ?_
  obtain ⟨hg7, h⟩ := h
  obtain ⟨hc8, h⟩ := h
  refine fw_iald hg7 hc8 dX0_back_20 ?_
  exact fw_ireturn dX0_back_21 rfl rfl ⟨_, rfl, h⟩
abbrev K_X0_about : fw_Kt := (RX0, "about", cX0_about, 2, some .int, [])
def p_X0_about (r0 : Nat) (i1 : Int32) (μ : fw_M) (Q : Int32 → fw_M → Prop) : Prop :=
  (p_X0_in i1 (10 : Int32) (13 : Int32) μ (fun v1 μ2 =>
  (if v1 = 0 then
  ((if i1 = 0 then
   ((m_K μ2 (m_P μ2 r0 0) = 2 ∧ Q (m_I μ2 (m_P μ2 r0 0) 0) μ2))
   else (if i1 = 1 then
   ((m_K μ2 (m_P μ2 r0 0) = 2 ∧ (p_X0_tiltOf (m_P μ2 (m_P μ2 r0 0) 9) μ2 (fun v10 μ11 =>
    Q (v10 + (10000 : Int32)) μ11))))
   else (if i1 = 2 then
   ((m_K μ2 (m_P μ2 r0 0) = 2 ∧ (m_K μ2 (m_P μ2 (m_P μ2 r0 0) 9) = 100 ∧ (vp_in (24 : Int32) (m_N μ2 (m_P μ2 (m_P μ2 r0 0) 9)) ∧ Q (m_I μ2 (m_P μ2 (m_P μ2 r0 0) 9) (24 : Int32).toNatClampNeg) μ2))))
   else (if i1 = 3 then
   ((m_K μ2 (m_P μ2 r0 0) = 2 ∧ (m_K μ2 (m_P μ2 (m_P μ2 r0 0) 9) = 100 ∧ (vp_in (22 : Int32) (m_N μ2 (m_P μ2 (m_P μ2 r0 0) 9)) ∧ Q (m_I μ2 (m_P μ2 (m_P μ2 r0 0) 9) (22 : Int32).toNatClampNeg) μ2))))
   else (if i1 = 4 then
   ((m_K μ2 (m_P μ2 r0 0) = 2 ∧ Q (m_I μ2 (m_P μ2 r0 0) 1) μ2))
   else (if i1 = 5 then
   ((m_K μ2 (m_P μ2 r0 0) = 2 ∧ Q (m_I μ2 (m_P μ2 r0 0) 2) μ2))
   else (if i1 = 6 then
   ((m_K μ2 (m_P μ2 r0 0) = 2 ∧ Q (m_I μ2 (m_P μ2 r0 0) 3) μ2))
   else (if i1 = 7 then
   ((m_K μ2 (m_P μ2 r0 0) = 2 ∧ Q (m_I μ2 (m_P μ2 r0 0) 4) μ2))
   else (if i1 = 8 then
   ((m_K μ2 (m_P μ2 r0 0) = 2 ∧ Q (m_I μ2 (m_P μ2 r0 0) 5) μ2))
   else (if i1 = 9 then
   (Q (m_I μ2 r0 6) μ2)
   else Q (-2 : Int32) μ2)))))))))))
  else
  ((m_K μ2 (m_P μ2 r0 0) = 2 ∧ (m_K μ2 (m_P μ2 (m_P μ2 r0 0) 9) = 100 ∧ (vp_in (((0 : Int32) + i1) - (10 : Int32)) (m_N μ2 (m_P μ2 (m_P μ2 r0 0) 9)) ∧ Q (m_I μ2 (m_P μ2 (m_P μ2 r0 0) 9) (((0 : Int32) + i1) - (10 : Int32)).toNatClampNeg) μ2)))))))
set_option maxHeartbeats 4000000 in
theorem w_X0_about {g : fw_G} {f bc bs : Nat} {r0 : Nat} {i1 : Int32} {μ : fw_M} {Q : Int32 → fw_M → Prop} (hf : 2 ≤ f) (hx : m_K μ r0 = 1) (h : p_X0_about r0 i1 μ Q) : fw_C g f bc bs yX0_about (ws_ yX0_about cX0_about 2 (some .int)) [fw_rv g r0, Value.int i1] μ (fw_Qi Q) fw_nX := by
  unfold p_X0_about at h
  refine fw_intro' (Ls := [(0, fw_rv g r0), (1, Value.int i1)]) (by decide +kernel) (by simp [lg_sl, fw_cat, fw_ci, fw_clo]) (by simp [lv_args, fw_cat, fw_ci, fw_clo]) ?_
  show fw_V g K_X0_about f bc bs 0 [(0, fw_rv g r0), (1, Value.int i1)] [] μ (fw_Qi Q) fw_nX
  refine fw_iload_n dX0_about_0 rfl rfl ?_
  refine fw_bipush (v := 10) dX0_about_1 (by decide) ?_
  refine fw_bipush (v := 13) dX0_about_3 (by decide) ?_
  refine fw_callS3z (f1 := f - 1) cl_X0_66 (by decide) (by omega) (fw_s4 (Nat.le_of_ble_eq_true rfl)) dX0_about_5 (w_X0_in (f := f - 1) (by omega) h) (fun _ _ h9 _ _ => h9.elim) (fun v9 μ2 q9 hs3 => ?_)
  obtain ⟨v1, rfl, h⟩ := q9
  refine fw_ti ?_
  have hg4 := hs3.K hx (by decide)
  refine fw_if_eq (tgt := 26) dX0_about_8 (by decide) (fun c5 => ?_) (fun c5 => ?_)
  · have h := fw_it h c5
    refine fw_iload_n dX0_about_26 rfl rfl ?_
    refine fw_sw (k := 0) h (fun c6 h => ?_) (fun c6 h => ?_)
    · refine fw_tableIn (tgt := 80) dX0_about_27 (by rw [c6]; decide) (by rw [c6]; decide) (by rw [c6]; rfl) (by decide) ?_
      refine fw_aload_n dX0_about_80 rfl rfl ?_
      refine fw_getfP fl_X0_12 rfl hg4 dX0_about_81 ?_
      obtain ⟨hg7, h⟩ := h
      refine fw_getfI fl_X0_63 rfl hg7 dX0_about_84 ?_
      exact fw_ireturn dX0_about_87 rfl rfl ⟨_, rfl, h⟩
    · refine fw_sw (k := 1) h (fun c8 h => ?_) (fun c8 h => ?_)
      · refine fw_tableIn (tgt := 88) dX0_about_27 (by rw [c8]; decide) (by rw [c8]; decide) (by rw [c8]; rfl) (by decide) ?_
        refine fw_aload_n dX0_about_88 rfl rfl ?_
        refine fw_getfP fl_X0_12 rfl hg4 dX0_about_89 ?_
        obtain ⟨hg9, h⟩ := h
        refine fw_getfP fl_X0_77 rfl hg9 dX0_about_92 ?_
        refine fw_callS1z (f1 := f - 1) cl_X0_132 (by decide) (by omega) (fw_s4 (Nat.le_of_ble_eq_true rfl)) dX0_about_95 (w_X0_tiltOf (f := f - 1) (by omega) h) (fun _ _ h9 _ _ => h9.elim) (fun v9 μ11 q9 hs12 => ?_)
        obtain ⟨v10, rfl, h⟩ := q9
        refine fw_ti ?_
        have hg13 := hs12.K hg4 (by decide)
        refine fw_sipush (v := 10000) dX0_about_98 (by decide) ?_
        refine fw_iadd dX0_about_101 ?_
        exact fw_ireturn dX0_about_102 rfl rfl ⟨_, rfl, h⟩
      · refine fw_sw (k := 2) h (fun c14 h => ?_) (fun c14 h => ?_)
        · refine fw_tableIn (tgt := 103) dX0_about_27 (by rw [c14]; decide) (by rw [c14]; decide) (by rw [c14]; rfl) (by decide) ?_
          refine fw_aload_n dX0_about_103 rfl rfl ?_
          refine fw_getfP fl_X0_12 rfl hg4 dX0_about_104 ?_
          obtain ⟨hg15, h⟩ := h
          refine fw_getfP fl_X0_77 rfl hg15 dX0_about_107 ?_
          refine fw_bipush (v := 24) dX0_about_110 (by decide) ?_
          obtain ⟨hg16, h⟩ := h
          obtain ⟨hc17, h⟩ := h
          refine fw_iald hg16 hc17 dX0_about_112 ?_
          exact fw_ireturn dX0_about_113 rfl rfl ⟨_, rfl, h⟩
        · refine fw_sw (k := 3) h (fun c18 h => ?_) (fun c18 h => ?_)
          · refine fw_tableIn (tgt := 114) dX0_about_27 (by rw [c18]; decide) (by rw [c18]; decide) (by rw [c18]; rfl) (by decide) ?_
            refine fw_aload_n dX0_about_114 rfl rfl ?_
            refine fw_getfP fl_X0_12 rfl hg4 dX0_about_115 ?_
            obtain ⟨hg19, h⟩ := h
            refine fw_getfP fl_X0_77 rfl hg19 dX0_about_118 ?_
            refine fw_bipush (v := 22) dX0_about_121 (by decide) ?_
            obtain ⟨hg20, h⟩ := h
            obtain ⟨hc21, h⟩ := h
            refine fw_iald hg20 hc21 dX0_about_123 ?_
            exact fw_ireturn dX0_about_124 rfl rfl ⟨_, rfl, h⟩
          · refine fw_sw (k := 4) h (fun c22 h => ?_) (fun c22 h => ?_)
            · refine fw_tableIn (tgt := 125) dX0_about_27 (by rw [c22]; decide) (by rw [c22]; decide) (by rw [c22]; rfl) (by decide) ?_
              refine fw_aload_n dX0_about_125 rfl rfl ?_
              refine fw_getfP fl_X0_12 rfl hg4 dX0_about_126 ?_
              obtain ⟨hg23, h⟩ := h
              refine fw_getfI fl_X0_186 rfl hg23 dX0_about_129 ?_
              exact fw_ireturn dX0_about_132 rfl rfl ⟨_, rfl, h⟩
            · refine fw_sw (k := 5) h (fun c24 h => ?_) (fun c24 h => ?_)
              · refine fw_tableIn (tgt := 133) dX0_about_27 (by rw [c24]; decide) (by rw [c24]; decide) (by rw [c24]; rfl) (by decide) ?_
                refine fw_aload_n dX0_about_133 rfl rfl ?_
                refine fw_getfP fl_X0_12 rfl hg4 dX0_about_134 ?_
                obtain ⟨hg25, h⟩ := h
                refine fw_getfI fl_X0_60 rfl hg25 dX0_about_137 ?_
                exact fw_ireturn dX0_about_140 rfl rfl ⟨_, rfl, h⟩
              · refine fw_sw (k := 6) h (fun c26 h => ?_) (fun c26 h => ?_)
                · refine fw_tableIn (tgt := 141) dX0_about_27 (by rw [c26]; decide) (by rw [c26]; decide) (by rw [c26]; rfl) (by decide) ?_
                  refine fw_aload_n dX0_about_141 rfl rfl ?_
                  refine fw_getfP fl_X0_12 rfl hg4 dX0_about_142 ?_
                  obtain ⟨hg27, h⟩ := h
                  refine fw_getfI fl_X0_173 rfl hg27 dX0_about_145 ?_
                  exact fw_ireturn dX0_about_148 rfl rfl ⟨_, rfl, h⟩
                · refine fw_sw (k := 7) h (fun c28 h => ?_) (fun c28 h => ?_)
                  · refine fw_tableIn (tgt := 149) dX0_about_27 (by rw [c28]; decide) (by rw [c28]; decide) (by rw [c28]; rfl) (by decide) ?_
                    refine fw_aload_n dX0_about_149 rfl rfl ?_
                    refine fw_getfP fl_X0_12 rfl hg4 dX0_about_150 ?_
                    obtain ⟨hg29, h⟩ := h
                    refine fw_getfI fl_X0_254 rfl hg29 dX0_about_153 ?_
                    exact fw_ireturn dX0_about_156 rfl rfl ⟨_, rfl, h⟩
                  · refine fw_sw (k := 8) h (fun c30 h => ?_) (fun c30 h => ?_)
                    · refine fw_tableIn (tgt := 157) dX0_about_27 (by rw [c30]; decide) (by rw [c30]; decide) (by rw [c30]; rfl) (by decide) ?_
                      refine fw_aload_n dX0_about_157 rfl rfl ?_
                      refine fw_getfP fl_X0_12 rfl hg4 dX0_about_158 ?_
                      obtain ⟨hg31, h⟩ := h
                      refine fw_getfI fl_X0_288 rfl hg31 dX0_about_161 ?_
                      exact fw_ireturn dX0_about_164 rfl rfl ⟨_, rfl, h⟩
                    · refine fw_sw (k := 9) h (fun c32 h => ?_) (fun c32 h => ?_)
                      · refine fw_tableIn (tgt := 165) dX0_about_27 (by rw [c32]; decide) (by rw [c32]; decide) (by rw [c32]; rfl) (by decide) ?_
                        refine fw_aload_n dX0_about_165 rfl rfl ?_
                        refine fw_getfI fl_X0_179 rfl hg4 dX0_about_166 ?_
                        exact fw_ireturn dX0_about_169 rfl rfl ⟨_, rfl, h⟩
                      · have nc6 := lv_neT c6 (k := 0) (a := 0) (by decide)
                        have nc8 := lv_neT c8 (k := 1) (a := 1) (by decide)
                        have nc14 := lv_neT c14 (k := 2) (a := 2) (by decide)
                        have nc18 := lv_neT c18 (k := 3) (a := 3) (by decide)
                        have nc22 := lv_neT c22 (k := 4) (a := 4) (by decide)
                        have nc24 := lv_neT c24 (k := 5) (a := 5) (by decide)
                        have nc26 := lv_neT c26 (k := 6) (a := 6) (by decide)
                        have nc28 := lv_neT c28 (k := 7) (a := 7) (by decide)
                        have nc30 := lv_neT c30 (k := 8) (a := 8) (by decide)
                        have nc32 := lv_neT c32 (k := 9) (a := 9) (by decide)
                        refine fw_tableOut (tgt := 170) dX0_about_27 (by omega) (by decide) ?_
                        refine fw_bipush (v := -2) dX0_about_170 (by decide) ?_
                        exact fw_ireturn dX0_about_172 rfl rfl ⟨_, rfl, h⟩
  · have h := fw_if h c5
    refine fw_aload_n dX0_about_11 rfl rfl ?_
    refine fw_getfP fl_X0_12 rfl hg4 dX0_about_12 ?_
    obtain ⟨hg33, h⟩ := h
    refine fw_getfP fl_X0_77 rfl hg33 dX0_about_15 ?_
    refine fw_iconst (v := 0) dX0_about_18 (by decide) ?_
    refine fw_iload_n dX0_about_19 rfl rfl ?_
    refine fw_iadd dX0_about_20 ?_
    refine fw_bipush (v := 10) dX0_about_21 (by decide) ?_
    refine fw_isub dX0_about_23 ?_
    obtain ⟨hg34, h⟩ := h
    obtain ⟨hc35, h⟩ := h
    refine fw_iald hg34 hc35 dX0_about_24 ?_
    exact fw_ireturn dX0_about_25 rfl rfl ⟨_, rfl, h⟩
abbrev K_X5_copies : fw_Kt := (RX5, "copies", cX5_copies, 3, none, [])
def p_X5_copies_L2b (r0 : Nat) (i1 : Int32) (k2 : Int32 → fw_M → Prop) (i2 : Int32) (μ : fw_M) (Q : fw_M → Prop) : Prop :=
  (if (11120 : Int32) ≤ i2 then
  (Q μ)
  else
  ((if i1 = 0 then
   ((m_K μ (m_P μ r0 1) = 100 ∧ (vp_in i2 (m_N μ (m_P μ r0 1)) ∧ (m_K μ (m_P μ r0 0) = 100 ∧ (vp_in i2 (m_N μ (m_P μ r0 0)) ∧ (∀ μ7, μ7 = m_uI μ (m_P μ r0 0) i2.toNatClampNeg (m_I μ (m_P μ r0 1) i2.toNatClampNeg) →
    (∀ i2_8 : Int32, i2_8 = i2 + (1 : Int32) →
    k2 i2_8 μ7)))))))
   else
   ((m_K μ (m_P μ r0 0) = 100 ∧ (vp_in i2 (m_N μ (m_P μ r0 0)) ∧ (m_K μ (m_P μ r0 1) = 100 ∧ (vp_in i2 (m_N μ (m_P μ r0 1)) ∧ (∀ μ14, μ14 = m_uI μ (m_P μ r0 1) i2.toNatClampNeg (m_I μ (m_P μ r0 0) i2.toNatClampNeg) →
    (∀ i2_15 : Int32, i2_15 = i2 + (1 : Int32) →
    k2 i2_15 μ14))))))))))
def p_X5_copies_L2 (r0 : Nat) (i1 : Int32) (i2 : Int32) (μ : fw_M) (Q : fw_M → Prop) : Prop := fw_lp (fun (k : Int32 × fw_M → Prop) (a : Int32 × fw_M) => p_X5_copies_L2b r0 i1 (fun i2 μ => k (i2, μ)) a.1 a.2 Q) (i2, μ)
theorem r_X5_copies_L2 {r0 : Nat} {i1 : Int32} {Q : fw_M → Prop} (I : Int32 → fw_M → Prop) (v : Int32 → fw_M → Nat) (hs : ∀ (k : Int32 → fw_M → Prop) (i2 : Int32) (μ : fw_M), I i2 μ → (∀ (i2' : Int32) (ν : fw_M), I i2' ν → v i2' ν < v i2 μ → k i2' ν) → p_X5_copies_L2b r0 i1 k i2 μ Q) (i2 : Int32) (μ : fw_M) (h : I i2 μ) : p_X5_copies_L2 r0 i1 i2 μ Q :=
  fw_lp_in (A := Int32 × fw_M) (fun a => I a.1 a.2) (fun a => v a.1 a.2) (fun k a ha hk => hs (fun i2 μ => k (i2, μ)) a.1 a.2 ha (fun i2' ν hb hlt => hk (i2', ν) hb hlt)) (i2, μ) h
set_option maxHeartbeats 4000000 in
theorem w_X5_copies_L2b {g : fw_G} {f bc bs : Nat} {r0 : Nat} {i1 : Int32} {k2 : Int32 → fw_M → Prop} {i2 : Int32} {μ : fw_M} {Q : fw_M → Prop} (hf : 1 ≤ f) (hk2 : ∀ {i2 : Int32} {μ : fw_M}, m_K μ r0 = 6 → k2 i2 μ → fw_V g K_X5_copies f bc bs 2 [(0, fw_rv g r0), (1, Value.int i1), (2, Value.int i2)] [] μ (fw_Qv Q) fw_nX) (hx : m_K μ r0 = 6) (h : p_X5_copies_L2b r0 i1 k2 i2 μ Q) : fw_V g K_X5_copies f bc bs 2 [(0, fw_rv g r0), (1, Value.int i1), (2, Value.int i2)] [] μ (fw_Qv Q) fw_nX := by
  unfold p_X5_copies_L2b at h
  refine fw_iload_n dX5_copies_2 rfl rfl ?_
  refine fw_sipush (v := 11120) dX5_copies_3 (by decide) ?_
  refine fw_icmp_ge (tgt := 46) dX5_copies_6 (by decide) (fun c1 => ?_) (fun c1 => ?_)
  · have h := fw_it h c1
    exact fw_return dX5_copies_46 rfl ⟨rfl, h⟩
  · have h := fw_if h c1
    refine fw_iload_n dX5_copies_9 rfl rfl ?_
    refine fw_if_eq (tgt := 28) dX5_copies_10 (by decide) (fun c2 => ?_) (fun c2 => ?_)
    · have h := fw_it h c2
      refine fw_aload_n dX5_copies_28 rfl rfl ?_
      refine fw_getfP fl_X5_7 rfl hx dX5_copies_29 ?_
      refine fw_iload_n dX5_copies_32 rfl rfl ?_
      refine fw_aload_n dX5_copies_33 rfl rfl ?_
      refine fw_getfP fl_X5_13 rfl hx dX5_copies_34 ?_
      refine fw_iload_n dX5_copies_37 rfl rfl ?_
      obtain ⟨hg3, h⟩ := h
      obtain ⟨hc4, h⟩ := h
      refine fw_iald hg3 hc4 dX5_copies_38 ?_
      obtain ⟨hg5, h⟩ := h
      obtain ⟨hc6, h⟩ := h
      refine fw_iast hg5 hc6 dX5_copies_39 ?_
      have h := h _ rfl
      obtain ⟨i2_8, e9⟩ : ∃ y : Int32, y = i2 + (1 : Int32) := ⟨_, rfl⟩
      have h := h i2_8 e9
      refine fw_iincN (k := 2) (v := i2_8) (Ls' := [(2, Value.int i2_8), (1, Value.int i1), (0, fw_rv g r0)]) [0] dX5_copies_40 rfl (by rw [e9]; rfl) (by decide) rfl rfl rfl rfl rfl ?_
      refine fw_goto (tgt := 2) dX5_copies_43 (by decide) ?_
      refine fw_ls [2, 1, 0] rfl ?_
      exact hk2 hx h
    · have h := fw_if h c2
      refine fw_aload_n dX5_copies_13 rfl rfl ?_
      refine fw_getfP fl_X5_13 rfl hx dX5_copies_14 ?_
      refine fw_iload_n dX5_copies_17 rfl rfl ?_
      refine fw_aload_n dX5_copies_18 rfl rfl ?_
      refine fw_getfP fl_X5_7 rfl hx dX5_copies_19 ?_
      refine fw_iload_n dX5_copies_22 rfl rfl ?_
      obtain ⟨hg10, h⟩ := h
      obtain ⟨hc11, h⟩ := h
      refine fw_iald hg10 hc11 dX5_copies_23 ?_
      obtain ⟨hg12, h⟩ := h
      obtain ⟨hc13, h⟩ := h
      refine fw_iast hg12 hc13 dX5_copies_24 ?_
      have h := h _ rfl
      refine fw_goto (tgt := 40) dX5_copies_25 (by decide) ?_
      obtain ⟨i2_15, e16⟩ : ∃ y : Int32, y = i2 + (1 : Int32) := ⟨_, rfl⟩
      have h := h i2_15 e16
      refine fw_iincN (k := 2) (v := i2_15) (Ls' := [(2, Value.int i2_15), (1, Value.int i1), (0, fw_rv g r0)]) [0] dX5_copies_40 rfl (by rw [e16]; rfl) (by decide) rfl rfl rfl rfl rfl ?_
      refine fw_goto (tgt := 2) dX5_copies_43 (by decide) ?_
      refine fw_ls [2, 1, 0] rfl ?_
      exact hk2 hx h
theorem w_X5_copies_L2 {g : fw_G} {f bc bs : Nat} {r0 : Nat} {i1 : Int32} {i2 : Int32} {μ : fw_M} {Q : fw_M → Prop} (hf : 1 ≤ f) (hx : m_K μ r0 = 6) (h : p_X5_copies_L2 r0 i1 i2 μ Q) : fw_V g K_X5_copies f bc bs 2 [(0, fw_rv g r0), (1, Value.int i1), (2, Value.int i2)] [] μ (fw_Qv Q) fw_nX := by
  have key := fw_lp_out (R := fun (a : Int32 × fw_M) => m_K a.2 r0 = 6 → fw_V g K_X5_copies f bc bs 2 [(0, fw_rv g r0), (1, Value.int i1), (2, Value.int a.1)] [] a.2 (fw_Qv Q) fw_nX) (fun k hk9 a ha hx2 => w_X5_copies_L2b hf (fun {i2} {μ} hx3 h3 => hk9 (i2, μ) h3 hx3) hx2 ha) h
  exact key hx
def p_X5_copies (r0 : Nat) (i1 : Int32) (μ : fw_M) (Q : fw_M → Prop) : Prop :=
  p_X5_copies_L2 r0 i1 (0 : Int32) μ Q
set_option maxHeartbeats 4000000 in
theorem w_X5_copies {g : fw_G} {f bc bs : Nat} {r0 : Nat} {i1 : Int32} {μ : fw_M} {Q : fw_M → Prop} (hf : 1 ≤ f) (hx : m_K μ r0 = 6) (h : p_X5_copies r0 i1 μ Q) : fw_C g f bc bs yX5_copies (ws_ yX5_copies cX5_copies 3 (none)) [fw_rv g r0, Value.int i1] μ (fw_Qv Q) fw_nX := by
  unfold p_X5_copies at h
  refine fw_intro' (Ls := [(0, fw_rv g r0), (1, Value.int i1)]) (by decide +kernel) (by simp [lg_sl, fw_cat, fw_ci, fw_clo]) (by simp [lv_args, fw_cat, fw_ci, fw_clo]) ?_
  show fw_V g K_X5_copies f bc bs 0 [(0, fw_rv g r0), (1, Value.int i1)] [] μ (fw_Qv Q) fw_nX
  refine fw_iconst (v := 0) dX5_copies_0 (by decide) ?_
  refine fw_istore_nN (Ls' := [(2, Value.int (0 : Int32)), (1, Value.int i1), (0, fw_rv g r0)]) [0] dX5_copies_1 rfl (by decide) rfl rfl rfl rfl rfl ?_
  refine fw_ls [2, 1, 0] rfl ?_
  exact w_X5_copies_L2 hf hx h
abbrev K_X5_init : fw_Kt := (RX5, "<init>", cX5_init, 2, none, [])
def p_X5_init_L268b (r0 : Nat) (k268 : Nat → Nat → Int32 → fw_M → Prop) (bc : Nat) (bs : Nat) (i1 : Int32) (μ : fw_M) (Q : fw_M → Prop) : Prop :=
  (if (9 : Int32) ≤ i1 then
  ((p_X5_copies r0 (1 : Int32) μ (fun μ3 =>
   Q μ3)))
  else
  ((m_K μ (m_P μ r0 0) = 100 ∧ (vp_in ((114 : Int32) + i1) (m_N μ (m_P μ r0 0)) ∧ (∀ μ8, μ8 = m_uI μ (m_P μ r0 0) ((114 : Int32) + i1).toNatClampNeg (2 : Int32) →
   (∀ i1_9 : Int32, i1_9 = i1 + (1 : Int32) →
   k268 bc bs i1_9 μ8))))))
def p_X5_init_L268 (r0 : Nat) (bc : Nat) (bs : Nat) (i1 : Int32) (μ : fw_M) (Q : fw_M → Prop) : Prop := fw_lp (fun (k : Nat × Nat × Int32 × fw_M → Prop) (a : Nat × Nat × Int32 × fw_M) => p_X5_init_L268b r0 (fun bc bs i1 μ => k (bc, bs, i1, μ)) a.1 a.2.1 a.2.2.1 a.2.2.2 Q) (bc, bs, i1, μ)
theorem r_X5_init_L268 {r0 : Nat} {Q : fw_M → Prop} (I : Nat → Nat → Int32 → fw_M → Prop) (v : Nat → Nat → Int32 → fw_M → Nat) (hs : ∀ (k : Nat → Nat → Int32 → fw_M → Prop) (bc : Nat) (bs : Nat) (i1 : Int32) (μ : fw_M), I bc bs i1 μ → (∀ (bc' : Nat) (bs' : Nat) (i1' : Int32) (ν : fw_M), I bc' bs' i1' ν → v bc' bs' i1' ν < v bc bs i1 μ → k bc' bs' i1' ν) → p_X5_init_L268b r0 k bc bs i1 μ Q) (bc : Nat) (bs : Nat) (i1 : Int32) (μ : fw_M) (h : I bc bs i1 μ) : p_X5_init_L268 r0 bc bs i1 μ Q :=
  fw_lp_in (A := Nat × Nat × Int32 × fw_M) (fun a => I a.1 a.2.1 a.2.2.1 a.2.2.2) (fun a => v a.1 a.2.1 a.2.2.1 a.2.2.2) (fun k a ha hk => hs (fun bc bs i1 μ => k (bc, bs, i1, μ)) a.1 a.2.1 a.2.2.1 a.2.2.2 ha (fun bc' bs' i1' ν hb hlt => hk (bc', bs', i1', ν) hb hlt)) (bc, bs, i1, μ) h
set_option maxHeartbeats 4000000 in
theorem w_X5_init_L268b {g : fw_G} {f : Nat} {r0 : Nat} {k268 : Nat → Nat → Int32 → fw_M → Prop} {bc : Nat} {bs : Nat} {i1 : Int32} {μ : fw_M} {Q : fw_M → Prop} (hf : 2 ≤ f) (hk268 : ∀ {bc : Nat} {bs : Nat} {i1 : Int32} {μ : fw_M}, m_K μ r0 = 6 → k268 bc bs i1 μ → fw_V g K_X5_init f bc bs 268 [(0, fw_rv g r0), (1, Value.int i1)] [] μ (fw_Qv Q) fw_nX) (hx : m_K μ r0 = 6) (h : p_X5_init_L268b r0 k268 bc bs i1 μ Q) : fw_V g K_X5_init f bc bs 268 [(0, fw_rv g r0), (1, Value.int i1)] [] μ (fw_Qv Q) fw_nX := by
  unfold p_X5_init_L268b at h
  refine fw_iload_n dX5_init_268 rfl rfl ?_
  refine fw_bipush (v := 9) dX5_init_269 (by decide) ?_
  refine fw_icmp_ge (tgt := 290) dX5_init_271 (by decide) (fun c1 => ?_) (fun c1 => ?_)
  · have h := fw_it h c1
    refine fw_aload_n dX5_init_290 rfl rfl ?_
    refine fw_iconst (v := 1) dX5_init_291 (by decide) ?_
    refine fw_callV1z (f1 := f - 1) cl_X5_106 rfl hx (by decide) (by omega) (fw_s4 (Nat.le_of_ble_eq_true rfl)) dX5_init_292 (w_X5_copies (f := f - 1) (by omega) hx h) (fun _ _ h9 _ _ => h9.elim) (fun v9 μ3 q9 hs4 => ?_)
    obtain ⟨rfl, h⟩ := q9
    refine fw_tv ?_
    have hg5 := hs4.K hx (by decide)
    exact fw_return dX5_init_295 rfl ⟨rfl, h⟩
  · have h := fw_if h c1
    refine fw_aload_n dX5_init_274 rfl rfl ?_
    refine fw_getfP fl_X5_7 rfl hx dX5_init_275 ?_
    refine fw_bipush (v := 114) dX5_init_278 (by decide) ?_
    refine fw_iload_n dX5_init_280 rfl rfl ?_
    refine fw_iadd dX5_init_281 ?_
    refine fw_iconst (v := 2) dX5_init_282 (by decide) ?_
    obtain ⟨hg6, h⟩ := h
    obtain ⟨hc7, h⟩ := h
    refine fw_iast hg6 hc7 dX5_init_283 ?_
    have h := h _ rfl
    obtain ⟨i1_9, e10⟩ : ∃ y : Int32, y = i1 + (1 : Int32) := ⟨_, rfl⟩
    have h := h i1_9 e10
    refine fw_iincN (k := 1) (v := i1_9) (Ls' := [(1, Value.int i1_9), (0, fw_rv g r0)]) [] dX5_init_284 rfl (by rw [e10]; rfl) (by decide) rfl rfl rfl (fw_cat _) rfl ?_
    refine fw_goto (tgt := 268) dX5_init_287 (by decide) ?_
    refine fw_ls [1, 0] rfl ?_
    exact hk268 hx h
theorem w_X5_init_L268 {g : fw_G} {f : Nat} {r0 : Nat} {bc : Nat} {bs : Nat} {i1 : Int32} {μ : fw_M} {Q : fw_M → Prop} (hf : 2 ≤ f) (hx : m_K μ r0 = 6) (h : p_X5_init_L268 r0 bc bs i1 μ Q) : fw_V g K_X5_init f bc bs 268 [(0, fw_rv g r0), (1, Value.int i1)] [] μ (fw_Qv Q) fw_nX := by
  have key := fw_lp_out (R := fun (a : Nat × Nat × Int32 × fw_M) => m_K a.2.2.2 r0 = 6 → fw_V g K_X5_init f a.1 a.2.1 268 [(0, fw_rv g r0), (1, Value.int a.2.2.1)] [] a.2.2.2 (fw_Qv Q) fw_nX) (fun k hk9 a ha hx2 => w_X5_init_L268b hf (fun {bc bs i1} {μ} hx3 h3 => hk9 (bc, bs, i1, μ) h3 hx3) hx2 ha) h
  exact key hx
def p_X5_init (bc : Nat) (bs : Nat) (r0 : Nat) (μ : fw_M) (Q : fw_M → Prop) : Prop :=
  (¬ (11120 : Int32) < 0 ∧ ((11120 : Int32).toNatClampNeg ≤ 60000 ∧ (1 ≤ bc ∧ ((11120 : Int32).toNatClampNeg ≤ bs ∧ (∀ rn5 : Nat, rn5 = m_x μ →
  (∀ μ8, μ8 = m_al μ 100 (11120 : Int32).toNatClampNeg →
  (∀ μ11, μ11 = m_uP μ8 r0 0 rn5 →
  (¬ (11120 : Int32) < 0 ∧ ((11120 : Int32).toNatClampNeg ≤ 60000 ∧ (1 ≤ (bc - 1) ∧ ((11120 : Int32).toNatClampNeg ≤ (bs - (11120 : Int32).toNatClampNeg) ∧ (∀ rn16 : Nat, rn16 = m_x μ11 →
  (∀ μ19, μ19 = m_al μ11 100 (11120 : Int32).toNatClampNeg →
  (∀ μ22, μ22 = m_uP μ19 r0 1 rn16 →
  (¬ (300 : Int32) < 0 ∧ ((300 : Int32).toNatClampNeg ≤ 60000 ∧ (1 ≤ ((bc - 1) - 1) ∧ ((300 : Int32).toNatClampNeg ≤ ((bs - (11120 : Int32).toNatClampNeg) - (11120 : Int32).toNatClampNeg) ∧ (∀ rn27 : Nat, rn27 = m_x μ22 →
  (∀ μ30, μ30 = m_al μ22 101 (300 : Int32).toNatClampNeg →
  (∀ μ33, μ33 = m_uP μ30 r0 2 rn27 →
  (∀ μ34, μ34 = m_uI μ33 r0 4 (-1 : Int32) →
  (∀ μ35, μ35 = m_uI μ34 r0 5 (-1 : Int32) →
  (¬ (4 : Int32) < 0 ∧ ((4 : Int32).toNatClampNeg ≤ 60000 ∧ (1 ≤ (((bc - 1) - 1) - 1) ∧ ((4 : Int32).toNatClampNeg ≤ (((bs - (11120 : Int32).toNatClampNeg) - (11120 : Int32).toNatClampNeg) - (300 : Int32).toNatClampNeg) ∧ (∀ rn40 : Nat, rn40 = m_x μ35 →
  (∀ μ43, μ43 = m_al μ35 100 (4 : Int32).toNatClampNeg →
  (∀ μ46, μ46 = m_uP μ43 r0 6 rn40 →
  (¬ (96 : Int32) < 0 ∧ ((96 : Int32).toNatClampNeg ≤ 60000 ∧ (1 ≤ ((((bc - 1) - 1) - 1) - 1) ∧ ((96 : Int32).toNatClampNeg ≤ ((((bs - (11120 : Int32).toNatClampNeg) - (11120 : Int32).toNatClampNeg) - (300 : Int32).toNatClampNeg) - (4 : Int32).toNatClampNeg) ∧ (∀ rn51 : Nat, rn51 = m_x μ46 →
  (∀ μ54, μ54 = m_al μ46 100 (96 : Int32).toNatClampNeg →
  (∀ μ57, μ57 = m_uP μ54 r0 7 rn51 →
  (¬ (96 : Int32) < 0 ∧ ((96 : Int32).toNatClampNeg ≤ 60000 ∧ (1 ≤ (((((bc - 1) - 1) - 1) - 1) - 1) ∧ ((96 : Int32).toNatClampNeg ≤ (((((bs - (11120 : Int32).toNatClampNeg) - (11120 : Int32).toNatClampNeg) - (300 : Int32).toNatClampNeg) - (4 : Int32).toNatClampNeg) - (96 : Int32).toNatClampNeg) ∧ (∀ rn62 : Nat, rn62 = m_x μ57 →
  (∀ μ65, μ65 = m_al μ57 100 (96 : Int32).toNatClampNeg →
  (∀ μ68, μ68 = m_uP μ65 r0 8 rn62 →
  (¬ (96 : Int32) < 0 ∧ ((96 : Int32).toNatClampNeg ≤ 60000 ∧ (1 ≤ ((((((bc - 1) - 1) - 1) - 1) - 1) - 1) ∧ ((96 : Int32).toNatClampNeg ≤ ((((((bs - (11120 : Int32).toNatClampNeg) - (11120 : Int32).toNatClampNeg) - (300 : Int32).toNatClampNeg) - (4 : Int32).toNatClampNeg) - (96 : Int32).toNatClampNeg) - (96 : Int32).toNatClampNeg) ∧ (∀ rn73 : Nat, rn73 = m_x μ68 →
  (∀ μ76, μ76 = m_al μ68 100 (96 : Int32).toNatClampNeg →
  (∀ μ79, μ79 = m_uP μ76 r0 9 rn73 →
  (¬ (96 : Int32) < 0 ∧ ((96 : Int32).toNatClampNeg ≤ 60000 ∧ (1 ≤ (((((((bc - 1) - 1) - 1) - 1) - 1) - 1) - 1) ∧ ((96 : Int32).toNatClampNeg ≤ (((((((bs - (11120 : Int32).toNatClampNeg) - (11120 : Int32).toNatClampNeg) - (300 : Int32).toNatClampNeg) - (4 : Int32).toNatClampNeg) - (96 : Int32).toNatClampNeg) - (96 : Int32).toNatClampNeg) - (96 : Int32).toNatClampNeg) ∧ (∀ rn84 : Nat, rn84 = m_x μ79 →
  (∀ μ87, μ87 = m_al μ79 100 (96 : Int32).toNatClampNeg →
  (∀ μ90, μ90 = m_uP μ87 r0 10 rn84 →
  (¬ (1600 : Int32) < 0 ∧ ((1600 : Int32).toNatClampNeg ≤ 60000 ∧ (1 ≤ ((((((((bc - 1) - 1) - 1) - 1) - 1) - 1) - 1) - 1) ∧ ((1600 : Int32).toNatClampNeg ≤ ((((((((bs - (11120 : Int32).toNatClampNeg) - (11120 : Int32).toNatClampNeg) - (300 : Int32).toNatClampNeg) - (4 : Int32).toNatClampNeg) - (96 : Int32).toNatClampNeg) - (96 : Int32).toNatClampNeg) - (96 : Int32).toNatClampNeg) - (96 : Int32).toNatClampNeg) ∧ (∀ rn95 : Nat, rn95 = m_x μ90 →
  (∀ μ98, μ98 = m_al μ90 100 (1600 : Int32).toNatClampNeg →
  (∀ μ101, μ101 = m_uP μ98 r0 11 rn95 →
  (¬ (1600 : Int32) < 0 ∧ ((1600 : Int32).toNatClampNeg ≤ 60000 ∧ (1 ≤ (((((((((bc - 1) - 1) - 1) - 1) - 1) - 1) - 1) - 1) - 1) ∧ ((1600 : Int32).toNatClampNeg ≤ (((((((((bs - (11120 : Int32).toNatClampNeg) - (11120 : Int32).toNatClampNeg) - (300 : Int32).toNatClampNeg) - (4 : Int32).toNatClampNeg) - (96 : Int32).toNatClampNeg) - (96 : Int32).toNatClampNeg) - (96 : Int32).toNatClampNeg) - (96 : Int32).toNatClampNeg) - (1600 : Int32).toNatClampNeg) ∧ (∀ rn106 : Nat, rn106 = m_x μ101 →
  (∀ μ109, μ109 = m_al μ101 100 (1600 : Int32).toNatClampNeg →
  (∀ μ112, μ112 = m_uP μ109 r0 12 rn106 →
  (¬ (40 : Int32) < 0 ∧ ((40 : Int32).toNatClampNeg ≤ 60000 ∧ (1 ≤ ((((((((((bc - 1) - 1) - 1) - 1) - 1) - 1) - 1) - 1) - 1) - 1) ∧ ((40 : Int32).toNatClampNeg ≤ ((((((((((bs - (11120 : Int32).toNatClampNeg) - (11120 : Int32).toNatClampNeg) - (300 : Int32).toNatClampNeg) - (4 : Int32).toNatClampNeg) - (96 : Int32).toNatClampNeg) - (96 : Int32).toNatClampNeg) - (96 : Int32).toNatClampNeg) - (96 : Int32).toNatClampNeg) - (1600 : Int32).toNatClampNeg) - (1600 : Int32).toNatClampNeg) ∧ (∀ rn117 : Nat, rn117 = m_x μ112 →
  (∀ μ120, μ120 = m_al μ112 100 (40 : Int32).toNatClampNeg →
  (∀ μ123, μ123 = m_uP μ120 r0 22 rn117 →
  (¬ (41 : Int32) < 0 ∧ ((41 : Int32).toNatClampNeg ≤ 60000 ∧ (1 ≤ (((((((((((bc - 1) - 1) - 1) - 1) - 1) - 1) - 1) - 1) - 1) - 1) - 1) ∧ ((41 : Int32).toNatClampNeg ≤ (((((((((((bs - (11120 : Int32).toNatClampNeg) - (11120 : Int32).toNatClampNeg) - (300 : Int32).toNatClampNeg) - (4 : Int32).toNatClampNeg) - (96 : Int32).toNatClampNeg) - (96 : Int32).toNatClampNeg) - (96 : Int32).toNatClampNeg) - (96 : Int32).toNatClampNeg) - (1600 : Int32).toNatClampNeg) - (1600 : Int32).toNatClampNeg) - (40 : Int32).toNatClampNeg) ∧ (∀ rn128 : Nat, rn128 = m_x μ123 →
  (∀ μ131, μ131 = m_al μ123 100 (41 : Int32).toNatClampNeg →
  (∀ μ134, μ134 = m_uP μ131 r0 23 rn128 →
  (¬ (80 : Int32) < 0 ∧ ((80 : Int32).toNatClampNeg ≤ 60000 ∧ (1 ≤ ((((((((((((bc - 1) - 1) - 1) - 1) - 1) - 1) - 1) - 1) - 1) - 1) - 1) - 1) ∧ ((80 : Int32).toNatClampNeg ≤ ((((((((((((bs - (11120 : Int32).toNatClampNeg) - (11120 : Int32).toNatClampNeg) - (300 : Int32).toNatClampNeg) - (4 : Int32).toNatClampNeg) - (96 : Int32).toNatClampNeg) - (96 : Int32).toNatClampNeg) - (96 : Int32).toNatClampNeg) - (96 : Int32).toNatClampNeg) - (1600 : Int32).toNatClampNeg) - (1600 : Int32).toNatClampNeg) - (40 : Int32).toNatClampNeg) - (41 : Int32).toNatClampNeg) ∧ (∀ rn139 : Nat, rn139 = m_x μ134 →
  (∀ μ142, μ142 = m_al μ134 100 (80 : Int32).toNatClampNeg →
  (∀ μ145, μ145 = m_uP μ142 r0 25 rn139 →
  (¬ (80 : Int32) < 0 ∧ ((80 : Int32).toNatClampNeg ≤ 60000 ∧ (1 ≤ (((((((((((((bc - 1) - 1) - 1) - 1) - 1) - 1) - 1) - 1) - 1) - 1) - 1) - 1) - 1) ∧ ((80 : Int32).toNatClampNeg ≤ (((((((((((((bs - (11120 : Int32).toNatClampNeg) - (11120 : Int32).toNatClampNeg) - (300 : Int32).toNatClampNeg) - (4 : Int32).toNatClampNeg) - (96 : Int32).toNatClampNeg) - (96 : Int32).toNatClampNeg) - (96 : Int32).toNatClampNeg) - (96 : Int32).toNatClampNeg) - (1600 : Int32).toNatClampNeg) - (1600 : Int32).toNatClampNeg) - (40 : Int32).toNatClampNeg) - (41 : Int32).toNatClampNeg) - (80 : Int32).toNatClampNeg) ∧ (∀ rn150 : Nat, rn150 = m_x μ145 →
  (∀ μ153, μ153 = m_al μ145 100 (80 : Int32).toNatClampNeg →
  (∀ μ156, μ156 = m_uP μ153 r0 26 rn150 →
  (¬ (24 : Int32) < 0 ∧ ((24 : Int32).toNatClampNeg ≤ 60000 ∧ (1 ≤ ((((((((((((((bc - 1) - 1) - 1) - 1) - 1) - 1) - 1) - 1) - 1) - 1) - 1) - 1) - 1) - 1) ∧ ((24 : Int32).toNatClampNeg ≤ ((((((((((((((bs - (11120 : Int32).toNatClampNeg) - (11120 : Int32).toNatClampNeg) - (300 : Int32).toNatClampNeg) - (4 : Int32).toNatClampNeg) - (96 : Int32).toNatClampNeg) - (96 : Int32).toNatClampNeg) - (96 : Int32).toNatClampNeg) - (96 : Int32).toNatClampNeg) - (1600 : Int32).toNatClampNeg) - (1600 : Int32).toNatClampNeg) - (40 : Int32).toNatClampNeg) - (41 : Int32).toNatClampNeg) - (80 : Int32).toNatClampNeg) - (80 : Int32).toNatClampNeg) ∧ (∀ rn161 : Nat, rn161 = m_x μ156 →
  (∀ μ164, μ164 = m_al μ156 100 (24 : Int32).toNatClampNeg →
  (∀ μ167, μ167 = m_uP μ164 r0 30 rn161 →
  (¬ (24 : Int32) < 0 ∧ ((24 : Int32).toNatClampNeg ≤ 60000 ∧ (1 ≤ (((((((((((((((bc - 1) - 1) - 1) - 1) - 1) - 1) - 1) - 1) - 1) - 1) - 1) - 1) - 1) - 1) - 1) ∧ ((24 : Int32).toNatClampNeg ≤ (((((((((((((((bs - (11120 : Int32).toNatClampNeg) - (11120 : Int32).toNatClampNeg) - (300 : Int32).toNatClampNeg) - (4 : Int32).toNatClampNeg) - (96 : Int32).toNatClampNeg) - (96 : Int32).toNatClampNeg) - (96 : Int32).toNatClampNeg) - (96 : Int32).toNatClampNeg) - (1600 : Int32).toNatClampNeg) - (1600 : Int32).toNatClampNeg) - (40 : Int32).toNatClampNeg) - (41 : Int32).toNatClampNeg) - (80 : Int32).toNatClampNeg) - (80 : Int32).toNatClampNeg) - (24 : Int32).toNatClampNeg) ∧ (∀ rn172 : Nat, rn172 = m_x μ167 →
  (∀ μ175, μ175 = m_al μ167 100 (24 : Int32).toNatClampNeg →
  (∀ μ178, μ178 = m_uP μ175 r0 31 rn172 →
  (¬ (24 : Int32) < 0 ∧ ((24 : Int32).toNatClampNeg ≤ 60000 ∧ (1 ≤ ((((((((((((((((bc - 1) - 1) - 1) - 1) - 1) - 1) - 1) - 1) - 1) - 1) - 1) - 1) - 1) - 1) - 1) - 1) ∧ ((24 : Int32).toNatClampNeg ≤ ((((((((((((((((bs - (11120 : Int32).toNatClampNeg) - (11120 : Int32).toNatClampNeg) - (300 : Int32).toNatClampNeg) - (4 : Int32).toNatClampNeg) - (96 : Int32).toNatClampNeg) - (96 : Int32).toNatClampNeg) - (96 : Int32).toNatClampNeg) - (96 : Int32).toNatClampNeg) - (1600 : Int32).toNatClampNeg) - (1600 : Int32).toNatClampNeg) - (40 : Int32).toNatClampNeg) - (41 : Int32).toNatClampNeg) - (80 : Int32).toNatClampNeg) - (80 : Int32).toNatClampNeg) - (24 : Int32).toNatClampNeg) - (24 : Int32).toNatClampNeg) ∧ (∀ rn183 : Nat, rn183 = m_x μ178 →
  (∀ μ186, μ186 = m_al μ178 100 (24 : Int32).toNatClampNeg →
  (∀ μ189, μ189 = m_uP μ186 r0 32 rn183 →
  (¬ (24 : Int32) < 0 ∧ ((24 : Int32).toNatClampNeg ≤ 60000 ∧ (1 ≤ (((((((((((((((((bc - 1) - 1) - 1) - 1) - 1) - 1) - 1) - 1) - 1) - 1) - 1) - 1) - 1) - 1) - 1) - 1) - 1) ∧ ((24 : Int32).toNatClampNeg ≤ (((((((((((((((((bs - (11120 : Int32).toNatClampNeg) - (11120 : Int32).toNatClampNeg) - (300 : Int32).toNatClampNeg) - (4 : Int32).toNatClampNeg) - (96 : Int32).toNatClampNeg) - (96 : Int32).toNatClampNeg) - (96 : Int32).toNatClampNeg) - (96 : Int32).toNatClampNeg) - (1600 : Int32).toNatClampNeg) - (1600 : Int32).toNatClampNeg) - (40 : Int32).toNatClampNeg) - (41 : Int32).toNatClampNeg) - (80 : Int32).toNatClampNeg) - (80 : Int32).toNatClampNeg) - (24 : Int32).toNatClampNeg) - (24 : Int32).toNatClampNeg) - (24 : Int32).toNatClampNeg) ∧ (∀ rn194 : Nat, rn194 = m_x μ189 →
  (∀ μ197, μ197 = m_al μ189 100 (24 : Int32).toNatClampNeg →
  (∀ μ200, μ200 = m_uP μ197 r0 33 rn194 →
  (¬ (400 : Int32) < 0 ∧ ((400 : Int32).toNatClampNeg ≤ 60000 ∧ (1 ≤ ((((((((((((((((((bc - 1) - 1) - 1) - 1) - 1) - 1) - 1) - 1) - 1) - 1) - 1) - 1) - 1) - 1) - 1) - 1) - 1) - 1) ∧ ((400 : Int32).toNatClampNeg ≤ ((((((((((((((((((bs - (11120 : Int32).toNatClampNeg) - (11120 : Int32).toNatClampNeg) - (300 : Int32).toNatClampNeg) - (4 : Int32).toNatClampNeg) - (96 : Int32).toNatClampNeg) - (96 : Int32).toNatClampNeg) - (96 : Int32).toNatClampNeg) - (96 : Int32).toNatClampNeg) - (1600 : Int32).toNatClampNeg) - (1600 : Int32).toNatClampNeg) - (40 : Int32).toNatClampNeg) - (41 : Int32).toNatClampNeg) - (80 : Int32).toNatClampNeg) - (80 : Int32).toNatClampNeg) - (24 : Int32).toNatClampNeg) - (24 : Int32).toNatClampNeg) - (24 : Int32).toNatClampNeg) - (24 : Int32).toNatClampNeg) ∧ (∀ rn205 : Nat, rn205 = m_x μ200 →
  (∀ μ208, μ208 = m_al μ200 100 (400 : Int32).toNatClampNeg →
  (∀ μ211, μ211 = m_uP μ208 r0 35 rn205 →
  (¬ (400 : Int32) < 0 ∧ ((400 : Int32).toNatClampNeg ≤ 60000 ∧ (1 ≤ (((((((((((((((((((bc - 1) - 1) - 1) - 1) - 1) - 1) - 1) - 1) - 1) - 1) - 1) - 1) - 1) - 1) - 1) - 1) - 1) - 1) - 1) ∧ ((400 : Int32).toNatClampNeg ≤ (((((((((((((((((((bs - (11120 : Int32).toNatClampNeg) - (11120 : Int32).toNatClampNeg) - (300 : Int32).toNatClampNeg) - (4 : Int32).toNatClampNeg) - (96 : Int32).toNatClampNeg) - (96 : Int32).toNatClampNeg) - (96 : Int32).toNatClampNeg) - (96 : Int32).toNatClampNeg) - (1600 : Int32).toNatClampNeg) - (1600 : Int32).toNatClampNeg) - (40 : Int32).toNatClampNeg) - (41 : Int32).toNatClampNeg) - (80 : Int32).toNatClampNeg) - (80 : Int32).toNatClampNeg) - (24 : Int32).toNatClampNeg) - (24 : Int32).toNatClampNeg) - (24 : Int32).toNatClampNeg) - (24 : Int32).toNatClampNeg) - (400 : Int32).toNatClampNeg) ∧ (∀ rn216 : Nat, rn216 = m_x μ211 →
  (∀ μ219, μ219 = m_al μ211 100 (400 : Int32).toNatClampNeg →
  (∀ μ222, μ222 = m_uP μ219 r0 36 rn216 →
  (¬ (12 : Int32) < 0 ∧ ((12 : Int32).toNatClampNeg ≤ 60000 ∧ (1 ≤ ((((((((((((((((((((bc - 1) - 1) - 1) - 1) - 1) - 1) - 1) - 1) - 1) - 1) - 1) - 1) - 1) - 1) - 1) - 1) - 1) - 1) - 1) - 1) ∧ ((12 : Int32).toNatClampNeg ≤ ((((((((((((((((((((bs - (11120 : Int32).toNatClampNeg) - (11120 : Int32).toNatClampNeg) - (300 : Int32).toNatClampNeg) - (4 : Int32).toNatClampNeg) - (96 : Int32).toNatClampNeg) - (96 : Int32).toNatClampNeg) - (96 : Int32).toNatClampNeg) - (96 : Int32).toNatClampNeg) - (1600 : Int32).toNatClampNeg) - (1600 : Int32).toNatClampNeg) - (40 : Int32).toNatClampNeg) - (41 : Int32).toNatClampNeg) - (80 : Int32).toNatClampNeg) - (80 : Int32).toNatClampNeg) - (24 : Int32).toNatClampNeg) - (24 : Int32).toNatClampNeg) - (24 : Int32).toNatClampNeg) - (24 : Int32).toNatClampNeg) - (400 : Int32).toNatClampNeg) - (400 : Int32).toNatClampNeg) ∧ (∀ rn227 : Nat, rn227 = m_x μ222 →
  (∀ μ230, μ230 = m_al μ222 100 (12 : Int32).toNatClampNeg →
  (∀ μ233, μ233 = m_uP μ230 r0 37 rn227 →
  (¬ (200 : Int32) < 0 ∧ ((200 : Int32).toNatClampNeg ≤ 60000 ∧ (1 ≤ (((((((((((((((((((((bc - 1) - 1) - 1) - 1) - 1) - 1) - 1) - 1) - 1) - 1) - 1) - 1) - 1) - 1) - 1) - 1) - 1) - 1) - 1) - 1) - 1) ∧ ((200 : Int32).toNatClampNeg ≤ (((((((((((((((((((((bs - (11120 : Int32).toNatClampNeg) - (11120 : Int32).toNatClampNeg) - (300 : Int32).toNatClampNeg) - (4 : Int32).toNatClampNeg) - (96 : Int32).toNatClampNeg) - (96 : Int32).toNatClampNeg) - (96 : Int32).toNatClampNeg) - (96 : Int32).toNatClampNeg) - (1600 : Int32).toNatClampNeg) - (1600 : Int32).toNatClampNeg) - (40 : Int32).toNatClampNeg) - (41 : Int32).toNatClampNeg) - (80 : Int32).toNatClampNeg) - (80 : Int32).toNatClampNeg) - (24 : Int32).toNatClampNeg) - (24 : Int32).toNatClampNeg) - (24 : Int32).toNatClampNeg) - (24 : Int32).toNatClampNeg) - (400 : Int32).toNatClampNeg) - (400 : Int32).toNatClampNeg) - (12 : Int32).toNatClampNeg) ∧ (∀ rn238 : Nat, rn238 = m_x μ233 →
  (∀ μ241, μ241 = m_al μ233 102 (200 : Int32).toNatClampNeg →
  (∀ μ244, μ244 = m_uP μ241 r0 38 rn238 →
  (¬ (4 : Int32) < 0 ∧ ((4 : Int32).toNatClampNeg ≤ 60000 ∧ (1 ≤ ((((((((((((((((((((((bc - 1) - 1) - 1) - 1) - 1) - 1) - 1) - 1) - 1) - 1) - 1) - 1) - 1) - 1) - 1) - 1) - 1) - 1) - 1) - 1) - 1) - 1) ∧ ((4 : Int32).toNatClampNeg ≤ ((((((((((((((((((((((bs - (11120 : Int32).toNatClampNeg) - (11120 : Int32).toNatClampNeg) - (300 : Int32).toNatClampNeg) - (4 : Int32).toNatClampNeg) - (96 : Int32).toNatClampNeg) - (96 : Int32).toNatClampNeg) - (96 : Int32).toNatClampNeg) - (96 : Int32).toNatClampNeg) - (1600 : Int32).toNatClampNeg) - (1600 : Int32).toNatClampNeg) - (40 : Int32).toNatClampNeg) - (41 : Int32).toNatClampNeg) - (80 : Int32).toNatClampNeg) - (80 : Int32).toNatClampNeg) - (24 : Int32).toNatClampNeg) - (24 : Int32).toNatClampNeg) - (24 : Int32).toNatClampNeg) - (24 : Int32).toNatClampNeg) - (400 : Int32).toNatClampNeg) - (400 : Int32).toNatClampNeg) - (12 : Int32).toNatClampNeg) - (200 : Int32).toNatClampNeg) ∧ (∀ rn249 : Nat, rn249 = m_x μ244 →
  (∀ μ252, μ252 = m_al μ244 100 (4 : Int32).toNatClampNeg →
  (∀ μ255, μ255 = m_uP μ252 r0 39 rn249 →
  (¬ (9 : Int32) < 0 ∧ ((9 : Int32).toNatClampNeg ≤ 60000 ∧ (1 ≤ (((((((((((((((((((((((bc - 1) - 1) - 1) - 1) - 1) - 1) - 1) - 1) - 1) - 1) - 1) - 1) - 1) - 1) - 1) - 1) - 1) - 1) - 1) - 1) - 1) - 1) - 1) ∧ ((9 : Int32).toNatClampNeg ≤ (((((((((((((((((((((((bs - (11120 : Int32).toNatClampNeg) - (11120 : Int32).toNatClampNeg) - (300 : Int32).toNatClampNeg) - (4 : Int32).toNatClampNeg) - (96 : Int32).toNatClampNeg) - (96 : Int32).toNatClampNeg) - (96 : Int32).toNatClampNeg) - (96 : Int32).toNatClampNeg) - (1600 : Int32).toNatClampNeg) - (1600 : Int32).toNatClampNeg) - (40 : Int32).toNatClampNeg) - (41 : Int32).toNatClampNeg) - (80 : Int32).toNatClampNeg) - (80 : Int32).toNatClampNeg) - (24 : Int32).toNatClampNeg) - (24 : Int32).toNatClampNeg) - (24 : Int32).toNatClampNeg) - (24 : Int32).toNatClampNeg) - (400 : Int32).toNatClampNeg) - (400 : Int32).toNatClampNeg) - (12 : Int32).toNatClampNeg) - (200 : Int32).toNatClampNeg) - (4 : Int32).toNatClampNeg) ∧ (∀ rn260 : Nat, rn260 = m_x μ255 →
  (∀ μ263, μ263 = m_al μ255 100 (9 : Int32).toNatClampNeg →
  (∀ μ266, μ266 = m_uP μ263 r0 40 rn260 →
  (¬ (6 : Int32) < 0 ∧ ((6 : Int32).toNatClampNeg ≤ 60000 ∧ (1 ≤ ((((((((((((((((((((((((bc - 1) - 1) - 1) - 1) - 1) - 1) - 1) - 1) - 1) - 1) - 1) - 1) - 1) - 1) - 1) - 1) - 1) - 1) - 1) - 1) - 1) - 1) - 1) - 1) ∧ ((6 : Int32).toNatClampNeg ≤ ((((((((((((((((((((((((bs - (11120 : Int32).toNatClampNeg) - (11120 : Int32).toNatClampNeg) - (300 : Int32).toNatClampNeg) - (4 : Int32).toNatClampNeg) - (96 : Int32).toNatClampNeg) - (96 : Int32).toNatClampNeg) - (96 : Int32).toNatClampNeg) - (96 : Int32).toNatClampNeg) - (1600 : Int32).toNatClampNeg) - (1600 : Int32).toNatClampNeg) - (40 : Int32).toNatClampNeg) - (41 : Int32).toNatClampNeg) - (80 : Int32).toNatClampNeg) - (80 : Int32).toNatClampNeg) - (24 : Int32).toNatClampNeg) - (24 : Int32).toNatClampNeg) - (24 : Int32).toNatClampNeg) - (24 : Int32).toNatClampNeg) - (400 : Int32).toNatClampNeg) - (400 : Int32).toNatClampNeg) - (12 : Int32).toNatClampNeg) - (200 : Int32).toNatClampNeg) - (4 : Int32).toNatClampNeg) - (9 : Int32).toNatClampNeg) ∧ (∀ rn271 : Nat, rn271 = m_x μ266 →
  (∀ μ274, μ274 = m_al μ266 100 (6 : Int32).toNatClampNeg →
  (∀ μ277, μ277 = m_uP μ274 r0 42 rn271 →
  (¬ (6 : Int32) < 0 ∧ ((6 : Int32).toNatClampNeg ≤ 60000 ∧ (1 ≤ (((((((((((((((((((((((((bc - 1) - 1) - 1) - 1) - 1) - 1) - 1) - 1) - 1) - 1) - 1) - 1) - 1) - 1) - 1) - 1) - 1) - 1) - 1) - 1) - 1) - 1) - 1) - 1) - 1) ∧ ((6 : Int32).toNatClampNeg ≤ (((((((((((((((((((((((((bs - (11120 : Int32).toNatClampNeg) - (11120 : Int32).toNatClampNeg) - (300 : Int32).toNatClampNeg) - (4 : Int32).toNatClampNeg) - (96 : Int32).toNatClampNeg) - (96 : Int32).toNatClampNeg) - (96 : Int32).toNatClampNeg) - (96 : Int32).toNatClampNeg) - (1600 : Int32).toNatClampNeg) - (1600 : Int32).toNatClampNeg) - (40 : Int32).toNatClampNeg) - (41 : Int32).toNatClampNeg) - (80 : Int32).toNatClampNeg) - (80 : Int32).toNatClampNeg) - (24 : Int32).toNatClampNeg) - (24 : Int32).toNatClampNeg) - (24 : Int32).toNatClampNeg) - (24 : Int32).toNatClampNeg) - (400 : Int32).toNatClampNeg) - (400 : Int32).toNatClampNeg) - (12 : Int32).toNatClampNeg) - (200 : Int32).toNatClampNeg) - (4 : Int32).toNatClampNeg) - (9 : Int32).toNatClampNeg) - (6 : Int32).toNatClampNeg) ∧ (∀ rn282 : Nat, rn282 = m_x μ277 →
  (∀ μ285, μ285 = m_al μ277 100 (6 : Int32).toNatClampNeg →
  (∀ μ288, μ288 = m_uP μ285 r0 43 rn282 →
  (¬ (6 : Int32) < 0 ∧ ((6 : Int32).toNatClampNeg ≤ 60000 ∧ (1 ≤ ((((((((((((((((((((((((((bc - 1) - 1) - 1) - 1) - 1) - 1) - 1) - 1) - 1) - 1) - 1) - 1) - 1) - 1) - 1) - 1) - 1) - 1) - 1) - 1) - 1) - 1) - 1) - 1) - 1) - 1) ∧ ((6 : Int32).toNatClampNeg ≤ ((((((((((((((((((((((((((bs - (11120 : Int32).toNatClampNeg) - (11120 : Int32).toNatClampNeg) - (300 : Int32).toNatClampNeg) - (4 : Int32).toNatClampNeg) - (96 : Int32).toNatClampNeg) - (96 : Int32).toNatClampNeg) - (96 : Int32).toNatClampNeg) - (96 : Int32).toNatClampNeg) - (1600 : Int32).toNatClampNeg) - (1600 : Int32).toNatClampNeg) - (40 : Int32).toNatClampNeg) - (41 : Int32).toNatClampNeg) - (80 : Int32).toNatClampNeg) - (80 : Int32).toNatClampNeg) - (24 : Int32).toNatClampNeg) - (24 : Int32).toNatClampNeg) - (24 : Int32).toNatClampNeg) - (24 : Int32).toNatClampNeg) - (400 : Int32).toNatClampNeg) - (400 : Int32).toNatClampNeg) - (12 : Int32).toNatClampNeg) - (200 : Int32).toNatClampNeg) - (4 : Int32).toNatClampNeg) - (9 : Int32).toNatClampNeg) - (6 : Int32).toNatClampNeg) - (6 : Int32).toNatClampNeg) ∧ (∀ rn293 : Nat, rn293 = m_x μ288 →
  (∀ μ296, μ296 = m_al μ288 100 (6 : Int32).toNatClampNeg →
  (∀ μ299, μ299 = m_uP μ296 r0 44 rn293 →
  (¬ (4 : Int32) < 0 ∧ ((4 : Int32).toNatClampNeg ≤ 60000 ∧ (1 ≤ (((((((((((((((((((((((((((bc - 1) - 1) - 1) - 1) - 1) - 1) - 1) - 1) - 1) - 1) - 1) - 1) - 1) - 1) - 1) - 1) - 1) - 1) - 1) - 1) - 1) - 1) - 1) - 1) - 1) - 1) - 1) ∧ ((4 : Int32).toNatClampNeg ≤ (((((((((((((((((((((((((((bs - (11120 : Int32).toNatClampNeg) - (11120 : Int32).toNatClampNeg) - (300 : Int32).toNatClampNeg) - (4 : Int32).toNatClampNeg) - (96 : Int32).toNatClampNeg) - (96 : Int32).toNatClampNeg) - (96 : Int32).toNatClampNeg) - (96 : Int32).toNatClampNeg) - (1600 : Int32).toNatClampNeg) - (1600 : Int32).toNatClampNeg) - (40 : Int32).toNatClampNeg) - (41 : Int32).toNatClampNeg) - (80 : Int32).toNatClampNeg) - (80 : Int32).toNatClampNeg) - (24 : Int32).toNatClampNeg) - (24 : Int32).toNatClampNeg) - (24 : Int32).toNatClampNeg) - (24 : Int32).toNatClampNeg) - (400 : Int32).toNatClampNeg) - (400 : Int32).toNatClampNeg) - (12 : Int32).toNatClampNeg) - (200 : Int32).toNatClampNeg) - (4 : Int32).toNatClampNeg) - (9 : Int32).toNatClampNeg) - (6 : Int32).toNatClampNeg) - (6 : Int32).toNatClampNeg) - (6 : Int32).toNatClampNeg) ∧ (∀ rn304 : Nat, rn304 = m_x μ299 →
  (∀ μ307, μ307 = m_al μ299 100 (4 : Int32).toNatClampNeg →
  (∀ μ310, μ310 = m_uP μ307 r0 45 rn304 →
  (¬ (4 : Int32) < 0 ∧ ((4 : Int32).toNatClampNeg ≤ 60000 ∧ (1 ≤ ((((((((((((((((((((((((((((bc - 1) - 1) - 1) - 1) - 1) - 1) - 1) - 1) - 1) - 1) - 1) - 1) - 1) - 1) - 1) - 1) - 1) - 1) - 1) - 1) - 1) - 1) - 1) - 1) - 1) - 1) - 1) - 1) ∧ ((4 : Int32).toNatClampNeg ≤ ((((((((((((((((((((((((((((bs - (11120 : Int32).toNatClampNeg) - (11120 : Int32).toNatClampNeg) - (300 : Int32).toNatClampNeg) - (4 : Int32).toNatClampNeg) - (96 : Int32).toNatClampNeg) - (96 : Int32).toNatClampNeg) - (96 : Int32).toNatClampNeg) - (96 : Int32).toNatClampNeg) - (1600 : Int32).toNatClampNeg) - (1600 : Int32).toNatClampNeg) - (40 : Int32).toNatClampNeg) - (41 : Int32).toNatClampNeg) - (80 : Int32).toNatClampNeg) - (80 : Int32).toNatClampNeg) - (24 : Int32).toNatClampNeg) - (24 : Int32).toNatClampNeg) - (24 : Int32).toNatClampNeg) - (24 : Int32).toNatClampNeg) - (400 : Int32).toNatClampNeg) - (400 : Int32).toNatClampNeg) - (12 : Int32).toNatClampNeg) - (200 : Int32).toNatClampNeg) - (4 : Int32).toNatClampNeg) - (9 : Int32).toNatClampNeg) - (6 : Int32).toNatClampNeg) - (6 : Int32).toNatClampNeg) - (6 : Int32).toNatClampNeg) - (4 : Int32).toNatClampNeg) ∧ (∀ rn315 : Nat, rn315 = m_x μ310 →
  (∀ μ318, μ318 = m_al μ310 100 (4 : Int32).toNatClampNeg →
  (∀ μ321, μ321 = m_uP μ318 r0 46 rn315 →
  (m_K μ321 (m_P μ321 r0 0) = 100 ∧ (vp_in (2 : Int32) (m_N μ321 (m_P μ321 r0 0)) ∧ (∀ μ324, μ324 = m_uI μ321 (m_P μ321 r0 0) (2 : Int32).toNatClampNeg (-1 : Int32) →
  (m_K μ324 (m_P μ324 r0 0) = 100 ∧ (vp_in (464 : Int32) (m_N μ324 (m_P μ324 r0 0)) ∧ (∀ μ327, μ327 = m_uI μ324 (m_P μ324 r0 0) (464 : Int32).toNatClampNeg (3 : Int32) →
  p_X5_init_L268 r0 (((((((((((((((((((((((((((((bc - 1) - 1) - 1) - 1) - 1) - 1) - 1) - 1) - 1) - 1) - 1) - 1) - 1) - 1) - 1) - 1) - 1) - 1) - 1) - 1) - 1) - 1) - 1) - 1) - 1) - 1) - 1) - 1) - 1) (((((((((((((((((((((((((((((bs - (11120 : Int32).toNatClampNeg) - (11120 : Int32).toNatClampNeg) - (300 : Int32).toNatClampNeg) - (4 : Int32).toNatClampNeg) - (96 : Int32).toNatClampNeg) - (96 : Int32).toNatClampNeg) - (96 : Int32).toNatClampNeg) - (96 : Int32).toNatClampNeg) - (1600 : Int32).toNatClampNeg) - (1600 : Int32).toNatClampNeg) - (40 : Int32).toNatClampNeg) - (41 : Int32).toNatClampNeg) - (80 : Int32).toNatClampNeg) - (80 : Int32).toNatClampNeg) - (24 : Int32).toNatClampNeg) - (24 : Int32).toNatClampNeg) - (24 : Int32).toNatClampNeg) - (24 : Int32).toNatClampNeg) - (400 : Int32).toNatClampNeg) - (400 : Int32).toNatClampNeg) - (12 : Int32).toNatClampNeg) - (200 : Int32).toNatClampNeg) - (4 : Int32).toNatClampNeg) - (9 : Int32).toNatClampNeg) - (6 : Int32).toNatClampNeg) - (6 : Int32).toNatClampNeg) - (6 : Int32).toNatClampNeg) - (4 : Int32).toNatClampNeg) - (4 : Int32).toNatClampNeg) (0 : Int32) μ327 Q)))))))))))))))))))))))))))))))))))))))))))))))))))))))))))))))))))))))))))))))))))))))))))))))))))))))))))))))))))))))))))))))))))))))))))))))))))))))))))))))))))))))))))))))))))))))))))))))))))))))))))))))))))
set_option maxHeartbeats 4000000 in
theorem w_X5_init {g : fw_G} {f bc bs : Nat} {r0 : Nat} {μ : fw_M} {Q : fw_M → Prop} (hf : 2 ≤ f) (hx : m_K μ r0 = 6) (h : p_X5_init bc bs r0 μ Q) : fw_C g f bc bs yX5_init (ws_ yX5_init cX5_init 2 (none)) [fw_rv g r0] μ (fw_Qv Q) fw_nX := by
  unfold p_X5_init at h
  refine fw_intro' (Ls := [(0, fw_rv g r0)]) (by decide +kernel) (by simp [lg_sl, fw_cat, fw_ci, fw_clo]) (by simp [lv_args, fw_cat, fw_ci, fw_clo]) ?_
  show fw_V g K_X5_init f bc bs 0 [(0, fw_rv g r0)] [] μ (fw_Qv Q) fw_nX
  refine fw_aload_n dX5_init_0 rfl rfl ?_
  refine fw_objInit (k := 6) rfl hx q1044 q110 q111 (by omega) (fw_s4 (Nat.le_of_ble_eq_true rfl)) dX5_init_1 ?_
  refine fw_aload_n dX5_init_4 rfl rfl ?_
  refine fw_sipush (v := 11120) dX5_init_5 (by decide) ?_
  refine fw_x (fun hX => ?_)
  obtain ⟨hc1, h⟩ := h
  obtain ⟨hc2, h⟩ := h
  obtain ⟨hc3, h⟩ := h
  obtain ⟨hc4, h⟩ := h
  refine fw_newa (k := 100) rfl rfl q183 hc1 (by show _ * 4 ≤ _; omega) hc3 hc4 dX5_init_8 ?_
  refine fw_topr (fun rn5 e6 => ?_)
  have h := h rn5 e6
  refine fw_topm (fun μ8 e9 => ?_)
  have hg10 := fw_al_sE e9 hx (by decide) hX
  have hg7 := fw_al_KE e9 e6
  have h := h μ8 e9
  refine fw_putfP fl_X5_7 (fun q hq => Or.inr ⟨rfl, by cases hq; rfl⟩) rfl hg10 dX5_init_10 ?_
  have h := h _ rfl
  refine fw_aload_n dX5_init_13 rfl rfl ?_
  refine fw_sipush (v := 11120) dX5_init_14 (by decide) ?_
  refine fw_x (fun hX => ?_)
  obtain ⟨hc12, h⟩ := h
  obtain ⟨hc13, h⟩ := h
  obtain ⟨hc14, h⟩ := h
  obtain ⟨hc15, h⟩ := h
  refine fw_newa (k := 100) rfl rfl q183 hc12 (by show _ * 4 ≤ _; omega) hc14 hc15 dX5_init_17 ?_
  refine fw_topr (fun rn16 e17 => ?_)
  have h := h rn16 e17
  refine fw_topm (fun μ19 e20 => ?_)
  have hg21 := fw_al_sE e20 hg10 (by decide) hX
  have hg18 := fw_al_KE e20 e17
  have h := h μ19 e20
  refine fw_putfP fl_X5_13 (fun q hq => Or.inr ⟨rfl, by cases hq; rfl⟩) rfl hg21 dX5_init_19 ?_
  have h := h _ rfl
  refine fw_aload_n dX5_init_22 rfl rfl ?_
  refine fw_sipush (v := 300) dX5_init_23 (by decide) ?_
  refine fw_x (fun hX => ?_)
  obtain ⟨hc23, h⟩ := h
  obtain ⟨hc24, h⟩ := h
  obtain ⟨hc25, h⟩ := h
  obtain ⟨hc26, h⟩ := h
  refine fw_newa (k := 101) rfl rfl q272 hc23 (by show _ * 1 ≤ _; omega) hc25 hc26 dX5_init_26 ?_
  refine fw_topr (fun rn27 e28 => ?_)
  have h := h rn27 e28
  refine fw_topm (fun μ30 e31 => ?_)
  have hg32 := fw_al_sE e31 hg21 (by decide) hX
  have hg29 := fw_al_KE e31 e28
  have h := h μ30 e31
  refine fw_putfP fl_X5_16 (fun q hq => Or.inr ⟨rfl, by cases hq; rfl⟩) rfl hg32 dX5_init_28 ?_
  have h := h _ rfl
  refine fw_aload_n dX5_init_31 rfl rfl ?_
  refine fw_iconst (v := -1) dX5_init_32 (by decide) ?_
  refine fw_putfI fl_X5_20 (fun q hq => Or.inl (by cases hq; rfl)) rfl hg32 dX5_init_33 ?_
  have h := h _ rfl
  refine fw_aload_n dX5_init_36 rfl rfl ?_
  refine fw_iconst (v := -1) dX5_init_37 (by decide) ?_
  refine fw_putfI fl_X5_24 (fun q hq => Or.inl (by cases hq; rfl)) rfl hg32 dX5_init_38 ?_
  have h := h _ rfl
  refine fw_aload_n dX5_init_41 rfl rfl ?_
  refine fw_iconst (v := 4) dX5_init_42 (by decide) ?_
  refine fw_x (fun hX => ?_)
  obtain ⟨hc36, h⟩ := h
  obtain ⟨hc37, h⟩ := h
  obtain ⟨hc38, h⟩ := h
  obtain ⟨hc39, h⟩ := h
  refine fw_newa (k := 100) rfl rfl q183 hc36 (by show _ * 4 ≤ _; omega) hc38 hc39 dX5_init_43 ?_
  refine fw_topr (fun rn40 e41 => ?_)
  have h := h rn40 e41
  refine fw_topm (fun μ43 e44 => ?_)
  have hg45 := fw_al_sE e44 hg32 (by decide) hX
  have hg42 := fw_al_KE e44 e41
  have h := h μ43 e44
  refine fw_putfP fl_X5_27 (fun q hq => Or.inr ⟨rfl, by cases hq; rfl⟩) rfl hg45 dX5_init_45 ?_
  have h := h _ rfl
  refine fw_aload_n dX5_init_48 rfl rfl ?_
  refine fw_bipush (v := 96) dX5_init_49 (by decide) ?_
  refine fw_x (fun hX => ?_)
  obtain ⟨hc47, h⟩ := h
  obtain ⟨hc48, h⟩ := h
  obtain ⟨hc49, h⟩ := h
  obtain ⟨hc50, h⟩ := h
  refine fw_newa (k := 100) rfl rfl q183 hc47 (by show _ * 4 ≤ _; omega) hc49 hc50 dX5_init_51 ?_
  refine fw_topr (fun rn51 e52 => ?_)
  have h := h rn51 e52
  refine fw_topm (fun μ54 e55 => ?_)
  have hg56 := fw_al_sE e55 hg45 (by decide) hX
  have hg53 := fw_al_KE e55 e52
  have h := h μ54 e55
  refine fw_putfP fl_X5_30 (fun q hq => Or.inr ⟨rfl, by cases hq; rfl⟩) rfl hg56 dX5_init_53 ?_
  have h := h _ rfl
  refine fw_aload_n dX5_init_56 rfl rfl ?_
  refine fw_bipush (v := 96) dX5_init_57 (by decide) ?_
  refine fw_x (fun hX => ?_)
  obtain ⟨hc58, h⟩ := h
  obtain ⟨hc59, h⟩ := h
  obtain ⟨hc60, h⟩ := h
  obtain ⟨hc61, h⟩ := h
  refine fw_newa (k := 100) rfl rfl q183 hc58 (by show _ * 4 ≤ _; omega) hc60 hc61 dX5_init_59 ?_
  refine fw_topr (fun rn62 e63 => ?_)
  have h := h rn62 e63
  refine fw_topm (fun μ65 e66 => ?_)
  have hg67 := fw_al_sE e66 hg56 (by decide) hX
  have hg64 := fw_al_KE e66 e63
  have h := h μ65 e66
  refine fw_putfP fl_X5_33 (fun q hq => Or.inr ⟨rfl, by cases hq; rfl⟩) rfl hg67 dX5_init_61 ?_
  have h := h _ rfl
  refine fw_aload_n dX5_init_64 rfl rfl ?_
  refine fw_bipush (v := 96) dX5_init_65 (by decide) ?_
  refine fw_x (fun hX => ?_)
  obtain ⟨hc69, h⟩ := h
  obtain ⟨hc70, h⟩ := h
  obtain ⟨hc71, h⟩ := h
  obtain ⟨hc72, h⟩ := h
  refine fw_newa (k := 100) rfl rfl q183 hc69 (by show _ * 4 ≤ _; omega) hc71 hc72 dX5_init_67 ?_
  refine fw_topr (fun rn73 e74 => ?_)
  have h := h rn73 e74
  refine fw_topm (fun μ76 e77 => ?_)
  have hg78 := fw_al_sE e77 hg67 (by decide) hX
  have hg75 := fw_al_KE e77 e74
  have h := h μ76 e77
  refine fw_putfP fl_X5_36 (fun q hq => Or.inr ⟨rfl, by cases hq; rfl⟩) rfl hg78 dX5_init_69 ?_
  have h := h _ rfl
  refine fw_aload_n dX5_init_72 rfl rfl ?_
  refine fw_bipush (v := 96) dX5_init_73 (by decide) ?_
  refine fw_x (fun hX => ?_)
  obtain ⟨hc80, h⟩ := h
  obtain ⟨hc81, h⟩ := h
  obtain ⟨hc82, h⟩ := h
  obtain ⟨hc83, h⟩ := h
  refine fw_newa (k := 100) rfl rfl q183 hc80 (by show _ * 4 ≤ _; omega) hc82 hc83 dX5_init_75 ?_
  refine fw_topr (fun rn84 e85 => ?_)
  have h := h rn84 e85
  refine fw_topm (fun μ87 e88 => ?_)
  have hg89 := fw_al_sE e88 hg78 (by decide) hX
  have hg86 := fw_al_KE e88 e85
  have h := h μ87 e88
  refine fw_putfP fl_X5_39 (fun q hq => Or.inr ⟨rfl, by cases hq; rfl⟩) rfl hg89 dX5_init_77 ?_
  have h := h _ rfl
  refine fw_aload_n dX5_init_80 rfl rfl ?_
  refine fw_sipush (v := 1600) dX5_init_81 (by decide) ?_
  refine fw_x (fun hX => ?_)
  obtain ⟨hc91, h⟩ := h
  obtain ⟨hc92, h⟩ := h
  obtain ⟨hc93, h⟩ := h
  obtain ⟨hc94, h⟩ := h
  refine fw_newa (k := 100) rfl rfl q183 hc91 (by show _ * 4 ≤ _; omega) hc93 hc94 dX5_init_84 ?_
  refine fw_topr (fun rn95 e96 => ?_)
  have h := h rn95 e96
  refine fw_topm (fun μ98 e99 => ?_)
  have hg100 := fw_al_sE e99 hg89 (by decide) hX
  have hg97 := fw_al_KE e99 e96
  have h := h μ98 e99
  refine fw_putfP fl_X5_42 (fun q hq => Or.inr ⟨rfl, by cases hq; rfl⟩) rfl hg100 dX5_init_86 ?_
  have h := h _ rfl
  refine fw_aload_n dX5_init_89 rfl rfl ?_
  refine fw_sipush (v := 1600) dX5_init_90 (by decide) ?_
  refine fw_x (fun hX => ?_)
  obtain ⟨hc102, h⟩ := h
  obtain ⟨hc103, h⟩ := h
  obtain ⟨hc104, h⟩ := h
  obtain ⟨hc105, h⟩ := h
  refine fw_newa (k := 100) rfl rfl q183 hc102 (by show _ * 4 ≤ _; omega) hc104 hc105 dX5_init_93 ?_
  refine fw_topr (fun rn106 e107 => ?_)
  have h := h rn106 e107
  refine fw_topm (fun μ109 e110 => ?_)
  have hg111 := fw_al_sE e110 hg100 (by decide) hX
  have hg108 := fw_al_KE e110 e107
  have h := h μ109 e110
  refine fw_putfP fl_X5_45 (fun q hq => Or.inr ⟨rfl, by cases hq; rfl⟩) rfl hg111 dX5_init_95 ?_
  have h := h _ rfl
  refine fw_aload_n dX5_init_98 rfl rfl ?_
  refine fw_bipush (v := 40) dX5_init_99 (by decide) ?_
  refine fw_x (fun hX => ?_)
  obtain ⟨hc113, h⟩ := h
  obtain ⟨hc114, h⟩ := h
  obtain ⟨hc115, h⟩ := h
  obtain ⟨hc116, h⟩ := h
  refine fw_newa (k := 100) rfl rfl q183 hc113 (by show _ * 4 ≤ _; omega) hc115 hc116 dX5_init_101 ?_
  refine fw_topr (fun rn117 e118 => ?_)
  have h := h rn117 e118
  refine fw_topm (fun μ120 e121 => ?_)
  have hg122 := fw_al_sE e121 hg111 (by decide) hX
  have hg119 := fw_al_KE e121 e118
  have h := h μ120 e121
  refine fw_putfP fl_X5_48 (fun q hq => Or.inr ⟨rfl, by cases hq; rfl⟩) rfl hg122 dX5_init_103 ?_
  have h := h _ rfl
  refine fw_aload_n dX5_init_106 rfl rfl ?_
  refine fw_bipush (v := 41) dX5_init_107 (by decide) ?_
  refine fw_x (fun hX => ?_)
  obtain ⟨hc124, h⟩ := h
  obtain ⟨hc125, h⟩ := h
  obtain ⟨hc126, h⟩ := h
  obtain ⟨hc127, h⟩ := h
  refine fw_newa (k := 100) rfl rfl q183 hc124 (by show _ * 4 ≤ _; omega) hc126 hc127 dX5_init_109 ?_
  refine fw_topr (fun rn128 e129 => ?_)
  have h := h rn128 e129
  refine fw_topm (fun μ131 e132 => ?_)
  have hg133 := fw_al_sE e132 hg122 (by decide) hX
  have hg130 := fw_al_KE e132 e129
  have h := h μ131 e132
  refine fw_putfP fl_X5_51 (fun q hq => Or.inr ⟨rfl, by cases hq; rfl⟩) rfl hg133 dX5_init_111 ?_
  have h := h _ rfl
  refine fw_aload_n dX5_init_114 rfl rfl ?_
  refine fw_bipush (v := 80) dX5_init_115 (by decide) ?_
  refine fw_x (fun hX => ?_)
  obtain ⟨hc135, h⟩ := h
  obtain ⟨hc136, h⟩ := h
  obtain ⟨hc137, h⟩ := h
  obtain ⟨hc138, h⟩ := h
  refine fw_newa (k := 100) rfl rfl q183 hc135 (by show _ * 4 ≤ _; omega) hc137 hc138 dX5_init_117 ?_
  refine fw_topr (fun rn139 e140 => ?_)
  have h := h rn139 e140
  refine fw_topm (fun μ142 e143 => ?_)
  have hg144 := fw_al_sE e143 hg133 (by decide) hX
  have hg141 := fw_al_KE e143 e140
  have h := h μ142 e143
  refine fw_putfP fl_X5_54 (fun q hq => Or.inr ⟨rfl, by cases hq; rfl⟩) rfl hg144 dX5_init_119 ?_
  have h := h _ rfl
  refine fw_aload_n dX5_init_122 rfl rfl ?_
  refine fw_bipush (v := 80) dX5_init_123 (by decide) ?_
  refine fw_x (fun hX => ?_)
  obtain ⟨hc146, h⟩ := h
  obtain ⟨hc147, h⟩ := h
  obtain ⟨hc148, h⟩ := h
  obtain ⟨hc149, h⟩ := h
  refine fw_newa (k := 100) rfl rfl q183 hc146 (by show _ * 4 ≤ _; omega) hc148 hc149 dX5_init_125 ?_
  refine fw_topr (fun rn150 e151 => ?_)
  have h := h rn150 e151
  refine fw_topm (fun μ153 e154 => ?_)
  have hg155 := fw_al_sE e154 hg144 (by decide) hX
  have hg152 := fw_al_KE e154 e151
  have h := h μ153 e154
  refine fw_putfP fl_X5_57 (fun q hq => Or.inr ⟨rfl, by cases hq; rfl⟩) rfl hg155 dX5_init_127 ?_
  have h := h _ rfl
  refine fw_aload_n dX5_init_130 rfl rfl ?_
  refine fw_bipush (v := 24) dX5_init_131 (by decide) ?_
  refine fw_x (fun hX => ?_)
  obtain ⟨hc157, h⟩ := h
  obtain ⟨hc158, h⟩ := h
  obtain ⟨hc159, h⟩ := h
  obtain ⟨hc160, h⟩ := h
  refine fw_newa (k := 100) rfl rfl q183 hc157 (by show _ * 4 ≤ _; omega) hc159 hc160 dX5_init_133 ?_
  refine fw_topr (fun rn161 e162 => ?_)
  have h := h rn161 e162
  refine fw_topm (fun μ164 e165 => ?_)
  have hg166 := fw_al_sE e165 hg155 (by decide) hX
  have hg163 := fw_al_KE e165 e162
  have h := h μ164 e165
  refine fw_putfP fl_X5_60 (fun q hq => Or.inr ⟨rfl, by cases hq; rfl⟩) rfl hg166 dX5_init_135 ?_
  have h := h _ rfl
  refine fw_aload_n dX5_init_138 rfl rfl ?_
  refine fw_bipush (v := 24) dX5_init_139 (by decide) ?_
  refine fw_x (fun hX => ?_)
  obtain ⟨hc168, h⟩ := h
  obtain ⟨hc169, h⟩ := h
  obtain ⟨hc170, h⟩ := h
  obtain ⟨hc171, h⟩ := h
  refine fw_newa (k := 100) rfl rfl q183 hc168 (by show _ * 4 ≤ _; omega) hc170 hc171 dX5_init_141 ?_
  refine fw_topr (fun rn172 e173 => ?_)
  have h := h rn172 e173
  refine fw_topm (fun μ175 e176 => ?_)
  have hg177 := fw_al_sE e176 hg166 (by decide) hX
  have hg174 := fw_al_KE e176 e173
  have h := h μ175 e176
  refine fw_putfP fl_X5_63 (fun q hq => Or.inr ⟨rfl, by cases hq; rfl⟩) rfl hg177 dX5_init_143 ?_
  have h := h _ rfl
  refine fw_aload_n dX5_init_146 rfl rfl ?_
  refine fw_bipush (v := 24) dX5_init_147 (by decide) ?_
  refine fw_x (fun hX => ?_)
  obtain ⟨hc179, h⟩ := h
  obtain ⟨hc180, h⟩ := h
  obtain ⟨hc181, h⟩ := h
  obtain ⟨hc182, h⟩ := h
  refine fw_newa (k := 100) rfl rfl q183 hc179 (by show _ * 4 ≤ _; omega) hc181 hc182 dX5_init_149 ?_
  refine fw_topr (fun rn183 e184 => ?_)
  have h := h rn183 e184
  refine fw_topm (fun μ186 e187 => ?_)
  have hg188 := fw_al_sE e187 hg177 (by decide) hX
  have hg185 := fw_al_KE e187 e184
  have h := h μ186 e187
  refine fw_putfP fl_X5_66 (fun q hq => Or.inr ⟨rfl, by cases hq; rfl⟩) rfl hg188 dX5_init_151 ?_
  have h := h _ rfl
  refine fw_aload_n dX5_init_154 rfl rfl ?_
  refine fw_bipush (v := 24) dX5_init_155 (by decide) ?_
  refine fw_x (fun hX => ?_)
  obtain ⟨hc190, h⟩ := h
  obtain ⟨hc191, h⟩ := h
  obtain ⟨hc192, h⟩ := h
  obtain ⟨hc193, h⟩ := h
  refine fw_newa (k := 100) rfl rfl q183 hc190 (by show _ * 4 ≤ _; omega) hc192 hc193 dX5_init_157 ?_
  refine fw_topr (fun rn194 e195 => ?_)
  have h := h rn194 e195
  refine fw_topm (fun μ197 e198 => ?_)
  have hg199 := fw_al_sE e198 hg188 (by decide) hX
  have hg196 := fw_al_KE e198 e195
  have h := h μ197 e198
  refine fw_putfP fl_X5_69 (fun q hq => Or.inr ⟨rfl, by cases hq; rfl⟩) rfl hg199 dX5_init_159 ?_
  have h := h _ rfl
  refine fw_aload_n dX5_init_162 rfl rfl ?_
  refine fw_sipush (v := 400) dX5_init_163 (by decide) ?_
  refine fw_x (fun hX => ?_)
  obtain ⟨hc201, h⟩ := h
  obtain ⟨hc202, h⟩ := h
  obtain ⟨hc203, h⟩ := h
  obtain ⟨hc204, h⟩ := h
  refine fw_newa (k := 100) rfl rfl q183 hc201 (by show _ * 4 ≤ _; omega) hc203 hc204 dX5_init_166 ?_
  refine fw_topr (fun rn205 e206 => ?_)
  have h := h rn205 e206
  refine fw_topm (fun μ208 e209 => ?_)
  have hg210 := fw_al_sE e209 hg199 (by decide) hX
  have hg207 := fw_al_KE e209 e206
  have h := h μ208 e209
  refine fw_putfP fl_X5_72 (fun q hq => Or.inr ⟨rfl, by cases hq; rfl⟩) rfl hg210 dX5_init_168 ?_
  have h := h _ rfl
  refine fw_aload_n dX5_init_171 rfl rfl ?_
  refine fw_sipush (v := 400) dX5_init_172 (by decide) ?_
  refine fw_x (fun hX => ?_)
  obtain ⟨hc212, h⟩ := h
  obtain ⟨hc213, h⟩ := h
  obtain ⟨hc214, h⟩ := h
  obtain ⟨hc215, h⟩ := h
  refine fw_newa (k := 100) rfl rfl q183 hc212 (by show _ * 4 ≤ _; omega) hc214 hc215 dX5_init_175 ?_
  refine fw_topr (fun rn216 e217 => ?_)
  have h := h rn216 e217
  refine fw_topm (fun μ219 e220 => ?_)
  have hg221 := fw_al_sE e220 hg210 (by decide) hX
  have hg218 := fw_al_KE e220 e217
  have h := h μ219 e220
  refine fw_putfP fl_X5_75 (fun q hq => Or.inr ⟨rfl, by cases hq; rfl⟩) rfl hg221 dX5_init_177 ?_
  have h := h _ rfl
  refine fw_aload_n dX5_init_180 rfl rfl ?_
  refine fw_bipush (v := 12) dX5_init_181 (by decide) ?_
  refine fw_x (fun hX => ?_)
  obtain ⟨hc223, h⟩ := h
  obtain ⟨hc224, h⟩ := h
  obtain ⟨hc225, h⟩ := h
  obtain ⟨hc226, h⟩ := h
  refine fw_newa (k := 100) rfl rfl q183 hc223 (by show _ * 4 ≤ _; omega) hc225 hc226 dX5_init_183 ?_
  refine fw_topr (fun rn227 e228 => ?_)
  have h := h rn227 e228
  refine fw_topm (fun μ230 e231 => ?_)
  have hg232 := fw_al_sE e231 hg221 (by decide) hX
  have hg229 := fw_al_KE e231 e228
  have h := h μ230 e231
  refine fw_putfP fl_X5_78 (fun q hq => Or.inr ⟨rfl, by cases hq; rfl⟩) rfl hg232 dX5_init_185 ?_
  have h := h _ rfl
  refine fw_aload_n dX5_init_188 rfl rfl ?_
  refine fw_sipush (v := 200) dX5_init_189 (by decide) ?_
  refine fw_x (fun hX => ?_)
  obtain ⟨hc234, h⟩ := h
  obtain ⟨hc235, h⟩ := h
  obtain ⟨hc236, h⟩ := h
  obtain ⟨hc237, h⟩ := h
  refine fw_newa (k := 102) rfl rfl q1194 hc234 (by show _ * 8 ≤ _; omega) hc236 hc237 dX5_init_192 ?_
  refine fw_topr (fun rn238 e239 => ?_)
  have h := h rn238 e239
  refine fw_topm (fun μ241 e242 => ?_)
  have hg243 := fw_al_sE e242 hg232 (by decide) hX
  have hg240 := fw_al_KE e242 e239
  have h := h μ241 e242
  refine fw_putfP fl_X5_81 (fun q hq => Or.inr ⟨rfl, by cases hq; rfl⟩) rfl hg243 dX5_init_194 ?_
  have h := h _ rfl
  refine fw_aload_n dX5_init_197 rfl rfl ?_
  refine fw_iconst (v := 4) dX5_init_198 (by decide) ?_
  refine fw_x (fun hX => ?_)
  obtain ⟨hc245, h⟩ := h
  obtain ⟨hc246, h⟩ := h
  obtain ⟨hc247, h⟩ := h
  obtain ⟨hc248, h⟩ := h
  refine fw_newa (k := 100) rfl rfl q183 hc245 (by show _ * 4 ≤ _; omega) hc247 hc248 dX5_init_199 ?_
  refine fw_topr (fun rn249 e250 => ?_)
  have h := h rn249 e250
  refine fw_topm (fun μ252 e253 => ?_)
  have hg254 := fw_al_sE e253 hg243 (by decide) hX
  have hg251 := fw_al_KE e253 e250
  have h := h μ252 e253
  refine fw_putfP fl_X5_85 (fun q hq => Or.inr ⟨rfl, by cases hq; rfl⟩) rfl hg254 dX5_init_201 ?_
  have h := h _ rfl
  refine fw_aload_n dX5_init_204 rfl rfl ?_
  refine fw_bipush (v := 9) dX5_init_205 (by decide) ?_
  refine fw_x (fun hX => ?_)
  obtain ⟨hc256, h⟩ := h
  obtain ⟨hc257, h⟩ := h
  obtain ⟨hc258, h⟩ := h
  obtain ⟨hc259, h⟩ := h
  refine fw_newa (k := 100) rfl rfl q183 hc256 (by show _ * 4 ≤ _; omega) hc258 hc259 dX5_init_207 ?_
  refine fw_topr (fun rn260 e261 => ?_)
  have h := h rn260 e261
  refine fw_topm (fun μ263 e264 => ?_)
  have hg265 := fw_al_sE e264 hg254 (by decide) hX
  have hg262 := fw_al_KE e264 e261
  have h := h μ263 e264
  refine fw_putfP fl_X5_88 (fun q hq => Or.inr ⟨rfl, by cases hq; rfl⟩) rfl hg265 dX5_init_209 ?_
  have h := h _ rfl
  refine fw_aload_n dX5_init_212 rfl rfl ?_
  refine fw_bipush (v := 6) dX5_init_213 (by decide) ?_
  refine fw_x (fun hX => ?_)
  obtain ⟨hc267, h⟩ := h
  obtain ⟨hc268, h⟩ := h
  obtain ⟨hc269, h⟩ := h
  obtain ⟨hc270, h⟩ := h
  refine fw_newa (k := 100) rfl rfl q183 hc267 (by show _ * 4 ≤ _; omega) hc269 hc270 dX5_init_215 ?_
  refine fw_topr (fun rn271 e272 => ?_)
  have h := h rn271 e272
  refine fw_topm (fun μ274 e275 => ?_)
  have hg276 := fw_al_sE e275 hg265 (by decide) hX
  have hg273 := fw_al_KE e275 e272
  have h := h μ274 e275
  refine fw_putfP fl_X5_91 (fun q hq => Or.inr ⟨rfl, by cases hq; rfl⟩) rfl hg276 dX5_init_217 ?_
  have h := h _ rfl
  refine fw_aload_n dX5_init_220 rfl rfl ?_
  refine fw_bipush (v := 6) dX5_init_221 (by decide) ?_
  refine fw_x (fun hX => ?_)
  obtain ⟨hc278, h⟩ := h
  obtain ⟨hc279, h⟩ := h
  obtain ⟨hc280, h⟩ := h
  obtain ⟨hc281, h⟩ := h
  refine fw_newa (k := 100) rfl rfl q183 hc278 (by show _ * 4 ≤ _; omega) hc280 hc281 dX5_init_223 ?_
  refine fw_topr (fun rn282 e283 => ?_)
  have h := h rn282 e283
  refine fw_topm (fun μ285 e286 => ?_)
  have hg287 := fw_al_sE e286 hg276 (by decide) hX
  have hg284 := fw_al_KE e286 e283
  have h := h μ285 e286
  refine fw_putfP fl_X5_94 (fun q hq => Or.inr ⟨rfl, by cases hq; rfl⟩) rfl hg287 dX5_init_225 ?_
  have h := h _ rfl
  refine fw_aload_n dX5_init_228 rfl rfl ?_
  refine fw_bipush (v := 6) dX5_init_229 (by decide) ?_
  refine fw_x (fun hX => ?_)
  obtain ⟨hc289, h⟩ := h
  obtain ⟨hc290, h⟩ := h
  obtain ⟨hc291, h⟩ := h
  obtain ⟨hc292, h⟩ := h
  refine fw_newa (k := 100) rfl rfl q183 hc289 (by show _ * 4 ≤ _; omega) hc291 hc292 dX5_init_231 ?_
  refine fw_topr (fun rn293 e294 => ?_)
  have h := h rn293 e294
  refine fw_topm (fun μ296 e297 => ?_)
  have hg298 := fw_al_sE e297 hg287 (by decide) hX
  have hg295 := fw_al_KE e297 e294
  have h := h μ296 e297
  refine fw_putfP fl_X5_97 (fun q hq => Or.inr ⟨rfl, by cases hq; rfl⟩) rfl hg298 dX5_init_233 ?_
  have h := h _ rfl
  refine fw_aload_n dX5_init_236 rfl rfl ?_
  refine fw_iconst (v := 4) dX5_init_237 (by decide) ?_
  refine fw_x (fun hX => ?_)
  obtain ⟨hc300, h⟩ := h
  obtain ⟨hc301, h⟩ := h
  obtain ⟨hc302, h⟩ := h
  obtain ⟨hc303, h⟩ := h
  refine fw_newa (k := 100) rfl rfl q183 hc300 (by show _ * 4 ≤ _; omega) hc302 hc303 dX5_init_238 ?_
  refine fw_topr (fun rn304 e305 => ?_)
  have h := h rn304 e305
  refine fw_topm (fun μ307 e308 => ?_)
  have hg309 := fw_al_sE e308 hg298 (by decide) hX
  have hg306 := fw_al_KE e308 e305
  have h := h μ307 e308
  refine fw_putfP fl_X5_100 (fun q hq => Or.inr ⟨rfl, by cases hq; rfl⟩) rfl hg309 dX5_init_240 ?_
  have h := h _ rfl
  refine fw_aload_n dX5_init_243 rfl rfl ?_
  refine fw_iconst (v := 4) dX5_init_244 (by decide) ?_
  refine fw_x (fun hX => ?_)
  obtain ⟨hc311, h⟩ := h
  obtain ⟨hc312, h⟩ := h
  obtain ⟨hc313, h⟩ := h
  obtain ⟨hc314, h⟩ := h
  refine fw_newa (k := 100) rfl rfl q183 hc311 (by show _ * 4 ≤ _; omega) hc313 hc314 dX5_init_245 ?_
  refine fw_topr (fun rn315 e316 => ?_)
  have h := h rn315 e316
  refine fw_topm (fun μ318 e319 => ?_)
  have hg320 := fw_al_sE e319 hg309 (by decide) hX
  have hg317 := fw_al_KE e319 e316
  have h := h μ318 e319
  refine fw_putfP fl_X5_103 (fun q hq => Or.inr ⟨rfl, by cases hq; rfl⟩) rfl hg320 dX5_init_247 ?_
  have h := h _ rfl
  refine fw_aload_n dX5_init_250 rfl rfl ?_
  refine fw_getfP fl_X5_7 rfl hg320 dX5_init_251 ?_
  refine fw_iconst (v := 2) dX5_init_254 (by decide) ?_
  refine fw_iconst (v := -1) dX5_init_255 (by decide) ?_
  obtain ⟨hg322, h⟩ := h
  obtain ⟨hc323, h⟩ := h
  refine fw_iast hg322 hc323 dX5_init_256 ?_
  have h := h _ rfl
  refine fw_aload_n dX5_init_257 rfl rfl ?_
  refine fw_getfP fl_X5_7 rfl hg320 dX5_init_258 ?_
  refine fw_sipush (v := 464) dX5_init_261 (by decide) ?_
  refine fw_iconst (v := 3) dX5_init_264 (by decide) ?_
  obtain ⟨hg325, h⟩ := h
  obtain ⟨hc326, h⟩ := h
  refine fw_iast hg325 hc326 dX5_init_265 ?_
  have h := h _ rfl
  refine fw_iconst (v := 0) dX5_init_266 (by decide) ?_
  refine fw_istore_nN (Ls' := [(1, Value.int (0 : Int32)), (0, fw_rv g r0)]) [] dX5_init_267 rfl (by decide) rfl rfl rfl (fw_cat _) rfl ?_
  refine fw_ls [1, 0] rfl ?_
  exact w_X5_init_L268 hf hg320 h
abbrev K_X5_in : fw_Kt := (RX5, "in", cX5_in, 3, some .boolean, [])
def p_X5_in (i0 : Int32) (i1 : Int32) (i2 : Int32) (μ : fw_M) (Q : Int32 → fw_M → Prop) : Prop :=
  (if i0 < i1 then
  (Q (0 : Int32) μ)
  else
  ((if i2 < i0 then
   (Q (0 : Int32) μ)
   else
   (Q (1 : Int32) μ))))
set_option maxHeartbeats 4000000 in
theorem w_X5_in {g : fw_G} {f bc bs : Nat} {i0 : Int32} {i1 : Int32} {i2 : Int32} {μ : fw_M} {Q : Int32 → fw_M → Prop} (hf : 1 ≤ f) (h : p_X5_in i0 i1 i2 μ Q) : fw_C g f bc bs yX5_in (ws_ yX5_in cX5_in 3 (some .boolean)) [Value.int i0, Value.int i1, Value.int i2] μ (fw_Qi Q) fw_nX := by
  unfold p_X5_in at h
  refine fw_intro' (Ls := [(0, Value.int i0), (1, Value.int i1), (2, Value.int i2)]) (by decide +kernel) (by simp [lg_sl, fw_cat, fw_ci, fw_clo]) (by simp [lv_args, fw_cat, fw_ci, fw_clo]) ?_
  show fw_V g K_X5_in f bc bs 0 [(0, Value.int i0), (1, Value.int i1), (2, Value.int i2)] [] μ (fw_Qi Q) fw_nX
  refine fw_iload_n dX5_in_0 rfl rfl ?_
  refine fw_iload_n dX5_in_1 rfl rfl ?_
  refine fw_icmp_lt (tgt := 14) dX5_in_2 (by decide) (fun c1 => ?_) (fun c1 => ?_)
  · have h := fw_it h c1
    refine fw_iconst (v := 0) dX5_in_14 (by decide) ?_
    exact fw_ireturn dX5_in_15 rfl (by decide +kernel) ⟨_, rfl, h⟩
  · have h := fw_if h c1
    refine fw_iload_n dX5_in_5 rfl rfl ?_
    refine fw_iload_n dX5_in_6 rfl rfl ?_
    refine fw_icmp_gt (tgt := 14) dX5_in_7 (by decide) (fun c2 => ?_) (fun c2 => ?_)
    · have h := fw_it h c2
      refine fw_iconst (v := 0) dX5_in_14 (by decide) ?_
      exact fw_ireturn dX5_in_15 rfl (by decide +kernel) ⟨_, rfl, h⟩
    · have h := fw_if h c2
      refine fw_iconst (v := 1) dX5_in_10 (by decide) ?_
      refine fw_goto (tgt := 15) dX5_in_11 (by decide) ?_
      exact fw_ireturn dX5_in_15 rfl (by decide +kernel) ⟨_, rfl, h⟩
abbrev K_X5_isOne : fw_Kt := (RX5, "isOne", cX5_isOne, 1, some .boolean, [])
def p_X5_isOne_L9 (μ : fw_M) (Q : Int32 → fw_M → Prop) : Prop :=
  Q (1 : Int32) μ
set_option maxHeartbeats 4000000 in
theorem w_X5_isOne_L9 {g : fw_G} {f bc bs : Nat} {μ : fw_M} {Q : Int32 → fw_M → Prop} (hf : 1 ≤ f) (h : p_X5_isOne_L9 μ Q) : fw_V g K_X5_isOne f bc bs 9 [] [] μ (fw_Qi Q) fw_nX := by
  unfold p_X5_isOne_L9 at h
  refine fw_iconst (v := 1) dX5_isOne_9 (by decide) ?_
  refine fw_goto (tgt := 14) dX5_isOne_10 (by decide) ?_
  exact fw_ireturn dX5_isOne_14 rfl (by decide +kernel) ⟨_, rfl, h⟩
def p_X5_isOne (i0 : Int32) (μ : fw_M) (Q : Int32 → fw_M → Prop) : Prop :=
  (if i0 = 0 then
  (p_X5_isOne_L9 μ Q)
  else
  ((if i0 = (1 : Int32) then
   (p_X5_isOne_L9 μ Q)
   else
   (Q (0 : Int32) μ))))
set_option maxHeartbeats 4000000 in
theorem w_X5_isOne {g : fw_G} {f bc bs : Nat} {i0 : Int32} {μ : fw_M} {Q : Int32 → fw_M → Prop} (hf : 1 ≤ f) (h : p_X5_isOne i0 μ Q) : fw_C g f bc bs yX5_isOne (ws_ yX5_isOne cX5_isOne 1 (some .boolean)) [Value.int i0] μ (fw_Qi Q) fw_nX := by
  unfold p_X5_isOne at h
  refine fw_intro' (Ls := [(0, Value.int i0)]) (by decide +kernel) (by simp [lg_sl, fw_cat, fw_ci, fw_clo]) (by simp [lv_args, fw_cat, fw_ci, fw_clo]) ?_
  show fw_V g K_X5_isOne f bc bs 0 [(0, Value.int i0)] [] μ (fw_Qi Q) fw_nX
  refine fw_iload_n dX5_isOne_0 rfl rfl ?_
  refine fw_if_eq (tgt := 9) dX5_isOne_1 (by decide) (fun c1 => ?_) (fun c1 => ?_)
  · have h := fw_it h c1
    refine fw_ls [] rfl ?_
    exact w_X5_isOne_L9 hf h
  · have h := fw_if h c1
    refine fw_iload_n dX5_isOne_4 rfl rfl ?_
    refine fw_iconst (v := 1) dX5_isOne_5 (by decide) ?_
    refine fw_icmp_ne (tgt := 13) dX5_isOne_6 (by decide) (fun c2 => ?_) (fun c2 => ?_)
    · have h := fw_if h c2
      refine fw_iconst (v := 0) dX5_isOne_13 (by decide) ?_
      exact fw_ireturn dX5_isOne_14 rfl (by decide +kernel) ⟨_, rfl, h⟩
    · have h := fw_it h c2
      refine fw_ls [] rfl ?_
      exact w_X5_isOne_L9 hf h
abbrev K_X5_pot : fw_Kt := (RX5, "pot", cX5_pot, 4, some .boolean, [])
def p_X5_pot (r0 : Nat) (i1 : Int32) (i2 : Int32) (i3 : Int32) (μ : fw_M) (Q : Int32 → fw_M → Prop) : Prop :=
  (p_X5_isOne i1 μ (fun v1 μ2 =>
  (if v1 = 0 then
  (Q (0 : Int32) μ2)
  else
  ((p_X5_isOne i2 μ2 (fun v6 μ7 =>
   (if v6 = 0 then
   (Q (0 : Int32) μ7)
   else
   ((p_X5_in i3 (0 : Int32) (999 : Int32) μ7 (fun v11 μ12 =>
    (if v11 = 0 then
    (Q (0 : Int32) μ12)
    else
    ((m_K μ12 (m_P μ12 r0 0) = 100 ∧ (vp_in (((110 : Int32) + ((2 : Int32) * i1)) + i2) (m_N μ12 (m_P μ12 r0 0)) ∧ (∀ μ18, μ18 = m_uI μ12 (m_P μ12 r0 0) (((110 : Int32) + ((2 : Int32) * i1)) + i2).toNatClampNeg i3 →
     Q (1 : Int32) μ18)))))))))))))))
set_option maxHeartbeats 4000000 in
theorem w_X5_pot {g : fw_G} {f bc bs : Nat} {r0 : Nat} {i1 : Int32} {i2 : Int32} {i3 : Int32} {μ : fw_M} {Q : Int32 → fw_M → Prop} (hf : 2 ≤ f) (hx : m_K μ r0 = 6) (h : p_X5_pot r0 i1 i2 i3 μ Q) : fw_C g f bc bs yX5_pot (ws_ yX5_pot cX5_pot 4 (some .boolean)) [fw_rv g r0, Value.int i1, Value.int i2, Value.int i3] μ (fw_Qi Q) fw_nX := by
  unfold p_X5_pot at h
  refine fw_intro' (Ls := [(0, fw_rv g r0), (1, Value.int i1), (2, Value.int i2), (3, Value.int i3)]) (by decide +kernel) (by simp [lg_sl, fw_cat, fw_ci, fw_clo]) (by simp [lv_args, fw_cat, fw_ci, fw_clo]) ?_
  show fw_V g K_X5_pot f bc bs 0 [(0, fw_rv g r0), (1, Value.int i1), (2, Value.int i2), (3, Value.int i3)] [] μ (fw_Qi Q) fw_nX
  refine fw_iload_n dX5_pot_0 rfl rfl ?_
  refine fw_callS1z (f1 := f - 1) cl_X5_114 (by decide) (by omega) (fw_s4 (Nat.le_of_ble_eq_true rfl)) dX5_pot_1 (w_X5_isOne (f := f - 1) (by omega) h) (fun _ _ h9 _ _ => h9.elim) (fun v9 μ2 q9 hs3 => ?_)
  obtain ⟨v1, rfl, h⟩ := q9
  refine fw_ti ?_
  have hg4 := hs3.K hx (by decide)
  refine fw_if_eq (tgt := 25) dX5_pot_4 (by decide) (fun c5 => ?_) (fun c5 => ?_)
  · have h := fw_it h c5
    refine fw_iconst (v := 0) dX5_pot_25 (by decide) ?_
    exact fw_ireturn dX5_pot_26 rfl (by decide +kernel) ⟨_, rfl, h⟩
  · have h := fw_if h c5
    refine fw_iload_n dX5_pot_7 rfl rfl ?_
    refine fw_callS1z (f1 := f - 1) cl_X5_114 (by decide) (by omega) (fw_s4 (Nat.le_of_ble_eq_true rfl)) dX5_pot_8 (w_X5_isOne (f := f - 1) (by omega) h) (fun _ _ h9 _ _ => h9.elim) (fun v9 μ7 q9 hs8 => ?_)
    obtain ⟨v6, rfl, h⟩ := q9
    refine fw_ti ?_
    have hg9 := hs8.K hg4 (by decide)
    refine fw_if_eq (tgt := 25) dX5_pot_11 (by decide) (fun c10 => ?_) (fun c10 => ?_)
    · have h := fw_it h c10
      refine fw_iconst (v := 0) dX5_pot_25 (by decide) ?_
      exact fw_ireturn dX5_pot_26 rfl (by decide +kernel) ⟨_, rfl, h⟩
    · have h := fw_if h c10
      refine fw_iload_n dX5_pot_14 rfl rfl ?_
      refine fw_iconst (v := 0) dX5_pot_15 (by decide) ?_
      refine fw_sipush (v := 999) dX5_pot_16 (by decide) ?_
      refine fw_callS3z (f1 := f - 1) cl_X5_110 (by decide) (by omega) (fw_s4 (Nat.le_of_ble_eq_true rfl)) dX5_pot_19 (w_X5_in (f := f - 1) (by omega) h) (fun _ _ h9 _ _ => h9.elim) (fun v9 μ12 q9 hs13 => ?_)
      obtain ⟨v11, rfl, h⟩ := q9
      refine fw_ti ?_
      have hg14 := hs13.K hg9 (by decide)
      refine fw_if_ne (tgt := 27) dX5_pot_22 (by decide) (fun c15 => ?_) (fun c15 => ?_)
      · have h := fw_if h c15
        refine fw_aload_n dX5_pot_27 rfl rfl ?_
        refine fw_getfP fl_X5_7 rfl hg14 dX5_pot_28 ?_
        refine fw_bipush (v := 110) dX5_pot_31 (by decide) ?_
        refine fw_iconst (v := 2) dX5_pot_33 (by decide) ?_
        refine fw_iload_n dX5_pot_34 rfl rfl ?_
        refine fw_imul dX5_pot_35 ?_
        refine fw_iadd dX5_pot_36 ?_
        refine fw_iload_n dX5_pot_37 rfl rfl ?_
        refine fw_iadd dX5_pot_38 ?_
        refine fw_iload_n dX5_pot_39 rfl rfl ?_
        obtain ⟨hg16, h⟩ := h
        obtain ⟨hc17, h⟩ := h
        refine fw_iast hg16 hc17 dX5_pot_40 ?_
        have h := h _ rfl
        refine fw_iconst (v := 1) dX5_pot_41 (by decide) ?_
        exact fw_ireturn dX5_pot_42 rfl (by decide +kernel) ⟨_, rfl, h⟩
      · have h := fw_it h c15
        refine fw_iconst (v := 0) dX5_pot_25 (by decide) ?_
        exact fw_ireturn dX5_pot_26 rfl (by decide +kernel) ⟨_, rfl, h⟩
abbrev K_X5_eater : fw_Kt := (RX5, "eater", cX5_eater, 6, some .int, [])
def p_X5_eater_L93b (r0 : Nat) (i4 : Int32) (k93 : Int32 → fw_M → Prop) (i5 : Int32) (μ : fw_M) (Q : Int32 → fw_M → Prop) : Prop :=
  (m_K μ (m_P μ r0 0) = 100 ∧ (vp_in (3 : Int32) (m_N μ (m_P μ r0 0)) ∧ (if (m_I μ (m_P μ r0 0) (3 : Int32).toNatClampNeg) ≤ i5 then
  ((vp_in (0 : Int32) (m_N μ (m_P μ r0 0)) ∧ (vp_in (0 : Int32) (m_N μ (m_P μ r0 0)) ∧ (∀ μ6, μ6 = m_uI μ (m_P μ r0 0) (0 : Int32).toNatClampNeg ((m_I μ (m_P μ r0 0) (0 : Int32).toNatClampNeg) + (1 : Int32)) →
   Q i4 μ6))))
  else
  ((vp_in (((((470 : Int32) + ((355 : Int32) * i5)) + (114 : Int32)) - (110 : Int32)) + i4) (m_N μ (m_P μ r0 0)) ∧ (∀ μ8, μ8 = m_uI μ (m_P μ r0 0) (((((470 : Int32) + ((355 : Int32) * i5)) + (114 : Int32)) - (110 : Int32)) + i4).toNatClampNeg (2 : Int32) →
   (∀ i5_9 : Int32, i5_9 = i5 + (1 : Int32) →
   k93 i5_9 μ8)))))))
def p_X5_eater_L93 (r0 : Nat) (i4 : Int32) (i5 : Int32) (μ : fw_M) (Q : Int32 → fw_M → Prop) : Prop := fw_lp (fun (k : Int32 × fw_M → Prop) (a : Int32 × fw_M) => p_X5_eater_L93b r0 i4 (fun i5 μ => k (i5, μ)) a.1 a.2 Q) (i5, μ)
theorem r_X5_eater_L93 {r0 : Nat} {i4 : Int32} {Q : Int32 → fw_M → Prop} (I : Int32 → fw_M → Prop) (v : Int32 → fw_M → Nat) (hs : ∀ (k : Int32 → fw_M → Prop) (i5 : Int32) (μ : fw_M), I i5 μ → (∀ (i5' : Int32) (ν : fw_M), I i5' ν → v i5' ν < v i5 μ → k i5' ν) → p_X5_eater_L93b r0 i4 k i5 μ Q) (i5 : Int32) (μ : fw_M) (h : I i5 μ) : p_X5_eater_L93 r0 i4 i5 μ Q :=
  fw_lp_in (A := Int32 × fw_M) (fun a => I a.1 a.2) (fun a => v a.1 a.2) (fun k a ha hk => hs (fun i5 μ => k (i5, μ)) a.1 a.2 ha (fun i5' ν hb hlt => hk (i5', ν) hb hlt)) (i5, μ) h
set_option maxHeartbeats 4000000 in
theorem w_X5_eater_L93b {g : fw_G} {f bc bs : Nat} {r0 : Nat} {i4 : Int32} {k93 : Int32 → fw_M → Prop} {i5 : Int32} {μ : fw_M} {Q : Int32 → fw_M → Prop} (hf : 2 ≤ f) (hk93 : ∀ {i5 : Int32} {μ : fw_M}, m_K μ r0 = 6 → k93 i5 μ → fw_V g K_X5_eater f bc bs 93 [(0, fw_rv g r0), (4, Value.int i4), (5, Value.int i5)] [] μ (fw_Qi Q) fw_nX) (hx : m_K μ r0 = 6) (h : p_X5_eater_L93b r0 i4 k93 i5 μ Q) : fw_V g K_X5_eater f bc bs 93 [(0, fw_rv g r0), (4, Value.int i4), (5, Value.int i5)] [] μ (fw_Qi Q) fw_nX := by
  unfold p_X5_eater_L93b at h
  refine fw_iload dX5_eater_93 rfl ?_
  refine fw_aload_n dX5_eater_95 rfl rfl ?_
  refine fw_getfP fl_X5_7 rfl hx dX5_eater_96 ?_
  refine fw_iconst (v := 3) dX5_eater_99 (by decide) ?_
  obtain ⟨hg1, h⟩ := h
  obtain ⟨hc2, h⟩ := h
  refine fw_iald hg1 hc2 dX5_eater_100 ?_
  refine fw_icmp_ge (tgt := 135) dX5_eater_101 (by decide) (fun c3 => ?_) (fun c3 => ?_)
  · have h := fw_it h c3
    refine fw_aload_n dX5_eater_135 rfl rfl ?_
    refine fw_getfP fl_X5_7 rfl hx dX5_eater_136 ?_
    refine fw_iconst (v := 0) dX5_eater_139 (by decide) ?_
    refine fw_dup2 dX5_eater_140 rfl (fw_cat _) ?_
    obtain ⟨hc4, h⟩ := h
    refine fw_iald hg1 hc4 dX5_eater_141 ?_
    refine fw_iconst (v := 1) dX5_eater_142 (by decide) ?_
    refine fw_iadd dX5_eater_143 ?_
    obtain ⟨hc5, h⟩ := h
    refine fw_iast hg1 hc5 dX5_eater_144 ?_
    have h := h _ rfl
    refine fw_iload dX5_eater_145 rfl ?_
    exact fw_ireturn dX5_eater_147 rfl rfl ⟨_, rfl, h⟩
  · have h := fw_if h c3
    refine fw_aload_n dX5_eater_104 rfl rfl ?_
    refine fw_getfP fl_X5_7 rfl hx dX5_eater_105 ?_
    refine fw_sipush (v := 470) dX5_eater_108 (by decide) ?_
    refine fw_sipush (v := 355) dX5_eater_111 (by decide) ?_
    refine fw_iload dX5_eater_114 rfl ?_
    refine fw_imul dX5_eater_116 ?_
    refine fw_iadd dX5_eater_117 ?_
    refine fw_bipush (v := 114) dX5_eater_118 (by decide) ?_
    refine fw_iadd dX5_eater_120 ?_
    refine fw_bipush (v := 110) dX5_eater_121 (by decide) ?_
    refine fw_isub dX5_eater_123 ?_
    refine fw_iload dX5_eater_124 rfl ?_
    refine fw_iadd dX5_eater_126 ?_
    refine fw_iconst (v := 2) dX5_eater_127 (by decide) ?_
    obtain ⟨hc7, h⟩ := h
    refine fw_iast hg1 hc7 dX5_eater_128 ?_
    have h := h _ rfl
    obtain ⟨i5_9, e10⟩ : ∃ y : Int32, y = i5 + (1 : Int32) := ⟨_, rfl⟩
    have h := h i5_9 e10
    refine fw_iincN (k := 2) (v := i5_9) (Ls' := [(5, Value.int i5_9), (4, Value.int i4), (0, fw_rv g r0)]) [0] dX5_eater_129 rfl (by rw [e10]; rfl) (by decide) rfl rfl rfl rfl rfl ?_
    refine fw_goto (tgt := 93) dX5_eater_132 (by decide) ?_
    refine fw_ls [2, 1, 0] rfl ?_
    exact hk93 hx h
theorem w_X5_eater_L93 {g : fw_G} {f bc bs : Nat} {r0 : Nat} {i4 : Int32} {i5 : Int32} {μ : fw_M} {Q : Int32 → fw_M → Prop} (hf : 2 ≤ f) (hx : m_K μ r0 = 6) (h : p_X5_eater_L93 r0 i4 i5 μ Q) : fw_V g K_X5_eater f bc bs 93 [(0, fw_rv g r0), (4, Value.int i4), (5, Value.int i5)] [] μ (fw_Qi Q) fw_nX := by
  have key := fw_lp_out (R := fun (a : Int32 × fw_M) => m_K a.2 r0 = 6 → fw_V g K_X5_eater f bc bs 93 [(0, fw_rv g r0), (4, Value.int i4), (5, Value.int a.1)] [] a.2 (fw_Qi Q) fw_nX) (fun k hk9 a ha hx2 => w_X5_eater_L93b hf (fun {i5} {μ} hx3 h3 => hk9 (i5, μ) h3 hx3) hx2 ha) h
  exact key hx
def p_X5_eater (r0 : Nat) (i1 : Int32) (i2 : Int32) (i3 : Int32) (μ : fw_M) (Q : Int32 → fw_M → Prop) : Prop :=
  (m_K μ (m_P μ r0 0) = 100 ∧ (vp_in (0 : Int32) (m_N μ (m_P μ r0 0)) ∧ (∀ i4_3 : Int32, i4_3 = (m_I μ (m_P μ r0 0) (0 : Int32).toNatClampNeg) →
  (p_X5_in i1 (0 : Int32) (9 : Int32) μ (fun v5 μ6 =>
  (if v5 = 0 then
  (Q (-1 : Int32) μ6)
  else
  ((p_X5_in i2 (1 : Int32) (9 : Int32) μ6 (fun v10 μ11 =>
   (if v10 = 0 then
   (Q (-1 : Int32) μ11)
   else
   ((p_X5_in i3 (0 : Int32) (99 : Int32) μ11 (fun v15 μ16 =>
    (if v15 = 0 then
    (Q (-1 : Int32) μ16)
    else
    ((if i4_3 = (9 : Int32) then
     (Q (-1 : Int32) μ16)
     else
     ((m_K μ16 (m_P μ16 r0 0) = 100 ∧ (vp_in ((10 : Int32) + ((3 : Int32) * i4_3)) (m_N μ16 (m_P μ16 r0 0)) ∧ (∀ μ23, μ23 = m_uI μ16 (m_P μ16 r0 0) ((10 : Int32) + ((3 : Int32) * i4_3)).toNatClampNeg i1 →
      (m_K μ23 (m_P μ23 r0 0) = 100 ∧ (vp_in (((10 : Int32) + ((3 : Int32) * i4_3)) + (1 : Int32)) (m_N μ23 (m_P μ23 r0 0)) ∧ (∀ μ26, μ26 = m_uI μ23 (m_P μ23 r0 0) (((10 : Int32) + ((3 : Int32) * i4_3)) + (1 : Int32)).toNatClampNeg i2 →
      (m_K μ26 (m_P μ26 r0 0) = 100 ∧ (vp_in (((10 : Int32) + ((3 : Int32) * i4_3)) + (2 : Int32)) (m_N μ26 (m_P μ26 r0 0)) ∧ (∀ μ29, μ29 = m_uI μ26 (m_P μ26 r0 0) (((10 : Int32) + ((3 : Int32) * i4_3)) + (2 : Int32)).toNatClampNeg i3 →
      p_X5_eater_L93 r0 i4_3 (0 : Int32) μ29 Q))))))))))))))))))))))))))
set_option maxHeartbeats 4000000 in
theorem w_X5_eater {g : fw_G} {f bc bs : Nat} {r0 : Nat} {i1 : Int32} {i2 : Int32} {i3 : Int32} {μ : fw_M} {Q : Int32 → fw_M → Prop} (hf : 2 ≤ f) (hx : m_K μ r0 = 6) (h : p_X5_eater r0 i1 i2 i3 μ Q) : fw_C g f bc bs yX5_eater (ws_ yX5_eater cX5_eater 6 (some .int)) [fw_rv g r0, Value.int i1, Value.int i2, Value.int i3] μ (fw_Qi Q) fw_nX := by
  unfold p_X5_eater at h
  refine fw_intro' (Ls := [(0, fw_rv g r0), (1, Value.int i1), (2, Value.int i2), (3, Value.int i3)]) (by decide +kernel) (by simp [lg_sl, fw_cat, fw_ci, fw_clo]) (by simp [lv_args, fw_cat, fw_ci, fw_clo]) ?_
  show fw_V g K_X5_eater f bc bs 0 [(0, fw_rv g r0), (1, Value.int i1), (2, Value.int i2), (3, Value.int i3)] [] μ (fw_Qi Q) fw_nX
  refine fw_aload_n dX5_eater_0 rfl rfl ?_
  refine fw_getfP fl_X5_7 rfl hx dX5_eater_1 ?_
  refine fw_iconst (v := 0) dX5_eater_4 (by decide) ?_
  obtain ⟨hg1, h⟩ := h
  obtain ⟨hc2, h⟩ := h
  refine fw_iald hg1 hc2 dX5_eater_5 ?_
  refine fw_topi (fun i4_3 e4 => ?_)
  have h := h i4_3 e4
  refine fw_istoreN (Ls' := [(4, Value.int i4_3), (3, Value.int i3), (0, fw_rv g r0), (1, Value.int i1), (2, Value.int i2)]) [0, 1, 2] dX5_eater_6 (by decide) rfl rfl rfl rfl rfl ?_
  refine fw_iload_n dX5_eater_8 rfl rfl ?_
  refine fw_iconst (v := 0) dX5_eater_9 (by decide) ?_
  refine fw_bipush (v := 9) dX5_eater_10 (by decide) ?_
  refine fw_callS3z (f1 := f - 1) cl_X5_110 (by decide) (by omega) (fw_s4 (Nat.le_of_ble_eq_true rfl)) dX5_eater_12 (w_X5_in (f := f - 1) (by omega) h) (fun _ _ h9 _ _ => h9.elim) (fun v9 μ6 q9 hs7 => ?_)
  obtain ⟨v5, rfl, h⟩ := q9
  refine fw_ti ?_
  have hg8 := hs7.K hx (by decide)
  refine fw_if_eq (tgt := 45) dX5_eater_15 (by decide) (fun c9 => ?_) (fun c9 => ?_)
  · have h := fw_it h c9
    refine fw_iconst (v := -1) dX5_eater_45 (by decide) ?_
    exact fw_ireturn dX5_eater_46 rfl rfl ⟨_, rfl, h⟩
  · have h := fw_if h c9
    refine fw_iload_n dX5_eater_18 rfl rfl ?_
    refine fw_iconst (v := 1) dX5_eater_19 (by decide) ?_
    refine fw_bipush (v := 9) dX5_eater_20 (by decide) ?_
    refine fw_callS3z (f1 := f - 1) cl_X5_110 (by decide) (by omega) (fw_s4 (Nat.le_of_ble_eq_true rfl)) dX5_eater_22 (w_X5_in (f := f - 1) (by omega) h) (fun _ _ h9 _ _ => h9.elim) (fun v9 μ11 q9 hs12 => ?_)
    obtain ⟨v10, rfl, h⟩ := q9
    refine fw_ti ?_
    have hg13 := hs12.K hg8 (by decide)
    refine fw_if_eq (tgt := 45) dX5_eater_25 (by decide) (fun c14 => ?_) (fun c14 => ?_)
    · have h := fw_it h c14
      refine fw_iconst (v := -1) dX5_eater_45 (by decide) ?_
      exact fw_ireturn dX5_eater_46 rfl rfl ⟨_, rfl, h⟩
    · have h := fw_if h c14
      refine fw_iload_n dX5_eater_28 rfl rfl ?_
      refine fw_iconst (v := 0) dX5_eater_29 (by decide) ?_
      refine fw_bipush (v := 99) dX5_eater_30 (by decide) ?_
      refine fw_callS3z (f1 := f - 1) cl_X5_110 (by decide) (by omega) (fw_s4 (Nat.le_of_ble_eq_true rfl)) dX5_eater_32 (w_X5_in (f := f - 1) (by omega) h) (fun _ _ h9 _ _ => h9.elim) (fun v9 μ16 q9 hs17 => ?_)
      obtain ⟨v15, rfl, h⟩ := q9
      refine fw_ti ?_
      have hg18 := hs17.K hg13 (by decide)
      refine fw_if_eq (tgt := 45) dX5_eater_35 (by decide) (fun c19 => ?_) (fun c19 => ?_)
      · have h := fw_it h c19
        refine fw_iconst (v := -1) dX5_eater_45 (by decide) ?_
        exact fw_ireturn dX5_eater_46 rfl rfl ⟨_, rfl, h⟩
      · have h := fw_if h c19
        refine fw_iload dX5_eater_38 rfl ?_
        refine fw_bipush (v := 9) dX5_eater_40 (by decide) ?_
        refine fw_icmp_ne (tgt := 47) dX5_eater_42 (by decide) (fun c20 => ?_) (fun c20 => ?_)
        · have h := fw_if h c20
          refine fw_aload_n dX5_eater_47 rfl rfl ?_
          refine fw_getfP fl_X5_7 rfl hg18 dX5_eater_48 ?_
          refine fw_bipush (v := 10) dX5_eater_51 (by decide) ?_
          refine fw_iconst (v := 3) dX5_eater_53 (by decide) ?_
          refine fw_iload dX5_eater_54 rfl ?_
          refine fw_imul dX5_eater_56 ?_
          refine fw_iadd dX5_eater_57 ?_
          refine fw_iload_n dX5_eater_58 rfl rfl ?_
          obtain ⟨hg21, h⟩ := h
          obtain ⟨hc22, h⟩ := h
          refine fw_iast hg21 hc22 dX5_eater_59 ?_
          have h := h _ rfl
          refine fw_aload_n dX5_eater_60 rfl rfl ?_
          refine fw_getfP fl_X5_7 rfl hg18 dX5_eater_61 ?_
          refine fw_bipush (v := 10) dX5_eater_64 (by decide) ?_
          refine fw_iconst (v := 3) dX5_eater_66 (by decide) ?_
          refine fw_iload dX5_eater_67 rfl ?_
          refine fw_imul dX5_eater_69 ?_
          refine fw_iadd dX5_eater_70 ?_
          refine fw_iconst (v := 1) dX5_eater_71 (by decide) ?_
          refine fw_iadd dX5_eater_72 ?_
          refine fw_iload_n dX5_eater_73 rfl rfl ?_
          obtain ⟨hg24, h⟩ := h
          obtain ⟨hc25, h⟩ := h
          refine fw_iast hg24 hc25 dX5_eater_74 ?_
          have h := h _ rfl
          refine fw_aload_n dX5_eater_75 rfl rfl ?_
          refine fw_getfP fl_X5_7 rfl hg18 dX5_eater_76 ?_
          refine fw_bipush (v := 10) dX5_eater_79 (by decide) ?_
          refine fw_iconst (v := 3) dX5_eater_81 (by decide) ?_
          refine fw_iload dX5_eater_82 rfl ?_
          refine fw_imul dX5_eater_84 ?_
          refine fw_iadd dX5_eater_85 ?_
          refine fw_iconst (v := 2) dX5_eater_86 (by decide) ?_
          refine fw_iadd dX5_eater_87 ?_
          refine fw_iload_n dX5_eater_88 rfl rfl ?_
          obtain ⟨hg27, h⟩ := h
          obtain ⟨hc28, h⟩ := h
          refine fw_iast hg27 hc28 dX5_eater_89 ?_
          have h := h _ rfl
          refine fw_iconst (v := 0) dX5_eater_90 (by decide) ?_
          refine fw_istoreN (Ls' := [(5, Value.int (0 : Int32)), (4, Value.int i4_3), (3, Value.int i3), (0, fw_rv g r0), (1, Value.int i1), (2, Value.int i2)]) [1, 2, 3, 4] dX5_eater_91 (by decide) rfl rfl rfl rfl rfl ?_
          refine fw_ls [3, 1, 0] rfl ?_
          exact w_X5_eater_L93 hf hg18 h
        · have h := fw_it h c20
          refine fw_iconst (v := -1) dX5_eater_45 (by decide) ?_
          exact fw_ireturn dX5_eater_46 rfl rfl ⟨_, rfl, h⟩
abbrev K_X5_seed : fw_Kt := (RX5, "seed", cX5_seed, 2, some .boolean, [])
def p_X5_seed (r0 : Nat) (i1 : Int32) (μ : fw_M) (Q : Int32 → fw_M → Prop) : Prop :=
  (p_X5_in i1 (0 : Int32) (9999 : Int32) μ (fun v1 μ2 =>
  (if v1 = 0 then
  (Q (0 : Int32) μ2)
  else
  ((m_K μ2 (m_P μ2 r0 0) = 100 ∧ (vp_in (464 : Int32) (m_N μ2 (m_P μ2 r0 0)) ∧ (∀ μ8, μ8 = m_uI μ2 (m_P μ2 r0 0) (464 : Int32).toNatClampNeg ((i1 * (5 : Int32)) + (3 : Int32)) →
   Q (1 : Int32) μ8)))))))
set_option maxHeartbeats 4000000 in
theorem w_X5_seed {g : fw_G} {f bc bs : Nat} {r0 : Nat} {i1 : Int32} {μ : fw_M} {Q : Int32 → fw_M → Prop} (hf : 2 ≤ f) (hx : m_K μ r0 = 6) (h : p_X5_seed r0 i1 μ Q) : fw_C g f bc bs yX5_seed (ws_ yX5_seed cX5_seed 2 (some .boolean)) [fw_rv g r0, Value.int i1] μ (fw_Qi Q) fw_nX := by
  unfold p_X5_seed at h
  refine fw_intro' (Ls := [(0, fw_rv g r0), (1, Value.int i1)]) (by decide +kernel) (by simp [lg_sl, fw_cat, fw_ci, fw_clo]) (by simp [lv_args, fw_cat, fw_ci, fw_clo]) ?_
  show fw_V g K_X5_seed f bc bs 0 [(0, fw_rv g r0), (1, Value.int i1)] [] μ (fw_Qi Q) fw_nX
  refine fw_iload_n dX5_seed_0 rfl rfl ?_
  refine fw_iconst (v := 0) dX5_seed_1 (by decide) ?_
  refine fw_sipush (v := 9999) dX5_seed_2 (by decide) ?_
  refine fw_callS3z (f1 := f - 1) cl_X5_110 (by decide) (by omega) (fw_s4 (Nat.le_of_ble_eq_true rfl)) dX5_seed_5 (w_X5_in (f := f - 1) (by omega) h) (fun _ _ h9 _ _ => h9.elim) (fun v9 μ2 q9 hs3 => ?_)
  obtain ⟨v1, rfl, h⟩ := q9
  refine fw_ti ?_
  have hg4 := hs3.K hx (by decide)
  refine fw_if_ne (tgt := 13) dX5_seed_8 (by decide) (fun c5 => ?_) (fun c5 => ?_)
  · have h := fw_if h c5
    refine fw_aload_n dX5_seed_13 rfl rfl ?_
    refine fw_getfP fl_X5_7 rfl hg4 dX5_seed_14 ?_
    refine fw_sipush (v := 464) dX5_seed_17 (by decide) ?_
    refine fw_iload_n dX5_seed_20 rfl rfl ?_
    refine fw_iconst (v := 5) dX5_seed_21 (by decide) ?_
    refine fw_imul dX5_seed_22 ?_
    refine fw_iconst (v := 3) dX5_seed_23 (by decide) ?_
    refine fw_iadd dX5_seed_24 ?_
    obtain ⟨hg6, h⟩ := h
    obtain ⟨hc7, h⟩ := h
    refine fw_iast hg6 hc7 dX5_seed_25 ?_
    have h := h _ rfl
    refine fw_iconst (v := 1) dX5_seed_26 (by decide) ?_
    exact fw_ireturn dX5_seed_27 rfl (by decide +kernel) ⟨_, rfl, h⟩
  · have h := fw_it h c5
    refine fw_iconst (v := 0) dX5_seed_11 (by decide) ?_
    exact fw_ireturn dX5_seed_12 rfl (by decide +kernel) ⟨_, rfl, h⟩
abbrev K_X5_undo : fw_Kt := (RX5, "undo", cX5_undo, 2, some .int, [])
def p_X5_undo_L23b (r0 : Nat) (k23 : Int32 → fw_M → Prop) (i1 : Int32) (μ : fw_M) (Q : Int32 → fw_M → Prop) : Prop :=
  (if (355 : Int32) ≤ i1 then
  ((m_K μ (m_P μ r0 0) = 100 ∧ (vp_in (3 : Int32) (m_N μ (m_P μ r0 0)) ∧ Q (m_I μ (m_P μ r0 0) (3 : Int32).toNatClampNeg) μ)))
  else
  ((m_K μ (m_P μ r0 0) = 100 ∧ (vp_in (3 : Int32) (m_N μ (m_P μ r0 0)) ∧ (vp_in (((470 : Int32) + ((355 : Int32) * (m_I μ (m_P μ r0 0) (3 : Int32).toNatClampNeg))) + i1) (m_N μ (m_P μ r0 0)) ∧ (vp_in ((110 : Int32) + i1) (m_N μ (m_P μ r0 0)) ∧ (∀ μ8, μ8 = m_uI μ (m_P μ r0 0) ((110 : Int32) + i1).toNatClampNeg (m_I μ (m_P μ r0 0) (((470 : Int32) + ((355 : Int32) * (m_I μ (m_P μ r0 0) (3 : Int32).toNatClampNeg))) + i1).toNatClampNeg) →
   (∀ i1_9 : Int32, i1_9 = i1 + (1 : Int32) →
   k23 i1_9 μ8))))))))
def p_X5_undo_L23 (r0 : Nat) (i1 : Int32) (μ : fw_M) (Q : Int32 → fw_M → Prop) : Prop := fw_lp (fun (k : Int32 × fw_M → Prop) (a : Int32 × fw_M) => p_X5_undo_L23b r0 (fun i1 μ => k (i1, μ)) a.1 a.2 Q) (i1, μ)
theorem r_X5_undo_L23 {r0 : Nat} {Q : Int32 → fw_M → Prop} (I : Int32 → fw_M → Prop) (v : Int32 → fw_M → Nat) (hs : ∀ (k : Int32 → fw_M → Prop) (i1 : Int32) (μ : fw_M), I i1 μ → (∀ (i1' : Int32) (ν : fw_M), I i1' ν → v i1' ν < v i1 μ → k i1' ν) → p_X5_undo_L23b r0 k i1 μ Q) (i1 : Int32) (μ : fw_M) (h : I i1 μ) : p_X5_undo_L23 r0 i1 μ Q :=
  fw_lp_in (A := Int32 × fw_M) (fun a => I a.1 a.2) (fun a => v a.1 a.2) (fun k a ha hk => hs (fun i1 μ => k (i1, μ)) a.1 a.2 ha (fun i1' ν hb hlt => hk (i1', ν) hb hlt)) (i1, μ) h
set_option maxHeartbeats 4000000 in
theorem w_X5_undo_L23b {g : fw_G} {f bc bs : Nat} {r0 : Nat} {k23 : Int32 → fw_M → Prop} {i1 : Int32} {μ : fw_M} {Q : Int32 → fw_M → Prop} (hf : 1 ≤ f) (hk23 : ∀ {i1 : Int32} {μ : fw_M}, m_K μ r0 = 6 → k23 i1 μ → fw_V g K_X5_undo f bc bs 23 [(0, fw_rv g r0), (1, Value.int i1)] [] μ (fw_Qi Q) fw_nX) (hx : m_K μ r0 = 6) (h : p_X5_undo_L23b r0 k23 i1 μ Q) : fw_V g K_X5_undo f bc bs 23 [(0, fw_rv g r0), (1, Value.int i1)] [] μ (fw_Qi Q) fw_nX := by
  unfold p_X5_undo_L23b at h
  refine fw_iload_n dX5_undo_23 rfl rfl ?_
  refine fw_sipush (v := 355) dX5_undo_24 (by decide) ?_
  refine fw_icmp_ge (tgt := 66) dX5_undo_27 (by decide) (fun c1 => ?_) (fun c1 => ?_)
  · have h := fw_it h c1
    refine fw_aload_n dX5_undo_66 rfl rfl ?_
    refine fw_getfP fl_X5_7 rfl hx dX5_undo_67 ?_
    refine fw_iconst (v := 3) dX5_undo_70 (by decide) ?_
    obtain ⟨hg2, h⟩ := h
    obtain ⟨hc3, h⟩ := h
    refine fw_iald hg2 hc3 dX5_undo_71 ?_
    exact fw_ireturn dX5_undo_72 rfl rfl ⟨_, rfl, h⟩
  · have h := fw_if h c1
    refine fw_aload_n dX5_undo_30 rfl rfl ?_
    refine fw_getfP fl_X5_7 rfl hx dX5_undo_31 ?_
    refine fw_bipush (v := 110) dX5_undo_34 (by decide) ?_
    refine fw_iload_n dX5_undo_36 rfl rfl ?_
    refine fw_iadd dX5_undo_37 ?_
    refine fw_aload_n dX5_undo_38 rfl rfl ?_
    refine fw_getfP fl_X5_7 rfl hx dX5_undo_39 ?_
    refine fw_sipush (v := 470) dX5_undo_42 (by decide) ?_
    refine fw_sipush (v := 355) dX5_undo_45 (by decide) ?_
    refine fw_aload_n dX5_undo_48 rfl rfl ?_
    refine fw_getfP fl_X5_7 rfl hx dX5_undo_49 ?_
    refine fw_iconst (v := 3) dX5_undo_52 (by decide) ?_
    obtain ⟨hg4, h⟩ := h
    obtain ⟨hc5, h⟩ := h
    refine fw_iald hg4 hc5 dX5_undo_53 ?_
    refine fw_imul dX5_undo_54 ?_
    refine fw_iadd dX5_undo_55 ?_
    refine fw_iload_n dX5_undo_56 rfl rfl ?_
    refine fw_iadd dX5_undo_57 ?_
    obtain ⟨hc6, h⟩ := h
    refine fw_iald hg4 hc6 dX5_undo_58 ?_
    obtain ⟨hc7, h⟩ := h
    refine fw_iast hg4 hc7 dX5_undo_59 ?_
    have h := h _ rfl
    obtain ⟨i1_9, e10⟩ : ∃ y : Int32, y = i1 + (1 : Int32) := ⟨_, rfl⟩
    have h := h i1_9 e10
    refine fw_iincN (k := 1) (v := i1_9) (Ls' := [(1, Value.int i1_9), (0, fw_rv g r0)]) [] dX5_undo_60 rfl (by rw [e10]; rfl) (by decide) rfl rfl rfl (fw_cat _) rfl ?_
    refine fw_goto (tgt := 23) dX5_undo_63 (by decide) ?_
    refine fw_ls [1, 0] rfl ?_
    exact hk23 hx h
theorem w_X5_undo_L23 {g : fw_G} {f bc bs : Nat} {r0 : Nat} {i1 : Int32} {μ : fw_M} {Q : Int32 → fw_M → Prop} (hf : 1 ≤ f) (hx : m_K μ r0 = 6) (h : p_X5_undo_L23 r0 i1 μ Q) : fw_V g K_X5_undo f bc bs 23 [(0, fw_rv g r0), (1, Value.int i1)] [] μ (fw_Qi Q) fw_nX := by
  have key := fw_lp_out (R := fun (a : Int32 × fw_M) => m_K a.2 r0 = 6 → fw_V g K_X5_undo f bc bs 23 [(0, fw_rv g r0), (1, Value.int a.1)] [] a.2 (fw_Qi Q) fw_nX) (fun k hk9 a ha hx2 => w_X5_undo_L23b hf (fun {i1} {μ} hx3 h3 => hk9 (i1, μ) h3 hx3) hx2 ha) h
  exact key hx
def p_X5_undo (r0 : Nat) (μ : fw_M) (Q : Int32 → fw_M → Prop) : Prop :=
  (m_K μ (m_P μ r0 0) = 100 ∧ (vp_in (3 : Int32) (m_N μ (m_P μ r0 0)) ∧ (if (m_I μ (m_P μ r0 0) (3 : Int32).toNatClampNeg) = 0 then
  (Q (-1 : Int32) μ)
  else
  ((vp_in (3 : Int32) (m_N μ (m_P μ r0 0)) ∧ (vp_in (3 : Int32) (m_N μ (m_P μ r0 0)) ∧ (∀ μ6, μ6 = m_uI μ (m_P μ r0 0) (3 : Int32).toNatClampNeg ((m_I μ (m_P μ r0 0) (3 : Int32).toNatClampNeg) - (1 : Int32)) →
   p_X5_undo_L23 r0 (0 : Int32) μ6 Q)))))))
set_option maxHeartbeats 4000000 in
theorem w_X5_undo {g : fw_G} {f bc bs : Nat} {r0 : Nat} {μ : fw_M} {Q : Int32 → fw_M → Prop} (hf : 1 ≤ f) (hx : m_K μ r0 = 6) (h : p_X5_undo r0 μ Q) : fw_C g f bc bs yX5_undo (ws_ yX5_undo cX5_undo 2 (some .int)) [fw_rv g r0] μ (fw_Qi Q) fw_nX := by
  unfold p_X5_undo at h
  refine fw_intro' (Ls := [(0, fw_rv g r0)]) (by decide +kernel) (by simp [lg_sl, fw_cat, fw_ci, fw_clo]) (by simp [lv_args, fw_cat, fw_ci, fw_clo]) ?_
  show fw_V g K_X5_undo f bc bs 0 [(0, fw_rv g r0)] [] μ (fw_Qi Q) fw_nX
  refine fw_aload_n dX5_undo_0 rfl rfl ?_
  refine fw_getfP fl_X5_7 rfl hx dX5_undo_1 ?_
  refine fw_iconst (v := 3) dX5_undo_4 (by decide) ?_
  obtain ⟨hg1, h⟩ := h
  obtain ⟨hc2, h⟩ := h
  refine fw_iald hg1 hc2 dX5_undo_5 ?_
  refine fw_if_ne (tgt := 11) dX5_undo_6 (by decide) (fun c3 => ?_) (fun c3 => ?_)
  · have h := fw_if h c3
    refine fw_aload_n dX5_undo_11 rfl rfl ?_
    refine fw_getfP fl_X5_7 rfl hx dX5_undo_12 ?_
    refine fw_iconst (v := 3) dX5_undo_15 (by decide) ?_
    refine fw_dup2 dX5_undo_16 rfl (fw_cat _) ?_
    obtain ⟨hc4, h⟩ := h
    refine fw_iald hg1 hc4 dX5_undo_17 ?_
    refine fw_iconst (v := 1) dX5_undo_18 (by decide) ?_
    refine fw_isub dX5_undo_19 ?_
    obtain ⟨hc5, h⟩ := h
    refine fw_iast hg1 hc5 dX5_undo_20 ?_
    have h := h _ rfl
    refine fw_iconst (v := 0) dX5_undo_21 (by decide) ?_
    refine fw_istore_nN (Ls' := [(1, Value.int (0 : Int32)), (0, fw_rv g r0)]) [] dX5_undo_22 rfl (by decide) rfl rfl rfl (fw_cat _) rfl ?_
    refine fw_ls [1, 0] rfl ?_
    exact w_X5_undo_L23 hf hx h
  · have h := fw_it h c3
    refine fw_iconst (v := -1) dX5_undo_9 (by decide) ?_
    exact fw_ireturn dX5_undo_10 rfl rfl ⟨_, rfl, h⟩
abbrev K_X5_put : fw_Kt := (RX5, "put", cX5_put, 3, none, [])
def p_X5_put_L3b (r0 : Nat) (i1 : Int32) (k3 : Int32 → fw_M → Prop) (i2 : Int32) (μ : fw_M) (Q : fw_M → Prop) : Prop :=
  (if i2 < 0 then
  (Q μ)
  else
  ((m_K μ (m_P μ r0 2) = 101 ∧ (vp_in (m_I μ r0 3) (m_N μ (m_P μ r0 2)) ∧ (∀ μ4, μ4 = m_uI μ (m_P μ r0 2) (m_I μ r0 3).toNatClampNeg (((i1 >>> (i2 &&& 31)).toInt8.toInt32).toInt8.toInt32) →
   (∀ μ5, μ5 = m_uI μ4 r0 3 ((m_I μ4 r0 3) + (1 : Int32)) →
   (∀ i2_6 : Int32, i2_6 = (i2 - (8 : Int32)) →
   k3 i2_6 μ5)))))))
def p_X5_put_L3 (r0 : Nat) (i1 : Int32) (i2 : Int32) (μ : fw_M) (Q : fw_M → Prop) : Prop := fw_lp (fun (k : Int32 × fw_M → Prop) (a : Int32 × fw_M) => p_X5_put_L3b r0 i1 (fun i2 μ => k (i2, μ)) a.1 a.2 Q) (i2, μ)
theorem r_X5_put_L3 {r0 : Nat} {i1 : Int32} {Q : fw_M → Prop} (I : Int32 → fw_M → Prop) (v : Int32 → fw_M → Nat) (hs : ∀ (k : Int32 → fw_M → Prop) (i2 : Int32) (μ : fw_M), I i2 μ → (∀ (i2' : Int32) (ν : fw_M), I i2' ν → v i2' ν < v i2 μ → k i2' ν) → p_X5_put_L3b r0 i1 k i2 μ Q) (i2 : Int32) (μ : fw_M) (h : I i2 μ) : p_X5_put_L3 r0 i1 i2 μ Q :=
  fw_lp_in (A := Int32 × fw_M) (fun a => I a.1 a.2) (fun a => v a.1 a.2) (fun k a ha hk => hs (fun i2 μ => k (i2, μ)) a.1 a.2 ha (fun i2' ν hb hlt => hk (i2', ν) hb hlt)) (i2, μ) h
set_option maxHeartbeats 4000000 in
theorem w_X5_put_L3b {g : fw_G} {f bc bs : Nat} {r0 : Nat} {i1 : Int32} {k3 : Int32 → fw_M → Prop} {i2 : Int32} {μ : fw_M} {Q : fw_M → Prop} (hf : 1 ≤ f) (hk3 : ∀ {i2 : Int32} {μ : fw_M}, m_K μ r0 = 6 → k3 i2 μ → fw_V g K_X5_put f bc bs 3 [(0, fw_rv g r0), (1, Value.int i1), (2, Value.int i2)] [] μ (fw_Qv Q) fw_nX) (hx : m_K μ r0 = 6) (h : p_X5_put_L3b r0 i1 k3 i2 μ Q) : fw_V g K_X5_put f bc bs 3 [(0, fw_rv g r0), (1, Value.int i1), (2, Value.int i2)] [] μ (fw_Qv Q) fw_nX := by
  unfold p_X5_put_L3b at h
  refine fw_iload_n dX5_put_3 rfl rfl ?_
  refine fw_if_lt (tgt := 38) dX5_put_4 (by decide) (fun c1 => ?_) (fun c1 => ?_)
  · have h := fw_it h c1
    exact fw_return dX5_put_38 rfl ⟨rfl, h⟩
  · have h := fw_if h c1
    refine fw_aload_n dX5_put_7 rfl rfl ?_
    refine fw_getfP fl_X5_16 rfl hx dX5_put_8 ?_
    refine fw_aload_n dX5_put_11 rfl rfl ?_
    refine fw_getfI fl_X5_118 rfl hx dX5_put_12 ?_
    refine fw_iload_n dX5_put_15 rfl rfl ?_
    refine fw_iload_n dX5_put_16 rfl rfl ?_
    refine fw_ishr dX5_put_17 ?_
    refine fw_i2b dX5_put_18 ?_
    obtain ⟨hg2, h⟩ := h
    obtain ⟨hc3, h⟩ := h
    refine fw_bast hg2 hc3 dX5_put_19 ?_
    have h := h _ rfl
    refine fw_aload_n dX5_put_20 rfl rfl ?_
    refine fw_dup dX5_put_21 (fw_cat _) ?_
    refine fw_getfI fl_X5_118 rfl hx dX5_put_22 ?_
    refine fw_iconst (v := 1) dX5_put_25 (by decide) ?_
    refine fw_iadd dX5_put_26 ?_
    refine fw_putfI fl_X5_118 (fun q hq => Or.inl (by cases hq; rfl)) rfl hx dX5_put_27 ?_
    have h := h _ rfl
    refine fw_iload_n dX5_put_30 rfl rfl ?_
    refine fw_bipush (v := 8) dX5_put_31 (by decide) ?_
    refine fw_isub dX5_put_33 ?_
    refine fw_topi (fun i2_6 e7 => ?_)
    have h := h i2_6 e7
    refine fw_istore_nN (Ls' := [(2, Value.int i2_6), (1, Value.int i1), (0, fw_rv g r0)]) [0] dX5_put_34 rfl (by decide) rfl rfl rfl rfl rfl ?_
    refine fw_goto (tgt := 3) dX5_put_35 (by decide) ?_
    refine fw_ls [2, 1, 0] rfl ?_
    exact hk3 hx h
theorem w_X5_put_L3 {g : fw_G} {f bc bs : Nat} {r0 : Nat} {i1 : Int32} {i2 : Int32} {μ : fw_M} {Q : fw_M → Prop} (hf : 1 ≤ f) (hx : m_K μ r0 = 6) (h : p_X5_put_L3 r0 i1 i2 μ Q) : fw_V g K_X5_put f bc bs 3 [(0, fw_rv g r0), (1, Value.int i1), (2, Value.int i2)] [] μ (fw_Qv Q) fw_nX := by
  have key := fw_lp_out (R := fun (a : Int32 × fw_M) => m_K a.2 r0 = 6 → fw_V g K_X5_put f bc bs 3 [(0, fw_rv g r0), (1, Value.int i1), (2, Value.int a.1)] [] a.2 (fw_Qv Q) fw_nX) (fun k hk9 a ha hx2 => w_X5_put_L3b hf (fun {i2} {μ} hx3 h3 => hk9 (i2, μ) h3 hx3) hx2 ha) h
  exact key hx
def p_X5_put (r0 : Nat) (i1 : Int32) (μ : fw_M) (Q : fw_M → Prop) : Prop :=
  p_X5_put_L3 r0 i1 (24 : Int32) μ Q
set_option maxHeartbeats 4000000 in
theorem w_X5_put {g : fw_G} {f bc bs : Nat} {r0 : Nat} {i1 : Int32} {μ : fw_M} {Q : fw_M → Prop} (hf : 1 ≤ f) (hx : m_K μ r0 = 6) (h : p_X5_put r0 i1 μ Q) : fw_C g f bc bs yX5_put (ws_ yX5_put cX5_put 3 (none)) [fw_rv g r0, Value.int i1] μ (fw_Qv Q) fw_nX := by
  unfold p_X5_put at h
  refine fw_intro' (Ls := [(0, fw_rv g r0), (1, Value.int i1)]) (by decide +kernel) (by simp [lg_sl, fw_cat, fw_ci, fw_clo]) (by simp [lv_args, fw_cat, fw_ci, fw_clo]) ?_
  show fw_V g K_X5_put f bc bs 0 [(0, fw_rv g r0), (1, Value.int i1)] [] μ (fw_Qv Q) fw_nX
  refine fw_bipush (v := 24) dX5_put_0 (by decide) ?_
  refine fw_istore_nN (Ls' := [(2, Value.int (24 : Int32)), (1, Value.int i1), (0, fw_rv g r0)]) [0] dX5_put_2 rfl (by decide) rfl rfl rfl rfl rfl ?_
  refine fw_ls [2, 1, 0] rfl ?_
  exact w_X5_put_L3 hf hx h
abbrev K_X5_feed : fw_Kt := (RX5, "feed", cX5_feed, 6, some .int, [])
def p_X5_feed (r0 : Nat) (i1 : Int32) (i2 : Int32) (i3 : Int32) (i4 : Int32) (i5 : Int32) (μ : fw_M) (Q : Int32 → fw_M → Prop) : Prop :=
  (if ((m_I μ r0 3) + (20 : Int32)) ≤ (300 : Int32) then
  ((p_X5_put r0 i1 μ (fun μ3 =>
   (p_X5_put r0 i2 μ3 (fun μ7 =>
   (p_X5_put r0 i3 μ7 (fun μ11 =>
   (p_X5_put r0 i4 μ11 (fun μ15 =>
   (p_X5_put r0 i5 μ15 (fun μ19 =>
   Q (m_I μ19 r0 3) μ19)))))))))))
  else
  (Q (-1 : Int32) μ))
set_option maxHeartbeats 4000000 in
theorem w_X5_feed {g : fw_G} {f bc bs : Nat} {r0 : Nat} {i1 : Int32} {i2 : Int32} {i3 : Int32} {i4 : Int32} {i5 : Int32} {μ : fw_M} {Q : Int32 → fw_M → Prop} (hf : 2 ≤ f) (hx : m_K μ r0 = 6) (h : p_X5_feed r0 i1 i2 i3 i4 i5 μ Q) : fw_C g f bc bs yX5_feed (ws_ yX5_feed cX5_feed 6 (some .int)) [fw_rv g r0, Value.int i1, Value.int i2, Value.int i3, Value.int i4, Value.int i5] μ (fw_Qi Q) fw_nX := by
  unfold p_X5_feed at h
  refine fw_intro' (Ls := [(0, fw_rv g r0), (1, Value.int i1), (2, Value.int i2), (3, Value.int i3), (4, Value.int i4), (5, Value.int i5)]) (by decide +kernel) (by simp [lg_sl, fw_cat, fw_ci, fw_clo]) (by simp [lv_args, fw_cat, fw_ci, fw_clo]) ?_
  show fw_V g K_X5_feed f bc bs 0 [(0, fw_rv g r0), (1, Value.int i1), (2, Value.int i2), (3, Value.int i3), (4, Value.int i4), (5, Value.int i5)] [] μ (fw_Qi Q) fw_nX
  refine fw_aload_n dX5_feed_0 rfl rfl ?_
  refine fw_getfI fl_X5_118 rfl hx dX5_feed_1 ?_
  refine fw_bipush (v := 20) dX5_feed_4 (by decide) ?_
  refine fw_iadd dX5_feed_6 ?_
  refine fw_sipush (v := 300) dX5_feed_7 (by decide) ?_
  refine fw_icmp_le (tgt := 15) dX5_feed_10 (by decide) (fun c1 => ?_) (fun c1 => ?_)
  · have h := fw_it h c1
    refine fw_aload_n dX5_feed_15 rfl rfl ?_
    refine fw_iload_n dX5_feed_16 rfl rfl ?_
    refine fw_callV1z (f1 := f - 1) cl_X5_121 rfl hx (by decide) (by omega) (fw_s4 (Nat.le_of_ble_eq_true rfl)) dX5_feed_17 (w_X5_put (f := f - 1) (by omega) hx h) (fun _ _ h9 _ _ => h9.elim) (fun v9 μ3 q9 hs4 => ?_)
    obtain ⟨rfl, h⟩ := q9
    refine fw_tv ?_
    have hg5 := hs4.K hx (by decide)
    refine fw_aload_n dX5_feed_20 rfl rfl ?_
    refine fw_iload_n dX5_feed_21 rfl rfl ?_
    refine fw_callV1z (f1 := f - 1) cl_X5_121 rfl hg5 (by decide) (by omega) (fw_s4 (Nat.le_of_ble_eq_true rfl)) dX5_feed_22 (w_X5_put (f := f - 1) (by omega) hg5 h) (fun _ _ h9 _ _ => h9.elim) (fun v9 μ7 q9 hs8 => ?_)
    obtain ⟨rfl, h⟩ := q9
    refine fw_tv ?_
    have hg9 := hs8.K hg5 (by decide)
    refine fw_aload_n dX5_feed_25 rfl rfl ?_
    refine fw_iload_n dX5_feed_26 rfl rfl ?_
    refine fw_callV1z (f1 := f - 1) cl_X5_121 rfl hg9 (by decide) (by omega) (fw_s4 (Nat.le_of_ble_eq_true rfl)) dX5_feed_27 (w_X5_put (f := f - 1) (by omega) hg9 h) (fun _ _ h9 _ _ => h9.elim) (fun v9 μ11 q9 hs12 => ?_)
    obtain ⟨rfl, h⟩ := q9
    refine fw_tv ?_
    have hg13 := hs12.K hg9 (by decide)
    refine fw_aload_n dX5_feed_30 rfl rfl ?_
    refine fw_iload dX5_feed_31 rfl ?_
    refine fw_callV1z (f1 := f - 1) cl_X5_121 rfl hg13 (by decide) (by omega) (fw_s4 (Nat.le_of_ble_eq_true rfl)) dX5_feed_33 (w_X5_put (f := f - 1) (by omega) hg13 h) (fun _ _ h9 _ _ => h9.elim) (fun v9 μ15 q9 hs16 => ?_)
    obtain ⟨rfl, h⟩ := q9
    refine fw_tv ?_
    have hg17 := hs16.K hg13 (by decide)
    refine fw_aload_n dX5_feed_36 rfl rfl ?_
    refine fw_iload dX5_feed_37 rfl ?_
    refine fw_callV1z (f1 := f - 1) cl_X5_121 rfl hg17 (by decide) (by omega) (fw_s4 (Nat.le_of_ble_eq_true rfl)) dX5_feed_39 (w_X5_put (f := f - 1) (by omega) hg17 h) (fun _ _ h9 _ _ => h9.elim) (fun v9 μ19 q9 hs20 => ?_)
    obtain ⟨rfl, h⟩ := q9
    refine fw_tv ?_
    have hg21 := hs20.K hg17 (by decide)
    refine fw_aload_n dX5_feed_42 rfl rfl ?_
    refine fw_getfI fl_X5_118 rfl hg21 dX5_feed_43 ?_
    exact fw_ireturn dX5_feed_46 rfl rfl ⟨_, rfl, h⟩
  · have h := fw_if h c1
    refine fw_iconst (v := -1) dX5_feed_13 (by decide) ?_
    exact fw_ireturn dX5_feed_14 rfl rfl ⟨_, rfl, h⟩
abbrev K_X5_end : fw_Kt := (RX5, "end", cX5_end, 2, some .int, [])
def p_X5_end (r0 : Nat) (i1 : Int32) (μ : fw_M) (Q : Int32 → fw_M → Prop) : Prop :=
  (p_X5_in i1 (0 : Int32) (m_I μ r0 3) μ (fun v1 μ2 =>
  (if v1 = 0 then
  (Q (-1 : Int32) μ2)
  else
  ((∀ μ6, μ6 = m_uI μ2 r0 3 i1 →
   Q i1 μ6)))))
set_option maxHeartbeats 4000000 in
theorem w_X5_end {g : fw_G} {f bc bs : Nat} {r0 : Nat} {i1 : Int32} {μ : fw_M} {Q : Int32 → fw_M → Prop} (hf : 2 ≤ f) (hx : m_K μ r0 = 6) (h : p_X5_end r0 i1 μ Q) : fw_C g f bc bs yX5_end (ws_ yX5_end cX5_end 2 (some .int)) [fw_rv g r0, Value.int i1] μ (fw_Qi Q) fw_nX := by
  unfold p_X5_end at h
  refine fw_intro' (Ls := [(0, fw_rv g r0), (1, Value.int i1)]) (by decide +kernel) (by simp [lg_sl, fw_cat, fw_ci, fw_clo]) (by simp [lv_args, fw_cat, fw_ci, fw_clo]) ?_
  show fw_V g K_X5_end f bc bs 0 [(0, fw_rv g r0), (1, Value.int i1)] [] μ (fw_Qi Q) fw_nX
  refine fw_iload_n dX5_end_0 rfl rfl ?_
  refine fw_iconst (v := 0) dX5_end_1 (by decide) ?_
  refine fw_aload_n dX5_end_2 rfl rfl ?_
  refine fw_getfI fl_X5_118 rfl hx dX5_end_3 ?_
  refine fw_callS3z (f1 := f - 1) cl_X5_110 (by decide) (by omega) (fw_s4 (Nat.le_of_ble_eq_true rfl)) dX5_end_6 (w_X5_in (f := f - 1) (by omega) h) (fun _ _ h9 _ _ => h9.elim) (fun v9 μ2 q9 hs3 => ?_)
  obtain ⟨v1, rfl, h⟩ := q9
  refine fw_ti ?_
  have hg4 := hs3.K hx (by decide)
  refine fw_if_ne (tgt := 14) dX5_end_9 (by decide) (fun c5 => ?_) (fun c5 => ?_)
  · have h := fw_if h c5
    refine fw_aload_n dX5_end_14 rfl rfl ?_
    refine fw_iload_n dX5_end_15 rfl rfl ?_
    refine fw_putfI fl_X5_118 (fun q hq => Or.inl (by cases hq; rfl)) rfl hg4 dX5_end_16 ?_
    have h := h _ rfl
    refine fw_iload_n dX5_end_19 rfl rfl ?_
    exact fw_ireturn dX5_end_20 rfl rfl ⟨_, rfl, h⟩
  · have h := fw_it h c5
    refine fw_iconst (v := -1) dX5_end_12 (by decide) ?_
    exact fw_ireturn dX5_end_13 rfl rfl ⟨_, rfl, h⟩
abbrev K_X5_isWord : fw_Kt := (RX5, "isWord", cX5_isWord, 2, some .boolean, [])
def p_X5_isWord (r0 : Nat) (i1 : Int32) (μ : fw_M) (Q : Int32 → fw_M → Prop) : Prop :=
  (if (m_I μ r0 16) = (1 : Int32) then
  ((if (m_I μ r0 17) = i1 then
   (Q (1 : Int32) μ)
   else
   (Q (0 : Int32) μ)))
  else
  (Q (0 : Int32) μ))
set_option maxHeartbeats 4000000 in
theorem w_X5_isWord {g : fw_G} {f bc bs : Nat} {r0 : Nat} {i1 : Int32} {μ : fw_M} {Q : Int32 → fw_M → Prop} (hf : 1 ≤ f) (hx : m_K μ r0 = 6) (h : p_X5_isWord r0 i1 μ Q) : fw_C g f bc bs yX5_isWord (ws_ yX5_isWord cX5_isWord 2 (some .boolean)) [fw_rv g r0, Value.int i1] μ (fw_Qi Q) fw_nX := by
  unfold p_X5_isWord at h
  refine fw_intro' (Ls := [(0, fw_rv g r0), (1, Value.int i1)]) (by decide +kernel) (by simp [lg_sl, fw_cat, fw_ci, fw_clo]) (by simp [lv_args, fw_cat, fw_ci, fw_clo]) ?_
  show fw_V g K_X5_isWord f bc bs 0 [(0, fw_rv g r0), (1, Value.int i1)] [] μ (fw_Qi Q) fw_nX
  refine fw_aload_n dX5_isWord_0 rfl rfl ?_
  refine fw_getfI fl_X5_182 rfl hx dX5_isWord_1 ?_
  refine fw_iconst (v := 1) dX5_isWord_4 (by decide) ?_
  refine fw_icmp_ne (tgt := 20) dX5_isWord_5 (by decide) (fun c1 => ?_) (fun c1 => ?_)
  · have h := fw_if h c1
    refine fw_iconst (v := 0) dX5_isWord_20 (by decide) ?_
    exact fw_ireturn dX5_isWord_21 rfl (by decide +kernel) ⟨_, rfl, h⟩
  · have h := fw_it h c1
    refine fw_aload_n dX5_isWord_8 rfl rfl ?_
    refine fw_getfI fl_X5_194 rfl hx dX5_isWord_9 ?_
    refine fw_iload_n dX5_isWord_12 rfl rfl ?_
    refine fw_icmp_ne (tgt := 20) dX5_isWord_13 (by decide) (fun c2 => ?_) (fun c2 => ?_)
    · have h := fw_if h c2
      refine fw_iconst (v := 0) dX5_isWord_20 (by decide) ?_
      exact fw_ireturn dX5_isWord_21 rfl (by decide +kernel) ⟨_, rfl, h⟩
    · have h := fw_it h c2
      refine fw_iconst (v := 1) dX5_isWord_16 (by decide) ?_
      refine fw_goto (tgt := 21) dX5_isWord_17 (by decide) ?_
      exact fw_ireturn dX5_isWord_21 rfl (by decide +kernel) ⟨_, rfl, h⟩
abbrev K_X5_opensFrame : fw_Kt := (RX5, "opensFrame", cX5_opensFrame, 2, none, [])
def p_X5_opensFrame (r0 : Nat) (i1 : Int32) (μ : fw_M) (Q : fw_M → Prop) : Prop :=
  (m_K μ (m_P μ r0 22) = 100 ∧ (vp_in (m_I μ r0 21) (m_N μ (m_P μ r0 22)) ∧ (∀ μ3, μ3 = m_uI μ (m_P μ r0 22) (m_I μ r0 21).toNatClampNeg i1 →
  (∀ μ4, μ4 = m_uI μ3 r0 21 ((m_I μ3 r0 21) + (1 : Int32)) →
  Q μ4))))
set_option maxHeartbeats 4000000 in
theorem w_X5_opensFrame {g : fw_G} {f bc bs : Nat} {r0 : Nat} {i1 : Int32} {μ : fw_M} {Q : fw_M → Prop} (hf : 1 ≤ f) (hx : m_K μ r0 = 6) (h : p_X5_opensFrame r0 i1 μ Q) : fw_C g f bc bs yX5_opensFrame (ws_ yX5_opensFrame cX5_opensFrame 2 (none)) [fw_rv g r0, Value.int i1] μ (fw_Qv Q) fw_nX := by
  unfold p_X5_opensFrame at h
  refine fw_intro' (Ls := [(0, fw_rv g r0), (1, Value.int i1)]) (by decide +kernel) (by simp [lg_sl, fw_cat, fw_ci, fw_clo]) (by simp [lv_args, fw_cat, fw_ci, fw_clo]) ?_
  show fw_V g K_X5_opensFrame f bc bs 0 [(0, fw_rv g r0), (1, Value.int i1)] [] μ (fw_Qv Q) fw_nX
  refine fw_aload_n dX5_opensFrame_0 rfl rfl ?_
  refine fw_getfP fl_X5_48 rfl hx dX5_opensFrame_1 ?_
  refine fw_aload_n dX5_opensFrame_4 rfl rfl ?_
  refine fw_getfI fl_X5_207 rfl hx dX5_opensFrame_5 ?_
  refine fw_iload_n dX5_opensFrame_8 rfl rfl ?_
  obtain ⟨hg1, h⟩ := h
  obtain ⟨hc2, h⟩ := h
  refine fw_iast hg1 hc2 dX5_opensFrame_9 ?_
  have h := h _ rfl
  refine fw_aload_n dX5_opensFrame_10 rfl rfl ?_
  refine fw_dup dX5_opensFrame_11 (fw_cat _) ?_
  refine fw_getfI fl_X5_207 rfl hx dX5_opensFrame_12 ?_
  refine fw_iconst (v := 1) dX5_opensFrame_15 (by decide) ?_
  refine fw_iadd dX5_opensFrame_16 ?_
  refine fw_putfI fl_X5_207 (fun q hq => Or.inl (by cases hq; rfl)) rfl hx dX5_opensFrame_17 ?_
  have h := h _ rfl
  exact fw_return dX5_opensFrame_20 rfl ⟨rfl, h⟩
abbrev K_X5_errs : fw_Kt := (RX5, "errs", cX5_errs, 2, none, [])
def p_X5_errs (r0 : Nat) (i1 : Int32) (μ : fw_M) (Q : fw_M → Prop) : Prop :=
  (if (m_I μ r0 18) = 0 then
  ((∀ μ2, μ2 = m_uI μ r0 18 i1 →
   (∀ μ3, μ3 = m_uI μ2 r0 19 (m_I μ2 r0 15) →
   Q μ3)))
  else
  (Q μ))
set_option maxHeartbeats 4000000 in
theorem w_X5_errs {g : fw_G} {f bc bs : Nat} {r0 : Nat} {i1 : Int32} {μ : fw_M} {Q : fw_M → Prop} (hf : 1 ≤ f) (hx : m_K μ r0 = 6) (h : p_X5_errs r0 i1 μ Q) : fw_C g f bc bs yX5_errs (ws_ yX5_errs cX5_errs 2 (none)) [fw_rv g r0, Value.int i1] μ (fw_Qv Q) fw_nX := by
  unfold p_X5_errs at h
  refine fw_intro' (Ls := [(0, fw_rv g r0), (1, Value.int i1)]) (by decide +kernel) (by simp [lg_sl, fw_cat, fw_ci, fw_clo]) (by simp [lv_args, fw_cat, fw_ci, fw_clo]) ?_
  show fw_V g K_X5_errs f bc bs 0 [(0, fw_rv g r0), (1, Value.int i1)] [] μ (fw_Qv Q) fw_nX
  refine fw_aload_n dX5_errs_0 rfl rfl ?_
  refine fw_getfI fl_X5_198 rfl hx dX5_errs_1 ?_
  refine fw_if_ne (tgt := 20) dX5_errs_4 (by decide) (fun c1 => ?_) (fun c1 => ?_)
  · have h := fw_if h c1
    exact fw_return dX5_errs_20 rfl ⟨rfl, h⟩
  · have h := fw_it h c1
    refine fw_aload_n dX5_errs_7 rfl rfl ?_
    refine fw_iload_n dX5_errs_8 rfl rfl ?_
    refine fw_putfI fl_X5_198 (fun q hq => Or.inl (by cases hq; rfl)) rfl hx dX5_errs_9 ?_
    have h := h _ rfl
    refine fw_aload_n dX5_errs_12 rfl rfl ?_
    refine fw_aload_n dX5_errs_13 rfl rfl ?_
    refine fw_getfI fl_X5_179 rfl hx dX5_errs_14 ?_
    refine fw_putfI fl_X5_201 (fun q hq => Or.inl (by cases hq; rfl)) rfl hx dX5_errs_17 ?_
    have h := h _ rfl
    exact fw_return dX5_errs_20 rfl ⟨rfl, h⟩
abbrev K_X5_isLetter : fw_Kt := (RX5, "isLetter", cX5_isLetter, 1, some .boolean, [])
def p_X5_isLetter_L22 (μ : fw_M) (Q : Int32 → fw_M → Prop) : Prop :=
  Q (1 : Int32) μ
set_option maxHeartbeats 4000000 in
theorem w_X5_isLetter_L22 {g : fw_G} {f bc bs : Nat} {μ : fw_M} {Q : Int32 → fw_M → Prop} (hf : 2 ≤ f) (h : p_X5_isLetter_L22 μ Q) : fw_V g K_X5_isLetter f bc bs 22 [] [] μ (fw_Qi Q) fw_nX := by
  unfold p_X5_isLetter_L22 at h
  refine fw_iconst (v := 1) dX5_isLetter_22 (by decide) ?_
  refine fw_goto (tgt := 27) dX5_isLetter_23 (by decide) ?_
  exact fw_ireturn dX5_isLetter_27 rfl (by decide +kernel) ⟨_, rfl, h⟩
def p_X5_isLetter (i0 : Int32) (μ : fw_M) (Q : Int32 → fw_M → Prop) : Prop :=
  (p_X5_in i0 (97 : Int32) (122 : Int32) μ (fun v1 μ2 =>
  (if v1 = 0 then
  ((p_X5_in i0 (65 : Int32) (90 : Int32) μ2 (fun v5 μ6 =>
   (if v5 = 0 then
   (Q (0 : Int32) μ6)
   else
   (p_X5_isLetter_L22 μ6 Q)))))
  else
  (p_X5_isLetter_L22 μ2 Q))))
set_option maxHeartbeats 4000000 in
theorem w_X5_isLetter {g : fw_G} {f bc bs : Nat} {i0 : Int32} {μ : fw_M} {Q : Int32 → fw_M → Prop} (hf : 2 ≤ f) (h : p_X5_isLetter i0 μ Q) : fw_C g f bc bs yX5_isLetter (ws_ yX5_isLetter cX5_isLetter 1 (some .boolean)) [Value.int i0] μ (fw_Qi Q) fw_nX := by
  unfold p_X5_isLetter at h
  refine fw_intro' (Ls := [(0, Value.int i0)]) (by decide +kernel) (by simp [lg_sl, fw_cat, fw_ci, fw_clo]) (by simp [lv_args, fw_cat, fw_ci, fw_clo]) ?_
  show fw_V g K_X5_isLetter f bc bs 0 [(0, Value.int i0)] [] μ (fw_Qi Q) fw_nX
  refine fw_iload_n dX5_isLetter_0 rfl rfl ?_
  refine fw_bipush (v := 97) dX5_isLetter_1 (by decide) ?_
  refine fw_bipush (v := 122) dX5_isLetter_3 (by decide) ?_
  refine fw_callS3z (f1 := f - 1) cl_X5_110 (by decide) (by omega) (fw_s4 (Nat.le_of_ble_eq_true rfl)) dX5_isLetter_5 (w_X5_in (f := f - 1) (by omega) h) (fun _ _ h9 _ _ => h9.elim) (fun v9 μ2 q9 hs3 => ?_)
  obtain ⟨v1, rfl, h⟩ := q9
  refine fw_ti ?_
  refine fw_if_ne (tgt := 22) dX5_isLetter_8 (by decide) (fun c4 => ?_) (fun c4 => ?_)
  · have h := fw_if h c4
    refine fw_ls [] rfl ?_
    exact w_X5_isLetter_L22 hf h
  · have h := fw_it h c4
    refine fw_iload_n dX5_isLetter_11 rfl rfl ?_
    refine fw_bipush (v := 65) dX5_isLetter_12 (by decide) ?_
    refine fw_bipush (v := 90) dX5_isLetter_14 (by decide) ?_
    refine fw_callS3z (f1 := f - 1) cl_X5_110 (by decide) (by omega) (fw_s4 (Nat.le_of_ble_eq_true rfl)) dX5_isLetter_16 (w_X5_in (f := f - 1) (by omega) h) (fun _ _ h9 _ _ => h9.elim) (fun v9 μ6 q9 hs7 => ?_)
    obtain ⟨v5, rfl, h⟩ := q9
    refine fw_ti ?_
    refine fw_if_eq (tgt := 26) dX5_isLetter_19 (by decide) (fun c8 => ?_) (fun c8 => ?_)
    · have h := fw_it h c8
      refine fw_iconst (v := 0) dX5_isLetter_26 (by decide) ?_
      exact fw_ireturn dX5_isLetter_27 rfl (by decide +kernel) ⟨_, rfl, h⟩
    · have h := fw_if h c8
      refine fw_ls [] rfl ?_
      exact w_X5_isLetter_L22 hf h
abbrev K_X5_wordOf : fw_Kt := (RX5, "wordOf", cX5_wordOf, 2, some .int, [])
def p_X5_wordOf (l0 : Int64) (μ : fw_M) (Q : Int32 → fw_M → Prop) : Prop :=
  (if l0 = (9837875 : Int64) then
  (Q (0 : Int32) μ)
  else
  ((if l0 = (683591987 : Int64) then
   (Q (1 : Int32) μ)
   else
   ((if l0 = (42776055097 : Int64) then
    (Q (2 : Int32) μ)
    else
    ((if l0 = (211572 : Int64) then
     (Q (3 : Int32) μ)
     else
     ((if l0 = (868416494 : Int64) then
      (Q (4 : Int32) μ)
      else
      ((if l0 = (718686693 : Int64) then
       (Q (5 : Int32) μ)
       else
       ((if l0 = (649238899 : Int64) then
        (Q (6 : Int32) μ)
        else
        ((if l0 = (2164 : Int64) then
         (Q (7 : Int32) μ)
         else
         ((if l0 = (3046 : Int64) then
          (Q (8 : Int32) μ)
          else
          ((if l0 = (3058 : Int64) then
           (Q (9 : Int32) μ)
           else
           ((if l0 = (138148 : Int64) then
            (Q (10 : Int32) μ)
            else
            ((if l0 = (191476 : Int64) then
             (Q (11 : Int32) μ)
             else
             ((if l0 = (629623154 : Int64) then
              (Q (12 : Int32) μ)
              else
              ((if l0 = (43851086194 : Int64) then
               (Q (13 : Int32) μ)
               else
               ((if l0 = (227925014493747 : Int64) then
                (Q (14 : Int32) μ)
                else
                ((if l0 = (629623150 : Int64) then
                 (Q (15 : Int32) μ)
                 else
                 ((if l0 = (11443108 : Int64) then
                  (Q (16 : Int32) μ)
                  else
                  ((if l0 = (11688372 : Int64) then
                   (Q (17 : Int32) μ)
                   else
                   ((if l0 = (55578655667 : Int64) then
                    (Q (18 : Int32) μ)
                    else
                    ((if l0 = (13539621 : Int64) then
                     (Q (19 : Int32) μ)
                     else
                     ((if l0 = (13802292 : Int64) then
                      (Q (20 : Int32) μ)
                      else
                      ((if l0 = (683600249 : Int64) then
                       (Q (21 : Int32) μ)
                       else
                       ((if l0 = (13507380 : Int64) then
                        (Q (22 : Int32) μ)
                        else
                        ((if l0 = (613870899 : Int64) then
                         (Q (23 : Int32) μ)
                         else
                         (Q (-1 : Int32) μ))))))))))))))))))))))))))))))))))))))))))))))))
set_option maxHeartbeats 4000000 in
theorem w_X5_wordOf {g : fw_G} {f bc bs : Nat} {l0 : Int64} {μ : fw_M} {Q : Int32 → fw_M → Prop} (hf : 1 ≤ f) (h : p_X5_wordOf l0 μ Q) : fw_C g f bc bs yX5_wordOf (ws_ yX5_wordOf cX5_wordOf 2 (some .int)) [Value.long l0] μ (fw_Qi Q) fw_nX := by
  unfold p_X5_wordOf at h
  refine fw_intro' (Ls := [(0, Value.long l0)]) (by decide +kernel) (by simp [lg_sl, fw_cat, fw_ci, fw_clo]) (by simp [lv_args, fw_cat, fw_ci, fw_clo]) ?_
  show fw_V g K_X5_wordOf f bc bs 0 [(0, Value.long l0)] [] μ (fw_Qi Q) fw_nX
  refine fw_lload_n dX5_wordOf_0 rfl rfl ?_
  refine fw_ldc2 q1244 dX5_wordOf_1 ?_
  refine fw_lne (tgt := 10) dX5_wordOf_4 dX5_wordOf_5 (by decide) (fun c1 => ?_) (fun c1 => ?_)
  · have h := fw_if h c1
    refine fw_lload_n dX5_wordOf_10 rfl rfl ?_
    refine fw_ldc2 q1245 dX5_wordOf_11 ?_
    refine fw_lne (tgt := 20) dX5_wordOf_14 dX5_wordOf_15 (by decide) (fun c2 => ?_) (fun c2 => ?_)
    · have h := fw_if h c2
      refine fw_lload_n dX5_wordOf_20 rfl rfl ?_
      refine fw_ldc2 q1246 dX5_wordOf_21 ?_
      refine fw_lne (tgt := 30) dX5_wordOf_24 dX5_wordOf_25 (by decide) (fun c3 => ?_) (fun c3 => ?_)
      · have h := fw_if h c3
        refine fw_lload_n dX5_wordOf_30 rfl rfl ?_
        refine fw_ldc2 q1247 dX5_wordOf_31 ?_
        refine fw_lne (tgt := 40) dX5_wordOf_34 dX5_wordOf_35 (by decide) (fun c4 => ?_) (fun c4 => ?_)
        · have h := fw_if h c4
          refine fw_lload_n dX5_wordOf_40 rfl rfl ?_
          refine fw_ldc2 q1248 dX5_wordOf_41 ?_
          refine fw_lne (tgt := 50) dX5_wordOf_44 dX5_wordOf_45 (by decide) (fun c5 => ?_) (fun c5 => ?_)
          · have h := fw_if h c5
            refine fw_lload_n dX5_wordOf_50 rfl rfl ?_
            refine fw_ldc2 q1249 dX5_wordOf_51 ?_
            refine fw_lne (tgt := 60) dX5_wordOf_54 dX5_wordOf_55 (by decide) (fun c6 => ?_) (fun c6 => ?_)
            · have h := fw_if h c6
              refine fw_lload_n dX5_wordOf_60 rfl rfl ?_
              refine fw_ldc2 q1250 dX5_wordOf_61 ?_
              refine fw_lne (tgt := 71) dX5_wordOf_64 dX5_wordOf_65 (by decide) (fun c7 => ?_) (fun c7 => ?_)
              · have h := fw_if h c7
                refine fw_lload_n dX5_wordOf_71 rfl rfl ?_
                refine fw_ldc2 q1251 dX5_wordOf_72 ?_
                refine fw_lne (tgt := 82) dX5_wordOf_75 dX5_wordOf_76 (by decide) (fun c8 => ?_) (fun c8 => ?_)
                · have h := fw_if h c8
                  refine fw_lload_n dX5_wordOf_82 rfl rfl ?_
                  refine fw_ldc2 q1252 dX5_wordOf_83 ?_
                  refine fw_lne (tgt := 93) dX5_wordOf_86 dX5_wordOf_87 (by decide) (fun c9 => ?_) (fun c9 => ?_)
                  · have h := fw_if h c9
                    refine fw_lload_n dX5_wordOf_93 rfl rfl ?_
                    refine fw_ldc2 q1253 dX5_wordOf_94 ?_
                    refine fw_lne (tgt := 104) dX5_wordOf_97 dX5_wordOf_98 (by decide) (fun c10 => ?_) (fun c10 => ?_)
                    · have h := fw_if h c10
                      refine fw_lload_n dX5_wordOf_104 rfl rfl ?_
                      refine fw_ldc2 q1254 dX5_wordOf_105 ?_
                      refine fw_lne (tgt := 115) dX5_wordOf_108 dX5_wordOf_109 (by decide) (fun c11 => ?_) (fun c11 => ?_)
                      · have h := fw_if h c11
                        refine fw_lload_n dX5_wordOf_115 rfl rfl ?_
                        refine fw_ldc2 q1255 dX5_wordOf_116 ?_
                        refine fw_lne (tgt := 126) dX5_wordOf_119 dX5_wordOf_120 (by decide) (fun c12 => ?_) (fun c12 => ?_)
                        · have h := fw_if h c12
                          refine fw_lload_n dX5_wordOf_126 rfl rfl ?_
                          refine fw_ldc2 q1256 dX5_wordOf_127 ?_
                          refine fw_lne (tgt := 137) dX5_wordOf_130 dX5_wordOf_131 (by decide) (fun c13 => ?_) (fun c13 => ?_)
                          · have h := fw_if h c13
                            refine fw_lload_n dX5_wordOf_137 rfl rfl ?_
                            refine fw_ldc2 q1257 dX5_wordOf_138 ?_
                            refine fw_lne (tgt := 148) dX5_wordOf_141 dX5_wordOf_142 (by decide) (fun c14 => ?_) (fun c14 => ?_)
                            · have h := fw_if h c14
                              refine fw_lload_n dX5_wordOf_148 rfl rfl ?_
                              refine fw_ldc2 q1258 dX5_wordOf_149 ?_
                              refine fw_lne (tgt := 159) dX5_wordOf_152 dX5_wordOf_153 (by decide) (fun c15 => ?_) (fun c15 => ?_)
                              · have h := fw_if h c15
                                refine fw_lload_n dX5_wordOf_159 rfl rfl ?_
                                refine fw_ldc2 q1259 dX5_wordOf_160 ?_
                                refine fw_lne (tgt := 170) dX5_wordOf_163 dX5_wordOf_164 (by decide) (fun c16 => ?_) (fun c16 => ?_)
                                · have h := fw_if h c16
                                  refine fw_lload_n dX5_wordOf_170 rfl rfl ?_
                                  refine fw_ldc2 q1260 dX5_wordOf_171 ?_
                                  refine fw_lne (tgt := 181) dX5_wordOf_174 dX5_wordOf_175 (by decide) (fun c17 => ?_) (fun c17 => ?_)
                                  · have h := fw_if h c17
                                    refine fw_lload_n dX5_wordOf_181 rfl rfl ?_
                                    refine fw_ldc2 q1261 dX5_wordOf_182 ?_
                                    refine fw_lne (tgt := 192) dX5_wordOf_185 dX5_wordOf_186 (by decide) (fun c18 => ?_) (fun c18 => ?_)
                                    · have h := fw_if h c18
                                      refine fw_lload_n dX5_wordOf_192 rfl rfl ?_
                                      refine fw_ldc2 q1262 dX5_wordOf_193 ?_
                                      refine fw_lne (tgt := 203) dX5_wordOf_196 dX5_wordOf_197 (by decide) (fun c19 => ?_) (fun c19 => ?_)
                                      · have h := fw_if h c19
                                        refine fw_lload_n dX5_wordOf_203 rfl rfl ?_
                                        refine fw_ldc2 q1263 dX5_wordOf_204 ?_
                                        refine fw_lne (tgt := 214) dX5_wordOf_207 dX5_wordOf_208 (by decide) (fun c20 => ?_) (fun c20 => ?_)
                                        · have h := fw_if h c20
                                          refine fw_lload_n dX5_wordOf_214 rfl rfl ?_
                                          refine fw_ldc2 q1264 dX5_wordOf_215 ?_
                                          refine fw_lne (tgt := 225) dX5_wordOf_218 dX5_wordOf_219 (by decide) (fun c21 => ?_) (fun c21 => ?_)
                                          · have h := fw_if h c21
                                            refine fw_lload_n dX5_wordOf_225 rfl rfl ?_
                                            refine fw_ldc2 q1265 dX5_wordOf_226 ?_
                                            refine fw_lne (tgt := 236) dX5_wordOf_229 dX5_wordOf_230 (by decide) (fun c22 => ?_) (fun c22 => ?_)
                                            · have h := fw_if h c22
                                              refine fw_lload_n dX5_wordOf_236 rfl rfl ?_
                                              refine fw_ldc2 q1266 dX5_wordOf_237 ?_
                                              refine fw_lne (tgt := 247) dX5_wordOf_240 dX5_wordOf_241 (by decide) (fun c23 => ?_) (fun c23 => ?_)
                                              · have h := fw_if h c23
                                                refine fw_lload_n dX5_wordOf_247 rfl rfl ?_
                                                refine fw_ldc2 q1267 dX5_wordOf_248 ?_
                                                refine fw_lne (tgt := 258) dX5_wordOf_251 dX5_wordOf_252 (by decide) (fun c24 => ?_) (fun c24 => ?_)
                                                · have h := fw_if h c24
                                                  refine fw_iconst (v := -1) dX5_wordOf_258 (by decide) ?_
                                                  exact fw_ireturn dX5_wordOf_259 rfl rfl ⟨_, rfl, h⟩
                                                · have h := fw_it h c24
                                                  refine fw_bipush (v := 23) dX5_wordOf_255 (by decide) ?_
                                                  exact fw_ireturn dX5_wordOf_257 rfl rfl ⟨_, rfl, h⟩
                                              · have h := fw_it h c23
                                                refine fw_bipush (v := 22) dX5_wordOf_244 (by decide) ?_
                                                exact fw_ireturn dX5_wordOf_246 rfl rfl ⟨_, rfl, h⟩
                                            · have h := fw_it h c22
                                              refine fw_bipush (v := 21) dX5_wordOf_233 (by decide) ?_
                                              exact fw_ireturn dX5_wordOf_235 rfl rfl ⟨_, rfl, h⟩
                                          · have h := fw_it h c21
                                            refine fw_bipush (v := 20) dX5_wordOf_222 (by decide) ?_
                                            exact fw_ireturn dX5_wordOf_224 rfl rfl ⟨_, rfl, h⟩
                                        · have h := fw_it h c20
                                          refine fw_bipush (v := 19) dX5_wordOf_211 (by decide) ?_
                                          exact fw_ireturn dX5_wordOf_213 rfl rfl ⟨_, rfl, h⟩
                                      · have h := fw_it h c19
                                        refine fw_bipush (v := 18) dX5_wordOf_200 (by decide) ?_
                                        exact fw_ireturn dX5_wordOf_202 rfl rfl ⟨_, rfl, h⟩
                                    · have h := fw_it h c18
                                      refine fw_bipush (v := 17) dX5_wordOf_189 (by decide) ?_
                                      exact fw_ireturn dX5_wordOf_191 rfl rfl ⟨_, rfl, h⟩
                                  · have h := fw_it h c17
                                    refine fw_bipush (v := 16) dX5_wordOf_178 (by decide) ?_
                                    exact fw_ireturn dX5_wordOf_180 rfl rfl ⟨_, rfl, h⟩
                                · have h := fw_it h c16
                                  refine fw_bipush (v := 15) dX5_wordOf_167 (by decide) ?_
                                  exact fw_ireturn dX5_wordOf_169 rfl rfl ⟨_, rfl, h⟩
                              · have h := fw_it h c15
                                refine fw_bipush (v := 14) dX5_wordOf_156 (by decide) ?_
                                exact fw_ireturn dX5_wordOf_158 rfl rfl ⟨_, rfl, h⟩
                            · have h := fw_it h c14
                              refine fw_bipush (v := 13) dX5_wordOf_145 (by decide) ?_
                              exact fw_ireturn dX5_wordOf_147 rfl rfl ⟨_, rfl, h⟩
                          · have h := fw_it h c13
                            refine fw_bipush (v := 12) dX5_wordOf_134 (by decide) ?_
                            exact fw_ireturn dX5_wordOf_136 rfl rfl ⟨_, rfl, h⟩
                        · have h := fw_it h c12
                          refine fw_bipush (v := 11) dX5_wordOf_123 (by decide) ?_
                          exact fw_ireturn dX5_wordOf_125 rfl rfl ⟨_, rfl, h⟩
                      · have h := fw_it h c11
                        refine fw_bipush (v := 10) dX5_wordOf_112 (by decide) ?_
                        exact fw_ireturn dX5_wordOf_114 rfl rfl ⟨_, rfl, h⟩
                    · have h := fw_it h c10
                      refine fw_bipush (v := 9) dX5_wordOf_101 (by decide) ?_
                      exact fw_ireturn dX5_wordOf_103 rfl rfl ⟨_, rfl, h⟩
                  · have h := fw_it h c9
                    refine fw_bipush (v := 8) dX5_wordOf_90 (by decide) ?_
                    exact fw_ireturn dX5_wordOf_92 rfl rfl ⟨_, rfl, h⟩
                · have h := fw_it h c8
                  refine fw_bipush (v := 7) dX5_wordOf_79 (by decide) ?_
                  exact fw_ireturn dX5_wordOf_81 rfl rfl ⟨_, rfl, h⟩
              · have h := fw_it h c7
                refine fw_bipush (v := 6) dX5_wordOf_68 (by decide) ?_
                exact fw_ireturn dX5_wordOf_70 rfl rfl ⟨_, rfl, h⟩
            · have h := fw_it h c6
              refine fw_iconst (v := 5) dX5_wordOf_58 (by decide) ?_
              exact fw_ireturn dX5_wordOf_59 rfl rfl ⟨_, rfl, h⟩
          · have h := fw_it h c5
            refine fw_iconst (v := 4) dX5_wordOf_48 (by decide) ?_
            exact fw_ireturn dX5_wordOf_49 rfl rfl ⟨_, rfl, h⟩
        · have h := fw_it h c4
          refine fw_iconst (v := 3) dX5_wordOf_38 (by decide) ?_
          exact fw_ireturn dX5_wordOf_39 rfl rfl ⟨_, rfl, h⟩
      · have h := fw_it h c3
        refine fw_iconst (v := 2) dX5_wordOf_28 (by decide) ?_
        exact fw_ireturn dX5_wordOf_29 rfl rfl ⟨_, rfl, h⟩
    · have h := fw_it h c2
      refine fw_iconst (v := 1) dX5_wordOf_18 (by decide) ?_
      exact fw_ireturn dX5_wordOf_19 rfl rfl ⟨_, rfl, h⟩
  · have h := fw_it h c1
    refine fw_iconst (v := 0) dX5_wordOf_8 (by decide) ?_
    exact fw_ireturn dX5_wordOf_9 rfl rfl ⟨_, rfl, h⟩
